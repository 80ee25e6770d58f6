/-! WALKS, printed by gen/walk.py -/
set_option maxRecDepth 100000
section WALK
variable {p : Program} {l : Launch} {e : Env} {s : State} {m : MethodId} {args : Array Value} {below : List Frame} {meth : Method} {c : Code} {D : xh_D} {g : Nat → Nat} {R : Room}
/-- SungSlidesModel.lit(II)I -/
theorem w_X2_lit (C : xh_C cX2_lit 4 "SungSlidesModel" D g p s m args meth c) (hr : meth.sig.returnType = (Option.some Jvm.ClassFile.FieldType.int)) (hR : 2 ≤ R.frames ∧ 43 ≤ R.locals) {rv : Int32} {hF : xh_H} (N : Nat) (a0 : Option Nat) (a1 : Int32) (a2 : Int32)  (h : xh_H) (H : Heap) (locs : List Loc) (cells slots kc ks : Nat) (ls : Array Slot) (hf : f_X2_lit N a0 a1 a2 h = some (rv, hF, kc, ks)) (hS : xh_T D g s R h H locs cells slots kc ks) (hl : xh_L ls 4 [(0, va_rf a0), (1, .int a1), (2, .int a2)]) : W p l e R s m args below meth c H locs cells slots (MQ below (xh_Q D g (some (.int rv)) hF) args s R.cells R.slots (xh_A g)) (F0 m 0 ls []) := by
  have hx := C.1
  have hb := C.2.1
  unfold f_X2_lit at hf
  refine xr_aload_n C dX2_lit_0 rfl (hl.at 0 rfl) ?_
  refine lv_iload_n hx hb dX2_lit_1 rfl (hl.at 1 rfl) ?_
  refine xr_V (V := fun v => some (.int v)) (n := 1) (fr := 1) (lo := 22) (As := [.int a1]) C hS xf_X2 (lw_V q984 q986 qs39 q60 q987) hdv_X2_isSyllable ⟨Nat.le_trans (Nat.le_of_ble_eq_true rfl) hR.1, Nat.le_trans (Nat.le_of_ble_eq_true rfl) hR.2⟩ rfl hl.1.1 rfl xm_r0 hf (fun v h1 k1 n1 e1 => ct_X2_isSyllable l D N e1) dX2_lit_2 (fun x2 h H locs cells slots kc ks hS hf => ?_)
  refine W.eq (g2 := F0 m 5 ls [.int x2]) rfl ?_
  refine lv_if_ne (tgt := 10) hx hb dX2_lit_5 (by decide) (fun c5 => ?_) (fun c5 => ?_)
  · replace hf := xb_neg c5 hf
    refine lv_iload_n hx hb dX2_lit_10 rfl (hl.at 2 rfl) ?_
    refine xr_S (V := fun v => some (.int v)) (n := 1) (fr := 1) (lo := 22) (As := [.int a2]) C hS (lw_S q922 q923 q60 q924) hd_X2_isTick ⟨Nat.le_trans (Nat.le_of_ble_eq_true rfl) hR.1, Nat.le_trans (Nat.le_of_ble_eq_true rfl) hR.2⟩ rfl hl.1.1 rfl xm_r0 hf (fun v h1 k1 n1 e1 => ct_X2_isTick l D N e1) dX2_lit_11 (fun x11 h H locs cells slots kc ks hS hf => ?_)
    refine W.eq (g2 := F0 m 14 ls [.int x11]) rfl ?_
    refine lv_if_ne (tgt := 20) hx hb dX2_lit_14 (by decide) (fun c14 => ?_) (fun c14 => ?_)
    · replace hf := xb_neg c14 hf
      refine lv_iload_n hx hb dX2_lit_20 rfl (hl.at 2 rfl) ?_
      refine xr_aload_n C dX2_lit_21 rfl (hl.at 0 rfl) ?_
      refine lv_iload_n hx hb dX2_lit_22 rfl (hl.at 1 rfl) ?_
      refine lv_iconst (v := 0) hx hb dX2_lit_23 xi_c0 ?_
      refine xr_V (V := fun v => some (.int v)) (n := 2) (fr := 0) (lo := 0) (As := [.int a1, .int (0 : Int32)]) C hS xf_X2 (lw_V q888 q890 qs23 q60 q891) hdv_X2_of ⟨Nat.le_trans (Nat.le_of_ble_eq_true rfl) hR.1, Nat.le_trans (Nat.le_of_ble_eq_true rfl) hR.2⟩ rfl hl.1.1 rfl (xm_rc rfl xm_r0) hf (fun v h1 k1 n1 e1 => ct_X2_of l D N e1) dX2_lit_24 (fun x24 h H locs cells slots kc ks hS hf => ?_)
      refine W.eq (g2 := F0 m 27 ls [.int x24, .int a2]) rfl ?_
      refine lv_isub hx hb dX2_lit_27 ?_
      refine lv_iconst (v := 1) hx hb dX2_lit_28 xi_c1 ?_
      refine lv_iadd hx hb dX2_lit_29 ?_
      refine xr_istore_n C dX2_lit_30 rfl hl (Nat.le_of_ble_eq_true rfl) (lv' := [(3, .int ((a2 - x24) + (1 : Int32))), (0, va_rf a0), (1, .int a1), (2, .int a2)]) rfl (fun ls hl => ?_)
      refine lv_iload_n hx hb dX2_lit_31 rfl (hl.at 0 rfl) ?_
      refine lv_if_ge (tgt := 39) hx hb dX2_lit_32 (by decide) (fun c32 => ?_) (fun c32 => ?_)
      · replace hf := xb_pos c32 hf
        refine lv_iload_n hx hb dX2_lit_39 rfl (hl.at 0 rfl) ?_
        refine xr_aload_n C dX2_lit_40 rfl (hl.at 1 rfl) ?_
        refine lv_iload_n hx hb dX2_lit_41 rfl (hl.at 2 rfl) ?_
        refine lv_iconst (v := 1) hx hb dX2_lit_42 xi_c1 ?_
        refine xr_V (V := fun v => some (.int v)) (n := 2) (fr := 0) (lo := 0) (As := [.int a1, .int (1 : Int32)]) C hS xf_X2 (lw_V q888 q890 qs23 q60 q891) hdv_X2_of ⟨Nat.le_trans (Nat.le_of_ble_eq_true rfl) hR.1, Nat.le_trans (Nat.le_of_ble_eq_true rfl) hR.2⟩ rfl hl.1.1 rfl (xm_rc rfl xm_r0) hf (fun v h1 k1 n1 e1 => ct_X2_of l D N e1) dX2_lit_43 (fun x43 h H locs cells slots kc ks hS hf => ?_)
        refine W.eq (g2 := F0 m 46 ls [.int x43, .int ((a2 - x24) + (1 : Int32))]) rfl ?_
        refine lv_icmp_le (tgt := 58) hx hb dX2_lit_46 (by decide) (fun c46 => ?_) (fun c46 => ?_)
        · replace hf := xb_pos c46 hf
          refine lv_iload_n hx hb dX2_lit_58 rfl (hl.at 0 rfl) ?_
          exact xr_iret C hS hr hf dX2_lit_59
        · replace hf := xb_neg c46 hf
          refine xr_aload_n C dX2_lit_49 rfl (hl.at 1 rfl) ?_
          refine lv_iload_n hx hb dX2_lit_50 rfl (hl.at 2 rfl) ?_
          refine lv_iconst (v := 1) hx hb dX2_lit_51 xi_c1 ?_
          refine xr_V (V := fun v => some (.int v)) (n := 2) (fr := 0) (lo := 0) (As := [.int a1, .int (1 : Int32)]) C hS xf_X2 (lw_V q888 q890 qs23 q60 q891) hdv_X2_of ⟨Nat.le_trans (Nat.le_of_ble_eq_true rfl) hR.1, Nat.le_trans (Nat.le_of_ble_eq_true rfl) hR.2⟩ rfl hl.1.1 rfl xm_r0 hf (fun v h1 k1 n1 e1 => ct_X2_of l D N e1) dX2_lit_52 (fun x52 h H locs cells slots kc ks hS hf => ?_)
          refine W.eq (g2 := F0 m 55 ls [.int x52]) rfl ?_
          refine lv_goto (tgt := 59) hx hb dX2_lit_55 (by decide) ?_
          exact xr_iret C hS hr hf dX2_lit_59
      · replace hf := xb_neg c32 hf
        refine lv_iconst (v := 0) hx hb dX2_lit_35 xi_c0 ?_
        refine lv_goto (tgt := 59) hx hb dX2_lit_36 (by decide) ?_
        exact xr_iret C hS hr hf dX2_lit_59
    · replace hf := xb_pos c14 hf
      refine lv_bipush (v := -2) hx hb dX2_lit_17 xi_bm2 ?_
      exact xr_iret C hS hr hf dX2_lit_19
  · replace hf := xb_pos c5 hf
    refine lv_iconst (v := -1) hx hb dX2_lit_8 xi_cm1 ?_
    exact xr_iret C hS hr hf dX2_lit_9
theorem ct_X2_lit (l : Launch) (D : xh_D) {rv : Int32} {h hF : xh_H} {kc ks : Nat} (N : Nat) {a0 : Option Nat} {a1 : Int32} {a2 : Int32} (hf : f_X2_lit N a0 a1 a2 h = some (rv, hF, kc, ks)) : xh_Ct l D yX2_lit (ws_ yX2_lit cX2_lit 4 (Option.some Jvm.ClassFile.FieldType.int)) 2 43 [va_rf a0, .int a1, .int a2] h (some (.int rv)) hF kc ks :=
  xh_meth (cc := cX2_lit) l (by decide) (Nat.le_of_ble_eq_true rfl) (List.forall_mem_cons.mpr ⟨va_rf_cat _, List.forall_mem_cons.mpr ⟨rfl, List.forall_mem_cons.mpr ⟨rfl, fun _ h => absurd h List.not_mem_nil⟩⟩⟩) fun p e s m below meth c ls C hr hnm hl hS => w_X2_lit C hr ⟨Nat.le_refl _, Nat.le_refl _⟩ N a0 a1 a2 h _ _ _ _ _ _ _ hf hS hl
def K_X2_ofPhrase_21 (p : Program) (l : Launch) (e : Env) (s : State) (m : MethodId) (args : Array Value) (below : List Frame) (meth : Method) (c : Code) (D : xh_D) (g : Nat → Nat) (R : Room) (rv : Int32) (hF : xh_H) (k : Option Nat → Int32 → Int32 → Int32 → Int32 → Int32 → Int32 → Int32 → Int32 → Int32 → xh_H → xh_R Int32) : Prop := ∀ (a0 : Option Nat) (a1 : Int32) (a2 : Int32) (a3 : Int32) (a4 : Int32) (a5 : Int32) (a6 : Int32) (a7 : Int32) (a8 : Int32) (a9 : Int32) (h : xh_H) (H : Heap) (locs : List Loc) (cells slots kc ks : Nat) (ls : Array Slot), k a0 a1 a2 a3 a4 a5 a6 a7 a8 a9 h = some (rv, hF, kc, ks) → xh_T D g s R h H locs cells slots kc ks → xh_L ls 10 [(0, va_rf a0), (1, .int a1), (2, .int a2), (3, .int a3), (4, .int a4), (5, .int a5), (6, .int a6), (7, .int a7), (8, .int a8), (9, .int a9)] → W p l e R s m args below meth c H locs cells slots (MQ below (xh_Q D g (some (.int rv)) hF) args s R.cells R.slots (xh_A g)) (F0 m 21 ls [])
theorem w_X2_ofPhrase_b153 (C : xh_C cX2_ofPhrase 10 "SungSlidesModel" D g p s m args meth c) (hr : meth.sig.returnType = (Option.some Jvm.ClassFile.FieldType.int)) (hR : 2 ≤ R.frames ∧ 45 ≤ R.locals) {rv : Int32} {hF : xh_H} (N : Nat) : ∀ (a2 : Int32) (a3 : Int32) (a4 : Int32) (a5 : Int32) (a7 : Int32) (t0 : Int32) (t1 : Int32) (h : xh_H) (H : Heap) (locs : List Loc) (cells slots kc ks : Nat) (ls : Array Slot), f_X2_ofPhrase_b153 N a2 a3 a4 a5 a7 t0 t1 h = some (rv, hF, kc, ks) → xh_T D g s R h H locs cells slots kc ks → xh_L ls 10 [(2, .int a2), (3, .int a3), (4, .int a4), (5, .int a5), (7, .int a7)] → W p l e R s m args below meth c H locs cells slots (MQ below (xh_Q D g (some (.int rv)) hF) args s R.cells R.slots (xh_A g)) (F0 m 153 ls [.int t1, .int t0]) := by
  intro a2 a3 a4 a5 a7 t0 t1 h H locs cells slots kc ks ls hf hS hl
  have hx := C.1
  have hb := C.2.1
  unfold f_X2_ofPhrase_b153 at hf
  refine lv_iadd hx hb dX2_ofPhrase_153 ?_
  refine xr_istore C dX2_ofPhrase_154 hl (Nat.le_of_ble_eq_true rfl) (lv' := [(6, .int (t0 + t1)), (2, .int a2), (3, .int a3), (4, .int a4), (5, .int a5), (7, .int a7)]) rfl (fun ls hl => ?_)
  refine lv_iload_n hx hb dX2_ofPhrase_156 rfl (hl.at 1 rfl) ?_
  refine lv_if_ne (tgt := 164) hx hb dX2_ofPhrase_157 (by decide) (fun c157 => ?_) (fun c157 => ?_)
  · replace hf := xb_neg c157 hf
    refine lv_iload_n hx hb dX2_ofPhrase_164 rfl (hl.at 1 rfl) ?_
    refine lv_iconst (v := 1) hx hb dX2_ofPhrase_165 xi_c1 ?_
    refine lv_icmp_ne (tgt := 174) hx hb dX2_ofPhrase_166 (by decide) (fun c166 => ?_) (fun c166 => ?_)
    · replace hf := xb_neg c166 hf
      refine lv_iload_n hx hb dX2_ofPhrase_174 rfl (hl.at 1 rfl) ?_
      refine lv_iconst (v := 2) hx hb dX2_ofPhrase_175 xi_c2 ?_
      refine lv_icmp_ne (tgt := 184) hx hb dX2_ofPhrase_176 (by decide) (fun c176 => ?_) (fun c176 => ?_)
      · replace hf := xb_neg c176 hf
        refine lv_iload_n hx hb dX2_ofPhrase_184 rfl (hl.at 1 rfl) ?_
        refine lv_iconst (v := 3) hx hb dX2_ofPhrase_185 xi_c3 ?_
        refine lv_icmp_ne (tgt := 194) hx hb dX2_ofPhrase_186 (by decide) (fun c186 => ?_) (fun c186 => ?_)
        · replace hf := xb_neg c186 hf
          refine lv_iload hx hb dX2_ofPhrase_194 (hl.at 5 rfl) ?_
          exact xr_iret C hS hr hf dX2_ofPhrase_196
        · replace hf := xb_pos c186 hf
          refine lv_iload hx hb dX2_ofPhrase_189 (hl.at 0 rfl) ?_
          refine lv_goto (tgt := 196) hx hb dX2_ofPhrase_191 (by decide) ?_
          exact xr_iret C hS hr hf dX2_ofPhrase_196
      · replace hf := xb_pos c176 hf
        refine lv_iload hx hb dX2_ofPhrase_179 (hl.at 4 rfl) ?_
        refine lv_goto (tgt := 196) hx hb dX2_ofPhrase_181 (by decide) ?_
        exact xr_iret C hS hr hf dX2_ofPhrase_196
    · replace hf := xb_pos c166 hf
      refine lv_iload hx hb dX2_ofPhrase_169 (hl.at 3 rfl) ?_
      refine lv_goto (tgt := 196) hx hb dX2_ofPhrase_171 (by decide) ?_
      exact xr_iret C hS hr hf dX2_ofPhrase_196
  · replace hf := xb_pos c157 hf
    refine lv_iload_n hx hb dX2_ofPhrase_160 rfl (hl.at 2 rfl) ?_
    refine lv_goto (tgt := 196) hx hb dX2_ofPhrase_161 (by decide) ?_
    exact xr_iret C hS hr hf dX2_ofPhrase_196
theorem w_X2_ofPhrase_b152 (C : xh_C cX2_ofPhrase 10 "SungSlidesModel" D g p s m args meth c) (hr : meth.sig.returnType = (Option.some Jvm.ClassFile.FieldType.int)) (hR : 2 ≤ R.frames ∧ 45 ≤ R.locals) {rv : Int32} {hF : xh_H} (N : Nat) : ∀ (a2 : Int32) (a3 : Int32) (a4 : Int32) (a5 : Int32) (a7 : Int32) (t0 : Int32) (h : xh_H) (H : Heap) (locs : List Loc) (cells slots kc ks : Nat) (ls : Array Slot), f_X2_ofPhrase_b152 N a2 a3 a4 a5 a7 t0 h = some (rv, hF, kc, ks) → xh_T D g s R h H locs cells slots kc ks → xh_L ls 10 [(2, .int a2), (3, .int a3), (4, .int a4), (5, .int a5), (7, .int a7)] → W p l e R s m args below meth c H locs cells slots (MQ below (xh_Q D g (some (.int rv)) hF) args s R.cells R.slots (xh_A g)) (F0 m 152 ls [.int t0]) := by
  intro a2 a3 a4 a5 a7 t0 h H locs cells slots kc ks ls hf hS hl
  have hx := C.1
  have hb := C.2.1
  unfold f_X2_ofPhrase_b152 at hf
  refine lv_iconst (v := 0) hx hb dX2_ofPhrase_152 xi_c0 ?_
  exact w_X2_ofPhrase_b153 C hr hR N a2 a3 a4 a5 a7 t0 (0 : Int32) h H locs cells slots kc ks ls hf hS (hl.sub [0, 1, 2, 3, 4] rfl)
theorem w_X2_ofPhrase_b132 (C : xh_C cX2_ofPhrase 10 "SungSlidesModel" D g p s m args meth c) (hr : meth.sig.returnType = (Option.some Jvm.ClassFile.FieldType.int)) (hR : 2 ≤ R.frames ∧ 45 ≤ R.locals) {rv : Int32} {hF : xh_H} (N : Nat) : ∀ (a2 : Int32) (a3 : Int32) (a4 : Int32) (a5 : Int32) (a6 : Int32) (a7 : Int32) (h : xh_H) (H : Heap) (locs : List Loc) (cells slots kc ks : Nat) (ls : Array Slot), f_X2_ofPhrase_b132 N a2 a3 a4 a5 a6 a7 h = some (rv, hF, kc, ks) → xh_T D g s R h H locs cells slots kc ks → xh_L ls 10 [(2, .int a2), (3, .int a3), (4, .int a4), (5, .int a5), (6, .int a6), (7, .int a7)] → W p l e R s m args below meth c H locs cells slots (MQ below (xh_Q D g (some (.int rv)) hF) args s R.cells R.slots (xh_A g)) (F0 m 132 ls []) := by
  intro a2 a3 a4 a5 a6 a7 h H locs cells slots kc ks ls hf hS hl
  have hx := C.1
  have hb := C.2.1
  unfold f_X2_ofPhrase_b132 at hf
  refine lv_iload hx hb dX2_ofPhrase_132 (hl.at 4 rfl) ?_
  refine lv_iload hx hb dX2_ofPhrase_134 (hl.at 2 rfl) ?_
  refine lv_iconst (v := 1) hx hb dX2_ofPhrase_136 xi_c1 ?_
  refine lv_icmp_le (tgt := 152) hx hb dX2_ofPhrase_137 (by decide) (fun c137 => ?_) (fun c137 => ?_)
  · replace hf := xb_pos c137 hf
    exact w_X2_ofPhrase_b152 C hr hR N a2 a3 a4 a5 a7 a6 h H locs cells slots kc ks ls hf hS (hl.sub [0, 1, 2, 3, 5] rfl)
  · replace hf := xb_neg c137 hf
    refine lv_iload hx hb dX2_ofPhrase_140 (hl.at 3 rfl) ?_
    refine lv_iload hx hb dX2_ofPhrase_142 (hl.at 2 rfl) ?_
    refine lv_icmp_ne (tgt := 152) hx hb dX2_ofPhrase_144 (by decide) (fun c144 => ?_) (fun c144 => ?_)
    · replace hf := xb_neg c144 hf
      exact w_X2_ofPhrase_b152 C hr hR N a2 a3 a4 a5 a7 a6 h H locs cells slots kc ks ls hf hS (hl.sub [0, 1, 2, 3, 5] rfl)
    · replace hf := xb_pos c144 hf
      refine lv_bipush (v := 50) hx hb dX2_ofPhrase_147 xi_b50 ?_
      refine lv_goto (tgt := 153) hx hb dX2_ofPhrase_149 (by decide) ?_
      exact w_X2_ofPhrase_b153 C hr hR N a2 a3 a4 a5 a7 a6 (50 : Int32) h H locs cells slots kc ks ls hf hS (hl.sub [0, 1, 2, 3, 5] rfl)
theorem w_X2_ofPhrase_b126 (C : xh_C cX2_ofPhrase 10 "SungSlidesModel" D g p s m args meth c) (hr : meth.sig.returnType = (Option.some Jvm.ClassFile.FieldType.int)) (hR : 2 ≤ R.frames ∧ 45 ≤ R.locals) {rv : Int32} {hF : xh_H} (N : Nat) {k21 : Option Nat → Int32 → Int32 → Int32 → Int32 → Int32 → Int32 → Int32 → Int32 → Int32 → xh_H → xh_R Int32} (hk21 : K_X2_ofPhrase_21 p l e s m args below meth c D g R rv hF k21) : ∀ (a0 : Option Nat) (a1 : Int32) (a2 : Int32) (a3 : Int32) (a4 : Int32) (a5 : Int32) (a6 : Int32) (a7 : Int32) (a8 : Int32) (a9 : Int32) (h : xh_H) (H : Heap) (locs : List Loc) (cells slots kc ks : Nat) (ls : Array Slot), f_X2_ofPhrase_b126 N k21 a0 a1 a2 a3 a4 a5 a6 a7 a8 a9 h = some (rv, hF, kc, ks) → xh_T D g s R h H locs cells slots kc ks → xh_L ls 10 [(0, va_rf a0), (1, .int a1), (2, .int a2), (3, .int a3), (4, .int a4), (5, .int a5), (6, .int a6), (7, .int a7), (8, .int a8), (9, .int a9)] → W p l e R s m args below meth c H locs cells slots (MQ below (xh_Q D g (some (.int rv)) hF) args s R.cells R.slots (xh_A g)) (F0 m 126 ls []) := by
  intro a0 a1 a2 a3 a4 a5 a6 a7 a8 a9 h H locs cells slots kc ks ls hf hS hl
  have hx := C.1
  have hb := C.2.1
  unfold f_X2_ofPhrase_b126 at hf
  refine xr_iinc C dX2_ofPhrase_126 hl (k := 9) rfl (xi_inc xi_c1) (Nat.le_of_ble_eq_true rfl) (lv' := [(9, .int (a9 + (1 : Int32))), (0, va_rf a0), (1, .int a1), (2, .int a2), (3, .int a3), (4, .int a4), (5, .int a5), (6, .int a6), (7, .int a7), (8, .int a8)]) rfl (fun ls hl => ?_)
  refine lv_goto (tgt := 21) hx hb dX2_ofPhrase_129 (by decide) ?_
  exact hk21 a0 a1 a2 a3 a4 a5 a6 a7 a8 (a9 + (1 : Int32))  h H locs cells slots kc ks ls hf hS (hl.sub [1, 2, 3, 4, 5, 6, 7, 8, 9, 0] rfl)
theorem w_X2_ofPhrase_b124 (C : xh_C cX2_ofPhrase 10 "SungSlidesModel" D g p s m args meth c) (hr : meth.sig.returnType = (Option.some Jvm.ClassFile.FieldType.int)) (hR : 2 ≤ R.frames ∧ 45 ≤ R.locals) {rv : Int32} {hF : xh_H} (N : Nat) {k21 : Option Nat → Int32 → Int32 → Int32 → Int32 → Int32 → Int32 → Int32 → Int32 → Int32 → xh_H → xh_R Int32} (hk21 : K_X2_ofPhrase_21 p l e s m args below meth c D g R rv hF k21) : ∀ (a0 : Option Nat) (a1 : Int32) (a2 : Int32) (a3 : Int32) (a4 : Int32) (a5 : Int32) (a6 : Int32) (a8 : Int32) (a9 : Int32) (t0 : Int32) (h : xh_H) (H : Heap) (locs : List Loc) (cells slots kc ks : Nat) (ls : Array Slot), f_X2_ofPhrase_b124 N k21 a0 a1 a2 a3 a4 a5 a6 a8 a9 t0 h = some (rv, hF, kc, ks) → xh_T D g s R h H locs cells slots kc ks → xh_L ls 10 [(0, va_rf a0), (1, .int a1), (2, .int a2), (3, .int a3), (4, .int a4), (5, .int a5), (6, .int a6), (8, .int a8), (9, .int a9)] → W p l e R s m args below meth c H locs cells slots (MQ below (xh_Q D g (some (.int rv)) hF) args s R.cells R.slots (xh_A g)) (F0 m 124 ls [.int t0]) := by
  intro a0 a1 a2 a3 a4 a5 a6 a8 a9 t0 h H locs cells slots kc ks ls hf hS hl
  have hx := C.1
  have hb := C.2.1
  unfold f_X2_ofPhrase_b124 at hf
  refine xr_istore C dX2_ofPhrase_124 hl (Nat.le_of_ble_eq_true rfl) (lv' := [(7, .int t0), (0, va_rf a0), (1, .int a1), (2, .int a2), (3, .int a3), (4, .int a4), (5, .int a5), (6, .int a6), (8, .int a8), (9, .int a9)]) rfl (fun ls hl => ?_)
  exact w_X2_ofPhrase_b126 C hr hR N hk21 a0 a1 a2 a3 a4 a5 a6 t0 a8 a9  h H locs cells slots kc ks ls hf hS (hl.sub [1, 2, 3, 4, 5, 6, 7, 0, 8, 9] rfl)
theorem w_X2_ofPhrase_b108 (C : xh_C cX2_ofPhrase 10 "SungSlidesModel" D g p s m args meth c) (hr : meth.sig.returnType = (Option.some Jvm.ClassFile.FieldType.int)) (hR : 2 ≤ R.frames ∧ 45 ≤ R.locals) {rv : Int32} {hF : xh_H} (N : Nat) {k21 : Option Nat → Int32 → Int32 → Int32 → Int32 → Int32 → Int32 → Int32 → Int32 → Int32 → xh_H → xh_R Int32} (hk21 : K_X2_ofPhrase_21 p l e s m args below meth c D g R rv hF k21) : ∀ (a0 : Option Nat) (a1 : Int32) (a2 : Int32) (a3 : Int32) (a4 : Int32) (a5 : Int32) (a6 : Int32) (a7 : Int32) (a9 : Int32) (t0 : Int32) (h : xh_H) (H : Heap) (locs : List Loc) (cells slots kc ks : Nat) (ls : Array Slot), f_X2_ofPhrase_b108 N k21 a0 a1 a2 a3 a4 a5 a6 a7 a9 t0 h = some (rv, hF, kc, ks) → xh_T D g s R h H locs cells slots kc ks → xh_L ls 10 [(0, va_rf a0), (1, .int a1), (2, .int a2), (3, .int a3), (4, .int a4), (5, .int a5), (6, .int a6), (7, .int a7), (9, .int a9)] → W p l e R s m args below meth c H locs cells slots (MQ below (xh_Q D g (some (.int rv)) hF) args s R.cells R.slots (xh_A g)) (F0 m 108 ls [.int t0]) := by
  intro a0 a1 a2 a3 a4 a5 a6 a7 a9 t0 h H locs cells slots kc ks ls hf hS hl
  have hx := C.1
  have hb := C.2.1
  unfold f_X2_ofPhrase_b108 at hf
  refine xr_istore C dX2_ofPhrase_108 hl (Nat.le_of_ble_eq_true rfl) (lv' := [(8, .int t0), (0, va_rf a0), (1, .int a1), (2, .int a2), (3, .int a3), (4, .int a4), (5, .int a5), (6, .int a6), (7, .int a7), (9, .int a9)]) rfl (fun ls hl => ?_)
  refine lv_iload hx hb dX2_ofPhrase_110 (hl.at 0 rfl) ?_
  refine lv_iload hx hb dX2_ofPhrase_112 (hl.at 8 rfl) ?_
  refine lv_icmp_le (tgt := 122) hx hb dX2_ofPhrase_114 (by decide) (fun c114 => ?_) (fun c114 => ?_)
  · replace hf := xb_pos c114 hf
    refine lv_iload hx hb dX2_ofPhrase_122 (hl.at 8 rfl) ?_
    exact w_X2_ofPhrase_b124 C hr hR N hk21 a0 a1 a2 a3 a4 a5 a6 t0 a9 a7 h H locs cells slots kc ks ls hf hS (hl.sub [1, 2, 3, 4, 5, 6, 7, 0, 9] rfl)
  · replace hf := xb_neg c114 hf
    refine lv_iload hx hb dX2_ofPhrase_117 (hl.at 0 rfl) ?_
    refine lv_goto (tgt := 124) hx hb dX2_ofPhrase_119 (by decide) ?_
    exact w_X2_ofPhrase_b124 C hr hR N hk21 a0 a1 a2 a3 a4 a5 a6 t0 a9 t0 h H locs cells slots kc ks ls hf hS (hl.sub [1, 2, 3, 4, 5, 6, 7, 0, 9] rfl)
theorem w_X2_ofPhrase_b75 (C : xh_C cX2_ofPhrase 10 "SungSlidesModel" D g p s m args meth c) (hr : meth.sig.returnType = (Option.some Jvm.ClassFile.FieldType.int)) (hR : 2 ≤ R.frames ∧ 45 ≤ R.locals) {rv : Int32} {hF : xh_H} (N : Nat) {k21 : Option Nat → Int32 → Int32 → Int32 → Int32 → Int32 → Int32 → Int32 → Int32 → Int32 → xh_H → xh_R Int32} (hk21 : K_X2_ofPhrase_21 p l e s m args below meth c D g R rv hF k21) : ∀ (a0 : Option Nat) (a1 : Int32) (a2 : Int32) (a3 : Int32) (a4 : Int32) (a6 : Int32) (a7 : Int32) (a8 : Int32) (a9 : Int32) (t0 : Int32) (t1 : Int32) (h : xh_H) (H : Heap) (locs : List Loc) (cells slots kc ks : Nat) (ls : Array Slot), f_X2_ofPhrase_b75 N k21 a0 a1 a2 a3 a4 a6 a7 a8 a9 t0 t1 h = some (rv, hF, kc, ks) → xh_T D g s R h H locs cells slots kc ks → xh_L ls 10 [(0, va_rf a0), (1, .int a1), (2, .int a2), (3, .int a3), (4, .int a4), (6, .int a6), (7, .int a7), (8, .int a8), (9, .int a9)] → W p l e R s m args below meth c H locs cells slots (MQ below (xh_Q D g (some (.int rv)) hF) args s R.cells R.slots (xh_A g)) (F0 m 75 ls [.int t1, .int t0]) := by
  intro a0 a1 a2 a3 a4 a6 a7 a8 a9 t0 t1 h H locs cells slots kc ks ls hf hS hl
  have hx := C.1
  have hb := C.2.1
  unfold f_X2_ofPhrase_b75 at hf
  refine lv_iadd hx hb dX2_ofPhrase_75 ?_
  refine xr_istore C dX2_ofPhrase_76 hl (Nat.le_of_ble_eq_true rfl) (lv' := [(5, .int (t0 + t1)), (0, va_rf a0), (1, .int a1), (2, .int a2), (3, .int a3), (4, .int a4), (6, .int a6), (7, .int a7), (8, .int a8), (9, .int a9)]) rfl (fun ls hl => ?_)
  refine lv_iload hx hb dX2_ofPhrase_78 (hl.at 6 rfl) ?_
  refine xr_aload_n C dX2_ofPhrase_80 rfl (hl.at 1 rfl) ?_
  refine xr_getR C hS xf_X2 12 (by decide) q829 (fun _ h => h) hf dX2_ofPhrase_81 (fun x81 hf => ?_)
  refine lv_iload hx hb dX2_ofPhrase_84 (hl.at 9 rfl) ?_
  refine xr_iald C hS hf dX2_ofPhrase_86 (fun x86 hf => ?_)
  refine lv_iadd hx hb dX2_ofPhrase_87 ?_
  refine xr_istore C dX2_ofPhrase_88 hl (Nat.le_of_ble_eq_true rfl) (lv' := [(6, .int (a6 + x86)), (5, .int (t0 + t1)), (0, va_rf a0), (1, .int a1), (2, .int a2), (3, .int a3), (4, .int a4), (7, .int a7), (8, .int a8), (9, .int a9)]) rfl (fun ls hl => ?_)
  refine xr_aload_n C dX2_ofPhrase_90 rfl (hl.at 2 rfl) ?_
  refine xr_getR C hS xf_X2 10 (by decide) q827 (fun _ h => h) hf dX2_ofPhrase_91 (fun x91 hf => ?_)
  refine lv_iload hx hb dX2_ofPhrase_94 (hl.at 9 rfl) ?_
  refine xr_iald C hS hf dX2_ofPhrase_96 (fun x96 hf => ?_)
  refine lv_if_ne (tgt := 107) hx hb dX2_ofPhrase_97 (by decide) (fun c97 => ?_) (fun c97 => ?_)
  · replace hf := xb_neg c97 hf
    refine lv_iconst (v := 0) hx hb dX2_ofPhrase_107 xi_c0 ?_
    exact w_X2_ofPhrase_b108 C hr hR N hk21 a0 a1 a2 a3 a4 (t0 + t1) (a6 + x86) a7 a9 (0 : Int32) h H locs cells slots kc ks ls hf hS (hl.sub [2, 3, 4, 5, 6, 1, 0, 7, 9] rfl)
  · replace hf := xb_pos c97 hf
    refine lv_iload hx hb dX2_ofPhrase_100 (hl.at 8 rfl) ?_
    refine lv_iconst (v := 1) hx hb dX2_ofPhrase_102 xi_c1 ?_
    refine lv_iadd hx hb dX2_ofPhrase_103 ?_
    refine lv_goto (tgt := 108) hx hb dX2_ofPhrase_104 (by decide) ?_
    exact w_X2_ofPhrase_b108 C hr hR N hk21 a0 a1 a2 a3 a4 (t0 + t1) (a6 + x86) a7 a9 (a8 + (1 : Int32)) h H locs cells slots kc ks ls hf hS (hl.sub [2, 3, 4, 5, 6, 1, 0, 7, 9] rfl)
theorem w_X2_ofPhrase_b54 (C : xh_C cX2_ofPhrase 10 "SungSlidesModel" D g p s m args meth c) (hr : meth.sig.returnType = (Option.some Jvm.ClassFile.FieldType.int)) (hR : 2 ≤ R.frames ∧ 45 ≤ R.locals) {rv : Int32} {hF : xh_H} (N : Nat) {k21 : Option Nat → Int32 → Int32 → Int32 → Int32 → Int32 → Int32 → Int32 → Int32 → Int32 → xh_H → xh_R Int32} (hk21 : K_X2_ofPhrase_21 p l e s m args below meth c D g R rv hF k21) : ∀ (a0 : Option Nat) (a1 : Int32) (a2 : Int32) (a4 : Int32) (a5 : Int32) (a6 : Int32) (a7 : Int32) (a8 : Int32) (a9 : Int32) (t0 : Int32) (h : xh_H) (H : Heap) (locs : List Loc) (cells slots kc ks : Nat) (ls : Array Slot), f_X2_ofPhrase_b54 N k21 a0 a1 a2 a4 a5 a6 a7 a8 a9 t0 h = some (rv, hF, kc, ks) → xh_T D g s R h H locs cells slots kc ks → xh_L ls 10 [(0, va_rf a0), (1, .int a1), (2, .int a2), (4, .int a4), (5, .int a5), (6, .int a6), (7, .int a7), (8, .int a8), (9, .int a9)] → W p l e R s m args below meth c H locs cells slots (MQ below (xh_Q D g (some (.int rv)) hF) args s R.cells R.slots (xh_A g)) (F0 m 54 ls [.int t0]) := by
  intro a0 a1 a2 a4 a5 a6 a7 a8 a9 t0 h H locs cells slots kc ks ls hf hS hl
  have hx := C.1
  have hb := C.2.1
  unfold f_X2_ofPhrase_b54 at hf
  refine xr_istore_n C dX2_ofPhrase_54 rfl hl (Nat.le_of_ble_eq_true rfl) (lv' := [(3, .int t0), (0, va_rf a0), (1, .int a1), (2, .int a2), (4, .int a4), (5, .int a5), (6, .int a6), (7, .int a7), (8, .int a8), (9, .int a9)]) rfl (fun ls hl => ?_)
  refine xr_iinc C dX2_ofPhrase_55 hl (k := 4) rfl (xi_inc xi_c1) (Nat.le_of_ble_eq_true rfl) (lv' := [(4, .int (a4 + (1 : Int32))), (3, .int t0), (0, va_rf a0), (1, .int a1), (2, .int a2), (5, .int a5), (6, .int a6), (7, .int a7), (8, .int a8), (9, .int a9)]) rfl (fun ls hl => ?_)
  refine lv_iload hx hb dX2_ofPhrase_58 (hl.at 5 rfl) ?_
  refine xr_aload_n C dX2_ofPhrase_60 rfl (hl.at 2 rfl) ?_
  refine xr_getR C hS xf_X2 10 (by decide) q827 (fun _ h => h) hf dX2_ofPhrase_61 (fun x61 hf => ?_)
  refine lv_iload hx hb dX2_ofPhrase_64 (hl.at 9 rfl) ?_
  refine xr_iald C hS hf dX2_ofPhrase_66 (fun x66 hf => ?_)
  refine lv_if_ne (tgt := 74) hx hb dX2_ofPhrase_67 (by decide) (fun c67 => ?_) (fun c67 => ?_)
  · replace hf := xb_neg c67 hf
    refine lv_iconst (v := 0) hx hb dX2_ofPhrase_74 xi_c0 ?_
    exact w_X2_ofPhrase_b75 C hr hR N hk21 a0 a1 a2 t0 (a4 + (1 : Int32)) a6 a7 a8 a9 a5 (0 : Int32) h H locs cells slots kc ks ls hf hS (hl.sub [2, 3, 4, 1, 0, 6, 7, 8, 9] rfl)
  · replace hf := xb_pos c67 hf
    refine lv_iconst (v := 1) hx hb dX2_ofPhrase_70 xi_c1 ?_
    refine lv_goto (tgt := 75) hx hb dX2_ofPhrase_71 (by decide) ?_
    exact w_X2_ofPhrase_b75 C hr hR N hk21 a0 a1 a2 t0 (a4 + (1 : Int32)) a6 a7 a8 a9 a5 (1 : Int32) h H locs cells slots kc ks ls hf hS (hl.sub [2, 3, 4, 1, 0, 6, 7, 8, 9] rfl)
theorem w_X2_ofPhrase_b21 (C : xh_C cX2_ofPhrase 10 "SungSlidesModel" D g p s m args meth c) (hr : meth.sig.returnType = (Option.some Jvm.ClassFile.FieldType.int)) (hR : 2 ≤ R.frames ∧ 45 ≤ R.locals) {rv : Int32} {hF : xh_H} (N : Nat) {k21 : Option Nat → Int32 → Int32 → Int32 → Int32 → Int32 → Int32 → Int32 → Int32 → Int32 → xh_H → xh_R Int32} (hk21 : K_X2_ofPhrase_21 p l e s m args below meth c D g R rv hF k21) : ∀ (a0 : Option Nat) (a1 : Int32) (a2 : Int32) (a3 : Int32) (a4 : Int32) (a5 : Int32) (a6 : Int32) (a7 : Int32) (a8 : Int32) (a9 : Int32) (h : xh_H) (H : Heap) (locs : List Loc) (cells slots kc ks : Nat) (ls : Array Slot), f_X2_ofPhrase_b21 N k21 a0 a1 a2 a3 a4 a5 a6 a7 a8 a9 h = some (rv, hF, kc, ks) → xh_T D g s R h H locs cells slots kc ks → xh_L ls 10 [(0, va_rf a0), (1, .int a1), (2, .int a2), (3, .int a3), (4, .int a4), (5, .int a5), (6, .int a6), (7, .int a7), (8, .int a8), (9, .int a9)] → W p l e R s m args below meth c H locs cells slots (MQ below (xh_Q D g (some (.int rv)) hF) args s R.cells R.slots (xh_A g)) (F0 m 21 ls []) := by
  intro a0 a1 a2 a3 a4 a5 a6 a7 a8 a9 h H locs cells slots kc ks ls hf hS hl
  have hx := C.1
  have hb := C.2.1
  unfold f_X2_ofPhrase_b21 at hf
  refine lv_iload hx hb dX2_ofPhrase_21 (hl.at 9 rfl) ?_
  refine xr_aload_n C dX2_ofPhrase_23 rfl (hl.at 0 rfl) ?_
  refine xr_getR C hS xf_X2 0 (by decide) q817 (fun _ h => h) hf dX2_ofPhrase_24 (fun x24 hf => ?_)
  refine lv_iconst (v := 5) hx hb dX2_ofPhrase_27 xi_c5 ?_
  refine xr_iald C hS hf dX2_ofPhrase_28 (fun x28 hf => ?_)
  refine lv_icmp_ge (tgt := 132) hx hb dX2_ofPhrase_29 (by decide) (fun c29 => ?_) (fun c29 => ?_)
  · replace hf := xb_pos c29 hf
    exact w_X2_ofPhrase_b132 C hr hR N a2 a3 a4 a5 a6 a7  h H locs cells slots kc ks ls hf hS (hl.sub [2, 3, 4, 5, 6, 7] rfl)
  · replace hf := xb_neg c29 hf
    refine xr_aload_n C dX2_ofPhrase_32 rfl (hl.at 0 rfl) ?_
    refine lv_iload hx hb dX2_ofPhrase_33 (hl.at 9 rfl) ?_
    refine xr_V (V := fun v => some (.int v)) (n := 1) (fr := 1) (lo := 22) (As := [.int a9]) C hS xf_X2 (lw_V q1036 q1038 qs45 q60 q1039) hdv_X2_phraseOf ⟨Nat.le_trans (Nat.le_of_ble_eq_true rfl) hR.1, Nat.le_trans (Nat.le_of_ble_eq_true rfl) hR.2⟩ rfl hl.1.1 rfl xm_r0 hf (fun v h1 k1 n1 e1 => ct_X2_phraseOf l D N e1) dX2_ofPhrase_35 (fun x35 h H locs cells slots kc ks hS hf => ?_)
    refine W.eq (g2 := F0 m 38 ls [.int x35]) rfl ?_
    refine lv_iload_n hx hb dX2_ofPhrase_38 rfl (hl.at 1 rfl) ?_
    refine lv_icmp_ne (tgt := 126) hx hb dX2_ofPhrase_39 (by decide) (fun c39 => ?_) (fun c39 => ?_)
    · replace hf := xb_neg c39 hf
      exact w_X2_ofPhrase_b126 C hr hR N hk21 a0 a1 a2 a3 a4 a5 a6 a7 a8 a9  h H locs cells slots kc ks ls hf hS (hl.sub [0, 1, 2, 3, 4, 5, 6, 7, 8, 9] rfl)
    · replace hf := xb_pos c39 hf
      refine lv_iload_n hx hb dX2_ofPhrase_42 rfl (hl.at 3 rfl) ?_
      refine lv_bipush (v := -5) hx hb dX2_ofPhrase_43 xi_bm5 ?_
      refine lv_icmp_ne (tgt := 53) hx hb dX2_ofPhrase_45 (by decide) (fun c45 => ?_) (fun c45 => ?_)
      · replace hf := xb_neg c45 hf
        refine lv_iload_n hx hb dX2_ofPhrase_53 rfl (hl.at 3 rfl) ?_
        exact w_X2_ofPhrase_b54 C hr hR N hk21 a0 a1 a2 a4 a5 a6 a7 a8 a9 a3 h H locs cells slots kc ks ls hf hS (hl.sub [0, 1, 2, 4, 5, 6, 7, 8, 9] rfl)
      · replace hf := xb_pos c45 hf
        refine lv_iload hx hb dX2_ofPhrase_48 (hl.at 9 rfl) ?_
        refine lv_goto (tgt := 54) hx hb dX2_ofPhrase_50 (by decide) ?_
        exact w_X2_ofPhrase_b54 C hr hR N hk21 a0 a1 a2 a4 a5 a6 a7 a8 a9 a9 h H locs cells slots kc ks ls hf hS (hl.sub [0, 1, 2, 4, 5, 6, 7, 8, 9] rfl)
theorem w_X2_ofPhrase_l21 (C : xh_C cX2_ofPhrase 10 "SungSlidesModel" D g p s m args meth c) (hr : meth.sig.returnType = (Option.some Jvm.ClassFile.FieldType.int)) (hR : 2 ≤ R.frames ∧ 45 ≤ R.locals) {rv : Int32} {hF : xh_H} (N : Nat) : ∀ n : Nat, K_X2_ofPhrase_21 p l e s m args below meth c D g R rv hF (f_X2_ofPhrase_l21 N n) := by
  intro n
  induction n with
  | zero => exact fun a0 a1 a2 a3 a4 a5 a6 a7 a8 a9 h H locs cells slots kc ks ls hf => absurd (show (none : xh_R Int32) = some _ from hf) (by intro q; cases q)
  | succ n ih => exact fun a0 a1 a2 a3 a4 a5 a6 a7 a8 a9 h H locs cells slots kc ks ls hf => w_X2_ofPhrase_b21 C hr hR N ih a0 a1 a2 a3 a4 a5 a6 a7 a8 a9 h H locs cells slots kc ks ls hf
/-- SungSlidesModel.ofPhrase(II)I -/
theorem w_X2_ofPhrase (C : xh_C cX2_ofPhrase 10 "SungSlidesModel" D g p s m args meth c) (hr : meth.sig.returnType = (Option.some Jvm.ClassFile.FieldType.int)) (hR : 2 ≤ R.frames ∧ 45 ≤ R.locals) {rv : Int32} {hF : xh_H} (N : Nat) (a0 : Option Nat) (a1 : Int32) (a2 : Int32)  (h : xh_H) (H : Heap) (locs : List Loc) (cells slots kc ks : Nat) (ls : Array Slot) (hf : f_X2_ofPhrase N a0 a1 a2 h = some (rv, hF, kc, ks)) (hS : xh_T D g s R h H locs cells slots kc ks) (hl : xh_L ls 10 [(0, va_rf a0), (1, .int a1), (2, .int a2)]) : W p l e R s m args below meth c H locs cells slots (MQ below (xh_Q D g (some (.int rv)) hF) args s R.cells R.slots (xh_A g)) (F0 m 0 ls []) := by
  have hx := C.1
  have hb := C.2.1
  unfold f_X2_ofPhrase at hf
  refine lv_bipush (v := -5) hx hb dX2_ofPhrase_0 xi_bm5 ?_
  refine xr_istore_n C dX2_ofPhrase_2 rfl hl (Nat.le_of_ble_eq_true rfl) (lv' := [(3, .int (-5 : Int32)), (0, va_rf a0), (1, .int a1), (2, .int a2)]) rfl (fun ls hl => ?_)
  refine lv_iconst (v := 0) hx hb dX2_ofPhrase_3 xi_c0 ?_
  refine xr_istore C dX2_ofPhrase_4 hl (Nat.le_of_ble_eq_true rfl) (lv' := [(4, .int (0 : Int32)), (3, .int (-5 : Int32)), (0, va_rf a0), (1, .int a1), (2, .int a2)]) rfl (fun ls hl => ?_)
  refine lv_iconst (v := 0) hx hb dX2_ofPhrase_6 xi_c0 ?_
  refine xr_istore C dX2_ofPhrase_7 hl (Nat.le_of_ble_eq_true rfl) (lv' := [(5, .int (0 : Int32)), (4, .int (0 : Int32)), (3, .int (-5 : Int32)), (0, va_rf a0), (1, .int a1), (2, .int a2)]) rfl (fun ls hl => ?_)
  refine lv_iconst (v := 0) hx hb dX2_ofPhrase_9 xi_c0 ?_
  refine xr_istore C dX2_ofPhrase_10 hl (Nat.le_of_ble_eq_true rfl) (lv' := [(6, .int (0 : Int32)), (5, .int (0 : Int32)), (4, .int (0 : Int32)), (3, .int (-5 : Int32)), (0, va_rf a0), (1, .int a1), (2, .int a2)]) rfl (fun ls hl => ?_)
  refine lv_iconst (v := 0) hx hb dX2_ofPhrase_12 xi_c0 ?_
  refine xr_istore C dX2_ofPhrase_13 hl (Nat.le_of_ble_eq_true rfl) (lv' := [(7, .int (0 : Int32)), (6, .int (0 : Int32)), (5, .int (0 : Int32)), (4, .int (0 : Int32)), (3, .int (-5 : Int32)), (0, va_rf a0), (1, .int a1), (2, .int a2)]) rfl (fun ls hl => ?_)
  refine lv_iconst (v := 0) hx hb dX2_ofPhrase_15 xi_c0 ?_
  refine xr_istore C dX2_ofPhrase_16 hl (Nat.le_of_ble_eq_true rfl) (lv' := [(8, .int (0 : Int32)), (7, .int (0 : Int32)), (6, .int (0 : Int32)), (5, .int (0 : Int32)), (4, .int (0 : Int32)), (3, .int (-5 : Int32)), (0, va_rf a0), (1, .int a1), (2, .int a2)]) rfl (fun ls hl => ?_)
  refine lv_iconst (v := 0) hx hb dX2_ofPhrase_18 xi_c0 ?_
  refine xr_istore C dX2_ofPhrase_19 hl (Nat.le_of_ble_eq_true rfl) (lv' := [(9, .int (0 : Int32)), (8, .int (0 : Int32)), (7, .int (0 : Int32)), (6, .int (0 : Int32)), (5, .int (0 : Int32)), (4, .int (0 : Int32)), (3, .int (-5 : Int32)), (0, va_rf a0), (1, .int a1), (2, .int a2)]) rfl (fun ls hl => ?_)
  exact w_X2_ofPhrase_l21 C hr hR N N a0 a1 a2 (-5 : Int32) (0 : Int32) (0 : Int32) (0 : Int32) (0 : Int32) (0 : Int32) (0 : Int32)  h H locs cells slots kc ks ls hf hS (hl.sub [7, 8, 9, 6, 5, 4, 3, 2, 1, 0] rfl)
theorem ct_X2_ofPhrase (l : Launch) (D : xh_D) {rv : Int32} {h hF : xh_H} {kc ks : Nat} (N : Nat) {a0 : Option Nat} {a1 : Int32} {a2 : Int32} (hf : f_X2_ofPhrase N a0 a1 a2 h = some (rv, hF, kc, ks)) : xh_Ct l D yX2_ofPhrase (ws_ yX2_ofPhrase cX2_ofPhrase 10 (Option.some Jvm.ClassFile.FieldType.int)) 2 45 [va_rf a0, .int a1, .int a2] h (some (.int rv)) hF kc ks :=
  xh_meth (cc := cX2_ofPhrase) l (by decide) (Nat.le_of_ble_eq_true rfl) (List.forall_mem_cons.mpr ⟨va_rf_cat _, List.forall_mem_cons.mpr ⟨rfl, List.forall_mem_cons.mpr ⟨rfl, fun _ h => absurd h List.not_mem_nil⟩⟩⟩) fun p e s m below meth c ls C hr hnm hl hS => w_X2_ofPhrase C hr ⟨Nat.le_refl _, Nat.le_refl _⟩ N a0 a1 a2 h _ _ _ _ _ _ _ hf hS hl
/-- SungSlidesModel.phrases()I -/
theorem w_X2_phrases (C : xh_C cX2_phrases 1 "SungSlidesModel" D g p s m args meth c) (hr : meth.sig.returnType = (Option.some Jvm.ClassFile.FieldType.int)) (hR : 2 ≤ R.frames ∧ 45 ≤ R.locals) {rv : Int32} {hF : xh_H} (N : Nat) (a0 : Option Nat)  (h : xh_H) (H : Heap) (locs : List Loc) (cells slots kc ks : Nat) (ls : Array Slot) (hf : f_X2_phrases N a0 h = some (rv, hF, kc, ks)) (hS : xh_T D g s R h H locs cells slots kc ks) (hl : xh_L ls 1 [(0, va_rf a0)]) : W p l e R s m args below meth c H locs cells slots (MQ below (xh_Q D g (some (.int rv)) hF) args s R.cells R.slots (xh_A g)) (F0 m 0 ls []) := by
  have hx := C.1
  have hb := C.2.1
  unfold f_X2_phrases at hf
  refine xr_aload_n C dX2_phrases_0 rfl (hl.at 0 rfl) ?_
  refine xr_getR C hS xf_X2 0 (by decide) q817 (fun _ h => h) hf dX2_phrases_1 (fun x1 hf => ?_)
  refine lv_iconst (v := 5) hx hb dX2_phrases_4 xi_c5 ?_
  refine xr_iald C hS hf dX2_phrases_5 (fun x5 hf => ?_)
  refine lv_if_ne (tgt := 13) hx hb dX2_phrases_6 (by decide) (fun c6 => ?_) (fun c6 => ?_)
  · replace hf := xb_neg c6 hf
    refine xr_aload_n C dX2_phrases_13 rfl (hl.at 0 rfl) ?_
    refine xr_aload_n C dX2_phrases_14 rfl (hl.at 0 rfl) ?_
    refine xr_getR C hS xf_X2 0 (by decide) q817 (fun _ h => h) hf dX2_phrases_15 (fun x15 hf => ?_)
    refine lv_iconst (v := 5) hx hb dX2_phrases_18 xi_c5 ?_
    refine xr_iald C hS hf dX2_phrases_19 (fun x19 hf => ?_)
    refine lv_iconst (v := 1) hx hb dX2_phrases_20 xi_c1 ?_
    refine lv_isub hx hb dX2_phrases_21 ?_
    refine xr_V (V := fun v => some (.int v)) (n := 1) (fr := 1) (lo := 22) (As := [.int (x19 - (1 : Int32))]) C hS xf_X2 (lw_V q1036 q1038 qs45 q60 q1039) hdv_X2_phraseOf ⟨Nat.le_trans (Nat.le_of_ble_eq_true rfl) hR.1, Nat.le_trans (Nat.le_of_ble_eq_true rfl) hR.2⟩ rfl hl.1.1 rfl xm_r0 hf (fun v h1 k1 n1 e1 => ct_X2_phraseOf l D N e1) dX2_phrases_22 (fun x22 h H locs cells slots kc ks hS hf => ?_)
    refine W.eq (g2 := F0 m 25 ls [.int x22]) rfl ?_
    refine lv_iconst (v := 1) hx hb dX2_phrases_25 xi_c1 ?_
    refine lv_iadd hx hb dX2_phrases_26 ?_
    exact xr_iret C hS hr hf dX2_phrases_27
  · replace hf := xb_pos c6 hf
    refine lv_iconst (v := 0) hx hb dX2_phrases_9 xi_c0 ?_
    refine lv_goto (tgt := 27) hx hb dX2_phrases_10 (by decide) ?_
    exact xr_iret C hS hr hf dX2_phrases_27
theorem ct_X2_phrases (l : Launch) (D : xh_D) {rv : Int32} {h hF : xh_H} {kc ks : Nat} (N : Nat) {a0 : Option Nat} (hf : f_X2_phrases N a0 h = some (rv, hF, kc, ks)) : xh_Ct l D yX2_phrases (ws_ yX2_phrases cX2_phrases 1 (Option.some Jvm.ClassFile.FieldType.int)) 2 45 [va_rf a0] h (some (.int rv)) hF kc ks :=
  xh_meth (cc := cX2_phrases) l (by decide) (Nat.le_of_ble_eq_true rfl) (List.forall_mem_cons.mpr ⟨va_rf_cat _, fun _ h => absurd h List.not_mem_nil⟩) fun p e s m below meth c ls C hr hnm hl hS => w_X2_phrases C hr ⟨Nat.le_refl _, Nat.le_refl _⟩ N a0 h _ _ _ _ _ _ _ hf hS hl
/-- SungSlidesModel.phrase(II)I -/
theorem w_X2_phrase (C : xh_C cX2_phrase 3 "SungSlidesModel" D g p s m args meth c) (hr : meth.sig.returnType = (Option.some Jvm.ClassFile.FieldType.int)) (hR : 7 ≤ R.frames ∧ 157 ≤ R.locals) {rv : Int32} {hF : xh_H} (N : Nat) (a0 : Option Nat) (a1 : Int32) (a2 : Int32)  (h : xh_H) (H : Heap) (locs : List Loc) (cells slots kc ks : Nat) (ls : Array Slot) (hf : f_X2_phrase N a0 a1 a2 h = some (rv, hF, kc, ks)) (hS : xh_T D g s R h H locs cells slots kc ks) (hl : xh_L ls 3 [(0, va_rf a0), (1, .int a1), (2, .int a2)]) : W p l e R s m args below meth c H locs cells slots (MQ below (xh_Q D g (some (.int rv)) hF) args s R.cells R.slots (xh_A g)) (F0 m 0 ls []) := by
  have hx := C.1
  have hb := C.2.1
  unfold f_X2_phrase at hf
  refine lv_iload_n hx hb dX2_phrase_0 rfl (hl.at 1 rfl) ?_
  refine lv_iconst (v := 0) hx hb dX2_phrase_1 xi_c0 ?_
  refine xr_aload_n C dX2_phrase_2 rfl (hl.at 0 rfl) ?_
  refine xr_V (V := fun v => some (.int v)) (n := 0) (fr := 2) (lo := 45) (As := []) C hS xf_X2 (lw_V q1060 q1062 qs47 q60 q1063) hdv_X2_phrases ⟨Nat.le_trans (Nat.le_of_ble_eq_true rfl) hR.1, Nat.le_trans (Nat.le_of_ble_eq_true rfl) hR.2⟩ rfl hl.1.1 rfl (xm_rc rfl (xm_rc rfl xm_r0)) hf (fun v h1 k1 n1 e1 => ct_X2_phrases l D N e1) dX2_phrase_3 (fun x3 h H locs cells slots kc ks hS hf => ?_)
  refine W.eq (g2 := F0 m 6 ls [.int x3, .int (0 : Int32), .int a1]) rfl ?_
  refine lv_iconst (v := 1) hx hb dX2_phrase_6 xi_c1 ?_
  refine lv_isub hx hb dX2_phrase_7 ?_
  refine xr_S (V := fun v => some (.int v)) (n := 3) (fr := 0) (lo := 0) (As := [.int a1, .int (0 : Int32), .int (x3 - (1 : Int32))]) C hS (lw_S q873 q874 q60 q875) hd_X2_in ⟨Nat.le_trans (Nat.le_of_ble_eq_true rfl) hR.1, Nat.le_trans (Nat.le_of_ble_eq_true rfl) hR.2⟩ rfl hl.1.1 rfl xm_r0 hf (fun v h1 k1 n1 e1 => ct_X2_in l D N e1) dX2_phrase_8 (fun x8 h H locs cells slots kc ks hS hf => ?_)
  refine W.eq (g2 := F0 m 11 ls [.int x8]) rfl ?_
  refine lv_if_ne (tgt := 16) hx hb dX2_phrase_11 (by decide) (fun c11 => ?_) (fun c11 => ?_)
  · replace hf := xb_neg c11 hf
    refine lv_iload_n hx hb dX2_phrase_16 rfl (hl.at 2 rfl) ?_
    refine lv_iconst (v := 0) hx hb dX2_phrase_17 xi_c0 ?_
    refine lv_iconst (v := 4) hx hb dX2_phrase_18 xi_c4 ?_
    refine xr_S (V := fun v => some (.int v)) (n := 3) (fr := 0) (lo := 0) (As := [.int a2, .int (0 : Int32), .int (4 : Int32)]) C hS (lw_S q873 q874 q60 q875) hd_X2_in ⟨Nat.le_trans (Nat.le_of_ble_eq_true rfl) hR.1, Nat.le_trans (Nat.le_of_ble_eq_true rfl) hR.2⟩ rfl hl.1.1 rfl xm_r0 hf (fun v h1 k1 n1 e1 => ct_X2_in l D N e1) dX2_phrase_19 (fun x19 h H locs cells slots kc ks hS hf => ?_)
    refine W.eq (g2 := F0 m 22 ls [.int x19]) rfl ?_
    refine lv_if_ne (tgt := 28) hx hb dX2_phrase_22 (by decide) (fun c22 => ?_) (fun c22 => ?_)
    · replace hf := xb_neg c22 hf
      refine xr_aload_n C dX2_phrase_28 rfl (hl.at 0 rfl) ?_
      refine xr_V (V := fun _ => none) (n := 0) (fr := 6) (lo := 137) (As := []) C hS xf_X2 (lw_V q925 q927 qs27 q60 q928) hdv_X2_judgeSong ⟨Nat.le_trans (Nat.le_of_ble_eq_true rfl) hR.1, Nat.le_trans (Nat.le_of_ble_eq_true rfl) hR.2⟩ rfl hl.1.1 rfl xm_r0 hf (fun v h1 k1 n1 e1 => ct_X2_judgeSong l D N e1) dX2_phrase_29 (fun _ h H locs cells slots kc ks hS hf => ?_)
      refine W.eq (g2 := F0 m 32 ls []) rfl ?_
      refine xr_aload_n C dX2_phrase_32 rfl (hl.at 0 rfl) ?_
      refine lv_iload_n hx hb dX2_phrase_33 rfl (hl.at 1 rfl) ?_
      refine lv_iload_n hx hb dX2_phrase_34 rfl (hl.at 2 rfl) ?_
      refine xr_V (V := fun v => some (.int v)) (n := 2) (fr := 2) (lo := 45) (As := [.int a1, .int a2]) C hS xf_X2 (lw_V q1064 q1066 qs48 q60 q1067) hdv_X2_ofPhrase ⟨Nat.le_trans (Nat.le_of_ble_eq_true rfl) hR.1, Nat.le_trans (Nat.le_of_ble_eq_true rfl) hR.2⟩ rfl hl.1.1 rfl xm_r0 hf (fun v h1 k1 n1 e1 => ct_X2_ofPhrase l D N e1) dX2_phrase_35 (fun x35 h H locs cells slots kc ks hS hf => ?_)
      refine W.eq (g2 := F0 m 38 ls [.int x35]) rfl ?_
      exact xr_iret C hS hr hf dX2_phrase_38
    · replace hf := xb_pos c22 hf
      refine lv_bipush (v := -2) hx hb dX2_phrase_25 xi_bm2 ?_
      exact xr_iret C hS hr hf dX2_phrase_27
  · replace hf := xb_pos c11 hf
    refine lv_iconst (v := -1) hx hb dX2_phrase_14 xi_cm1 ?_
    exact xr_iret C hS hr hf dX2_phrase_15
theorem ct_X2_phrase (l : Launch) (D : xh_D) {rv : Int32} {h hF : xh_H} {kc ks : Nat} (N : Nat) {a0 : Option Nat} {a1 : Int32} {a2 : Int32} (hf : f_X2_phrase N a0 a1 a2 h = some (rv, hF, kc, ks)) : xh_Ct l D yX2_phrase (ws_ yX2_phrase cX2_phrase 3 (Option.some Jvm.ClassFile.FieldType.int)) 7 157 [va_rf a0, .int a1, .int a2] h (some (.int rv)) hF kc ks :=
  xh_meth (cc := cX2_phrase) l (by decide) (Nat.le_of_ble_eq_true rfl) (List.forall_mem_cons.mpr ⟨va_rf_cat _, List.forall_mem_cons.mpr ⟨rfl, List.forall_mem_cons.mpr ⟨rfl, fun _ h => absurd h List.not_mem_nil⟩⟩⟩) fun p e s m below meth c ls C hr hnm hl hS => w_X2_phrase C hr ⟨Nat.le_refl _, Nat.le_refl _⟩ N a0 a1 a2 h _ _ _ _ _ _ _ hf hS hl
def K_X2_allPoints_4 (p : Program) (l : Launch) (e : Env) (s : State) (m : MethodId) (args : Array Value) (below : List Frame) (meth : Method) (c : Code) (D : xh_D) (g : Nat → Nat) (R : Room) (rv : Int32) (hF : xh_H) (k : Option Nat → Int32 → Int32 → xh_H → xh_R Int32) : Prop := ∀ (a0 : Option Nat) (a1 : Int32) (a2 : Int32) (h : xh_H) (H : Heap) (locs : List Loc) (cells slots kc ks : Nat) (ls : Array Slot), k a0 a1 a2 h = some (rv, hF, kc, ks) → xh_T D g s R h H locs cells slots kc ks → xh_L ls 3 [(0, va_rf a0), (1, .int a1), (2, .int a2)] → W p l e R s m args below meth c H locs cells slots (MQ below (xh_Q D g (some (.int rv)) hF) args s R.cells R.slots (xh_A g)) (F0 m 4 ls [])
theorem w_X2_allPoints_b27 (C : xh_C cX2_allPoints 3 "SungSlidesModel" D g p s m args meth c) (hr : meth.sig.returnType = (Option.some Jvm.ClassFile.FieldType.int)) (hR : 3 ≤ R.frames ∧ 74 ≤ R.locals) {rv : Int32} {hF : xh_H} (N : Nat) : ∀ (a1 : Int32) (h : xh_H) (H : Heap) (locs : List Loc) (cells slots kc ks : Nat) (ls : Array Slot), f_X2_allPoints_b27 N a1 h = some (rv, hF, kc, ks) → xh_T D g s R h H locs cells slots kc ks → xh_L ls 3 [(1, .int a1)] → W p l e R s m args below meth c H locs cells slots (MQ below (xh_Q D g (some (.int rv)) hF) args s R.cells R.slots (xh_A g)) (F0 m 27 ls []) := by
  intro a1 h H locs cells slots kc ks ls hf hS hl
  have hx := C.1
  have hb := C.2.1
  unfold f_X2_allPoints_b27 at hf
  refine lv_iload_n hx hb dX2_allPoints_27 rfl (hl.at 0 rfl) ?_
  exact xr_iret C hS hr hf dX2_allPoints_28
theorem w_X2_allPoints_b4 (C : xh_C cX2_allPoints 3 "SungSlidesModel" D g p s m args meth c) (hr : meth.sig.returnType = (Option.some Jvm.ClassFile.FieldType.int)) (hR : 3 ≤ R.frames ∧ 74 ≤ R.locals) {rv : Int32} {hF : xh_H} (N : Nat) {k4 : Option Nat → Int32 → Int32 → xh_H → xh_R Int32} (hk4 : K_X2_allPoints_4 p l e s m args below meth c D g R rv hF k4) : ∀ (a0 : Option Nat) (a1 : Int32) (a2 : Int32) (h : xh_H) (H : Heap) (locs : List Loc) (cells slots kc ks : Nat) (ls : Array Slot), f_X2_allPoints_b4 N k4 a0 a1 a2 h = some (rv, hF, kc, ks) → xh_T D g s R h H locs cells slots kc ks → xh_L ls 3 [(0, va_rf a0), (1, .int a1), (2, .int a2)] → W p l e R s m args below meth c H locs cells slots (MQ below (xh_Q D g (some (.int rv)) hF) args s R.cells R.slots (xh_A g)) (F0 m 4 ls []) := by
  intro a0 a1 a2 h H locs cells slots kc ks ls hf hS hl
  have hx := C.1
  have hb := C.2.1
  unfold f_X2_allPoints_b4 at hf
  refine lv_iload_n hx hb dX2_allPoints_4 rfl (hl.at 2 rfl) ?_
  refine xr_aload_n C dX2_allPoints_5 rfl (hl.at 0 rfl) ?_
  refine xr_V (V := fun v => some (.int v)) (n := 0) (fr := 2) (lo := 45) (As := []) C hS xf_X2 (lw_V q1060 q1062 qs47 q60 q1063) hdv_X2_phrases ⟨Nat.le_trans (Nat.le_of_ble_eq_true rfl) hR.1, Nat.le_trans (Nat.le_of_ble_eq_true rfl) hR.2⟩ rfl hl.1.1 rfl (xm_rc rfl xm_r0) hf (fun v h1 k1 n1 e1 => ct_X2_phrases l D N e1) dX2_allPoints_6 (fun x6 h H locs cells slots kc ks hS hf => ?_)
  refine W.eq (g2 := F0 m 9 ls [.int x6, .int a2]) rfl ?_
  refine lv_icmp_ge (tgt := 27) hx hb dX2_allPoints_9 (by decide) (fun c9 => ?_) (fun c9 => ?_)
  · replace hf := xb_pos c9 hf
    exact w_X2_allPoints_b27 C hr hR N a1  h H locs cells slots kc ks ls hf hS (hl.sub [1] rfl)
  · replace hf := xb_neg c9 hf
    refine lv_iload_n hx hb dX2_allPoints_12 rfl (hl.at 1 rfl) ?_
    refine xr_aload_n C dX2_allPoints_13 rfl (hl.at 0 rfl) ?_
    refine lv_iload_n hx hb dX2_allPoints_14 rfl (hl.at 2 rfl) ?_
    refine lv_iconst (v := 3) hx hb dX2_allPoints_15 xi_c3 ?_
    refine xr_V (V := fun v => some (.int v)) (n := 2) (fr := 2) (lo := 45) (As := [.int a2, .int (3 : Int32)]) C hS xf_X2 (lw_V q1064 q1066 qs48 q60 q1067) hdv_X2_ofPhrase ⟨Nat.le_trans (Nat.le_of_ble_eq_true rfl) hR.1, Nat.le_trans (Nat.le_of_ble_eq_true rfl) hR.2⟩ rfl hl.1.1 rfl (xm_rc rfl xm_r0) hf (fun v h1 k1 n1 e1 => ct_X2_ofPhrase l D N e1) dX2_allPoints_16 (fun x16 h H locs cells slots kc ks hS hf => ?_)
    refine W.eq (g2 := F0 m 19 ls [.int x16, .int a1]) rfl ?_
    refine lv_iadd hx hb dX2_allPoints_19 ?_
    refine xr_istore_n C dX2_allPoints_20 rfl hl (Nat.le_of_ble_eq_true rfl) (lv' := [(1, .int (a1 + x16)), (0, va_rf a0), (2, .int a2)]) rfl (fun ls hl => ?_)
    refine xr_iinc C dX2_allPoints_21 hl (k := 2) rfl (xi_inc xi_c1) (Nat.le_of_ble_eq_true rfl) (lv' := [(2, .int (a2 + (1 : Int32))), (1, .int (a1 + x16)), (0, va_rf a0)]) rfl (fun ls hl => ?_)
    refine lv_goto (tgt := 4) hx hb dX2_allPoints_24 (by decide) ?_
    exact hk4 a0 (a1 + x16) (a2 + (1 : Int32))  h H locs cells slots kc ks ls hf hS (hl.sub [2, 1, 0] rfl)
theorem w_X2_allPoints_l4 (C : xh_C cX2_allPoints 3 "SungSlidesModel" D g p s m args meth c) (hr : meth.sig.returnType = (Option.some Jvm.ClassFile.FieldType.int)) (hR : 3 ≤ R.frames ∧ 74 ≤ R.locals) {rv : Int32} {hF : xh_H} (N : Nat) : ∀ n : Nat, K_X2_allPoints_4 p l e s m args below meth c D g R rv hF (f_X2_allPoints_l4 N n) := by
  intro n
  induction n with
  | zero => exact fun a0 a1 a2 h H locs cells slots kc ks ls hf => absurd (show (none : xh_R Int32) = some _ from hf) (by intro q; cases q)
  | succ n ih => exact fun a0 a1 a2 h H locs cells slots kc ks ls hf => w_X2_allPoints_b4 C hr hR N ih a0 a1 a2 h H locs cells slots kc ks ls hf
/-- SungSlidesModel.allPoints()I -/
theorem w_X2_allPoints (C : xh_C cX2_allPoints 3 "SungSlidesModel" D g p s m args meth c) (hr : meth.sig.returnType = (Option.some Jvm.ClassFile.FieldType.int)) (hR : 3 ≤ R.frames ∧ 74 ≤ R.locals) {rv : Int32} {hF : xh_H} (N : Nat) (a0 : Option Nat)  (h : xh_H) (H : Heap) (locs : List Loc) (cells slots kc ks : Nat) (ls : Array Slot) (hf : f_X2_allPoints N a0 h = some (rv, hF, kc, ks)) (hS : xh_T D g s R h H locs cells slots kc ks) (hl : xh_L ls 3 [(0, va_rf a0)]) : W p l e R s m args below meth c H locs cells slots (MQ below (xh_Q D g (some (.int rv)) hF) args s R.cells R.slots (xh_A g)) (F0 m 0 ls []) := by
  have hx := C.1
  have hb := C.2.1
  unfold f_X2_allPoints at hf
  refine lv_iconst (v := 0) hx hb dX2_allPoints_0 xi_c0 ?_
  refine xr_istore_n C dX2_allPoints_1 rfl hl (Nat.le_of_ble_eq_true rfl) (lv' := [(1, .int (0 : Int32)), (0, va_rf a0)]) rfl (fun ls hl => ?_)
  refine lv_iconst (v := 0) hx hb dX2_allPoints_2 xi_c0 ?_
  refine xr_istore_n C dX2_allPoints_3 rfl hl (Nat.le_of_ble_eq_true rfl) (lv' := [(2, .int (0 : Int32)), (1, .int (0 : Int32)), (0, va_rf a0)]) rfl (fun ls hl => ?_)
  exact w_X2_allPoints_l4 C hr hR N N a0 (0 : Int32) (0 : Int32)  h H locs cells slots kc ks ls hf hS (hl.sub [2, 1, 0] rfl)
theorem ct_X2_allPoints (l : Launch) (D : xh_D) {rv : Int32} {h hF : xh_H} {kc ks : Nat} (N : Nat) {a0 : Option Nat} (hf : f_X2_allPoints N a0 h = some (rv, hF, kc, ks)) : xh_Ct l D yX2_allPoints (ws_ yX2_allPoints cX2_allPoints 3 (Option.some Jvm.ClassFile.FieldType.int)) 3 74 [va_rf a0] h (some (.int rv)) hF kc ks :=
  xh_meth (cc := cX2_allPoints) l (by decide) (Nat.le_of_ble_eq_true rfl) (List.forall_mem_cons.mpr ⟨va_rf_cat _, fun _ h => absurd h List.not_mem_nil⟩) fun p e s m below meth c ls C hr hnm hl hS => w_X2_allPoints C hr ⟨Nat.le_refl _, Nat.le_refl _⟩ N a0 h _ _ _ _ _ _ _ hf hS hl
def K_X2_mostPoints_6 (p : Program) (l : Launch) (e : Env) (s : State) (m : MethodId) (args : Array Value) (below : List Frame) (meth : Method) (c : Code) (D : xh_D) (g : Nat → Nat) (R : Room) (rv : Int32) (hF : xh_H) (k : Option Nat → Int32 → Int32 → Int32 → xh_H → xh_R Int32) : Prop := ∀ (a0 : Option Nat) (a1 : Int32) (a2 : Int32) (a3 : Int32) (h : xh_H) (H : Heap) (locs : List Loc) (cells slots kc ks : Nat) (ls : Array Slot), k a0 a1 a2 a3 h = some (rv, hF, kc, ks) → xh_T D g s R h H locs cells slots kc ks → xh_L ls 4 [(0, va_rf a0), (1, .int a1), (2, .int a2), (3, .int a3)] → W p l e R s m args below meth c H locs cells slots (MQ below (xh_Q D g (some (.int rv)) hF) args s R.cells R.slots (xh_A g)) (F0 m 6 ls [])
theorem w_X2_mostPoints_b88 (C : xh_C cX2_mostPoints 4 "SungSlidesModel" D g p s m args meth c) (hr : meth.sig.returnType = (Option.some Jvm.ClassFile.FieldType.int)) (hR : 4 ≤ R.frames ∧ 92 ≤ R.locals) {rv : Int32} {hF : xh_H} (N : Nat) : ∀ (a1 : Int32) (h : xh_H) (H : Heap) (locs : List Loc) (cells slots kc ks : Nat) (ls : Array Slot), f_X2_mostPoints_b88 N a1 h = some (rv, hF, kc, ks) → xh_T D g s R h H locs cells slots kc ks → xh_L ls 4 [(1, .int a1)] → W p l e R s m args below meth c H locs cells slots (MQ below (xh_Q D g (some (.int rv)) hF) args s R.cells R.slots (xh_A g)) (F0 m 88 ls []) := by
  intro a1 h H locs cells slots kc ks ls hf hS hl
  have hx := C.1
  have hb := C.2.1
  unfold f_X2_mostPoints_b88 at hf
  refine lv_iload_n hx hb dX2_mostPoints_88 rfl (hl.at 0 rfl) ?_
  exact xr_iret C hS hr hf dX2_mostPoints_89
theorem w_X2_mostPoints_b80 (C : xh_C cX2_mostPoints 4 "SungSlidesModel" D g p s m args meth c) (hr : meth.sig.returnType = (Option.some Jvm.ClassFile.FieldType.int)) (hR : 4 ≤ R.frames ∧ 92 ≤ R.locals) {rv : Int32} {hF : xh_H} (N : Nat) {k6 : Option Nat → Int32 → Int32 → Int32 → xh_H → xh_R Int32} (hk6 : K_X2_mostPoints_6 p l e s m args below meth c D g R rv hF k6) : ∀ (a0 : Option Nat) (a2 : Int32) (a3 : Int32) (t0 : Int32) (t1 : Int32) (h : xh_H) (H : Heap) (locs : List Loc) (cells slots kc ks : Nat) (ls : Array Slot), f_X2_mostPoints_b80 N k6 a0 a2 a3 t0 t1 h = some (rv, hF, kc, ks) → xh_T D g s R h H locs cells slots kc ks → xh_L ls 4 [(0, va_rf a0), (2, .int a2), (3, .int a3)] → W p l e R s m args below meth c H locs cells slots (MQ below (xh_Q D g (some (.int rv)) hF) args s R.cells R.slots (xh_A g)) (F0 m 80 ls [.int t1, .int t0]) := by
  intro a0 a2 a3 t0 t1 h H locs cells slots kc ks ls hf hS hl
  have hx := C.1
  have hb := C.2.1
  unfold f_X2_mostPoints_b80 at hf
  refine lv_iadd hx hb dX2_mostPoints_80 ?_
  refine xr_istore_n C dX2_mostPoints_81 rfl hl (Nat.le_of_ble_eq_true rfl) (lv' := [(1, .int (t0 + t1)), (0, va_rf a0), (2, .int a2), (3, .int a3)]) rfl (fun ls hl => ?_)
  refine xr_iinc C dX2_mostPoints_82 hl (k := 3) rfl (xi_inc xi_c1) (Nat.le_of_ble_eq_true rfl) (lv' := [(3, .int (a3 + (1 : Int32))), (1, .int (t0 + t1)), (0, va_rf a0), (2, .int a2)]) rfl (fun ls hl => ?_)
  refine lv_goto (tgt := 6) hx hb dX2_mostPoints_85 (by decide) ?_
  exact hk6 a0 (t0 + t1) a2 (a3 + (1 : Int32))  h H locs cells slots kc ks ls hf hS (hl.sub [2, 1, 3, 0] rfl)
theorem w_X2_mostPoints_b58 (C : xh_C cX2_mostPoints 4 "SungSlidesModel" D g p s m args meth c) (hr : meth.sig.returnType = (Option.some Jvm.ClassFile.FieldType.int)) (hR : 4 ≤ R.frames ∧ 92 ≤ R.locals) {rv : Int32} {hF : xh_H} (N : Nat) {k6 : Option Nat → Int32 → Int32 → Int32 → xh_H → xh_R Int32} (hk6 : K_X2_mostPoints_6 p l e s m args below meth c D g R rv hF k6) : ∀ (a0 : Option Nat) (a2 : Int32) (a3 : Int32) (t0 : Int32) (t1 : Int32) (t2 : Int32) (t3 : Int32) (h : xh_H) (H : Heap) (locs : List Loc) (cells slots kc ks : Nat) (ls : Array Slot), f_X2_mostPoints_b58 N k6 a0 a2 a3 t0 t1 t2 t3 h = some (rv, hF, kc, ks) → xh_T D g s R h H locs cells slots kc ks → xh_L ls 4 [(0, va_rf a0), (2, .int a2), (3, .int a3)] → W p l e R s m args below meth c H locs cells slots (MQ below (xh_Q D g (some (.int rv)) hF) args s R.cells R.slots (xh_A g)) (F0 m 58 ls [.int t3, .int t2, .int t1, .int t0]) := by
  intro a0 a2 a3 t0 t1 t2 t3 h H locs cells slots kc ks ls hf hS hl
  have hx := C.1
  have hb := C.2.1
  unfold f_X2_mostPoints_b58 at hf
  refine lv_iadd hx hb dX2_mostPoints_58 ?_
  refine lv_imul hx hb dX2_mostPoints_59 ?_
  refine lv_bipush (v := 10) hx hb dX2_mostPoints_60 xi_b10 ?_
  refine lv_idiv hx hb dX2_mostPoints_62 (by decide) ?_
  refine lv_iadd hx hb dX2_mostPoints_63 ?_
  refine xr_istore_n C dX2_mostPoints_64 rfl hl (Nat.le_of_ble_eq_true rfl) (lv' := [(1, .int (t0 + ((t1 * (t2 + t3)) / (10 : Int32)))), (0, va_rf a0), (2, .int a2), (3, .int a3)]) rfl (fun ls hl => ?_)
  refine xr_iinc C dX2_mostPoints_65 hl (k := 2) rfl (xi_inc xi_c1) (Nat.le_of_ble_eq_true rfl) (lv' := [(2, .int (a2 + (1 : Int32))), (1, .int (t0 + ((t1 * (t2 + t3)) / (10 : Int32)))), (0, va_rf a0), (3, .int a3)]) rfl (fun ls hl => ?_)
  refine lv_iload_n hx hb dX2_mostPoints_68 rfl (hl.at 1 rfl) ?_
  refine lv_iload_n hx hb dX2_mostPoints_69 rfl (hl.at 0 rfl) ?_
  refine lv_iconst (v := 2) hx hb dX2_mostPoints_70 xi_c2 ?_
  refine lv_icmp_ne (tgt := 79) hx hb dX2_mostPoints_71 (by decide) (fun c71 => ?_) (fun c71 => ?_)
  · replace hf := xb_neg c71 hf
    refine lv_iconst (v := 0) hx hb dX2_mostPoints_79 xi_c0 ?_
    exact w_X2_mostPoints_b80 C hr hR N hk6 a0 (a2 + (1 : Int32)) a3 (t0 + ((t1 * (t2 + t3)) / (10 : Int32))) (0 : Int32) h H locs cells slots kc ks ls hf hS (hl.sub [2, 0, 3] rfl)
  · replace hf := xb_pos c71 hf
    refine lv_bipush (v := 50) hx hb dX2_mostPoints_74 xi_b50 ?_
    refine lv_goto (tgt := 80) hx hb dX2_mostPoints_76 (by decide) ?_
    exact w_X2_mostPoints_b80 C hr hR N hk6 a0 (a2 + (1 : Int32)) a3 (t0 + ((t1 * (t2 + t3)) / (10 : Int32))) (50 : Int32) h H locs cells slots kc ks ls hf hS (hl.sub [2, 0, 3] rfl)
theorem w_X2_mostPoints_b31 (C : xh_C cX2_mostPoints 4 "SungSlidesModel" D g p s m args meth c) (hr : meth.sig.returnType = (Option.some Jvm.ClassFile.FieldType.int)) (hR : 4 ≤ R.frames ∧ 92 ≤ R.locals) {rv : Int32} {hF : xh_H} (N : Nat) {k6 : Option Nat → Int32 → Int32 → Int32 → xh_H → xh_R Int32} (hk6 : K_X2_mostPoints_6 p l e s m args below meth c D g R rv hF k6) : ∀ (a0 : Option Nat) (a1 : Int32) (a3 : Int32) (t0 : Int32) (h : xh_H) (H : Heap) (locs : List Loc) (cells slots kc ks : Nat) (ls : Array Slot), f_X2_mostPoints_b31 N k6 a0 a1 a3 t0 h = some (rv, hF, kc, ks) → xh_T D g s R h H locs cells slots kc ks → xh_L ls 4 [(0, va_rf a0), (1, .int a1), (3, .int a3)] → W p l e R s m args below meth c H locs cells slots (MQ below (xh_Q D g (some (.int rv)) hF) args s R.cells R.slots (xh_A g)) (F0 m 31 ls [.int t0]) := by
  intro a0 a1 a3 t0 h H locs cells slots kc ks ls hf hS hl
  have hx := C.1
  have hb := C.2.1
  unfold f_X2_mostPoints_b31 at hf
  refine xr_istore_n C dX2_mostPoints_31 rfl hl (Nat.le_of_ble_eq_true rfl) (lv' := [(2, .int t0), (0, va_rf a0), (1, .int a1), (3, .int a3)]) rfl (fun ls hl => ?_)
  refine lv_iload_n hx hb dX2_mostPoints_32 rfl (hl.at 2 rfl) ?_
  refine lv_bipush (v := 100) hx hb dX2_mostPoints_33 xi_b100 ?_
  refine lv_iconst (v := 5) hx hb dX2_mostPoints_35 xi_c5 ?_
  refine xr_aload_n C dX2_mostPoints_36 rfl (hl.at 1 rfl) ?_
  refine lv_iload_n hx hb dX2_mostPoints_37 rfl (hl.at 3 rfl) ?_
  refine lv_iconst (v := 0) hx hb dX2_mostPoints_38 xi_c0 ?_
  refine xr_V (V := fun v => some (.int v)) (n := 2) (fr := 3) (lo := 68) (As := [.int a3, .int (0 : Int32)]) C hS xf_X2 (lw_V q968 q970 qs37 q60 q971) hdv_X2_bars ⟨Nat.le_trans (Nat.le_of_ble_eq_true rfl) hR.1, Nat.le_trans (Nat.le_of_ble_eq_true rfl) hR.2⟩ rfl hl.1.1 rfl (xm_rc rfl (xm_rc rfl (xm_rc rfl xm_r0))) hf (fun v h1 k1 n1 e1 => ct_X2_bars l D N e1) dX2_mostPoints_39 (fun x39 h H locs cells slots kc ks hS hf => ?_)
  refine W.eq (g2 := F0 m 42 ls [.int x39, .int (5 : Int32), .int (100 : Int32), .int a1]) rfl ?_
  refine lv_imul hx hb dX2_mostPoints_42 ?_
  refine lv_iadd hx hb dX2_mostPoints_43 ?_
  refine lv_bipush (v := 10) hx hb dX2_mostPoints_44 xi_b10 ?_
  refine lv_iload_n hx hb dX2_mostPoints_46 rfl (hl.at 0 rfl) ?_
  refine lv_bipush (v := 10) hx hb dX2_mostPoints_47 xi_b10 ?_
  refine lv_icmp_ge (tgt := 56) hx hb dX2_mostPoints_49 (by decide) (fun c49 => ?_) (fun c49 => ?_)
  · replace hf := xb_pos c49 hf
    refine lv_bipush (v := 10) hx hb dX2_mostPoints_56 xi_b10 ?_
    exact w_X2_mostPoints_b58 C hr hR N hk6 a0 t0 a3 a1 ((100 : Int32) + ((5 : Int32) * x39)) (10 : Int32) (10 : Int32) h H locs cells slots kc ks ls hf hS (hl.sub [1, 0, 3] rfl)
  · replace hf := xb_neg c49 hf
    refine lv_iload_n hx hb dX2_mostPoints_52 rfl (hl.at 0 rfl) ?_
    refine lv_goto (tgt := 58) hx hb dX2_mostPoints_53 (by decide) ?_
    exact w_X2_mostPoints_b58 C hr hR N hk6 a0 t0 a3 a1 ((100 : Int32) + ((5 : Int32) * x39)) (10 : Int32) t0 h H locs cells slots kc ks ls hf hS (hl.sub [1, 0, 3] rfl)
theorem w_X2_mostPoints_b6 (C : xh_C cX2_mostPoints 4 "SungSlidesModel" D g p s m args meth c) (hr : meth.sig.returnType = (Option.some Jvm.ClassFile.FieldType.int)) (hR : 4 ≤ R.frames ∧ 92 ≤ R.locals) {rv : Int32} {hF : xh_H} (N : Nat) {k6 : Option Nat → Int32 → Int32 → Int32 → xh_H → xh_R Int32} (hk6 : K_X2_mostPoints_6 p l e s m args below meth c D g R rv hF k6) : ∀ (a0 : Option Nat) (a1 : Int32) (a2 : Int32) (a3 : Int32) (h : xh_H) (H : Heap) (locs : List Loc) (cells slots kc ks : Nat) (ls : Array Slot), f_X2_mostPoints_b6 N k6 a0 a1 a2 a3 h = some (rv, hF, kc, ks) → xh_T D g s R h H locs cells slots kc ks → xh_L ls 4 [(0, va_rf a0), (1, .int a1), (2, .int a2), (3, .int a3)] → W p l e R s m args below meth c H locs cells slots (MQ below (xh_Q D g (some (.int rv)) hF) args s R.cells R.slots (xh_A g)) (F0 m 6 ls []) := by
  intro a0 a1 a2 a3 h H locs cells slots kc ks ls hf hS hl
  have hx := C.1
  have hb := C.2.1
  unfold f_X2_mostPoints_b6 at hf
  refine lv_iload_n hx hb dX2_mostPoints_6 rfl (hl.at 3 rfl) ?_
  refine xr_aload_n C dX2_mostPoints_7 rfl (hl.at 0 rfl) ?_
  refine xr_getR C hS xf_X2 0 (by decide) q817 (fun _ h => h) hf dX2_mostPoints_8 (fun x8 hf => ?_)
  refine lv_iconst (v := 5) hx hb dX2_mostPoints_11 xi_c5 ?_
  refine xr_iald C hS hf dX2_mostPoints_12 (fun x12 hf => ?_)
  refine lv_icmp_ge (tgt := 88) hx hb dX2_mostPoints_13 (by decide) (fun c13 => ?_) (fun c13 => ?_)
  · replace hf := xb_pos c13 hf
    exact w_X2_mostPoints_b88 C hr hR N a1  h H locs cells slots kc ks ls hf hS (hl.sub [1] rfl)
  · replace hf := xb_neg c13 hf
    refine xr_aload_n C dX2_mostPoints_16 rfl (hl.at 0 rfl) ?_
    refine lv_iload_n hx hb dX2_mostPoints_17 rfl (hl.at 3 rfl) ?_
    refine lv_iconst (v := 4) hx hb dX2_mostPoints_18 xi_c4 ?_
    refine xr_V (V := fun v => some (.int v)) (n := 2) (fr := 0) (lo := 0) (As := [.int a3, .int (4 : Int32)]) C hS xf_X2 (lw_V q888 q890 qs23 q60 q891) hdv_X2_of ⟨Nat.le_trans (Nat.le_of_ble_eq_true rfl) hR.1, Nat.le_trans (Nat.le_of_ble_eq_true rfl) hR.2⟩ rfl hl.1.1 rfl xm_r0 hf (fun v h1 k1 n1 e1 => ct_X2_of l D N e1) dX2_mostPoints_19 (fun x19 h H locs cells slots kc ks hS hf => ?_)
    refine W.eq (g2 := F0 m 22 ls [.int x19]) rfl ?_
    refine lv_iconst (v := 1) hx hb dX2_mostPoints_22 xi_c1 ?_
    refine lv_icmp_ne (tgt := 30) hx hb dX2_mostPoints_23 (by decide) (fun c23 => ?_) (fun c23 => ?_)
    · replace hf := xb_neg c23 hf
      refine lv_iload_n hx hb dX2_mostPoints_30 rfl (hl.at 2 rfl) ?_
      exact w_X2_mostPoints_b31 C hr hR N hk6 a0 a1 a3 a2 h H locs cells slots kc ks ls hf hS (hl.sub [0, 1, 3] rfl)
    · replace hf := xb_pos c23 hf
      refine lv_iconst (v := 0) hx hb dX2_mostPoints_26 xi_c0 ?_
      refine lv_goto (tgt := 31) hx hb dX2_mostPoints_27 (by decide) ?_
      exact w_X2_mostPoints_b31 C hr hR N hk6 a0 a1 a3 (0 : Int32) h H locs cells slots kc ks ls hf hS (hl.sub [0, 1, 3] rfl)
theorem w_X2_mostPoints_l6 (C : xh_C cX2_mostPoints 4 "SungSlidesModel" D g p s m args meth c) (hr : meth.sig.returnType = (Option.some Jvm.ClassFile.FieldType.int)) (hR : 4 ≤ R.frames ∧ 92 ≤ R.locals) {rv : Int32} {hF : xh_H} (N : Nat) : ∀ n : Nat, K_X2_mostPoints_6 p l e s m args below meth c D g R rv hF (f_X2_mostPoints_l6 N n) := by
  intro n
  induction n with
  | zero => exact fun a0 a1 a2 a3 h H locs cells slots kc ks ls hf => absurd (show (none : xh_R Int32) = some _ from hf) (by intro q; cases q)
  | succ n ih => exact fun a0 a1 a2 a3 h H locs cells slots kc ks ls hf => w_X2_mostPoints_b6 C hr hR N ih a0 a1 a2 a3 h H locs cells slots kc ks ls hf
/-- SungSlidesModel.mostPoints()I -/
theorem w_X2_mostPoints (C : xh_C cX2_mostPoints 4 "SungSlidesModel" D g p s m args meth c) (hr : meth.sig.returnType = (Option.some Jvm.ClassFile.FieldType.int)) (hR : 4 ≤ R.frames ∧ 92 ≤ R.locals) {rv : Int32} {hF : xh_H} (N : Nat) (a0 : Option Nat)  (h : xh_H) (H : Heap) (locs : List Loc) (cells slots kc ks : Nat) (ls : Array Slot) (hf : f_X2_mostPoints N a0 h = some (rv, hF, kc, ks)) (hS : xh_T D g s R h H locs cells slots kc ks) (hl : xh_L ls 4 [(0, va_rf a0)]) : W p l e R s m args below meth c H locs cells slots (MQ below (xh_Q D g (some (.int rv)) hF) args s R.cells R.slots (xh_A g)) (F0 m 0 ls []) := by
  have hx := C.1
  have hb := C.2.1
  unfold f_X2_mostPoints at hf
  refine lv_iconst (v := 0) hx hb dX2_mostPoints_0 xi_c0 ?_
  refine xr_istore_n C dX2_mostPoints_1 rfl hl (Nat.le_of_ble_eq_true rfl) (lv' := [(1, .int (0 : Int32)), (0, va_rf a0)]) rfl (fun ls hl => ?_)
  refine lv_iconst (v := 0) hx hb dX2_mostPoints_2 xi_c0 ?_
  refine xr_istore_n C dX2_mostPoints_3 rfl hl (Nat.le_of_ble_eq_true rfl) (lv' := [(2, .int (0 : Int32)), (1, .int (0 : Int32)), (0, va_rf a0)]) rfl (fun ls hl => ?_)
  refine lv_iconst (v := 0) hx hb dX2_mostPoints_4 xi_c0 ?_
  refine xr_istore_n C dX2_mostPoints_5 rfl hl (Nat.le_of_ble_eq_true rfl) (lv' := [(3, .int (0 : Int32)), (2, .int (0 : Int32)), (1, .int (0 : Int32)), (0, va_rf a0)]) rfl (fun ls hl => ?_)
  exact w_X2_mostPoints_l6 C hr hR N N a0 (0 : Int32) (0 : Int32) (0 : Int32)  h H locs cells slots kc ks ls hf hS (hl.sub [3, 2, 1, 0] rfl)
theorem ct_X2_mostPoints (l : Launch) (D : xh_D) {rv : Int32} {h hF : xh_H} {kc ks : Nat} (N : Nat) {a0 : Option Nat} (hf : f_X2_mostPoints N a0 h = some (rv, hF, kc, ks)) : xh_Ct l D yX2_mostPoints (ws_ yX2_mostPoints cX2_mostPoints 4 (Option.some Jvm.ClassFile.FieldType.int)) 4 92 [va_rf a0] h (some (.int rv)) hF kc ks :=
  xh_meth (cc := cX2_mostPoints) l (by decide) (Nat.le_of_ble_eq_true rfl) (List.forall_mem_cons.mpr ⟨va_rf_cat _, fun _ h => absurd h List.not_mem_nil⟩) fun p e s m below meth c ls C hr hnm hl hS => w_X2_mostPoints C hr ⟨Nat.le_refl _, Nat.le_refl _⟩ N a0 h _ _ _ _ _ _ _ hf hS hl
def K_X2_onsets_4 (p : Program) (l : Launch) (e : Env) (s : State) (m : MethodId) (args : Array Value) (below : List Frame) (meth : Method) (c : Code) (D : xh_D) (g : Nat → Nat) (R : Room) (rv : Int32) (hF : xh_H) (k : Option Nat → Int32 → Int32 → xh_H → xh_R Int32) : Prop := ∀ (a0 : Option Nat) (a1 : Int32) (a2 : Int32) (h : xh_H) (H : Heap) (locs : List Loc) (cells slots kc ks : Nat) (ls : Array Slot), k a0 a1 a2 h = some (rv, hF, kc, ks) → xh_T D g s R h H locs cells slots kc ks → xh_L ls 3 [(0, va_rf a0), (1, .int a1), (2, .int a2)] → W p l e R s m args below meth c H locs cells slots (MQ below (xh_Q D g (some (.int rv)) hF) args s R.cells R.slots (xh_A g)) (F0 m 4 ls [])
theorem w_X2_onsets_b33 (C : xh_C cX2_onsets 3 "SungSlidesModel" D g p s m args meth c) (hr : meth.sig.returnType = (Option.some Jvm.ClassFile.FieldType.int)) (hR : 1 ≤ R.frames ∧ 21 ≤ R.locals) {rv : Int32} {hF : xh_H} (N : Nat) : ∀ (a1 : Int32) (h : xh_H) (H : Heap) (locs : List Loc) (cells slots kc ks : Nat) (ls : Array Slot), f_X2_onsets_b33 N a1 h = some (rv, hF, kc, ks) → xh_T D g s R h H locs cells slots kc ks → xh_L ls 3 [(1, .int a1)] → W p l e R s m args below meth c H locs cells slots (MQ below (xh_Q D g (some (.int rv)) hF) args s R.cells R.slots (xh_A g)) (F0 m 33 ls []) := by
  intro a1 h H locs cells slots kc ks ls hf hS hl
  have hx := C.1
  have hb := C.2.1
  unfold f_X2_onsets_b33 at hf
  refine lv_iload_n hx hb dX2_onsets_33 rfl (hl.at 0 rfl) ?_
  exact xr_iret C hS hr hf dX2_onsets_34
theorem w_X2_onsets_b25 (C : xh_C cX2_onsets 3 "SungSlidesModel" D g p s m args meth c) (hr : meth.sig.returnType = (Option.some Jvm.ClassFile.FieldType.int)) (hR : 1 ≤ R.frames ∧ 21 ≤ R.locals) {rv : Int32} {hF : xh_H} (N : Nat) {k4 : Option Nat → Int32 → Int32 → xh_H → xh_R Int32} (hk4 : K_X2_onsets_4 p l e s m args below meth c D g R rv hF k4) : ∀ (a0 : Option Nat) (a2 : Int32) (t0 : Int32) (t1 : Int32) (h : xh_H) (H : Heap) (locs : List Loc) (cells slots kc ks : Nat) (ls : Array Slot), f_X2_onsets_b25 N k4 a0 a2 t0 t1 h = some (rv, hF, kc, ks) → xh_T D g s R h H locs cells slots kc ks → xh_L ls 3 [(0, va_rf a0), (2, .int a2)] → W p l e R s m args below meth c H locs cells slots (MQ below (xh_Q D g (some (.int rv)) hF) args s R.cells R.slots (xh_A g)) (F0 m 25 ls [.int t1, .int t0]) := by
  intro a0 a2 t0 t1 h H locs cells slots kc ks ls hf hS hl
  have hx := C.1
  have hb := C.2.1
  unfold f_X2_onsets_b25 at hf
  refine lv_iadd hx hb dX2_onsets_25 ?_
  refine xr_istore_n C dX2_onsets_26 rfl hl (Nat.le_of_ble_eq_true rfl) (lv' := [(1, .int (t0 + t1)), (0, va_rf a0), (2, .int a2)]) rfl (fun ls hl => ?_)
  refine xr_iinc C dX2_onsets_27 hl (k := 2) rfl (xi_inc xi_c1) (Nat.le_of_ble_eq_true rfl) (lv' := [(2, .int (a2 + (1 : Int32))), (1, .int (t0 + t1)), (0, va_rf a0)]) rfl (fun ls hl => ?_)
  refine lv_goto (tgt := 4) hx hb dX2_onsets_30 (by decide) ?_
  exact hk4 a0 (t0 + t1) (a2 + (1 : Int32))  h H locs cells slots kc ks ls hf hS (hl.sub [2, 1, 0] rfl)
theorem w_X2_onsets_b4 (C : xh_C cX2_onsets 3 "SungSlidesModel" D g p s m args meth c) (hr : meth.sig.returnType = (Option.some Jvm.ClassFile.FieldType.int)) (hR : 1 ≤ R.frames ∧ 21 ≤ R.locals) {rv : Int32} {hF : xh_H} (N : Nat) {k4 : Option Nat → Int32 → Int32 → xh_H → xh_R Int32} (hk4 : K_X2_onsets_4 p l e s m args below meth c D g R rv hF k4) : ∀ (a0 : Option Nat) (a1 : Int32) (a2 : Int32) (h : xh_H) (H : Heap) (locs : List Loc) (cells slots kc ks : Nat) (ls : Array Slot), f_X2_onsets_b4 N k4 a0 a1 a2 h = some (rv, hF, kc, ks) → xh_T D g s R h H locs cells slots kc ks → xh_L ls 3 [(0, va_rf a0), (1, .int a1), (2, .int a2)] → W p l e R s m args below meth c H locs cells slots (MQ below (xh_Q D g (some (.int rv)) hF) args s R.cells R.slots (xh_A g)) (F0 m 4 ls []) := by
  intro a0 a1 a2 h H locs cells slots kc ks ls hf hS hl
  have hx := C.1
  have hb := C.2.1
  unfold f_X2_onsets_b4 at hf
  refine lv_iload_n hx hb dX2_onsets_4 rfl (hl.at 2 rfl) ?_
  refine lv_sipush (v := 600) hx hb dX2_onsets_5 xi_s600 ?_
  refine lv_icmp_ge (tgt := 33) hx hb dX2_onsets_8 (by decide) (fun c8 => ?_) (fun c8 => ?_)
  · replace hf := xb_pos c8 hf
    exact w_X2_onsets_b33 C hr hR N a1  h H locs cells slots kc ks ls hf hS (hl.sub [1] rfl)
  · replace hf := xb_neg c8 hf
    refine lv_iload_n hx hb dX2_onsets_11 rfl (hl.at 1 rfl) ?_
    refine xr_aload_n C dX2_onsets_12 rfl (hl.at 0 rfl) ?_
    refine lv_iload_n hx hb dX2_onsets_13 rfl (hl.at 2 rfl) ?_
    refine xr_V (V := fun v => some (.int v)) (n := 1) (fr := 0) (lo := 0) (As := [.int a2]) C hS xf_X2 (lw_V q952 q954 qs33 q60 q955) hdv_X2_isOnset ⟨Nat.le_trans (Nat.le_of_ble_eq_true rfl) hR.1, Nat.le_trans (Nat.le_of_ble_eq_true rfl) hR.2⟩ rfl hl.1.1 rfl (xm_rc rfl xm_r0) hf (fun v h1 k1 n1 e1 => ct_X2_isOnset l D N e1) dX2_onsets_14 (fun x14 h H locs cells slots kc ks hS hf => ?_)
    refine W.eq (g2 := F0 m 17 ls [.int x14, .int a1]) rfl ?_
    refine lv_if_eq (tgt := 24) hx hb dX2_onsets_17 (by decide) (fun c17 => ?_) (fun c17 => ?_)
    · replace hf := xb_pos c17 hf
      refine lv_iconst (v := 0) hx hb dX2_onsets_24 xi_c0 ?_
      exact w_X2_onsets_b25 C hr hR N hk4 a0 a2 a1 (0 : Int32) h H locs cells slots kc ks ls hf hS (hl.sub [0, 2] rfl)
    · replace hf := xb_neg c17 hf
      refine lv_iconst (v := 1) hx hb dX2_onsets_20 xi_c1 ?_
      refine lv_goto (tgt := 25) hx hb dX2_onsets_21 (by decide) ?_
      exact w_X2_onsets_b25 C hr hR N hk4 a0 a2 a1 (1 : Int32) h H locs cells slots kc ks ls hf hS (hl.sub [0, 2] rfl)
theorem w_X2_onsets_l4 (C : xh_C cX2_onsets 3 "SungSlidesModel" D g p s m args meth c) (hr : meth.sig.returnType = (Option.some Jvm.ClassFile.FieldType.int)) (hR : 1 ≤ R.frames ∧ 21 ≤ R.locals) {rv : Int32} {hF : xh_H} (N : Nat) : ∀ n : Nat, K_X2_onsets_4 p l e s m args below meth c D g R rv hF (f_X2_onsets_l4 N n) := by
  intro n
  induction n with
  | zero => exact fun a0 a1 a2 h H locs cells slots kc ks ls hf => absurd (show (none : xh_R Int32) = some _ from hf) (by intro q; cases q)
  | succ n ih => exact fun a0 a1 a2 h H locs cells slots kc ks ls hf => w_X2_onsets_b4 C hr hR N ih a0 a1 a2 h H locs cells slots kc ks ls hf
/-- SungSlidesModel.onsets()I -/
theorem w_X2_onsets (C : xh_C cX2_onsets 3 "SungSlidesModel" D g p s m args meth c) (hr : meth.sig.returnType = (Option.some Jvm.ClassFile.FieldType.int)) (hR : 1 ≤ R.frames ∧ 21 ≤ R.locals) {rv : Int32} {hF : xh_H} (N : Nat) (a0 : Option Nat)  (h : xh_H) (H : Heap) (locs : List Loc) (cells slots kc ks : Nat) (ls : Array Slot) (hf : f_X2_onsets N a0 h = some (rv, hF, kc, ks)) (hS : xh_T D g s R h H locs cells slots kc ks) (hl : xh_L ls 3 [(0, va_rf a0)]) : W p l e R s m args below meth c H locs cells slots (MQ below (xh_Q D g (some (.int rv)) hF) args s R.cells R.slots (xh_A g)) (F0 m 0 ls []) := by
  have hx := C.1
  have hb := C.2.1
  unfold f_X2_onsets at hf
  refine lv_iconst (v := 0) hx hb dX2_onsets_0 xi_c0 ?_
  refine xr_istore_n C dX2_onsets_1 rfl hl (Nat.le_of_ble_eq_true rfl) (lv' := [(1, .int (0 : Int32)), (0, va_rf a0)]) rfl (fun ls hl => ?_)
  refine lv_iconst (v := 0) hx hb dX2_onsets_2 xi_c0 ?_
  refine xr_istore_n C dX2_onsets_3 rfl hl (Nat.le_of_ble_eq_true rfl) (lv' := [(2, .int (0 : Int32)), (1, .int (0 : Int32)), (0, va_rf a0)]) rfl (fun ls hl => ?_)
  exact w_X2_onsets_l4 C hr hR N N a0 (0 : Int32) (0 : Int32)  h H locs cells slots kc ks ls hf hS (hl.sub [2, 1, 0] rfl)
theorem ct_X2_onsets (l : Launch) (D : xh_D) {rv : Int32} {h hF : xh_H} {kc ks : Nat} (N : Nat) {a0 : Option Nat} (hf : f_X2_onsets N a0 h = some (rv, hF, kc, ks)) : xh_Ct l D yX2_onsets (ws_ yX2_onsets cX2_onsets 3 (Option.some Jvm.ClassFile.FieldType.int)) 1 21 [va_rf a0] h (some (.int rv)) hF kc ks :=
  xh_meth (cc := cX2_onsets) l (by decide) (Nat.le_of_ble_eq_true rfl) (List.forall_mem_cons.mpr ⟨va_rf_cat _, fun _ h => absurd h List.not_mem_nil⟩) fun p e s m below meth c ls C hr hnm hl hS => w_X2_onsets C hr ⟨Nat.le_refl _, Nat.le_refl _⟩ N a0 h _ _ _ _ _ _ _ hf hS hl
def K_X2_sungTicks_4 (p : Program) (l : Launch) (e : Env) (s : State) (m : MethodId) (args : Array Value) (below : List Frame) (meth : Method) (c : Code) (D : xh_D) (g : Nat → Nat) (R : Room) (rv : Int32) (hF : xh_H) (k : Option Nat → Int32 → Int32 → xh_H → xh_R Int32) : Prop := ∀ (a0 : Option Nat) (a1 : Int32) (a2 : Int32) (h : xh_H) (H : Heap) (locs : List Loc) (cells slots kc ks : Nat) (ls : Array Slot), k a0 a1 a2 h = some (rv, hF, kc, ks) → xh_T D g s R h H locs cells slots kc ks → xh_L ls 3 [(0, va_rf a0), (1, .int a1), (2, .int a2)] → W p l e R s m args below meth c H locs cells slots (MQ below (xh_Q D g (some (.int rv)) hF) args s R.cells R.slots (xh_A g)) (F0 m 4 ls [])
theorem w_X2_sungTicks_b34 (C : xh_C cX2_sungTicks 3 "SungSlidesModel" D g p s m args meth c) (hr : meth.sig.returnType = (Option.some Jvm.ClassFile.FieldType.int)) (hR : 0 ≤ R.frames ∧ 0 ≤ R.locals) {rv : Int32} {hF : xh_H} (N : Nat) : ∀ (a1 : Int32) (h : xh_H) (H : Heap) (locs : List Loc) (cells slots kc ks : Nat) (ls : Array Slot), f_X2_sungTicks_b34 N a1 h = some (rv, hF, kc, ks) → xh_T D g s R h H locs cells slots kc ks → xh_L ls 3 [(1, .int a1)] → W p l e R s m args below meth c H locs cells slots (MQ below (xh_Q D g (some (.int rv)) hF) args s R.cells R.slots (xh_A g)) (F0 m 34 ls []) := by
  intro a1 h H locs cells slots kc ks ls hf hS hl
  have hx := C.1
  have hb := C.2.1
  unfold f_X2_sungTicks_b34 at hf
  refine lv_iload_n hx hb dX2_sungTicks_34 rfl (hl.at 0 rfl) ?_
  exact xr_iret C hS hr hf dX2_sungTicks_35
theorem w_X2_sungTicks_b26 (C : xh_C cX2_sungTicks 3 "SungSlidesModel" D g p s m args meth c) (hr : meth.sig.returnType = (Option.some Jvm.ClassFile.FieldType.int)) (hR : 0 ≤ R.frames ∧ 0 ≤ R.locals) {rv : Int32} {hF : xh_H} (N : Nat) {k4 : Option Nat → Int32 → Int32 → xh_H → xh_R Int32} (hk4 : K_X2_sungTicks_4 p l e s m args below meth c D g R rv hF k4) : ∀ (a0 : Option Nat) (a2 : Int32) (t0 : Int32) (t1 : Int32) (h : xh_H) (H : Heap) (locs : List Loc) (cells slots kc ks : Nat) (ls : Array Slot), f_X2_sungTicks_b26 N k4 a0 a2 t0 t1 h = some (rv, hF, kc, ks) → xh_T D g s R h H locs cells slots kc ks → xh_L ls 3 [(0, va_rf a0), (2, .int a2)] → W p l e R s m args below meth c H locs cells slots (MQ below (xh_Q D g (some (.int rv)) hF) args s R.cells R.slots (xh_A g)) (F0 m 26 ls [.int t1, .int t0]) := by
  intro a0 a2 t0 t1 h H locs cells slots kc ks ls hf hS hl
  have hx := C.1
  have hb := C.2.1
  unfold f_X2_sungTicks_b26 at hf
  refine lv_iadd hx hb dX2_sungTicks_26 ?_
  refine xr_istore_n C dX2_sungTicks_27 rfl hl (Nat.le_of_ble_eq_true rfl) (lv' := [(1, .int (t0 + t1)), (0, va_rf a0), (2, .int a2)]) rfl (fun ls hl => ?_)
  refine xr_iinc C dX2_sungTicks_28 hl (k := 2) rfl (xi_inc xi_c1) (Nat.le_of_ble_eq_true rfl) (lv' := [(2, .int (a2 + (1 : Int32))), (1, .int (t0 + t1)), (0, va_rf a0)]) rfl (fun ls hl => ?_)
  refine lv_goto (tgt := 4) hx hb dX2_sungTicks_31 (by decide) ?_
  exact hk4 a0 (t0 + t1) (a2 + (1 : Int32))  h H locs cells slots kc ks ls hf hS (hl.sub [2, 1, 0] rfl)
theorem w_X2_sungTicks_b4 (C : xh_C cX2_sungTicks 3 "SungSlidesModel" D g p s m args meth c) (hr : meth.sig.returnType = (Option.some Jvm.ClassFile.FieldType.int)) (hR : 0 ≤ R.frames ∧ 0 ≤ R.locals) {rv : Int32} {hF : xh_H} (N : Nat) {k4 : Option Nat → Int32 → Int32 → xh_H → xh_R Int32} (hk4 : K_X2_sungTicks_4 p l e s m args below meth c D g R rv hF k4) : ∀ (a0 : Option Nat) (a1 : Int32) (a2 : Int32) (h : xh_H) (H : Heap) (locs : List Loc) (cells slots kc ks : Nat) (ls : Array Slot), f_X2_sungTicks_b4 N k4 a0 a1 a2 h = some (rv, hF, kc, ks) → xh_T D g s R h H locs cells slots kc ks → xh_L ls 3 [(0, va_rf a0), (1, .int a1), (2, .int a2)] → W p l e R s m args below meth c H locs cells slots (MQ below (xh_Q D g (some (.int rv)) hF) args s R.cells R.slots (xh_A g)) (F0 m 4 ls []) := by
  intro a0 a1 a2 h H locs cells slots kc ks ls hf hS hl
  have hx := C.1
  have hb := C.2.1
  unfold f_X2_sungTicks_b4 at hf
  refine lv_iload_n hx hb dX2_sungTicks_4 rfl (hl.at 2 rfl) ?_
  refine lv_sipush (v := 600) hx hb dX2_sungTicks_5 xi_s600 ?_
  refine lv_icmp_ge (tgt := 34) hx hb dX2_sungTicks_8 (by decide) (fun c8 => ?_) (fun c8 => ?_)
  · replace hf := xb_pos c8 hf
    exact w_X2_sungTicks_b34 C hr hR N a1  h H locs cells slots kc ks ls hf hS (hl.sub [1] rfl)
  · replace hf := xb_neg c8 hf
    refine lv_iload_n hx hb dX2_sungTicks_11 rfl (hl.at 1 rfl) ?_
    refine xr_aload_n C dX2_sungTicks_12 rfl (hl.at 0 rfl) ?_
    refine xr_getR C hS xf_X2 7 (by decide) q824 (fun _ h => h) hf dX2_sungTicks_13 (fun x13 hf => ?_)
    refine lv_iload_n hx hb dX2_sungTicks_16 rfl (hl.at 2 rfl) ?_
    refine xr_iald C hS hf dX2_sungTicks_17 (fun x17 hf => ?_)
    refine lv_if_le (tgt := 25) hx hb dX2_sungTicks_18 (by decide) (fun c18 => ?_) (fun c18 => ?_)
    · replace hf := xb_pos c18 hf
      refine lv_iconst (v := 0) hx hb dX2_sungTicks_25 xi_c0 ?_
      exact w_X2_sungTicks_b26 C hr hR N hk4 a0 a2 a1 (0 : Int32) h H locs cells slots kc ks ls hf hS (hl.sub [0, 2] rfl)
    · replace hf := xb_neg c18 hf
      refine lv_iconst (v := 1) hx hb dX2_sungTicks_21 xi_c1 ?_
      refine lv_goto (tgt := 26) hx hb dX2_sungTicks_22 (by decide) ?_
      exact w_X2_sungTicks_b26 C hr hR N hk4 a0 a2 a1 (1 : Int32) h H locs cells slots kc ks ls hf hS (hl.sub [0, 2] rfl)
theorem w_X2_sungTicks_l4 (C : xh_C cX2_sungTicks 3 "SungSlidesModel" D g p s m args meth c) (hr : meth.sig.returnType = (Option.some Jvm.ClassFile.FieldType.int)) (hR : 0 ≤ R.frames ∧ 0 ≤ R.locals) {rv : Int32} {hF : xh_H} (N : Nat) : ∀ n : Nat, K_X2_sungTicks_4 p l e s m args below meth c D g R rv hF (f_X2_sungTicks_l4 N n) := by
  intro n
  induction n with
  | zero => exact fun a0 a1 a2 h H locs cells slots kc ks ls hf => absurd (show (none : xh_R Int32) = some _ from hf) (by intro q; cases q)
  | succ n ih => exact fun a0 a1 a2 h H locs cells slots kc ks ls hf => w_X2_sungTicks_b4 C hr hR N ih a0 a1 a2 h H locs cells slots kc ks ls hf
/-- SungSlidesModel.sungTicks()I -/
theorem w_X2_sungTicks (C : xh_C cX2_sungTicks 3 "SungSlidesModel" D g p s m args meth c) (hr : meth.sig.returnType = (Option.some Jvm.ClassFile.FieldType.int)) (hR : 0 ≤ R.frames ∧ 0 ≤ R.locals) {rv : Int32} {hF : xh_H} (N : Nat) (a0 : Option Nat)  (h : xh_H) (H : Heap) (locs : List Loc) (cells slots kc ks : Nat) (ls : Array Slot) (hf : f_X2_sungTicks N a0 h = some (rv, hF, kc, ks)) (hS : xh_T D g s R h H locs cells slots kc ks) (hl : xh_L ls 3 [(0, va_rf a0)]) : W p l e R s m args below meth c H locs cells slots (MQ below (xh_Q D g (some (.int rv)) hF) args s R.cells R.slots (xh_A g)) (F0 m 0 ls []) := by
  have hx := C.1
  have hb := C.2.1
  unfold f_X2_sungTicks at hf
  refine lv_iconst (v := 0) hx hb dX2_sungTicks_0 xi_c0 ?_
  refine xr_istore_n C dX2_sungTicks_1 rfl hl (Nat.le_of_ble_eq_true rfl) (lv' := [(1, .int (0 : Int32)), (0, va_rf a0)]) rfl (fun ls hl => ?_)
  refine lv_iconst (v := 0) hx hb dX2_sungTicks_2 xi_c0 ?_
  refine xr_istore_n C dX2_sungTicks_3 rfl hl (Nat.le_of_ble_eq_true rfl) (lv' := [(2, .int (0 : Int32)), (1, .int (0 : Int32)), (0, va_rf a0)]) rfl (fun ls hl => ?_)
  exact w_X2_sungTicks_l4 C hr hR N N a0 (0 : Int32) (0 : Int32)  h H locs cells slots kc ks ls hf hS (hl.sub [2, 1, 0] rfl)
theorem ct_X2_sungTicks (l : Launch) (D : xh_D) {rv : Int32} {h hF : xh_H} {kc ks : Nat} (N : Nat) {a0 : Option Nat} (hf : f_X2_sungTicks N a0 h = some (rv, hF, kc, ks)) : xh_Ct l D yX2_sungTicks (ws_ yX2_sungTicks cX2_sungTicks 3 (Option.some Jvm.ClassFile.FieldType.int)) 0 0 [va_rf a0] h (some (.int rv)) hF kc ks :=
  xh_meth (cc := cX2_sungTicks) l (by decide) (Nat.le_of_ble_eq_true rfl) (List.forall_mem_cons.mpr ⟨va_rf_cat _, fun _ h => absurd h List.not_mem_nil⟩) fun p e s m below meth c ls C hr hnm hl hS => w_X2_sungTicks C hr ⟨Nat.le_refl _, Nat.le_refl _⟩ N a0 h _ _ _ _ _ _ _ hf hS hl
/-- SungSlidesModel.total(I)I -/
theorem w_X2_total (C : xh_C cX2_total 2 "SungSlidesModel" D g p s m args meth c) (hr : meth.sig.returnType = (Option.some Jvm.ClassFile.FieldType.int)) (hR : 7 ≤ R.frames ∧ 157 ≤ R.locals) {rv : Int32} {hF : xh_H} (N : Nat) (a0 : Option Nat) (a1 : Int32)  (h : xh_H) (H : Heap) (locs : List Loc) (cells slots kc ks : Nat) (ls : Array Slot) (hf : f_X2_total N a0 a1 h = some (rv, hF, kc, ks)) (hS : xh_T D g s R h H locs cells slots kc ks) (hl : xh_L ls 2 [(0, va_rf a0), (1, .int a1)]) : W p l e R s m args below meth c H locs cells slots (MQ below (xh_Q D g (some (.int rv)) hF) args s R.cells R.slots (xh_A g)) (F0 m 0 ls []) := by
  have hx := C.1
  have hb := C.2.1
  unfold f_X2_total at hf
  refine xr_aload_n C dX2_total_0 rfl (hl.at 0 rfl) ?_
  refine xr_V (V := fun _ => none) (n := 0) (fr := 6) (lo := 137) (As := []) C hS xf_X2 (lw_V q925 q927 qs27 q60 q928) hdv_X2_judgeSong ⟨Nat.le_trans (Nat.le_of_ble_eq_true rfl) hR.1, Nat.le_trans (Nat.le_of_ble_eq_true rfl) hR.2⟩ rfl hl.1.1 rfl xm_r0 hf (fun v h1 k1 n1 e1 => ct_X2_judgeSong l D N e1) dX2_total_1 (fun _ h H locs cells slots kc ks hS hf => ?_)
  refine W.eq (g2 := F0 m 4 ls []) rfl ?_
  refine lv_iload_n hx hb dX2_total_4 rfl (hl.at 1 rfl) ?_
  by_cases c5_6 : a1 = 6
  · replace hf := xb_pos c5_6 hf
    refine xr_tab c5_6 C dX2_total_5 (by decide) (by decide) (off := 51) (tgt := 56) (by decide) (by decide) ?_
    refine xr_aload_n C dX2_total_56 rfl (hl.at 0 rfl) ?_
    refine xr_V (V := fun v => some (.int v)) (n := 0) (fr := 2) (lo := 45) (As := []) C hS xf_X2 (lw_V q1060 q1062 qs47 q60 q1063) hdv_X2_phrases ⟨Nat.le_trans (Nat.le_of_ble_eq_true rfl) hR.1, Nat.le_trans (Nat.le_of_ble_eq_true rfl) hR.2⟩ rfl hl.1.1 rfl xm_r0 hf (fun v h1 k1 n1 e1 => ct_X2_phrases l D N e1) dX2_total_57 (fun x57 h H locs cells slots kc ks hS hf => ?_)
    refine W.eq (g2 := F0 m 60 ls [.int x57]) rfl ?_
    exact xr_iret C hS hr hf dX2_total_60
  replace hf := xb_neg c5_6 hf
  by_cases c5_7 : a1 = 7
  · replace hf := xb_pos c5_7 hf
    refine xr_tab c5_7 C dX2_total_5 (by decide) (by decide) (off := 56) (tgt := 61) (by decide) (by decide) ?_
    refine xr_aload_n C dX2_total_61 rfl (hl.at 0 rfl) ?_
    refine xr_V (V := fun v => some (.int v)) (n := 0) (fr := 2) (lo := 43) (As := []) C hS xf_X2 (lw_V q880 q882 qs21 q60 q883) hdv_X2_endOfSong ⟨Nat.le_trans (Nat.le_of_ble_eq_true rfl) hR.1, Nat.le_trans (Nat.le_of_ble_eq_true rfl) hR.2⟩ rfl hl.1.1 rfl xm_r0 hf (fun v h1 k1 n1 e1 => ct_X2_endOfSong l D N e1) dX2_total_62 (fun x62 h H locs cells slots kc ks hS hf => ?_)
    refine W.eq (g2 := F0 m 65 ls [.int x62]) rfl ?_
    exact xr_iret C hS hr hf dX2_total_65
  replace hf := xb_neg c5_7 hf
  by_cases c5_8 : a1 = 8
  · replace hf := xb_pos c5_8 hf
    refine xr_tab c5_8 C dX2_total_5 (by decide) (by decide) (off := 61) (tgt := 66) (by decide) (by decide) ?_
    refine xr_aload_n C dX2_total_66 rfl (hl.at 0 rfl) ?_
    refine xr_V (V := fun v => some (.int v)) (n := 0) (fr := 0) (lo := 0) (As := []) C hS xf_X2 (lw_V q1072 q1074 qs49 q60 q1075) hdv_X2_sungTicks ⟨Nat.le_trans (Nat.le_of_ble_eq_true rfl) hR.1, Nat.le_trans (Nat.le_of_ble_eq_true rfl) hR.2⟩ rfl hl.1.1 rfl xm_r0 hf (fun v h1 k1 n1 e1 => ct_X2_sungTicks l D N e1) dX2_total_67 (fun x67 h H locs cells slots kc ks hS hf => ?_)
    refine W.eq (g2 := F0 m 70 ls [.int x67]) rfl ?_
    exact xr_iret C hS hr hf dX2_total_70
  replace hf := xb_neg c5_8 hf
  by_cases c5_9 : a1 = 9
  · replace hf := xb_pos c5_9 hf
    refine xr_tab c5_9 C dX2_total_5 (by decide) (by decide) (off := 66) (tgt := 71) (by decide) (by decide) ?_
    refine xr_aload_n C dX2_total_71 rfl (hl.at 0 rfl) ?_
    refine xr_V (V := fun v => some (.int v)) (n := 0) (fr := 1) (lo := 21) (As := []) C hS xf_X2 (lw_V q1076 q1078 qs50 q60 q1079) hdv_X2_onsets ⟨Nat.le_trans (Nat.le_of_ble_eq_true rfl) hR.1, Nat.le_trans (Nat.le_of_ble_eq_true rfl) hR.2⟩ rfl hl.1.1 rfl xm_r0 hf (fun v h1 k1 n1 e1 => ct_X2_onsets l D N e1) dX2_total_72 (fun x72 h H locs cells slots kc ks hS hf => ?_)
    refine W.eq (g2 := F0 m 75 ls [.int x72]) rfl ?_
    exact xr_iret C hS hr hf dX2_total_75
  replace hf := xb_neg c5_9 hf
  by_cases c5_10 : a1 = 10
  · replace hf := xb_pos c5_10 hf
    refine xr_tab c5_10 C dX2_total_5 (by decide) (by decide) (off := 71) (tgt := 76) (by decide) (by decide) ?_
    refine xr_aload_n C dX2_total_76 rfl (hl.at 0 rfl) ?_
    refine xr_V (V := fun v => some (.int v)) (n := 0) (fr := 0) (lo := 0) (As := []) C hS xf_X2 (lw_V q972 q974 qs38 q60 q975) hdv_X2_hits ⟨Nat.le_trans (Nat.le_of_ble_eq_true rfl) hR.1, Nat.le_trans (Nat.le_of_ble_eq_true rfl) hR.2⟩ rfl hl.1.1 rfl xm_r0 hf (fun v h1 k1 n1 e1 => ct_X2_hits l D N e1) dX2_total_77 (fun x77 h H locs cells slots kc ks hS hf => ?_)
    refine W.eq (g2 := F0 m 80 ls [.int x77]) rfl ?_
    exact xr_iret C hS hr hf dX2_total_80
  replace hf := xb_neg c5_10 hf
  by_cases c5_11 : a1 = 11
  · replace hf := xb_pos c5_11 hf
    refine xr_tab c5_11 C dX2_total_5 (by decide) (by decide) (off := 76) (tgt := 81) (by decide) (by decide) ?_
    refine xr_aload_n C dX2_total_81 rfl (hl.at 0 rfl) ?_
    refine xr_V (V := fun v => some (.int v)) (n := 0) (fr := 3) (lo := 74) (As := []) C hS xf_X2 (lw_V q1080 q1082 qs51 q60 q1083) hdv_X2_allPoints ⟨Nat.le_trans (Nat.le_of_ble_eq_true rfl) hR.1, Nat.le_trans (Nat.le_of_ble_eq_true rfl) hR.2⟩ rfl hl.1.1 rfl xm_r0 hf (fun v h1 k1 n1 e1 => ct_X2_allPoints l D N e1) dX2_total_82 (fun x82 h H locs cells slots kc ks hS hf => ?_)
    refine W.eq (g2 := F0 m 85 ls [.int x82]) rfl ?_
    exact xr_iret C hS hr hf dX2_total_85
  replace hf := xb_neg c5_11 hf
  by_cases c5_12 : a1 = 12
  · replace hf := xb_pos c5_12 hf
    refine xr_tab c5_12 C dX2_total_5 (by decide) (by decide) (off := 81) (tgt := 86) (by decide) (by decide) ?_
    refine xr_aload_n C dX2_total_86 rfl (hl.at 0 rfl) ?_
    refine xr_V (V := fun v => some (.int v)) (n := 0) (fr := 4) (lo := 92) (As := []) C hS xf_X2 (lw_V q1084 q1086 qs52 q60 q1087) hdv_X2_mostPoints ⟨Nat.le_trans (Nat.le_of_ble_eq_true rfl) hR.1, Nat.le_trans (Nat.le_of_ble_eq_true rfl) hR.2⟩ rfl hl.1.1 rfl xm_r0 hf (fun v h1 k1 n1 e1 => ct_X2_mostPoints l D N e1) dX2_total_87 (fun x87 h H locs cells slots kc ks hS hf => ?_)
    refine W.eq (g2 := F0 m 90 ls [.int x87]) rfl ?_
    exact xr_iret C hS hr hf dX2_total_90
  replace hf := xb_neg c5_12 hf
  by_cases c5_13 : a1 = 13
  · replace hf := xb_pos c5_13 hf
    refine xr_tab c5_13 C dX2_total_5 (by decide) (by decide) (off := 86) (tgt := 91) (by decide) (by decide) ?_
    refine xr_aload_n C dX2_total_91 rfl (hl.at 0 rfl) ?_
    refine xr_getI C hS xf_X2 2 (by decide) q819 (fun _ h => h) hf dX2_total_92 (fun x92 hf => ?_)
    exact xr_iret C hS hr hf dX2_total_95
  replace hf := xb_neg c5_13 hf
  by_cases c5_14 : a1 = 14
  · replace hf := xb_pos c5_14 hf
    refine xr_tab c5_14 C dX2_total_5 (by decide) (by decide) (off := 91) (tgt := 96) (by decide) (by decide) ?_
    refine xr_aload_n C dX2_total_96 rfl (hl.at 0 rfl) ?_
    refine xr_getI C hS xf_X2 6 (by decide) q823 (fun _ h => h) hf dX2_total_97 (fun x97 hf => ?_)
    exact xr_iret C hS hr hf dX2_total_100
  replace hf := xb_neg c5_14 hf
  refine lv_tableOut (tgt := 101) hx hb dX2_total_5 (by have ec5_6 := lv_neT c5_6 (a := 6) (by decide); have ec5_7 := lv_neT c5_7 (a := 7) (by decide); have ec5_8 := lv_neT c5_8 (a := 8) (by decide); have ec5_9 := lv_neT c5_9 (a := 9) (by decide); have ec5_10 := lv_neT c5_10 (a := 10) (by decide); have ec5_11 := lv_neT c5_11 (a := 11) (by decide); have ec5_12 := lv_neT c5_12 (a := 12) (by decide); have ec5_13 := lv_neT c5_13 (a := 13) (by decide); have ec5_14 := lv_neT c5_14 (a := 14) (by decide); omega) (by decide) ?_
  refine lv_iload_n hx hb dX2_total_101 rfl (hl.at 1 rfl) ?_
  refine lv_iconst (v := 0) hx hb dX2_total_102 xi_c0 ?_
  refine lv_iconst (v := 5) hx hb dX2_total_103 xi_c5 ?_
  refine xr_S (V := fun v => some (.int v)) (n := 3) (fr := 0) (lo := 0) (As := [.int a1, .int (0 : Int32), .int (5 : Int32)]) C hS (lw_S q873 q874 q60 q875) hd_X2_in ⟨Nat.le_trans (Nat.le_of_ble_eq_true rfl) hR.1, Nat.le_trans (Nat.le_of_ble_eq_true rfl) hR.2⟩ rfl hl.1.1 rfl xm_r0 hf (fun v h1 k1 n1 e1 => ct_X2_in l D N e1) dX2_total_104 (fun x104 h H locs cells slots kc ks hS hf => ?_)
  refine W.eq (g2 := F0 m 107 ls [.int x104]) rfl ?_
  refine lv_if_eq (tgt := 119) hx hb dX2_total_107 (by decide) (fun c107 => ?_) (fun c107 => ?_)
  · replace hf := xb_pos c107 hf
    refine lv_bipush (v := -2) hx hb dX2_total_119 xi_bm2 ?_
    exact xr_iret C hS hr hf dX2_total_121
  · replace hf := xb_neg c107 hf
    refine xr_aload_n C dX2_total_110 rfl (hl.at 0 rfl) ?_
    refine xr_getR C hS xf_X2 0 (by decide) q817 (fun _ h => h) hf dX2_total_111 (fun x111 hf => ?_)
    refine lv_iload_n hx hb dX2_total_114 rfl (hl.at 1 rfl) ?_
    refine xr_iald C hS hf dX2_total_115 (fun x115 hf => ?_)
    refine lv_goto (tgt := 121) hx hb dX2_total_116 (by decide) ?_
    exact xr_iret C hS hr hf dX2_total_121
theorem ct_X2_total (l : Launch) (D : xh_D) {rv : Int32} {h hF : xh_H} {kc ks : Nat} (N : Nat) {a0 : Option Nat} {a1 : Int32} (hf : f_X2_total N a0 a1 h = some (rv, hF, kc, ks)) : xh_Ct l D yX2_total (ws_ yX2_total cX2_total 2 (Option.some Jvm.ClassFile.FieldType.int)) 7 157 [va_rf a0, .int a1] h (some (.int rv)) hF kc ks :=
  xh_meth (cc := cX2_total) l (by decide) (Nat.le_of_ble_eq_true rfl) (List.forall_mem_cons.mpr ⟨va_rf_cat _, List.forall_mem_cons.mpr ⟨rfl, fun _ h => absurd h List.not_mem_nil⟩⟩) fun p e s m below meth c ls C hr hnm hl hS => w_X2_total C hr ⟨Nat.le_refl _, Nat.le_refl _⟩ N a0 a1 h _ _ _ _ _ _ _ hf hS hl
/-- SungSlidesModel.pointsShifted(II)I -/
theorem w_X2_pointsShifted (C : xh_C cX2_pointsShifted 3 "SungSlidesModel" D g p s m args meth c) (hr : meth.sig.returnType = (Option.some Jvm.ClassFile.FieldType.int)) (hR : 6 ≤ R.frames ∧ 137 ≤ R.locals) {rv : Int32} {hF : xh_H} (N : Nat) (a0 : Option Nat) (a1 : Int32) (a2 : Int32)  (h : xh_H) (H : Heap) (locs : List Loc) (cells slots kc ks : Nat) (ls : Array Slot) (hf : f_X2_pointsShifted N a0 a1 a2 h = some (rv, hF, kc, ks)) (hS : xh_T D g s R h H locs cells slots kc ks) (hl : xh_L ls 3 [(0, va_rf a0), (1, .int a1), (2, .int a2)]) : W p l e R s m args below meth c H locs cells slots (MQ below (xh_Q D g (some (.int rv)) hF) args s R.cells R.slots (xh_A g)) (F0 m 0 ls []) := by
  have hx := C.1
  have hb := C.2.1
  unfold f_X2_pointsShifted at hf
  refine xr_aload_n C dX2_pointsShifted_0 rfl (hl.at 0 rfl) ?_
  refine lv_iload_n hx hb dX2_pointsShifted_1 rfl (hl.at 1 rfl) ?_
  refine lv_iload_n hx hb dX2_pointsShifted_2 rfl (hl.at 2 rfl) ?_
  refine xr_V (V := fun _ => none) (n := 2) (fr := 2) (lo := 42) (As := [.int a1, .int a2]) C hS xf_X2 (lw_V q929 q931 qs28 q60 q932) hdv_X2_hear ⟨Nat.le_trans (Nat.le_of_ble_eq_true rfl) hR.1, Nat.le_trans (Nat.le_of_ble_eq_true rfl) hR.2⟩ rfl hl.1.1 rfl xm_r0 hf (fun v h1 k1 n1 e1 => ct_X2_hear l D N e1) dX2_pointsShifted_3 (fun _ h H locs cells slots kc ks hS hf => ?_)
  refine W.eq (g2 := F0 m 6 ls []) rfl ?_
  refine xr_aload_n C dX2_pointsShifted_6 rfl (hl.at 0 rfl) ?_
  refine xr_V (V := fun _ => none) (n := 0) (fr := 5) (lo := 114) (As := []) C hS xf_X2 (lw_V q933 q935 qs29 q60 q936) hdv_X2_judge ⟨Nat.le_trans (Nat.le_of_ble_eq_true rfl) hR.1, Nat.le_trans (Nat.le_of_ble_eq_true rfl) hR.2⟩ rfl hl.1.1 rfl xm_r0 hf (fun v h1 k1 n1 e1 => ct_X2_judge l D N e1) dX2_pointsShifted_7 (fun _ h H locs cells slots kc ks hS hf => ?_)
  refine W.eq (g2 := F0 m 10 ls []) rfl ?_
  refine xr_aload_n C dX2_pointsShifted_10 rfl (hl.at 0 rfl) ?_
  refine xr_V (V := fun v => some (.int v)) (n := 0) (fr := 3) (lo := 74) (As := []) C hS xf_X2 (lw_V q1080 q1082 qs51 q60 q1083) hdv_X2_allPoints ⟨Nat.le_trans (Nat.le_of_ble_eq_true rfl) hR.1, Nat.le_trans (Nat.le_of_ble_eq_true rfl) hR.2⟩ rfl hl.1.1 rfl xm_r0 hf (fun v h1 k1 n1 e1 => ct_X2_allPoints l D N e1) dX2_pointsShifted_11 (fun x11 h H locs cells slots kc ks hS hf => ?_)
  refine W.eq (g2 := F0 m 14 ls [.int x11]) rfl ?_
  exact xr_iret C hS hr hf dX2_pointsShifted_14
theorem ct_X2_pointsShifted (l : Launch) (D : xh_D) {rv : Int32} {h hF : xh_H} {kc ks : Nat} (N : Nat) {a0 : Option Nat} {a1 : Int32} {a2 : Int32} (hf : f_X2_pointsShifted N a0 a1 a2 h = some (rv, hF, kc, ks)) : xh_Ct l D yX2_pointsShifted (ws_ yX2_pointsShifted cX2_pointsShifted 3 (Option.some Jvm.ClassFile.FieldType.int)) 6 137 [va_rf a0, .int a1, .int a2] h (some (.int rv)) hF kc ks :=
  xh_meth (cc := cX2_pointsShifted) l (by decide) (Nat.le_of_ble_eq_true rfl) (List.forall_mem_cons.mpr ⟨va_rf_cat _, List.forall_mem_cons.mpr ⟨rfl, List.forall_mem_cons.mpr ⟨rfl, fun _ h => absurd h List.not_mem_nil⟩⟩⟩) fun p e s m below meth c ls C hr hnm hl hS => w_X2_pointsShifted C hr ⟨Nat.le_refl _, Nat.le_refl _⟩ N a0 a1 a2 h _ _ _ _ _ _ _ hf hS hl
theorem w_X2_ifShifted_b31 (C : xh_C cX2_ifShifted 3 "SungSlidesModel" D g p s m args meth c) (hr : meth.sig.returnType = (Option.some Jvm.ClassFile.FieldType.int)) (hR : 7 ≤ R.frames ∧ 159 ≤ R.locals) {rv : Int32} {hF : xh_H} (N : Nat) : ∀ (h : xh_H) (H : Heap) (locs : List Loc) (cells slots kc ks : Nat) (ls : Array Slot), f_X2_ifShifted_b31 N  h = some (rv, hF, kc, ks) → xh_T D g s R h H locs cells slots kc ks → xh_L ls 3 [] → W p l e R s m args below meth c H locs cells slots (MQ below (xh_Q D g (some (.int rv)) hF) args s R.cells R.slots (xh_A g)) (F0 m 31 ls []) := by
  intro  h H locs cells slots kc ks ls hf hS hl
  have hx := C.1
  have hb := C.2.1
  unfold f_X2_ifShifted_b31 at hf
  refine lv_bipush (v := -2) hx hb dX2_ifShifted_31 xi_bm2 ?_
  exact xr_iret C hS hr hf dX2_ifShifted_33
/-- SungSlidesModel.ifShifted(II)I -/
theorem w_X2_ifShifted (C : xh_C cX2_ifShifted 3 "SungSlidesModel" D g p s m args meth c) (hr : meth.sig.returnType = (Option.some Jvm.ClassFile.FieldType.int)) (hR : 7 ≤ R.frames ∧ 159 ≤ R.locals) {rv : Int32} {hF : xh_H} (N : Nat) (a0 : Option Nat) (a1 : Int32) (a2 : Int32)  (h : xh_H) (H : Heap) (locs : List Loc) (cells slots kc ks : Nat) (ls : Array Slot) (hf : f_X2_ifShifted N a0 a1 a2 h = some (rv, hF, kc, ks)) (hS : xh_T D g s R h H locs cells slots kc ks) (hl : xh_L ls 3 [(0, va_rf a0), (1, .int a1), (2, .int a2)]) : W p l e R s m args below meth c H locs cells slots (MQ below (xh_Q D g (some (.int rv)) hF) args s R.cells R.slots (xh_A g)) (F0 m 0 ls []) := by
  have hx := C.1
  have hb := C.2.1
  unfold f_X2_ifShifted at hf
  refine lv_iload_n hx hb dX2_ifShifted_0 rfl (hl.at 1 rfl) ?_
  refine lv_bipush (v := -32) hx hb dX2_ifShifted_1 xi_bm32 ?_
  refine lv_bipush (v := 32) hx hb dX2_ifShifted_3 xi_b32 ?_
  refine xr_S (V := fun v => some (.int v)) (n := 3) (fr := 0) (lo := 0) (As := [.int a1, .int (-32 : Int32), .int (32 : Int32)]) C hS (lw_S q873 q874 q60 q875) hd_X2_in ⟨Nat.le_trans (Nat.le_of_ble_eq_true rfl) hR.1, Nat.le_trans (Nat.le_of_ble_eq_true rfl) hR.2⟩ rfl hl.1.1 rfl xm_r0 hf (fun v h1 k1 n1 e1 => ct_X2_in l D N e1) dX2_ifShifted_5 (fun x5 h H locs cells slots kc ks hS hf => ?_)
  refine W.eq (g2 := F0 m 8 ls [.int x5]) rfl ?_
  refine lv_if_eq (tgt := 31) hx hb dX2_ifShifted_8 (by decide) (fun c8 => ?_) (fun c8 => ?_)
  · replace hf := xb_pos c8 hf
    exact w_X2_ifShifted_b31 C hr hR N  h H locs cells slots kc ks ls hf hS (hl.sub [] rfl)
  · replace hf := xb_neg c8 hf
    refine lv_iload_n hx hb dX2_ifShifted_11 rfl (hl.at 2 rfl) ?_
    refine lv_bipush (v := -60) hx hb dX2_ifShifted_12 xi_bm60 ?_
    refine lv_bipush (v := 60) hx hb dX2_ifShifted_14 xi_b60 ?_
    refine xr_S (V := fun v => some (.int v)) (n := 3) (fr := 0) (lo := 0) (As := [.int a2, .int (-60 : Int32), .int (60 : Int32)]) C hS (lw_S q873 q874 q60 q875) hd_X2_in ⟨Nat.le_trans (Nat.le_of_ble_eq_true rfl) hR.1, Nat.le_trans (Nat.le_of_ble_eq_true rfl) hR.2⟩ rfl hl.1.1 rfl xm_r0 hf (fun v h1 k1 n1 e1 => ct_X2_in l D N e1) dX2_ifShifted_16 (fun x16 h H locs cells slots kc ks hS hf => ?_)
    refine W.eq (g2 := F0 m 19 ls [.int x16]) rfl ?_
    refine lv_if_eq (tgt := 31) hx hb dX2_ifShifted_19 (by decide) (fun c19 => ?_) (fun c19 => ?_)
    · replace hf := xb_pos c19 hf
      exact w_X2_ifShifted_b31 C hr hR N  h H locs cells slots kc ks ls hf hS (hl.sub [] rfl)
    · replace hf := xb_neg c19 hf
      refine xr_aload_n C dX2_ifShifted_22 rfl (hl.at 0 rfl) ?_
      refine lv_iload_n hx hb dX2_ifShifted_23 rfl (hl.at 1 rfl) ?_
      refine lv_iload_n hx hb dX2_ifShifted_24 rfl (hl.at 2 rfl) ?_
      refine xr_V (V := fun v => some (.int v)) (n := 2) (fr := 6) (lo := 137) (As := [.int a1, .int a2]) C hS xf_X2 (lw_V q1092 q1094 qs53 q60 q1095) hdv_X2_pointsShifted ⟨Nat.le_trans (Nat.le_of_ble_eq_true rfl) hR.1, Nat.le_trans (Nat.le_of_ble_eq_true rfl) hR.2⟩ rfl hl.1.1 rfl xm_r0 hf (fun v h1 k1 n1 e1 => ct_X2_pointsShifted l D N e1) dX2_ifShifted_25 (fun x25 h H locs cells slots kc ks hS hf => ?_)
      refine W.eq (g2 := F0 m 28 ls [.int x25]) rfl ?_
      refine lv_goto (tgt := 33) hx hb dX2_ifShifted_28 (by decide) ?_
      exact xr_iret C hS hr hf dX2_ifShifted_33
theorem ct_X2_ifShifted (l : Launch) (D : xh_D) {rv : Int32} {h hF : xh_H} {kc ks : Nat} (N : Nat) {a0 : Option Nat} {a1 : Int32} {a2 : Int32} (hf : f_X2_ifShifted N a0 a1 a2 h = some (rv, hF, kc, ks)) : xh_Ct l D yX2_ifShifted (ws_ yX2_ifShifted cX2_ifShifted 3 (Option.some Jvm.ClassFile.FieldType.int)) 7 159 [va_rf a0, .int a1, .int a2] h (some (.int rv)) hF kc ks :=
  xh_meth (cc := cX2_ifShifted) l (by decide) (Nat.le_of_ble_eq_true rfl) (List.forall_mem_cons.mpr ⟨va_rf_cat _, List.forall_mem_cons.mpr ⟨rfl, List.forall_mem_cons.mpr ⟨rfl, fun _ h => absurd h List.not_mem_nil⟩⟩⟩) fun p e s m below meth c ls C hr hnm hl hS => w_X2_ifShifted C hr ⟨Nat.le_refl _, Nat.le_refl _⟩ N a0 a1 a2 h _ _ _ _ _ _ _ hf hS hl
def K_X2_bestShift_11 (p : Program) (l : Launch) (e : Env) (s : State) (m : MethodId) (args : Array Value) (below : List Frame) (meth : Method) (c : Code) (D : xh_D) (g : Nat → Nat) (R : Room) (rv : Int32) (hF : xh_H) (k : Option Nat → Int32 → Int32 → Int32 → xh_H → xh_R Int32) : Prop := ∀ (a0 : Option Nat) (a1 : Int32) (a2 : Int32) (a3 : Int32) (h : xh_H) (H : Heap) (locs : List Loc) (cells slots kc ks : Nat) (ls : Array Slot), k a0 a1 a2 a3 h = some (rv, hF, kc, ks) → xh_T D g s R h H locs cells slots kc ks → xh_L ls 6 [(0, va_rf a0), (1, .int a1), (2, .int a2), (3, .int a3)] → W p l e R s m args below meth c H locs cells slots (MQ below (xh_Q D g (some (.int rv)) hF) args s R.cells R.slots (xh_A g)) (F0 m 11 ls [])
theorem w_X2_bestShift_b76 (C : xh_C cX2_bestShift 6 "SungSlidesModel" D g p s m args meth c) (hr : meth.sig.returnType = (Option.some Jvm.ClassFile.FieldType.int)) (hR : 7 ≤ R.frames ∧ 159 ≤ R.locals) {rv : Int32} {hF : xh_H} (N : Nat) : ∀ (a1 : Int32) (h : xh_H) (H : Heap) (locs : List Loc) (cells slots kc ks : Nat) (ls : Array Slot), f_X2_bestShift_b76 N a1 h = some (rv, hF, kc, ks) → xh_T D g s R h H locs cells slots kc ks → xh_L ls 6 [(1, .int a1)] → W p l e R s m args below meth c H locs cells slots (MQ below (xh_Q D g (some (.int rv)) hF) args s R.cells R.slots (xh_A g)) (F0 m 76 ls []) := by
  intro a1 h H locs cells slots kc ks ls hf hS hl
  have hx := C.1
  have hb := C.2.1
  unfold f_X2_bestShift_b76 at hf
  refine lv_iload_n hx hb dX2_bestShift_76 rfl (hl.at 0 rfl) ?_
  refine lv_bipush (v := 32) hx hb dX2_bestShift_77 xi_b32 ?_
  refine lv_iadd hx hb dX2_bestShift_79 ?_
  exact xr_iret C hS hr hf dX2_bestShift_80
theorem w_X2_bestShift_b69 (C : xh_C cX2_bestShift 6 "SungSlidesModel" D g p s m args meth c) (hr : meth.sig.returnType = (Option.some Jvm.ClassFile.FieldType.int)) (hR : 7 ≤ R.frames ∧ 159 ≤ R.locals) {rv : Int32} {hF : xh_H} (N : Nat) {k11 : Option Nat → Int32 → Int32 → Int32 → xh_H → xh_R Int32} (hk11 : K_X2_bestShift_11 p l e s m args below meth c D g R rv hF k11) : ∀ (a0 : Option Nat) (a1 : Int32) (a3 : Int32) (t0 : Int32) (h : xh_H) (H : Heap) (locs : List Loc) (cells slots kc ks : Nat) (ls : Array Slot), f_X2_bestShift_b69 N k11 a0 a1 a3 t0 h = some (rv, hF, kc, ks) → xh_T D g s R h H locs cells slots kc ks → xh_L ls 6 [(0, va_rf a0), (1, .int a1), (3, .int a3)] → W p l e R s m args below meth c H locs cells slots (MQ below (xh_Q D g (some (.int rv)) hF) args s R.cells R.slots (xh_A g)) (F0 m 69 ls [.int t0]) := by
  intro a0 a1 a3 t0 h H locs cells slots kc ks ls hf hS hl
  have hx := C.1
  have hb := C.2.1
  unfold f_X2_bestShift_b69 at hf
  refine xr_istore_n C dX2_bestShift_69 rfl hl (Nat.le_of_ble_eq_true rfl) (lv' := [(2, .int t0), (0, va_rf a0), (1, .int a1), (3, .int a3)]) rfl (fun ls hl => ?_)
  refine xr_iinc C dX2_bestShift_70 hl (k := 3) rfl (xi_inc xi_c1) (Nat.le_of_ble_eq_true rfl) (lv' := [(3, .int (a3 + (1 : Int32))), (2, .int t0), (0, va_rf a0), (1, .int a1)]) rfl (fun ls hl => ?_)
  refine lv_goto (tgt := 11) hx hb dX2_bestShift_73 (by decide) ?_
  exact hk11 a0 a1 t0 (a3 + (1 : Int32))  h H locs cells slots kc ks ls hf hS (hl.sub [2, 3, 1, 0] rfl)
theorem w_X2_bestShift_b56 (C : xh_C cX2_bestShift 6 "SungSlidesModel" D g p s m args meth c) (hr : meth.sig.returnType = (Option.some Jvm.ClassFile.FieldType.int)) (hR : 7 ≤ R.frames ∧ 159 ≤ R.locals) {rv : Int32} {hF : xh_H} (N : Nat) {k11 : Option Nat → Int32 → Int32 → Int32 → xh_H → xh_R Int32} (hk11 : K_X2_bestShift_11 p l e s m args below meth c D g R rv hF k11) : ∀ (a0 : Option Nat) (a2 : Int32) (a3 : Int32) (a5 : Int32) (t0 : Int32) (h : xh_H) (H : Heap) (locs : List Loc) (cells slots kc ks : Nat) (ls : Array Slot), f_X2_bestShift_b56 N k11 a0 a2 a3 a5 t0 h = some (rv, hF, kc, ks) → xh_T D g s R h H locs cells slots kc ks → xh_L ls 6 [(0, va_rf a0), (2, .int a2), (3, .int a3), (5, .int a5)] → W p l e R s m args below meth c H locs cells slots (MQ below (xh_Q D g (some (.int rv)) hF) args s R.cells R.slots (xh_A g)) (F0 m 56 ls [.int t0]) := by
  intro a0 a2 a3 a5 t0 h H locs cells slots kc ks ls hf hS hl
  have hx := C.1
  have hb := C.2.1
  unfold f_X2_bestShift_b56 at hf
  refine xr_istore_n C dX2_bestShift_56 rfl hl (Nat.le_of_ble_eq_true rfl) (lv' := [(1, .int t0), (0, va_rf a0), (2, .int a2), (3, .int a3), (5, .int a5)]) rfl (fun ls hl => ?_)
  refine lv_iload hx hb dX2_bestShift_57 (hl.at 4 rfl) ?_
  refine lv_iload_n hx hb dX2_bestShift_59 rfl (hl.at 2 rfl) ?_
  refine lv_icmp_le (tgt := 68) hx hb dX2_bestShift_60 (by decide) (fun c60 => ?_) (fun c60 => ?_)
  · replace hf := xb_pos c60 hf
    refine lv_iload_n hx hb dX2_bestShift_68 rfl (hl.at 2 rfl) ?_
    exact w_X2_bestShift_b69 C hr hR N hk11 a0 t0 a3 a2 h H locs cells slots kc ks ls hf hS (hl.sub [1, 0, 3] rfl)
  · replace hf := xb_neg c60 hf
    refine lv_iload hx hb dX2_bestShift_63 (hl.at 4 rfl) ?_
    refine lv_goto (tgt := 69) hx hb dX2_bestShift_65 (by decide) ?_
    exact w_X2_bestShift_b69 C hr hR N hk11 a0 t0 a3 a5 h H locs cells slots kc ks ls hf hS (hl.sub [1, 0, 3] rfl)
theorem w_X2_bestShift_b33 (C : xh_C cX2_bestShift 6 "SungSlidesModel" D g p s m args meth c) (hr : meth.sig.returnType = (Option.some Jvm.ClassFile.FieldType.int)) (hR : 7 ≤ R.frames ∧ 159 ≤ R.locals) {rv : Int32} {hF : xh_H} (N : Nat) {k11 : Option Nat → Int32 → Int32 → Int32 → xh_H → xh_R Int32} (hk11 : K_X2_bestShift_11 p l e s m args below meth c D g R rv hF k11) : ∀ (a0 : Option Nat) (a1 : Int32) (a2 : Int32) (a3 : Int32) (t0 : Int32) (h : xh_H) (H : Heap) (locs : List Loc) (cells slots kc ks : Nat) (ls : Array Slot), f_X2_bestShift_b33 N k11 a0 a1 a2 a3 t0 h = some (rv, hF, kc, ks) → xh_T D g s R h H locs cells slots kc ks → xh_L ls 6 [(0, va_rf a0), (1, .int a1), (2, .int a2), (3, .int a3)] → W p l e R s m args below meth c H locs cells slots (MQ below (xh_Q D g (some (.int rv)) hF) args s R.cells R.slots (xh_A g)) (F0 m 33 ls [.int t0]) := by
  intro a0 a1 a2 a3 t0 h H locs cells slots kc ks ls hf hS hl
  have hx := C.1
  have hb := C.2.1
  unfold f_X2_bestShift_b33 at hf
  refine xr_istore C dX2_bestShift_33 hl (Nat.le_of_ble_eq_true rfl) (lv' := [(4, .int t0), (0, va_rf a0), (1, .int a1), (2, .int a2), (3, .int a3)]) rfl (fun ls hl => ?_)
  refine xr_aload_n C dX2_bestShift_35 rfl (hl.at 1 rfl) ?_
  refine lv_iload hx hb dX2_bestShift_36 (hl.at 0 rfl) ?_
  refine lv_iconst (v := 0) hx hb dX2_bestShift_38 xi_c0 ?_
  refine xr_V (V := fun v => some (.int v)) (n := 2) (fr := 6) (lo := 137) (As := [.int t0, .int (0 : Int32)]) C hS xf_X2 (lw_V q1092 q1094 qs53 q60 q1095) hdv_X2_pointsShifted ⟨Nat.le_trans (Nat.le_of_ble_eq_true rfl) hR.1, Nat.le_trans (Nat.le_of_ble_eq_true rfl) hR.2⟩ rfl hl.1.1 rfl xm_r0 hf (fun v h1 k1 n1 e1 => ct_X2_pointsShifted l D N e1) dX2_bestShift_39 (fun x39 h H locs cells slots kc ks hS hf => ?_)
  refine W.eq (g2 := F0 m 42 ls [.int x39]) rfl ?_
  refine xr_istore C dX2_bestShift_42 hl (Nat.le_of_ble_eq_true rfl) (lv' := [(5, .int x39), (4, .int t0), (0, va_rf a0), (1, .int a1), (2, .int a2), (3, .int a3)]) rfl (fun ls hl => ?_)
  refine lv_iload hx hb dX2_bestShift_44 (hl.at 0 rfl) ?_
  refine lv_iload_n hx hb dX2_bestShift_46 rfl (hl.at 4 rfl) ?_
  refine lv_icmp_le (tgt := 55) hx hb dX2_bestShift_47 (by decide) (fun c47 => ?_) (fun c47 => ?_)
  · replace hf := xb_pos c47 hf
    refine lv_iload_n hx hb dX2_bestShift_55 rfl (hl.at 3 rfl) ?_
    exact w_X2_bestShift_b56 C hr hR N hk11 a0 a2 a3 x39 a1 h H locs cells slots kc ks ls hf hS (hl.sub [2, 4, 5, 0] rfl)
  · replace hf := xb_neg c47 hf
    refine lv_iload hx hb dX2_bestShift_50 (hl.at 1 rfl) ?_
    refine lv_goto (tgt := 56) hx hb dX2_bestShift_52 (by decide) ?_
    exact w_X2_bestShift_b56 C hr hR N hk11 a0 a2 a3 x39 t0 h H locs cells slots kc ks ls hf hS (hl.sub [2, 4, 5, 0] rfl)
theorem w_X2_bestShift_b11 (C : xh_C cX2_bestShift 6 "SungSlidesModel" D g p s m args meth c) (hr : meth.sig.returnType = (Option.some Jvm.ClassFile.FieldType.int)) (hR : 7 ≤ R.frames ∧ 159 ≤ R.locals) {rv : Int32} {hF : xh_H} (N : Nat) {k11 : Option Nat → Int32 → Int32 → Int32 → xh_H → xh_R Int32} (hk11 : K_X2_bestShift_11 p l e s m args below meth c D g R rv hF k11) : ∀ (a0 : Option Nat) (a1 : Int32) (a2 : Int32) (a3 : Int32) (h : xh_H) (H : Heap) (locs : List Loc) (cells slots kc ks : Nat) (ls : Array Slot), f_X2_bestShift_b11 N k11 a0 a1 a2 a3 h = some (rv, hF, kc, ks) → xh_T D g s R h H locs cells slots kc ks → xh_L ls 6 [(0, va_rf a0), (1, .int a1), (2, .int a2), (3, .int a3)] → W p l e R s m args below meth c H locs cells slots (MQ below (xh_Q D g (some (.int rv)) hF) args s R.cells R.slots (xh_A g)) (F0 m 11 ls []) := by
  intro a0 a1 a2 a3 h H locs cells slots kc ks ls hf hS hl
  have hx := C.1
  have hb := C.2.1
  unfold f_X2_bestShift_b11 at hf
  refine lv_iload_n hx hb dX2_bestShift_11 rfl (hl.at 3 rfl) ?_
  refine lv_bipush (v := 66) hx hb dX2_bestShift_12 xi_b66 ?_
  refine lv_icmp_ge (tgt := 76) hx hb dX2_bestShift_14 (by decide) (fun c14 => ?_) (fun c14 => ?_)
  · replace hf := xb_pos c14 hf
    exact w_X2_bestShift_b76 C hr hR N a1  h H locs cells slots kc ks ls hf hS (hl.sub [1] rfl)
  · replace hf := xb_neg c14 hf
    refine lv_iload_n hx hb dX2_bestShift_17 rfl (hl.at 3 rfl) ?_
    refine lv_iconst (v := 2) hx hb dX2_bestShift_18 xi_c2 ?_
    refine lv_irem hx hb dX2_bestShift_19 (by decide) ?_
    refine lv_if_ne (tgt := 30) hx hb dX2_bestShift_20 (by decide) (fun c20 => ?_) (fun c20 => ?_)
    · replace hf := xb_neg c20 hf
      refine lv_iload_n hx hb dX2_bestShift_30 rfl (hl.at 3 rfl) ?_
      refine lv_iconst (v := 2) hx hb dX2_bestShift_31 xi_c2 ?_
      refine lv_idiv hx hb dX2_bestShift_32 (by decide) ?_
      exact w_X2_bestShift_b33 C hr hR N hk11 a0 a1 a2 a3 (a3 / (2 : Int32)) h H locs cells slots kc ks ls hf hS (hl.sub [0, 1, 2, 3] rfl)
    · replace hf := xb_pos c20 hf
      refine lv_iload_n hx hb dX2_bestShift_23 rfl (hl.at 3 rfl) ?_
      refine lv_iconst (v := 2) hx hb dX2_bestShift_24 xi_c2 ?_
      refine lv_idiv hx hb dX2_bestShift_25 (by decide) ?_
      refine lv_ineg hx hb dX2_bestShift_26 ?_
      refine lv_goto (tgt := 33) hx hb dX2_bestShift_27 (by decide) ?_
      exact w_X2_bestShift_b33 C hr hR N hk11 a0 a1 a2 a3 (-(a3 / (2 : Int32))) h H locs cells slots kc ks ls hf hS (hl.sub [0, 1, 2, 3] rfl)
theorem w_X2_bestShift_l11 (C : xh_C cX2_bestShift 6 "SungSlidesModel" D g p s m args meth c) (hr : meth.sig.returnType = (Option.some Jvm.ClassFile.FieldType.int)) (hR : 7 ≤ R.frames ∧ 159 ≤ R.locals) {rv : Int32} {hF : xh_H} (N : Nat) : ∀ n : Nat, K_X2_bestShift_11 p l e s m args below meth c D g R rv hF (f_X2_bestShift_l11 N n) := by
  intro n
  induction n with
  | zero => exact fun a0 a1 a2 a3 h H locs cells slots kc ks ls hf => absurd (show (none : xh_R Int32) = some _ from hf) (by intro q; cases q)
  | succ n ih => exact fun a0 a1 a2 a3 h H locs cells slots kc ks ls hf => w_X2_bestShift_b11 C hr hR N ih a0 a1 a2 a3 h H locs cells slots kc ks ls hf
/-- SungSlidesModel.bestShift()I -/
theorem w_X2_bestShift (C : xh_C cX2_bestShift 6 "SungSlidesModel" D g p s m args meth c) (hr : meth.sig.returnType = (Option.some Jvm.ClassFile.FieldType.int)) (hR : 7 ≤ R.frames ∧ 159 ≤ R.locals) {rv : Int32} {hF : xh_H} (N : Nat) (a0 : Option Nat)  (h : xh_H) (H : Heap) (locs : List Loc) (cells slots kc ks : Nat) (ls : Array Slot) (hf : f_X2_bestShift N a0 h = some (rv, hF, kc, ks)) (hS : xh_T D g s R h H locs cells slots kc ks) (hl : xh_L ls 6 [(0, va_rf a0)]) : W p l e R s m args below meth c H locs cells slots (MQ below (xh_Q D g (some (.int rv)) hF) args s R.cells R.slots (xh_A g)) (F0 m 0 ls []) := by
  have hx := C.1
  have hb := C.2.1
  unfold f_X2_bestShift at hf
  refine lv_iconst (v := 0) hx hb dX2_bestShift_0 xi_c0 ?_
  refine xr_istore_n C dX2_bestShift_1 rfl hl (Nat.le_of_ble_eq_true rfl) (lv' := [(1, .int (0 : Int32)), (0, va_rf a0)]) rfl (fun ls hl => ?_)
  refine xr_aload_n C dX2_bestShift_2 rfl (hl.at 1 rfl) ?_
  refine lv_iconst (v := 0) hx hb dX2_bestShift_3 xi_c0 ?_
  refine lv_iconst (v := 0) hx hb dX2_bestShift_4 xi_c0 ?_
  refine xr_V (V := fun v => some (.int v)) (n := 2) (fr := 6) (lo := 137) (As := [.int (0 : Int32), .int (0 : Int32)]) C hS xf_X2 (lw_V q1092 q1094 qs53 q60 q1095) hdv_X2_pointsShifted ⟨Nat.le_trans (Nat.le_of_ble_eq_true rfl) hR.1, Nat.le_trans (Nat.le_of_ble_eq_true rfl) hR.2⟩ rfl hl.1.1 rfl xm_r0 hf (fun v h1 k1 n1 e1 => ct_X2_pointsShifted l D N e1) dX2_bestShift_5 (fun x5 h H locs cells slots kc ks hS hf => ?_)
  refine W.eq (g2 := F0 m 8 ls [.int x5]) rfl ?_
  refine xr_istore_n C dX2_bestShift_8 rfl hl (Nat.le_of_ble_eq_true rfl) (lv' := [(2, .int x5), (1, .int (0 : Int32)), (0, va_rf a0)]) rfl (fun ls hl => ?_)
  refine lv_iconst (v := 2) hx hb dX2_bestShift_9 xi_c2 ?_
  refine xr_istore_n C dX2_bestShift_10 rfl hl (Nat.le_of_ble_eq_true rfl) (lv' := [(3, .int (2 : Int32)), (2, .int x5), (1, .int (0 : Int32)), (0, va_rf a0)]) rfl (fun ls hl => ?_)
  exact w_X2_bestShift_l11 C hr hR N N a0 (0 : Int32) x5 (2 : Int32)  h H locs cells slots kc ks ls hf hS (hl.sub [3, 2, 1, 0] rfl)
theorem ct_X2_bestShift (l : Launch) (D : xh_D) {rv : Int32} {h hF : xh_H} {kc ks : Nat} (N : Nat) {a0 : Option Nat} (hf : f_X2_bestShift N a0 h = some (rv, hF, kc, ks)) : xh_Ct l D yX2_bestShift (ws_ yX2_bestShift cX2_bestShift 6 (Option.some Jvm.ClassFile.FieldType.int)) 7 159 [va_rf a0] h (some (.int rv)) hF kc ks :=
  xh_meth (cc := cX2_bestShift) l (by decide) (Nat.le_of_ble_eq_true rfl) (List.forall_mem_cons.mpr ⟨va_rf_cat _, fun _ h => absurd h List.not_mem_nil⟩) fun p e s m below meth c ls C hr hnm hl hS => w_X2_bestShift C hr ⟨Nat.le_refl _, Nat.le_refl _⟩ N a0 h _ _ _ _ _ _ _ hf hS hl
end WALK
