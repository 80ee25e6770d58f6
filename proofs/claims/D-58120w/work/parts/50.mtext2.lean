/-! THE MODEL's METHODS: reading the text, the syllables and the whole -/
set_option maxRecDepth 100000
def rdS3 (t : Nat → Int32) (len : Nat) (r x e : Int32) (p3 : Nat) : Option rdP × Nat :=
  if isCb t len p3 58 then (match rdN t len (p3 + 1) 1 32 with
        | none => (none, p3 + 1)
        | some (l, p4) => (some (r, x, e, l), p4)) else (none, p3)
def rdS2 (t : Nat → Int32) (len : Nat) (r : Int32) (p1 : Nat) : Option rdP × Nat :=
  match rdN t len p1 0 60 with
    | none => (none, p1)
    | some (x, p2) => match rdO (isCb t len p2 45) (rdN t len (p2 + 1) 0 60) x p2 with
      | none => (none, p2 + 1)
      | some (e, p3) => rdS3 t len r x e p3
theorem rdS_eq {t : Nat → Int32} {len p : Nat} : rdS t len p = match rdO (isCb t len p 46) (rdN t len (p + 1) 1 32) 0 p with
  | none => (none, p + 1)
  | some (r, p1) => rdS2 t len r p1 := rfl
def rdQ (T : Nat → Int32) (o : Option rdP) : Prop := ∀ r x e l, o = some (r, x, e, l) → T 0 = r ∧ T 1 = x ∧ T 2 = e ∧ T 3 = l
section MS
variable {h : xh_H} {b : Nat} {F : Nat → Int32} {V : Nat → Nat → Int32} {T : Nat → Int32}
theorem s_tk {N p len : Nat} {c : Int32} (h2 : F 2 = nI len) (hl : len ≤ 60) (hp : p ≤ len) : f_X2_takes N (some b) c (xm_M h b (xm_sF F 3 (nI p)) (xm_sV V 11 T)) = some (xb01 (isCb (V 4) len p c), xm_M h b (xm_sF F 3 (nI (if isCb (V 4) len p c then p + 1 else p))) (xm_sV V 11 T), 0, 0) := by
  have := s_takes (h := h) (b := b) (N := N) (F := xm_sF F 3 (nI p)) (V := xm_sV V 11 T) (c := c) (p := p) (len := len) xm_sFs (by rw [xm_sFn (by omega)]; exact h2) hl (by omega)
  rw [xm_sVn (by omega), xm_sFF] at this
  exact this
theorem s_rn {N p len : Nat} {w : Nat} {w' ls' ms' : Int32} (ls ms : Nat) (hN : 3000 ≤ N) (h2 : F 2 = nI len) (hl : len ≤ 60) (hp : p ≤ len) (hw : w < 4) (hls : ls ≤ 1) (hms : ms ≤ 60) (ew : w' = nI w) (els : ls' = nI ls) (ems : ms' = nI ms) : f_X2_readNumber N (some b) w' ls' ms' (xm_M h b (xm_sF F 3 (nI p)) (xm_sV V 11 T)) =
    match rdN (V 4) len p ls' ms' with
    | none => some (0, xm_M h b (xm_sF F 3 (nI p)) (xm_sV V 11 T), 0, 0)
    | some (v, q) => some (1, xm_M h b (xm_sF F 3 (nI q)) (xm_sV V 11 (upd T w v)), 0, 0) := by
  subst ew els ems
  have := s_readNumber (h := h) (b := b) (N := N) (F := xm_sF F 3 (nI p)) (V := xm_sV V 11 T) (p := p) (len := len) (w := w) (ls := ls) (ms := ms) hN xm_sFs (by rw [xm_sFn (by omega)]; exact h2) hl (by omega) hw hls hms
  rw [xm_sVn (by omega)] at this
  simp only [xm_sFF, xm_sVV, xm_sVs] at this
  exact this
theorem s_rs3 {N p len : Nat} {r x e : Int32} (hN : 3000 ≤ N) (h2 : F 2 = nI len) (hl : len ≤ 60) (hp : p ≤ len) (hT : T 0 = r ∧ T 1 = x ∧ T 2 = e) :
    ∃ T', f_X2_readSyllable_b74 N (some b) (xm_M h b (xm_sF F 3 (nI p)) (xm_sV V 11 T)) = some (xb01 (rdS3 (V 4) len r x e p).1.isSome, xm_M h b (xm_sF F 3 (nI (rdS3 (V 4) len r x e p).2)) (xm_sV V 11 T'), 0, 0) ∧ rdQ T' (rdS3 (V 4) len r x e p).1 := by
  unfold f_X2_readSyllable_b74 f_X2_readSyllable_b98
  simp only [xm_chk, xm_g0, xm_g1, xm_g3, xm_g5, xm_g7, xm_g8, xm_g9, xm_g10, xm_g11, xm_g12, xm_g14, xm_i2, xm_i4, xm_i6, xm_i13, xm_i15, Option.bind_some, xc_0, xm_p2, xm_p6, xm_p13, xm_p15, s_tk h2 hl hp]
  unfold rdS3
  by_cases z : isCb (V 4) len p 58 = true
  · have hpl := isCb_lt z
    rw [if_pos z, z, if_neg (show ¬ xb01 true = 0 by decide)]
    simp only [if_true]
    rw [s_rn 1 32 hN h2 hl (by omega) (show 3 < 4 by omega) (by omega) (by omega) xl_3 xl_1 xl_32]
    rcases rdN (V 4) len (p + 1) 1 32 with _ | ⟨l, p4⟩
    · exact ⟨T, rfl, fun _ _ _ _ q => by cases q⟩
    · refine ⟨upd T 3 l, rfl, fun r' x' e' l' q => ?_⟩
      cases q
      exact ⟨hT.1, hT.2.1, hT.2.2, rfl⟩
  · rw [if_neg z, Bool.eq_false_iff.mpr z, if_pos (show xb01 false = 0 from rfl)]
    exact ⟨T, rfl, fun _ _ _ _ q => by cases q⟩
theorem s_rs2 {N p len : Nat} {r : Int32} (hN : 3000 ≤ N) (h2 : F 2 = nI len) (hl : len ≤ 60) (hp : p ≤ len) (hT : T 0 = r) :
    ∃ T', f_X2_readSyllable_b27 N (some b) (xm_M h b (xm_sF F 3 (nI p)) (xm_sV V 11 T)) = some (xb01 (rdS2 (V 4) len r p).1.isSome, xm_M h b (xm_sF F 3 (nI (rdS2 (V 4) len r p).2)) (xm_sV V 11 T'), 0, 0) ∧ rdQ T' (rdS2 (V 4) len r p).1 := by
  unfold f_X2_readSyllable_b27 f_X2_readSyllable_b38
  simp only [xm_chk, xm_g0, xm_g1, xm_g3, xm_g5, xm_g7, xm_g8, xm_g9, xm_g10, xm_g11, xm_g12, xm_g14, xm_i2, xm_i4, xm_i6, xm_i13, xm_i15, Option.bind_some, xc_0, xm_p2, xm_p6, xm_p13, xm_p15]
  rw [s_rn 0 60 hN h2 hl hp (show 1 < 4 by omega) (by omega) (by omega) xl_1 xl_0 xl_60]
  unfold rdS2
  rcases hx : rdN (V 4) len p 0 60 with _ | ⟨x, p2⟩
  · exact ⟨T, rfl, fun _ _ _ _ q => by cases q⟩
  · have b1 := rdN_le hx
    simp only [xm_chk, xm_g0, xm_g1, xm_g3, xm_g5, xm_g7, xm_g8, xm_g9, xm_g10, xm_g11, xm_g12, xm_g14, xm_i2, xm_i4, xm_i6, xm_i13, xm_i15, Option.bind_some, xc_0, xm_p2, xm_p6, xm_p13, xm_p15]
    rw [if_neg (show ¬ (1 : Int32) = 0 by decide)]
    simp only [xm_chk, xm_g0, xm_g1, xm_g3, xm_g5, xm_g7, xm_g8, xm_g9, xm_g10, xm_g11, xm_g12, xm_g14, xm_i2, xm_i4, xm_i6, xm_i13, xm_i15, Option.bind_some, xc_0, xm_p2, xm_p6, xm_p13, xm_p15, xm_l11c1, xm_sVs, xl_2]
    rw [xm_s11c (show 2 < 4 by omega)]
    simp only [xm_chk, xm_g0, xm_g1, xm_g3, xm_g5, xm_g7, xm_g8, xm_g9, xm_g10, xm_g11, xm_g12, xm_g14, xm_i2, xm_i4, xm_i6, xm_i13, xm_i15, Option.bind_some, xc_0, xm_p2, xm_p6, xm_p13, xm_p15, xm_sVs, xm_sVV, s_tk h2 hl b1.2.1, ← xl_2]
    by_cases z : isCb (V 4) len p2 45 = true
    · have hpl := isCb_lt z
      rw [z, if_neg (show ¬ xb01 true = 0 by decide)]
      simp only [if_true]
      rw [s_rn 0 60 hN h2 hl (by omega) (show 2 < 4 by omega) (by omega) (by omega) xl_2 xl_0 xl_60]
      unfold rdO
      rw [if_pos rfl]
      rcases hy : rdN (V 4) len (p2 + 1) 0 60 with _ | ⟨e, p3⟩
      · exact ⟨_, rfl, fun _ _ _ _ q => by cases q⟩
      · have b2 := rdN_le hy
        simp only [xm_chk, xm_g0, xm_g1, xm_g3, xm_g5, xm_g7, xm_g8, xm_g9, xm_g10, xm_g11, xm_g12, xm_g14, xm_i2, xm_i4, xm_i6, xm_i13, xm_i15, Option.bind_some, xc_0, xm_p2, xm_p6, xm_p13, xm_p15]
        rw [if_neg (show ¬ (1 : Int32) = 0 by decide)]
        exact s_rs3 hN h2 hl b2.2.1 ⟨hT, rfl, rfl⟩
    · rw [Bool.eq_false_iff.mpr z, if_pos (show xb01 false = 0 from rfl)]
      unfold rdO
      rw [if_neg (by decide), if_neg (by decide)]
      exact s_rs3 hN h2 hl b1.2.1 ⟨hT, rfl, rfl⟩
theorem s_readSyllable {N p len : Nat} (hN : 3000 ≤ N) (h2 : F 2 = nI len) (hl : len ≤ 60) (hp : p ≤ len) :
    ∃ T', f_X2_readSyllable N (some b) (xm_M h b (xm_sF F 3 (nI p)) (xm_sV V 11 T)) = some (xb01 (rdS (V 4) len p).1.isSome, xm_M h b (xm_sF F 3 (nI (rdS (V 4) len p).2)) (xm_sV V 11 T'), 0, 0) ∧ rdQ T' (rdS (V 4) len p).1 := by
  unfold f_X2_readSyllable f_X2_readSyllable_b38
  simp only [xm_chk, xm_g0, xm_g1, xm_g3, xm_g5, xm_g7, xm_g8, xm_g9, xm_g10, xm_g11, xm_g12, xm_g14, xm_i2, xm_i4, xm_i6, xm_i13, xm_i15, Option.bind_some, xc_0, xm_p2, xm_p6, xm_p13, xm_p15, show ∀ H x, xh_sv H x 0 (0 : Int32) (0 : Int32) = xh_sv H x 0 (nI 0) (0 : Int32) from fun _ _ => rfl, xm_s11c (show 0 < 4 by omega), xm_sVs, xm_sVV, s_tk h2 hl hp]
  rw [rdS_eq]
  by_cases z : isCb (V 4) len p 46 = true
  · have hpl := isCb_lt z
    rw [z, if_neg (show ¬ xb01 true = 0 by decide)]
    simp only [if_true]
    rw [s_rn 1 32 hN h2 hl (by omega) (show 0 < 4 by omega) (by omega) (by omega) xl_0 xl_1 xl_32]
    unfold rdO
    rw [if_pos rfl]
    rcases hy : rdN (V 4) len (p + 1) 1 32 with _ | ⟨r, p1⟩
    · exact ⟨_, rfl, fun _ _ _ _ q => by cases q⟩
    · have b2 := rdN_le hy
      simp only [xm_chk, xm_g0, xm_g1, xm_g3, xm_g5, xm_g7, xm_g8, xm_g9, xm_g10, xm_g11, xm_g12, xm_g14, xm_i2, xm_i4, xm_i6, xm_i13, xm_i15, Option.bind_some, xc_0, xm_p2, xm_p6, xm_p13, xm_p15]
      rw [if_neg (show ¬ (1 : Int32) = 0 by decide)]
      exact s_rs2 hN h2 hl b2.2.1 rfl
  · rw [Bool.eq_false_iff.mpr z, if_pos (show xb01 false = 0 from rfl)]
    unfold rdO
    rw [if_neg (by decide), if_neg (by decide)]
    exact s_rs2 hN h2 hl hp rfl
end MS
