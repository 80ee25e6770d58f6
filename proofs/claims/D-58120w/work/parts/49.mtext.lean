/-! THE MODEL's METHODS: reading the text -/
set_option maxRecDepth 100000
def isC (t : Nat → Int32) (len p : Nat) (c : Int32) : Prop := p < len ∧ t p = c
def isD (t : Nat → Int32) (len p : Nat) (lo : Int32) : Prop := p < len ∧ (lo ≤ t p ∧ t p ≤ 57)
def rdN (t : Nat → Int32) (len p : Nat) (least most : Int32) : Option (Int32 × Nat) :=
  if p < len ∧ (48 + least ≤ t p ∧ t p ≤ 57) then
    (if 0 < t p - 48 ∧ (p + 1 < len ∧ (48 ≤ t (p + 1) ∧ t (p + 1) ≤ 57)) ∧ ((10 * (t p - 48)) + t (p + 1)) - 48 ≤ most then some (((10 * (t p - 48)) + t (p + 1)) - 48, p + 2) else some (t p - 48, p + 1))
  else none
def rdO (c : Bool) (o : Option (Int32 × Nat)) (x : Int32) (p : Nat) : Option (Int32 × Nat) := if c then o else some (x, p)
def isCb (t : Nat → Int32) (len p : Nat) (c : Int32) : Bool := decide (p < len ∧ t p = c)
abbrev rdP : Type := Int32 × Int32 × Int32 × Int32
/-- a syllable of the text -/
def rdS (t : Nat → Int32) (len p : Nat) : Option rdP × Nat :=
  match rdO (isCb t len p 46) (rdN t len (p + 1) 1 32) 0 p with
  | none => (none, p + 1)
  | some (r, p1) => match rdN t len p1 0 60 with
    | none => (none, p1)
    | some (x, p2) => match rdO (isCb t len p2 45) (rdN t len (p2 + 1) 0 60) x p2 with
      | none => (none, p2 + 1)
      | some (e, p3) => if isCb t len p3 58 then (match rdN t len (p3 + 1) 1 32 with
        | none => (none, p3 + 1)
        | some (l, p4) => (some (r, x, e, l), p4)) else (none, p3)
def rdC (x : rdP × Int32) (o : Option (List (rdP × Int32)) × Nat) : Option (List (rdP × Int32)) × Nat := match o with
  | (none, q) => (none, q)
  | (some L, q) => (some (x :: L), q)
/-- the syllables of the text from p on; f: is it the first of a phrase -/
def rdT (t : Nat → Int32) (len : Nat) : Nat → Nat → Int32 → Option (List (rdP × Int32)) × Nat
  | 0, p, _ => (none, p)
  | n + 1, p, f => match rdS t len p with
    | (none, q) => (none, q)
    | (some x, q) => if q = len then (some [(x, f)], q) else if isCb t len q 47 then rdC (x, f) (rdT t len n (q + 1) 1) else if isCb t len q 44 then rdC (x, f) (rdT t len n (q + 1) 0) else (none, q)
def rdK (a : Int32) : List (rdP × Int32) → Int32
  | [] => a
  | x :: L => rdK (a + (x.1.1 + x.1.2.2.2)) L
def addL (s : Nat → Int32) : List (rdP × Int32) → Nat → Int32
  | [] => s
  | x :: L => addL (ms_add s x.1.1 x.1.2.1 x.1.2.2.1 x.1.2.2.2 x.2) L
theorem xm_sFc {F : Nat → Int32} {k : Nat} {x : Int32} (h : F k = x) : xm_sF F k x = F := by
  funext j
  unfold xm_sF
  by_cases e : j = k
  · rw [if_pos e, e, h]
  · rw [if_neg e]
theorem rdN_le {t : Nat → Int32} {len p q : Nat} {least most v : Int32} (h : rdN t len p least most = some (v, q)) : p < q ∧ q ≤ len ∧ q ≤ p + 2 := by
  unfold rdN at h
  split at h
  · next z =>
    split at h
    · next y => cases h; exact ⟨by omega, by have := y.2.1.1; omega, by omega⟩
    · cases h; exact ⟨by omega, by omega, by omega⟩
  · cases h
theorem rdO_le {t : Nat → Int32} {len p q : Nat} {c : Int32} {a m x v : Int32} (h : rdO (isCb t len p c) (rdN t len (p + 1) a m) x p = some (v, q)) (hp : p ≤ len) : p ≤ q ∧ q ≤ len := by
  unfold rdO at h
  split at h
  · have := rdN_le h; omega
  · cases h; omega
theorem isCb_lt {t : Nat → Int32} {len p : Nat} {c : Int32} (h : isCb t len p c = true) : p < len := (of_decide_eq_true h).1
theorem rdS_le {t : Nat → Int32} {len p q : Nat} {o : Option rdP} (h : rdS t len p = (o, q)) (hp : p ≤ len) : p ≤ q ∧ q ≤ len ∧ (o.isSome = true → p + 3 ≤ q) := by
  unfold rdS at h
  split at h
  · next h0 =>
    cases h
    have : isCb t len p 46 = true := by
      by_cases z : isCb t len p 46 = true
      · exact z
      · unfold rdO at h0; rw [if_neg z] at h0; cases h0
    have := isCb_lt this
    exact ⟨by omega, by omega, fun q => by cases q⟩
  · next r p1 h0 =>
    have b0 := rdO_le h0 hp
    split at h
    · cases h; exact ⟨by omega, by omega, fun q => by cases q⟩
    · next x p2 h1 =>
      have b1 := rdN_le h1
      split at h
      · next h2 =>
        cases h
        have : isCb t len p2 45 = true := by
          by_cases z : isCb t len p2 45 = true
          · exact z
          · unfold rdO at h2; rw [if_neg z] at h2; cases h2
        have := isCb_lt this
        exact ⟨by omega, by omega, fun q => by cases q⟩
      · next e p3 h2 =>
        have b2 := rdO_le h2 b1.2.1
        split at h
        · next z =>
          have := isCb_lt z
          split at h
          · cases h; exact ⟨by omega, by omega, fun q => by cases q⟩
          · next l p4 h3 =>
            have b3 := rdN_le h3
            cases h
            exact ⟨by omega, by omega, fun _ => by omega⟩
        · cases h; exact ⟨by omega, by omega, fun q => by cases q⟩
theorem rdT_le {t : Nat → Int32} {len : Nat} : ∀ (n p q : Nat) (f : Int32) (o : Option (List (rdP × Int32))), rdT t len n p f = (o, q) → p ≤ len → q ≤ len ∧ ∀ L, o = some L → 4 * L.length ≤ len + 1 - p
  | 0, p, q, f, o, h, hp => by
    cases h
    exact ⟨hp, fun L e => by cases e⟩
  | n + 1, p, q, f, o, h, hp => by
    have h' : (match rdS t len p with
      | (none, q) => (none, q)
      | (some x, q) => if q = len then (some [(x, f)], q) else if isCb t len q 47 then rdC (x, f) (rdT t len n (q + 1) 1) else if isCb t len q 44 then rdC (x, f) (rdT t len n (q + 1) 0) else (none, q)) = (o, q) := h
    split at h'
    · next q' h0 =>
      cases h'
      exact ⟨(rdS_le h0 hp).2.1, fun L e => by cases e⟩
    · next x q' h0 =>
      have b := rdS_le h0 hp
      have b3 := b.2.2 rfl
      have step : ∀ f' : Int32, q' < len → rdC (x, f) (rdT t len n (q' + 1) f') = (o, q) → q ≤ len ∧ ∀ L, o = some L → 4 * L.length ≤ len + 1 - p := by
        intro f' hl e
        rcases hr : rdT t len n (q' + 1) f' with ⟨o', q''⟩
        have ih := rdT_le n (q' + 1) q'' f' o' hr (by omega)
        rw [hr] at e
        cases o' with
        | none => cases e; exact ⟨ih.1, fun L e => by cases e⟩
        | some L' =>
          cases e
          refine ⟨ih.1, fun L e => ?_⟩
          cases e
          have := ih.2 L' rfl
          show 4 * (L'.length + 1) ≤ _
          omega
      split at h'
      · cases h'
        refine ⟨b.2.1, fun L e => ?_⟩
        cases e
        show 4 * 1 ≤ _
        omega
      · split at h'
        · next z => exact step 1 (isCb_lt z) h'
        · split at h'
          · next z => exact step 0 (isCb_lt z) h'
          · cases h'; exact ⟨b.2.1, fun L e => by cases e⟩
section MS
variable {h : xh_H} {b : Nat} {F : Nat → Int32} {V : Nat → Nat → Int32}
theorem s_isNext {N p len : Nat} {lo hi : Int32} (h3 : F 3 = nI p) (h2 : F 2 = nI len) (hl : len ≤ 60) (hp : p ≤ 60) : f_X2_isNext N (some b) lo hi (xm_M h b F V) = some (xb01 (decide (p < len ∧ (lo ≤ V 4 p ∧ V 4 p ≤ hi))), xm_M h b F V, 0, 0) := by
  unfold f_X2_isNext f_X2_isNext_b32
  simp (disch := omega) only [xm_chk, xm_g0, xm_g1, xm_g3, xm_g5, xm_g7, xm_g8, xm_g9, xm_g10, xm_g11, xm_g12, xm_g14, xm_i2, xm_i4, xm_i6, xm_i13, xm_i15, Option.bind_some, xc_0, xm_p2, xm_p6, xm_p13, xm_p15, h3, h2, s_in]
  by_cases z : p < len
  · rw [if_neg (by rw [nI_leI (by omega) (by omega)]; omega)]
    simp (disch := omega) only [xm_chk, xm_g0, xm_g1, xm_g3, xm_g5, xm_g7, xm_g8, xm_g9, xm_g10, xm_g11, xm_g12, xm_g14, xm_i2, xm_i4, xm_i6, xm_i13, xm_i15, Option.bind_some, xc_0, xm_p2, xm_p6, xm_p13, xm_p15, xm_l4, s_in]
    by_cases y : lo ≤ V 4 p ∧ V 4 p ≤ hi
    · rw [if_neg (fun q => xin_0.mp q y), decide_eq_true ⟨z, y⟩]; rfl
    · rw [if_pos (xin_0.mpr y), decide_eq_false (fun q => y q.2)]; rfl
  · rw [if_pos (by rw [nI_leI (by omega) (by omega)]; omega), decide_eq_false (fun q => z q.1)]; rfl
theorem s_takes {N p len : Nat} {c : Int32} (h3 : F 3 = nI p) (h2 : F 2 = nI len) (hl : len ≤ 60) (hp : p ≤ 60) : f_X2_takes N (some b) c (xm_M h b F V) = some (xb01 (isCb (V 4) len p c), xm_M h b (xm_sF F 3 (nI (if isCb (V 4) len p c then p + 1 else p))) V, 0, 0) := by
  unfold f_X2_takes f_X2_takes_b21
  have e : decide (p < len ∧ (c ≤ V 4 p ∧ V 4 p ≤ c)) = isCb (V 4) len p c := by
    unfold isCb
    by_cases z : p < len ∧ V 4 p = c
    · rw [decide_eq_true z, decide_eq_true ⟨z.1, by rw [z.2]; exact ⟨Int32.le_refl _, Int32.le_refl _⟩⟩]
    · rw [decide_eq_false z, decide_eq_false (fun q => z ⟨q.1, Int32.le_antisymm q.2.2 q.2.1⟩)]
  simp only [xm_chk, xm_g0, xm_g1, xm_g3, xm_g5, xm_g7, xm_g8, xm_g9, xm_g10, xm_g11, xm_g12, xm_g14, xm_i2, xm_i4, xm_i6, xm_i13, xm_i15, Option.bind_some, xc_0, xm_p2, xm_p6, xm_p13, xm_p15, s_isNext h3 h2 hl hp, e, h3]
  cases isCb (V 4) len p c with
  | false =>
    rw [if_pos (show xb01 false = 0 from rfl), if_pos (show xb01 false = 0 ∨ xb01 false = 1 from Or.inl rfl), nI_p0]
    rfl
  | true =>
    rw [if_neg (show ¬ xb01 true = 0 by decide), if_pos (show xb01 true = 0 ∨ xb01 true = 1 from Or.inr rfl), nI_1]
    rfl
theorem nI_dig {x : Int32} {lo : Nat} (hlo : lo ≤ 100) (h1 : nI lo ≤ x) (h2 : x ≤ 57) : ∃ c, lo ≤ c ∧ c ≤ 57 ∧ x = nI c := by
  have h0 : 0 ≤ x := Int32.le_trans (nI_pos' (by omega)) h1
  obtain ⟨e1, e2⟩ := nI_btw (n := 57) (by omega) h0 h2
  rw [e1, nI_leI (by omega) (by omega)] at h1
  exact ⟨_, h1, e2, e1⟩
theorem xm_s11c {w : Nat} {x : Int32} (hw : w < 4) : xh_sv (xm_M h b F V) (some (b + 11)) 0 (nI w) x = some (xm_M h b F (xm_sV V 11 (upd (V 11) w x))) := xm_s11 hw
theorem s_readNumber {N p len w ls ms : Nat} (hN : 3000 ≤ N) (h3 : F 3 = nI p) (h2 : F 2 = nI len) (hl : len ≤ 60) (hp : p ≤ 60) (hw : w < 4) (hls : ls ≤ 1) (hms : ms ≤ 60) : f_X2_readNumber N (some b) (nI w) (nI ls) (nI ms) (xm_M h b F V) =
    match rdN (V 4) len p (nI ls) (nI ms) with
    | none => some (0, xm_M h b F V, 0, 0)
    | some (v, q) => some (1, xm_M h b (xm_sF F 3 (nI q)) (xm_sV V 11 (upd (V 11) w v)), 0, 0) := by
  obtain ⟨N', rfl⟩ : ∃ j, N = j + 2 := ⟨N - 2, by omega⟩
  unfold f_X2_readNumber
  simp only [xm_chk, xm_g0, xm_g1, xm_g3, xm_g5, xm_g7, xm_g8, xm_g9, xm_g10, xm_g11, xm_g12, xm_g14, xm_i2, xm_i4, xm_i6, xm_i13, xm_i15, Option.bind_some, xc_0, xm_p2, xm_p6, xm_p13, xm_p15, s_isNext h3 h2 hl hp, h3]
  unfold rdN
  by_cases z : p < len ∧ (48 + nI ls ≤ V 4 p ∧ V 4 p ≤ 57)
  · rw [decide_eq_true z, if_neg (show ¬ xb01 true = 0 by decide), if_pos z]
    have hz1 := z.2.1
    rw [show (48 : Int32) = nI 48 from rfl, nI_add] at hz1
    obtain ⟨c, hc1, hc2, hc⟩ := nI_dig (by omega) hz1 z.2.2
    simp (disch := omega) only [xm_chk, xm_g0, xm_g1, xm_g3, xm_g5, xm_g7, xm_g8, xm_g9, xm_g10, xm_g11, xm_g12, xm_g14, xm_i2, xm_i4, xm_i6, xm_i13, xm_i15, Option.bind_some, xc_0, xm_p2, xm_p6, xm_p13, xm_p15, xm_l4, nI_1, xm_sFs]
    have h110 : ∀ (F' : Nat → Int32) (v : Int32), f_X2_readNumber_b110 (N' + 2) (some b) (nI w) v (xm_M h b F' V) = some (1, xm_M h b F' (xm_sV V 11 (upd (V 11) w v)), 0, 0) := by
      intro F' v
      unfold f_X2_readNumber_b110
      simp only [xm_chk, xm_g0, xm_g1, xm_g3, xm_g5, xm_g7, xm_g8, xm_g9, xm_g10, xm_g11, xm_g12, xm_g14, xm_i2, xm_i4, xm_i6, xm_i13, xm_i15, Option.bind_some, xc_0, xm_p2, xm_p6, xm_p13, xm_p15, xm_s11c hw]
    show f_X2_readNumber_b39 (N' + 2) (f_X2_readNumber_l39 (N' + 2) (N' + 1)) (some b) (nI w) (nI ms) (V 4 p - 48) (xm_M h b (xm_sF F 3 (nI (p + 1))) V) = _
    have hF3 : xm_sF F 3 (nI (p + 1)) 3 = nI (p + 1) := xm_sFs
    have hF2 : xm_sF F 3 (nI (p + 1)) 2 = nI len := by rw [xm_sFn (by omega)]; exact h2
    have hv : V 4 p - 48 = nI (c - 48) := by rw [hc, show (48 : Int32) = nI 48 from rfl, pk_sub (by omega)]
    have h39 : ∀ k39, f_X2_readNumber_b39 (N' + 2) k39 (some b) (nI w) (nI ms) (V 4 p - 48) (xm_M h b (xm_sF F 3 (nI (p + 1))) V) =
        if 0 < V 4 p - 48 ∧ (p + 1 < len ∧ (48 ≤ V 4 (p + 1) ∧ V 4 (p + 1) ≤ 57)) ∧ ((10 * (V 4 p - 48)) + V 4 (p + 1)) - 48 ≤ nI ms then k39 (some b) (nI w) (nI ms) (((10 * (V 4 p - 48)) + V 4 (p + 1)) - 48) (xm_M h b (xm_sF F 3 (nI (p + 2))) V) else some (1, xm_M h b (xm_sF F 3 (nI (p + 1))) (xm_sV V 11 (upd (V 11) w (V 4 p - 48))), 0, 0) := by
      intro k39
      unfold f_X2_readNumber_b39
      simp only [xm_chk, xm_g0, xm_g1, xm_g3, xm_g5, xm_g7, xm_g8, xm_g9, xm_g10, xm_g11, xm_g12, xm_g14, xm_i2, xm_i4, xm_i6, xm_i13, xm_i15, Option.bind_some, xc_0, xm_p2, xm_p6, xm_p13, xm_p15, s_isNext hF3 hF2 hl (show p + 1 ≤ 60 by omega), h110, hF3]
      by_cases y0 : V 4 p - 48 ≤ 0
      · rw [if_pos y0, if_neg (fun q => absurd q.1 (Int32.not_lt.mpr y0))]
      · rw [if_neg y0]
        by_cases y1 : p + 1 < len ∧ (48 ≤ V 4 (p + 1) ∧ V 4 (p + 1) ≤ 57)
        · rw [decide_eq_true y1, if_neg (show ¬ xb01 true = 0 by decide)]
          simp (disch := omega) only [xm_chk, xm_g0, xm_g1, xm_g3, xm_g5, xm_g7, xm_g8, xm_g9, xm_g10, xm_g11, xm_g12, xm_g14, xm_i2, xm_i4, xm_i6, xm_i13, xm_i15, Option.bind_some, xc_0, xm_p2, xm_p6, xm_p13, xm_p15, xm_l4, nI_1, xm_sFF]
          by_cases y2 : nI ms < ((10 * (V 4 p - 48)) + V 4 (p + 1)) - 48
          · rw [if_pos y2, if_neg (fun q => absurd y2 (Int32.not_lt.mpr q.2.2))]
          · rw [if_neg y2, if_pos ⟨Int32.not_le.mp y0, y1, Int32.not_lt.mp y2⟩]
        · rw [decide_eq_false y1, if_pos (show xb01 false = 0 from rfl), if_neg (fun q => y1 q.2.1)]
    rw [h39]
    by_cases y : 0 < V 4 p - 48 ∧ (p + 1 < len ∧ (48 ≤ V 4 (p + 1) ∧ V 4 (p + 1) ≤ 57)) ∧ ((10 * (V 4 p - 48)) + V 4 (p + 1)) - 48 ≤ nI ms
    · rw [if_pos y, if_pos y]
      show f_X2_readNumber_b39 (N' + 2) (f_X2_readNumber_l39 (N' + 2) N') (some b) (nI w) (nI ms) _ _ = _
      obtain ⟨d, hd1, hd2, hd⟩ := nI_dig (lo := 48) (by omega) y.2.1.2.1 y.2.1.2.2
      have hc0 : 1 ≤ c - 48 := by
        have := y.1
        rw [hv, show (0 : Int32) = nI 0 from rfl, nI_ltI (by omega) (by omega)] at this
        omega
      have hv2 : ((10 * (V 4 p - 48)) + V 4 (p + 1)) - 48 = nI (10 * (c - 48) + d - 48) := by
        rw [hv, hd, show (48 : Int32) = nI 48 from rfl, show (10 : Int32) = nI 10 from rfl, pk_mul, nI_add, pk_sub (by omega)]
      have hG3 : xm_sF F 3 (nI (p + 2)) 3 = nI (p + 2) := xm_sFs
      have hG2 : xm_sF F 3 (nI (p + 2)) 2 = nI len := by rw [xm_sFn (by omega)]; exact h2
      unfold f_X2_readNumber_b39
      rw [hv2]
      simp only [xm_chk, xm_g0, xm_g1, xm_g3, xm_g5, xm_g7, xm_g8, xm_g9, xm_g10, xm_g11, xm_g12, xm_g14, xm_i2, xm_i4, xm_i6, xm_i13, xm_i15, Option.bind_some, xc_0, xm_p2, xm_p6, xm_p13, xm_p15, s_isNext hG3 hG2 hl (show p + 2 ≤ 60 by omega), h110, hG3]
      rw [if_neg (nI_nle (by omega) (by omega))]
      by_cases x : p + 2 < len ∧ (48 ≤ V 4 (p + 2) ∧ V 4 (p + 2) ≤ 57)
      · obtain ⟨g, hg1, hg2, hg⟩ := nI_dig (lo := 48) (by omega) x.2.1 x.2.2
        rw [decide_eq_true x, if_neg (show ¬ xb01 true = 0 by decide)]
        simp (disch := omega) only [xm_chk, xm_g0, xm_g1, xm_g3, xm_g5, xm_g7, xm_g8, xm_g9, xm_g10, xm_g11, xm_g12, xm_g14, xm_i2, xm_i4, xm_i6, xm_i13, xm_i15, Option.bind_some, xc_0, xm_p2, xm_p6, xm_p13, xm_p15, xm_l4, hg]
        rw [if_pos (by rw [show (48 : Int32) = nI 48 from rfl, show (10 : Int32) = nI 10 from rfl, pk_mul, nI_add, pk_sub (by omega), nI_ltI (by omega) (by omega)]; omega)]
      · rw [decide_eq_false x, if_pos (show xb01 false = 0 from rfl)]
    · rw [if_neg y, if_neg y]
  · rw [decide_eq_false z, if_pos (show xb01 false = 0 from rfl), if_neg z]
end MS
