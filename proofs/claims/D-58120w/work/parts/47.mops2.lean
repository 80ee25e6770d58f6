/-! THE MODEL's METHODS: singing, texts, history -/
set_option maxRecDepth 100000
def ms_okT (a c m : Int32) : Prop := (0 ≤ a ∧ a ≤ 599) ∧ (1 ≤ c ∧ c ≤ m) ∧ a + c ≤ 600
theorem ms_okT_nat {a c : Int32} {m : Nat} (hm : m ≤ 600) (h : ms_okT a c (nI m)) : a = nI a.toNatClampNeg ∧ c = nI c.toNatClampNeg ∧ a.toNatClampNeg + c.toNatClampNeg ≤ 600 ∧ 1 ≤ c.toNatClampNeg := by
  obtain ⟨⟨h1, h2⟩, ⟨h3, h4⟩, h5⟩ := h
  obtain ⟨e1, e2⟩ := nI_btw (n := 599) (by omega) h1 h2
  have h30 : (0 : Int32) ≤ c := by
    have : (0 : Int32) ≤ 1 := by decide
    exact Int32.le_trans this h3
  obtain ⟨e3, e4⟩ := nI_btw (n := m) (by omega) h30 h4
  rw [e3, xl_1, nI_leI (by omega) (by omega)] at h3
  rw [e1, e3, nI_add, xl_600, nI_leI (by omega) (by omega)] at h5
  exact ⟨e1, e3, h5, h3⟩
theorem pitch1 {x : Int32} (h : 0 ≤ x ∧ x ≤ 60) : 0 ≤ x + 1 ∧ x + 1 ≤ 61 := by
  obtain ⟨e1, e2⟩ := nI_btw (n := 60) (by omega) h.1 h.2
  rw [e1, nI_1, show (61 : Int32) = nI 61 from rfl]
  exact ⟨nI_pos' (by omega), (nI_leI (by omega) (by omega)).mpr (by omega)⟩
def ms_sak (s : Nat → Int32) (by_ : Int32) (k t : Nat) : Int32 := if 0 ≤ ms_w s k (nI t - s (6 + 5 * k)) + by_ ∧ ms_w s k (nI t - s (6 + 5 * k)) + by_ ≤ 60 then (ms_w s k (nI t - s (6 + 5 * k)) + by_) + 1 else 0
/-- c syllables sung along, from the one on; s0: the syllables -/
def ms_sa (s : Nat → Int32) (by_ : Int32) (first : Nat) : Nat → Nat → Int32
  | 0 => s
  | c + 1 => ms_run (ms_sa s by_ first c) (ms_b s (first + c)) (ms_l s (first + c)) (ms_sak s by_ (first + c))
theorem ms_sa_lo {s : Nat → Int32} {by_ : Int32} {first j : Nat} (h : j < 206) : ∀ c, ms_sa s by_ first c j = s j
  | 0 => rfl
  | c + 1 => by
    show ms_run _ _ _ _ j = s j
    rw [ms_run_lo h, ms_sa_lo h c]
theorem ms_w_congr {s s' : Nat → Int32} {k : Nat} {d : Int32} (hk : k < 40) (e : ∀ j, j < 206 → s' j = s j) : ms_w s' k d = ms_w s k d := by
  unfold ms_w
  rw [e _ (by omega), e _ (by omega), e _ (by omega)]
theorem ms_sak_b {s : Nat → Int32} {by_ : Int32} {k t : Nat} : 0 ≤ ms_sak s by_ k t ∧ ms_sak s by_ k t ≤ 61 := by
  unfold ms_sak
  split
  · next h => exact pitch1 h
  · exact ⟨by decide, by decide⟩
theorem ms_sa_ok {s : Nat → Int32} {by_ : Int32} {first : Nat} (h : ms_ok s) : ∀ c, ms_ok (ms_sa s by_ first c)
  | 0 => h
  | c + 1 => ms_run_ok (ms_sa_ok h c) (fun _ => ms_sak_b)
section MS
variable {h : xh_H} {b : Nat} {F : Nat → Int32} {V : Nat → Nat → Int32}
theorem s_sing {N q : Nat} {a c x : Int32} (hN : 3000 ≤ N) (hok : ms_ok (V 1)) (ht : ∀ t, 600 ≤ t → V 5 t = 0) (h0 : F 0 = nI q) (hq : q ≤ 4) (P : Decidable (ms_okT a c 64 ∧ (0 ≤ x ∧ x ≤ 60))) : f_X2_sing N (some b) a c x (xm_M h b F V) =
    some (if ms_okT a c 64 ∧ (0 ≤ x ∧ x ≤ 60) then (ms_hits (ms_run (V 1) a.toNatClampNeg c.toNatClampNeg (fun _ => x + 1)), xm_M h b (rcF F q) (jg (xm_sV (rcV V q) 1 (ms_run (V 1) a.toNatClampNeg c.toNatClampNeg (fun _ => x + 1))) 0 0), 0, 0) else (-2, xm_M h b F V, 0, 0)) := by
  unfold f_X2_sing f_X2_sing_b33
  simp only [xm_chk, xm_g0, xm_g1, xm_g3, xm_g5, xm_g7, xm_g8, xm_g9, xm_g10, xm_g11, xm_g12, xm_g14, xm_i2, xm_i4, xm_i6, xm_i13, xm_i15, Option.bind_some, xc_0, xm_p2, xm_p6, xm_p13, xm_p15, s_isTick, s_in, s_isPitch, s_rec hN hq h0]
  by_cases h1 : 0 ≤ a ∧ a ≤ 599
  · rw [if_neg (fun z => xin_0.mp z h1)]
    by_cases h2 : 1 ≤ c ∧ c ≤ 64
    · rw [if_neg (fun z => xin_0.mp z h2)]
      by_cases h3 : 600 < a + c
      · rw [if_pos h3, if_neg (fun z => absurd h3 (Int32.not_lt.mpr z.1.2.2))]
      · rw [if_neg h3]
        by_cases h4 : 0 ≤ x ∧ x ≤ 60
        · have hT : ms_okT a c 64 := ⟨h1, h2, Int32.not_lt.mp h3⟩
          rw [if_neg (fun z => xin_0.mp z h4), if_pos ⟨hT, h4⟩]
          obtain ⟨e1, e2, e3, e4⟩ := ms_okT_nat (m := 64) (by omega) hT
          have e0 : rcV V q 1 = V 1 := rcV_o (by omega)
          have key := s_singL (h := h) (b := b) (F := rcF F q) (V := rcV V q) (x := x) hN (by rw [e0]; exact hok) (by rw [rcV_o (by omega)]; exact ht) e3 (pitch1 h4)
          rw [← e1, ← e2, e0] at key
          exact key
        · rw [if_pos (xin_0.mpr h4), if_neg (fun z => h4 z.2)]
    · rw [if_pos (xin_0.mpr h2), if_neg (fun z => h2 z.1.2.1)]
  · rw [if_pos (xin_0.mpr h1), if_neg (fun z => h1 z.1.1)]
theorem s_silL {N a c : Nat} (hN : 3000 ≤ N) (hac : a + c ≤ 600) : f_X2_silence_l39 N N (some b) (nI a) (nI c) 0 (nI a) (xm_M h b F V) = some (nI (ms_cnt (fun t => decide (0 < V 1 (206 + t))) a c), xm_M h b F (xm_sV V 1 (ms_run (V 1) a c (fun _ => 0))), 0, 0) := by
  have key := xl_run (fun _ _ _ _ _ _ => none) (fun k4 => f_X2_silence_b39 N k4)
    (fun i f => f (some b) (nI a) (nI c) (nI (ms_cnt (fun t => decide (0 < V 1 (206 + t))) a i)) (nI (a + i)) (xm_M h b F (xm_sV V 1 (ms_run (V 1) a i (fun _ => 0)))))
    (some (nI (ms_cnt (fun t => decide (0 < V 1 (206 + t))) a c), xm_M h b F (xm_sV V 1 (ms_run (V 1) a c (fun _ => 0))), 0, 0)) c ?_ ?_ N 0 (by omega) (by omega)
  · have e : xm_sV V 1 (ms_run (V 1) a 0 (fun _ => 0)) = V := by rw [ms_run_0, xm_sVc]
    simp only [e] at key
    exact key
  · intro f i hi
    show f_X2_silence_b39 N f _ _ _ _ _ _ = _
    unfold f_X2_silence_b39 f_X2_silence_b67
    rw [nI_add, if_neg (by rw [nI_leI (by omega) (by omega)]; omega), xl_206, nI_add]
    simp (disch := omega) only [xm_chk, xm_g0, xm_g1, xm_g3, xm_g5, xm_g7, xm_g8, xm_g9, xm_g10, xm_g11, xm_g12, xm_g14, xm_i2, xm_i4, xm_i6, xm_i13, xm_i15, Option.bind_some, xc_0, xm_p2, xm_p6, xm_p13, xm_p15, xm_l1, xm_s1, xm_sVs, xm_sVV, nI_1, nI_p0]
    rw [ms_run_hi (by omega)]
    have e2 := ms_run_s (s := V 1) (a := a) (c := i) (x := fun _ => 0)
    rw [e2]
    show _ = f _ _ _ (nI (ms_cnt _ _ i + (if decide (0 < V 1 (206 + (a + i))) then 1 else 0))) _ _
    generalize ms_cnt (fun t => decide (0 < V 1 (206 + t))) a i = y
    by_cases h2 : V 1 (206 + (a + i)) ≤ 0
    · rw [if_pos h2, decide_eq_false (Int32.not_lt.mpr h2)]; rfl
    · rw [if_neg h2, decide_eq_true (Int32.not_le.mp h2)]; rfl
  · intro f
    show f_X2_silence_b39 N f _ _ _ _ _ _ = _
    unfold f_X2_silence_b39 f_X2_silence_b87
    rw [nI_add, if_pos (by rw [nI_leI (by omega) (by omega)]; omega)]
theorem s_silence {N q : Nat} {a c : Int32} (hN : 3000 ≤ N) (h0 : F 0 = nI q) (hq : q ≤ 4) (P : Decidable (ms_okT a c 600)) : f_X2_silence N (some b) a c (xm_M h b F V) =
    some (if ms_okT a c 600 then (nI (ms_cnt (fun t => decide (0 < V 1 (206 + t))) a.toNatClampNeg c.toNatClampNeg), xm_M h b (rcF F q) (xm_sV (rcV V q) 1 (ms_run (V 1) a.toNatClampNeg c.toNatClampNeg (fun _ => 0))), 0, 0) else (-2, xm_M h b F V, 0, 0)) := by
  unfold f_X2_silence f_X2_silence_b27
  simp only [xm_chk, xm_g0, xm_g1, xm_g3, xm_g5, xm_g7, xm_g8, xm_g9, xm_g10, xm_g11, xm_g12, xm_g14, xm_i2, xm_i4, xm_i6, xm_i13, xm_i15, Option.bind_some, xc_0, xm_p2, xm_p6, xm_p13, xm_p15, s_isTick, s_in, s_rec hN hq h0]
  by_cases h1 : 0 ≤ a ∧ a ≤ 599
  · rw [if_neg (fun z => xin_0.mp z h1)]
    by_cases h2 : 1 ≤ c ∧ c ≤ 600
    · rw [if_neg (fun z => xin_0.mp z h2)]
      by_cases h3 : a + c ≤ 600
      · have hT : ms_okT a c 600 := ⟨h1, h2, h3⟩
        rw [if_pos h3, if_pos hT]
        obtain ⟨e1, e2, e3, e4⟩ := ms_okT_nat (m := 600) (by omega) hT
        have e0 : rcV V q 1 = V 1 := rcV_o (by omega)
        have key := s_silL (h := h) (b := b) (F := rcF F q) (V := rcV V q) hN e3
        rw [← e1, ← e2, e0] at key
        exact key
      · rw [if_neg h3, if_neg (fun z => h3 z.2.2)]
    · rw [if_pos (xin_0.mpr h2), if_neg (fun z => h2 z.2.1)]
  · rw [if_pos (xin_0.mpr h1), if_neg (fun z => h1 z.1)]
theorem s_sa59 {N k : Nat} {lst by_ : Int32} {s0 : Nat → Int32} {k44 : Option Nat → Int32 → Int32 → Int32 → xh_H → xh_R Int32} (hN : 3000 ≤ N) (hk : k < 40) (hs : ∀ j, j < 206 → V 1 j = s0 j) (hb : s0 (6 + 5 * k) = nI (ms_b s0 k)) (hl : s0 (6 + 5 * k + 1) = nI (ms_l s0 k)) (hbl : ms_b s0 k + ms_l s0 k ≤ 600) : f_X2_singAlong_l59 N k44 N (some b) lst by_ (nI k) (nI (ms_b s0 k)) (xm_M h b F V) = k44 (some b) lst by_ (nI (k + 1)) (xm_M h b F (xm_sV V 1 (ms_run (V 1) (ms_b s0 k) (ms_l s0 k) (ms_sak s0 by_ k)))) := by
  have key := xl_run (fun _ _ _ _ _ _ => none) (fun k59 => f_X2_singAlong_b59 N k44 k59)
    (fun i f => f (some b) lst by_ (nI k) (nI (ms_b s0 k + i)) (xm_M h b F (xm_sV V 1 (ms_run (V 1) (ms_b s0 k) i (ms_sak s0 by_ k)))))
    (k44 (some b) lst by_ (nI (k + 1)) (xm_M h b F (xm_sV V 1 (ms_run (V 1) (ms_b s0 k) (ms_l s0 k) (ms_sak s0 by_ k))))) (ms_l s0 k) ?_ ?_ N 0 (by omega) (by omega)
  · have e : xm_sV V 1 (ms_run (V 1) (ms_b s0 k) 0 (ms_sak s0 by_ k)) = V := by rw [ms_run_0, xm_sVc]
    simp only [e] at key
    exact key
  · intro f i hi
    have hw : ∀ d, f_X2_wantedIn N (some b) (nI k) d (xm_M h b F (xm_sV V 1 (ms_run (V 1) (ms_b s0 k) i (ms_sak s0 by_ k)))) = some (ms_w s0 k d, xm_M h b F (xm_sV V 1 (ms_run (V 1) (ms_b s0 k) i (ms_sak s0 by_ k))), 0, 0) := fun d => by
      rw [s_wantedIn (by omega), xm_sVs, ms_w_congr hk (fun j hj => (ms_run_lo hj).trans (hs j hj))]
    show f_X2_singAlong_b59 N k44 f _ _ _ _ _ _ = _
    unfold f_X2_singAlong_b59 f_X2_singAlong_b116
    simp (disch := omega) only [xm_chk, xm_g0, xm_g1, xm_g3, xm_g5, xm_g7, xm_g8, xm_g9, xm_g10, xm_g11, xm_g12, xm_g14, xm_i2, xm_i4, xm_i6, xm_i13, xm_i15, Option.bind_some, xc_0, xm_p2, xm_p6, xm_p13, xm_p15, s_behind, s_of0, Nat.add_zero, xm_sVs, ms_run_lo, hs, hb, hl, nI_add, hw, s_isPitch, xl_206, xm_s1, xm_sVV, nI_1]
    rw [if_neg (by rw [nI_leI (by omega) (by omega)]; omega)]
    have e2 := ms_run_s (s := V 1) (a := ms_b s0 k) (c := i) (x := ms_sak s0 by_ k)
    show _ = f (some b) lst by_ (nI k) (nI (ms_b s0 k + i + 1)) (xm_M h b F (xm_sV V 1 (ms_run (V 1) (ms_b s0 k) (i + 1) (ms_sak s0 by_ k))))
    rw [← e2]
    unfold ms_sak
    rw [hb]
    by_cases h2 : 0 ≤ ms_w s0 k (nI (ms_b s0 k + i) - nI (ms_b s0 k)) + by_ ∧ ms_w s0 k (nI (ms_b s0 k + i) - nI (ms_b s0 k)) + by_ ≤ 60
    · rw [if_neg (fun z => xin_0.mp z h2), if_pos h2]
    · rw [if_pos (xin_0.mpr h2), if_neg h2]
  · intro f
    show f_X2_singAlong_b59 N k44 f _ _ _ _ _ _ = _
    unfold f_X2_singAlong_b59 f_X2_singAlong_b123
    simp (disch := omega) only [xm_chk, xm_g0, xm_g1, xm_g3, xm_g5, xm_g7, xm_g8, xm_g9, xm_g10, xm_g11, xm_g12, xm_g14, xm_i2, xm_i4, xm_i6, xm_i13, xm_i15, Option.bind_some, xc_0, xm_p2, xm_p6, xm_p13, xm_p15, s_behind, Nat.add_zero, xm_sVs, ms_run_lo, hs, hb, hl, nI_add, nI_1]
    rw [if_pos (by rw [nI_leI (by omega) (by omega)]; omega)]
theorem s_saL {N first c : Nat} {by_ : Int32} (hN : 3000 ≤ N) (hok : ms_ok (V 1)) (ht : ∀ t, 600 ≤ t → V 5 t = 0) (hc : first + c ≤ ms_n (V 1)) (hc1 : 1 ≤ c) : f_X2_singAlong_l44 N N (some b) (nI (first + c - 1)) by_ (nI first) (xm_M h b F V) = some (ms_hits (ms_sa (V 1) by_ first c), xm_M h b F (jg (xm_sV V 1 (ms_sa (V 1) by_ first c)) 0 0), 0, 0) := by
  obtain ⟨h5, hn, hsy, -⟩ := id hok
  have key := xl_run (fun _ _ _ _ _ => none) (fun k44 => f_X2_singAlong_b44 N k44)
    (fun i f => f (some b) (nI (first + c - 1)) by_ (nI (first + i)) (xm_M h b F (xm_sV V 1 (ms_sa (V 1) by_ first i))))
    (some (ms_hits (ms_sa (V 1) by_ first c), xm_M h b F (jg (xm_sV V 1 (ms_sa (V 1) by_ first c)) 0 0), 0, 0)) c ?_ ?_ N 0 (by omega) (by omega)
  · have e : xm_sV V 1 (ms_sa (V 1) by_ first 0) = V := xm_sVc
    simp only [e] at key
    exact key
  · intro f i hi
    obtain ⟨hb, hl, hl1, hl2, hbl, -⟩ := hsy (first + i) (by omega)
    show f_X2_singAlong_b44 N f _ _ _ _ _ = _
    unfold f_X2_singAlong_b44
    rw [if_neg (by rw [nI_ltI (by omega) (by omega)]; omega)]
    simp (disch := omega) only [xm_chk, xm_g0, xm_g1, xm_g3, xm_g5, xm_g7, xm_g8, xm_g9, xm_g10, xm_g11, xm_g12, xm_g14, xm_i2, xm_i4, xm_i6, xm_i13, xm_i15, Option.bind_some, xc_0, xm_p2, xm_p6, xm_p13, xm_p15, s_of0, Nat.add_zero, xm_sVs, ms_sa_lo]
    rw [hb, s_sa59 (s0 := V 1) hN (by omega) (fun j hj => by rw [xm_sVs]; exact ms_sa_lo hj i) hb hl hbl, xm_sVs, xm_sVV]
    rfl
  · intro f
    show f_X2_singAlong_b44 N f _ _ _ _ _ = _
    unfold f_X2_singAlong_b44 f_X2_singAlong_b129
    rw [if_pos (by rw [nI_ltI (by omega) (by omega)]; omega)]
    have := s_sing71 (h := h) (b := b) (F := F) (V := xm_sV V 1 (ms_sa (V 1) by_ first c)) hN (by rw [xm_sVs]; exact ms_sa_ok hok c) (by rw [xm_sVn (by omega)]; exact ht)
    rw [xm_sVs] at this
    exact this
/-- a syllable of the song -/
theorem ms_isS {s : Nat → Int32} {x : Int32} (h5 : s 5 = nI (ms_n s)) (hn : ms_n s ≤ 40) : (0 ≤ x ∧ x ≤ s 5 - 1) ↔ ∃ k, k < ms_n s ∧ x = nI k := by
  rw [h5]
  constructor
  · intro ⟨h1, h2⟩
    by_cases z : ms_n s = 0
    · rw [z] at h2
      exact absurd (Int32.le_trans h1 h2) (by decide)
    · rw [xl_1, pk_sub (by omega)] at h2
      obtain ⟨e1, e2⟩ := nI_btw (by omega) h1 h2
      exact ⟨_, by omega, e1⟩
  · rintro ⟨k, hk, rfl⟩
    rw [xl_1, pk_sub (by omega), nI_leI (by omega) (by omega)]
    exact ⟨nI_pos' (by omega), by omega⟩
theorem s_singAlong {N q : Nat} {x y by_ : Int32} (hN : 3000 ≤ N) (hok : ms_ok (V 1)) (ht : ∀ t, 600 ≤ t → V 5 t = 0) (h0 : F 0 = nI q) (hq : q ≤ 4) : f_X2_singAlong N (some b) x y by_ (xm_M h b F V) =
    some (if ¬ (0 ≤ x ∧ x ≤ V 1 5 - 1) ∨ ¬ (0 ≤ y ∧ y ≤ V 1 5 - 1) then (-1, xm_M h b F V, 0, 0) else if y < x ∨ ¬ (-60 ≤ by_ ∧ by_ ≤ 60) then (-2, xm_M h b F V, 0, 0) else
      (ms_hits (ms_sa (V 1) by_ x.toNatClampNeg (y.toNatClampNeg + 1 - x.toNatClampNeg)), xm_M h b (rcF F q) (jg (xm_sV (rcV V q) 1 (ms_sa (V 1) by_ x.toNatClampNeg (y.toNatClampNeg + 1 - x.toNatClampNeg))) 0 0), 0, 0)) := by
  obtain ⟨h5, hn, -⟩ := id hok
  unfold f_X2_singAlong f_X2_singAlong_b16 f_X2_singAlong_b34
  simp only [xm_chk, xm_g0, xm_g1, xm_g3, xm_g5, xm_g7, xm_g8, xm_g9, xm_g10, xm_g11, xm_g12, xm_g14, xm_i2, xm_i4, xm_i6, xm_i13, xm_i15, Option.bind_some, xc_0, xm_p2, xm_p6, xm_p13, xm_p15, s_isSyllable, s_in, s_rec hN hq h0]
  by_cases h1 : 0 ≤ x ∧ x ≤ V 1 5 - 1
  · rw [if_neg (fun z => xin_0.mp z h1)]
    by_cases h2 : 0 ≤ y ∧ y ≤ V 1 5 - 1
    · rw [if_neg (fun z => xin_0.mp z h2), if_neg (show ¬ (¬ (0 ≤ x ∧ x ≤ V 1 5 - 1) ∨ ¬ (0 ≤ y ∧ y ≤ V 1 5 - 1)) from fun z => z.elim (fun w => w h1) (fun w => w h2))]
      by_cases h3 : y < x
      · rw [if_pos h3, if_pos (Or.inl h3)]
      · rw [if_neg h3]
        by_cases h4 : -60 ≤ by_ ∧ by_ ≤ 60
        · rw [if_neg (fun z => xin_0.mp z h4), if_neg (fun z => z.elim h3 (fun w => w h4))]
          obtain ⟨kx, hx, rfl⟩ := (ms_isS h5 hn).mp h1
          obtain ⟨ky, hy, rfl⟩ := (ms_isS h5 hn).mp h2
          rw [nI_ltI (by omega) (by omega)] at h3
          rw [nI_clamp (by omega), nI_clamp (by omega)]
          have e0 : rcV V q 1 = V 1 := rcV_o (by omega)
          have key := s_saL (h := h) (b := b) (F := rcF F q) (V := rcV V q) (first := kx) (c := ky + 1 - kx) (by_ := by_) hN (by rw [e0]; exact hok) (by rw [rcV_o (by omega)]; exact ht) (by rw [e0]; omega) (by omega)
          rw [show kx + (ky + 1 - kx) - 1 = ky by omega, e0] at key
          exact key
        · rw [if_pos (xin_0.mpr h4), if_pos (Or.inr h4)]
    · rw [if_pos (xin_0.mpr h2), if_pos (Or.inr h2)]
  · rw [if_pos (xin_0.mpr h1), if_pos (Or.inl h1)]
theorem s_type {N len : Nat} {x : Int32} (h2 : F 2 = nI len) (hl : len ≤ 60) : f_X2_type N (some b) x (xm_M h b F V) =
    some (if len = 60 then (-3, xm_M h b F V, 0, 0) else (nI (len + 1), xm_M h b (xm_sF F 2 (nI (len + 1))) (xm_sV V 4 (upd (V 4) len (vp_nar .char x))), 0, 0)) := by
  unfold f_X2_type
  simp only [xm_chk, xm_g0, xm_g1, xm_g3, xm_g5, xm_g7, xm_g8, xm_g9, xm_g10, xm_g11, xm_g12, xm_g14, xm_i2, xm_i4, xm_i6, xm_i13, xm_i15, Option.bind_some, xc_0, xm_p2, xm_p6, xm_p13, xm_p15, h2]
  by_cases z : len = 60
  · rw [if_pos (by rw [z]; rfl), if_pos z]
  · rw [if_neg (by rw [xl_60, nI_eq (by omega) (by omega)]; exact z), if_neg z]
    simp (disch := omega) only [xm_chk, xm_g0, xm_g1, xm_g3, xm_g5, xm_g7, xm_g8, xm_g9, xm_g10, xm_g11, xm_g12, xm_g14, xm_i2, xm_i4, xm_i6, xm_i13, xm_i15, Option.bind_some, xc_0, xm_p2, xm_p6, xm_p13, xm_p15, h2, xm_s4, nI_1, xm_sFs]
theorem s_clearText {N : Nat} : f_X2_clearText N (some b) (xm_M h b F V) = some (F 2, xm_M h b (xm_sF F 2 0) V, 0, 0) := by
  unfold f_X2_clearText
  simp only [xm_chk, xm_g0, xm_g1, xm_g3, xm_g5, xm_g7, xm_g8, xm_g9, xm_g10, xm_g11, xm_g12, xm_g14, xm_i2, xm_i4, xm_i6, xm_i13, xm_i15, Option.bind_some, xc_0, xm_p2, xm_p6, xm_p13, xm_p15]
theorem s_undo {N q : Nat} (hN : 3000 ≤ N) (h0 : F 0 = nI q) (hq : q ≤ 4) : f_X2_undo N (some b) (xm_M h b F V) =
    some (if q = 0 then (-5, xm_M h b F V, 0, 0) else (nI (q - 1), xm_M h b (xm_sF F 0 (nI (q - 1))) (xm_sV V 1 (va_cpy (V 2) (V 1) (806 * (q - 1)) 0 806)), 0, 0)) := by
  unfold f_X2_undo
  simp only [xm_chk, xm_g0, xm_g1, xm_g3, xm_g5, xm_g7, xm_g8, xm_g9, xm_g10, xm_g11, xm_g12, xm_g14, xm_i2, xm_i4, xm_i6, xm_i13, xm_i15, Option.bind_some, xc_0, xm_p2, xm_p6, xm_p13, xm_p15, h0]
  by_cases z : q = 0
  · rw [if_pos (by rw [z]; rfl), if_pos z]
  · rw [if_neg (nI_ne0 (by omega) (by omega)), if_neg z, xl_1, pk_sub (by omega), xm_sFs, xl_806, pk_mul, s_copy21 hN (by omega)]
    simp only [xm_chk, xm_g0, xm_g1, xm_g3, xm_g5, xm_g7, xm_g8, xm_g9, xm_g10, xm_g11, xm_g12, xm_g14, xm_i2, xm_i4, xm_i6, xm_i13, xm_i15, Option.bind_some, xc_0, xm_p2, xm_p6, xm_p13, xm_p15, xm_sFs]
theorem s_keep {N : Nat} (hN : 3000 ≤ N) : f_X2_keep N (some b) (xm_M h b F V) = some (V 1 5, xm_M h b (xm_sF F 1 1) (xm_sV V 3 (va_cpy (V 1) (V 3) 0 0 806)), 0, 0) := by
  unfold f_X2_keep
  simp only [xm_chk, xm_g0, xm_g1, xm_g3, xm_g5, xm_g7, xm_g8, xm_g9, xm_g10, xm_g11, xm_g12, xm_g14, xm_i2, xm_i4, xm_i6, xm_i13, xm_i15, Option.bind_some, xc_0, xm_p2, xm_p6, xm_p13, xm_p15, s_copy13 hN, xm_p4 (Or.inr rfl), xm_l1c0, xm_l1c1, xm_l1c2, xm_l1c3, xm_l1c4, xm_l1c5, s_of0, s_of1, s_of2, s_of3, s_of4, xm_sVn (show (1 : Nat) ≠ 3 by omega)]
theorem s_restore {N q : Nat} (hN : 3000 ≤ N) (h0 : F 0 = nI q) (hq : q ≤ 4) : f_X2_restore N (some b) (xm_M h b F V) =
    some (if F 1 = 0 then (-5, xm_M h b F V, 0, 0) else (V 3 5, xm_M h b (rcF F q) (xm_sV (rcV V q) 1 (va_cpy (V 3) (V 1) 0 0 806)), 0, 0)) := by
  unfold f_X2_restore
  simp only [xm_chk, xm_g0, xm_g1, xm_g3, xm_g5, xm_g7, xm_g8, xm_g9, xm_g10, xm_g11, xm_g12, xm_g14, xm_i2, xm_i4, xm_i6, xm_i13, xm_i15, Option.bind_some, xc_0, xm_p2, xm_p6, xm_p13, xm_p15]
  by_cases z : F 1 = 0
  · rw [if_pos z, if_pos z]
  · rw [if_neg z, if_neg z]
    simp only [xm_chk, xm_g0, xm_g1, xm_g3, xm_g5, xm_g7, xm_g8, xm_g9, xm_g10, xm_g11, xm_g12, xm_g14, xm_i2, xm_i4, xm_i6, xm_i13, xm_i15, Option.bind_some, xc_0, xm_p2, xm_p6, xm_p13, xm_p15, s_rec hN hq h0, s_copy31 hN, xm_l1c0, xm_l1c1, xm_l1c2, xm_l1c3, xm_l1c4, xm_l1c5, s_of0, s_of1, s_of2, s_of3, s_of4, xm_sVs, rcV_o (show (3 : Nat) ≠ 2 by omega), rcV_o (show (1 : Nat) ≠ 2 by omega)]
    rfl
end MS
