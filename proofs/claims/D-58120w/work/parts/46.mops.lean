/-! THE MODEL's METHODS: what changes the song -/
set_option maxRecDepth 100000
def ms_hdz (s : Nat → Int32) (tk by_ : Int32) (t : Nat) : Int32 := if t < 600 then ms_hd s tk by_ t else 0
theorem ms_hdz_pre {s g : Nat → Int32} {tk by_ : Int32} (h : ∀ t, 600 ≤ t → g t = 0) : ms_pre (ms_hd s tk by_) g 600 = ms_hdz s tk by_ := by
  funext t
  unfold ms_pre ms_hdz
  by_cases q : t < 600
  · rw [if_pos q, if_pos q]
  · rw [if_neg q, if_neg q]
    exact h t (by omega)
/-- behind hear and judge -/
def jg (V : Nat → Nat → Int32) (tk by_ : Int32) : Nat → Nat → Int32 := mj_V (xm_sV V 5 (ms_hdz (V 1) tk by_)) (ms_n (V 1))
theorem jg_o {V : Nat → Nat → Int32} {tk by_ : Int32} {j : Nat} (h : j < 5 ∨ 10 < j) : jg V tk by_ j = V j := by
  unfold jg
  rw [mj_Vo (by omega), xm_sVn (by omega)]
theorem jg_5 {V : Nat → Nat → Int32} {tk by_ : Int32} : jg V tk by_ 5 = ms_hdz (V 1) tk by_ := by
  unfold jg
  rw [mj_Vo (by omega), xm_sVs]
theorem jg_i {V : Nat → Nat → Int32} {tk by_ : Int32} {j k : Nat} (h : 6 ≤ j ∧ j ≤ 10) (hk : k < ms_n (V 1)) : jg V tk by_ j k = mj (V 1) (ms_hdz (V 1) tk by_) j k := by
  unfold jg
  rw [mj_Vi h, ms_pre_at hk, xm_sVn (by omega), xm_sVs]
def rcV (V : Nat → Nat → Int32) (q : Nat) : Nat → Nat → Int32 := xm_sV V 2 (ms_hist V q)
def rcF (F : Nat → Int32) (q : Nat) : Nat → Int32 := xm_sF F 0 (nI (min q 3 + 1))
theorem rcV_o {V : Nat → Nat → Int32} {q j : Nat} (h : j ≠ 2) : rcV V q j = V j := xm_sVn h
theorem ms_cnt_congr {p p' : Nat → Bool} {a : Nat} : ∀ n, (∀ i, i < n → p (a + i) = p' (a + i)) → ms_cnt p a n = ms_cnt p' a n
  | 0, _ => rfl
  | n + 1, h => by
    show ms_cnt p a n + (if p (a + n) then 1 else 0) = ms_cnt p' a n + (if p' (a + n) then 1 else 0)
    rw [ms_cnt_congr n (fun i hi => h i (by omega)), h n (by omega)]
/-- the hits of a song, heard as it is -/
def ms_hits (s : Nat → Int32) : Int32 := nI (ms_cnt (fun k => decide (mj_why s (ms_hdz s 0 0) k = 0)) 0 (ms_n s))
section MS
variable {h : xh_H} {b : Nat} {F : Nat → Int32} {V : Nat → Nat → Int32}
theorem s_hearz {N : Nat} {tk by_ : Int32} (hN : 3000 ≤ N) (ht : ∀ t, 600 ≤ t → V 5 t = 0) : f_X2_hear N (some b) tk by_ (xm_M h b F V) = some ((), xm_M h b F (xm_sV V 5 (ms_hdz (V 1) tk by_)), 0, 0) := by
  rw [s_hear hN, ms_hdz_pre ht]
theorem s_jz {N : Nat} {tk by_ : Int32} (hN : 3000 ≤ N) (hok : ms_ok (V 1)) : f_X2_judge N (some b) (xm_M h b F (xm_sV V 5 (ms_hdz (V 1) tk by_))) = some ((), xm_M h b F (jg V tk by_), 0, 0) := by
  have e1 : xm_sV V 5 (ms_hdz (V 1) tk by_) 1 = V 1 := xm_sVn (by omega)
  have := s_judge (h := h) (b := b) (F := F) (V := xm_sV V 5 (ms_hdz (V 1) tk by_)) hN (by rw [e1]; exact hok)
  rw [e1] at this
  exact this
theorem s_jsz {N : Nat} (hN : 3000 ≤ N) (hok : ms_ok (V 1)) (ht : ∀ t, 600 ≤ t → V 5 t = 0) : f_X2_judgeSong N (some b) (xm_M h b F V) = some ((), xm_M h b F (jg V 0 0), 0, 0) := by
  unfold f_X2_judgeSong
  simp only [xm_chk, xm_g0, xm_g1, xm_g3, xm_g5, xm_g7, xm_g8, xm_g9, xm_g10, xm_g11, xm_g12, xm_g14, xm_i2, xm_i4, xm_i6, xm_i13, xm_i15, Option.bind_some, xc_0, xm_p2, xm_p6, xm_p13, xm_p15, s_hearz hN ht, s_jz hN hok]
theorem s_hitsz {N : Nat} (hN : 3000 ≤ N) (hok : ms_ok (V 1)) : f_X2_hits N (some b) (xm_M h b F (jg V 0 0)) = some (ms_hits (V 1), xm_M h b F (jg V 0 0), 0, 0) := by
  have e1 : jg V 0 0 1 = V 1 := jg_o (by omega)
  rw [s_hits hN (by rw [e1]; exact hok.1) (by rw [e1]; exact hok.2.1), e1]
  unfold ms_hits
  rw [ms_cnt_congr _ (fun i hi => by rw [Nat.zero_add, jg_i (by omega) hi])]
  rfl
theorem s_rec {N q : Nat} (hN : 3000 ≤ N) (hq : q ≤ 4) (h0 : F 0 = nI q) : f_X2_record N (some b) (xm_M h b F V) = some ((), xm_M h b (rcF F q) (rcV V q), 0, 0) := s_record hN hq h0
/-! add -/
def ms_add (s : Nat → Int32) (r p e l f : Int32) : Nat → Int32 :=
  upd (upd (upd (upd (upd (upd s (6 + 5 * ms_n s) (ms_end s + r)) (6 + 5 * ms_n s + 1) l) (6 + 5 * ms_n s + 2) p) (6 + 5 * ms_n s + 3) e) (6 + 5 * ms_n s + 4) (if ms_n s = 0 then 1 else f)) 5 (nI (ms_n s + 1))
theorem s_doAdd {N : Nat} {r p e l f : Int32} (h5 : V 1 5 = nI (ms_n (V 1))) (hn : ms_n (V 1) < 40) : f_X2_doAdd N (some b) r p e l f (xm_M h b F V) = some (ms_end (V 1) + r, xm_M h b F (xm_sV V 1 (ms_add (V 1) r p e l f)), 0, 0) := by
  unfold f_X2_doAdd
  simp (disch := omega) only [xm_chk, xm_g0, xm_g1, xm_g3, xm_g5, xm_g7, xm_g8, xm_g9, xm_g10, xm_g11, xm_g12, xm_g14, xm_i2, xm_i4, xm_i6, xm_i13, xm_i15, Option.bind_some, xc_0, xm_p2, xm_p6, xm_p13, xm_p15, xm_l1c0, xm_l1c1, xm_l1c2, xm_l1c3, xm_l1c4, xm_l1c5, s_of0, s_of1, s_of2, s_of3, s_of4, s_endOfSong h5 (by omega)]
  rw [h5, xl_0, xl_1, xl_2, xl_3, xl_4]
  simp (disch := omega) only [xm_chk, xm_g0, xm_g1, xm_g3, xm_g5, xm_g7, xm_g8, xm_g9, xm_g10, xm_g11, xm_g12, xm_g14, xm_i2, xm_i4, xm_i6, xm_i13, xm_i15, Option.bind_some, xc_0, xm_p2, xm_p6, xm_p13, xm_p15, s_lay, xm_sVs, xm_sVV, Nat.add_zero]
  have h61 : ∀ t3, t3 = (if ms_n (V 1) = 0 then 1 else f) → f_X2_doAdd_b61 N (some b) (nI (ms_n (V 1))) (some b) (nI (ms_n (V 1))) (nI 4) t3 (xm_M h b F (xm_sV V 1 (upd (upd (upd (upd (V 1) (6 + 5 * ms_n (V 1)) (ms_end (V 1) + r)) (6 + 5 * ms_n (V 1) + 1) l) (6 + 5 * ms_n (V 1) + 2) p) (6 + 5 * ms_n (V 1) + 3) e))) = some (ms_end (V 1) + r, xm_M h b F (xm_sV V 1 (ms_add (V 1) r p e l f)), 0, 0) := by
    intro t3 ht3
    unfold f_X2_doAdd_b61
    rw [show (5 : Int32) = nI 5 from rfl]
    simp (disch := omega) only [xm_chk, xm_g0, xm_g1, xm_g3, xm_g5, xm_g7, xm_g8, xm_g9, xm_g10, xm_g11, xm_g12, xm_g14, xm_i2, xm_i4, xm_i6, xm_i13, xm_i15, Option.bind_some, xc_0, xm_p2, xm_p6, xm_p13, xm_p15, s_lay, xm_l1, xm_s1, s_of0, xm_sVs, xm_sVV, upd_n, h5, nI_1, Nat.add_zero]
    rw [ht3]
    unfold ms_add
    rw [upd_s]
  by_cases h0 : ms_n (V 1) = 0
  · rw [if_pos (by rw [h0])]
    exact h61 _ (by rw [if_pos h0]; rfl)
  · rw [if_neg (by rw [nI_eq (by omega) (by omega)]; exact h0)]
    exact h61 _ (by rw [if_neg h0])
/-- what add says before it adds: ok, -2, -3 -/
def ms_addE (s : Nat → Int32) (r p e l : Int32) : Int32 :=
  if (0 ≤ r ∧ r ≤ 32) ∧ (0 ≤ p ∧ p ≤ 60) ∧ (0 ≤ e ∧ e ≤ 60) ∧ (1 ≤ l ∧ l ≤ 32) then (if ms_n s = 40 ∨ ¬ (ms_end s + r) + l ≤ 600 then -3 else 0) else -2
theorem s_addError {N : Nat} {r nt l : Int32} (h5 : V 1 5 = nI (ms_n (V 1))) (hn : ms_n (V 1) ≤ 40) : f_X2_addError N (some b) r nt l (xm_M h b F V) = some (if (0 ≤ r ∧ r ≤ 32) ∧ ¬ nt < 0 ∧ (1 ≤ l ∧ l ≤ 32) then (if ms_n (V 1) = 40 ∨ ¬ (ms_end (V 1) + r) + l ≤ 600 then -3 else 0) else -2, xm_M h b F V, 0, 0) := by
  unfold f_X2_addError f_X2_addError_b24 f_X2_addError_b52
  simp (disch := omega) only [xm_chk, xm_g0, xm_g1, xm_g3, xm_g5, xm_g7, xm_g8, xm_g9, xm_g10, xm_g11, xm_g12, xm_g14, xm_i2, xm_i4, xm_i6, xm_i13, xm_i15, Option.bind_some, xc_0, xm_p2, xm_p6, xm_p13, xm_p15, xm_l1c0, xm_l1c1, xm_l1c2, xm_l1c3, xm_l1c4, xm_l1c5, s_of0, s_of1, s_of2, s_of3, s_of4, s_in, s_endOfSong h5 (by omega), h5]
  by_cases h1 : 0 ≤ r ∧ r ≤ 32
  · rw [if_neg (fun q => xin_0.mp q h1)]
    by_cases h2 : nt < 0
    · rw [if_pos h2, if_neg (fun q => q.2.1 h2)]
    · rw [if_neg h2]
      by_cases h3 : 1 ≤ l ∧ l ≤ 32
      · rw [if_neg (fun q => xin_0.mp q h3), if_pos (show (0 ≤ r ∧ r ≤ 32) ∧ ¬ nt < 0 ∧ (1 ≤ l ∧ l ≤ 32) from ⟨h1, h2, h3⟩)]
        by_cases h4 : ms_n (V 1) = 40
        · rw [if_pos (show nI (ms_n (V 1)) = (40 : Int32) by rw [h4]; rfl), if_pos (Or.inl h4)]
        · rw [if_neg (by rw [xl_40, nI_eq (by omega) (by omega)]; exact h4)]
          by_cases h6 : (ms_end (V 1) + r) + l ≤ 600
          · rw [if_pos h6, if_neg (fun q => q.elim h4 (fun z => z h6))]
          · rw [if_neg h6, if_pos (Or.inr h6)]
      · rw [if_pos (xin_0.mpr h3), if_neg (fun q => h3 q.2.2)]
  · rw [if_pos (xin_0.mpr h1), if_neg (fun q => h1 q.1)]
theorem s_add {N q : Nat} {r p e l f : Int32} (hN : 3000 ≤ N) (h5 : V 1 5 = nI (ms_n (V 1))) (hn : ms_n (V 1) ≤ 40) (h0 : F 0 = nI q) (hq : q ≤ 4) : f_X2_add N (some b) r p e l f (xm_M h b F V) =
    some (if ms_addE (V 1) r p e l = 0 then (ms_end (V 1) + r, xm_M h b (rcF F q) (xm_sV (rcV V q) 1 (ms_add (V 1) r p e l (if f = 0 then 0 else 1))), 0, 0) else (ms_addE (V 1) r p e l, xm_M h b F V, 0, 0)) := by
  have h21 : ∀ (nt : Int32) (P : Prop), (¬ nt < 0 ↔ P) → (P ↔ (0 ≤ p ∧ p ≤ 60) ∧ (0 ≤ e ∧ e ≤ 60)) → f_X2_add_b21 N (some b) r p e l f (some b) r nt (xm_M h b F V) = some (if ms_addE (V 1) r p e l = 0 then (ms_end (V 1) + r, xm_M h b (rcF F q) (xm_sV (rcV V q) 1 (ms_add (V 1) r p e l (if f = 0 then 0 else 1))), 0, 0) else (ms_addE (V 1) r p e l, xm_M h b F V, 0, 0)) := by
    intro nt P hP hP2
    unfold f_X2_add_b21 f_X2_add_b56
    simp only [xm_chk, xm_g0, xm_g1, xm_g3, xm_g5, xm_g7, xm_g8, xm_g9, xm_g10, xm_g11, xm_g12, xm_g14, xm_i2, xm_i4, xm_i6, xm_i13, xm_i15, Option.bind_some, xc_0, xm_p2, xm_p6, xm_p13, xm_p15, s_addError h5 hn, s_rec hN hq h0]
    have e1 : rcV V q 1 = V 1 := rcV_o (by omega)
    have hd : ∀ f', f_X2_doAdd N (some b) r p e l f' (xm_M h b (rcF F q) (rcV V q)) = some (ms_end (V 1) + r, xm_M h b (rcF F q) (xm_sV (rcV V q) 1 (ms_add (V 1) r p e l f')), 0, 0) ∨ ¬ ms_n (V 1) < 40 := by
      intro f'
      by_cases h40 : ms_n (V 1) < 40
      · have := s_doAdd (h := h) (b := b) (F := rcF F q) (V := rcV V q) (N := N) (r := r) (p := p) (e := e) (l := l) (f := f') (by rw [e1]; exact h5) (by rw [e1]; exact h40)
        rw [e1] at this
        exact Or.inl this
      · exact Or.inr h40
    have hc : ((0 ≤ r ∧ r ≤ 32) ∧ ¬ nt < 0 ∧ (1 ≤ l ∧ l ≤ 32)) ↔ ((0 ≤ r ∧ r ≤ 32) ∧ (0 ≤ p ∧ p ≤ 60) ∧ (0 ≤ e ∧ e ≤ 60) ∧ (1 ≤ l ∧ l ≤ 32)) := by
      rw [hP, hP2]
      exact ⟨fun ⟨a, ⟨c, d⟩, g⟩ => ⟨a, c, d, g⟩, fun ⟨a, c, d, g⟩ => ⟨a, ⟨c, d⟩, g⟩⟩
    have hE : (if (0 ≤ r ∧ r ≤ 32) ∧ ¬ nt < 0 ∧ (1 ≤ l ∧ l ≤ 32) then (if ms_n (V 1) = 40 ∨ ¬ (ms_end (V 1) + r) + l ≤ 600 then -3 else 0) else -2 : Int32) = ms_addE (V 1) r p e l := by
      unfold ms_addE
      by_cases z : (0 ≤ r ∧ r ≤ 32) ∧ ¬ nt < 0 ∧ (1 ≤ l ∧ l ≤ 32)
      · rw [if_pos z, if_pos (hc.mp z)]
      · rw [if_neg z, if_neg (fun y => z (hc.mpr y))]
    rw [hE]
    by_cases z : ms_addE (V 1) r p e l = 0
    · rw [z, if_pos (by decide), if_pos rfl]
      have h40 : ms_n (V 1) < 40 := by
        unfold ms_addE at z
        split at z
        · split at z
          · exact absurd z (by decide)
          · next y => omega
        · exact absurd z (by decide)
      by_cases y : f = 0
      · rw [if_pos y, if_pos y]
        simp only [xm_chk, xm_g0, xm_g1, xm_g3, xm_g5, xm_g7, xm_g8, xm_g9, xm_g10, xm_g11, xm_g12, xm_g14, xm_i2, xm_i4, xm_i6, xm_i13, xm_i15, Option.bind_some, xc_0, xm_p2, xm_p6, xm_p13, xm_p15, (hd 0).resolve_right (fun w => w h40)]
      · rw [if_neg y, if_neg y]
        simp only [xm_chk, xm_g0, xm_g1, xm_g3, xm_g5, xm_g7, xm_g8, xm_g9, xm_g10, xm_g11, xm_g12, xm_g14, xm_i2, xm_i4, xm_i6, xm_i13, xm_i15, Option.bind_some, xc_0, xm_p2, xm_p6, xm_p13, xm_p15, (hd 1).resolve_right (fun w => w h40)]
    · rw [if_neg z, if_neg]
      unfold ms_addE at z ⊢
      split
      · next y =>
        rw [if_pos y] at z
        split
        · decide
        · next w => rw [if_neg w] at z; exact absurd rfl z
      · decide
  unfold f_X2_add f_X2_add_b20
  simp only [s_isPitch, xc_0]
  by_cases h1 : 0 ≤ p ∧ p ≤ 60
  · rw [if_neg (fun z => xin_0.mp z h1)]
    by_cases h2 : 0 ≤ e ∧ e ≤ 60
    · rw [if_neg (fun z => xin_0.mp z h2)]
      exact h21 0 True ⟨fun _ => trivial, fun _ => by decide⟩ ⟨fun _ => ⟨h1, h2⟩, fun _ => trivial⟩
    · rw [if_pos (xin_0.mpr h2)]
      exact h21 (-1) False ⟨fun z => z (by decide), fun z => z.elim⟩ ⟨fun z => z.elim, fun z => h2 z.2⟩
  · rw [if_pos (xin_0.mpr h1)]
    exact h21 (-1) False ⟨fun z => z (by decide), fun z => z.elim⟩ ⟨fun z => z.elim, fun z => h1 z.1⟩
theorem s_drop {N q : Nat} (hN : 3000 ≤ N) (h5 : V 1 5 = nI (ms_n (V 1))) (hn : ms_n (V 1) ≤ 40) (h0 : F 0 = nI q) (hq : q ≤ 4) : f_X2_drop N (some b) (xm_M h b F V) =
    some (if ms_n (V 1) = 0 then (-5, xm_M h b F V, 0, 0) else (nI (ms_n (V 1) - 1), xm_M h b (rcF F q) (xm_sV (rcV V q) 1 (upd (V 1) 5 (nI (ms_n (V 1) - 1)))), 0, 0)) := by
  unfold f_X2_drop
  simp only [xm_chk, xm_g0, xm_g1, xm_g3, xm_g5, xm_g7, xm_g8, xm_g9, xm_g10, xm_g11, xm_g12, xm_g14, xm_i2, xm_i4, xm_i6, xm_i13, xm_i15, Option.bind_some, xc_0, xm_p2, xm_p6, xm_p13, xm_p15, xm_l1c0, xm_l1c1, xm_l1c2, xm_l1c3, xm_l1c4, xm_l1c5, s_of0, s_of1, s_of2, s_of3, s_of4, h5]
  by_cases z : ms_n (V 1) = 0
  · rw [if_pos (by rw [z]; rfl), if_pos z]
  · rw [if_neg (nI_ne0 (by omega) (by omega)), if_neg z, s_record hN hq h0]
    show xh_cal (some ((), xm_M h b (rcF F q) (rcV V q), 0, 0)) _ = _
    have e1 : rcV V q 1 = V 1 := rcV_o (by omega)
    rw [xc_0, show (5 : Int32) = nI 5 from rfl]
    simp (disch := omega) only [xm_chk, xm_g0, xm_g1, xm_g3, xm_g5, xm_g7, xm_g8, xm_g9, xm_g10, xm_g11, xm_g12, xm_g14, xm_i2, xm_i4, xm_i6, xm_i13, xm_i15, Option.bind_some, xc_0, xm_p2, xm_p6, xm_p13, xm_p15, xm_l1, xm_s1, e1, h5, xm_sVs, upd_s, xl_1, pk_sub]
def ms_se (a v : Int32) : Int32 := if a = 0 then (if 2 ≤ v ∧ v ≤ 64 then 0 else -2) else if a = 1 then (if 0 ≤ v ∧ v ≤ 6 then 0 else -2) else if a = 2 then (if 0 ≤ v ∧ v ≤ 8 then 0 else -2) else if a = 3 then (if 0 ≤ v ∧ v ≤ 1 then 0 else -2) else if a = 4 then (if 1 ≤ v ∧ v ≤ 100 then 0 else -2) else -1
theorem s_settingError {N : Nat} {a v : Int32} : f_X2_settingError N a v h = some (ms_se a v, h, 0, 0) := by
  have key : ∀ lo hi : Int32, (if xin v lo hi = 0 then some ((-2 : Int32), h, 0, 0) else some ((0 : Int32), h, 0, 0)) = some (if lo ≤ v ∧ v ≤ hi then 0 else -2, h, 0, 0) := by
    intro lo hi
    by_cases z : lo ≤ v ∧ v ≤ hi
    · rw [if_neg (fun q => xin_0.mp q z), if_pos z]
    · rw [if_pos (xin_0.mpr z), if_neg z]
  unfold f_X2_settingError ms_se
  simp only [s_in, xc_0, key]
  by_cases a0 : a = 0
  · rw [if_pos a0, if_pos a0]
  rw [if_neg a0, if_neg a0]
  by_cases a1 : a = 1
  · rw [if_pos a1, if_pos a1]
  rw [if_neg a1, if_neg a1]
  by_cases a2 : a = 2
  · rw [if_pos a2, if_pos a2]
  rw [if_neg a2, if_neg a2]
  by_cases a3 : a = 3
  · rw [if_pos a3, if_pos a3]
  rw [if_neg a3, if_neg a3]
  split <;> rfl
/-- a setting that is right is one of five -/
theorem ms_se_ok {a v : Int32} (h : ms_se a v = 0) : ∃ j, j < 5 ∧ a = nI j := by
  unfold ms_se at h
  by_cases a0 : a = 0
  · exact ⟨0, by omega, a0⟩
  rw [if_neg a0] at h
  by_cases a1 : a = 1
  · exact ⟨1, by omega, a1⟩
  rw [if_neg a1] at h
  by_cases a2 : a = 2
  · exact ⟨2, by omega, a2⟩
  rw [if_neg a2] at h
  by_cases a3 : a = 3
  · exact ⟨3, by omega, a3⟩
  rw [if_neg a3] at h
  by_cases a4 : a = 4
  · exact ⟨4, by omega, a4⟩
  rw [if_neg a4] at h
  exact absurd h (by decide)
theorem ms_se_c (a v : Int32) : ms_se a v = 0 ∨ ms_se a v = -1 ∨ ms_se a v = -2 := by
  unfold ms_se
  repeat' split
  all_goals first | exact Or.inl rfl | exact Or.inr (Or.inl rfl) | exact Or.inr (Or.inr rfl)
theorem s_set {N q : Nat} {a v : Int32} (hN : 3000 ≤ N) (h0 : F 0 = nI q) (hq : q ≤ 4) : f_X2_set N (some b) a v (xm_M h b F V) =
    some (if ms_se a v = 0 then (if V 1 a.toNatClampNeg = v then (-5, xm_M h b F V, 0, 0) else (V 1 a.toNatClampNeg, xm_M h b (rcF F q) (xm_sV (rcV V q) 1 (upd (V 1) a.toNatClampNeg v)), 0, 0)) else (ms_se a v, xm_M h b F V, 0, 0)) := by
  unfold f_X2_set f_X2_set_b20
  simp only [xm_chk, xm_g0, xm_g1, xm_g3, xm_g5, xm_g7, xm_g8, xm_g9, xm_g10, xm_g11, xm_g12, xm_g14, xm_i2, xm_i4, xm_i6, xm_i13, xm_i15, Option.bind_some, xc_0, xm_p2, xm_p6, xm_p13, xm_p15, s_settingError]
  by_cases z : ms_se a v = 0
  · obtain ⟨j, hj, rfl⟩ := ms_se_ok z
    rw [z, if_neg (by decide), if_pos rfl, nI_clamp (by omega)]
    simp (disch := omega) only [xm_chk, xm_g0, xm_g1, xm_g3, xm_g5, xm_g7, xm_g8, xm_g9, xm_g10, xm_g11, xm_g12, xm_g14, xm_i2, xm_i4, xm_i6, xm_i13, xm_i15, Option.bind_some, xc_0, xm_p2, xm_p6, xm_p13, xm_p15, xm_l1]
    by_cases y : V 1 j = v
    · rw [if_pos y, if_pos y, if_pos (by decide)]
    · rw [if_neg y, if_neg y, s_record hN hq h0]
      show xh_cal (some ((), xm_M h b (rcF F q) (rcV V q), 0, 0)) _ = _
      have e1 : rcV V q 1 = V 1 := rcV_o (by omega)
      rw [xc_0]
      simp (disch := omega) only [xm_chk, xm_g0, xm_g1, xm_g3, xm_g5, xm_g7, xm_g8, xm_g9, xm_g10, xm_g11, xm_g12, xm_g14, xm_i2, xm_i4, xm_i6, xm_i13, xm_i15, Option.bind_some, xc_0, xm_p2, xm_p6, xm_p13, xm_p15, xm_l1, xm_s1, e1]
  · rw [if_neg z]
    rcases (ms_se_c a v).resolve_left z with y | y
    · rw [y, if_pos (by decide), if_neg (by decide)]
    · rw [y, if_pos (by decide), if_neg (by decide)]
/-! singing -/
/-- x at the ticks from a on, c of them -/
def ms_run (s : Nat → Int32) (a c : Nat) (x : Nat → Int32) : Nat → Int32 := fun j => if 206 + a ≤ j ∧ j < 206 + a + c then x (j - 206) else s j
theorem ms_run_0 {s : Nat → Int32} {a : Nat} {x : Nat → Int32} : ms_run s a 0 x = s := by
  funext j
  exact if_neg (by omega)
theorem ms_run_s {s : Nat → Int32} {a c : Nat} {x : Nat → Int32} : upd (ms_run s a c x) (206 + (a + c)) (x (a + c)) = ms_run s a (c + 1) x := by
  funext j
  unfold upd ms_run
  by_cases h1 : j = 206 + (a + c)
  · subst h1
    rw [if_pos rfl, if_pos (by omega), show 206 + (a + c) - 206 = a + c by omega]
  · rw [if_neg h1]
    by_cases h2 : 206 + a ≤ j ∧ j < 206 + a + c
    · rw [if_pos h2, if_pos (by omega)]
    · rw [if_neg h2, if_neg (by omega)]
theorem ms_run_lo {s : Nat → Int32} {a c j : Nat} {x : Nat → Int32} (h : j < 206) : ms_run s a c x j = s j := if_neg (by omega)
theorem ms_run_hi {s : Nat → Int32} {a c t : Nat} {x : Nat → Int32} (h : ¬ (a ≤ t ∧ t < a + c)) : ms_run s a c x (206 + t) = s (206 + t) := if_neg (by omega)
theorem ms_run_in {s : Nat → Int32} {a c t : Nat} {x : Nat → Int32} (h : a ≤ t ∧ t < a + c) : ms_run s a c x (206 + t) = x t := by
  unfold ms_run
  rw [if_pos (by omega), show 206 + t - 206 = t by omega]
/-- a song is one by what lies in its 806 places -/
theorem ms_ok_congr {s s' : Nat → Int32} (e : ∀ j, j < 806 → s' j = s j) (h : ms_ok s) : ms_ok s' := by
  obtain ⟨h5, hn, hsy, hap, hfi, ⟨hs0, hs2, hs3⟩, hsu⟩ := h
  have en : ms_n s' = ms_n s := by unfold ms_n; rw [e 5 (by omega)]
  have eb : ∀ k, k < 155 → ms_b s' k = ms_b s k := fun k hk => by unfold ms_b; rw [e _ (by omega)]
  have el : ∀ k, k < 155 → ms_l s' k = ms_l s k := fun k hk => by unfold ms_l; rw [e _ (by omega)]
  refine ⟨by rw [e 5 (by omega), en]; exact h5, by rw [en]; exact hn, fun k hk => ?_, fun k hk => ?_, fun hk => ?_, ⟨by rw [e 0 (by omega)]; exact hs0, by rw [e 2 (by omega)]; exact hs2, by rw [e 2 (by omega)]; exact hs3⟩, fun t ht => by rw [e _ (by omega)]; exact hsu t ht⟩
  · rw [en] at hk
    rw [e _ (by omega), e _ (by omega), e _ (by omega), eb k (by omega), el k (by omega)]
    exact hsy k hk
  · rw [en] at hk
    rw [eb k (by omega), el k (by omega), eb (k + 1) (by omega)]
    exact hap k hk
  · rw [en] at hk
    rw [e 10 (by omega)]
    exact hfi hk
theorem ms_run_ok {s : Nat → Int32} {a c : Nat} {x : Nat → Int32} (h : ms_ok s) (hx : ∀ t, 0 ≤ x t ∧ x t ≤ 61) : ms_ok (ms_run s a c x) := by
  obtain ⟨h5, hn, hsy, hap, hfi, ⟨hs0, hs2, hs3⟩, hsu⟩ := h
  have e : ∀ j, j < 206 → ms_run s a c x j = s j := fun j hj => ms_run_lo hj
  have en : ms_n (ms_run s a c x) = ms_n s := by unfold ms_n; rw [e 5 (by omega)]
  have eb : ∀ k, k < 39 → ms_b (ms_run s a c x) k = ms_b s k := fun k hk => by unfold ms_b; rw [e _ (by omega)]
  have eb2 : ∀ k, k < 40 → ms_b (ms_run s a c x) k = ms_b s k := fun k hk => by unfold ms_b; rw [e _ (by omega)]
  have el : ∀ k, k < 40 → ms_l (ms_run s a c x) k = ms_l s k := fun k hk => by unfold ms_l; rw [e _ (by omega)]
  refine ⟨by rw [e 5 (by omega), en]; exact h5, by rw [en]; exact hn, fun k hk => ?_, fun k hk => ?_, fun hk => ?_, ⟨by rw [e 0 (by omega)]; exact hs0, by rw [e 2 (by omega)]; exact hs2, by rw [e 2 (by omega)]; exact hs3⟩, fun t ht => ?_⟩
  · rw [en] at hk
    rw [e _ (by omega), e _ (by omega), e _ (by omega), eb2 k (by omega), el k (by omega)]
    exact hsy k hk
  · rw [en] at hk
    rw [eb2 k (by omega), el k (by omega), eb2 (k + 1) (by omega)]
    exact hap k hk
  · rw [en] at hk
    rw [e 10 (by omega)]
    exact hfi hk
  · by_cases z : a ≤ t ∧ t < a + c
    · rw [ms_run_in z]; exact hx t
    · rw [ms_run_hi z]; exact hsu t ht
theorem s_sing71 {N : Nat} (hN : 3000 ≤ N) (hok : ms_ok (V 1)) (ht : ∀ t, 600 ≤ t → V 5 t = 0) : f_X2_sing_b71 N (some b) (xm_M h b F V) = some (ms_hits (V 1), xm_M h b F (jg V 0 0), 0, 0) := by
  unfold f_X2_sing_b71
  simp only [xm_chk, xm_g0, xm_g1, xm_g3, xm_g5, xm_g7, xm_g8, xm_g9, xm_g10, xm_g11, xm_g12, xm_g14, xm_i2, xm_i4, xm_i6, xm_i13, xm_i15, Option.bind_some, xc_0, xm_p2, xm_p6, xm_p13, xm_p15, s_jsz hN hok ht, s_hitsz hN hok]
theorem s_singL {N a c : Nat} {x : Int32} (hN : 3000 ≤ N) (hok : ms_ok (V 1)) (ht : ∀ t, 600 ≤ t → V 5 t = 0) (hac : a + c ≤ 600) (hx : 0 ≤ x + 1 ∧ x + 1 ≤ 61) : f_X2_sing_l43 N N (some b) (nI a) (nI c) x (nI a) (xm_M h b F V) = some (ms_hits (ms_run (V 1) a c (fun _ => x + 1)), xm_M h b F (jg (xm_sV V 1 (ms_run (V 1) a c (fun _ => x + 1))) 0 0), 0, 0) := by
  have key := xl_run (fun _ _ _ _ _ _ => none) (fun k4 => f_X2_sing_b43 N k4)
    (fun i f => f (some b) (nI a) (nI c) x (nI (a + i)) (xm_M h b F (xm_sV V 1 (ms_run (V 1) a i (fun _ => x + 1)))))
    (some (ms_hits (ms_run (V 1) a c (fun _ => x + 1)), xm_M h b F (jg (xm_sV V 1 (ms_run (V 1) a c (fun _ => x + 1))) 0 0), 0, 0)) c ?_ ?_ N 0 (by omega) (by omega)
  · have e : xm_sV V 1 (ms_run (V 1) a 0 (fun _ => x + 1)) = V := by rw [ms_run_0, xm_sVc]
    simp only [e] at key
    exact key
  · intro f i hi
    show f_X2_sing_b43 N f _ _ _ _ _ _ = _
    unfold f_X2_sing_b43
    rw [nI_add, if_neg (by rw [nI_leI (by omega) (by omega)]; omega), xl_206, nI_add]
    simp (disch := omega) only [xm_chk, xm_g0, xm_g1, xm_g3, xm_g5, xm_g7, xm_g8, xm_g9, xm_g10, xm_g11, xm_g12, xm_g14, xm_i2, xm_i4, xm_i6, xm_i13, xm_i15, Option.bind_some, xc_0, xm_p2, xm_p6, xm_p13, xm_p15, xm_s1, xm_sVs, xm_sVV, nI_1]
    rw [ms_run_s (x := fun _ => x + 1)]
    rfl
  · intro f
    show f_X2_sing_b43 N f _ _ _ _ _ _ = _
    unfold f_X2_sing_b43
    rw [nI_add, if_pos (by rw [nI_leI (by omega) (by omega)]; omega), s_sing71 hN (by rw [xm_sVs]; exact ms_run_ok hok (fun _ => hx)) (by rw [xm_sVn (by omega)]; exact ht), xm_sVs]
end MS
