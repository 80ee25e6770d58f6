/-! THE JUDGE's SUMS: the longest row, the first, the most -/
set_option maxRecDepth 100000
theorem ms_ph_mono {s : Nat → Int32} {i c : Nat} (h : i ≤ c) : ms_ph s i ≤ ms_ph s c := by
  have := ms_cnt_mono (ms_fst s) 0 (i + 1) (c + 1) (by omega)
  unfold ms_ph
  omega
theorem ms_ph_step {s : Nat → Int32} {k : Nat} : ms_ph s (k + 1) ≤ ms_ph s k + 1 := by
  unfold ms_ph
  rw [ms_cnt_s (n := k + 1)]
  split <;> omega
theorem ms_ph_0 {s : Nat → Int32} : ms_ph s 0 = 0 := Nat.le_zero.mp (ms_ph_le 0)
def rwJ (s wy : Nat → Int32) (f : Nat) : Nat → Nat
  | 0 => 0
  | k + 1 => if ms_ph s k = f ∧ wy k = 0 then rwJ s wy f k + 1 else 0
theorem rwJ_le {s wy : Nat → Int32} {f : Nat} : ∀ k, rwJ s wy f k ≤ k
  | 0 => Nat.le_refl _
  | k + 1 => by
    have := rwJ_le (s := s) (wy := wy) (f := f) k
    show (if ms_ph s k = f ∧ wy k = 0 then rwJ s wy f k + 1 else 0) ≤ k + 1
    split <;> omega
def llJ (s wy : Nat → Int32) (f : Nat) : Nat → Nat
  | 0 => 0
  | k + 1 => max (llJ s wy f k) (rwJ s wy f (k + 1))
theorem llJ_eq {s wy : Nat → Int32} {f : Nat} : ∀ c, llJ s wy f c = pf_l s wy f c ∧ ((∀ i, i < c → ms_ph s i ≠ f) → pf_n s wy f c = 0 ∧ rwJ s wy f c = 0) ∧ (0 < c → ms_ph s (c - 1) = f → rwJ s wy f c = pf_n s wy f c)
  | 0 => ⟨rfl, fun _ => ⟨rfl, rfl⟩, fun q => absurd q (by omega)⟩
  | c + 1 => by
    obtain ⟨i1, i2, i3⟩ := llJ_eq (s := s) (wy := wy) (f := f) c
    have e1 : llJ s wy f (c + 1) = max (llJ s wy f c) (rwJ s wy f (c + 1)) := rfl
    have e2 : rwJ s wy f (c + 1) = if ms_ph s c = f ∧ wy c = 0 then rwJ s wy f c + 1 else 0 := rfl
    have e3 : pf_n s wy f (c + 1) = if ms_ph s c = f then (if wy c = 0 then pf_n s wy f c + 1 else 0) else pf_n s wy f c := rfl
    have e4 : pf_l s wy f (c + 1) = if ms_ph s c = f then max (pf_l s wy f c) (pf_n s wy f (c + 1)) else pf_l s wy f c := rfl
    by_cases z : ms_ph s c = f
    · have er : rwJ s wy f c = pf_n s wy f c := by
        by_cases c0 : c = 0
        · subst c0; rfl
        · by_cases y : ms_ph s (c - 1) = f
          · exact i3 (by omega) y
          · have hm := ms_ph_mono (s := s) (show c - 1 ≤ c by omega)
            have := i2 (fun i hi q => by have := ms_ph_mono (s := s) (show i ≤ c - 1 by omega); omega)
            rw [this.1, this.2]
      have ern : rwJ s wy f (c + 1) = pf_n s wy f (c + 1) := by
        rw [e2, e3, if_pos z, er]
        by_cases y : wy c = 0
        · rw [if_pos ⟨z, y⟩, if_pos y]
        · rw [if_neg (fun q => y q.2), if_neg y]
      refine ⟨?_, fun q => absurd z (q c (by omega)), fun _ _ => ern⟩
      rw [e1, e4, if_pos z, i1, ern]
    · have er0 : rwJ s wy f (c + 1) = 0 := by rw [e2, if_neg (fun q => z q.1)]
      refine ⟨?_, fun q => ?_, fun _ q => absurd q z⟩
      · rw [e1, er0, e4, if_neg z, i1]; omega
      · rw [e3, if_neg z]
        exact ⟨(i2 (fun i hi => q i (by omega))).1, er0⟩
theorem llJ_le {s wy : Nat → Int32} {f : Nat} (k : Nat) : llJ s wy f k ≤ k := by
  rw [(llJ_eq k).1]; exact pf_l_le k
section JQ
variable {H : xh_H} {s : Nat → Int32} {A : Nat → Nat} {mc : Int32} {cap : Nat} {rf : Nat → Option Nat} {j ro : Nat} {V : Nat → Nat → Int32} {hd : Nat → Int32} {N : Nat}
theorem nI_mx {a c : Nat} (ha : a < 1000) (hc : c < 1000) : xh_mx (nI a) (nI c) = nI (max a c) := by
  unfold xh_mx
  by_cases z : a < c
  · rw [if_pos ((nI_ltI (by omega) (by omega)).mpr z), Nat.max_eq_right (by omega)]
  · rw [if_neg (fun q => z ((nI_ltI (by omega) (by omega)).mp q)), Nat.max_eq_left (by omega)]
theorem j_longest {f : Nat} {o : Option Nat} (hN : 3000 ≤ N) (hS : XS H s A mc cap rf) (hJ : JV H j (A 0) o V) (hn : ms_n s ≤ 40) (hf : f < 1000) : f_X7_longestRow N (some j) (nI f) H = some (nI (pf_l s (V 8) f (ms_n s)), H, 0, 0) := by
  unfold f_X7_longestRow
  have key := xl_run (fun _ _ _ _ _ _ => none) (fun k7 => f_X7_longestRow_b7 N k7)
    (fun c g => g (some j) (nI f) (nI (llJ s (V 8) f c)) (nI (rwJ s (V 8) f c)) (nI c) H)
    (some (nI (pf_l s (V 8) f (ms_n s)), H, 0, 0)) (ms_n s) ?_ ?_ N 0 (by omega) (by omega)
  · exact key
  · intro g c hk
    show f_X7_longestRow_b7 N g _ _ _ _ _ _ = _
    have hp := ms_ph_le (s := s) c
    have hr := rwJ_le (s := s) (wy := V 8) (f := f) c
    have hr1 := rwJ_le (s := s) (wy := V 8) (f := f) (c + 1)
    have hl := llJ_le (s := s) (wy := V 8) (f := f) c
    have e1 : llJ s (V 8) f (c + 1) = max (llJ s (V 8) f c) (rwJ s (V 8) f (c + 1)) := rfl
    have e2 : rwJ s (V 8) f (c + 1) = if ms_ph s c = f ∧ V 8 c = 0 then rwJ s (V 8) f c + 1 else 0 := rfl
    have h72 : f_X7_longestRow_b72 N g (some j) (nI f) (nI (llJ s (V 8) f c)) (nI c) (nI (rwJ s (V 8) f (c + 1))) H = g (some j) (nI f) (nI (llJ s (V 8) f (c + 1))) (nI (rwJ s (V 8) f (c + 1))) (nI (c + 1)) H := by
      unfold f_X7_longestRow_b72
      rw [nI_mx (by omega) (by omega), nI_1, e1]
    have h57 : ¬ (ms_ph s c = f ∧ V 8 c = 0) → f_X7_longestRow_b57 N g (some j) (nI f) (nI (llJ s (V 8) f c)) (nI (rwJ s (V 8) f c)) (nI c) H = g (some j) (nI f) (nI (llJ s (V 8) f (c + 1))) (nI (rwJ s (V 8) f (c + 1))) (nI (c + 1)) H := by
      intro q
      unfold f_X7_longestRow_b57 f_X7_longestRow_b58
      rw [if_pos rfl, ← h72, e2, if_neg q]
      rfl
    unfold f_X7_longestRow_b7
    simp only [jv_c hJ, jv_0 hJ, jv_1 hJ, jv_2 hJ, jv_3 hJ, jv_4 hJ, jv_5 hJ, jv_6 hJ, sg_0 hS, sg_1 hS, sg_2 hS, sg_c hS, sg_l hS, sg_t0 hS, sg_t1 hS, sg_t2 hS, sg_t3 hS, sg_t4 hS, sg_many hS, Option.bind_some, xc_0, sg_get hS hk, sg_y0 hS hk, sg_y1 hS hk, sg_y2 hS hk, sg_y3 hS hk, sg_y4 hS hk, sg_yc hS hk, sg_yk hS hk, sg_yend hS hk, sg_yw hS hk, jv_l8 hJ (show c < 40 by omega)]
    rw [if_neg (by rw [nI_leI (by omega) (by omega)]; omega)]
    by_cases z : ms_ph s c = f
    · rw [if_pos (by rw [z])]
      by_cases y : V 8 c = 0
      · rw [if_pos y]
        unfold f_X7_longestRow_b58
        rw [if_neg (by decide), nI_1]
        rw [e2, if_pos ⟨z, y⟩] at h72
        show _ = g _ _ _ (nI (if ms_ph s c = f ∧ V 8 c = 0 then rwJ s (V 8) f c + 1 else 0)) _ _
        rw [if_pos ⟨z, y⟩]
        exact h72
      · rw [if_neg y]
        exact h57 (fun q => y q.2)
    · rw [if_neg (fun q => z ((nI_eq (by omega) (by omega)).mp q))]
      exact h57 (fun q => z q.1)
  · intro g
    show f_X7_longestRow_b7 N g _ _ _ _ _ _ = _
    unfold f_X7_longestRow_b7 f_X7_longestRow_b85
    simp only [jv_c hJ, jv_0 hJ, jv_1 hJ, jv_2 hJ, jv_3 hJ, jv_4 hJ, jv_5 hJ, jv_6 hJ, sg_0 hS, sg_1 hS, sg_2 hS, sg_c hS, sg_l hS, sg_t0 hS, sg_t1 hS, sg_t2 hS, sg_t3 hS, sg_t4 hS, sg_many hS, Option.bind_some, xc_0]
    rw [if_pos (by rw [nI_leI (by omega) (by omega)]; omega), (llJ_eq _).1]
theorem pf_f_none {f : Nat} : ∀ c, (∀ i, i < c → ms_ph s i ≠ f) → pf_f s f c = -5
  | 0, _ => rfl
  | c + 1, q => by
    show (if ms_ph s c = f then _ else pf_f s f c) = _
    rw [if_neg (q c (by omega))]
    exact pf_f_none c (fun i hi => q i (by omega))
theorem pf_f_at {f c : Nat} (hc : c < 1000) (q : ∀ i, i < c → ms_ph s i ≠ f) (e : ms_ph s c = f) : ∀ m, pf_f s f (c + 1 + m) = nI c
  | 0 => by
    show (if ms_ph s c = f then (if pf_f s f c = -5 then nI c else pf_f s f c) else pf_f s f c) = _
    rw [if_pos e, if_pos (pf_f_none c q)]
  | m + 1 => by
    have ih := pf_f_at hc q e m
    show (if ms_ph s (c + 1 + m) = f then (if pf_f s f (c + 1 + m) = -5 then nI (c + 1 + m) else pf_f s f (c + 1 + m)) else pf_f s f (c + 1 + m)) = _
    have n5 : ¬ nI c = -5 := fun q => by
      have h0 : (0 : Int32) ≤ nI c := nI_pos' (by omega)
      rw [q] at h0
      exact absurd h0 (by decide)
    rw [ih, if_neg n5]
    split <;> rfl
theorem ms_ph_first {f : Nat} : ∀ n, f ≤ ms_ph s n → ∃ c, c ≤ n ∧ ms_ph s c = f ∧ ∀ i, i < c → ms_ph s i < f
  | 0, h => ⟨0, by omega, by have := ms_ph_0 (s := s); omega, fun i hi => by omega⟩
  | n + 1, h => by
    by_cases z : f ≤ ms_ph s n
    · obtain ⟨c, c1, c2, c3⟩ := ms_ph_first n z
      exact ⟨c, by omega, c2, c3⟩
    · have := ms_ph_step (s := s) (k := n)
      exact ⟨n + 1, by omega, by omega, fun i hi => by have := ms_ph_mono (s := s) (show i ≤ n by omega); omega⟩
theorem j_first {f : Nat} {o : Option Nat} (hN : 3000 ≤ N) (hS : XS H s A mc cap rf) (hJ : JV H j (A 0) o V) (hn : ms_n s ≤ 40) (hf : f < ms_phs s) : f_X7_first N (some j) (nI f) H = some (pf_f s f (ms_n s), H, 0, 0) := by
  unfold ms_phs at hf
  have h0 : ¬ ms_n s = 0 := fun q => by rw [if_pos q] at hf; omega
  rw [if_neg h0] at hf
  obtain ⟨e, e1, e2, e3⟩ := ms_ph_first (s := s) (f := f) (ms_n s - 1) (by omega)
  have hpe := ms_ph_le (s := s) e
  have ef : pf_f s f (ms_n s) = nI e := by
    have := pf_f_at (s := s) (f := f) (c := e) (by omega) (fun i hi q => by have := e3 i hi; omega) e2 (ms_n s - (e + 1))
    rw [show e + 1 + (ms_n s - (e + 1)) = ms_n s by omega] at this
    exact this
  unfold f_X7_first
  have key := xl_run (fun _ _ _ _ => none) (fun k2 => f_X7_first_b2 N k2)
    (fun c g => g (some j) (nI f) (nI c) H) (some (pf_f s f (ms_n s), H, 0, 0)) e ?_ ?_ N 0 (by omega) (by omega)
  · exact key
  · intro g c hc
    have hk : c < ms_n s := by omega
    have hp := e3 c hc
    show f_X7_first_b2 N g _ _ _ _ = _
    unfold f_X7_first_b2
    simp only [jv_c hJ, jv_0 hJ, jv_1 hJ, jv_2 hJ, jv_3 hJ, jv_4 hJ, jv_5 hJ, jv_6 hJ, sg_0 hS, sg_1 hS, sg_2 hS, sg_c hS, sg_l hS, sg_t0 hS, sg_t1 hS, sg_t2 hS, sg_t3 hS, sg_t4 hS, sg_many hS, Option.bind_some, xc_0, sg_get hS hk, sg_y0 hS hk, sg_y1 hS hk, sg_y2 hS hk, sg_y3 hS hk, sg_y4 hS hk, sg_yc hS hk, sg_yk hS hk, sg_yend hS hk, sg_yw hS hk]
    rw [if_neg (by rw [nI_leI (by omega) (by omega)]; omega), nI_1]
  · intro g
    have hk : e < ms_n s := by omega
    show f_X7_first_b2 N g _ _ _ _ = _
    unfold f_X7_first_b2 f_X7_first_b31
    simp only [jv_c hJ, jv_0 hJ, jv_1 hJ, jv_2 hJ, jv_3 hJ, jv_4 hJ, jv_5 hJ, jv_6 hJ, sg_0 hS, sg_1 hS, sg_2 hS, sg_c hS, sg_l hS, sg_t0 hS, sg_t1 hS, sg_t2 hS, sg_t3 hS, sg_t4 hS, sg_many hS, Option.bind_some, xc_0, sg_get hS hk, sg_y0 hS hk, sg_y1 hS hk, sg_y2 hS hk, sg_y3 hS hk, sg_y4 hS hk, sg_yc hS hk, sg_yk hS hk, sg_yend hS hk, sg_yw hS hk]
    rw [if_pos (by rw [nI_leI (by omega) (by omega)]; omega), ef]
end JQ
