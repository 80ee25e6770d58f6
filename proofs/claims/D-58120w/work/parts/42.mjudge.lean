/-! THE MODEL's METHODS: history, what is heard, judging -/
set_option maxRecDepth 100000
def ms_oct (c a : Int32) : Int32 := if c = 1 then (if (a - a / 12 * 12) ≤ (12 - (a - a / 12 * 12)) then (a - a / 12 * 12) else (12 - (a - a / 12 * 12))) else a
theorem ms_oct_of {ρ : Type} (G : Int32 → ρ) (c a : Int32) : (if c = 1 then (if (a - a / 12 * 12) ≤ (12 - (a - a / 12 * 12)) then G (a - a / 12 * 12) else G (12 - (a - a / 12 * 12))) else G a) = G (ms_oct c a) := by
  unfold ms_oct
  by_cases h : c = 1
  · rw [if_pos h, if_pos h]
    by_cases h2 : (a - a / 12 * 12) ≤ (12 - (a - a / 12 * 12))
    · rw [if_pos h2, if_pos h2]
    · rw [if_neg h2, if_neg h2]
  · rw [if_neg h, if_neg h]
/-- how far off at t -/
def ms_off (s hd : Nat → Int32) (k t : Nat) : Int32 := ms_oct (s 3) (ms_abs ((hd t - 1) - ms_w s k (nI t - s (6 + 5 * k))))
def ms_m (s hd : Nat → Int32) (k t : Nat) : Bool := if hd t = 0 then false else decide (ms_off s hd k t ≤ s 1)
def xb01 (p : Bool) : Int32 := if p then 1 else 0
theorem xb01_0 {p : Bool} : xb01 p = 0 ↔ ¬ p = true := by cases p <;> decide
def ms_cnt (p : Nat → Bool) (a : Nat) : Nat → Nat
  | 0 => 0
  | n + 1 => ms_cnt p a n + (if p (a + n) then 1 else 0)
theorem ms_cnt_le (p : Nat → Bool) (a : Nat) : ∀ n, ms_cnt p a n ≤ n
  | 0 => Nat.le_refl 0
  | n + 1 => by
    have := ms_cnt_le p a n
    show ms_cnt p a n + (if p (a + n) then 1 else 0) ≤ n + 1
    split <;> omega
section MS
variable {h : xh_H} {b : Nat} {F : Nat → Int32} {V : Nat → Nat → Int32}
theorem xm_sFF {F : Nat → Int32} {k : Nat} {x y : Int32} : xm_sF (xm_sF F k x) k y = xm_sF F k y := by
  funext j
  unfold xm_sF
  by_cases h : j = k
  · rw [if_pos h, if_pos h]
  · rw [if_neg h, if_neg h, if_neg h]
theorem xcp_step {f g : Nat → Int32} {sp dp c : Nat} : upd (va_cpy f g sp dp c) (dp + c) (f (sp + c)) = va_cpy f g sp dp (c + 1) := by
  funext k
  unfold upd va_cpy
  by_cases h1 : k = dp + c
  · subst h1
    rw [if_pos rfl, if_pos (by omega)]
    congr 1; omega
  · rw [if_neg h1]
    by_cases h2 : dp ≤ k ∧ k < dp + c
    · rw [if_pos h2, if_pos (by omega)]
    · rw [if_neg h2, if_neg (by omega)]
theorem xcp_0 {f g : Nat → Int32} {sp dp : Nat} : va_cpy f g sp dp 0 = g := by
  funext k
  unfold va_cpy
  rw [if_neg (by omega)]
theorem s_copyG {N i j f t Li Lj : Nat} (hN : 3000 ≤ N) (hij : i ≠ j) (hf : f + 806 ≤ Li) (ht : t + 806 ≤ Lj) (hf2 : f < 10000) (ht2 : t < 10000)
    (rl : ∀ (W : Nat → Nat → Int32) (p : Nat), p < Li → xh_ld (xm_M h b F W) (some (b + i)) 0 (nI p) = some (W i p))
    (wl : ∀ (W : Nat → Nat → Int32) (p : Nat) (x : Int32), p < Lj → xh_sv (xm_M h b F W) (some (b + j)) 0 (nI p) x = some (xm_M h b F (xm_sV W j (upd (W j) p x)))) :
    f_X2_copy N (some (b + i)) (nI f) (some (b + j)) (nI t) (xm_M h b F V) = some ((), xm_M h b F (xm_sV V j (va_cpy (V i) (V j) f t 806)), 0, 0) := by
  have key := xl_run (fun _ _ _ _ _ _ => none) (fun k3 => f_X2_copy_b3 N k3)
    (fun c k => k (some (b + i)) (nI f) (some (b + j)) (nI t) (nI c) (xm_M h b F (xm_sV V j (va_cpy (V i) (V j) f t c))))
    (some ((), xm_M h b F (xm_sV V j (va_cpy (V i) (V j) f t 806)), 0, 0)) 806 ?_ ?_ N 0 (by omega) (by omega)
  · have e : xm_sV V j (va_cpy (V i) (V j) f t 0) = V := by rw [xcp_0, xm_sVc]
    simp only [e] at key
    exact key
  · intro k c hc
    show f_X2_copy_b3 N k (some (b + i)) (nI f) (some (b + j)) (nI t) (nI c) _ = _
    unfold f_X2_copy_b3
    rw [xl_806, if_neg (by rw [nI_leI (by omega) (by omega)]; omega), nI_add, rl _ _ (by omega), xm_sVn hij, Option.bind_some, nI_add, wl _ _ _ (by omega), Option.bind_some, nI_1, xm_sVs, xcp_step, xm_sVV]
  · intro k
    show f_X2_copy_b3 N k (some (b + i)) (nI f) (some (b + j)) (nI t) (nI 806) _ = _
    unfold f_X2_copy_b3
    exact if_pos (by decide)
theorem s_copy12 {N q : Nat} (hN : 3000 ≤ N) (hq : q < 4) : f_X2_copy N (some (b + 1)) 0 (some (b + 2)) (nI (806 * q)) (xm_M h b F V) = some ((), xm_M h b F (xm_sV V 2 (va_cpy (V 1) (V 2) 0 (806 * q) 806)), 0, 0) :=
  s_copyG (f := 0) (Li := 806) (Lj := 3224) hN (by omega) (by omega) (by omega) (by omega) (by omega) (fun W p hp => xm_l1 hp) (fun W p x hp => xm_s2 hp)
theorem s_copy21 {N q : Nat} (hN : 3000 ≤ N) (hq : q < 4) : f_X2_copy N (some (b + 2)) (nI (806 * q)) (some (b + 1)) 0 (xm_M h b F V) = some ((), xm_M h b F (xm_sV V 1 (va_cpy (V 2) (V 1) (806 * q) 0 806)), 0, 0) :=
  s_copyG (t := 0) (Li := 3224) (Lj := 806) hN (by omega) (by omega) (by omega) (by omega) (by omega) (fun W p hp => xm_l2 hp) (fun W p x hp => xm_s1 hp)
theorem s_copy13 {N : Nat} (hN : 3000 ≤ N) : f_X2_copy N (some (b + 1)) 0 (some (b + 3)) 0 (xm_M h b F V) = some ((), xm_M h b F (xm_sV V 3 (va_cpy (V 1) (V 3) 0 0 806)), 0, 0) :=
  s_copyG (f := 0) (t := 0) (Li := 806) (Lj := 806) hN (by omega) (by omega) (by omega) (by omega) (by omega) (fun W p hp => xm_l1 hp) (fun W p x hp => xm_s3 hp)
theorem s_copy31 {N : Nat} (hN : 3000 ≤ N) : f_X2_copy N (some (b + 3)) 0 (some (b + 1)) 0 (xm_M h b F V) = some ((), xm_M h b F (xm_sV V 1 (va_cpy (V 3) (V 1) 0 0 806)), 0, 0) :=
  s_copyG (f := 0) (t := 0) (Li := 806) (Lj := 806) hN (by omega) (by omega) (by omega) (by omega) (by omega) (fun W p hp => xm_l3 hp) (fun W p x hp => xm_s1 hp)
/-- the history behind a record, q states in it -/
def ms_hist (V : Nat → Nat → Int32) (q : Nat) : Nat → Int32 := va_cpy (V 1) (if q = 4 then va_cpy (V 2) (V 2) 806 0 2418 else V 2) 0 (806 * min q 3) 806
theorem s_record49 {N q : Nat} (hN : 3000 ≤ N) (hq : q < 4) (h0 : F 0 = nI q) : f_X2_record_b49 N (some b) (xm_M h b F V) = some ((), xm_M h b (xm_sF F 0 (nI (q + 1))) (xm_sV V 2 (va_cpy (V 1) (V 2) 0 (806 * q) 806)), 0, 0) := by
  unfold f_X2_record_b49
  simp (disch := omega) only [xm_chk, xm_g0, xm_g1, xm_g3, xm_g5, xm_g7, xm_g8, xm_g9, xm_g10, xm_g11, xm_g12, xm_g14, xm_i2, xm_i4, xm_i6, xm_i13, xm_i15, Option.bind_some, xc_0, xm_p2, xm_p6, xm_p13, xm_p15, h0, xl_806, pk_mul, s_copy12, nI_1]
theorem s_record {N q : Nat} (hN : 3000 ≤ N) (hq : q ≤ 4) (h0 : F 0 = nI q) : f_X2_record N (some b) (xm_M h b F V) = some ((), xm_M h b (xm_sF F 0 (nI (min q 3 + 1))) (xm_sV V 2 (ms_hist V q)), 0, 0) := by
  unfold f_X2_record
  simp only [xm_chk, xm_g0, xm_g1, xm_g3, xm_g5, xm_g7, xm_g8, xm_g9, xm_g10, xm_g11, xm_g12, xm_g14, xm_i2, xm_i4, xm_i6, xm_i13, xm_i15, Option.bind_some, xc_0, xm_p2, xm_p6, xm_p13, xm_p15, h0]
  by_cases h4 : q = 4
  · subst h4
    rw [if_pos (show nI 4 = (4 : Int32) from rfl)]
    have key := xl_run (fun _ _ _ => none) (fun k3 => f_X2_record_b10 N k3)
      (fun c k => k (some b) (nI c) (xm_M h b F (xm_sV V 2 (va_cpy (V 2) (V 2) 806 0 c))))
      (some ((), xm_M h b (xm_sF F 0 (nI 4)) (xm_sV V 2 (ms_hist V 4)), 0, 0)) 2418 ?_ ?_ N 0 (by omega) (by omega)
    · have e : xm_sV V 2 (va_cpy (V 2) (V 2) 806 0 0) = V := by rw [xcp_0, xm_sVc]
      simp only [e] at key
      exact key
    · intro k c hc
      show f_X2_record_b10 N k (some b) (nI c) _ = _
      unfold f_X2_record_b10
      rw [xl_2418, if_neg (by rw [nI_leI (by omega) (by omega)]; omega)]
      simp (disch := omega) only [xm_chk, xm_g0, xm_g1, xm_g3, xm_g5, xm_g7, xm_g8, xm_g9, xm_g10, xm_g11, xm_g12, xm_g14, xm_i2, xm_i4, xm_i6, xm_i13, xm_i15, Option.bind_some, xc_0, xm_p2, xm_p6, xm_p13, xm_p15, xl_806, nI_add, xm_l2, xm_s2, xm_sVs, xm_sVV, nI_1]
      have e : va_cpy (V 2) (V 2) 806 0 c (806 + c) = V 2 (806 + c) := by
        unfold va_cpy; rw [if_neg (by omega)]
      rw [e]
      have e2 := xcp_step (f := V 2) (g := V 2) (sp := 806) (dp := 0) (c := c)
      rw [Nat.zero_add] at e2
      rw [e2]
    · intro k
      show f_X2_record_b10 N k (some b) (nI 2418) _ = _
      unfold f_X2_record_b10 f_X2_record_b39
      rw [if_pos (by decide)]
      simp only [xm_chk, xm_g0, xm_g1, xm_g3, xm_g5, xm_g7, xm_g8, xm_g9, xm_g10, xm_g11, xm_g12, xm_g14, xm_i2, xm_i4, xm_i6, xm_i13, xm_i15, Option.bind_some, xc_0, xm_p2, xm_p6, xm_p13, xm_p15, h0]
      rw [show (nI 4 - 1 : Int32) = nI 3 from rfl, s_record49 (q := 3) hN (by omega) xm_sFs, xm_sFF, xm_sVs, xm_sVV, xm_sVn (by omega)]
      rfl
  · rw [if_neg (by rw [show (4 : Int32) = nI 4 from rfl, nI_eq (by omega) (by omega)]; exact h4), s_record49 hN (by omega) h0]
    unfold ms_hist
    rw [if_neg h4, Nat.min_eq_left (by omega)]
theorem s_isOnset {N t : Nat} (ht : t < 600) : f_X2_isOnset N (some b) (nI t) (xm_M h b F V) = some (ms_onI (V 5) t, xm_M h b F V, 0, 0) := by
  unfold f_X2_isOnset f_X2_isOnset_b30 f_X2_isOnset_b34 ms_onI
  simp (disch := omega) only [xm_chk, xm_g0, xm_g1, xm_g3, xm_g5, xm_g7, xm_g8, xm_g9, xm_g10, xm_g11, xm_g12, xm_g14, xm_i2, xm_i4, xm_i6, xm_i13, xm_i15, Option.bind_some, xc_0, xm_p2, xm_p6, xm_p13, xm_p15, xm_l5]
  by_cases h1 : V 5 t ≤ 0
  · rw [if_pos h1, if_neg (fun q => absurd q.1 (Int32.not_lt.mpr h1))]
  · rw [if_neg h1]
    have h1' := Int32.not_le.mp h1
    by_cases h2 : t = 0
    · subst h2
      rw [if_pos (show nI 0 = 0 from rfl), if_pos ⟨h1', Or.inl rfl⟩]
    · rw [if_neg (nI_ne0 (by omega) (by omega)), xl_1]
      simp (disch := omega) only [pk_sub, xm_l5, Option.bind_some]
      by_cases h3 : V 5 (t - 1) = V 5 t
      · rw [if_pos h3, if_neg (fun q => q.2.elim h2 (fun z => z h3))]
      · rw [if_neg h3, if_pos ⟨h1', Or.inr h3⟩]
theorem s_m69 {N : Nat} {x : Int32} : f_X2_matches_b69 N (some b) x (xm_M h b F V) = some (xb01 (decide (x ≤ V 1 1)), xm_M h b F V, 0, 0) := by
  unfold f_X2_matches_b69
  simp only [xm_chk, xm_g0, xm_g1, xm_g3, xm_g5, xm_g7, xm_g8, xm_g9, xm_g10, xm_g11, xm_g12, xm_g14, xm_i2, xm_i4, xm_i6, xm_i13, xm_i15, Option.bind_some, xc_0, xm_p2, xm_p6, xm_p13, xm_p15, xm_l1c0, xm_l1c1, xm_l1c2, xm_l1c3, xm_l1c4, xm_l1c5, s_of0, s_of1, s_of2, s_of3, s_of4]
  by_cases q : V 1 1 < x
  · rw [if_pos q, decide_eq_false (Int32.not_le.mpr q)]; rfl
  · rw [if_neg q, decide_eq_true (Int32.not_lt.mp q)]; rfl
theorem s_matches {N k t : Nat} (hk : k < 155) (ht : t < 600) : f_X2_matches N (some b) (nI k) (nI t) (xm_M h b F V) = some (xb01 (ms_m (V 1) (V 5) k t), xm_M h b F V, 0, 0) := by
  unfold f_X2_matches f_X2_matches_b68 ms_m ms_off
  simp (disch := omega) only [xm_chk, xm_g0, xm_g1, xm_g3, xm_g5, xm_g7, xm_g8, xm_g9, xm_g10, xm_g11, xm_g12, xm_g14, xm_i2, xm_i4, xm_i6, xm_i13, xm_i15, Option.bind_some, xc_0, xm_p2, xm_p6, xm_p13, xm_p15, xm_l5, xm_l1c0, xm_l1c1, xm_l1c2, xm_l1c3, xm_l1c4, xm_l1c5, s_of0, s_of1, s_of2, s_of3, s_of4, s_wantedIn, s_size, s_m69, Nat.add_zero]
  by_cases h0 : V 5 t = 0
  · rw [if_pos h0, if_pos h0]; rfl
  · rw [if_neg h0, if_neg h0]
    exact ms_oct_of (fun x => some (xb01 (decide (x ≤ V 1 1)), xm_M h b F V, 0, 0)) _ _
end MS
