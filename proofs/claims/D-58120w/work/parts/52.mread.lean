/-! THE MODEL's METHODS: read, and the constructor -/
set_option maxRecDepth 100000
theorem addL_n : ∀ (L : List (rdP × Int32)) (s : Nat → Int32), s 5 = nI (ms_n s) → ms_n s + L.length < 60 → addL s L 5 = nI (ms_n s + L.length) ∧ ms_n (addL s L) = ms_n s + L.length
  | [], s, h5, _ => ⟨h5, rfl⟩
  | x :: L, s, h5, hn => by
    have hl : (x :: L).length = L.length + 1 := rfl
    rw [hl] at hn ⊢
    have h := ms_add_n (s := s) (r := x.1.1) (p := x.1.2.1) (e := x.1.2.2.1) (l := x.1.2.2.2) (f := x.2) (by omega)
    have ih := addL_n L (ms_add s x.1.1 x.1.2.1 x.1.2.2.1 x.1.2.2.2 x.2) (by rw [h.1, h.2]) (by rw [h.2]; omega)
    rw [h.2] at ih
    have e : ms_n s + 1 + L.length = ms_n s + (L.length + 1) := by omega
    rw [e] at ih
    exact ih
section MS
variable {h : xh_H} {b : Nat} {F : Nat → Int32} {V : Nat → Nat → Int32}
theorem s_readText {N len : Nat} {a1 : Int32} (hN : 3000 ≤ N) (h2 : F 2 = nI len) (hl : len ≤ 60) (ha : a1 = 0 ∨ (a1 = 1 ∧ V 1 5 = 0)) :
    ∃ K' S' T', f_X2_readText N (some b) a1 (xm_M h b F V) = some (xb01 (rdT (V 4) len 61 0 1).1.isSome, xm_M h b (rdF F K' (rdT (V 4) len 61 0 1).2) (rdV V S' T'), 0, 0) ∧ (a1 = 0 → S' = V 1) ∧
        ∀ L, (rdT (V 4) len 61 0 1).1 = some L → K' = rdK 0 L ∧ S' = if a1 = 0 then V 1 else addL (V 1) L := by
  unfold f_X2_readText
  have e1 : xm_sF (xm_sF F 3 0) 4 0 = xm_sF (xm_sF F 4 0) 3 (nI 0) := xm_sFs2 (by omega)
  have e2 : V = xm_sV V 11 (V 11) := xm_sVc.symm
  have hF : xm_sF F 4 0 2 = nI len := by rw [xm_sFn (by omega)]; exact h2
  obtain ⟨T', eT, hT⟩ := s_readSyllable (h := h) (b := b) (F := xm_sF F 4 0) (V := V) (T := V 11) (N := N) hN hF hl (Nat.zero_le len)
  rw [← e2] at eT
  simp only [xm_chk, xm_g0, xm_g1, xm_g3, xm_g5, xm_g7, xm_g8, xm_g9, xm_g10, xm_g11, xm_g12, xm_g14, xm_i2, xm_i4, xm_i6, xm_i13, xm_i15, Option.bind_some, xc_0, xm_p2, xm_p6, xm_p13, xm_p15, e1, eT]
  have e3 : rdV V (V 1) T' = xm_sV V 11 T' := by unfold rdV; rw [xm_sVc]
  have key := s_readText17 (h := h) (b := b) (V := V) (F := F) (N := N) (a1 := a1) hN h2 hl (ha.imp id And.left) 61 0 0 (V 1) T' 1 (by omega) (by omega) hT (fun a => by
    have h5 : V 1 5 = 0 := by
      rcases ha with z | z
      · rw [z] at a; cases a
      · exact z.2
    have : ms_n (V 1) = 0 := by unfold ms_n; rw [h5]; rfl
    rw [this]
    exact ⟨Nat.le_refl _, h5⟩) N (by omega)
  rw [e3] at key
  exact key
theorem s_read {N q len : Nat} (hN : 3000 ≤ N) (h2 : F 2 = nI len) (hl : len ≤ 60) (h0 : F 0 = nI q) (hq : q ≤ 4) :
    ∃ K T, f_X2_read N (some b) (xm_M h b F V) = some (match rdT (V 4) len 61 0 1 with
      | (none, p) => (-100 - nI p, xm_M h b (rdF F K p) (rdV V (V 1) T), 0, 0)
      | (some L, p) => if rdK 0 L ≤ 600 then (nI L.length, xm_M h b (rdF (rcF F q) K p) (rdV (rcV V q) (addL (upd (V 1) 5 0) L) T), 0, 0) else (-3, xm_M h b (rdF F K p) (rdV V (V 1) T), 0, 0)) := by
  unfold f_X2_read
  obtain ⟨K, S, T, e, e0, eL⟩ := s_readText (h := h) (b := b) (V := V) (N := N) (a1 := 0) hN h2 hl (Or.inl rfl)
  have eS := e0 rfl
  subst eS
  rcases hr : rdT (V 4) len 61 0 1 with ⟨o, p⟩
  rw [hr] at e eL
  have g3 : ∀ F : Nat → Int32, rdF F K p 3 = nI p := fun F => by unfold rdF; rw [xm_sFs]
  have g4 : ∀ F : Nat → Int32, rdF F K p 4 = K := fun F => by unfold rdF; rw [xm_sFn (by omega), xm_sFs]
  simp only [xm_chk, xm_g0, xm_g1, xm_g3, xm_g5, xm_g7, xm_g8, xm_g9, xm_g10, xm_g11, xm_g12, xm_g14, xm_i2, xm_i4, xm_i6, xm_i13, xm_i15, Option.bind_some, xc_0, xm_p2, xm_p6, xm_p13, xm_p15, e]
  cases o with
  | none =>
    rw [if_pos (show xb01 (Option.isSome (none : Option (List (rdP × Int32)))) = 0 from rfl)]
    simp only [xm_chk, xm_g0, xm_g1, xm_g3, xm_g5, xm_g7, xm_g8, xm_g9, xm_g10, xm_g11, xm_g12, xm_g14, xm_i2, xm_i4, xm_i6, xm_i13, xm_i15, Option.bind_some, xc_0, xm_p2, xm_p6, xm_p13, xm_p15, g3]
    exact ⟨K, T, rfl⟩
  | some L =>
    obtain ⟨eK, -⟩ := eL L rfl
    have hlen := (rdT_le 61 0 p 1 (some L) hr (by omega)).2 L rfl
    rw [if_neg (show ¬ xb01 (Option.isSome (some L)) = 0 from (by decide : ¬ xb01 true = 0))]
    simp only [xm_chk, xm_g0, xm_g1, xm_g3, xm_g5, xm_g7, xm_g8, xm_g9, xm_g10, xm_g11, xm_g12, xm_g14, xm_i2, xm_i4, xm_i6, xm_i13, xm_i15, Option.bind_some, xc_0, xm_p2, xm_p6, xm_p13, xm_p15, g4]
    rw [eK]
    by_cases z : rdK 0 L ≤ 600
    · rw [if_pos z]
      simp only [if_pos z]
      have hF0 : rdF F (rdK 0 L) p 0 = nI q := by unfold rdF; rw [xm_sFn (by omega), xm_sFn (by omega)]; exact h0
      rw [s_record hN hq hF0]
      have eV1 : rdV V (V 1) T = xm_sV V 11 T := by unfold rdV; rw [xm_sVc]
      have eh : ms_hist (xm_sV V 11 T) q = ms_hist V q := by
        unfold ms_hist
        rw [xm_sVn (by omega), xm_sVn (by omega)]
      rw [eV1]
      have e5 : ∀ x, xh_sv x (some (b + 1)) 0 (5 : Int32) (0 : Int32) = xh_sv x (some (b + 1)) 0 (nI 5) (0 : Int32) := fun _ => rfl
      simp only [xm_chk, xm_g0, xm_g1, xm_g3, xm_g5, xm_g7, xm_g8, xm_g9, xm_g10, xm_g11, xm_g12, xm_g14, xm_i2, xm_i4, xm_i6, xm_i13, xm_i15, Option.bind_some, xc_0, xm_p2, xm_p6, xm_p13, xm_p15, e5, xm_s1 (show 5 < 806 by omega)]
      rw [eh]
      have e1 : xm_sV (xm_sV V 11 T) 2 (ms_hist V q) = xm_sV (rcV V q) 11 T := xm_sVs2 (by omega)
      have er1 : rcV V q 1 = V 1 := rcV_o (by omega)
      have er4 : rcV V q 4 = V 4 := rcV_o (by omega)
      rw [e1]
      have e6 : xm_sV (rcV V q) 11 T 1 = V 1 := by rw [xm_sVn (by omega), er1]
      rw [e6]
      have eF : xm_sF (rdF F (rdK 0 L) p) 0 (nI (min q 3 + 1)) = rdF (rcF F q) (rdK 0 L) p := by
        unfold rdF rcF
        rw [xm_sFs2 (by omega), xm_sFs2 (j := 4) (by omega)]
      rw [eF]
      have w1 : xm_sV (xm_sV (rcV V q) 11 T) 1 (upd (V 1) 5 0) 1 = upd (V 1) 5 0 := xm_sVs
      have w4 : xm_sV (xm_sV (rcV V q) 11 T) 1 (upd (V 1) 5 0) 4 = V 4 := by rw [xm_sVn (by omega), xm_sVn (by omega), er4]
      have hF2 : rdF (rcF F q) (rdK 0 L) p 2 = nI len := by unfold rdF rcF; rw [xm_sFn (by omega), xm_sFn (by omega), xm_sFn (by omega)]; exact h2
      obtain ⟨K', S', T', f, -, fL⟩ := s_readText (h := h) (b := b) (F := rdF (rcF F q) (rdK 0 L) p) (V := xm_sV (xm_sV (rcV V q) 11 T) 1 (upd (V 1) 5 0)) (N := N) (a1 := 1) hN hF2 hl (Or.inr ⟨rfl, by rw [w1]; exact if_pos rfl⟩)
      rw [w4, hr] at f fL
      rw [w1] at fL
      obtain ⟨-, eS⟩ := fL L rfl
      rw [if_neg (by decide)] at eS
      simp only [xm_chk, xm_g0, xm_g1, xm_g3, xm_g5, xm_g7, xm_g8, xm_g9, xm_g10, xm_g11, xm_g12, xm_g14, xm_i2, xm_i4, xm_i6, xm_i13, xm_i15, Option.bind_some, xc_0, xm_p2, xm_p6, xm_p13, xm_p15, f]
      rw [if_neg (show ¬ xb01 (Option.isSome (some L)) = 0 from (by decide : ¬ xb01 true = 0))]
      have eV : rdV (xm_sV (xm_sV (rcV V q) 11 T) 1 (upd (V 1) 5 0)) S' T' = rdV (rcV V q) (addL (upd (V 1) 5 0) L) T' := by
        unfold rdV
        rw [eS, xm_sVV, xm_sVs2 (j := 11) (by omega), xm_sVV]
      have eFF : rdF (rdF (rcF F q) (rdK 0 L) p) K' p = rdF (rcF F q) K' p := by
        unfold rdF
        rw [xm_sFs2 (j := 3) (by omega), xm_sFF, xm_sFF]
      have u5 : upd (V 1) 5 0 5 = nI 0 := if_pos rfl
      have un : ms_n (upd (V 1) 5 0) = 0 := by unfold ms_n; rw [u5]; rfl
      have hA := (addL_n L (upd (V 1) 5 0) (by rw [un]; exact u5) (by rw [un]; omega)).1
      rw [un, Nat.zero_add] at hA
      have v1 : rdV (rcV V q) (addL (upd (V 1) 5 0) L) T' 1 = addL (upd (V 1) 5 0) L := by unfold rdV; rw [xm_sVn (by omega), xm_sVs]
      rw [eV, eFF]
      simp only [xm_chk, xm_g0, xm_g1, xm_g3, xm_g5, xm_g7, xm_g8, xm_g9, xm_g10, xm_g11, xm_g12, xm_g14, xm_i2, xm_i4, xm_i6, xm_i13, xm_i15, Option.bind_some, xc_0, xm_p2, xm_p6, xm_p13, xm_p15, xm_l1c5, v1, hA]
      exact ⟨K', T', rfl⟩
    · rw [if_neg z]
      simp only [if_neg z]
      exact ⟨rdK 0 L, T, rfl⟩
end MS
