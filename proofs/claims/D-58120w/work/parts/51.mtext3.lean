/-! THE MODEL's METHODS: reading the text, the loop -/
set_option maxRecDepth 100000
theorem xm_sFs2 {F : Nat → Int32} {j k : Nat} {x y : Int32} (e : j ≠ k) : xm_sF (xm_sF F j x) k y = xm_sF (xm_sF F k y) j x := by
  funext i
  unfold xm_sF
  by_cases h : i = k
  · rw [if_pos h, if_neg (fun q => e (q.symm.trans h)), if_pos h]
  · rw [if_neg h, if_neg h]
theorem xm_sVs2 {V : Nat → Nat → Int32} {j k : Nat} {x y : Nat → Int32} (e : j ≠ k) : xm_sV (xm_sV V j x) k y = xm_sV (xm_sV V k y) j x := by
  funext i
  unfold xm_sV
  by_cases h : i = k
  · rw [if_pos h, if_neg (fun q => e (q.symm.trans h)), if_pos h]
  · rw [if_neg h, if_neg h]
def rdF (F : Nat → Int32) (K : Int32) (p : Nat) : Nat → Int32 := xm_sF (xm_sF F 4 K) 3 (nI p)
def rdV (V : Nat → Nat → Int32) (S T : Nat → Int32) : Nat → Nat → Int32 := xm_sV (xm_sV V 1 S) 11 T
theorem ms_add_n {s : Nat → Int32} {r p e l f : Int32} (hn : ms_n s < 60) : ms_add s r p e l f 5 = nI (ms_n s + 1) ∧ ms_n (ms_add s r p e l f) = ms_n s + 1 := by
  have e5 : ms_add s r p e l f 5 = nI (ms_n s + 1) := by unfold ms_add upd; exact if_pos rfl
  refine ⟨e5, ?_⟩
  show (ms_add s r p e l f 5).toNatClampNeg = _
  rw [e5, nI_clamp (by omega)]
section MS
variable {h : xh_H} {b : Nat} {F : Nat → Int32} {V : Nat → Nat → Int32} {T S : Nat → Int32}
theorem s_readText17 {N len : Nat} {a1 : Int32} (hN : 3000 ≤ N) (h2 : F 2 = nI len) (hl : len ≤ 60) (ha : a1 = 0 ∨ a1 = 1) :
    ∀ n p (K : Int32) (S T : Nat → Int32) (f : Int32), p ≤ len → len < p + n → rdQ T (rdS (V 4) len p).1 → (a1 = 1 → 4 * ms_n S ≤ p ∧ S 5 = nI (ms_n S)) → ∀ m, n ≤ m →
      ∃ K' S' T', f_X2_readText_l17 N m (some b) a1 f (xb01 (rdS (V 4) len p).1.isSome) (xm_M h b (rdF F K (rdS (V 4) len p).2) (rdV V S T)) =
        some (xb01 (rdT (V 4) len n p f).1.isSome, xm_M h b (rdF F K' (rdT (V 4) len n p f).2) (rdV V S' T'), 0, 0) ∧ (a1 = 0 → S' = S) ∧
        ∀ L, (rdT (V 4) len n p f).1 = some L → K' = rdK K L ∧ S' = if a1 = 0 then S else addL S L
  | 0, p, K, S, T, f, hp, hn, _, _, m, _ => by omega
  | n + 1, p, K, S, T, f, hp, hn, hQ, h45, m, hm => by
    obtain ⟨m', rfl⟩ : ∃ j, m = j + 1 := ⟨m - 1, by omega⟩
    have hb17 : ∀ k17, f_X2_readText_l17 N (m' + 1) = f_X2_readText_b17 N k17 ∨ True := fun _ => Or.inr trivial
    show ∃ K' S' T', f_X2_readText_b17 N (f_X2_readText_l17 N m') (some b) a1 f _ _ = _ ∧ _ ∧ _
    have hrT : rdT (V 4) len (n + 1) p f = (match rdS (V 4) len p with
      | (none, q) => (none, q)
      | (some x, q) => if q = len then (some [(x, f)], q) else if isCb (V 4) len q 47 then rdC (x, f) (rdT (V 4) len n (q + 1) 1) else if isCb (V 4) len q 44 then rdC (x, f) (rdT (V 4) len n (q + 1) 0) else (none, q)) := rfl
    rw [hrT]
    rcases ho : rdS (V 4) len p with ⟨o, q⟩
    rw [ho] at hQ
    have hle := rdS_le ho hp
    unfold f_X2_readText_b17
    cases o with
    | none =>
      refine ⟨K, S, T, ?_, fun _ => rfl, fun L e => by cases e⟩
      rw [if_pos (show xb01 (Option.isSome (none : Option rdP)) = 0 from rfl)]
      rfl
    | some x =>
      obtain ⟨r, x, e, l⟩ := x
      obtain ⟨t0, t1, t2, t3⟩ := hQ r x e l rfl
      have hq3 := hle.2.2 rfl
      rw [if_neg (show ¬ xb01 (Option.isSome (some ((r, x, e, l) : rdP))) = 0 from (by decide : ¬ xb01 true = 0))]
      have g4 : ∀ K p, rdF F K p 4 = K := fun K p => by unfold rdF; rw [xm_sFn (by omega), xm_sFs]
      have g3 : ∀ K p, rdF F K p 3 = nI p := fun K p => by unfold rdF; rw [xm_sFs]
      have g2 : ∀ K p, rdF F K p 2 = nI len := fun K p => by unfold rdF; rw [xm_sFn (by omega), xm_sFn (by omega)]; exact h2
      have s4 : ∀ K p K', xm_sF (rdF F K p) 4 K' = rdF F K' p := fun K p K' => by unfold rdF; rw [xm_sFs2 (by omega), xm_sFF]
      have s3 : ∀ K p p', xm_sF (rdF F K p) 3 (nI p') = rdF F K p' := fun K p p' => by unfold rdF; rw [xm_sFF]
      have v11 : ∀ S T, rdV V S T 11 = T := fun S T => xm_sVs
      have v1 : ∀ S T, rdV V S T 1 = S := fun S T => by unfold rdV; rw [xm_sVn (by omega), xm_sVs]
      have v4 : ∀ S T, rdV V S T 4 = V 4 := fun S T => by unfold rdV; rw [xm_sVn (by omega), xm_sVn (by omega)]
      have sv1 : ∀ S T S', xm_sV (rdV V S T) 1 S' = rdV V S' T := fun S T S' => by unfold rdV; rw [xm_sVs2 (by omega), xm_sVV]
      have htk : ∀ (K : Int32) (S T : Nat → Int32) (q : Nat) (c : Int32), q ≤ len → f_X2_takes N (some b) c (xm_M h b (rdF F K q) (rdV V S T)) = some (xb01 (isCb (V 4) len q c), xm_M h b (rdF F K (if isCb (V 4) len q c then q + 1 else q)) (rdV V S T), 0, 0) := by
        intro K S T q c hq
        have := s_tk (h := h) (b := b) (F := xm_sF F 4 K) (V := xm_sV V 1 S) (T := T) (N := N) (c := c) (by rw [xm_sFn (by omega)]; exact h2) hl hq
        rw [xm_sVn (by omega)] at this
        exact this
      have hrs : ∀ (K : Int32) (S T : Nat → Int32) (p : Nat), p ≤ len → ∃ T', f_X2_readSyllable N (some b) (xm_M h b (rdF F K p) (rdV V S T)) = some (xb01 (rdS (V 4) len p).1.isSome, xm_M h b (rdF F K (rdS (V 4) len p).2) (rdV V S T'), 0, 0) ∧ rdQ T' (rdS (V 4) len p).1 := by
        intro K S T p hp
        have := s_readSyllable (h := h) (b := b) (F := xm_sF F 4 K) (V := xm_sV V 1 S) (T := T) (N := N) hN (by rw [xm_sFn (by omega)]; exact h2) hl hp
        rw [xm_sVn (by omega)] at this
        exact this
      -- behind the syllable
      have h77 : ∀ S₁ : Nat → Int32, (a1 = 0 → S₁ = S) → S₁ = (if a1 = 0 then S else ms_add S r x e l f) → (a1 = 1 → 4 * ms_n S₁ ≤ q + 1 ∧ S₁ 5 = nI (ms_n S₁)) →
          ∃ K' S' T', f_X2_readText_b77 N (f_X2_readText_l17 N m') (some b) a1 (xm_M h b (rdF F (K + (r + l)) q) (rdV V S₁ T)) =
          some (xb01 (if q = len then (some [((r, x, e, l), f)], q) else if isCb (V 4) len q 47 then rdC ((r, x, e, l), f) (rdT (V 4) len n (q + 1) 1) else if isCb (V 4) len q 44 then rdC ((r, x, e, l), f) (rdT (V 4) len n (q + 1) 0) else (none, q)).1.isSome, xm_M h b (rdF F K' (if q = len then (some [((r, x, e, l), f)], q) else if isCb (V 4) len q 47 then rdC ((r, x, e, l), f) (rdT (V 4) len n (q + 1) 1) else if isCb (V 4) len q 44 then rdC ((r, x, e, l), f) (rdT (V 4) len n (q + 1) 0) else (none, q)).2) (rdV V S' T'), 0, 0) ∧ (a1 = 0 → S' = S) ∧
          ∀ L, (if q = len then (some [((r, x, e, l), f)], q) else if isCb (V 4) len q 47 then rdC ((r, x, e, l), f) (rdT (V 4) len n (q + 1) 1) else if isCb (V 4) len q 44 then rdC ((r, x, e, l), f) (rdT (V 4) len n (q + 1) 0) else (none, q)).1 = some L → K' = rdK K L ∧ S' = if a1 = 0 then S else addL S L := by
        intro S₁ hS0 hS1 hS45
        unfold f_X2_readText_b77 f_X2_readText_b88
        simp only [xm_chk, xm_g0, xm_g1, xm_g3, xm_g5, xm_g7, xm_g8, xm_g9, xm_g10, xm_g11, xm_g12, xm_g14, xm_i2, xm_i4, xm_i6, xm_i13, xm_i15, Option.bind_some, xc_0, xm_p2, xm_p6, xm_p13, xm_p15, g3, g2]
        by_cases z : q = len
        · rw [if_pos (show nI q = nI len by rw [z])]
          simp only [if_pos z]
          refine ⟨K + (r + l), S₁, T, rfl, hS0, fun L eL => ?_⟩
          cases eL
          exact ⟨rfl, hS1⟩
        · rw [if_neg (show ¬ nI q = nI len by rw [nI_eq (by omega) (by omega)]; exact z)]
          simp only [if_neg z, htk _ _ _ _ _ hle.2.1, xc_0]
          -- the next syllable
          have nxt : ∀ f' : Int32, q < len → ∃ K' S' T', f_X2_readText_b119 N (f_X2_readText_l17 N m') (some b) a1 f' (xm_M h b (rdF F (K + (r + l)) (q + 1)) (rdV V S₁ T)) =
              some (xb01 (rdC ((r, x, e, l), f) (rdT (V 4) len n (q + 1) f')).1.isSome, xm_M h b (rdF F K' (rdC ((r, x, e, l), f) (rdT (V 4) len n (q + 1) f')).2) (rdV V S' T'), 0, 0) ∧ (a1 = 0 → S' = S) ∧ ∀ L, (rdC ((r, x, e, l), f) (rdT (V 4) len n (q + 1) f')).1 = some L → K' = rdK K L ∧ S' = if a1 = 0 then S else addL S L := by
            intro f' hql
            obtain ⟨T', eT, hT⟩ := hrs (K + (r + l)) S₁ T (q + 1) (by omega)
            unfold f_X2_readText_b119 f_X2_readText_b130 f_X2_readText_b131
            simp only [xm_chk, xm_g0, xm_g1, xm_g3, xm_g5, xm_g7, xm_g8, xm_g9, xm_g10, xm_g11, xm_g12, xm_g14, xm_i2, xm_i4, xm_i6, xm_i13, xm_i15, Option.bind_some, xc_0, xm_p2, xm_p6, xm_p13, xm_p15, eT]
            obtain ⟨K', S', T'', eq, q0, qL⟩ := s_readText17 hN h2 hl ha n (q + 1) (K + (r + l)) S₁ T' f' (by omega) (by omega) hT hS45 m' (by omega)
            have e1 : ∀ (c : Int32) (X Y : xh_R Int32), (c = 0 → X = Y) → (if c = 0 then X else Y) = Y := by
              intro c X Y hc
              by_cases c0 : c = 0
              · rw [if_pos c0, hc c0]
              · rw [if_neg c0]
            have e2 : ∀ (bb : Bool) (g : Int32 → xh_R Int32), (if xb01 bb = 0 then g 0 else g 1) = g (xb01 bb) := by
              intro bb g
              cases bb <;> rfl
            rw [e2 _ (fun c => f_X2_readText_l17 N m' (some b) a1 f' c _), eq]
            rcases hr : rdT (V 4) len n (q + 1) f' with ⟨o', q'⟩
            rw [hr] at qL
            cases o' with
            | none => exact ⟨K', S', T'', rfl, fun a0 => (q0 a0).trans (hS0 a0), fun L eL => by cases eL⟩
            | some L' =>
              refine ⟨K', S', T'', rfl, fun a0 => (q0 a0).trans (hS0 a0), fun L eL => ?_⟩
              cases eL
              obtain ⟨k1, k2⟩ := qL L' rfl
              refine ⟨k1, ?_⟩
              rw [k2, hS1]
              by_cases a0 : a1 = 0
              · rw [if_pos a0, if_pos a0, if_pos a0]
              · rw [if_neg a0, if_neg a0, if_neg a0]; rfl
          unfold f_X2_readText_b104
          by_cases y : isCb (V 4) len q 47 = true
          · rw [y, if_neg (show ¬ xb01 true = 0 by decide), if_pos rfl]
            simp only [if_true]
            exact nxt 1 (isCb_lt y)
          · rw [Bool.eq_false_iff.mpr y, if_pos (show xb01 false = 0 from rfl), if_neg (by decide)]
            simp only [Bool.false_eq_true, if_false, xm_chk, xm_g0, xm_g1, xm_g3, xm_g5, xm_g7, xm_g8, xm_g9, xm_g10, xm_g11, xm_g12, xm_g14, xm_i2, xm_i4, xm_i6, xm_i13, xm_i15, Option.bind_some, xc_0, xm_p2, xm_p6, xm_p13, xm_p15, htk _ _ _ _ _ hle.2.1]
            by_cases w : isCb (V 4) len q 44 = true
            · rw [w, if_neg (show ¬ xb01 true = 0 by decide)]
              simp only [if_true]
              exact nxt 0 (isCb_lt w)
            · rw [Bool.eq_false_iff.mpr w, if_pos (show xb01 false = 0 from rfl)]
              simp only [Bool.false_eq_true, if_false]
              obtain ⟨m'', rfl⟩ : ∃ j, m' = j + 1 := ⟨m' - 1, by omega⟩
              refine ⟨K + (r + l), S₁, T, ?_, hS0, fun L eL => by cases eL⟩
              unfold f_X2_readText_b130 f_X2_readText_b131
              show f_X2_readText_b17 N (f_X2_readText_l17 N m'') (some b) a1 0 0 _ = _
              unfold f_X2_readText_b17
              rw [if_pos rfl]
              rfl
      simp only [xm_chk, xm_g0, xm_g1, xm_g3, xm_g5, xm_g7, xm_g8, xm_g9, xm_g10, xm_g11, xm_g12, xm_g14, xm_i2, xm_i4, xm_i6, xm_i13, xm_i15, Option.bind_some, xc_0, xm_p2, xm_p6, xm_p13, xm_p15, v11, xm_l11c0, xm_l11c1, xm_l11c2, xm_l11c3, t0, t1, t2, t3, g4, s4]
      rcases ha with a0 | a0
      · rw [if_pos a0]
        exact h77 S (fun _ => rfl) (by rw [if_pos a0]) (fun c => absurd (a0.symm.trans c) (by decide))
      · have a0' : ¬ a1 = 0 := by rw [a0]; decide
        obtain ⟨h4, h5⟩ := h45 a0
        rw [if_neg a0']
        rw [s_doAdd (V := rdV V S T) (by rw [v1]; exact h5) (by rw [v1]; omega)]
        simp only [xm_chk, xm_g0, xm_g1, xm_g3, xm_g5, xm_g7, xm_g8, xm_g9, xm_g10, xm_g11, xm_g12, xm_g14, xm_i2, xm_i4, xm_i6, xm_i13, xm_i15, Option.bind_some, xc_0, xm_p2, xm_p6, xm_p13, xm_p15, v1, sv1]
        have hn' := ms_add_n (s := S) (r := r) (p := x) (e := e) (l := l) (f := f) (by omega)
        exact h77 _ (fun c => absurd c a0') (by rw [if_neg a0']) (fun _ => ⟨by rw [hn'.2]; omega, by rw [hn'.1, hn'.2]⟩)
end MS
