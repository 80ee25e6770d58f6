/-! THE READER: a syllable -/
set_option maxRecDepth 100000
theorem rdN_b {t : Nat → Int32} {len p q ls ms : Nat} {v : Int32} (h : rdN t len p (nI ls) (nI ms) = some (v, q)) (hl : ls ≤ 1) (hm : ms ≤ 60) (hm9 : 9 ≤ ms) : nI ls ≤ v ∧ v ≤ nI ms := by
  unfold rdN at h
  split at h
  · next z =>
    have hz1 := z.2.1
    rw [show (48 : Int32) = nI 48 from rfl, nI_add] at hz1
    obtain ⟨c, hc1, hc2, hc⟩ := nI_dig (by omega) hz1 z.2.2
    have e1 : t p - 48 = nI (c - 48) := by rw [hc, show (48 : Int32) = nI 48 from rfl, pk_sub (by omega)]
    split at h
    · next y =>
      cases h
      refine ⟨?_, y.2.2⟩
      obtain ⟨d, hd1, hd2, hd⟩ := nI_dig (lo := 48) (by omega) y.2.1.2.1 y.2.1.2.2
      have h0 := y.1
      rw [e1, xl_0, nI_ltI (by omega) (by omega)] at h0
      rw [e1, hd, show (48 : Int32) = nI 48 from rfl, show (10 : Int32) = nI 10 from rfl, pk_mul, nI_add, pk_sub (by omega), nI_leI (by omega) (by omega)]
      omega
    · cases h
      rw [e1, nI_leI (by omega) (by omega), nI_leI (by omega) (by omega)]
      omega
  · cases h
