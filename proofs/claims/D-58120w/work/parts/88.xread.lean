/-! THE READER: digits, characters, numbers -/
set_option maxRecDepth 100000
/-- the heap with the reader at r, its list of plans pl, its place p -/
def rd_H (h : xh_H) (r pl p a : Nat) : xh_H := xh_set h r (.inr (.inr (6, [.ref pl, .int (nI p), .ref a])))
section RD
variable {h : xh_H} {r pl a sg hl tx len N : Nat} {sn : Option Nat} {tv : Nat → Int32}
theorem rd_at {p : Nat} : (rd_H h r pl p a).1 r = some (.inr (.inr (6, [.ref pl, .int (nI p), .ref a]))) := xs_eq
theorem rd_p {p p' : Nat} {x : Int32} (hx : x = nI p') : xh_pI (rd_H h r pl p a) (some r) 6 1 x = some (rd_H h r pl p' a) := by
  rw [xo_pI rd_at (by exact (by decide : 1 < 3)), hx]
  exact congrArg some xs_ss
theorem rd_ne {p q : Nat} (z : q ≠ r) : (rd_H h r pl p a).1 q = h.1 q := xs_ne z
theorem r_isDigit {p : Nat} {lo : Int32} (o : XO h a sg hl sn tx (nI len)) (t : h.1 tx = some (.inl (1, 60, tv))) (ra : r ≠ a) (rt : r ≠ tx) (hl60 : len ≤ 60) (hp : p ≤ len) : f_X6_isDigit N (some r) lo (rd_H h r pl p a) = some (xb01 (decide (p < len ∧ (lo ≤ tv p ∧ tv p ≤ 57))), rd_H h r pl p a, 0, 0) := by
  have o' : (rd_H h r pl p a).1 a = some (.inr (.inr (0, [.ref sg, .ref hl, va_rf sn, .ref tx, .int (nI len)]))) := by rw [rd_ne ra.symm]; exact o
  have t' : (rd_H h r pl p a).1 tx = some (.inl (1, 60, tv)) := by rw [rd_ne rt.symm]; exact t
  unfold f_X6_isDigit f_X6_isDigit_b51
  rw [xo_gI rd_at (k := 1) rfl]
  simp only [Option.bind_some]
  rw [xo_gR (x := some a) rd_at (k := 2) rfl]
  simp only [Option.bind_some]
  rw [xo_gI o' (k := 4) rfl]
  simp only [Option.bind_some]
  rw [xo_gR (x := some tx) o' (k := 3) rfl]
  simp only [Option.bind_some]
  by_cases z : p < len
  · rw [if_neg (by rw [nI_leI (by omega) (by omega)]; omega), xo_ld t' (show p < 60 by omega) (by omega)]
    simp only [Option.bind_some]
    by_cases y : tv p < lo
    · rw [if_pos y, decide_eq_false (fun q => absurd y (Int32.not_lt.mpr q.2.1))]; rfl
    · rw [if_neg y]
      by_cases x : 57 < tv p
      · rw [if_pos x, decide_eq_false (fun q => absurd x (Int32.not_lt.mpr q.2.2))]; rfl
      · rw [if_neg x, decide_eq_true ⟨z, Int32.not_lt.mp y, Int32.not_lt.mp x⟩]; rfl
  · rw [if_pos (by rw [nI_leI (by omega) (by omega)]; omega), decide_eq_false (fun q => z q.1)]; rfl
theorem r_takes {p : Nat} {c : Int32} (o : XO h a sg hl sn tx (nI len)) (t : h.1 tx = some (.inl (1, 60, tv))) (ra : r ≠ a) (rt : r ≠ tx) (hl60 : len ≤ 60) (hp : p ≤ len) : f_X6_takes N (some r) c (rd_H h r pl p a) = some (xb01 (isCb tv len p c), rd_H h r pl (if isCb tv len p c then p + 1 else p) a, 0, 0) := by
  have o' : (rd_H h r pl p a).1 a = some (.inr (.inr (0, [.ref sg, .ref hl, va_rf sn, .ref tx, .int (nI len)]))) := by rw [rd_ne ra.symm]; exact o
  have t' : (rd_H h r pl p a).1 tx = some (.inl (1, 60, tv)) := by rw [rd_ne rt.symm]; exact t
  unfold f_X6_takes f_X6_takes_b34 f_X6_takes_b35 f_X6_takes_b50
  rw [xo_gI rd_at (k := 1) rfl]
  simp only [Option.bind_some]
  rw [xo_gR (x := some a) rd_at (k := 2) rfl]
  simp only [Option.bind_some]
  rw [xo_gI o' (k := 4) rfl]
  simp only [Option.bind_some]
  rw [xo_gR (x := some tx) o' (k := 3) rfl]
  simp only [Option.bind_some]
  rw [rd_p (p' := p + 1) (nI_1 p)]
  simp only [Option.bind_some]
  unfold isCb
  by_cases z : p < len
  · rw [if_neg (by rw [nI_leI (by omega) (by omega)]; omega), xo_ld t' (show p < 60 by omega) (by omega)]
    simp only [Option.bind_some]
    by_cases y : tv p = c
    · rw [if_pos y, decide_eq_true ⟨z, y⟩, if_neg (by decide)]
      simp only [or_true, if_true]; rfl
    · rw [if_neg y, decide_eq_false (fun q => y q.2)]
      simp only [true_or, if_true]; rfl
  · rw [if_pos (by rw [nI_leI (by omega) (by omega)]; omega), decide_eq_false (fun q => z q.1)]
    simp only [true_or, if_true]; rfl
theorem r_number {p ls : Nat} {ms : Int32} (o : XO h a sg hl sn tx (nI len)) (t : h.1 tx = some (.inl (1, 60, tv))) (ra : r ≠ a) (rt : r ≠ tx) (hl60 : len ≤ 60) (hp : p ≤ len) (hls : ls ≤ 1) : f_X6_number N (some r) (nI (48 + ls)) ms (rd_H h r pl p a) =
    match rdN tv len p (nI ls) ms with
    | none => some (-5, rd_H h r pl p a, 0, 0)
    | some (v, q) => some (v, rd_H h r pl q a, 0, 0) := by
  have o' : ∀ p, (rd_H h r pl p a).1 a = some (.inr (.inr (0, [.ref sg, .ref hl, va_rf sn, .ref tx, .int (nI len)]))) := fun p => by rw [rd_ne ra.symm]; exact o
  have t' : ∀ p, (rd_H h r pl p a).1 tx = some (.inl (1, 60, tv)) := fun p => by rw [rd_ne rt.symm]; exact t
  have c1 : ∀ p, xh_gI (rd_H h r pl p a) (some r) 6 1 = some (nI p) := fun p => xo_gI rd_at rfl
  have c2 : ∀ p, xh_gR (rd_H h r pl p a) (some r) 6 2 = some (some a) := fun p => xo_gR (x := some a) rd_at rfl
  have c3 : ∀ p, xh_gR (rd_H h r pl p a) (some a) 0 3 = some (some tx) := fun p => xo_gR (x := some tx) (o' p) rfl
  have c4 : ∀ p, xh_chk (rd_H h r pl p a) (some r) 6 = some () := fun p => xo_chk rd_at
  have c5 : ∀ p q, q < 60 → xh_ld (rd_H h r pl p a) (some tx) 1 (nI q) = some (tv q) := fun p q hq => xo_ld (t' p) hq (by omega)
  unfold f_X6_number f_X6_number_b105
  simp only [c4, r_isDigit o t ra rt hl60 hp, Option.bind_some, xc_0, c1, c2, c3]
  unfold rdN
  have e48 : nI (48 + ls) = 48 + nI ls := by rw [show (48 : Int32) = nI 48 from rfl, nI_add]
  rw [e48]
  by_cases z : p < len ∧ (48 + nI ls ≤ tv p ∧ tv p ≤ 57)
  · rw [decide_eq_true z, if_neg (show ¬ xb01 true = 0 by decide), if_pos z, c5 p p (by omega)]
    simp only [Option.bind_some]
    rw [rd_p (p' := p + 1) (nI_1 p)]
    simp only [Option.bind_some, c4, r_isDigit (lo := 48) o t ra rt hl60 (show p + 1 ≤ len by omega), xc_0, c1, c2, c3]
    by_cases y0 : tv p - 48 ≤ 0
    · rw [if_pos y0, if_neg (fun q => absurd q.1 (Int32.not_lt.mpr y0))]
    · rw [if_neg y0]
      by_cases y1 : p + 1 < len ∧ (48 ≤ tv (p + 1) ∧ tv (p + 1) ≤ 57)
      · rw [decide_eq_true y1, if_neg (show ¬ xb01 true = 0 by decide), c5 (p + 1) (p + 1) (by omega)]
        simp only [Option.bind_some]
        by_cases y2 : ms < ((10 * (tv p - 48)) + tv (p + 1)) - 48
        · rw [if_pos y2, if_neg (fun q => absurd y2 (Int32.not_lt.mpr q.2.2))]
        · rw [if_neg y2, if_pos ⟨Int32.not_le.mp y0, y1, Int32.not_lt.mp y2⟩, rd_p (p' := p + 2) (nI_1 (p + 1))]
          rfl
      · rw [decide_eq_false y1, if_pos (show xb01 false = 0 from rfl), if_neg (fun q => y1 q.2.1)]
  · rw [decide_eq_false z, if_pos (show xb01 false = 0 from rfl), if_neg z]
end RD
