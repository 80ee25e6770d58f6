/-! THE READER: digits, characters, numbers -/
set_option maxRecDepth 100000
/-- the heap with the reader at r, its list of plans pl, its place p -/
def rd_H (h : xh_H) (r pl p a : Nat) : xh_H := xh_set h r (.inr (.inr (6, [.ref pl, .int (nI p), .ref a])))
section RD
variable {h : xh_H} {r pl a sg hl tx len N : Nat} {sn : Option Nat} {tv : Nat → Int32}
theorem rd_at {p : Nat} : (rd_H h r pl p a).1 r = some (.inr (.inr (6, [.ref pl, .int (nI p), .ref a]))) := xs_eq
theorem rd_p {p p' : Nat} {x : Int32} (hx : x = nI p') : xh_pI (rd_H h r pl p a) (some r) 6 1 x = some (rd_H h r pl p' a) := by
  rw [xo_pI rd_at (by exact (by decide : 1 < 3)), hx]
  exact congrArg some xs_ss
theorem rd_ne {p q : Nat} (z : q ≠ r) : (rd_H h r pl p a).1 q = h.1 q := xs_ne z
theorem r_isDigit {p : Nat} {lo : Int32} (o : XO h a sg hl sn tx (nI len)) (t : h.1 tx = some (.inl (1, 60, tv))) (ra : r ≠ a) (rt : r ≠ tx) (hl60 : len ≤ 60) (hp : p ≤ len) : f_X6_isDigit N (some r) lo (rd_H h r pl p a) = some (xb01 (decide (p < len ∧ (lo ≤ tv p ∧ tv p ≤ 57))), rd_H h r pl p a, 0, 0) := by
  have o' : (rd_H h r pl p a).1 a = some (.inr (.inr (0, [.ref sg, .ref hl, va_rf sn, .ref tx, .int (nI len)]))) := by rw [rd_ne ra.symm]; exact o
  have t' : (rd_H h r pl p a).1 tx = some (.inl (1, 60, tv)) := by rw [rd_ne rt.symm]; exact t
  unfold f_X6_isDigit f_X6_isDigit_b51
  rw [xo_gI rd_at (k := 1) rfl]
  simp only [Option.bind_some]
  rw [xo_gR (x := some a) rd_at (k := 2) rfl]
  simp only [Option.bind_some]
  rw [xo_gI o' (k := 4) rfl]
  simp only [Option.bind_some]
  rw [xo_gR (x := some tx) o' (k := 3) rfl]
  simp only [Option.bind_some]
  by_cases z : p < len
  · rw [if_neg (by rw [nI_leI (by omega) (by omega)]; omega), xo_ld t' (show p < 60 by omega) (by omega)]
    simp only [Option.bind_some]
    by_cases y : tv p < lo
    · rw [if_pos y, decide_eq_false (fun q => absurd y (Int32.not_lt.mpr q.2.1))]; rfl
    · rw [if_neg y]
      by_cases x : 57 < tv p
      · rw [if_pos x, decide_eq_false (fun q => absurd x (Int32.not_lt.mpr q.2.2))]; rfl
      · rw [if_neg x, decide_eq_true ⟨z, Int32.not_lt.mp y, Int32.not_lt.mp x⟩]; rfl
  · rw [if_pos (by rw [nI_leI (by omega) (by omega)]; omega), decide_eq_false (fun q => z q.1)]; rfl
theorem r_takes {p : Nat} {c : Int32} (o : XO h a sg hl sn tx (nI len)) (t : h.1 tx = some (.inl (1, 60, tv))) (ra : r ≠ a) (rt : r ≠ tx) (hl60 : len ≤ 60) (hp : p ≤ len) : f_X6_takes N (some r) c (rd_H h r pl p a) = some (xb01 (isCb tv len p c), rd_H h r pl (if isCb tv len p c then p + 1 else p) a, 0, 0) := by
  have o' : (rd_H h r pl p a).1 a = some (.inr (.inr (0, [.ref sg, .ref hl, va_rf sn, .ref tx, .int (nI len)]))) := by rw [rd_ne ra.symm]; exact o
  have t' : (rd_H h r pl p a).1 tx = some (.inl (1, 60, tv)) := by rw [rd_ne rt.symm]; exact t
  unfold f_X6_takes f_X6_takes_b34 f_X6_takes_b35 f_X6_takes_b50
  rw [xo_gI rd_at (k := 1) rfl]
  simp only [Option.bind_some]
  rw [xo_gR (x := some a) rd_at (k := 2) rfl]
  simp only [Option.bind_some]
  rw [xo_gI o' (k := 4) rfl]
  simp only [Option.bind_some]
  rw [xo_gR (x := some tx) o' (k := 3) rfl]
  simp only [Option.bind_some]
  rw [rd_p (p' := p + 1) nI_1]
  simp only [Option.bind_some]
  unfold isCb
  by_cases z : p < len
  · rw [if_neg (by rw [nI_leI (by omega) (by omega)]; omega), xo_ld t' (show p < 60 by omega) (by omega)]
    simp only [Option.bind_some]
    by_cases y : tv p = c
    · rw [if_pos y, decide_eq_true ⟨z, y⟩, if_neg (by decide), if_pos (Or.inr rfl)]; rfl
    · rw [if_neg y, decide_eq_false (fun q => y q.2), if_pos rfl, if_pos (Or.inl rfl)]; rfl
  · rw [if_pos (by rw [nI_leI (by omega) (by omega)]; omega), decide_eq_false (fun q => z q.1), if_pos rfl, if_pos (Or.inl rfl)]; rfl
end RD
