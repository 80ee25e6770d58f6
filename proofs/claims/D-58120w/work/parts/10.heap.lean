/-! THE PURE HEAP: cells by address, the next free address, the fixed addresses (0: the first that may be written; 1: ArrayList's empty array; 2, 3: LEAST, GREATEST; 4: the mirror of Object[]) -/
set_option maxRecDepth 100000
abbrev xh_E : Type := (Nat × Nat × (Nat → Int32)) ⊕ ((Nat × (Nat → Option Nat)) ⊕ (Nat × List Value))
abbrev xh_H : Type := (Nat → Option xh_E) × Nat × (Nat → Nat)
abbrev xh_D : Type := va_G × (Nat → ClassId)
/-- an answer, the heap behind it, the cells and the slots that were made -/
abbrev xh_R (ρ : Type) : Type := Option (ρ × xh_H × Nat × Nat)
abbrev xh_cl : List vw_C := [(RX0, TX0, 5), (RX1, TX1, 3), (RX2, TX2, 16), (RX3, TX3, 5), (RX4, TX4, 6), (RX5, TX5, 5), (RX6, TX6, 3), (RX7, TX7, 7), (RJ2, TJ2, 3), (RJ3, TJ3, 4)]
def xh_ty (D : xh_D) : List (ClassId × FieldType) := [(D.2 0, .int), (D.2 1, .char), (D.2 2, .object "java/lang/Object")]
def xh_to (D : xh_D) (e : xh_E) : va_E := match e with
  | .inl (k, n, f) => .inl (D.2 k, n, .inl f)
  | .inr (.inl (n, f)) => .inl (D.2 2, n, .inr (.inr (.inr (.inr f))))
  | .inr (.inr o) => .inr o
def xh_Rep (D : xh_D) (h : xh_H) (H : Heap) : Prop := H.size = h.2.1 ∧ ∀ (q : Nat) (e : xh_E), h.1 q = some e → h.2.2 0 ≤ q ∧ va_at D.1 xh_cl (q, xh_to D e) H
theorem xh_Rep.one {D : xh_D} {h : xh_H} {H : Heap} (hR : xh_Rep D h H) {a : Nat} {e : xh_E} (ha : h.1 a = some e) : va_P D.1 xh_cl [(a, xh_to D e)] H := by
  intro k q hk
  cases k with
  | zero => cases hk; exact (hR.2 a e ha).2
  | succ k => simp at hk
/-! what is done on it -/
def xh_set (h : xh_H) (a : Nat) (e : xh_E) : xh_H := (fun q => if q = a then some e else h.1 q, h.2)
def xh_push (h : xh_H) (e : xh_E) : xh_H := (fun q => if q = h.2.1 then some e else h.1 q, h.2.1 + 1, h.2.2)
def xh_ad {ρ : Type} (k n : Nat) (r : xh_R ρ) : xh_R ρ := match r with
  | none => none
  | some (x, h, a, b) => some (x, h, k + a, n + b)
def xh_cal {ρ ω : Type} (r : xh_R ρ) (F : ρ → xh_H → xh_R ω) : xh_R ω := match r with
  | none => none
  | some (x, h, a, b) => xh_ad a b (F x h)
/-- the fields of an object of class c -/
def xh_ob (h : xh_H) (r : Option Nat) (c : Nat) : Option (List Value) := match r with
  | none => none
  | some a => match h.1 a with
    | some (.inr (.inr (c', fs))) => if c' = c then some fs else none
    | _ => none
def xh_chk (h : xh_H) (r : Option Nat) (c : Nat) : Option Unit := (xh_ob h r c).map fun _ => ()
def xh_vI (v : Option Value) : Option Int32 := match v with
  | some (.int x) => some x
  | _ => none
def xh_vR (v : Option Value) : Option (Option Nat) := match v with
  | some .null => some none
  | some (.ref a) => some (some a)
  | _ => none
def xh_gI (h : xh_H) (r : Option Nat) (c k : Nat) : Option Int32 := (xh_ob h r c).bind fun fs => xh_vI fs[k]?
def xh_gR (h : xh_H) (r : Option Nat) (c k : Nat) : Option (Option Nat) := (xh_ob h r c).bind fun fs => xh_vR fs[k]?
def xh_pf (h : xh_H) (r : Option Nat) (c k : Nat) (v : Value) : Option xh_H := (xh_ob h r c).bind fun fs => if k < fs.length then r.map fun a => xh_set h a (.inr (.inr (c, fs.set k v))) else none
def xh_pI (h : xh_H) (r : Option Nat) (c k : Nat) (x : Int32) : Option xh_H := xh_pf h r c k (.int x)
def xh_pZ (h : xh_H) (r : Option Nat) (c k : Nat) (x : Int32) : Option xh_H := if x = 0 ∨ x = 1 then xh_pf h r c k (.int x) else none
def xh_pR (h : xh_H) (r : Option Nat) (c k : Nat) (x : Option Nat) : Option xh_H := xh_pf h r c k (va_rf x)
/-- arrays of ints (kind 0) and chars (kind 1) -/
def xh_ai (h : xh_H) (r : Option Nat) (k : Nat) : Option (Nat × (Nat → Int32)) := match r with
  | none => none
  | some a => match h.1 a with
    | some (.inl (k', n, f)) => if k' = k then some (n, f) else none
    | _ => none
def xh_aq (h : xh_H) (r : Option Nat) : Option (Nat × (Nat → Option Nat)) := match r with
  | none => none
  | some a => match h.1 a with
    | some (.inr (.inl (n, f))) => some (n, f)
    | _ => none
def xh_least (j : Nat) : Int32 := match j with
  | 0 => 2
  | 4 => 1
  | _ => 0
def xh_great (j : Nat) : Int32 := match j with
  | 0 => 64
  | 1 => 6
  | 2 => 8
  | 3 => 1
  | _ => 100
/-- the length of an array of ints -/
def xh_li (h : xh_H) (r : Option Nat) (k : Nat) : Option Int32 := (xh_ai h r k).map fun q => nI q.1
/-- the length of an array of references; the empty one of ArrayList is at the address 1 -/
def xh_lq (h : xh_H) (r : Option Nat) : Option Int32 := if r = some (h.2.2 1) then some 0 else (xh_aq h r).map fun q => nI q.1
def xh_ok (i : Int32) (n : Nat) : Prop := 0 ≤ i ∧ i.toNatClampNeg < n
theorem xh_ok_in {i : Int32} {n : Nat} (h : xh_ok i n) : vp_in i n := by
  intro q
  rcases q with q | q
  · exact absurd q (Int32.not_lt.mpr h.1)
  · exact absurd h.2 (Nat.not_lt.mpr q)
def xh_ld (h : xh_H) (r : Option Nat) (k : Nat) (i : Int32) : Option Int32 := (xh_ai h r k).bind fun q => if 0 ≤ i ∧ i.toNatClampNeg < q.1 then some (q.2 i.toNatClampNeg) else none
/-- a load from LEAST or GREATEST -/
def xh_ls (i : Int32) (f : Nat → Int32) : Option Int32 := if 0 ≤ i ∧ i.toNatClampNeg < 5 then some (f i.toNatClampNeg) else none
def xh_lr (h : xh_H) (r : Option Nat) (i : Int32) : Option (Option Nat) := (xh_aq h r).bind fun q => if 0 ≤ i ∧ i.toNatClampNeg < q.1 then some (q.2 i.toNatClampNeg) else none
def xh_sv (h : xh_H) (r : Option Nat) (k : Nat) (i x : Int32) : Option xh_H := (xh_ai h r k).bind fun q => if 0 ≤ i ∧ i.toNatClampNeg < q.1 then r.map fun a => xh_set h a (.inl (k, q.1, upd q.2 i.toNatClampNeg x)) else none
/-- what may be stored into an Object[]: null, a Song, a Plan, a Syllable -/
def xh_st (h : xh_H) (v : Option Nat) : Bool := match v with
  | none => true
  | some a => match h.1 a with
    | some (.inr (.inr (c, _))) => c == 1 || c == 3 || c == 5
    | _ => false
def xh_sr (h : xh_H) (r : Option Nat) (i : Int32) (v : Option Nat) : Option xh_H := (xh_aq h r).bind fun q => if (0 ≤ i ∧ i.toNatClampNeg < q.1) ∧ xh_st h v = true then r.map fun a => xh_set h a (.inr (.inl (q.1, va_up q.2 i.toNatClampNeg v))) else none
def xh_new {ρ : Type} (h : xh_H) (c : Nat) (fs : List Value) (F : Option Nat → xh_H → xh_R ρ) : xh_R ρ := xh_ad 1 fs.length (F (some h.2.1) (xh_push h (.inr (.inr (c, fs)))))
def xh_na {ρ : Type} (h : xh_H) (k : Nat) (n : Int32) (F : Option Nat → xh_H → xh_R ρ) : xh_R ρ := if 0 ≤ n ∧ n.toNatClampNeg ≤ 100000 then xh_ad 1 n.toNatClampNeg (F (some h.2.1) (xh_push h (.inl (k, n.toNatClampNeg, fun _ => 0)))) else none
def xh_nq {ρ : Type} (h : xh_H) (n : Int32) (F : Option Nat → xh_H → xh_R ρ) : xh_R ρ := if 0 ≤ n ∧ n.toNatClampNeg ≤ 100000 then xh_ad 1 n.toNatClampNeg (F (some h.2.1) (xh_push h (.inr (.inl (n.toNatClampNeg, fun _ => none))))) else none
def xh_cln {ρ : Type} (h : xh_H) (r : Option Nat) (F : Option Nat → xh_H → xh_R ρ) : xh_R ρ := (xh_ai h r 0).bind fun q => xh_ad 1 q.1 (F (some h.2.1) (xh_push h (.inl (0, q.1, q.2))))
/-- System.arraycopy over arrays of references -/
def xh_cpy (h : xh_H) (r : Option Nat) (sp : Int32) (t : Option Nat) (dp n : Int32) : Option xh_H := (xh_aq h r).bind fun q => (xh_aq h t).bind fun w =>
  if (0 ≤ sp ∧ 0 ≤ dp ∧ 0 ≤ n) ∧ (sp.toNatClampNeg + n.toNatClampNeg ≤ q.1 ∧ dp.toNatClampNeg + n.toNatClampNeg ≤ w.1) ∧ (List.range n.toNatClampNeg).all (fun i => xh_st h (q.2 (sp.toNatClampNeg + i))) = true then
    t.map fun a => xh_set h a (.inr (.inl (w.1, va_cpy q.2 w.2 sp.toNatClampNeg dp.toNatClampNeg n.toNatClampNeg))) else none
/-- a cast of an object to class c -/
def xh_cc (h : xh_H) (r : Option Nat) (c : Nat) : Option Unit := if r = none then some () else xh_chk h r c
/-- a cast to int[], to Object[] -/
def xh_ca (h : xh_H) (r : Option Nat) : Option Unit := (xh_ai h r 0).map fun _ => ()
def xh_cb (h : xh_H) (r : Option Nat) : Option Unit := (xh_aq h r).map fun _ => ()
/-! what holds of the tables and the old cells in a state; g: the fixed addresses -/
def xh_nwF : List (String × Nat × String × String × String × String) := [("java/util/ArrayList$Itr", 28, "java/util/ArrayList", "size", "I", "java/util/ArrayList"), ("SungSlides", 74, "SungSlides$Song", "syllables", "Ljava/util/List;", "SungSlides"), ("SungSlides", 50, "SungSlides$Song", "sung", "[I", "SungSlides"), ("SungSlides", 138, "SungSlides$Song", "settings", "[I", "SungSlides"), ("SungSlides", 85, "SungSlides$Syllable", "begin", "I", "SungSlides"), ("SungSlides", 195, "SungSlides$Syllable", "length", "I", "SungSlides"), ("SungSlides", 196, "SungSlides$Syllable", "pitch", "I", "SungSlides"), ("SungSlides", 199, "SungSlides$Syllable", "endPitch", "I", "SungSlides"), ("SungSlides", 202, "SungSlides$Syllable", "phrase", "I", "SungSlides"), ("SungSlides", 109, "SungSlides$Reader", "plans", "Ljava/util/List;", "SungSlides"), ("SungSlides", 177, "SungSlides$Judge", "matching", "[I", "SungSlides"), ("SungSlides", 183, "SungSlides$Judge", "onsets", "[I", "SungSlides"), ("SungSlides", 186, "SungSlides$Judge", "reasons", "[I", "SungSlides"), ("SungSlides", 192, "SungSlides$Judge", "rows", "[I", "SungSlides"), ("SungSlides", 189, "SungSlides$Judge", "points", "[I", "SungSlides"), ("SungSlides$Song", 76, "SungSlides$Plan", "rest", "I", "SungSlides"), ("SungSlides$Song", 94, "SungSlides$Plan", "pitch", "I", "SungSlides"), ("SungSlides$Song", 97, "SungSlides$Plan", "endPitch", "I", "SungSlides"), ("SungSlides$Song", 81, "SungSlides$Plan", "length", "I", "SungSlides"), ("SungSlides$Song", 87, "SungSlides$Plan", "isFirst", "Z", "SungSlides"), ("SungSlides$Song", 103, "SungSlides$Syllable", "begin", "I", "SungSlides"), ("SungSlides$Song", 71, "SungSlides$Syllable", "phrase", "I", "SungSlides"), ("SungSlides$Reader", 29, "SungSlides", "text", "[C", "SungSlides"), ("SungSlides$Reader", 26, "SungSlides", "length", "I", "SungSlides"), ("SungSlides$Judge", 65, "SungSlides$Song", "syllables", "Ljava/util/List;", "SungSlides"), ("SungSlides$Judge", 49, "SungSlides$Song", "settings", "[I", "SungSlides"), ("SungSlides$Judge", 58, "SungSlides$Syllable", "begin", "I", "SungSlides"), ("SungSlides$Judge", 75, "SungSlides$Syllable", "length", "I", "SungSlides"), ("SungSlides$Judge", 97, "SungSlides$Syllable", "phrase", "I", "SungSlides")]
theorem xn_q108 : ("java/util/ArrayList$Itr", 28, "java/util/ArrayList", "size", "I", "java/util/ArrayList") ∈ xh_nwF := List.mem_of_getElem? (i := 0) rfl
theorem xn_q124 : ("SungSlides", 74, "SungSlides$Song", "syllables", "Ljava/util/List;", "SungSlides") ∈ xh_nwF := List.mem_of_getElem? (i := 1) rfl
theorem xn_q126 : ("SungSlides", 50, "SungSlides$Song", "sung", "[I", "SungSlides") ∈ xh_nwF := List.mem_of_getElem? (i := 2) rfl
theorem xn_q129 : ("SungSlides", 138, "SungSlides$Song", "settings", "[I", "SungSlides") ∈ xh_nwF := List.mem_of_getElem? (i := 3) rfl
theorem xn_q448 : ("SungSlides", 85, "SungSlides$Syllable", "begin", "I", "SungSlides") ∈ xh_nwF := List.mem_of_getElem? (i := 4) rfl
theorem xn_q452 : ("SungSlides", 195, "SungSlides$Syllable", "length", "I", "SungSlides") ∈ xh_nwF := List.mem_of_getElem? (i := 5) rfl
theorem xn_q454 : ("SungSlides", 196, "SungSlides$Syllable", "pitch", "I", "SungSlides") ∈ xh_nwF := List.mem_of_getElem? (i := 6) rfl
theorem xn_q456 : ("SungSlides", 199, "SungSlides$Syllable", "endPitch", "I", "SungSlides") ∈ xh_nwF := List.mem_of_getElem? (i := 7) rfl
theorem xn_q460 : ("SungSlides", 202, "SungSlides$Syllable", "phrase", "I", "SungSlides") ∈ xh_nwF := List.mem_of_getElem? (i := 8) rfl
theorem xn_q517 : ("SungSlides", 109, "SungSlides$Reader", "plans", "Ljava/util/List;", "SungSlides") ∈ xh_nwF := List.mem_of_getElem? (i := 9) rfl
theorem xn_q603 : ("SungSlides", 177, "SungSlides$Judge", "matching", "[I", "SungSlides") ∈ xh_nwF := List.mem_of_getElem? (i := 10) rfl
theorem xn_q605 : ("SungSlides", 183, "SungSlides$Judge", "onsets", "[I", "SungSlides") ∈ xh_nwF := List.mem_of_getElem? (i := 11) rfl
theorem xn_q607 : ("SungSlides", 186, "SungSlides$Judge", "reasons", "[I", "SungSlides") ∈ xh_nwF := List.mem_of_getElem? (i := 12) rfl
theorem xn_q609 : ("SungSlides", 192, "SungSlides$Judge", "rows", "[I", "SungSlides") ∈ xh_nwF := List.mem_of_getElem? (i := 13) rfl
theorem xn_q611 : ("SungSlides", 189, "SungSlides$Judge", "points", "[I", "SungSlides") ∈ xh_nwF := List.mem_of_getElem? (i := 14) rfl
theorem xn_q170 : ("SungSlides$Song", 76, "SungSlides$Plan", "rest", "I", "SungSlides") ∈ xh_nwF := List.mem_of_getElem? (i := 15) rfl
theorem xn_q172 : ("SungSlides$Song", 94, "SungSlides$Plan", "pitch", "I", "SungSlides") ∈ xh_nwF := List.mem_of_getElem? (i := 16) rfl
theorem xn_q174 : ("SungSlides$Song", 97, "SungSlides$Plan", "endPitch", "I", "SungSlides") ∈ xh_nwF := List.mem_of_getElem? (i := 17) rfl
theorem xn_q176 : ("SungSlides$Song", 81, "SungSlides$Plan", "length", "I", "SungSlides") ∈ xh_nwF := List.mem_of_getElem? (i := 18) rfl
theorem xn_q178 : ("SungSlides$Song", 87, "SungSlides$Plan", "isFirst", "Z", "SungSlides") ∈ xh_nwF := List.mem_of_getElem? (i := 19) rfl
theorem xn_q449 : ("SungSlides$Song", 103, "SungSlides$Syllable", "begin", "I", "SungSlides") ∈ xh_nwF := List.mem_of_getElem? (i := 20) rfl
theorem xn_q458 : ("SungSlides$Song", 71, "SungSlides$Syllable", "phrase", "I", "SungSlides") ∈ xh_nwF := List.mem_of_getElem? (i := 21) rfl
theorem xn_q142 : ("SungSlides$Reader", 29, "SungSlides", "text", "[C", "SungSlides") ∈ xh_nwF := List.mem_of_getElem? (i := 22) rfl
theorem xn_q144 : ("SungSlides$Reader", 26, "SungSlides", "length", "I", "SungSlides") ∈ xh_nwF := List.mem_of_getElem? (i := 23) rfl
theorem xn_q123 : ("SungSlides$Judge", 65, "SungSlides$Song", "syllables", "Ljava/util/List;", "SungSlides") ∈ xh_nwF := List.mem_of_getElem? (i := 24) rfl
theorem xn_q128 : ("SungSlides$Judge", 49, "SungSlides$Song", "settings", "[I", "SungSlides") ∈ xh_nwF := List.mem_of_getElem? (i := 25) rfl
theorem xn_q447 : ("SungSlides$Judge", 58, "SungSlides$Syllable", "begin", "I", "SungSlides") ∈ xh_nwF := List.mem_of_getElem? (i := 26) rfl
theorem xn_q451 : ("SungSlides$Judge", 75, "SungSlides$Syllable", "length", "I", "SungSlides") ∈ xh_nwF := List.mem_of_getElem? (i := 27) rfl
theorem xn_q459 : ("SungSlides$Judge", 97, "SungSlides$Syllable", "phrase", "I", "SungSlides") ∈ xh_nwF := List.mem_of_getElem? (i := 28) rfl
def xh_nwM : List (String × Nat × MethodName × String) := [("SungSlides", 100, ⟨"SungSlides$Reader", "<init>", "(LSungSlides;)V"⟩, "SungSlides"), ("SungSlides", 236, ⟨"SungSlides$Judge", "isOnset", "(I)Z"⟩, "SungSlides"), ("SungSlides$Song", 86, ⟨"SungSlides$NoRoom", "<init>", "()V"⟩, "SungSlides"), ("SungSlides$Song", 106, ⟨"SungSlides", "isBetween", "(III)Z"⟩, "SungSlides"), ("SungSlides$Plan", 28, ⟨"SungSlides", "isBetween", "(III)Z"⟩, "SungSlides"), ("SungSlides$Plan", 32, ⟨"SungSlides", "isPitch", "(I)Z"⟩, "SungSlides"), ("SungSlides$Judge", 31, ⟨"SungSlides", "isTick", "(I)Z"⟩, "SungSlides")]
theorem xn_q510 : ("SungSlides", 100, (⟨"SungSlides$Reader", "<init>", "(LSungSlides;)V"⟩ : MethodName), "SungSlides") ∈ xh_nwM := List.mem_of_getElem? (i := 0) rfl
theorem xn_q780 : ("SungSlides", 236, (⟨"SungSlides$Judge", "isOnset", "(I)Z"⟩ : MethodName), "SungSlides") ∈ xh_nwM := List.mem_of_getElem? (i := 1) rfl
theorem xn_q418 : ("SungSlides$Song", 86, (⟨"SungSlides$NoRoom", "<init>", "()V"⟩ : MethodName), "SungSlides") ∈ xh_nwM := List.mem_of_getElem? (i := 2) rfl
theorem xn_q731 : ("SungSlides$Song", 106, (⟨"SungSlides", "isBetween", "(III)Z"⟩ : MethodName), "SungSlides") ∈ xh_nwM := List.mem_of_getElem? (i := 3) rfl
theorem xn_q194 : ("SungSlides$Plan", 28, (⟨"SungSlides", "isBetween", "(III)Z"⟩ : MethodName), "SungSlides") ∈ xh_nwM := List.mem_of_getElem? (i := 4) rfl
theorem xn_q197 : ("SungSlides$Plan", 32, (⟨"SungSlides", "isPitch", "(I)Z"⟩ : MethodName), "SungSlides") ∈ xh_nwM := List.mem_of_getElem? (i := 5) rfl
theorem xn_q661 : ("SungSlides$Judge", 31, (⟨"SungSlides", "isTick", "(I)Z"⟩ : MethodName), "SungSlides") ∈ xh_nwM := List.mem_of_getElem? (i := 6) rfl
def xh_nwC : List (String × String) := [("SungSlides$Song", "java/lang/Object"), ("SungSlides$Plan", "java/lang/Object"), ("SungSlides$Syllable", "java/lang/Object"), ("[I", "java/lang/Cloneable")]
theorem xn_q1111 : ("SungSlides$Song", "java/lang/Object") ∈ xh_nwC := List.mem_of_getElem? (i := 0) rfl
theorem xn_q1114 : ("SungSlides$Plan", "java/lang/Object") ∈ xh_nwC := List.mem_of_getElem? (i := 1) rfl
theorem xn_q1117 : ("SungSlides$Syllable", "java/lang/Object") ∈ xh_nwC := List.mem_of_getElem? (i := 2) rfl
theorem xn_q211 : ("[I", "java/lang/Cloneable") ∈ xh_nwC := List.mem_of_getElem? (i := 3) rfl
def xh_nwI : List (String × MethodName × MethodName) := [("java/util/ArrayList$Itr", ⟨"java/util/Iterator", "hasNext", "()Z"⟩, ⟨"java/util/ArrayList$Itr", "hasNext", "()Z"⟩), ("java/util/ArrayList$Itr", ⟨"java/util/Iterator", "next", "()Ljava/lang/Object;"⟩, ⟨"java/util/ArrayList$Itr", "next", "()Ljava/lang/Object;"⟩), ("java/util/ArrayList", ⟨"java/util/List", "iterator", "()Ljava/util/Iterator;"⟩, ⟨"java/util/ArrayList", "iterator", "()Ljava/util/Iterator;"⟩), ("java/util/ArrayList", ⟨"java/util/List", "add", "(Ljava/lang/Object;)Z"⟩, ⟨"java/util/ArrayList", "add", "(Ljava/lang/Object;)Z"⟩), ("java/util/ArrayList", ⟨"java/util/List", "isEmpty", "()Z"⟩, ⟨"java/util/ArrayList", "isEmpty", "()Z"⟩), ("java/util/ArrayList", ⟨"java/util/List", "size", "()I"⟩, ⟨"java/util/ArrayList", "size", "()I"⟩), ("java/util/ArrayList", ⟨"java/util/List", "get", "(I)Ljava/lang/Object;"⟩, ⟨"java/util/ArrayList", "get", "(I)Ljava/lang/Object;"⟩), ("java/util/ArrayList", ⟨"java/util/List", "remove", "(I)Ljava/lang/Object;"⟩, ⟨"java/util/ArrayList", "remove", "(I)Ljava/lang/Object;"⟩), ("java/util/ArrayList", ⟨"java/util/List", "clear", "()V"⟩, ⟨"java/util/ArrayList", "clear", "()V"⟩)]
theorem xn_i0 : ("java/util/ArrayList$Itr", (⟨"java/util/Iterator", "hasNext", "()Z"⟩ : MethodName), (⟨"java/util/ArrayList$Itr", "hasNext", "()Z"⟩ : MethodName)) ∈ xh_nwI := List.mem_of_getElem? (i := 0) rfl
theorem xn_i1 : ("java/util/ArrayList$Itr", (⟨"java/util/Iterator", "next", "()Ljava/lang/Object;"⟩ : MethodName), (⟨"java/util/ArrayList$Itr", "next", "()Ljava/lang/Object;"⟩ : MethodName)) ∈ xh_nwI := List.mem_of_getElem? (i := 1) rfl
theorem xn_i2 : ("java/util/ArrayList", (⟨"java/util/List", "iterator", "()Ljava/util/Iterator;"⟩ : MethodName), (⟨"java/util/ArrayList", "iterator", "()Ljava/util/Iterator;"⟩ : MethodName)) ∈ xh_nwI := List.mem_of_getElem? (i := 2) rfl
theorem xn_i3 : ("java/util/ArrayList", (⟨"java/util/List", "add", "(Ljava/lang/Object;)Z"⟩ : MethodName), (⟨"java/util/ArrayList", "add", "(Ljava/lang/Object;)Z"⟩ : MethodName)) ∈ xh_nwI := List.mem_of_getElem? (i := 3) rfl
theorem xn_i4 : ("java/util/ArrayList", (⟨"java/util/List", "isEmpty", "()Z"⟩ : MethodName), (⟨"java/util/ArrayList", "isEmpty", "()Z"⟩ : MethodName)) ∈ xh_nwI := List.mem_of_getElem? (i := 4) rfl
theorem xn_i5 : ("java/util/ArrayList", (⟨"java/util/List", "size", "()I"⟩ : MethodName), (⟨"java/util/ArrayList", "size", "()I"⟩ : MethodName)) ∈ xh_nwI := List.mem_of_getElem? (i := 5) rfl
theorem xn_i6 : ("java/util/ArrayList", (⟨"java/util/List", "get", "(I)Ljava/lang/Object;"⟩ : MethodName), (⟨"java/util/ArrayList", "get", "(I)Ljava/lang/Object;"⟩ : MethodName)) ∈ xh_nwI := List.mem_of_getElem? (i := 6) rfl
theorem xn_i7 : ("java/util/ArrayList", (⟨"java/util/List", "remove", "(I)Ljava/lang/Object;"⟩ : MethodName), (⟨"java/util/ArrayList", "remove", "(I)Ljava/lang/Object;"⟩ : MethodName)) ∈ xh_nwI := List.mem_of_getElem? (i := 7) rfl
theorem xn_i8 : ("java/util/ArrayList", (⟨"java/util/List", "clear", "()V"⟩ : MethodName), (⟨"java/util/ArrayList", "clear", "()V"⟩ : MethodName)) ∈ xh_nwI := List.mem_of_getElem? (i := 8) rfl
abbrev xh_A (g : Nat → Nat) : Nat → Prop := fun q => g 0 ≤ q
def xh_Z (g : Nat → Nat) (U : State) : Prop := g 0 ≤ U.heap.size ∧
  va_Z "java/util/ArrayList" "DEFAULTCAPACITY_EMPTY_ELEMENTDATA" "[Ljava/lang/Object;" (.ref (g 1)) (xh_A g) U U.heap ∧ va_T (.object "java/lang/Object") (g 1) 0 (fun _ => .null) (xh_A g) U U.heap ∧
  va_Z "SungSlides" "LEAST" "[I" (.ref (g 2)) (xh_A g) U U.heap ∧ va_T .int (g 2) 5 (fun j => .int (xh_least j)) (xh_A g) U U.heap ∧
  va_Z "SungSlides" "GREATEST" "[I" (.ref (g 3)) (xh_A g) U U.heap ∧ va_T .int (g 3) 5 (fun j => .int (xh_great j)) (xh_A g) U U.heap ∧
  va_Zq "java/lang/Throwable" "UNASSIGNED_STACK" "[Ljava/lang/StackTraceElement;" (xh_A g) U U.heap ∧ va_Zq "java/lang/Throwable" "SUPPRESSED_SENTINEL" "Ljava/util/List;" (xh_A g) U U.heap
def xh_K (D : xh_D) (g : Nat → Nat) (U : State) : Prop :=
  va_K D.1 xh_cl (xh_ty D) U ∧ (∀ q ∈ xh_nwF, va_Nw (.fieldLinkNest q.1 q.2.1 q.2.2.1 q.2.2.2.1 q.2.2.2.2.1 q.2.2.2.2.2) U) ∧ (∀ q ∈ xh_nwM, va_Nw (.methodLinkNest q.1 q.2.1 q.2.2.1 q.2.2.2) U) ∧
  (∀ q ∈ xh_nwC, va_Nw (.castable q.1 q.2) U) ∧ va_AO "java/lang/Object" U ∧ (∀ q ∈ xh_nwI, va_Fw q.1 q.2.1 q.2.2 U) ∧ va_Mi "[Ljava/lang/Object;" (g 4) U ∧ va_Dc U ∧ xh_Z g U
theorem xh_nwI_ok : ∀ q ∈ xh_nwI, q.2.1.cls ≠ "java/lang/invoke/MethodHandle" ∧ q.2.1.cls ≠ "java/lang/invoke/VarHandle" := by decide +kernel
theorem xh_Z.blind {g : Nat → Nat} {u U : State} (h1 : u.vm.Alike U.vm) (h2 : U.heap = u.heap) (h : xh_Z g u) : xh_Z g U := by
  obtain ⟨a0, a1, a2, a3, a4, a5, a6, a7, a8⟩ := h
  refine ⟨by rw [h2]; exact a0, ?_, ?_, ?_, ?_, ?_, ?_, ?_, ?_⟩ <;> rw [h2]
  · exact a1.moved h1
  · exact a2.moved h1
  · exact a3.moved h1
  · exact a4.moved h1
  · exact a5.moved h1
  · exact a6.moved h1
  · exact a7.moved h1
  · exact a8.moved h1
theorem xh_Z.next {g : Nat → Nat} {s U : State} {H : Heap} {locs : List Loc} (hS : va_S (xh_A g) s.heap H locs) (h1 : s.vm.Alike U.vm) (h2 : U.heap = H) (h : xh_Z g s) : xh_Z g U := by
  obtain ⟨a0, a1, a2, a3, a4, a5, a6, a7, a8⟩ := h
  have k : ∀ a : Nat, a < s.heap.size → ¬ xh_A g a → H[a]? = s.heap[a]? := fun a x y => hS.2.1 a x y
  refine ⟨by rw [h2]; exact Nat.le_trans a0 hS.1, ?_, ?_, ?_, ?_, ?_, ?_, ?_, ?_⟩ <;> rw [h2]
  · exact (a1.moved h1).kept k
  · exact (a2.moved h1).kept k
  · exact (a3.moved h1).kept k
  · exact (a4.moved h1).kept k
  · exact (a5.moved h1).kept k
  · exact (a6.moved h1).kept k
  · exact (a7.moved h1).kept k
  · exact (a8.moved h1).kept k
theorem xh_K.blind {D : xh_D} {g : Nat → Nat} {U : State} (h : xh_K D g U) (f : JFrame) (mk : MethodId) (a : Array Value) : xh_K D g (U.calling f mk a) := by
  obtain ⟨a0, a1, a2, a3, a4, a5, a6, a7, a8⟩ := h
  have e : U.vm.Alike (U.calling f mk a).vm := Vm.Alike.refl U.vm
  exact ⟨a0.moved e, fun q hq => (a1 q hq).same rfl rfl, fun q hq => (a2 q hq).same rfl rfl, fun q hq => (a3 q hq).same rfl rfl, a4.moved e, fun q hq => (a5 q hq).moved (xh_nwI_ok q hq) e, a6.moved e, a7.moved e, a8.blind e rfl⟩
theorem xh_K.next {D : xh_D} {g : Nat → Nat} {s U : State} {H : Heap} {locs : List Loc} (h : xh_K D g s) (hS : va_S (xh_A g) s.heap H locs) (hW : s.WarmedH U.vm) (h2 : U.heap = H) : xh_K D g U := by
  obtain ⟨a0, a1, a2, a3, a4, a5, a6, a7, a8⟩ := h
  have e : s.vm.Alike U.vm := hW.alike
  exact ⟨a0.moved e, fun q hq => (a1 q hq).warmF hW, fun q hq => (a2 q hq).warmM hW, fun q hq => (a3 q hq).warmC hW, a4.moved e, fun q hq => (a5 q hq).moved (xh_nwI_ok q hq) e, a6.moved e, a7.moved e, a8.next hS e h2⟩
/-- a state of a walk: the heap of the machine holds the pure heap, nothing old was written, the room -/
def xh_T (D : xh_D) (g : Nat → Nat) (s : State) (R : Room) (h : xh_H) (H : Heap) (locs : List Loc) (cells slots kc ks : Nat) : Prop :=
  h.2.2 = g ∧ xh_Rep D h H ∧ va_S (xh_A g) s.heap H locs ∧ g 0 ≤ s.heap.size ∧ cells + kc = R.cells ∧ slots + ks = R.slots
theorem xh_T.put {D : xh_D} {g : Nat → Nat} {s : State} {R : Room} {h : xh_H} {H H1 : Heap} {locs : List Loc} {cells slots kc ks a k : Nat} {e0 e : xh_E} (hT : xh_T D g s R h H locs cells slots kc ks) (ha : h.1 a = some e0) (he : va_at D.1 xh_cl (a, xh_to D e) H1) (z : H1.size = H.size) (oq : ∀ q : Nat, q ≠ a → H1[q]? = H[q]?) : xh_T D g s R (xh_set h a e) H1 (locs ++ [⟨a, k⟩]) cells slots kc ks := by
  obtain ⟨t1, ⟨t2, t3⟩, t4, t5, t6⟩ := hT
  refine ⟨t1, ⟨z.trans t2, fun q x hx => ?_⟩, t4.put z oq (by have := (t3 a e0 ha).1; rw [t1] at this; exact this), t5, t6⟩
  by_cases hq : q = a
  · subst hq
    have hx2 : (if q = q then some e else h.1 q) = some x := hx
    rw [if_pos rfl] at hx2
    cases hx2
    exact ⟨(t3 q e0 ha).1, he⟩
  · have hx2 : (if q = a then some e else h.1 q) = some x := hx
    rw [if_neg hq] at hx2
    exact ⟨(t3 q x hx2).1, (t3 q x hx2).2.kept (oq q hq)⟩
theorem xh_T.push {D : xh_D} {g : Nat → Nat} {s : State} {R : Room} {h : xh_H} {H H1 : Heap} {locs : List Loc} {cells slots kc ks n : Nat} {e : xh_E} (hT : xh_T D g s R h H locs cells slots (1 + kc) (n + ks)) (he : va_at D.1 xh_cl (H.size, xh_to D e) H1) (z : H1.size = H.size + 1) (oq : ∀ q : Nat, q < H.size → H1[q]? = H[q]?) : xh_T D g s R (xh_push h e) H1 locs (cells + 1) (slots + n) kc ks := by
  obtain ⟨t1, ⟨t2, t3⟩, t4, t5, t6, t7⟩ := hT
  have hb : g 0 ≤ H.size := Nat.le_trans t5 t4.1
  refine ⟨t1, ⟨by show H1.size = h.2.1 + 1; rw [z, t2], fun q x hx => ?_⟩, ⟨Nat.le_trans t4.1 (by omega), fun q h1 h2 => (oq q (Nat.lt_of_lt_of_le h1 t4.1)).trans (t4.2.1 q h1 h2), t4.2.2⟩, t5, by omega, by omega⟩
  by_cases hq : q = h.2.1
  · subst hq
    have hx2 : (if h.2.1 = h.2.1 then some e else h.1 h.2.1) = some x := hx
    rw [if_pos rfl] at hx2
    cases hx2
    refine ⟨?_, ?_⟩
    · show h.2.2 0 ≤ _
      rw [t1, ← t2]; exact hb
    · rw [← t2]; exact he
  · have hx2 : (if q = h.2.1 then some e else h.1 q) = some x := hx
    rw [if_neg hq] at hx2
    exact ⟨(t3 q x hx2).1, (t3 q x hx2).2.kept (oq q (t3 q x hx2).2.lt)⟩
/-- what stands all through a method: the code, the tables' words, xh_K -/
def xh_C (cc : ByteArray) (nL : Nat) (own : String) (D : xh_D) (g : Nat → Nat) (p : Program) (s : State) (m : MethodId) (args : Array Value) (meth : Method) (c : Code) : Prop :=
  p.tables.exec = Jvm.exec ∧ c.code = cc ∧ c.maxLocals = nL ∧ s.vm.findClass own = some m.cls ∧ (∀ w ∈ lw_all, w.before args s = true) ∧ xh_K D g s ∧ meth.locks = false
/-- the locals, each of one slot -/
def xh_L (ls : Array Slot) (nL : Nat) (l : List (Nat × Value)) : Prop := lv_has ls nL l ∧ ∀ q ∈ l, q.2.category = 1
theorem va_rf_cat (r : Option Nat) : (va_rf r).category = 1 := by cases r <;> rfl
theorem xh_L.at {ls : Array Slot} {nL : Nat} {l : List (Nat × Value)} (h : xh_L ls nL l) (k : Nat) {i : Nat} {v : Value} (hk : l[k]? = some (i, v)) : ls[i]? = some (.val v) := lv_at h.1 k hk
theorem xh_L.sub {ls : Array Slot} {nL : Nat} {l l' : List (Nat × Value)} (h : xh_L ls nL l) (ks : List Nat) (hl : lv_pick l ks = l') : xh_L ls nL l' := by
  refine ⟨lv_sub h.1 ks hl, fun q hq => ?_⟩
  rw [← hl] at hq
  obtain ⟨k, -, hk⟩ := List.mem_filterMap.mp hq
  exact h.2 q (List.mem_of_getElem? hk)
theorem xh_L.put {ls ls' : Array Slot} {nL : Nat} {l l' : List (Nat × Value)} {i : Nat} {v : Value} (h : xh_L ls nL l) (hv : v.category = 1) (h' : lv_has ls' nL ((i, v) :: l.filter (fun q => !(q.1 == i) && !(q.1 + 1 == i && q.2.category == 2)))) (hl : (i, v) :: l.filter (fun q => !(q.1 == i)) = l') : xh_L ls' nL l' := by
  subst hl
  refine ⟨⟨h'.1, h'.2.1, fun q hq => ?_⟩, fun q hq => ?_⟩
  · rcases List.mem_cons.mp hq with e | e
    · subst e
      exact h'.2.2 _ List.mem_cons_self
    · obtain ⟨e1, e2⟩ := List.mem_filter.mp e
      refine h'.2.2 q (List.mem_cons_of_mem _ (List.mem_filter.mpr ⟨e1, ?_⟩))
      have e3 := h.2 q e1
      simp only [e3] at e2 ⊢
      simpa using e2
  · rcases List.mem_cons.mp hq with e | e
    · subst e
      exact hv
    · exact h.2 q (List.mem_filter.mp e).1
def xh_en : Nat → List Value → List (Nat × Value)
  | _, [] => []
  | n, v :: vs => (n, v) :: xh_en (n + 1) vs
theorem xh_en_args : ∀ (vs : List Value) (n : Nat), (∀ v ∈ vs, v.category = 1) → lv_args n vs = xh_en n vs
  | [], _, _ => rfl
  | v :: vs, n, h => by
    have h1 := h v List.mem_cons_self
    show (n, v) :: lv_args (if v.category = 2 then n + 2 else n + 1) vs = (n, v) :: xh_en (n + 1) vs
    rw [if_neg (by omega), xh_en_args vs (n + 1) fun w hw => h w (List.mem_cons_of_mem _ hw)]
theorem xh_en_mem : ∀ (vs : List Value) (n : Nat) (q : Nat × Value), q ∈ xh_en n vs → q.2 ∈ vs
  | [], _, q, h => by cases h
  | v :: vs, n, q, h => by
    rcases List.mem_cons.mp h with e | e
    · subst e
      exact List.mem_cons_self
    · exact List.mem_cons_of_mem _ (xh_en_mem vs (n + 1) q e)
theorem xh_sl_len : ∀ (vs : List Value), (∀ v ∈ vs, v.category = 1) → (lg_sl vs).length = vs.length
  | [], _ => rfl
  | v :: vs, h => by
    have h1 := h v List.mem_cons_self
    have h2 := xh_sl_len vs fun w hw => h w (List.mem_cons_of_mem _ hw)
    unfold lg_sl at h2 ⊢
    rw [List.flatMap_cons, if_neg (by omega), List.length_append, h2]
    simp; omega
theorem xh_entry (m : MethodId) (vs : List Value) (n : Nat) (hv : ∀ v ∈ vs, v.category = 1) (hn : vs.length ≤ n) : ∃ ls : Array Slot, entryFrame m vs.toArray n = F0 m 0 ls [] ∧ xh_L ls n (xh_en 0 vs) := by
  have h := lv_entry vs (n := n) (by rw [xh_sl_len vs hv]; exact hn)
  rw [xh_en_args vs 0 hv] at h
  exact ⟨_, lg_entry_eq m vs n, h, fun q hq => hv _ (xh_en_mem vs 0 q hq)⟩
/-- a class of the list: its number, its fields' words -/
def xh_F (ci : Nat) (C : String) (T : u_T) (N : Nat) (ty : Nat → FieldType) : Prop := xh_cl[ci]? = some (C, T, N) ∧ (∀ w ∈ u_ws C T N, w ∈ lw_all) ∧ (∀ k, k < N → parseFieldDescriptor (T k).2.2.1 = some (ty k)) ∧ ∀ a, a < N → ∀ b, b < N → a ≠ b → (T a).2.1 ≠ (T b).2.1
theorem xf_X0 : xh_F 0 RX0 TX0 5 tyX0 := ⟨rfl, in_X0, tyX0_ok, nmX0⟩
theorem xf_X1 : xh_F 1 RX1 TX1 3 tyX1 := ⟨rfl, in_X1, tyX1_ok, nmX1⟩
theorem xf_X2 : xh_F 2 RX2 TX2 16 tyX2 := ⟨rfl, in_X2, tyX2_ok, nmX2⟩
theorem xf_X3 : xh_F 3 RX3 TX3 5 tyX3 := ⟨rfl, in_X3, tyX3_ok, nmX3⟩
theorem xf_X4 : xh_F 4 RX4 TX4 6 tyX4 := ⟨rfl, in_X4, tyX4_ok, nmX4⟩
theorem xf_X5 : xh_F 5 RX5 TX5 5 tyX5 := ⟨rfl, in_X5, tyX5_ok, nmX5⟩
theorem xf_X6 : xh_F 6 RX6 TX6 3 tyX6 := ⟨rfl, in_X6, tyX6_ok, nmX6⟩
theorem xf_X7 : xh_F 7 RX7 TX7 7 tyX7 := ⟨rfl, in_X7, tyX7_ok, nmX7⟩
theorem xf_J2 : xh_F 8 RJ2 TJ2 3 tyJ2 := ⟨rfl, in_J2, tyJ2_ok, nmJ2⟩
theorem xf_J3 : xh_F 9 RJ3 TJ3 4 tyJ3 := ⟨rfl, in_J3, tyJ3_ok, nmJ3⟩
