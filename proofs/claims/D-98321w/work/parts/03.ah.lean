/-! THE ABSTRACT HEAP (AH): cells of (tag, length, ints, refs) -/
set_option maxRecDepth 100000
/-- a cell: its tag (class or kind of array), its length, its whole numbers, its references -/
abbrev ax_C : Type := Nat × Nat × (Nat → Int) × (Nat → Option Nat)
/-- a heap: its size, the slots used, the cells -/
abbrev ax_H : Type := Nat × Nat × (Nat → Option ax_C)
/-- what the pure functions are told: the bounds on size and slots, the cells that nobody writes, the addresses of constants -/
abbrev ax_E : Type := (Nat × Nat) × (Nat → Option ax_C) × (Nat → Nat)
abbrev ax_G : Type := va_G × State × ax_E
abbrev ax_O : Type := String × u_T × Nat × (Nat → FieldType)
/-! numbers -/
def i2 (a : Int) : Int := a.bmod 4294967296
def l2 (a : Int) : Int := a.bmod 18446744073709551616
def b2 (a : Int) : Int := a.bmod 256
def ax_and (a b : Int) : Int := (Int32.ofInt a &&& Int32.ofInt b).toInt
def ax_or (a b : Int) : Int := (Int32.ofInt a ||| Int32.ofInt b).toInt
def ax_xor (a b : Int) : Int := (Int32.ofInt a ^^^ Int32.ofInt b).toInt
def ax_shl (a b : Int) : Int := (Int32.ofInt a <<< (Int32.ofInt b &&& 31)).toInt
def ax_shr (a b : Int) : Int := (Int32.ofInt a >>> (Int32.ofInt b &&& 31)).toInt
def ax_ushr (a b : Int) : Int := (((Int32.ofInt a).toUInt32 >>> ((Int32.ofInt b).toUInt32 &&& Int32.toUInt32 31)).toInt32).toInt
theorem ax_oo (x : Int32) : Int32.ofInt x.toInt = x := Int32.ofInt_toInt x
theorem ax_ooL (x : Int64) : Int64.ofInt x.toInt = x := Int64.ofInt_toInt x
theorem ax_ti (a : Int) : (Int32.ofInt a).toInt = i2 a := Int32.toInt_ofInt
theorem ax_tl (a : Int) : (Int64.ofInt a).toInt = l2 a := Int64.toInt_ofInt
theorem ax_oi (a : Int) : Int32.ofInt (i2 a) = Int32.ofInt a := by rw [← ax_ti, ax_oo]
theorem ax_ol (a : Int) : Int64.ofInt (l2 a) = Int64.ofInt a := by rw [← ax_tl, ax_ooL]
theorem ax_lt (a b : Int) : Int32.ofInt a < Int32.ofInt b ↔ i2 a < i2 b := by rw [Int32.lt_iff_toInt_lt, ax_ti, ax_ti]
theorem ax_le (a b : Int) : Int32.ofInt a ≤ Int32.ofInt b ↔ i2 a ≤ i2 b := by rw [Int32.le_iff_toInt_le, ax_ti, ax_ti]
theorem ax_eq (a b : Int) : Int32.ofInt a = Int32.ofInt b ↔ i2 a = i2 b := by rw [← Int32.toInt_inj, ax_ti, ax_ti]
theorem ax_add (a b : Int) : Int32.ofInt a + Int32.ofInt b = Int32.ofInt (a + b) := (Int32.ofInt_add a b).symm
theorem ax_sub (a b : Int) : Int32.ofInt a - Int32.ofInt b = Int32.ofInt (a - b) := (Int32.ofInt_sub a b).symm
theorem ax_mul (a b : Int) : Int32.ofInt a * Int32.ofInt b = Int32.ofInt (a * b) := (Int32.ofInt_mul a b).symm
theorem ax_neg (a : Int) : - Int32.ofInt a = Int32.ofInt (-a) := (Int32.ofInt_neg a).symm
theorem ax_addL (a b : Int) : Int64.ofInt a + Int64.ofInt b = Int64.ofInt (a + b) := (Int64.ofInt_add a b).symm
theorem ax_subL (a b : Int) : Int64.ofInt a - Int64.ofInt b = Int64.ofInt (a - b) := (Int64.ofInt_sub a b).symm
theorem ax_mulL (a b : Int) : Int64.ofInt a * Int64.ofInt b = Int64.ofInt (a * b) := (Int64.ofInt_mul a b).symm
theorem ax_div (a b : Int) : Int32.ofInt a / Int32.ofInt b = Int32.ofInt ((i2 a).tdiv (i2 b)) := by
  rw [← Int32.toInt_inj, Int32.toInt_div, ax_ti, ax_ti, ax_ti]; rfl
theorem ax_divL (a b : Int) : Int64.ofInt a / Int64.ofInt b = Int64.ofInt ((l2 a).tdiv (l2 b)) := by
  rw [← Int64.toInt_inj, Int64.toInt_div, ax_tl, ax_tl, ax_tl]; rfl
theorem ax_rem (a b : Int) : Int32.ofInt a - Int32.ofInt a / Int32.ofInt b * Int32.ofInt b = Int32.ofInt ((i2 a).tmod (i2 b)) := by
  have h := Int.tmod_def (i2 a) (i2 b)
  rw [ax_div, h, ← ax_sub, ← ax_mul, ax_oi, ax_oi, Int32.mul_comm]
theorem ax_remL (a b : Int) : Int64.ofInt a - Int64.ofInt a / Int64.ofInt b * Int64.ofInt b = Int64.ofInt ((l2 a).tmod (l2 b)) := by
  have h := Int.tmod_def (l2 a) (l2 b)
  rw [ax_divL, h, ← ax_subL, ← ax_mulL, ax_ol, ax_ol, Int64.mul_comm]
theorem ax_clamp (a : Int) : (Int32.ofInt a).toNatClampNeg = (i2 a).toNat := by rw [← ax_ti]; rfl
theorem ax_i2l (a : Int) : (Int32.ofInt a).toInt64 = Int64.ofInt (i2 a) := by
  rw [← Int64.toInt_inj, Int32.toInt_toInt64, ax_ti, ax_tl, l2]
  rw [Int.bmod_eq_of_le_mul_two] <;> (unfold i2; have := @Int.le_bmod a 4294967296 (by decide); have := @Int.bmod_lt a 4294967296 (by decide); omega)
theorem ax_l2i (a : Int) : (Int64.ofInt a).toInt32 = Int32.ofInt a := by
  rw [← Int32.toInt_inj, Int64.toInt_toInt32, ax_ti, ax_tl, l2, i2]
  exact Int.bmod_bmod_of_dvd (by decide)
/-! slots of a heap -/
def ax_sl (H : Heap) : Nat := (H.toList.map (fun c => c.slots.size)).sum
theorem ax_sl_new {H H' : Heap} {c : Cell} (hz : H'.size = H.size + 1) (h : ∀ q, q < H.size → H'[q]? = H[q]?) (hc : H'[H.size]? = some c) : ax_sl H' = ax_sl H + c.slots.size := by
  have e : H' = H.push c := by
    refine Array.ext (by simp [hz]) fun i h1 h2 => ?_
    have h3 : H'[i]? = (H.push c)[i]? := by
      rw [Array.getElem?_push]
      by_cases hi : i = H.size
      · subst hi; rw [if_pos rfl]; exact hc
      · rw [if_neg hi]; exact h i (by omega)
    rw [Array.getElem?_eq_getElem h1, Array.getElem?_eq_getElem h2] at h3
    exact Option.some.inj h3
  subst e
  simp [ax_sl]
theorem ax_sl_of {H H' : Heap} (hz : H'.size = H.size) (h : ∀ (q : Nat) (c : Cell), H[q]? = some c → ∃ c', H'[q]? = some c' ∧ c'.slots.size = c.slots.size) : ax_sl H' = ax_sl H := by
  unfold ax_sl
  congr 1
  refine List.ext_getElem? fun i => ?_
  rw [List.getElem?_map, List.getElem?_map, Array.getElem?_toList, Array.getElem?_toList]
  by_cases hi : i < H.size
  · have h1 : H[i]? = some H[i] := Array.getElem?_eq_getElem hi
    obtain ⟨c', h2, h3⟩ := h i _ h1
    rw [h1, h2]
    simp [h3]
  · have h1 : H[i]? = none := by simp; omega
    have h2 : H'[i]? = none := by simp; omega
    rw [h1, h2]
theorem ax_sl_cut (H : Heap) (n : Nat) : ax_sl H = ((H.toList.take n).map (fun c => c.slots.size)).sum + ((H.toList.drop n).map (fun c => c.slots.size)).sum := by
  unfold ax_sl
  rw [← List.sum_append, ← List.map_append, List.take_append_drop]
/-- the room that is really used -/
theorem ax_tight {p : Program} {l : Launch} {e : Env} {R : Room} {s : State} {m : MethodId} {args : Array Value} {below : List Frame} {meth : Method} {c : Code} {T : State} {locs : List Loc} {cells slots : Nat} (X : Stand p l e R s m args below meth c T locs cells slots) : Stand p l e R s m args below meth c T locs (T.heap.size - s.heap.size) (ax_sl T.heap - ax_sl s.heap) := by
  refine { X with same := ?_ }
  obtain ⟨h1, h2, h3, h4, h5, h6⟩ := X.same
  have hT : (T.setVm s.vm).heap = T.heap := rfl
  rw [hT] at h2 h3 h4 h5 h6
  have hk : ((T.heap.toList.take s.heap.size).map (fun c => c.slots.size)).sum = ax_sl s.heap := by
    unfold ax_sl
    congr 1
    refine List.ext_getElem? fun i => ?_
    rw [List.getElem?_map, List.getElem?_map]
    by_cases hi : i < s.heap.size
    · obtain ⟨c', g1, -, g2, -⟩ := h6 i _ (Array.getElem?_eq_getElem hi)
      rw [List.getElem?_take_of_lt hi, Array.getElem?_toList, Array.getElem?_toList, g1, Array.getElem?_eq_getElem hi]
      simp [g2]
    · have e1 : s.heap.toList[i]? = none := by simp; omega
      have e2 : (T.heap.toList.take s.heap.size)[i]? = none := by simp; omega
      rw [e1, e2]
  have hc := ax_sl_cut T.heap s.heap.size
  rw [hk] at hc
  refine ⟨h1, h2, by rw [hT]; omega, h4, by rw [hT]; omega, h6⟩
/-- what a tag stands for: a class with its fields, or a kind of array -/
def ax_kd : Nat → Option (ax_O ⊕ FieldType) := fun t => match t with
  | 0 => some (.inl (RX0, TX0, 18, tyX0))
  | 1 => some (.inl (RX1, TX1, 9, tyX1))
  | 2 => some (.inl (RX2, TX2, 7, tyX2))
  | 3 => some (.inl (RX3, TX3, 2, tyX3))
  | 4 => some (.inl (RX4, TX4, 1, tyX4))
  | 5 => some (.inl (RX5, TX5, 61, tyX5))
  | 7 => some (.inl (RX7, TX7, 11, tyX7))
  | 8 => some (.inl (RX8, TX8, 7, tyX8))
  | 10 => some (.inl (RX10, TX10, 1, tyX10))
  | 11 => some (.inl (RX11, TX11, 1, tyX11))
  | 12 => some (.inl (RX12, TX12, 2, tyX12))
  | 13 => some (.inl (RX13, TX13, 3, tyX13))
  | 14 => some (.inl (RX14, TX14, 3, tyX14))
  | 15 => some (.inl (RX15, TX15, 4, tyX15))
  | 17 => some (.inl (RX17, TX17, 3, tyX17))
  | 18 => some (.inl (RX18, TX18, 1, tyX18))
  | 19 => some (.inl (RX19, TX19, 2, tyX19))
  | 21 => some (.inl (RX21, TX21, 5, tyX21))
  | 23 => some (.inl (RX23, TX23, 9, tyX23))
  | 24 => some (.inl (RX24, TX24, 9, tyX24))
  | 25 => some (.inl (RX25, TX25, 10, tyX25))
  | 26 => some (.inl (RX26, TX26, 2, tyX26))
  | 27 => some (.inl (RX27, TX27, 6, tyX27))
  | 28 => some (.inl (RX28, TX28, 4, tyX28))
  | 30 => some (.inl (RX30, TX30, 9, tyX30))
  | 31 => some (.inl (RX31, TX31, 6, tyX31))
  | 32 => some (.inl (RX32, TX32, 4, tyX32))
  | 33 => some (.inl (RX33, TX33, 1, tyX33))
  | 42 => some (.inl (RJ2, TJ2, 3, tyJ2))
  | 46 => some (.inl (RJ6, TJ6, 5, tyJ6))
  | 50 => some (.inl (RJ10, TJ10, 6, tyJ10))
  | 51 => some (.inl (RJ11, TJ11, 2, tyJ11))
  | 100 => some (.inr (.int))
  | 101 => some (.inr (.byte))
  | 102 => some (.inr (.boolean))
  | 103 => some (.inr (.long))
  | 104 => some (.inr (.object "java/lang/Object"))
  | 105 => some (.inr (.object "DebtDoors$Street"))
  | 106 => some (.inr (.object "DebtDoors$Clause"))
  | 107 => some (.inr (.object "DebtDoors$Books"))
  | 108 => some (.inr (.object "java/lang/String"))
  | 109 => some (.inr (.object "DebtDoors$Test"))
  | 110 => some (.inr (.object "DebtDoors$Order"))
  | 111 => some (.inr (.array .int))
  | _ => none
theorem kd0 : ax_kd 0 = some (.inl (RX0, TX0, 18, tyX0)) := rfl
theorem kd1 : ax_kd 1 = some (.inl (RX1, TX1, 9, tyX1)) := rfl
theorem kd2 : ax_kd 2 = some (.inl (RX2, TX2, 7, tyX2)) := rfl
theorem kd3 : ax_kd 3 = some (.inl (RX3, TX3, 2, tyX3)) := rfl
theorem kd4 : ax_kd 4 = some (.inl (RX4, TX4, 1, tyX4)) := rfl
theorem kd5 : ax_kd 5 = some (.inl (RX5, TX5, 61, tyX5)) := rfl
theorem kd7 : ax_kd 7 = some (.inl (RX7, TX7, 11, tyX7)) := rfl
theorem kd8 : ax_kd 8 = some (.inl (RX8, TX8, 7, tyX8)) := rfl
theorem kd10 : ax_kd 10 = some (.inl (RX10, TX10, 1, tyX10)) := rfl
theorem kd11 : ax_kd 11 = some (.inl (RX11, TX11, 1, tyX11)) := rfl
theorem kd12 : ax_kd 12 = some (.inl (RX12, TX12, 2, tyX12)) := rfl
theorem kd13 : ax_kd 13 = some (.inl (RX13, TX13, 3, tyX13)) := rfl
theorem kd14 : ax_kd 14 = some (.inl (RX14, TX14, 3, tyX14)) := rfl
theorem kd15 : ax_kd 15 = some (.inl (RX15, TX15, 4, tyX15)) := rfl
theorem kd17 : ax_kd 17 = some (.inl (RX17, TX17, 3, tyX17)) := rfl
theorem kd18 : ax_kd 18 = some (.inl (RX18, TX18, 1, tyX18)) := rfl
theorem kd19 : ax_kd 19 = some (.inl (RX19, TX19, 2, tyX19)) := rfl
theorem kd21 : ax_kd 21 = some (.inl (RX21, TX21, 5, tyX21)) := rfl
theorem kd23 : ax_kd 23 = some (.inl (RX23, TX23, 9, tyX23)) := rfl
theorem kd24 : ax_kd 24 = some (.inl (RX24, TX24, 9, tyX24)) := rfl
theorem kd25 : ax_kd 25 = some (.inl (RX25, TX25, 10, tyX25)) := rfl
theorem kd26 : ax_kd 26 = some (.inl (RX26, TX26, 2, tyX26)) := rfl
theorem kd27 : ax_kd 27 = some (.inl (RX27, TX27, 6, tyX27)) := rfl
theorem kd28 : ax_kd 28 = some (.inl (RX28, TX28, 4, tyX28)) := rfl
theorem kd30 : ax_kd 30 = some (.inl (RX30, TX30, 9, tyX30)) := rfl
theorem kd31 : ax_kd 31 = some (.inl (RX31, TX31, 6, tyX31)) := rfl
theorem kd32 : ax_kd 32 = some (.inl (RX32, TX32, 4, tyX32)) := rfl
theorem kd33 : ax_kd 33 = some (.inl (RX33, TX33, 1, tyX33)) := rfl
theorem kd42 : ax_kd 42 = some (.inl (RJ2, TJ2, 3, tyJ2)) := rfl
theorem kd46 : ax_kd 46 = some (.inl (RJ6, TJ6, 5, tyJ6)) := rfl
theorem kd50 : ax_kd 50 = some (.inl (RJ10, TJ10, 6, tyJ10)) := rfl
theorem kd51 : ax_kd 51 = some (.inl (RJ11, TJ11, 2, tyJ11)) := rfl
theorem kd100 : ax_kd 100 = some (.inr (.int)) := rfl
theorem kd101 : ax_kd 101 = some (.inr (.byte)) := rfl
theorem kd102 : ax_kd 102 = some (.inr (.boolean)) := rfl
theorem kd103 : ax_kd 103 = some (.inr (.long)) := rfl
theorem kd104 : ax_kd 104 = some (.inr (.object "java/lang/Object")) := rfl
theorem kd105 : ax_kd 105 = some (.inr (.object "DebtDoors$Street")) := rfl
theorem kd106 : ax_kd 106 = some (.inr (.object "DebtDoors$Clause")) := rfl
theorem kd107 : ax_kd 107 = some (.inr (.object "DebtDoors$Books")) := rfl
theorem kd108 : ax_kd 108 = some (.inr (.object "java/lang/String")) := rfl
theorem kd109 : ax_kd 109 = some (.inr (.object "DebtDoors$Test")) := rfl
theorem kd110 : ax_kd 110 = some (.inr (.object "DebtDoors$Order")) := rfl
theorem kd111 : ax_kd 111 = some (.inr (.array .int)) := rfl
/-- what a slot of a type holds -/
def ax_v (ty : FieldType) (x : Int) (r : Option Nat) : Value := match ty with
  | .long => .long (Int64.ofInt x)
  | .object _ => va_rf r
  | .array _ => va_rf r
  | _ => .int (Int32.ofInt x)
def ax_at (D : va_G) (a : Nat) (c : ax_C) (H : Heap) : Prop := match ax_kd c.1 with
  | some (.inl o) => t_OB a (D.1 c.1) o.2.2.1 (D.2 c.1) H (fun k => ax_v (o.2.2.2 k) (c.2.2.1 k) (c.2.2.2 k))
  | some (.inr ty) => H[a]? = some (arrV (D.1 c.1) c.2.1 (fun k => ax_v ty (c.2.2.1 k) (c.2.2.2 k)))
  | none => False
theorem ax_at.kept {D : va_G} {a : Nat} {c : ax_C} {H H1 : Heap} (h : ax_at D a c H) (hq : H1[a]? = H[a]?) : ax_at D a c H1 := by
  unfold ax_at at h ⊢
  split at h
  · exact t_OB.kept h hq
  · exact hq.trans h
  · exact h
theorem ax_at.obj {D : va_G} {a : Nat} {c : ax_C} {H : Heap} (h : ax_at D a c H) {o : ax_O} (hk : ax_kd c.1 = some (.inl o)) : t_OB a (D.1 c.1) o.2.2.1 (D.2 c.1) H (fun k => ax_v (o.2.2.2 k) (c.2.2.1 k) (c.2.2.2 k)) := by
  unfold ax_at at h
  rw [hk] at h
  exact h
theorem ax_at.arr {D : va_G} {a : Nat} {c : ax_C} {H : Heap} (h : ax_at D a c H) {ty : FieldType} (hk : ax_kd c.1 = some (.inr ty)) : H[a]? = some (arrV (D.1 c.1) c.2.1 (fun k => ax_v ty (c.2.2.1 k) (c.2.2.2 k))) := by
  unfold ax_at at h
  rw [hk] at h
  exact h
theorem ax_at.ofObj {D : va_G} {a : Nat} {c : ax_C} {H : Heap} {o : ax_O} (hk : ax_kd c.1 = some (.inl o)) (h : t_OB a (D.1 c.1) o.2.2.1 (D.2 c.1) H (fun k => ax_v (o.2.2.2 k) (c.2.2.1 k) (c.2.2.2 k))) : ax_at D a c H := by
  unfold ax_at
  rw [hk]
  exact h
theorem ax_at.ofArr {D : va_G} {a : Nat} {c : ax_C} {H : Heap} {ty : FieldType} (hk : ax_kd c.1 = some (.inr ty)) (h : H[a]? = some (arrV (D.1 c.1) c.2.1 (fun k => ax_v ty (c.2.2.1 k) (c.2.2.2 k)))) : ax_at D a c H := by
  unfold ax_at
  rw [hk]
  exact h
theorem ax_at.lt {D : va_G} {a : Nat} {c : ax_C} {H : Heap} (h : ax_at D a c H) : a < H.size := by
  unfold ax_at at h
  split at h
  · obtain ⟨cell, h2, -⟩ := h
    exact (Array.getElem?_eq_some_iff.mp h2).1
  · exact (Array.getElem?_eq_some_iff.mp h).1
  · exact h.elim
/-- a cell that the machine tells of -/
def ax_vmk (cell : Cell) : Prop := cell.vm.isStatics = false ∧ cell.vm ≠ .unknown
theorem ax_vmk.st {cell : Cell} (h : ax_vmk cell) : ∀ k, cell.vm ≠ .statics k := fun k e => by
  have q := h.1
  rw [e] at q
  cases q
theorem ax_vmk.no {cell : Cell} (e : cell.vm = .none) : ax_vmk cell := ⟨by rw [e]; rfl, by rw [e]; exact fun q => by cases q⟩
theorem ax_vmk.of {cell : Cell} (h1 : ∀ k, cell.vm ≠ .statics k) (h2 : cell.vm ≠ .unknown) : ax_vmk cell := by
  refine ⟨?_, h2⟩
  cases e : cell.vm <;> first | rfl | exact absurd e (h1 _)
/-- what is known of a cell that is only read: of an array of ints or bytes not even by what name its class is found -/
def ax_atR (D : va_G) (a : Nat) (c : ax_C) (U : State) (H : Heap) : Prop := match ax_kd c.1 with
  | some (.inl o) => ∃ cell : Cell, H[a]? = some cell ∧ cell.cls = D.1 c.1 ∧ (ax_vmk cell ∧ (cell.vm = .none ∨ c.1 = 51)) ∧ ∀ k, k < o.2.2.1 → cell.slots[D.2 c.1 k]? = some (ax_v (o.2.2.2 k) (c.2.2.1 k) (c.2.2.2 k))
  | some (.inr ty) => ∃ cell : Cell, H[a]? = some cell ∧ ax_vmk cell ∧ U.isArrayOf cell ty ∧ cell.slots = (arrV (D.1 c.1) c.2.1 (fun k => ax_v ty (c.2.2.1 k) (c.2.2.2 k))).slots ∧ (cell.cls = D.1 c.1 ∨ c.1 = 100 ∨ c.1 = 101)
  | none => False
theorem ax_atR.kept {D : va_G} {a : Nat} {c : ax_C} {U : State} {H H1 : Heap} (h : ax_atR D a c U H) (hq : H1[a]? = H[a]?) : ax_atR D a c U H1 := by
  unfold ax_atR at h ⊢
  split at h
  · obtain ⟨cell, h1, h2⟩ := h
    exact ⟨cell, hq.trans h1, h2⟩
  · obtain ⟨cell, h1, h2⟩ := h
    exact ⟨cell, hq.trans h1, h2⟩
  · exact h
theorem ax_atR.moved {D : va_G} {a : Nat} {c : ax_C} {u U : State} {H : Heap} (hvm : u.vm.Alike U.vm) (h : ax_atR D a c u H) : ax_atR D a c U H := by
  unfold ax_atR at h ⊢
  split at h
  · exact h
  · obtain ⟨cell, h1, h2, h3, h4⟩ := h
    exact ⟨cell, h1, h2, State.isArrayOf_alike hvm h3, h4⟩
  · exact h
theorem ax_atR.lt {D : va_G} {a : Nat} {c : ax_C} {U : State} {H : Heap} (h : ax_atR D a c U H) : a < H.size := by
  unfold ax_atR at h
  split at h
  · obtain ⟨cell, h2, -⟩ := h
    exact (Array.getElem?_eq_some_iff.mp h2).1
  · obtain ⟨cell, h2, -⟩ := h
    exact (Array.getElem?_eq_some_iff.mp h2).1
  · exact h.elim
theorem ax_atR.obj {D : va_G} {a : Nat} {c : ax_C} {U : State} {H : Heap} (h : ax_atR D a c U H) {o : ax_O} (hk : ax_kd c.1 = some (.inl o)) : ∃ cell : Cell, H[a]? = some cell ∧ cell.cls = D.1 c.1 ∧ (ax_vmk cell ∧ (cell.vm = .none ∨ c.1 = 51)) ∧ ∀ k, k < o.2.2.1 → cell.slots[D.2 c.1 k]? = some (ax_v (o.2.2.2 k) (c.2.2.1 k) (c.2.2.2 k)) := by
  unfold ax_atR at h
  rw [hk] at h
  exact h
theorem ax_atR.arr {D : va_G} {a : Nat} {c : ax_C} {U : State} {H : Heap} (h : ax_atR D a c U H) {ty : FieldType} (hk : ax_kd c.1 = some (.inr ty)) : ∃ cell : Cell, H[a]? = some cell ∧ ax_vmk cell ∧ U.isArrayOf cell ty ∧ cell.slots = (arrV (D.1 c.1) c.2.1 (fun k => ax_v ty (c.2.2.1 k) (c.2.2.2 k))).slots ∧ (cell.cls = D.1 c.1 ∨ c.1 = 100 ∨ c.1 = 101) := by
  unfold ax_atR at h
  rw [hk] at h
  exact h
theorem ax_atR.ofObj {D : va_G} {a : Nat} {c : ax_C} {U : State} {H : Heap} {o : ax_O} (hk : ax_kd c.1 = some (.inl o)) (h : ∃ cell : Cell, H[a]? = some cell ∧ cell.cls = D.1 c.1 ∧ (ax_vmk cell ∧ (cell.vm = .none ∨ c.1 = 51)) ∧ ∀ k, k < o.2.2.1 → cell.slots[D.2 c.1 k]? = some (ax_v (o.2.2.2 k) (c.2.2.1 k) (c.2.2.2 k))) : ax_atR D a c U H := by
  unfold ax_atR
  rw [hk]
  exact h
theorem ax_atR.ofArr {D : va_G} {a : Nat} {c : ax_C} {U : State} {H : Heap} {ty : FieldType} (hk : ax_kd c.1 = some (.inr ty)) (h : ∃ cell : Cell, H[a]? = some cell ∧ ax_vmk cell ∧ U.isArrayOf cell ty ∧ cell.slots = (arrV (D.1 c.1) c.2.1 (fun k => ax_v ty (c.2.2.1 k) (c.2.2.2 k))).slots ∧ (cell.cls = D.1 c.1 ∨ c.1 = 100 ∨ c.1 = 101)) : ax_atR D a c U H := by
  unfold ax_atR
  rw [hk]
  exact h
theorem ax_atR.cell {D : va_G} {a : Nat} {c : ax_C} {U : State} {H : Heap} (h : ax_atR D a c U H) (n : c.1 ≠ 100 ∧ c.1 ≠ 101) : ∃ cell : Cell, H[a]? = some cell ∧ ax_vmk cell ∧ cell.cls = D.1 c.1 := by
  unfold ax_atR at h
  split at h
  · obtain ⟨cell, h1, h2, h3, -⟩ := h
    exact ⟨cell, h1, h3.1, h2⟩
  · obtain ⟨cell, h1, h2, h3, h4, h5⟩ := h
    rcases h5 with h5 | h5 | h5
    · exact ⟨cell, h1, h2, h5⟩
    · exact absurd h5 n.1
    · exact absurd h5 n.2
  · exact h.elim
theorem ax_atR.cellO {D : va_G} {a : Nat} {c : ax_C} {U : State} {H : Heap} (h : ax_atR D a c U H) {o : ax_O} (hk : ax_kd c.1 = some (.inl o)) : ∃ cell : Cell, H[a]? = some cell ∧ ax_vmk cell ∧ cell.cls = D.1 c.1 := by
  obtain ⟨cell, h1, h2, h3, -⟩ := h.obj hk
  exact ⟨cell, h1, h3.1, h2⟩
/-- the tables know the classes and the kinds of array -/
def ax_K (D : va_G) (U : State) : Prop := (∀ (t : Nat) (o : ax_O), ax_kd t = some (.inl o) → u_Kn U o.1 o.2.1 o.2.2.1 (D.1 t) (D.2 t)) ∧ ∀ (t : Nat) (ty : FieldType), ax_kd t = some (.inr ty) → ArrOfT U (D.1 t) ty ∧ va_RA U (D.1 t) ty
theorem ax_K.moved {D : va_G} {u U : State} (hvm : u.vm.Alike U.vm) (h : ax_K D u) : ax_K D U := ⟨fun t o q => u_Kn_moved hvm (h.1 t o q), fun t ty q => ⟨arrOfT_moved hvm (h.2 t ty q).1, (h.2 t ty q).2.moved hvm⟩⟩
theorem ax_at.ro {D : va_G} {a : Nat} {c : ax_C} {U : State} {H : Heap} (hK : ax_K D U) (h : ax_at D a c H) : ax_atR D a c U H := by
  unfold ax_at at h
  unfold ax_atR
  split at h
  · rename_i o hk
    obtain ⟨cell, h1, h2, h3, h4⟩ := h
    exact ⟨cell, h1, h2, ⟨ax_vmk.no h3, Or.inl h3⟩, h4⟩
  · rename_i ty hk
    exact ⟨_, h, ax_vmk.no rfl, (hK.2 _ _ hk).1 _ _, rfl, Or.inl rfl⟩
  · exact h.elim
/-- an address, or none -/
def ax_opt (n : Nat) : Option Nat := if n = 0 then none else some (n - 1)
/-- the constants: static fields of the JDK, texts, class objects -/
def ax_SX (K : Nat → Nat) (s : State) : Prop := (va_Z "java/util/ArrayList" "DEFAULTCAPACITY_EMPTY_ELEMENTDATA" "[Ljava/lang/Object;" (va_rf (some (K 0))) (fun _ => False) s s.heap ∧ va_Z "java/util/ArrayList" "EMPTY_ELEMENTDATA" "[Ljava/lang/Object;" (va_rf (some (K 1))) (fun _ => False) s s.heap ∧ va_Z "java/lang/Throwable" "UNASSIGNED_STACK" "[Ljava/lang/StackTraceElement;" (va_rf (ax_opt (K 2))) (fun _ => False) s s.heap ∧ va_Z "java/lang/Throwable" "SUPPRESSED_SENTINEL" "Ljava/util/List;" (va_rf (ax_opt (K 3))) (fun _ => False) s s.heap ∧ va_Z "jdk/internal/util/Preconditions" "SIOOBE_FORMATTER" "Ljava/util/function/BiFunction;" (va_rf (ax_opt (K 6))) (fun _ => False) s s.heap ∧ va_Z "java/lang/String" "COMPACT_STRINGS" "Z" (.int (Int32.ofInt 1)) (fun _ => False) s s.heap) ∧ (∀ q ∈ ax_strs, vk_R q.1 q.2.1 q.2.2.1 (K (10 + q.2.2.2)) s) ∧ va_Mi "[Ljava/lang/Object;" (K 4) s ∧ va_Mi "java/util/ArrayList" (K 5) s ∧ (Cond.laysStatic "java/lang/Throwable" "UNASSIGNED_STACK" "[Ljava/lang/StackTraceElement;").before #[] s = true ∧ (Cond.laysStatic "java/lang/Throwable" "SUPPRESSED_SENTINEL" "Ljava/util/List;").before #[] s = true
/-- what is known of the start of the law -/
def ax_SF (G : ax_G) : Prop := ax_K G.1 G.2.1 ∧ (∀ w ∈ lw_tbl, (w.onTables = true ∨ ∃ ty, w = Cond.arrayOver ty) → va_Nw w G.2.1) ∧ (∀ (a : Nat) (c : ax_C), G.2.2.2.1 a = some c → ax_atR G.1 a c G.2.1 G.2.1.heap) ∧ ax_SX G.2.2.2.2 G.2.1
/-- a state holds a heap -/
def ax_M (G : ax_G) (h : ax_H) (U : State) : Prop := (U.heap.size = h.1 ∧ ax_sl U.heap = h.2.1 ∧ h.1 ≤ G.2.2.1.1 ∧ h.2.1 ≤ G.2.2.1.2) ∧ (∀ (a : Nat) (c : ax_C), h.2.2 a = some c → ax_at G.1 a c U.heap ∧ G.2.1.heap.size ≤ a) ∧ (G.2.1.heap.size ≤ U.heap.size ∧ ∀ q : Nat, q < G.2.1.heap.size → U.heap[q]? = G.2.1.heap[q]?) ∧ G.2.1.WarmedH U.vm
def ax_F (h : ax_H) : Nat → Prop := fun q => h.2.2 q ≠ none ∨ h.1 ≤ q
def ax_Pc (G : ax_G) (av : List Value) (h : ax_H) : Array Value → State → Prop := va_Pc av (ax_M G h)
def ax_Qc (G : ax_G) (h h' : ax_H) (r : Option Value) : Array Value → State → Outcome → State → Prop := fun _ st o t => o = .returned r ∧ ax_M G h' t ∧ va_F (ax_F h) st t ∧ ∀ q : Nat, h'.2.2 q ≠ none → ax_F h q
def ax_rm (G : ax_G) (fr lo : Nat) (h : ax_H) : Room := { frames := fr, cells := G.2.2.1.1 - h.1, slots := G.2.2.1.2 - h.2.1, locals := lo }
/-- a method's contract -/
abbrev ax_Met (l : Launch) (G : ax_G) (y : MethodName) (b : ByteArray) (L : Nat) (ret : Option FieldType) (fr lo : Nat) (av : List Value) (h h' : ax_H) (r : Option Value) : Prop :=
  Met l y (ws_ y b L ret) (ax_rm G fr lo h) (ax_Pc G av h) (ax_Qc G h h' r) (G.2.2.1.1 - h.1) (G.2.2.1.2 - h.2.1) (ax_F h)
/-- where a walk stands: program, launch, surroundings, room, state at the entry, method, arguments, frames below, method, code; the cells that may be written -/
abbrev ax_X : Type := Program × Launch × Env × Room × State × MethodId × Array Value × List Frame × Method × Code × (Nat → Prop)
def ax_HH (G : ax_G) (X : ax_X) (h : ax_H) (H : Heap) (locs : List Loc) : Prop := (H.size = h.1 ∧ ax_sl H = h.2.1 ∧ h.1 ≤ G.2.2.1.1 ∧ h.2.1 ≤ G.2.2.1.2) ∧ (∀ (a : Nat) (c : ax_C), h.2.2 a = some c → ax_at G.1 a c H ∧ X.2.2.2.2.2.2.2.2.2.2 a) ∧ (X.2.2.2.2.1.heap.size ≤ H.size ∧ ax_sl X.2.2.2.2.1.heap ≤ ax_sl H) ∧ (∀ q : Nat, q < X.2.2.2.2.1.heap.size → ¬ X.2.2.2.2.2.2.2.2.2.2 q → H[q]? = X.2.2.2.2.1.heap[q]?) ∧ ∀ q ∈ locs, X.2.2.2.2.2.2.2.2.2.2 q.base
def ax_W (G : ax_G) (X : ax_X) (Q : State → Prop) (h : ax_H) (pc : Nat) (ls : Array Slot) (st : List Value) : Prop := ∀ (H : Heap) (locs : List Loc), ax_HH G X h H locs →
  W X.1 X.2.1 X.2.2.1 X.2.2.2.1 X.2.2.2.2.1 X.2.2.2.2.2.1 X.2.2.2.2.2.2.1 X.2.2.2.2.2.2.2.1 X.2.2.2.2.2.2.2.2.1 X.2.2.2.2.2.2.2.2.2.1 H locs (H.size - X.2.2.2.2.1.heap.size) (ax_sl H - ax_sl X.2.2.2.2.1.heap) Q (F0 X.2.2.2.2.2.1 pc ls st)
/-- what a walk knows throughout -/
def ax_B (G : ax_G) (X : ax_X) (cc : ByteArray) (nL : Nat) (own : String) (fr lo : Nat) : Prop :=
  CallFix X.1 X.2.2.2.2.2.1 X.2.2.2.2.2.2.2.2.2.1 cc nL X.2.2.2.2.1 X.2.2.2.2.2.2.1 lw_all own ∧ X.2.2.2.2.2.2.2.2.1.locks = false ∧ (G.2.1.WarmedH X.2.2.2.2.1.vm ∧ ax_SF G) ∧ X.2.2.2.1 = { frames := fr, cells := G.2.2.1.1 - X.2.2.2.2.1.heap.size, slots := G.2.2.1.2 - ax_sl X.2.2.2.2.1.heap, locals := lo } ∧ (∀ q : Nat, X.2.2.2.2.1.heap.size ≤ q → X.2.2.2.2.2.2.2.2.2.2 q) ∧ (∀ q : Nat, X.2.2.2.2.2.2.2.2.2.2 q → G.2.1.heap.size ≤ q) ∧ (G.2.1.heap.size ≤ X.2.2.2.2.1.heap.size ∧ ∀ q : Nat, q < G.2.1.heap.size → X.2.2.2.2.1.heap[q]? = G.2.1.heap[q]?)
/-- a method's end -/
def ax_Q (G : ax_G) (X : ax_X) (h0 h' : ax_H) (r : Option Value) : State → Prop := MQ X.2.2.2.2.2.2.2.1 (ax_Qc G h0 h' r) X.2.2.2.2.2.2.1 X.2.2.2.2.1 (G.2.2.1.1 - h0.1) (G.2.2.1.2 - h0.2.1) (ax_F h0)
theorem ax_eqL (a b : Int) : Int64.ofInt a = Int64.ofInt b ↔ l2 a = l2 b := by rw [← Int64.toInt_inj, ax_tl, ax_tl]
theorem ax_ltL (a b : Int) : Int64.ofInt a < Int64.ofInt b ↔ l2 a < l2 b := by rw [Int64.lt_iff_toInt_lt, ax_tl, ax_tl]
theorem ax_i2b (a : Int) : (Int32.ofInt a).toInt8.toInt32 = Int32.ofInt (b2 a) := by
  rw [← Int32.toInt_inj, Int8.toInt_toInt32, Int32.toInt_toInt8, ax_ti, ax_ti, i2, i2, b2]
  rw [Int.bmod_bmod_of_dvd (by decide)]
  have h1 := @Int.le_bmod a 256 (by decide)
  have h2 := @Int.bmod_lt a 256 (by decide)
  show a.bmod 256 = (a.bmod 256).bmod 4294967296
  exact (Int.bmod_eq_of_le_mul_two (by omega) (by omega)).symm
theorem ax_i2c (a : Int) : ((Int32.ofInt a).toUInt32 % 65536).toInt32 = Int32.ofInt (a % 65536) := by
  rw [pk_char]
  have h : ((Int32.ofInt a).toBitVec.toNat : Int) = a % 4294967296 := by
    show (((BitVec.ofInt 32 a).toNat : Nat) : Int) = _
    rw [BitVec.toNat_ofInt]
    exact Int.toNat_of_nonneg (Int.emod_nonneg a (by decide))
  have e : a % 65536 = (((Int32.ofInt a).toBitVec.toNat % 65536 : Nat) : Int) := by
    rw [Int.natCast_emod, h]
    omega
  rw [e]
  rfl
theorem i2_0 : i2 0 = 0 := by decide
theorem ax_eq0 (a : Int) : Int32.ofInt a = 0 ↔ i2 a = 0 := (ax_eq a 0).trans (by rw [i2_0])
theorem ax_lt0 (a : Int) : Int32.ofInt a < 0 ↔ i2 a < 0 := (ax_lt a 0).trans (by rw [i2_0])
theorem ax_gt0 (a : Int) : 0 < Int32.ofInt a ↔ 0 < i2 a := (ax_lt 0 a).trans (by rw [i2_0])
theorem ax_eqL0 (a : Int) : Int64.ofInt a = 0 ↔ l2 a = 0 := (ax_eqL a 0).trans (by rw [show l2 0 = 0 by decide])
theorem ax_and1 (a : Int) : Int32.ofInt a &&& 1 = Int32.ofInt (a % 2) := by
  rw [pk_and _ 1 (by decide)]
  have h : ((Int32.ofInt a).toBitVec.toNat : Int) = a % 4294967296 := by
    show (((BitVec.ofInt 32 a).toNat : Nat) : Int) = _
    rw [BitVec.toNat_ofInt]
    exact Int.toNat_of_nonneg (Int.emod_nonneg a (by decide))
  have e : a % 2 = (((Int32.ofInt a).toBitVec.toNat % 2 ^ 1 : Nat) : Int) := by
    rw [Int.natCast_emod, h]
    omega
  rw [e]
  rfl
