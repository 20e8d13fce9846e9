/-! ROWS over the heap, further: stores into arrays, lengths, new cells -/
set_option maxRecDepth 100000
theorem ax_at.cell {D : va_G} {a : Nat} {c : ax_C} {H : Heap} (h : ax_at D a c H) : ∃ cell : Cell, H[a]? = some cell ∧ cell.vm = .none ∧ cell.cls = D.1 c.1 := by
  unfold ax_at at h
  split at h
  · obtain ⟨cell, h1, h2, h3, -⟩ := h
    exact ⟨cell, h1, h3, h2⟩
  · exact ⟨_, h, rfl, rfl⟩
  · exact h.elim
/-- what may be put into an array of references -/
def ax_asg (D : va_G) (s : State) (C : String) (t : Nat) : Prop := (t ≠ 100 ∧ t ≠ 101) ∧ ∀ comp : ClassId, s.vm.findClass C = some comp → ∃ kv, s.vm.classes[D.1 t]? = some kv ∧ s.vm.assignable (D.1 t) comp = true
def ax_stR (E : ax_E) (ok : Nat → Bool) (h : ax_H) (r : Option Nat) (t : Nat) (i : Int) (v : Option Nat) : Option ax_H := (ax_wc h r t).bind fun q => if 0 ≤ i2 i ∧ i2 i < q.2.2.1 then (match v with
  | none => some (ax_set h q.1 (q.2.1, q.2.2.1, q.2.2.2.1, va_up q.2.2.2.2 (i2 i).toNat none))
  | some b => (ax_rd E h b).bind fun c => if ok c.1 = true ∧ (c.1 ≠ 100 ∨ (h.2.2 b).isSome = true) then some (ax_set h q.1 (q.2.1, q.2.2.1, q.2.2.2.1, va_up q.2.2.2.2 (i2 i).toNat (some b))) else none) else none
section AXH
variable {l : Launch} {G : ax_G} {X : ax_X} {Q : State → Prop} {h : ax_H} {cc : ByteArray} {nL fr lo pc : Nat} {own : String} {ls : Array Slot} {rest : List Value} {H : Heap} {locs : List Loc}
theorem ax_same {C : String} {T : u_T} {N t : Nat} {ty : Nat → FieldType} (B : ax_BL l G X cc nL own fr lo) (ht : ax_kd t = some (.inl (C, T, N, ty))) : ax_asg G.1 X.2.2.2.2.1 C t := by
  refine ⟨⟨fun e => (by rw [e] at ht; exact absurd (kd100.symm.trans ht) (fun q => by cases q)), fun e => (by rw [e] at ht; exact absurd (kd101.symm.trans ht) (fun q => by cases q))⟩, fun comp hc => ?_⟩
  have hK := ((ax_Kn B.2).1 t _ ht).2
  cases hK.1.symm.trans hc
  obtain ⟨k, hk, -⟩ := hK.2
  exact ⟨k, hk, va_assign hK⟩
theorem ax_cast {C E : String} {T : u_T} {N t : Nat} {ty : Nat → FieldType} (B : ax_BL l G X cc nL own fr lo) (ht : ax_kd t = some (.inl (C, T, N, ty))) (hw : Cond.castable C E ∈ lw_tbl) : ax_asg G.1 X.2.2.2.2.1 E t := by
  refine ⟨⟨fun e => (by rw [e] at ht; exact absurd (kd100.symm.trans ht) (fun q => by cases q)), fun e => (by rw [e] at ht; exact absurd (kd101.symm.trans ht) (fun q => by cases q))⟩, fun comp hc => ?_⟩
  have hK := ((ax_Kn B.2).1 t _ ht).2
  obtain ⟨k, hk, -⟩ := hK.2
  obtain ⟨c0, t1, f1, f2, f3⟩ := Cond.castable_spec (va_Nw.use (A := #[]) rfl (va_Nw.warmC B.2.2.2.1.1 (B.2.2.2.1.2.2.1 _ hw (Or.inl rfl))))
  cases hK.1.symm.trans f1
  cases hc.symm.trans f2
  exact ⟨k, hk, f3⟩
/-- the picture of an array behind a store -/
theorem ax_arrS {D : va_G} {a : Nat} {c c' : ax_C} {ty : FieldType} {H' : Heap} {v : Value} {i : Nat} (ht : ax_kd c.1 = some (.inr ty)) (h1 : c'.1 = c.1) (h2 : c'.2.1 = c.2.1) (hv : ∀ j : Nat, ax_v ty (c'.2.2.1 j) (c'.2.2.2 j) = if j = i then v else ax_v ty (c.2.2.1 j) (c.2.2.2 j)) (e : H'[a]? = some ((arrV (D.1 c.1) c.2.1 (fun k => ax_v ty (c.2.2.1 k) (c.2.2.2 k))).setSlot i v)) : ax_at D a c' H' := by
  refine ax_at.ofArr (ty := ty) (by rw [h1]; exact ht) ?_
  rw [e, arrV_store, h1, h2]
  congr 2
  funext j
  rw [hv j]
  rfl
theorem ax_iast {α : Type} {t : Nat} {r : Option Nat} {i v : Int} {f : ax_H → Option α} {w : α} (B : ax_BL l G X cc nL own fr lo) (ht : ax_kd t = some (.inr .int)) (d : decode cc pc = .ok (.iastore, 1)) (e : (ax_sto h r t i v).bind f = some w)
    (kk : ∀ h' : ax_H, f h' = some w → ax_W G X Q h' (pc + 1) ls rest) : ax_W G X Q h pc ls (.int (Int32.ofInt v) :: .int (Int32.ofInt i) :: va_rf r :: rest) := by
  obtain ⟨h', e1, e2⟩ := ax_b e
  obtain ⟨⟨a, c⟩, e3, e4⟩ := ax_b e1
  obtain ⟨rfl, e5, e6⟩ := ax_wc_spec e3
  dsimp only at e4 e5 e6
  split at e4
  · rename_i hin
    cases e4
    obtain ⟨i1, i3, i4⟩ := ax_inI hin
    intro H locs hH
    have ht1 : ax_kd c.1 = some (.inr .int) := by rw [e6]; exact ht
    have hc := (hH.2.1 a c e5).1.arr ht1
    have hA := ((ax_Kn B.2).2 _ _ ht1).1 c.2.1 (fun k => ax_v .int (c.2.2.1 k) (c.2.2.2 k))
    refine W.iast B.2.1.1 B.2.1.2.1 hc hA (fun q => by cases q) (by rw [arrV_size]; exact i1) rfl rfl d fun H' z1 z2 z3 => ?_
    rw [i4] at z1
    obtain ⟨hH', hs'⟩ := ax_HH.put (c' := (c.1, c.2.1, va_up c.2.2.1 (i2 i).toNat v, c.2.2.2)) (i := (Int32.ofInt i).toNatClampNeg) hH e5 (ax_arrS (v := .int (Int32.ofInt v)) (i := (i2 i).toNat) ht1 rfl rfl (fun j => by
      by_cases hj : j = (i2 i).toNat
      · subst hj
        rw [if_pos rfl]
        
        simp [ax_v, va_up]
      · rw [if_neg hj]
        simp [va_up, hj]) z1) z2 z3 hc z1 (by simp [Cell.setSlot])
    have hk2 := kk _ e2 H' _ hH'
    rw [z2, hs'] at hk2
    exact hk2
  · cases e4
theorem ax_bast {α : Type} {t : Nat} {r : Option Nat} {i v : Int} {f : ax_H → Option α} {w : α} (B : ax_BL l G X cc nL own fr lo) (ht : ax_kd t = some (.inr .byte)) (d : decode cc pc = .ok (.bastore, 1)) (e : (ax_sto h r t i (b2 v)).bind f = some w)
    (kk : ∀ h' : ax_H, f h' = some w → ax_W G X Q h' (pc + 1) ls rest) : ax_W G X Q h pc ls (.int (Int32.ofInt v) :: .int (Int32.ofInt i) :: va_rf r :: rest) := by
  obtain ⟨h', e1, e2⟩ := ax_b e
  obtain ⟨⟨a, c⟩, e3, e4⟩ := ax_b e1
  obtain ⟨rfl, e5, e6⟩ := ax_wc_spec e3
  dsimp only at e4 e5 e6
  split at e4
  · rename_i hin
    cases e4
    obtain ⟨i1, i3, i4⟩ := ax_inI hin
    intro H locs hH
    have ht1 : ax_kd c.1 = some (.inr .byte) := by rw [e6]; exact ht
    have hc := (hH.2.1 a c e5).1.arr ht1
    have hA := ((ax_Kn B.2).2 _ _ ht1).1 c.2.1 (fun k => ax_v .byte (c.2.2.1 k) (c.2.2.2 k))
    refine W.bast B.2.1.1 B.2.1.2.1 hc hA (fun q => by cases q) (by rw [arrV_size]; exact i1) rfl rfl d fun H' z1 z2 z3 => ?_
    rw [i4] at z1
    obtain ⟨hH', hs'⟩ := ax_HH.put (c' := (c.1, c.2.1, va_up c.2.2.1 (i2 i).toNat (b2 v), c.2.2.2)) (i := (Int32.ofInt i).toNatClampNeg) hH e5 (ax_arrS (v := narrow .byte (.int (Int32.ofInt v))) (i := (i2 i).toNat) ht1 rfl rfl (fun j => by
      by_cases hj : j = (i2 i).toNat
      · subst hj
        rw [if_pos rfl]
        rw [show narrow .byte (.int (Int32.ofInt v)) = .int (Int32.ofInt v).toInt8.toInt32 from rfl, ax_i2b]
        simp [ax_v, va_up]
      · rw [if_neg hj]
        simp [va_up, hj]) z1) z2 z3 hc z1 (by simp [Cell.setSlot])
    have hk2 := kk _ e2 H' _ hH'
    rw [z2, hs'] at hk2
    exact hk2
  · cases e4
theorem ax_zast {α : Type} {t : Nat} {r : Option Nat} {i v : Int} {f : ax_H → Option α} {w : α} (B : ax_BL l G X cc nL own fr lo) (ht : ax_kd t = some (.inr .boolean)) (d : decode cc pc = .ok (.bastore, 1)) (e : (ax_sto h r t i (v % 2)).bind f = some w)
    (kk : ∀ h' : ax_H, f h' = some w → ax_W G X Q h' (pc + 1) ls rest) : ax_W G X Q h pc ls (.int (Int32.ofInt v) :: .int (Int32.ofInt i) :: va_rf r :: rest) := by
  obtain ⟨h', e1, e2⟩ := ax_b e
  obtain ⟨⟨a, c⟩, e3, e4⟩ := ax_b e1
  obtain ⟨rfl, e5, e6⟩ := ax_wc_spec e3
  dsimp only at e4 e5 e6
  split at e4
  · rename_i hin
    cases e4
    obtain ⟨i1, i3, i4⟩ := ax_inI hin
    intro H locs hH
    have ht1 : ax_kd c.1 = some (.inr .boolean) := by rw [e6]; exact ht
    have hc := (hH.2.1 a c e5).1.arr ht1
    have hA := ((ax_Kn B.2).2 _ _ ht1).1 c.2.1 (fun k => ax_v .boolean (c.2.2.1 k) (c.2.2.2 k))
    refine W.zast B.2.1.1 B.2.1.2.1 hc hA (fun q => by cases q) (by rw [arrV_size]; exact i1) rfl rfl d fun H' z1 z2 z3 => ?_
    rw [i4] at z1
    obtain ⟨hH', hs'⟩ := ax_HH.put (c' := (c.1, c.2.1, va_up c.2.2.1 (i2 i).toNat (v % 2), c.2.2.2)) (i := (Int32.ofInt i).toNatClampNeg) hH e5 (ax_arrS (v := narrow .boolean (.int (Int32.ofInt v))) (i := (i2 i).toNat) ht1 rfl rfl (fun j => by
      by_cases hj : j = (i2 i).toNat
      · subst hj
        rw [if_pos rfl]
        rw [show narrow .boolean (.int (Int32.ofInt v)) = .int (Int32.ofInt v &&& 1) from rfl, ax_and1]
        simp [ax_v, va_up]
      · rw [if_neg hj]
        simp [va_up, hj]) z1) z2 z3 hc z1 (by simp [Cell.setSlot])
    have hk2 := kk _ e2 H' _ hH'
    rw [z2, hs'] at hk2
    exact hk2
  · cases e4
theorem ax_last {α : Type} {t : Nat} {r : Option Nat} {i v : Int} {f : ax_H → Option α} {w : α} (B : ax_BL l G X cc nL own fr lo) (ht : ax_kd t = some (.inr .long)) (d : decode cc pc = .ok (.lastore, 1)) (e : (ax_sto h r t i v).bind f = some w)
    (kk : ∀ h' : ax_H, f h' = some w → ax_W G X Q h' (pc + 1) ls rest) : ax_W G X Q h pc ls (.long (Int64.ofInt v) :: .int (Int32.ofInt i) :: va_rf r :: rest) := by
  obtain ⟨h', e1, e2⟩ := ax_b e
  obtain ⟨⟨a, c⟩, e3, e4⟩ := ax_b e1
  obtain ⟨rfl, e5, e6⟩ := ax_wc_spec e3
  dsimp only at e4 e5 e6
  split at e4
  · rename_i hin
    cases e4
    obtain ⟨i1, i3, i4⟩ := ax_inI hin
    intro H locs hH
    have ht1 : ax_kd c.1 = some (.inr .long) := by rw [e6]; exact ht
    have hc := (hH.2.1 a c e5).1.arr ht1
    have hA := ((ax_Kn B.2).2 _ _ ht1).1 c.2.1 (fun k => ax_v .long (c.2.2.1 k) (c.2.2.2 k))
    refine W.last B.2.1.1 B.2.1.2.1 hc hA (fun q => by cases q) (by rw [arrV_size]; exact i1) rfl rfl d fun H' z1 z2 z3 => ?_
    rw [i4] at z1
    obtain ⟨hH', hs'⟩ := ax_HH.put (c' := (c.1, c.2.1, va_up c.2.2.1 (i2 i).toNat v, c.2.2.2)) (i := (Int32.ofInt i).toNatClampNeg) hH e5 (ax_arrS (v := .long (Int64.ofInt v)) (i := (i2 i).toNat) ht1 rfl rfl (fun j => by
      by_cases hj : j = (i2 i).toNat
      · subst hj
        rw [if_pos rfl]
        
        simp [ax_v, va_up]
      · rw [if_neg hj]
        simp [va_up, hj]) z1) z2 z3 hc z1 (by simp [Cell.setSlot])
    have hk2 := kk _ e2 H' _ hH'
    rw [z2, hs'] at hk2
    exact hk2
  · cases e4
theorem ax_aast {α : Type} {t : Nat} {r vr : Option Nat} {i : Int} {C : String} {ok : Nat → Bool} {f : ax_H → Option α} {w : α} (B : ax_BL l G X cc nL own fr lo) (ht : ax_kd t = some (.inr (.object C))) (hok : ∀ t' : Nat, ok t' = true → ax_asg G.1 X.2.2.2.2.1 C t') (d : decode cc pc = .ok (.aastore, 1)) (e : (ax_stR G.2.2 ok h r t i vr).bind f = some w)
    (kk : ∀ h' : ax_H, f h' = some w → ax_W G X Q h' (pc + 1) ls rest) : ax_W G X Q h pc ls (va_rf vr :: .int (Int32.ofInt i) :: va_rf r :: rest) := by
  obtain ⟨h', e1, e2⟩ := ax_b e
  obtain ⟨⟨a, c⟩, e3, e4⟩ := ax_b e1
  obtain ⟨rfl, e5, e6⟩ := ax_wc_spec e3
  dsimp only at e4 e5 e6
  split at e4
  · rename_i hin
    obtain ⟨i1, i3, i4⟩ := ax_inI hin
    intro H locs hH
    have ht1 : ax_kd c.1 = some (.inr (.object C)) := by rw [e6]; exact ht
    have hc := (hH.2.1 a c e5).1.arr ht1
    have hA := ((ax_Kn B.2).2 _ _ ht1).1 c.2.1 (fun k => ax_v (.object C) (c.2.2.1 k) (c.2.2.2 k))
    have fin : ∀ (H' : Heap) (v : Option Nat), f (ax_set h a (c.1, c.2.1, c.2.2.1, va_up c.2.2.2 (i2 i).toNat v)) = some w → H'[a]? = some ((arrV (G.1.1 c.1) c.2.1 (fun k => ax_v (.object C) (c.2.2.1 k) (c.2.2.2 k))).setSlot (Int32.ofInt i).toNatClampNeg (va_rf v)) → H'.size = H.size → (∀ q : Nat, q ≠ a → H'[q]? = H[q]?) → W X.1 X.2.1 X.2.2.1 X.2.2.2.1 X.2.2.2.2.1 X.2.2.2.2.2.1 X.2.2.2.2.2.2.1 X.2.2.2.2.2.2.2.1 X.2.2.2.2.2.2.2.2.1 X.2.2.2.2.2.2.2.2.2.1 H' (locs ++ [⟨a, (Int32.ofInt i).toNatClampNeg⟩]) (H.size - X.2.2.2.2.1.heap.size) (ax_sl H - ax_sl X.2.2.2.2.1.heap) Q (F0 X.2.2.2.2.2.1 (pc + 1) ls rest) := by
      intro H' v e2 z1 z2 z3
      rw [i4] at z1
      obtain ⟨hH', hs'⟩ := ax_HH.put (c' := (c.1, c.2.1, c.2.2.1, va_up c.2.2.2 (i2 i).toNat v)) (i := (Int32.ofInt i).toNatClampNeg) hH e5 (ax_arrS (v := va_rf v) (i := (i2 i).toNat) ht1 rfl rfl (fun j => by
        by_cases hj : j = (i2 i).toNat
        · subst hj
          rw [if_pos rfl]
          simp [ax_v, va_up]
        · rw [if_neg hj]
          simp [va_up, hj]) z1) z2 z3 hc z1 (by simp [Cell.setSlot])
      have hk2 := kk _ e2 H' _ hH'
      rw [z2, hs'] at hk2
      exact hk2
    split at e4
    · cases e4
      exact va_WaastN (C := C) B.2.1.1 B.2.1.2.1 hc hA (fun q => by cases q) (by rw [arrV_size]; exact i1) rfl rfl d fun H' z1 z2 z3 => fin H' none e2 z1 z2 z3
    · rename_i b
      obtain ⟨cv, g1, g2⟩ := ax_b e4
      split at g2
      · rename_i hk
        cases g2
        obtain ⟨cell, y1, y2, y3⟩ := (ax_read B.2 hH g1).cell (hok _ hk.1).1
        obtain ⟨kA, comp, k1, k2, k3, -⟩ := ((ax_Kn B.2).2 _ _ ht1).2
        obtain ⟨kE, hkE, -⟩ := Vm.findClass_spec k3
        obtain ⟨kv, hkv, hasn⟩ := (hok _ hk.1).2 comp k3
        exact W.aast B.2.1.1 B.2.1.2.1 hc (fun q h => by cases h) (fun h => by cases h) k1 k2 rfl hkE ⟨fun q => i1 (Or.inl q), by rw [arrV_size]; exact i3⟩ y1 y2.st (by rw [y3]; exact hkv) (by rw [y3]; exact hasn) rfl rfl d fun H' z1 z2 z3 => fin H' (some b) e2 z1 z2 z3
      · cases g2
  · cases e4
theorem ax_alen {α : Type} {t : Nat} {ty : FieldType} {r : Option Nat} {f : Int → Option α} {w : α} (B : ax_BL l G X cc nL own fr lo) (ht : ax_kd t = some (.inr ty)) (d : decode cc pc = .ok (.arraylength, 1)) (e : (ax_len G.2.2 h r t).bind f = some w)
    (kk : ∀ v, f v = some w → ax_W G X Q h (pc + 1) ls (.int (Int32.ofInt v) :: rest)) : ax_W G X Q h pc ls (va_rf r :: rest) := by
  obtain ⟨v, e1, e2⟩ := ax_b e
  unfold ax_len at e1
  obtain ⟨c, e3, rfl⟩ := Option.map_eq_some_iff.mp e1
  obtain ⟨a, rfl, e5, rfl⟩ := ax_ce_spec e3
  intro H locs hH
  obtain ⟨cell, hc, hv, hA, hs, -⟩ := (ax_read B.2 hH e5).arr ht
  exact W.alen (n := Int32.ofInt (c.2.1 : Int)) B.2.1.1 B.2.1.2.1 hc hA (by rw [hs, arrV_size]; rfl) rfl rfl d (kk _ e2 H locs hH)
/-- a new object -/
theorem ax_new {α : Type} {C : String} {T : u_T} {N n t index : Nat} {ty : Nat → FieldType} {f : Nat × ax_H → Option α} {w : α} (B : ax_BL l G X cc nL own fr lo) (ht : ax_kd t = some (.inl (C, T, N, ty))) (hin : ∀ w ∈ u_ws C T N, w ∈ lw_all) (hty : ∀ k, k < N → parseFieldDescriptor (T k).2.2.1 = some (ty k)) (hdf : ∀ k, k < N → defaultValue (ty k) = ax_v (ty k) 0 none) (hcl : Cond.classLink own index C ∈ lw_all) (hins : Cond.instantiable C n ∈ lw_all) (hini : Cond.initialized C ∈ lw_all) (d : decode cc pc = .ok (.new index, 3)) (e : (ax_nw G.2.2 h t 0 n).bind f = some w)
    (kk : ∀ q : Nat × ax_H, f q = some w → ax_W G X Q q.2 (pc + 3) ls (va_rf (some q.1) :: rest)) : ax_W G X Q h pc ls rest := by
  obtain ⟨⟨q0, h'⟩, e1, e2⟩ := ax_b e
  intro H locs hH
  obtain ⟨⟨p1, p2, p3, p4⟩, -, ⟨p6, p7⟩, -⟩ := id hH
  have hb : h.1 + 1 ≤ G.2.2.1.1 ∧ h.2.1 + n ≤ G.2.2.1.2 := by
    unfold ax_nw at e1
    split at e1
    · assumption
    · cases e1
  have hRm := B.2.2.2.2.1
  obtain ⟨hS, hfc, kC, hkC, hkind⟩ := (ax_Kn B.2).1 t _ ht
  refine W.newcK B.2.1.1 B.2.1.2.1 B.2.1.2.2.2.1 (B.2.1.2.2.2.2 _ hcl) (B.2.1.2.2.2.2 _ hins) (B.2.1.2.2.2.2 _ hini) rfl d ?_ ?_ hfc rfl fun H' kC' hk' z1 z2 z3 => ?_
  · rw [hRm]; show _ ≤ G.2.2.1.1 - _; omega
  · rw [hRm]; show _ ≤ G.2.2.1.2 - _; omega
  · obtain ⟨_, _, g1, g2, g3⟩ := Cond.instantiable_spec (B.2.1.2.2.2.2 _ hins)
    cases hfc.symm.trans g1
    cases hk'.symm.trans g2
    have hsz : (blank (G.1.1 t) kC').slots.size = n := by
      have := g3.2.2
      first | simpa [blank] using this | (simp [blank]; exact this.2) | (simp [blank]; exact this.2.2)
    obtain ⟨r1, r2, r3⟩ := ax_HH.new B.2 hH e1 z2 z3 z1 hsz (ax_at.ofObj ht ((u_born ty B.2.1.2.2.2.2 hin ((ax_Kn B.2).1 t _ ht) hk' z1 hty).to hdf))
    subst r1
    have hk2 := kk _ e2 H' _ r2
    rw [z2, r3] at hk2
    have a1 : H.size + 1 - X.2.2.2.2.1.heap.size = H.size - X.2.2.2.2.1.heap.size + 1 := by omega
    have a2 : ax_sl H + n - ax_sl X.2.2.2.2.1.heap = ax_sl H - ax_sl X.2.2.2.2.1.heap + n := by omega
    rw [a1, a2] at hk2
    exact hk2
/-- a new array of whole numbers -/
theorem ax_newa {α : Type} {atype : ArrayType} {t : Nat} {n : Int} {f : Nat × ax_H → Option α} {w : α} (B : ax_BL l G X cc nL own fr lo) (ht : ax_kd t = some (.inr (newarray.typeOf atype))) (harr : Cond.arrayClass (newarray.typeOf atype) ∈ lw_all) (hdf : defaultValue (newarray.typeOf atype) = ax_v (newarray.typeOf atype) 0 none) (hcb : componentBytes (newarray.typeOf atype) ≤ 8) (d : decode cc pc = .ok (.newarray atype, 2)) (e : (ax_na G.2.2 h t n).bind f = some w)
    (kk : ∀ q : Nat × ax_H, f q = some w → ax_W G X Q q.2 (pc + 2) ls (va_rf (some q.1) :: rest)) : ax_W G X Q h pc ls (.int (Int32.ofInt n) :: rest) := by
  obtain ⟨⟨q0, h'⟩, e1, e2⟩ := ax_b e
  unfold ax_na at e1
  split at e1
  · rename_i hn
    intro H locs hH
    obtain ⟨⟨p1, p2, p3, p4⟩, -, ⟨p6, p7⟩, -⟩ := id hH
    have hb : h.1 + 1 ≤ G.2.2.1.1 ∧ h.2.1 + (i2 n).toNat ≤ G.2.2.1.2 := by
      unfold ax_nw at e1
      split at e1
      · assumption
      · cases e1
    have hRm := B.2.2.2.2.1
    refine va_newaK (N := (i2 n).toNat) B.2.1.1 B.2.1.2.1 (B.2.1.2.2.2.2 _ harr) rfl d rfl (fun q => by rw [ax_lt0] at q; omega) (ax_clamp n) (Nat.le_trans (Nat.mul_le_mul (show (i2 n).toNat ≤ 65536 by omega) hcb) (by decide)) ?_ ?_ rfl fun H' cA z1 z2 z3 z4 z5 => ?_
    · rw [hRm]; show _ ≤ G.2.2.1.1 - _; omega
    · rw [hRm]; show _ ≤ G.2.2.1.2 - _; omega
    · have hRA := ((ax_Kn B.2).2 _ _ ht).2
      have hcA : cA = G.1.1 t := by
        have : X.2.2.2.2.1.vm.findClass ("[" ++ (newarray.typeOf atype).toString) = some (G.1.1 t) := by
          cases atype <;> exact hRA
        exact Option.some.inj (z5.symm.trans this)
      subst hcA
      obtain ⟨r1, r2, r3⟩ := ax_HH.new B.2 hH e1 z2 z3 z1 (arrV_size _ _ _) (ax_at.ofArr ht (by rw [z1, hdf]))
      subst r1
      have hk2 := kk _ e2 H' _ r2
      rw [z2, r3] at hk2
      have a1 : H.size + 1 - X.2.2.2.2.1.heap.size = H.size - X.2.2.2.2.1.heap.size + 1 := by omega
      have a2 : ax_sl H + (i2 n).toNat - ax_sl X.2.2.2.2.1.heap = ax_sl H - ax_sl X.2.2.2.2.1.heap + (i2 n).toNat := by omega
      rw [a1, a2] at hk2
      exact hk2
  · cases e1
/-- a new array of references to objects -/
theorem ax_anew {α : Type} {C : String} {index t : Nat} {n : Int} {f : Nat × ax_H → Option α} {w : α} (B : ax_BL l G X cc nL own fr lo) (ht : ax_kd t = some (.inr (.object C))) (hcl : Cond.classLink own index C ∈ lw_all) (hov : Cond.arrayOver (.object C) ∈ lw_tbl) (d : decode cc pc = .ok (.anewarray index, 3)) (e : (ax_na G.2.2 h t n).bind f = some w)
    (kk : ∀ q : Nat × ax_H, f q = some w → ax_W G X Q q.2 (pc + 3) ls (va_rf (some q.1) :: rest)) : ax_W G X Q h pc ls (.int (Int32.ofInt n) :: rest) := by
  obtain ⟨⟨q0, h'⟩, e1, e2⟩ := ax_b e
  unfold ax_na at e1
  split at e1
  · rename_i hn
    intro H locs hH
    obtain ⟨⟨p1, p2, p3, p4⟩, -, ⟨p6, p7⟩, -⟩ := id hH
    have hb : h.1 + 1 ≤ G.2.2.1.1 ∧ h.2.1 + (i2 n).toNat ≤ G.2.2.1.2 := by
      unfold ax_nw at e1
      split at e1
      · assumption
      · cases e1
    have hRm := B.2.2.2.2.1
    have hAO : va_AO C X.2.2.2.2.1 := va_AO.moved B.2.2.2.1.1.alike (B.2.2.2.1.2.2.1 _ hov (Or.inr ⟨_, rfl⟩))
    refine W.anew B.2.1.1 B.2.1.2.1 B.2.1.2.2.2.1 (B.2.1.2.2.2.2 _ hcl) (va_AO.use hAO) rfl d rfl (fun q => by rw [ax_lt0] at q; omega) (by rw [ax_clamp]; omega) ?_ ?_ fun cA kA comp f1 f2 f3 f4 => ?_
    · rw [hRm]; show _ ≤ G.2.2.1.1 - _; omega
    · rw [hRm, ax_clamp]; show _ ≤ G.2.2.1.2 - _; omega
    · obtain ⟨kA', comp', g1, g2, g3, g4⟩ := ((ax_Kn B.2).2 _ _ ht).2
      have hcA : cA = G.1.1 t := Option.some.inj (f1.symm.trans g4)
      subst hcA
      rw [ax_clamp]
      generalize hH1 : H.push ({ cls := G.1.1 t, slots := Array.replicate (i2 n).toNat .null, vm := .none } : Cell) = H'
      have z2 : H'.size = H.size + 1 := by rw [← hH1, Array.size_push]
      have z1 : H'[H.size]? = some (arrV (G.1.1 t) (i2 n).toNat (fun _ => .null)) := by rw [← hH1, Array.getElem?_push_size, ← arrV_new]
      have z3 : ∀ q : Nat, q < H.size → H'[q]? = H[q]? := fun q hq => by rw [← hH1, Array.getElem?_push, if_neg (Nat.ne_of_lt hq)]
      obtain ⟨r1, r2, r3⟩ := ax_HH.new B.2 hH e1 z2 z3 z1 (arrV_size _ _ _) (ax_at.ofArr ht (by rw [z1]; rfl))
      subst r1
      have hk2 := kk _ e2 H' _ r2
      rw [z2, r3] at hk2
      have a1 : H.size + 1 - X.2.2.2.2.1.heap.size = H.size - X.2.2.2.2.1.heap.size + 1 := by omega
      have a2 : ax_sl H + (i2 n).toNat - ax_sl X.2.2.2.2.1.heap = ax_sl H - ax_sl X.2.2.2.2.1.heap + (i2 n).toNat := by omega
      rw [a1, a2] at hk2
      exact hk2
  · cases e1
end AXH
