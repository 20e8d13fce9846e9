/-! ROWS: System.arraycopy -/
set_option maxRecDepth 100000
def ax_rng (sp dp n : Int) (n0 n1 : Nat) : Prop := 0 ≤ i2 sp ∧ 0 ≤ i2 dp ∧ 0 ≤ i2 n ∧ i2 sp + i2 n ≤ n0 ∧ i2 dp + i2 n ≤ n1
/-- a reference that an array may take: none, or one to a cell of an allowed tag -/
def ax_okr (E : ax_E) (h : ax_H) (ok : Nat → Bool) (r : Option Nat) : Bool := match r with
  | none => true
  | some b => match ax_rd E h b with
    | none => false
    | some c => ok c.1
/-- what is copied: P says which cells may be (bytes in range, references allowed) -/
noncomputable def ax_cp (E : ax_E) (h : ax_H) (P : ax_C → Nat → Prop) (r0 : Option Nat) (t : Nat) (sp : Int) (r1 : Option Nat) (dp n : Int) : Option ax_H := (ax_ce E h r0 t).bind fun c0 => (ax_wc h r1 t).bind fun q =>
  match Classical.propDecidable ((0 ≤ i2 sp ∧ 0 ≤ i2 dp ∧ 0 ≤ i2 n ∧ i2 sp + i2 n ≤ c0.2.1 ∧ i2 dp + i2 n ≤ q.2.2.1) ∧ ∀ i : Nat, i < (i2 n).toNat → P c0 ((i2 sp).toNat + i)) with
  | .isTrue _ => some (ax_set h q.1 (q.2.1, q.2.2.1, va_cpy c0.2.2.1 q.2.2.2.1 (i2 sp).toNat (i2 dp).toNat (i2 n).toNat, va_cpy c0.2.2.2 q.2.2.2.2 (i2 sp).toNat (i2 dp).toNat (i2 n).toNat))
  | .isFalse _ => none
def ax_anyP : ax_C → Nat → Prop := fun _ _ => True
def ax_bytP : ax_C → Nat → Prop := fun c i => -128 ≤ c.2.2.1 i ∧ c.2.2.1 i < 128
def ax_refP (E : ax_E) (h : ax_H) (ok : Nat → Bool) : ax_C → Nat → Prop := fun c i => ax_okr E h ok (c.2.2.2 i) = true
theorem ax_cp_spec {E : ax_E} {h h' : ax_H} {P : ax_C → Nat → Prop} {r0 r1 : Option Nat} {t : Nat} {sp dp n : Int} (e : ax_cp E h P r0 t sp r1 dp n = some h') : ∃ c0 q, ax_ce E h r0 t = some c0 ∧ ax_wc h r1 t = some q ∧ (0 ≤ i2 sp ∧ 0 ≤ i2 dp ∧ 0 ≤ i2 n ∧ i2 sp + i2 n ≤ c0.2.1 ∧ i2 dp + i2 n ≤ q.2.2.1) ∧ (∀ i : Nat, i < (i2 n).toNat → P c0 ((i2 sp).toNat + i)) ∧ h' = ax_set h q.1 (q.2.1, q.2.2.1, va_cpy c0.2.2.1 q.2.2.2.1 (i2 sp).toNat (i2 dp).toNat (i2 n).toNat, va_cpy c0.2.2.2 q.2.2.2.2 (i2 sp).toNat (i2 dp).toNat (i2 n).toNat) := by
  obtain ⟨c0, e1, e2⟩ := ax_b e
  obtain ⟨q, e3, e4⟩ := ax_b e2
  split at e4
  · rename_i hh _
    cases e4
    exact ⟨c0, q, e1, e3, hh.1, hh.2, rfl⟩
  · cases e4
theorem ax_cp_of {E : ax_E} {h : ax_H} {P : ax_C → Nat → Prop} {r0 r1 : Option Nat} {t : Nat} {sp dp n : Int} {c0 : ax_C} {q : Nat × ax_C} (e1 : ax_ce E h r0 t = some c0) (e2 : ax_wc h r1 t = some q) (h1 : 0 ≤ i2 sp ∧ 0 ≤ i2 dp ∧ 0 ≤ i2 n ∧ i2 sp + i2 n ≤ c0.2.1 ∧ i2 dp + i2 n ≤ q.2.2.1) (h2 : ∀ i : Nat, i < (i2 n).toNat → P c0 ((i2 sp).toNat + i)) : ax_cp E h P r0 t sp r1 dp n = some (ax_set h q.1 (q.2.1, q.2.2.1, va_cpy c0.2.2.1 q.2.2.2.1 (i2 sp).toNat (i2 dp).toNat (i2 n).toNat, va_cpy c0.2.2.2 q.2.2.2.2 (i2 sp).toNat (i2 dp).toNat (i2 n).toNat)) := by
  unfold ax_cp
  rw [e1, Option.bind_some, e2, Option.bind_some]
  split
  · rfl
  · rename_i hh _
    exact absurd ⟨h1, h2⟩ hh
section AXCP
variable {l : Launch} {G : ax_G} {X : ax_X} {Q : State → Prop} {h : ax_H} {cc : ByteArray} {nL fr lo pc : Nat} {own : String} {ls : Array Slot} {rest : List Value}
theorem ax_copy {α : Type} {index t : Nat} {ty : FieldType} {P : ax_C → Nat → Prop} {r0 r1 : Option Nat} {sp dp n : Int} {f : ax_H → Option α} {w : α} (B : ax_BL l G X cc nL own fr lo) (ht : ax_kd t = some (.inr ty)) (hP : ∀ (H : Heap) (locs : List Loc), ax_HH G X h H locs → ∀ (T : State), T.heap = H → ∀ vm', X.2.2.2.2.1.vm.Alike vm' → ∀ (c : ax_C) (i : Nat) (kd : Class) (dc : ClassId), c.1 = t → P c i → X.2.2.2.2.1.vm.classes[G.1.1 t]? = some kd → kd.kind = .array dc ty → fits ty (ax_v ty (c.2.2.1 i) (c.2.2.2 i)) = true ∧ (T.setVm vm').takes dc (ax_v ty (c.2.2.1 i) (c.2.2.2 i)))
    (hlink : Cond.methodLink own index arraycopyName ∈ lw_all) (hnat : Cond.native arraycopyName ∈ lw_all) (hstat : Cond.static arraycopyName ∈ lw_all) (hini : Cond.initialized "java/lang/System" ∈ lw_all) (hz : ls.size = nL) (hfr : 1 ≤ fr) (hlo : (rest.map fun v => v.category).sum + 18 ≤ lo) (d : decode cc pc = .ok (.invokestatic index, 3)) (e : (ax_cp G.2.2 h P r0 t sp r1 dp n).bind f = some w)
    (kk : ∀ h' : ax_H, f h' = some w → ax_W G X Q h' (pc + 3) ls rest) : ax_W G X Q h pc ls (.int (Int32.ofInt n) :: .int (Int32.ofInt dp) :: va_rf r1 :: .int (Int32.ofInt sp) :: va_rf r0 :: rest) := by
  obtain ⟨h', e1, e2⟩ := ax_b e
  obtain ⟨c0, ⟨a1, c1⟩, e3, e4, ⟨g1, g2, g3, g4, g5⟩, g6, rfl⟩ := ax_cp_spec e1
  obtain ⟨a0, rfl, e5, k0⟩ := ax_ce_spec e3
  obtain ⟨rfl, e6, k1⟩ := ax_wc_spec e4
  dsimp only at e6 k1 g5 e2
  intro H locs hH T hT XS
  have ht0 : ax_kd c0.1 = some (.inr ty) := by rw [k0]; exact ht
  have ht1 : ax_kd c1.1 = some (.inr ty) := by rw [k1]; exact ht
  obtain ⟨cell0, hc0, hv0, hA0, hs0, -⟩ := (ax_read B.2 hH e5).arr ht0
  have hc1 := (hH.2.1 a1 c1 e6).1.arr ht1
  obtain ⟨-, q0, hk0, cm0, hkk0⟩ := hA0
  obtain ⟨-, q1, hk1, cm1, hkk1⟩ := ((ax_Kn B.2).2 _ _ ht1).1 c1.2.1 (fun k => ax_v ty (c1.2.2.1 k) (c1.2.2.2 k))
  obtain ⟨w1, w2, -⟩ := ax_roomR B
  have hPP := hP H locs hH T hT
  rw [k1] at hk1 hc1
  obtain ⟨vm', X', step⟩ := XS.arraycopy B.2.1.1 B.2.1.2.2.2.1 (B.2.1.2.2.2.2 _ hlink) (B.2.1.2.2.2.2 _ hnat) (B.2.1.2.2.2.2 _ hstat) (B.2.1.2.2.2.2 _ hini) (src := a0) (dst := a1) (srcPos := Int32.ofInt sp) (destPos := Int32.ofInt dp) (n := Int32.ofInt n) (by rw [hT]; exact hc0) (by rw [hT]; exact hc1)
    hv0.st (fun _ h => by cases h) hv0.2 (fun h => by cases h) hk0 hk1 hkk0 hkk1 (by cases hr : refKind ty <;> simp) (fun q => by rw [ax_lt0] at q; omega) (fun q => by rw [ax_lt0] at q; omega) (fun q => by rw [ax_lt0] at q; omega)
    (by rw [ax_ti, ax_ti, hs0, arrV_size]; omega) (by rw [ax_ti, ax_ti, arrV_size]; omega)
    (fun vm₁ hal i hi => by
      rw [ax_clamp] at hi
      have e : cell0.slots.getD ((Int32.ofInt sp).toNatClampNeg + i) .null = ax_v ty (c0.2.2.1 ((i2 sp).toNat + i)) (c0.2.2.2 ((i2 sp).toNat + i)) := by
        rw [hs0, ax_clamp, Array.getD_eq_getD_getElem?, arrV_read _ _ (by omega)]
        rfl
      rw [e]
      exact hPP vm₁ hal c0 _ q1 cm1 k0 (g6 i hi) hk1 hkk1)
    (g := F0 X.2.2.2.2.2.1 pc ls (.int (Int32.ofInt n) :: .int (Int32.ofInt dp) :: .ref a1 :: .int (Int32.ofInt sp) :: .ref a0 :: rest)) rfl (hz.trans B.2.1.2.2.1.symm) (rest := rest) rfl (by rw [B.2.1.2.1]; exact d) (by rw [w1]; exact hfr) (by rw [w2]; show 2 * 0 + _ + 18 ≤ _; omega)
  have e7 : copied (arrV (G.1.1 c0.1) c0.2.1 (fun k => ax_v ty (c0.2.2.1 k) (c0.2.2.2 k))) (arrV (G.1.1 t) c1.2.1 (fun k => ax_v ty (c1.2.2.1 k) (c1.2.2.2 k))) (Int32.ofInt sp) (Int32.ofInt dp) (Int32.ofInt n) = arrV (G.1.1 t) c1.2.1 (fun j => ax_v ty (va_cpy c0.2.2.1 c1.2.2.1 (i2 sp).toNat (i2 dp).toNat (i2 n).toNat j) (va_cpy c0.2.2.2 c1.2.2.2 (i2 sp).toNat (i2 dp).toNat (i2 n).toNat j)) := by
    have h7 := va_copied (fun v : Value => v) (G.1.1 c0.1) (G.1.1 t) (n0 := c0.2.1) (n1 := c1.2.1) (sp := (Int32.ofInt sp).toNatClampNeg) (dp := (Int32.ofInt dp).toNatClampNeg) (n := (Int32.ofInt n).toNatClampNeg) (fun k => ax_v ty (c0.2.2.1 k) (c0.2.2.2 k)) (fun k => ax_v ty (c1.2.2.1 k) (c1.2.2.2 k)) (by rw [ax_clamp, ax_clamp]; omega)
    refine Eq.trans h7 ?_
    rw [ax_clamp, ax_clamp, ax_clamp]
    congr 1
    funext j
    unfold va_cpy
    split <;> rfl
  have e8 : copied cell0 (arrV (G.1.1 t) c1.2.1 (fun k => ax_v ty (c1.2.2.1 k) (c1.2.2.2 k))) (Int32.ofInt sp) (Int32.ofInt dp) (Int32.ofInt n) = copied (arrV (G.1.1 c0.1) c0.2.1 (fun k => ax_v ty (c0.2.2.1 k) (c0.2.2.2 k))) (arrV (G.1.1 t) c1.2.1 (fun k => ax_v ty (c1.2.2.1 k) (c1.2.2.2 k))) (Int32.ofInt sp) (Int32.ofInt dp) (Int32.ofInt n) := by
    unfold copied Cell.stretch
    rw [hs0]
  rw [e8, e7] at X' step
  have hl : a1 < H.size := (Array.getElem?_eq_some_iff.mp hc1).1
  obtain ⟨H', hH'⟩ : ∃ H', H' = H.setIfInBounds a1 (arrV (G.1.1 t) c1.2.1 (fun j => ax_v ty (va_cpy c0.2.2.1 c1.2.2.1 (i2 sp).toNat (i2 dp).toNat (i2 n).toNat j) (va_cpy c0.2.2.2 c1.2.2.2 (i2 sp).toNat (i2 dp).toNat (i2 n).toNat j))) := ⟨_, rfl⟩
  have z2 : H'.size = H.size := by rw [hH']; simp
  have z3 : ∀ q : Nat, q ≠ a1 → H'[q]? = H[q]? := fun q hq => by rw [hH']; simp [Array.getElem?_setIfInBounds, Ne.symm hq]
  have z1 : H'[a1]? = some (arrV (G.1.1 t) c1.2.1 (fun j => ax_v ty (va_cpy c0.2.2.1 c1.2.2.1 (i2 sp).toNat (i2 dp).toNat (i2 n).toNat j) (va_cpy c0.2.2.2 c1.2.2.2 (i2 sp).toNat (i2 dp).toNat (i2 n).toNat j))) := by rw [hH']; simp [Array.getElem?_setIfInBounds, hl]
  obtain ⟨y1, y2⟩ := ax_HH.put (c' := (c1.1, c1.2.1, va_cpy c0.2.2.1 c1.2.2.1 (i2 sp).toNat (i2 dp).toNat (i2 n).toNat, va_cpy c0.2.2.2 c1.2.2.2 (i2 sp).toNat (i2 dp).toNat (i2 n).toNat)) (i := 0) hH e6 (ax_at.ofArr (ty := ty) ht1 (by rw [k1]; exact z1)) z2 z3 hc1 z1 (by rw [arrV_size, arrV_size])
  have hH2 : ax_HH G X (ax_set h a1 (c1.1, c1.2.1, va_cpy c0.2.2.1 c1.2.2.1 (i2 sp).toNat (i2 dp).toNat (i2 n).toNat, va_cpy c0.2.2.2 c1.2.2.2 (i2 sp).toNat (i2 dp).toNat (i2 n).toNat)) H' (locs ++ (cell0.stretch (Int32.ofInt sp).toNatClampNeg (Int32.ofInt n).toNatClampNeg).zipIdx.map fun q => ⟨a1, (Int32.ofInt dp).toNatClampNeg + q.2⟩) := by
    refine ⟨y1.1, y1.2.1, y1.2.2.1, y1.2.2.2.1, fun q hq => ?_⟩
    rcases List.mem_append.mp hq with h1 | h1
    · exact y1.2.2.2.2 q (List.mem_append_left _ h1)
    · obtain ⟨z, -, hz⟩ := List.mem_map.mp h1
      rw [← hz]
      exact (hH.2.1 a1 c1 e6).2
  have hk2 := kk _ e2 H' _ hH2
  rw [z2, y2] at hk2
  have hheap : ((T.setVm vm').setCell a1 (arrV (G.1.1 t) c1.2.1 (fun j => ax_v ty (va_cpy c0.2.2.1 c1.2.2.1 (i2 sp).toNat (i2 dp).toNat (i2 n).toNat j) (va_cpy c0.2.2.2 c1.2.2.2 (i2 sp).toNat (i2 dp).toNat (i2 n).toNat j)))).heap = H' := by rw [hH', ← hT]; rfl
  obtain ⟨t2, b1, b2⟩ := hk2 _ hheap X'
  exact ⟨t2, step t2 b1, b2⟩
theorem ax_copyI {α : Type} {index : Nat} {r0 r1 : Option Nat} {sp dp n : Int} {f : ax_H → Option α} {w : α} (B : ax_BL l G X cc nL own fr lo)
    (hlink : Cond.methodLink own index arraycopyName ∈ lw_all) (hnat : Cond.native arraycopyName ∈ lw_all) (hstat : Cond.static arraycopyName ∈ lw_all) (hini : Cond.initialized "java/lang/System" ∈ lw_all) (hz : ls.size = nL) (hfr : 1 ≤ fr) (hlo : (rest.map fun v => v.category).sum + 18 ≤ lo) (d : decode cc pc = .ok (.invokestatic index, 3)) (e : (ax_cp G.2.2 h ax_anyP r0 100 sp r1 dp n).bind f = some w)
    (kk : ∀ h' : ax_H, f h' = some w → ax_W G X Q h' (pc + 3) ls rest) : ax_W G X Q h pc ls (.int (Int32.ofInt n) :: .int (Int32.ofInt dp) :: va_rf r1 :: .int (Int32.ofInt sp) :: va_rf r0 :: rest) :=
  ax_copy B kd100 (fun _ _ _ _ _ _ _ _ _ _ _ _ _ _ _ => ⟨rfl, trivial⟩) hlink hnat hstat hini hz hfr hlo d e kk
theorem ax_fitB (x : Int) (h : -128 ≤ x ∧ x < 128) : fits .byte (.int (Int32.ofInt x)) = true := by
  have e : Int32.ofInt x = (Int32.ofInt x).toInt8.toInt32 := by
    rw [ax_i2b]
    unfold b2
    rw [Int.bmod_eq_of_le_mul_two (by omega) (by omega)]
  rw [e]
  exact pk_fb _
theorem ax_copyB {α : Type} {index : Nat} {r0 r1 : Option Nat} {sp dp n : Int} {f : ax_H → Option α} {w : α} (B : ax_BL l G X cc nL own fr lo)
    (hlink : Cond.methodLink own index arraycopyName ∈ lw_all) (hnat : Cond.native arraycopyName ∈ lw_all) (hstat : Cond.static arraycopyName ∈ lw_all) (hini : Cond.initialized "java/lang/System" ∈ lw_all) (hz : ls.size = nL) (hfr : 1 ≤ fr) (hlo : (rest.map fun v => v.category).sum + 18 ≤ lo) (d : decode cc pc = .ok (.invokestatic index, 3)) (e : (ax_cp G.2.2 h ax_bytP r0 101 sp r1 dp n).bind f = some w)
    (kk : ∀ h' : ax_H, f h' = some w → ax_W G X Q h' (pc + 3) ls rest) : ax_W G X Q h pc ls (.int (Int32.ofInt n) :: .int (Int32.ofInt dp) :: va_rf r1 :: .int (Int32.ofInt sp) :: va_rf r0 :: rest) :=
  ax_copy B kd101 (fun _ _ _ _ _ _ _ _ _ _ _ _ hp _ _ => ⟨ax_fitB _ hp, trivial⟩) hlink hnat hstat hini hz hfr hlo d e kk
theorem ax_copyR {α : Type} {index t : Nat} {C : String} {ok : Nat → Bool} {r0 r1 : Option Nat} {sp dp n : Int} {f : ax_H → Option α} {w : α} (B : ax_BL l G X cc nL own fr lo) (ht : ax_kd t = some (.inr (.object C))) (hok : ∀ t' : Nat, ok t' = true → ax_asg G.1 X.2.2.2.2.1 C t')
    (hlink : Cond.methodLink own index arraycopyName ∈ lw_all) (hnat : Cond.native arraycopyName ∈ lw_all) (hstat : Cond.static arraycopyName ∈ lw_all) (hini : Cond.initialized "java/lang/System" ∈ lw_all) (hz : ls.size = nL) (hfr : 1 ≤ fr) (hlo : (rest.map fun v => v.category).sum + 18 ≤ lo) (d : decode cc pc = .ok (.invokestatic index, 3)) (e : (ax_cp G.2.2 h (ax_refP G.2.2 h ok) r0 t sp r1 dp n).bind f = some w)
    (kk : ∀ h' : ax_H, f h' = some w → ax_W G X Q h' (pc + 3) ls rest) : ax_W G X Q h pc ls (.int (Int32.ofInt n) :: .int (Int32.ofInt dp) :: va_rf r1 :: .int (Int32.ofInt sp) :: va_rf r0 :: rest) := by
  refine ax_copy B ht (fun H locs hH T hT vm' hal c i kd dc hct hp hkd hkk => ?_) hlink hnat hstat hini hz hfr hlo d e kk
  have hp : ax_okr G.2.2 h ok (c.2.2.2 i) = true := hp
  show fits (.object C) (va_rf (c.2.2.2 i)) = true ∧ (T.setVm vm').takes dc (va_rf (c.2.2.2 i))
  unfold ax_okr at hp
  split at hp
  · rename_i hr
    rw [hr]
    exact ⟨rfl, trivial⟩
  · rename_i b hr
    rw [hr]
    split at hp
    · cases hp
    · rename_i cb hcb
      obtain ⟨cell, y1, y2, y3⟩ := (ax_read B.2 hH hcb).cell (hok _ hp).1
      obtain ⟨kA, comp, r1, r2, r3, -⟩ := ((ax_Kn B.2).2 _ _ ht).2
      cases hkd.symm.trans r1
      cases hkk.symm.trans r2
      obtain ⟨kv, hkv, hasn⟩ := (hok _ hp).2 dc r3
      obtain ⟨kE, hkE, -⟩ := Vm.findClass_spec r3
      obtain ⟨kC', hkC', -⟩ := hal.2.2 _ _ hkv
      obtain ⟨kE', hkE', -⟩ := hal.2.2 _ _ hkE
      refine ⟨rfl, cell, (show T.heap[b]? = some cell by rw [hT]; exact y1), y2.st, ⟨kC', by rw [y3]; exact hkC'⟩, ⟨kE', hkE'⟩, ?_⟩
      show vm'.assignable _ _ = true
      rw [hal.assignable, y3]
      exact hasn
end AXCP
