/-! ROWS: arrays of arrays, bytes and chars that come back, the class behind an interface -/
set_option maxRecDepth 100000
def ax_ok1 : Nat → Bool := fun t => decide (t = 100)
/-- an array of n arrays of m ints -/
def ax_nm (E : ax_E) (h : ax_H) (n m : Int) : Option (Nat × ax_H) := if 0 ≤ i2 n ∧ i2 n ≤ 65536 ∧ 0 ≤ i2 m ∧ i2 m ≤ 65536 ∧ h.1 + 1 + (i2 n).toNat ≤ E.1.1 ∧ h.2.1 + ((i2 n).toNat + (i2 n).toNat * (i2 m).toNat) ≤ E.1.2 then
  some (h.1, (h.1 + 1 + (i2 n).toNat, h.2.1 + ((i2 n).toNat + (i2 n).toNat * (i2 m).toNat), fun q => if q = h.1 then some (111, (i2 n).toNat, (fun _ => 0), fun j => if j < (i2 n).toNat then some (h.1 + 1 + j) else none) else if h.1 < q ∧ q < h.1 + 1 + (i2 n).toNat then some (100, (i2 m).toNat, (fun _ => 0), fun _ => none) else h.2.2 q)) else none
theorem ax_b2_of {v : Int} (h : -128 ≤ v ∧ v < 128) : b2 v = v := by
  simp only [b2, Int.bmod_def]
  omega
section AXH
variable {l : Launch} {G : ax_G} {X : ax_X} {Q : State → Prop} {h h0 : ax_H} {cc : ByteArray} {nL fr lo pc : Nat} {own : String} {ls : Array Slot} {rest : List Value} {H : Heap} {locs : List Loc}
theorem ax_breturn {v : Int} {w : Int × ax_H} (B : ax_BL l G X cc nL own fr lo) (Z : ax_Z X h0 (some .byte)) (d : decode cc pc = .ok (.ireturn, 1)) (e : (if -128 ≤ v ∧ v < 128 then some (v, h) else none) = some w) : ax_W G X (ax_Q G X h0 w.2 (some (.int (Int32.ofInt w.1)))) h pc ls [.int (Int32.ofInt v)] := by
  split at e
  · rename_i hv
    cases e
    intro H locs hH
    obtain ⟨a1, a2, a3, a4⟩ := ax_end (r := some (.int (Int32.ofInt v))) B Z hH
    exact W.widen a3 a4 (W.zret B.2.1.1 B.2.1.2.1 Z.2.2.2 (by show Value.int _ = _; rw [ax_i2b, ax_b2_of hv]) a1 a2 d B.2.2.1)
  · cases e
theorem ax_creturn {v : Int} {w : Int × ax_H} (B : ax_BL l G X cc nL own fr lo) (Z : ax_Z X h0 (some .char)) (d : decode cc pc = .ok (.ireturn, 1)) (e : (if 0 ≤ v ∧ v < 65536 then some (v, h) else none) = some w) : ax_W G X (ax_Q G X h0 w.2 (some (.int (Int32.ofInt w.1)))) h pc ls [.int (Int32.ofInt v)] := by
  split at e
  · rename_i hv
    cases e
    intro H locs hH
    obtain ⟨a1, a2, a3, a4⟩ := ax_end (r := some (.int (Int32.ofInt v))) B Z hH
    exact W.widen a3 a4 (W.zret B.2.1.1 B.2.1.2.1 Z.2.2.2 (by show Value.int _ = _; rw [UInt32.toUInt32_toUInt16, ax_i2c, Int.emod_eq_of_lt hv.1 hv.2]) a1 a2 d B.2.2.1)
  · cases e
theorem ax_ovA (B : ax_BL l G X cc nL own fr lo) (hov : Cond.arrayOver (.array .int) ∈ lw_tbl) : (Cond.arrayOver (.array .int)).before X.2.2.2.2.2.2.1 X.2.2.2.2.1 = true := by
  have hal := B.2.2.2.1.1.alike
  obtain ⟨comp, c, k, h1, h2, h3, h4, h5⟩ := arrayOverA_spec (B.2.2.2.1.2.2.1 _ hov (Or.inr ⟨_, rfl⟩))
  obtain ⟨k', hk', he⟩ := hal.2.2 _ _ h3
  have q1 := va_idx_bare G.2.1.vm comp
  have q2 := va_idx_bare X.2.2.2.2.1.vm comp
  have q3 : X.2.2.2.2.1.vm.bare = G.2.1.vm.bare := by first | exact hal.bare_eq | exact hal.bare_eq.symm
  rw [q3] at q2
  have hi := q2.symm.trans (q1.trans h2)
  have hkind : k'.kind = .array comp (.array .int) := by rw [he]; exact h4
  have f1 : X.2.2.2.2.1.vm.findClass (FieldType.array .int).toString = some comp := by rw [hal.findClass]; exact h1
  have f2 : X.2.2.2.2.1.vm.findClass ("[" ++ (FieldType.array .int).toString) = some c := by rw [hal.findClass]; exact h5
  unfold Cond.before Cond.holds
  simp only [Cond.value]
  rw [f1, Option.bind_some]
  refine (congrArg (fun o : Option Nat => (o.bind (fun c => (X.2.2.2.2.1.vm.classes[c]?).map fun (k : Class) => match k.kind with | .array _ ty => decide (ty = FieldType.array .int) && decide (X.2.2.2.2.1.vm.findClass ("[" ++ (FieldType.array .int).toString) = some c) | _ => false) == some true)) hi).trans ?_
  simp [hk', hkind, f2]
theorem ax_anewA {α : Type} {index : Nat} {n : Int} {f : Nat × ax_H → Option α} {w : α} (B : ax_BL l G X cc nL own fr lo) (hcl : Cond.classLink own index "[I" ∈ lw_all) (hov : Cond.arrayOver (.array .int) ∈ lw_tbl) (d : decode cc pc = .ok (.anewarray index, 3)) (e : (ax_na G.2.2 h 111 n).bind f = some w)
    (kk : ∀ q : Nat × ax_H, f q = some w → ax_W G X Q q.2 (pc + 3) ls (va_rf (some q.1) :: rest)) : ax_W G X Q h pc ls (.int (Int32.ofInt n) :: rest) := by
  obtain ⟨⟨q0, h'⟩, e1, e2⟩ := ax_b e
  unfold ax_na at e1
  split at e1
  · rename_i hn
    intro H locs hH
    obtain ⟨⟨p1, p2, p3, p4⟩, -, ⟨p6, p7⟩, -⟩ := id hH
    have hb : h.1 + 1 ≤ G.2.2.1.1 ∧ h.2.1 + (i2 n).toNat ≤ G.2.2.1.2 := by
      unfold ax_nw at e1
      split at e1
      · assumption
      · cases e1
    have hRm := B.2.2.2.2.1
    have hAO : (Cond.arrayOver (.array .int)).before X.2.2.2.2.2.2.1 X.2.2.2.2.1 = true := ax_ovA B hov
    refine W.anewA (t := .int) B.2.1.1 B.2.1.2.1 B.2.1.2.2.2.1 (B.2.1.2.2.2.2 _ hcl) hAO rfl d rfl (fun q => by rw [ax_lt0] at q; omega) (by rw [ax_clamp]; omega) ?_ ?_ fun cA kA comp f1 f2 f3 f4 => ?_
    · rw [hRm]; show _ ≤ G.2.2.1.1 - _; omega
    · rw [hRm, ax_clamp]; show _ ≤ G.2.2.1.2 - _; omega
    · have g4 := ((ax_Kn B.2).2 111 _ kd111).2
      have hcA : cA = G.1.1 111 := Option.some.inj (f1.symm.trans g4)
      subst hcA
      rw [ax_clamp]
      generalize hH1 : H.push ({ cls := G.1.1 111, slots := Array.replicate (i2 n).toNat .null, vm := .none } : Cell) = H'
      have z2 : H'.size = H.size + 1 := by rw [← hH1, Array.size_push]
      have z1 : H'[H.size]? = some (arrV (G.1.1 111) (i2 n).toNat (fun _ => .null)) := by rw [← hH1, Array.getElem?_push_size, ← arrV_new]
      have z3 : ∀ q : Nat, q < H.size → H'[q]? = H[q]? := fun q hq => by rw [← hH1, Array.getElem?_push, if_neg (Nat.ne_of_lt hq)]
      obtain ⟨r1, r2, r3⟩ := ax_HH.new B.2 hH e1 z2 z3 z1 (arrV_size _ _ _) (ax_at.ofArr kd111 (by rw [z1]; rfl))
      subst r1
      have hk2 := kk _ e2 H' _ r2
      rw [z2, r3] at hk2
      have a1 : H.size + 1 - X.2.2.2.2.1.heap.size = H.size - X.2.2.2.2.1.heap.size + 1 := by omega
      have a2 : ax_sl H + (i2 n).toNat - ax_sl X.2.2.2.2.1.heap = ax_sl H - ax_sl X.2.2.2.2.1.heap + (i2 n).toNat := by omega
      rw [a1, a2] at hk2
      exact hk2
  · cases e1
theorem ax_WnA {p : Program} {l : Launch} {e : Env} {R : Room} {s : State} {m : MethodId} {args : Array Value} {below : List Frame} {meth : Method} {c : Code} {cells slots : Nat} (hexec : p.tables.exec = Jvm.exec) (hb : c.code = cc) {a : Addr} {cell : Cell} {j : Int32} (hcell : H[a]? = some cell) (harr : s.isArrayOf cell (.array .int)) (hknown : cell.vm ≠ .unknown) (hin : ¬ (j < 0 ∨ cell.slots.size ≤ j.toNatClampNeg))
    {g : JFrame} (hg : g.method = m) (hstack : g.stack = .null :: .int j :: .ref a :: rest) (hdg : decode cc g.pc = .ok (.aastore, 1))
    (kk : ∀ H' : Heap, H'[a]? = some (cell.setSlot j.toNatClampNeg .null) → H'.size = H.size → (∀ q, q ≠ a → H'[q]? = H[q]?) → W p l e R s m args below meth c H' (locs ++ [⟨a, j.toNatClampNeg⟩]) cells slots Q { g with pc := g.pc + 1, stack := rest }) :
    W p l e R s m args below meth c H locs cells slots Q g := by
  intro T hT X
  have hT' : T.heap[a]? = some cell := by rw [hT]; exact hcell
  have hT2 := State.isArrayOf_alike X.warmed.alike harr
  have hfit : T.fitsSlot cell.cls cell.vm j.toNatClampNeg .null = true := by
    obtain ⟨hobj, k, hk, comp, hkind⟩ := hT2
    cases hvm : cell.vm <;> first | exact absurd hvm (hobj _) | simp [State.fitsSlot, State.slotType?, hk, hkind, fits]
  have X' := X.stored hT' j.toNatClampNeg .null
  have st : ∀ target, Steps p.tables e below ((T.setCell a (cell.setSlot j.toNatClampNeg .null)).setTop { g with pc := g.pc + 1, stack := rest }) target → Steps p.tables e below (T.setTop g) target := by
    intro target hrest
    subst hg
    subst hb
    jvm_step X.here [hexec, hdg]
    refine aastore.wp_of_null (c := cell) (t := .array .int) X.here.top hstack hT' hT2 hin hknown (Nat.not_le.mp fun q => hin (Or.inr q)) hfit ?_
    intro acts
    rw [afterInstr_ok]
    exact hrest
  have hlt : a < T.heap.size := (Array.getElem?_eq_some_iff.mp hT').1
  obtain ⟨t', a1, b1⟩ := kk _ (heapAt_setCell_self _ hlt) (by rw [size_setCell, hT]) (fun q hq => by rw [heapAt_setCell_ne _ (Ne.symm hq), hT]) (T.setCell a (cell.setSlot j.toNatClampNeg .null)) rfl X'
  exact ⟨t', st t' a1, b1⟩
theorem ax_aastA {α : Type} {r vr : Option Nat} {i : Int} {f : ax_H → Option α} {w : α} (B : ax_BL l G X cc nL own fr lo) (hov : Cond.arrayOver (.array .int) ∈ lw_tbl) (d : decode cc pc = .ok (.aastore, 1)) (e : (ax_stR G.2.2 ax_ok1 h r 111 i vr).bind f = some w)
    (kk : ∀ h' : ax_H, f h' = some w → ax_W G X Q h' (pc + 1) ls rest) : ax_W G X Q h pc ls (va_rf vr :: .int (Int32.ofInt i) :: va_rf r :: rest) := by
  obtain ⟨h', e1, e2⟩ := ax_b e
  obtain ⟨⟨a, c⟩, e3, e4⟩ := ax_b e1
  obtain ⟨rfl, e5, e6⟩ := ax_wc_spec e3
  dsimp only at e4 e5 e6
  split at e4
  · rename_i hin
    obtain ⟨i1, i3, i4⟩ := ax_inI hin
    intro H locs hH
    have ht1 : ax_kd c.1 = some (.inr (.array .int)) := by rw [e6]; exact kd111
    have hc := (hH.2.1 a c e5).1.arr ht1
    have hA := ((ax_Kn B.2).2 _ _ ht1).1 c.2.1 (fun k => ax_v (.array .int) (c.2.2.1 k) (c.2.2.2 k))
    have fin : ∀ (H' : Heap) (v : Option Nat), f (ax_set h a (c.1, c.2.1, c.2.2.1, va_up c.2.2.2 (i2 i).toNat v)) = some w → H'[a]? = some ((arrV (G.1.1 c.1) c.2.1 (fun k => ax_v (.array .int) (c.2.2.1 k) (c.2.2.2 k))).setSlot (Int32.ofInt i).toNatClampNeg (va_rf v)) → H'.size = H.size → (∀ q : Nat, q ≠ a → H'[q]? = H[q]?) → W X.1 X.2.1 X.2.2.1 X.2.2.2.1 X.2.2.2.2.1 X.2.2.2.2.2.1 X.2.2.2.2.2.2.1 X.2.2.2.2.2.2.2.1 X.2.2.2.2.2.2.2.2.1 X.2.2.2.2.2.2.2.2.2.1 H' (locs ++ [⟨a, (Int32.ofInt i).toNatClampNeg⟩]) (H.size - X.2.2.2.2.1.heap.size) (ax_sl H - ax_sl X.2.2.2.2.1.heap) Q (F0 X.2.2.2.2.2.1 (pc + 1) ls rest) := by
      intro H' v e2 z1 z2 z3
      rw [i4] at z1
      obtain ⟨hH', hs'⟩ := ax_HH.put (c' := (c.1, c.2.1, c.2.2.1, va_up c.2.2.2 (i2 i).toNat v)) (i := (Int32.ofInt i).toNatClampNeg) hH e5 (ax_arrS (v := va_rf v) (i := (i2 i).toNat) ht1 rfl rfl (fun j => by
        by_cases hj : j = (i2 i).toNat
        · subst hj
          rw [if_pos rfl]
          simp [ax_v, va_up]
        · rw [if_neg hj]
          simp [va_up, hj]) z1) z2 z3 hc z1 (by simp [Cell.setSlot])
      have hk2 := kk _ e2 H' _ hH'
      rw [z2, hs'] at hk2
      exact hk2
    split at e4
    · cases e4
      exact ax_WnA B.2.1.1 B.2.1.2.1 hc hA (fun q => by cases q) (by rw [arrV_size]; exact i1) rfl rfl d fun H' z1 z2 z3 => fin H' none e2 z1 z2 z3
    · rename_i b
      obtain ⟨cv, g1, g2⟩ := ax_b e4
      split at g2
      · rename_i hk
        cases g2
        have hb9 : h.2.2 b = some cv := by
          have h9 := hk.2.resolve_left (fun q => q (of_decide_eq_true hk.1))
          obtain ⟨c9, h8⟩ := Option.isSome_iff_exists.mp h9
          unfold ax_rd at g1
          rw [h8] at g1
          rw [h8]
          exact g1
        obtain ⟨cell, y1, y2, y3⟩ := (hH.2.1 b cv hb9).1.cell
        obtain ⟨comp, cA, kA, k3, -, k1, k2, k4⟩ := arrayOverA_spec (ax_ovA (X := X) B hov)
        have hcA : cA = G.1.1 c.1 := Option.some.inj (k4.symm.trans (by have := ((ax_Kn B.2).2 _ _ ht1).2; exact this))
        subst hcA
        obtain ⟨kE, hkE, -⟩ := Vm.findClass_spec k3
        have hc100 : comp = G.1.1 cv.1 := by
          have ht5 : cv.1 = 100 := of_decide_eq_true hk.1
          rw [ht5]
          have h5 := ((ax_Kn B.2).2 100 _ kd100).2
          exact Option.some.inj (k3.symm.trans h5)
        exact W.aast B.2.1.1 B.2.1.2.1 hc (fun q h => by cases h) (fun h => by cases h) k1 k2 rfl hkE ⟨fun q => i1 (Or.inl q), by rw [arrV_size]; exact i3⟩ y1 (fun q h => by rw [y2] at h; cases h) (by rw [y3, ← hc100]; exact hkE) (by rw [y3, ← hc100]; exact va_asg _ _) rfl rfl d fun H' z1 z2 z3 => fin H' (some b) e2 z1 z2 z3
      · cases g2
  · cases e4
theorem ax_fillS (s : State) (c comp : ClassId) (N M : Nat) (dv : Value) : ∀ i, ax_sl (Jvm.Free.Multi.fill s c comp N M dv i).heap = ax_sl s.heap + N + i * M
  | 0 => by
    have h1 := (Jvm.Free.Multi.fill_facts s c comp N M dv 0)
    have h2 := ax_sl_new (H := s.heap) (H' := (Jvm.Free.Multi.fill s c comp N M dv 0).heap) h1.1 (fun q hq => Jvm.Free.Multi.fill_old s c comp N M dv hq 0) h1.2.1
    rw [h2, (Jvm.Free.Multi.outerC_facts c N _ 0).2.2]
    omega
  | i + 1 => by
    have f := Jvm.Free.Multi.fill_facts s c comp N M dv i
    have hlt : s.heap.size < (Jvm.Free.Multi.fill s c comp N M dv i).heap.size := by omega
    have hb' : ((Jvm.Free.Multi.fill s c comp N M dv i).pushCell (Jvm.Free.Multi.innerC comp M dv)).heap[s.heap.size]? = some (Jvm.Free.Multi.outerC c N s.heap.size i) := by rw [State.heap_pushCell_of_lt (h := hlt)]; exact f.2.1
    have e1 : ax_sl ((Jvm.Free.Multi.fill s c comp N M dv i).pushCell (Jvm.Free.Multi.innerC comp M dv)).heap = ax_sl (Jvm.Free.Multi.fill s c comp N M dv i).heap + M := by
      have h2 := ax_sl_new (H := (Jvm.Free.Multi.fill s c comp N M dv i).heap) (H' := ((Jvm.Free.Multi.fill s c comp N M dv i).pushCell (Jvm.Free.Multi.innerC comp M dv)).heap) (c := Jvm.Free.Multi.innerC comp M dv) (by simp) (fun q hq => State.heap_pushCell_of_lt (h := hq) ..) (by simp)
      rw [h2]
      simp [Jvm.Free.Multi.innerC]
    have e2 : ax_sl (Jvm.Free.Multi.fill s c comp N M dv (i + 1)).heap = ax_sl ((Jvm.Free.Multi.fill s c comp N M dv i).pushCell (Jvm.Free.Multi.innerC comp M dv)).heap := by
      refine ax_sl_of (by simp [Jvm.Free.Multi.fill, State.setCell]) fun q d hq => ?_
      by_cases e : q = s.heap.size
      · subst e
        rw [hb'] at hq
        cases hq
        exact ⟨_, State.heap_setCell_self hb', by rw [(Jvm.Free.Multi.outerC_facts c N _ (i + 1)).2.2, (Jvm.Free.Multi.outerC_facts c N _ i).2.2]⟩
      · exact ⟨d, by show (State.setCell _ _ _).heap[q]? = _; rw [State.heap_setCell_other (Ne.symm e)]; exact hq, rfl⟩
    rw [e2, e1, ax_fillS s c comp N M dv i, Nat.succ_mul]
    omega
theorem ax_outer (c : ClassId) (N h0 : Nat) : ∀ i, i ≤ N → Jvm.Free.Multi.outerC c N h0 i = arrV c N (fun j => if j < i then .ref (h0 + 1 + j) else .null)
  | 0, _ => by
    rw [show Jvm.Free.Multi.outerC c N h0 0 = { cls := c, slots := Array.replicate N .null, vm := .none } from rfl, arrV_new]
    congr 1
  | i + 1, hi => by
    rw [show Jvm.Free.Multi.outerC c N h0 (i + 1) = (Jvm.Free.Multi.outerC c N h0 i).setSlot i (.ref (h0 + 1 + i)) from rfl, ax_outer c N h0 i (by omega), arrV_store]
    congr 1
    funext j
    by_cases h1 : j = i
    · subst h1; simp [updV]
    · by_cases h2 : j < i
      · simp [updV, h1, h2, Nat.lt_succ_of_lt h2]
      · have : ¬ j < i + 1 := by omega
        simp [updV, h1, h2, this]
theorem ax_ma2 {α : Type} {index : Nat} {n m : Int} {f : Nat × ax_H → Option α} {w : α} (B : ax_BL l G X cc nL own fr lo) (hcl : Cond.classLink own index "[[I" ∈ lw_all) (hov : Cond.arrayOver (.array .int) ∈ lw_tbl) (harr : Cond.arrayClass .int ∈ lw_all) (d : decode cc pc = .ok (.multianewarray index 2, 4)) (e : (ax_nm G.2.2 h n m).bind f = some w) (kk : ∀ q : Nat × ax_H, f q = some w → ax_W G X Q q.2 (pc + 4) ls (va_rf (some q.1) :: rest)) : ax_W G X Q h pc ls (.int (Int32.ofInt m) :: .int (Int32.ofInt n) :: rest) := by
  obtain ⟨⟨q0, h'⟩, e1, e2⟩ := ax_b e
  unfold ax_nm at e1
  split at e1
  · rename_i hn
    cases e1
    intro H locs hH T hT XS
    subst hT
    have hH0 := hH
    obtain ⟨⟨p1, p2, p3, p4⟩, p5, ⟨p6, p7⟩, p8, p9⟩ := hH0
    have hRm := B.2.2.2.2.1
    obtain ⟨vm₁, cA, comp, hW, hfA, hfC, hO, hI, X1, step⟩ := XS.multianewarray2F (ty := .int) B.2.1.1 B.2.1.2.2.2.1 (B.2.1.2.2.2.2 _ hcl) (ax_ovA B hov) (B.2.1.2.2.2.2 _ harr) (g := F0 X.2.2.2.2.2.1 pc ls (.int (Int32.ofInt m) :: .int (Int32.ofInt n) :: rest)) rfl (by rw [B.2.1.2.1]; exact d) (n := Int32.ofInt n) (k := Int32.ofInt m) rfl (fun q => by rw [ax_lt0] at q; omega) (fun q => by rw [ax_lt0] at q; omega) (by rw [ax_clamp]; omega) (by rw [ax_clamp]; show _ * 4 ≤ _; omega) (by rw [ax_clamp]; omega) rfl rfl (by rw [hRm, ax_clamp]; show _ ≤ G.2.2.1.1 - _; omega) (by rw [hRm, ax_clamp, ax_clamp]; show _ ≤ G.2.2.1.2 - _; omega)
    rw [ax_clamp, ax_clamp] at X1 step
    have hcA : cA = G.1.1 111 := Option.some.inj (hfA.symm.trans ((ax_Kn B.2).2 111 _ kd111).2)
    have hcC : comp = G.1.1 100 := Option.some.inj (hfC.symm.trans ((ax_Kn B.2).2 100 _ kd100).2)
    subst hcA; subst hcC
    have hfc := Jvm.Free.Multi.fill_facts (T.setVm vm₁) (G.1.1 111) (G.1.1 100) (i2 n).toNat (i2 m).toNat (defaultValue .int) (i2 n).toNat
    have hfs := ax_fillS (T.setVm vm₁) (G.1.1 111) (G.1.1 100) (i2 n).toNat (i2 m).toNat (defaultValue .int) (i2 n).toNat
    have hfo := fun (q : Nat) (hq : q < T.heap.size) => Jvm.Free.Multi.fill_old (T.setVm vm₁) (G.1.1 111) (G.1.1 100) (i2 n).toNat (i2 m).toNat (defaultValue .int) hq (i2 n).toNat
    have hfi := Jvm.Free.Multi.fill_inner (T.setVm vm₁) (G.1.1 111) (G.1.1 100) (i2 n).toNat (i2 m).toNat (defaultValue .int) (i2 n).toNat
    generalize hF : Jvm.Free.Multi.fill (T.setVm vm₁) (G.1.1 111) (G.1.1 100) (i2 n).toNat (i2 m).toNat (defaultValue .int) (i2 n).toNat = T1 at *
    have z0 : (T.setVm vm₁).heap = T.heap := rfl
    rw [z0] at hfc hfs hfo hfi
    have hH' : ax_HH G X (h.1 + 1 + (i2 n).toNat, h.2.1 + ((i2 n).toNat + (i2 n).toNat * (i2 m).toNat), fun q => if q = h.1 then some (111, (i2 n).toNat, (fun _ => 0), fun j => if j < (i2 n).toNat then some (h.1 + 1 + j) else none) else if h.1 < q ∧ q < h.1 + 1 + (i2 n).toNat then some (100, (i2 m).toNat, (fun _ => 0), fun _ => none) else h.2.2 q) T1.heap locs := by
      refine ⟨⟨by rw [hfc.1, p1], by rw [hfs, p2]; dsimp only; omega, hn.2.2.2.2.1, hn.2.2.2.2.2⟩, fun q c hq => ?_, ⟨by rw [hfc.1]; omega, by rw [hfs]; omega⟩, fun q q1 q2 => ?_, p9⟩
      · dsimp only at hq
        split at hq
        · rename_i hq1
          cases hq
          subst hq1
          refine ⟨ax_at.ofArr kd111 ?_, B.2.2.2.2.2.1 _ (by rw [← p1]; exact p6)⟩
          rw [← p1, hfc.2.1, ax_outer _ _ _ _ (Nat.le_refl _)]
          congr 2
          funext j
          dsimp only
          split <;> rfl
        · split at hq
          · rename_i hq1 hq2
            cases hq
            refine ⟨ax_at.ofArr kd100 ?_, B.2.2.2.2.2.1 _ (by omega)⟩
            have := hfi (q - (T.heap.size + 1)) (by omega)
            rw [show T.heap.size + 1 + (q - (T.heap.size + 1)) = q by omega] at this
            rw [this]
            show some (Jvm.Free.Multi.innerC _ _ _) = _
            rw [show Jvm.Free.Multi.innerC (G.1.1 100) (i2 m).toNat (defaultValue .int) = { cls := G.1.1 100, slots := Array.replicate (i2 m).toNat (defaultValue .int), vm := .none } from rfl, arrV_new]
            rfl
          · have h5 := p5 q c hq
            exact ⟨h5.1.kept (hfo q h5.1.lt), h5.2⟩
      · rw [hfo q (by omega)]
        exact p8 q q1 q2
    have hsz : T1.heap.size - X.2.2.2.2.1.heap.size = T.heap.size - X.2.2.2.2.1.heap.size + 1 + (i2 n).toNat := by rw [hfc.1]; omega
    have hss : ax_sl T1.heap - ax_sl X.2.2.2.2.1.heap = ax_sl T.heap - ax_sl X.2.2.2.2.1.heap + (i2 n).toNat + (i2 n).toNat * (i2 m).toNat := by rw [hfs]; omega
    have hk2 := kk _ e2 T1.heap locs hH' T1 rfl (by rw [hsz, hss]; exact X1)
    obtain ⟨t, a1, b1⟩ := hk2
    refine ⟨t, step t ?_, b1⟩
    have : T.heap.size = h.1 := p1
    rw [this]
    exact a1
  · cases e1
theorem ax_getCI {α : Type} {f : Option Nat → Option α} {w : α} {index count : Nat} {r : Option Nat} (B : ax_BL l G X cc nL own fr lo) (hl : Cond.methodLink own index ⟨"java/util/Collection", "getClass", "()Ljava/lang/Class;"⟩ ∈ lw_all) (hdc : Cond.declares ⟨"java/lang/Object", "getClass", "()Ljava/lang/Class;"⟩ ∈ lw_tbl) (hfc : Cond.interfaceMethod "java/util/Collection" "java/lang/Object" "getClass" "()Ljava/lang/Class;" ∈ lw_tbl) (hsel : Cond.selects "java/util/ArrayList" ⟨"java/lang/Object", "getClass", "()Ljava/lang/Class;"⟩ ⟨"java/lang/Object", "getClass", "()Ljava/lang/Class;"⟩ ∈ lw_all) (hin : Cond.instanceMethod ⟨"java/lang/Object", "getClass", "()Ljava/lang/Class;"⟩ ∈ lw_all)
    (hpub : Cond.publicMethod ⟨"java/lang/Object", "getClass", "()Ljava/lang/Class;"⟩ ∈ lw_tbl) (hunh : Cond.unhidden "java/util/ArrayList" "getClass" "()Ljava/lang/Class;" ∈ lw_tbl) (hcast : Cond.castable "java/util/ArrayList" "java/util/Collection" ∈ lw_tbl) (hna : Cond.native ⟨"java/lang/Object", "getClass", "()Ljava/lang/Class;"⟩ ∈ lw_all) (hz : ls.size = nL) (hfr : 1 ≤ fr) (hlo : (rest.map fun v => v.category).sum + 14 ≤ lo) (d : decode cc pc = .ok (.invokeinterface index count, 5)) (e : ((ax_ce G.2.2 h r 42).bind fun _ => (ax_cst G.2.2 5).bind f) = some w) (kk : ∀ v, f v = some w → ax_W G X Q h (pc + 5) ls (va_rf v :: rest)) : ax_W G X Q h pc ls (va_rf r :: rest) := by
  intro H locs hH
  obtain ⟨c0, e0, e3⟩ := ax_b e
  obtain ⟨b, q, cell, y1, y2, y3⟩ := ax_recv B hH kd42 e0
  subst q
  obtain ⟨c1, c2, -⟩ := ax_roomR B
  obtain ⟨cB, kB, m1, m2, m3⟩ := va_Mi.moved B.2.2.2.1.1.alike (ax_sx B).2.2.2.1
  cases m1.symm.trans y3
  have nw : ∀ w ∈ lw_tbl, w.onTables = true → w.before #[] G.2.1 = true := fun w hw ho => B.2.2.2.1.2.2.1 _ hw (Or.inl ho)
  have hal := B.2.2.2.1.1.alike
  have mv : ∀ w : Cond, w.onTables = true → w.before #[] (G.2.1.setVm X.2.2.2.2.1.vm) = w.before #[] G.2.1 → w.before #[] G.2.1 = true → w.before X.2.2.2.2.2.2.1 X.2.2.2.2.1 = true := fun w ho h1 h2 => va_tabs ho (rfl : (G.2.1.setVm X.2.2.2.2.1.vm).vm = X.2.2.2.2.1.vm) (by rw [h1]; exact h2)
  intro T hT XS
  have hface : (Cond.interfaceMethod "java/util/Collection" "java/lang/Object" "getClass" "()Ljava/lang/Class;").before X.2.2.2.2.2.2.1 X.2.2.2.2.1 = true := by
    exact mv _ rfl (by simp only [Cond.before, Cond.holds, Cond.value, State.vm_setVm, hal.findClass, State.methodFound?_setVm hal, State.methodNamed?_setVm hal, arm_isInterface_setVm hal]) (nw _ hfc rfl)
  have hselI : (Cond.selects "java/util/ArrayList" ⟨"java/util/Collection", "getClass", "()Ljava/lang/Class;"⟩ ⟨"java/lang/Object", "getClass", "()Ljava/lang/Class;"⟩).before X.2.2.2.2.2.2.1 X.2.2.2.2.1 = true := by
    obtain ⟨cL, kL, r1, hcL, hkL, hiL, hfoundL, hn1⟩ := Cond.interfaceMethod_spec hface
    obtain ⟨c2, r2, m2, q1, q2, q3, q4, kP, hkP, hkPi⟩ := Cond.selects_spec (B.2.1.2.2.2.2 _ hsel)
    have q5 := State.methodFound?_of_named q3 ⟨by decide +kernel, by decide +kernel⟩
    cases q2.symm.trans q5
    cases hn1.symm.trans q3
    simp only [Cond.before, Cond.holds, Cond.value, q1, hfoundL, q3, q4, hkP]
    simp
    exact hkPi
  obtain ⟨vm', X', st⟩ := XS.getClassOfI B.2.1.1 (xi := ⟨"java/util/Collection", "getClass", "()Ljava/lang/Class;"⟩) B.2.1.2.2.2.1 (B.2.1.2.2.2.2 _ hl) (mv _ rfl (Cond.declares_setVm hal ..) (nw _ hdc rfl)) hface hselI (B.2.1.2.2.2.2 _ hin) (mv _ rfl (Cond.publicMethod_setVm hal ..) (nw _ hpub rfl)) (mv _ rfl (Cond.unhidden_setVm hal ..) (nw _ hunh rfl)) (mv _ rfl (Cond.castable_setVm hal ..) (nw _ hcast rfl)) (B.2.1.2.2.2.2 _ hna) ⟨by decide +kernel, by decide +kernel⟩ (by decide +kernel) rfl rfl m1 m2 ⟨cell, by rw [hT]; exact y1, rfl, y2⟩ m3 (g := F0 X.2.2.2.2.2.1 pc ls (va_rf (some b) :: rest)) rfl (hz.trans B.2.1.2.2.1.symm) rfl (by rw [B.2.1.2.1]; exact d) (by rw [c1]; exact hfr) (by rw [c2]; show 2 * 0 + _ + _ ≤ _; have hw : nativeFrameWords "java/lang/Object" "getClass" 1 = 3 := (by decide); omega)
  obtain ⟨t, a1, b1⟩ := kk _ e3 H locs hH (T.setVm vm') hT X'
  exact ⟨t, st t a1, b1⟩
end AXH
