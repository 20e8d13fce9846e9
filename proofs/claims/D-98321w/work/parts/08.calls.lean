/-! ROWS: calls, by kind and by what comes back -/
set_option maxRecDepth 100000
section AXK
variable {l : Launch} {G : ax_G} {X : ax_X} {Q : State → Prop} {h : ax_H} {cc : ByteArray} {nL fr lo pc : Nat} {own : String} {ls : Array Slot} {rest : List Value}
theorem ax_recv {H : Heap} {locs : List Loc} {C : String} {T : u_T} {N t : Nat} {ty : Nat → FieldType} {r : Option Nat} {c : ax_C} (B : ax_BL l G X cc nL own fr lo) (hH : ax_HH G X h H locs) (ht : ax_kd t = some (.inl (C, T, N, ty))) (e : ax_ce G.2.2 h r t = some c) : ∃ b : Nat, r = some b ∧ ∃ cell : Cell, H[b]? = some cell ∧ cell.vm.isStatics = false ∧ X.2.2.2.2.1.vm.findClass C = some cell.cls := by
  obtain ⟨b, rfl, e3, e4⟩ := ax_ce_spec e
  obtain ⟨cell, y1, y2, y3⟩ := (ax_read B.2 hH e3).cellO (by rw [e4]; exact ht)
  refine ⟨b, rfl, cell, y1, y2.1, ?_⟩
  rw [y3, e4]
  exact ((ax_Kn B.2).1 t _ ht).2.1
theorem ax_roomR (B : ax_BL l G X cc nL own fr lo) : X.2.2.2.1.frames = fr ∧ X.2.2.2.1.locals = lo ∧ X.2.2.2.1.cells = G.2.2.1.1 - X.2.2.2.2.1.heap.size ∧ X.2.2.2.1.slots = G.2.2.1.2 - ax_sl X.2.2.2.2.1.heap := by
  rw [B.2.2.2.2.1]; exact ⟨rfl, rfl, rfl, rfl⟩
/-- the room of a callee is there -/
theorem ax_fits {H : Heap} {locs : List Loc} (B : ax_BL l G X cc nL own fr lo) (hH : ax_HH G X h H locs) : H.size - X.2.2.2.2.1.heap.size + (G.2.2.1.1 - h.1) ≤ X.2.2.2.1.cells ∧ ax_sl H - ax_sl X.2.2.2.2.1.heap + (G.2.2.1.2 - h.2.1) ≤ X.2.2.2.1.slots := by
  obtain ⟨-, -, c1, c2⟩ := ax_roomR B
  obtain ⟨⟨g1, g2, g3, g4⟩, g5, ⟨g6, g7⟩, -⟩ := hH
  rw [c1, c2]
  omega

theorem ax_ivI {α : Type} {y : MethodName} {bytes : ByteArray} {L n fr1 lo1 index : Nat} {ret : Option FieldType} {As : List Value} {callee : Option (Int × ax_H)} {f : Int × ax_H → Option α} {w : α} {C : String} {T : u_T} {N t : Nat} {ty : Nat → FieldType} {r : Option Nat} (B : ax_BL l G X cc nL own fr lo) (ht : ax_kd t = some (.inl (C, T, N, ty))) (hcw : GoodIn lw_all (wsV own index C y (ws_ y bytes L ret))) (hd : y.cls = C ∧ y.cls ≠ "java/lang/invoke/MethodHandle" ∧ y.cls ≠ "java/lang/invoke/VarHandle" ∧ (parseMethodDescriptor y.desc).map (fun d => d.parameters.length) = some n) (hR : fr1 + 1 ≤ fr ∧ 8 + (L + 11) + lo1 ≤ lo) (hM : ∀ w1, callee = some w1 → ax_Met l G y bytes L ret fr1 lo1 (va_rf r :: As) h w1.2 (some (.int (Int32.ofInt w1.1)))) (hn : As.length = n) (hz : ls.size = nL) (hrest : (rest.map fun v => v.category).sum ≤ 8) (d : decode cc pc = .ok (.invokevirtual index, 3)) (e : ((ax_ce G.2.2 h r t).bind fun _ => callee.bind f) = some w) (k : ∀ w1, f w1 = some w → ax_W G X Q w1.2 (pc + 3) ls (.int (Int32.ofInt w1.1) :: rest)) : ax_W G X Q h pc ls (As.reverse ++ va_rf r :: rest) := by
  have hlx := B.1
  subst hlx
  obtain ⟨c0, e0, e3⟩ := ax_b e
  obtain ⟨w1, e1, e2⟩ := ax_b e3
  have hr : ∃ b, r = some b := by
    obtain ⟨b, q, -⟩ := ax_ce_spec e0
    exact ⟨b, q⟩
  obtain ⟨b, rfl⟩ := hr
  refine ax_call B (rest := rest) (arr := (Value.ref b :: As).toArray) (res := (some (.int (Int32.ofInt w1.1)))) (fun H locs hH => ?_) (k w1 e2)
  obtain ⟨b', q, cell, y1, y2, y3⟩ := ax_recv B hH ht e0
  cases q
  exact va_runV (C := C) (b := b) (As := As) (rest := rest) B.2.1 (hM w1 e1) (cwV n B.2.1.2.2.2.2 hcw rfl rfl rfl hd (by obtain ⟨c1, c2, -⟩ := ax_roomR B; rw [c1, c2]; exact hR)) ⟨ax_blind, ⟨cell, y1, y2, y3⟩, fun U hU hW => ⟨rfl, ax_ready B hH U hU hW⟩⟩ rfl hn hz rfl (lv_room hrest) d (ax_fits B hH)
theorem ax_ivNI {α : Type} {y : MethodName} {bytes : ByteArray} {L n fr1 lo1 index : Nat} {ret : Option FieldType} {As : List Value} {callee : Option (Int × ax_H)} {f : Int × ax_H → Option α} {w : α} {C : String} {T : u_T} {N t : Nat} {ty : Nat → FieldType} {r : Option Nat} (B : ax_BL l G X cc nL own fr lo) (ht : ax_kd t = some (.inl (C, T, N, ty))) {host : String} (hl : Cond.methodLinkNest own index y host ∈ lw_tbl) (hw1 : Cond.instanceMethod y ∈ lw_all) (hw2 : Cond.selects C y y ∈ lw_all) (hw3 : Cond.initialized y.cls ∈ lw_all) (hw4 : Cond.code y bytes L ret ∈ lw_all) (hd : y.cls = C ∧ y.cls ≠ "java/lang/invoke/MethodHandle" ∧ y.cls ≠ "java/lang/invoke/VarHandle" ∧ (parseMethodDescriptor y.desc).map (fun d => d.parameters.length) = some n) (hR : fr1 + 1 ≤ fr ∧ 8 + (L + 11) + lo1 ≤ lo) (hM : ∀ w1, callee = some w1 → ax_Met l G y bytes L ret fr1 lo1 (va_rf r :: As) h w1.2 (some (.int (Int32.ofInt w1.1)))) (hn : As.length = n) (hz : ls.size = nL) (hrest : (rest.map fun v => v.category).sum ≤ 8) (d : decode cc pc = .ok (.invokevirtual index, 3)) (e : ((ax_ce G.2.2 h r t).bind fun _ => callee.bind f) = some w) (k : ∀ w1, f w1 = some w → ax_W G X Q w1.2 (pc + 3) ls (.int (Int32.ofInt w1.1) :: rest)) : ax_W G X Q h pc ls (As.reverse ++ va_rf r :: rest) := by
  have hlx := B.1
  subst hlx
  obtain ⟨c0, e0, e3⟩ := ax_b e
  obtain ⟨w1, e1, e2⟩ := ax_b e3
  have hr : ∃ b, r = some b := by
    obtain ⟨b, q, -⟩ := ax_ce_spec e0
    exact ⟨b, q⟩
  obtain ⟨b, rfl⟩ := hr
  refine ax_call B (rest := rest) (arr := (Value.ref b :: As).toArray) (res := (some (.int (Int32.ofInt w1.1)))) (fun H locs hH => ?_) (k w1 e2)
  obtain ⟨b', q, cell, y1, y2, y3⟩ := ax_recv B hH ht e0
  cases q
  exact va_runVN (C := C) (b := b) (As := As) (rest := rest) B.2.1 (hM w1 e1) ⟨va_cnB n B.2.1.2.2.2.2 (lw_meth hw4) rfl rfl rfl (va_Nw.warmM B.2.2.2.1.1 (B.2.2.2.1.2.2.1 _ hl (Or.inl rfl))) (B.2.1.2.2.2.2 _ hw3) hd.2 (by obtain ⟨c1, c2, -⟩ := ax_roomR B; rw [c1, c2]; exact hR), B.2.1.2.2.2.2 _ hw1, B.2.1.2.2.2.2 _ hw2⟩ ⟨ax_blind, ⟨cell, y1, y2, y3⟩, fun U hU hW => ⟨rfl, ax_ready B hH U hU hW⟩⟩ rfl hn hz rfl (lv_room hrest) d (ax_fits B hH)
theorem ax_isI {α : Type} {y : MethodName} {bytes : ByteArray} {L n fr1 lo1 index : Nat} {ret : Option FieldType} {As : List Value} {callee : Option (Int × ax_H)} {f : Int × ax_H → Option α} {w : α} (B : ax_BL l G X cc nL own fr lo) (hcw : GoodIn lw_all (va_wsS own index y (ws_ y bytes L ret))) (hd : y.cls ≠ "java/lang/invoke/MethodHandle" ∧ y.cls ≠ "java/lang/invoke/VarHandle" ∧ (parseMethodDescriptor y.desc).map (fun d => d.parameters.length) = some n) (hR : fr1 + 1 ≤ fr ∧ 8 + (L + 11) + lo1 ≤ lo) (hM : ∀ w1, callee = some w1 → ax_Met l G y bytes L ret fr1 lo1 As h w1.2 (some (.int (Int32.ofInt w1.1)))) (hn : As.length = n) (hz : ls.size = nL) (hrest : (rest.map fun v => v.category).sum ≤ 8) (d : decode cc pc = .ok (.invokestatic index, 3)) (e : callee.bind f = some w) (k : ∀ w1, f w1 = some w → ax_W G X Q w1.2 (pc + 3) ls (.int (Int32.ofInt w1.1) :: rest)) : ax_W G X Q h pc ls (As.reverse ++ rest) := by
  have hlx := B.1
  subst hlx
  obtain ⟨w1, e1, e2⟩ := ax_b e
  refine ax_call B (rest := rest) (arr := As.toArray) (res := (some (.int (Int32.ofInt w1.1)))) (fun H locs hH => ?_) (k w1 e2)
  exact va_runS (As := As) (rest := rest) B.2.1 (hM w1 e1) (va_cwS n B.2.1.2.2.2.2 hcw rfl rfl rfl hd (by obtain ⟨c1, c2, -⟩ := ax_roomR B; rw [c1, c2]; exact hR)) ⟨ax_blind, fun U hU hW => ⟨rfl, ax_ready B hH U hU hW⟩⟩ rfl hn hz rfl (lv_room hrest) d (ax_fits B hH)
theorem ax_isNI {α : Type} {y : MethodName} {bytes : ByteArray} {L n fr1 lo1 index : Nat} {ret : Option FieldType} {As : List Value} {callee : Option (Int × ax_H)} {f : Int × ax_H → Option α} {w : α} (B : ax_BL l G X cc nL own fr lo) {host : String} (hl : Cond.methodLinkNest own index y host ∈ lw_tbl) (hw1 : Cond.static y ∈ lw_all) (hw3 : Cond.initialized y.cls ∈ lw_all) (hw4 : Cond.code y bytes L ret ∈ lw_all) (hd : y.cls ≠ "java/lang/invoke/MethodHandle" ∧ y.cls ≠ "java/lang/invoke/VarHandle" ∧ (parseMethodDescriptor y.desc).map (fun d => d.parameters.length) = some n) (hR : fr1 + 1 ≤ fr ∧ 8 + (L + 11) + lo1 ≤ lo) (hM : ∀ w1, callee = some w1 → ax_Met l G y bytes L ret fr1 lo1 As h w1.2 (some (.int (Int32.ofInt w1.1)))) (hn : As.length = n) (hz : ls.size = nL) (hrest : (rest.map fun v => v.category).sum ≤ 8) (d : decode cc pc = .ok (.invokestatic index, 3)) (e : callee.bind f = some w) (k : ∀ w1, f w1 = some w → ax_W G X Q w1.2 (pc + 3) ls (.int (Int32.ofInt w1.1) :: rest)) : ax_W G X Q h pc ls (As.reverse ++ rest) := by
  have hlx := B.1
  subst hlx
  obtain ⟨w1, e1, e2⟩ := ax_b e
  refine ax_call B (rest := rest) (arr := As.toArray) (res := (some (.int (Int32.ofInt w1.1)))) (fun H locs hH => ?_) (k w1 e2)
  exact va_runSN (As := As) (rest := rest) B.2.1 (hM w1 e1) ⟨va_cnB n B.2.1.2.2.2.2 (lw_meth hw4) rfl rfl rfl (va_Nw.warmM B.2.2.2.1.1 (B.2.2.2.1.2.2.1 _ hl (Or.inl rfl))) (B.2.1.2.2.2.2 _ hw3) hd (by obtain ⟨c1, c2, -⟩ := ax_roomR B; rw [c1, c2]; exact hR), B.2.1.2.2.2.2 _ hw1, trivial⟩ ⟨ax_blind, fun U hU hW => ⟨rfl, ax_ready B hH U hU hW⟩⟩ rfl hn hz rfl (lv_room hrest) d (ax_fits B hH)
theorem ax_iuI {α : Type} {y : MethodName} {bytes : ByteArray} {L n fr1 lo1 index : Nat} {ret : Option FieldType} {As : List Value} {callee : Option (Int × ax_H)} {f : Int × ax_H → Option α} {w : α} {x : MethodName} {owner C : String} {T : u_T} {N t : Nat} {ty : Nat → FieldType} {r : Option Nat} (B : ax_BL l G X cc nL own fr lo) (ht : ax_kd t = some (.inl (C, T, N, ty))) (hcw : ∀ (R : Room), fr1 + 1 ≤ R.frames ∧ 8 + (L + 11) + lo1 ≤ R.locals → va_CU R X.2.2.2.2.1 X.2.2.2.2.2.2.1 own C owner index x y bytes L ret (ws_ y bytes L ret) (ax_rm G fr1 lo1 h) (G.2.2.1.1 - h.1) (G.2.2.1.2 - h.2.1) n) (hR : fr1 + 1 ≤ fr ∧ 8 + (L + 11) + lo1 ≤ lo) (hM : ∀ w1, callee = some w1 → ax_Met l G y bytes L ret fr1 lo1 (va_rf r :: As) h w1.2 (some (.int (Int32.ofInt w1.1)))) (hn : As.length = n) (hz : ls.size = nL) (hrest : (rest.map fun v => v.category).sum ≤ 8) (d : decode cc pc = .ok (.invokevirtual index, 3)) (e : ((ax_ce G.2.2 h r t).bind fun _ => callee.bind f) = some w) (k : ∀ w1, f w1 = some w → ax_W G X Q w1.2 (pc + 3) ls (.int (Int32.ofInt w1.1) :: rest)) : ax_W G X Q h pc ls (As.reverse ++ va_rf r :: rest) := by
  have hlx := B.1
  subst hlx
  obtain ⟨c0, e0, e3⟩ := ax_b e
  obtain ⟨w1, e1, e2⟩ := ax_b e3
  have hr : ∃ b, r = some b := by
    obtain ⟨b, q, -⟩ := ax_ce_spec e0
    exact ⟨b, q⟩
  obtain ⟨b, rfl⟩ := hr
  refine ax_call B (rest := rest) (arr := (Value.ref b :: As).toArray) (res := (some (.int (Int32.ofInt w1.1)))) (fun H locs hH => ?_) (k w1 e2)
  obtain ⟨b', q, cell, y1, y2, y3⟩ := ax_recv B hH ht e0
  cases q
  exact va_runU (C := C) (b := b) (As := As) (rest := rest) B.2.1 (hM w1 e1) (hcw _ (by obtain ⟨c1, c2, -⟩ := ax_roomR B; rw [c1, c2]; exact hR)) ⟨ax_blind, ⟨cell, y1, y2, y3⟩, fun U hU hW => ⟨rfl, ax_ready B hH U hU hW⟩⟩ rfl hn hz rfl (lv_room hrest) d (ax_fits B hH)
theorem ax_ivL {α : Type} {y : MethodName} {bytes : ByteArray} {L n fr1 lo1 index : Nat} {ret : Option FieldType} {As : List Value} {callee : Option (Int × ax_H)} {f : Int × ax_H → Option α} {w : α} {C : String} {T : u_T} {N t : Nat} {ty : Nat → FieldType} {r : Option Nat} (B : ax_BL l G X cc nL own fr lo) (ht : ax_kd t = some (.inl (C, T, N, ty))) (hcw : GoodIn lw_all (wsV own index C y (ws_ y bytes L ret))) (hd : y.cls = C ∧ y.cls ≠ "java/lang/invoke/MethodHandle" ∧ y.cls ≠ "java/lang/invoke/VarHandle" ∧ (parseMethodDescriptor y.desc).map (fun d => d.parameters.length) = some n) (hR : fr1 + 1 ≤ fr ∧ 8 + (L + 11) + lo1 ≤ lo) (hM : ∀ w1, callee = some w1 → ax_Met l G y bytes L ret fr1 lo1 (va_rf r :: As) h w1.2 (some (.long (Int64.ofInt w1.1)))) (hn : As.length = n) (hz : ls.size = nL) (hrest : (rest.map fun v => v.category).sum ≤ 8) (d : decode cc pc = .ok (.invokevirtual index, 3)) (e : ((ax_ce G.2.2 h r t).bind fun _ => callee.bind f) = some w) (k : ∀ w1, f w1 = some w → ax_W G X Q w1.2 (pc + 3) ls (.long (Int64.ofInt w1.1) :: rest)) : ax_W G X Q h pc ls (As.reverse ++ va_rf r :: rest) := by
  have hlx := B.1
  subst hlx
  obtain ⟨c0, e0, e3⟩ := ax_b e
  obtain ⟨w1, e1, e2⟩ := ax_b e3
  have hr : ∃ b, r = some b := by
    obtain ⟨b, q, -⟩ := ax_ce_spec e0
    exact ⟨b, q⟩
  obtain ⟨b, rfl⟩ := hr
  refine ax_call B (rest := rest) (arr := (Value.ref b :: As).toArray) (res := (some (.long (Int64.ofInt w1.1)))) (fun H locs hH => ?_) (k w1 e2)
  obtain ⟨b', q, cell, y1, y2, y3⟩ := ax_recv B hH ht e0
  cases q
  exact va_runV (C := C) (b := b) (As := As) (rest := rest) B.2.1 (hM w1 e1) (cwV n B.2.1.2.2.2.2 hcw rfl rfl rfl hd (by obtain ⟨c1, c2, -⟩ := ax_roomR B; rw [c1, c2]; exact hR)) ⟨ax_blind, ⟨cell, y1, y2, y3⟩, fun U hU hW => ⟨rfl, ax_ready B hH U hU hW⟩⟩ rfl hn hz rfl (lv_room hrest) d (ax_fits B hH)
theorem ax_ivNL {α : Type} {y : MethodName} {bytes : ByteArray} {L n fr1 lo1 index : Nat} {ret : Option FieldType} {As : List Value} {callee : Option (Int × ax_H)} {f : Int × ax_H → Option α} {w : α} {C : String} {T : u_T} {N t : Nat} {ty : Nat → FieldType} {r : Option Nat} (B : ax_BL l G X cc nL own fr lo) (ht : ax_kd t = some (.inl (C, T, N, ty))) {host : String} (hl : Cond.methodLinkNest own index y host ∈ lw_tbl) (hw1 : Cond.instanceMethod y ∈ lw_all) (hw2 : Cond.selects C y y ∈ lw_all) (hw3 : Cond.initialized y.cls ∈ lw_all) (hw4 : Cond.code y bytes L ret ∈ lw_all) (hd : y.cls = C ∧ y.cls ≠ "java/lang/invoke/MethodHandle" ∧ y.cls ≠ "java/lang/invoke/VarHandle" ∧ (parseMethodDescriptor y.desc).map (fun d => d.parameters.length) = some n) (hR : fr1 + 1 ≤ fr ∧ 8 + (L + 11) + lo1 ≤ lo) (hM : ∀ w1, callee = some w1 → ax_Met l G y bytes L ret fr1 lo1 (va_rf r :: As) h w1.2 (some (.long (Int64.ofInt w1.1)))) (hn : As.length = n) (hz : ls.size = nL) (hrest : (rest.map fun v => v.category).sum ≤ 8) (d : decode cc pc = .ok (.invokevirtual index, 3)) (e : ((ax_ce G.2.2 h r t).bind fun _ => callee.bind f) = some w) (k : ∀ w1, f w1 = some w → ax_W G X Q w1.2 (pc + 3) ls (.long (Int64.ofInt w1.1) :: rest)) : ax_W G X Q h pc ls (As.reverse ++ va_rf r :: rest) := by
  have hlx := B.1
  subst hlx
  obtain ⟨c0, e0, e3⟩ := ax_b e
  obtain ⟨w1, e1, e2⟩ := ax_b e3
  have hr : ∃ b, r = some b := by
    obtain ⟨b, q, -⟩ := ax_ce_spec e0
    exact ⟨b, q⟩
  obtain ⟨b, rfl⟩ := hr
  refine ax_call B (rest := rest) (arr := (Value.ref b :: As).toArray) (res := (some (.long (Int64.ofInt w1.1)))) (fun H locs hH => ?_) (k w1 e2)
  obtain ⟨b', q, cell, y1, y2, y3⟩ := ax_recv B hH ht e0
  cases q
  exact va_runVN (C := C) (b := b) (As := As) (rest := rest) B.2.1 (hM w1 e1) ⟨va_cnB n B.2.1.2.2.2.2 (lw_meth hw4) rfl rfl rfl (va_Nw.warmM B.2.2.2.1.1 (B.2.2.2.1.2.2.1 _ hl (Or.inl rfl))) (B.2.1.2.2.2.2 _ hw3) hd.2 (by obtain ⟨c1, c2, -⟩ := ax_roomR B; rw [c1, c2]; exact hR), B.2.1.2.2.2.2 _ hw1, B.2.1.2.2.2.2 _ hw2⟩ ⟨ax_blind, ⟨cell, y1, y2, y3⟩, fun U hU hW => ⟨rfl, ax_ready B hH U hU hW⟩⟩ rfl hn hz rfl (lv_room hrest) d (ax_fits B hH)
theorem ax_isL {α : Type} {y : MethodName} {bytes : ByteArray} {L n fr1 lo1 index : Nat} {ret : Option FieldType} {As : List Value} {callee : Option (Int × ax_H)} {f : Int × ax_H → Option α} {w : α} (B : ax_BL l G X cc nL own fr lo) (hcw : GoodIn lw_all (va_wsS own index y (ws_ y bytes L ret))) (hd : y.cls ≠ "java/lang/invoke/MethodHandle" ∧ y.cls ≠ "java/lang/invoke/VarHandle" ∧ (parseMethodDescriptor y.desc).map (fun d => d.parameters.length) = some n) (hR : fr1 + 1 ≤ fr ∧ 8 + (L + 11) + lo1 ≤ lo) (hM : ∀ w1, callee = some w1 → ax_Met l G y bytes L ret fr1 lo1 As h w1.2 (some (.long (Int64.ofInt w1.1)))) (hn : As.length = n) (hz : ls.size = nL) (hrest : (rest.map fun v => v.category).sum ≤ 8) (d : decode cc pc = .ok (.invokestatic index, 3)) (e : callee.bind f = some w) (k : ∀ w1, f w1 = some w → ax_W G X Q w1.2 (pc + 3) ls (.long (Int64.ofInt w1.1) :: rest)) : ax_W G X Q h pc ls (As.reverse ++ rest) := by
  have hlx := B.1
  subst hlx
  obtain ⟨w1, e1, e2⟩ := ax_b e
  refine ax_call B (rest := rest) (arr := As.toArray) (res := (some (.long (Int64.ofInt w1.1)))) (fun H locs hH => ?_) (k w1 e2)
  exact va_runS (As := As) (rest := rest) B.2.1 (hM w1 e1) (va_cwS n B.2.1.2.2.2.2 hcw rfl rfl rfl hd (by obtain ⟨c1, c2, -⟩ := ax_roomR B; rw [c1, c2]; exact hR)) ⟨ax_blind, fun U hU hW => ⟨rfl, ax_ready B hH U hU hW⟩⟩ rfl hn hz rfl (lv_room hrest) d (ax_fits B hH)
theorem ax_isNL {α : Type} {y : MethodName} {bytes : ByteArray} {L n fr1 lo1 index : Nat} {ret : Option FieldType} {As : List Value} {callee : Option (Int × ax_H)} {f : Int × ax_H → Option α} {w : α} (B : ax_BL l G X cc nL own fr lo) {host : String} (hl : Cond.methodLinkNest own index y host ∈ lw_tbl) (hw1 : Cond.static y ∈ lw_all) (hw3 : Cond.initialized y.cls ∈ lw_all) (hw4 : Cond.code y bytes L ret ∈ lw_all) (hd : y.cls ≠ "java/lang/invoke/MethodHandle" ∧ y.cls ≠ "java/lang/invoke/VarHandle" ∧ (parseMethodDescriptor y.desc).map (fun d => d.parameters.length) = some n) (hR : fr1 + 1 ≤ fr ∧ 8 + (L + 11) + lo1 ≤ lo) (hM : ∀ w1, callee = some w1 → ax_Met l G y bytes L ret fr1 lo1 As h w1.2 (some (.long (Int64.ofInt w1.1)))) (hn : As.length = n) (hz : ls.size = nL) (hrest : (rest.map fun v => v.category).sum ≤ 8) (d : decode cc pc = .ok (.invokestatic index, 3)) (e : callee.bind f = some w) (k : ∀ w1, f w1 = some w → ax_W G X Q w1.2 (pc + 3) ls (.long (Int64.ofInt w1.1) :: rest)) : ax_W G X Q h pc ls (As.reverse ++ rest) := by
  have hlx := B.1
  subst hlx
  obtain ⟨w1, e1, e2⟩ := ax_b e
  refine ax_call B (rest := rest) (arr := As.toArray) (res := (some (.long (Int64.ofInt w1.1)))) (fun H locs hH => ?_) (k w1 e2)
  exact va_runSN (As := As) (rest := rest) B.2.1 (hM w1 e1) ⟨va_cnB n B.2.1.2.2.2.2 (lw_meth hw4) rfl rfl rfl (va_Nw.warmM B.2.2.2.1.1 (B.2.2.2.1.2.2.1 _ hl (Or.inl rfl))) (B.2.1.2.2.2.2 _ hw3) hd (by obtain ⟨c1, c2, -⟩ := ax_roomR B; rw [c1, c2]; exact hR), B.2.1.2.2.2.2 _ hw1, trivial⟩ ⟨ax_blind, fun U hU hW => ⟨rfl, ax_ready B hH U hU hW⟩⟩ rfl hn hz rfl (lv_room hrest) d (ax_fits B hH)
theorem ax_iuL {α : Type} {y : MethodName} {bytes : ByteArray} {L n fr1 lo1 index : Nat} {ret : Option FieldType} {As : List Value} {callee : Option (Int × ax_H)} {f : Int × ax_H → Option α} {w : α} {x : MethodName} {owner C : String} {T : u_T} {N t : Nat} {ty : Nat → FieldType} {r : Option Nat} (B : ax_BL l G X cc nL own fr lo) (ht : ax_kd t = some (.inl (C, T, N, ty))) (hcw : ∀ (R : Room), fr1 + 1 ≤ R.frames ∧ 8 + (L + 11) + lo1 ≤ R.locals → va_CU R X.2.2.2.2.1 X.2.2.2.2.2.2.1 own C owner index x y bytes L ret (ws_ y bytes L ret) (ax_rm G fr1 lo1 h) (G.2.2.1.1 - h.1) (G.2.2.1.2 - h.2.1) n) (hR : fr1 + 1 ≤ fr ∧ 8 + (L + 11) + lo1 ≤ lo) (hM : ∀ w1, callee = some w1 → ax_Met l G y bytes L ret fr1 lo1 (va_rf r :: As) h w1.2 (some (.long (Int64.ofInt w1.1)))) (hn : As.length = n) (hz : ls.size = nL) (hrest : (rest.map fun v => v.category).sum ≤ 8) (d : decode cc pc = .ok (.invokevirtual index, 3)) (e : ((ax_ce G.2.2 h r t).bind fun _ => callee.bind f) = some w) (k : ∀ w1, f w1 = some w → ax_W G X Q w1.2 (pc + 3) ls (.long (Int64.ofInt w1.1) :: rest)) : ax_W G X Q h pc ls (As.reverse ++ va_rf r :: rest) := by
  have hlx := B.1
  subst hlx
  obtain ⟨c0, e0, e3⟩ := ax_b e
  obtain ⟨w1, e1, e2⟩ := ax_b e3
  have hr : ∃ b, r = some b := by
    obtain ⟨b, q, -⟩ := ax_ce_spec e0
    exact ⟨b, q⟩
  obtain ⟨b, rfl⟩ := hr
  refine ax_call B (rest := rest) (arr := (Value.ref b :: As).toArray) (res := (some (.long (Int64.ofInt w1.1)))) (fun H locs hH => ?_) (k w1 e2)
  obtain ⟨b', q, cell, y1, y2, y3⟩ := ax_recv B hH ht e0
  cases q
  exact va_runU (C := C) (b := b) (As := As) (rest := rest) B.2.1 (hM w1 e1) (hcw _ (by obtain ⟨c1, c2, -⟩ := ax_roomR B; rw [c1, c2]; exact hR)) ⟨ax_blind, ⟨cell, y1, y2, y3⟩, fun U hU hW => ⟨rfl, ax_ready B hH U hU hW⟩⟩ rfl hn hz rfl (lv_room hrest) d (ax_fits B hH)
theorem ax_ivR {α : Type} {y : MethodName} {bytes : ByteArray} {L n fr1 lo1 index : Nat} {ret : Option FieldType} {As : List Value} {callee : Option (Option Nat × ax_H)} {f : Option Nat × ax_H → Option α} {w : α} {C : String} {T : u_T} {N t : Nat} {ty : Nat → FieldType} {r : Option Nat} (B : ax_BL l G X cc nL own fr lo) (ht : ax_kd t = some (.inl (C, T, N, ty))) (hcw : GoodIn lw_all (wsV own index C y (ws_ y bytes L ret))) (hd : y.cls = C ∧ y.cls ≠ "java/lang/invoke/MethodHandle" ∧ y.cls ≠ "java/lang/invoke/VarHandle" ∧ (parseMethodDescriptor y.desc).map (fun d => d.parameters.length) = some n) (hR : fr1 + 1 ≤ fr ∧ 8 + (L + 11) + lo1 ≤ lo) (hM : ∀ w1, callee = some w1 → ax_Met l G y bytes L ret fr1 lo1 (va_rf r :: As) h w1.2 (some (va_rf w1.1))) (hn : As.length = n) (hz : ls.size = nL) (hrest : (rest.map fun v => v.category).sum ≤ 8) (d : decode cc pc = .ok (.invokevirtual index, 3)) (e : ((ax_ce G.2.2 h r t).bind fun _ => callee.bind f) = some w) (k : ∀ w1, f w1 = some w → ax_W G X Q w1.2 (pc + 3) ls (va_rf w1.1 :: rest)) : ax_W G X Q h pc ls (As.reverse ++ va_rf r :: rest) := by
  have hlx := B.1
  subst hlx
  obtain ⟨c0, e0, e3⟩ := ax_b e
  obtain ⟨w1, e1, e2⟩ := ax_b e3
  have hr : ∃ b, r = some b := by
    obtain ⟨b, q, -⟩ := ax_ce_spec e0
    exact ⟨b, q⟩
  obtain ⟨b, rfl⟩ := hr
  refine ax_call B (rest := rest) (arr := (Value.ref b :: As).toArray) (res := (some (va_rf w1.1))) (fun H locs hH => ?_) (k w1 e2)
  obtain ⟨b', q, cell, y1, y2, y3⟩ := ax_recv B hH ht e0
  cases q
  exact va_runV (C := C) (b := b) (As := As) (rest := rest) B.2.1 (hM w1 e1) (cwV n B.2.1.2.2.2.2 hcw rfl rfl rfl hd (by obtain ⟨c1, c2, -⟩ := ax_roomR B; rw [c1, c2]; exact hR)) ⟨ax_blind, ⟨cell, y1, y2, y3⟩, fun U hU hW => ⟨rfl, ax_ready B hH U hU hW⟩⟩ rfl hn hz rfl (lv_room hrest) d (ax_fits B hH)
theorem ax_ivNR {α : Type} {y : MethodName} {bytes : ByteArray} {L n fr1 lo1 index : Nat} {ret : Option FieldType} {As : List Value} {callee : Option (Option Nat × ax_H)} {f : Option Nat × ax_H → Option α} {w : α} {C : String} {T : u_T} {N t : Nat} {ty : Nat → FieldType} {r : Option Nat} (B : ax_BL l G X cc nL own fr lo) (ht : ax_kd t = some (.inl (C, T, N, ty))) {host : String} (hl : Cond.methodLinkNest own index y host ∈ lw_tbl) (hw1 : Cond.instanceMethod y ∈ lw_all) (hw2 : Cond.selects C y y ∈ lw_all) (hw3 : Cond.initialized y.cls ∈ lw_all) (hw4 : Cond.code y bytes L ret ∈ lw_all) (hd : y.cls = C ∧ y.cls ≠ "java/lang/invoke/MethodHandle" ∧ y.cls ≠ "java/lang/invoke/VarHandle" ∧ (parseMethodDescriptor y.desc).map (fun d => d.parameters.length) = some n) (hR : fr1 + 1 ≤ fr ∧ 8 + (L + 11) + lo1 ≤ lo) (hM : ∀ w1, callee = some w1 → ax_Met l G y bytes L ret fr1 lo1 (va_rf r :: As) h w1.2 (some (va_rf w1.1))) (hn : As.length = n) (hz : ls.size = nL) (hrest : (rest.map fun v => v.category).sum ≤ 8) (d : decode cc pc = .ok (.invokevirtual index, 3)) (e : ((ax_ce G.2.2 h r t).bind fun _ => callee.bind f) = some w) (k : ∀ w1, f w1 = some w → ax_W G X Q w1.2 (pc + 3) ls (va_rf w1.1 :: rest)) : ax_W G X Q h pc ls (As.reverse ++ va_rf r :: rest) := by
  have hlx := B.1
  subst hlx
  obtain ⟨c0, e0, e3⟩ := ax_b e
  obtain ⟨w1, e1, e2⟩ := ax_b e3
  have hr : ∃ b, r = some b := by
    obtain ⟨b, q, -⟩ := ax_ce_spec e0
    exact ⟨b, q⟩
  obtain ⟨b, rfl⟩ := hr
  refine ax_call B (rest := rest) (arr := (Value.ref b :: As).toArray) (res := (some (va_rf w1.1))) (fun H locs hH => ?_) (k w1 e2)
  obtain ⟨b', q, cell, y1, y2, y3⟩ := ax_recv B hH ht e0
  cases q
  exact va_runVN (C := C) (b := b) (As := As) (rest := rest) B.2.1 (hM w1 e1) ⟨va_cnB n B.2.1.2.2.2.2 (lw_meth hw4) rfl rfl rfl (va_Nw.warmM B.2.2.2.1.1 (B.2.2.2.1.2.2.1 _ hl (Or.inl rfl))) (B.2.1.2.2.2.2 _ hw3) hd.2 (by obtain ⟨c1, c2, -⟩ := ax_roomR B; rw [c1, c2]; exact hR), B.2.1.2.2.2.2 _ hw1, B.2.1.2.2.2.2 _ hw2⟩ ⟨ax_blind, ⟨cell, y1, y2, y3⟩, fun U hU hW => ⟨rfl, ax_ready B hH U hU hW⟩⟩ rfl hn hz rfl (lv_room hrest) d (ax_fits B hH)
theorem ax_isR {α : Type} {y : MethodName} {bytes : ByteArray} {L n fr1 lo1 index : Nat} {ret : Option FieldType} {As : List Value} {callee : Option (Option Nat × ax_H)} {f : Option Nat × ax_H → Option α} {w : α} (B : ax_BL l G X cc nL own fr lo) (hcw : GoodIn lw_all (va_wsS own index y (ws_ y bytes L ret))) (hd : y.cls ≠ "java/lang/invoke/MethodHandle" ∧ y.cls ≠ "java/lang/invoke/VarHandle" ∧ (parseMethodDescriptor y.desc).map (fun d => d.parameters.length) = some n) (hR : fr1 + 1 ≤ fr ∧ 8 + (L + 11) + lo1 ≤ lo) (hM : ∀ w1, callee = some w1 → ax_Met l G y bytes L ret fr1 lo1 As h w1.2 (some (va_rf w1.1))) (hn : As.length = n) (hz : ls.size = nL) (hrest : (rest.map fun v => v.category).sum ≤ 8) (d : decode cc pc = .ok (.invokestatic index, 3)) (e : callee.bind f = some w) (k : ∀ w1, f w1 = some w → ax_W G X Q w1.2 (pc + 3) ls (va_rf w1.1 :: rest)) : ax_W G X Q h pc ls (As.reverse ++ rest) := by
  have hlx := B.1
  subst hlx
  obtain ⟨w1, e1, e2⟩ := ax_b e
  refine ax_call B (rest := rest) (arr := As.toArray) (res := (some (va_rf w1.1))) (fun H locs hH => ?_) (k w1 e2)
  exact va_runS (As := As) (rest := rest) B.2.1 (hM w1 e1) (va_cwS n B.2.1.2.2.2.2 hcw rfl rfl rfl hd (by obtain ⟨c1, c2, -⟩ := ax_roomR B; rw [c1, c2]; exact hR)) ⟨ax_blind, fun U hU hW => ⟨rfl, ax_ready B hH U hU hW⟩⟩ rfl hn hz rfl (lv_room hrest) d (ax_fits B hH)
theorem ax_isNR {α : Type} {y : MethodName} {bytes : ByteArray} {L n fr1 lo1 index : Nat} {ret : Option FieldType} {As : List Value} {callee : Option (Option Nat × ax_H)} {f : Option Nat × ax_H → Option α} {w : α} (B : ax_BL l G X cc nL own fr lo) {host : String} (hl : Cond.methodLinkNest own index y host ∈ lw_tbl) (hw1 : Cond.static y ∈ lw_all) (hw3 : Cond.initialized y.cls ∈ lw_all) (hw4 : Cond.code y bytes L ret ∈ lw_all) (hd : y.cls ≠ "java/lang/invoke/MethodHandle" ∧ y.cls ≠ "java/lang/invoke/VarHandle" ∧ (parseMethodDescriptor y.desc).map (fun d => d.parameters.length) = some n) (hR : fr1 + 1 ≤ fr ∧ 8 + (L + 11) + lo1 ≤ lo) (hM : ∀ w1, callee = some w1 → ax_Met l G y bytes L ret fr1 lo1 As h w1.2 (some (va_rf w1.1))) (hn : As.length = n) (hz : ls.size = nL) (hrest : (rest.map fun v => v.category).sum ≤ 8) (d : decode cc pc = .ok (.invokestatic index, 3)) (e : callee.bind f = some w) (k : ∀ w1, f w1 = some w → ax_W G X Q w1.2 (pc + 3) ls (va_rf w1.1 :: rest)) : ax_W G X Q h pc ls (As.reverse ++ rest) := by
  have hlx := B.1
  subst hlx
  obtain ⟨w1, e1, e2⟩ := ax_b e
  refine ax_call B (rest := rest) (arr := As.toArray) (res := (some (va_rf w1.1))) (fun H locs hH => ?_) (k w1 e2)
  exact va_runSN (As := As) (rest := rest) B.2.1 (hM w1 e1) ⟨va_cnB n B.2.1.2.2.2.2 (lw_meth hw4) rfl rfl rfl (va_Nw.warmM B.2.2.2.1.1 (B.2.2.2.1.2.2.1 _ hl (Or.inl rfl))) (B.2.1.2.2.2.2 _ hw3) hd (by obtain ⟨c1, c2, -⟩ := ax_roomR B; rw [c1, c2]; exact hR), B.2.1.2.2.2.2 _ hw1, trivial⟩ ⟨ax_blind, fun U hU hW => ⟨rfl, ax_ready B hH U hU hW⟩⟩ rfl hn hz rfl (lv_room hrest) d (ax_fits B hH)
theorem ax_iuR {α : Type} {y : MethodName} {bytes : ByteArray} {L n fr1 lo1 index : Nat} {ret : Option FieldType} {As : List Value} {callee : Option (Option Nat × ax_H)} {f : Option Nat × ax_H → Option α} {w : α} {x : MethodName} {owner C : String} {T : u_T} {N t : Nat} {ty : Nat → FieldType} {r : Option Nat} (B : ax_BL l G X cc nL own fr lo) (ht : ax_kd t = some (.inl (C, T, N, ty))) (hcw : ∀ (R : Room), fr1 + 1 ≤ R.frames ∧ 8 + (L + 11) + lo1 ≤ R.locals → va_CU R X.2.2.2.2.1 X.2.2.2.2.2.2.1 own C owner index x y bytes L ret (ws_ y bytes L ret) (ax_rm G fr1 lo1 h) (G.2.2.1.1 - h.1) (G.2.2.1.2 - h.2.1) n) (hR : fr1 + 1 ≤ fr ∧ 8 + (L + 11) + lo1 ≤ lo) (hM : ∀ w1, callee = some w1 → ax_Met l G y bytes L ret fr1 lo1 (va_rf r :: As) h w1.2 (some (va_rf w1.1))) (hn : As.length = n) (hz : ls.size = nL) (hrest : (rest.map fun v => v.category).sum ≤ 8) (d : decode cc pc = .ok (.invokevirtual index, 3)) (e : ((ax_ce G.2.2 h r t).bind fun _ => callee.bind f) = some w) (k : ∀ w1, f w1 = some w → ax_W G X Q w1.2 (pc + 3) ls (va_rf w1.1 :: rest)) : ax_W G X Q h pc ls (As.reverse ++ va_rf r :: rest) := by
  have hlx := B.1
  subst hlx
  obtain ⟨c0, e0, e3⟩ := ax_b e
  obtain ⟨w1, e1, e2⟩ := ax_b e3
  have hr : ∃ b, r = some b := by
    obtain ⟨b, q, -⟩ := ax_ce_spec e0
    exact ⟨b, q⟩
  obtain ⟨b, rfl⟩ := hr
  refine ax_call B (rest := rest) (arr := (Value.ref b :: As).toArray) (res := (some (va_rf w1.1))) (fun H locs hH => ?_) (k w1 e2)
  obtain ⟨b', q, cell, y1, y2, y3⟩ := ax_recv B hH ht e0
  cases q
  exact va_runU (C := C) (b := b) (As := As) (rest := rest) B.2.1 (hM w1 e1) (hcw _ (by obtain ⟨c1, c2, -⟩ := ax_roomR B; rw [c1, c2]; exact hR)) ⟨ax_blind, ⟨cell, y1, y2, y3⟩, fun U hU hW => ⟨rfl, ax_ready B hH U hU hW⟩⟩ rfl hn hz rfl (lv_room hrest) d (ax_fits B hH)
theorem ax_ivV {α : Type} {y : MethodName} {bytes : ByteArray} {L n fr1 lo1 index : Nat} {ret : Option FieldType} {As : List Value} {callee : Option (ax_H)} {f : ax_H → Option α} {w : α} {C : String} {T : u_T} {N t : Nat} {ty : Nat → FieldType} {r : Option Nat} (B : ax_BL l G X cc nL own fr lo) (ht : ax_kd t = some (.inl (C, T, N, ty))) (hcw : GoodIn lw_all (wsV own index C y (ws_ y bytes L ret))) (hd : y.cls = C ∧ y.cls ≠ "java/lang/invoke/MethodHandle" ∧ y.cls ≠ "java/lang/invoke/VarHandle" ∧ (parseMethodDescriptor y.desc).map (fun d => d.parameters.length) = some n) (hR : fr1 + 1 ≤ fr ∧ 8 + (L + 11) + lo1 ≤ lo) (hM : ∀ w1, callee = some w1 → ax_Met l G y bytes L ret fr1 lo1 (va_rf r :: As) h w1 none) (hn : As.length = n) (hz : ls.size = nL) (hrest : (rest.map fun v => v.category).sum ≤ 8) (d : decode cc pc = .ok (.invokevirtual index, 3)) (e : ((ax_ce G.2.2 h r t).bind fun _ => callee.bind f) = some w) (k : ∀ w1, f w1 = some w → ax_W G X Q w1 (pc + 3) ls rest) : ax_W G X Q h pc ls (As.reverse ++ va_rf r :: rest) := by
  have hlx := B.1
  subst hlx
  obtain ⟨c0, e0, e3⟩ := ax_b e
  obtain ⟨w1, e1, e2⟩ := ax_b e3
  have hr : ∃ b, r = some b := by
    obtain ⟨b, q, -⟩ := ax_ce_spec e0
    exact ⟨b, q⟩
  obtain ⟨b, rfl⟩ := hr
  refine ax_call B (rest := rest) (arr := (Value.ref b :: As).toArray) (res := none) (fun H locs hH => ?_) (k w1 e2)
  obtain ⟨b', q, cell, y1, y2, y3⟩ := ax_recv B hH ht e0
  cases q
  exact va_runV (C := C) (b := b) (As := As) (rest := rest) B.2.1 (hM w1 e1) (cwV n B.2.1.2.2.2.2 hcw rfl rfl rfl hd (by obtain ⟨c1, c2, -⟩ := ax_roomR B; rw [c1, c2]; exact hR)) ⟨ax_blind, ⟨cell, y1, y2, y3⟩, fun U hU hW => ⟨rfl, ax_ready B hH U hU hW⟩⟩ rfl hn hz rfl (lv_room hrest) d (ax_fits B hH)
theorem ax_ivNV {α : Type} {y : MethodName} {bytes : ByteArray} {L n fr1 lo1 index : Nat} {ret : Option FieldType} {As : List Value} {callee : Option (ax_H)} {f : ax_H → Option α} {w : α} {C : String} {T : u_T} {N t : Nat} {ty : Nat → FieldType} {r : Option Nat} (B : ax_BL l G X cc nL own fr lo) (ht : ax_kd t = some (.inl (C, T, N, ty))) {host : String} (hl : Cond.methodLinkNest own index y host ∈ lw_tbl) (hw1 : Cond.instanceMethod y ∈ lw_all) (hw2 : Cond.selects C y y ∈ lw_all) (hw3 : Cond.initialized y.cls ∈ lw_all) (hw4 : Cond.code y bytes L ret ∈ lw_all) (hd : y.cls = C ∧ y.cls ≠ "java/lang/invoke/MethodHandle" ∧ y.cls ≠ "java/lang/invoke/VarHandle" ∧ (parseMethodDescriptor y.desc).map (fun d => d.parameters.length) = some n) (hR : fr1 + 1 ≤ fr ∧ 8 + (L + 11) + lo1 ≤ lo) (hM : ∀ w1, callee = some w1 → ax_Met l G y bytes L ret fr1 lo1 (va_rf r :: As) h w1 none) (hn : As.length = n) (hz : ls.size = nL) (hrest : (rest.map fun v => v.category).sum ≤ 8) (d : decode cc pc = .ok (.invokevirtual index, 3)) (e : ((ax_ce G.2.2 h r t).bind fun _ => callee.bind f) = some w) (k : ∀ w1, f w1 = some w → ax_W G X Q w1 (pc + 3) ls rest) : ax_W G X Q h pc ls (As.reverse ++ va_rf r :: rest) := by
  have hlx := B.1
  subst hlx
  obtain ⟨c0, e0, e3⟩ := ax_b e
  obtain ⟨w1, e1, e2⟩ := ax_b e3
  have hr : ∃ b, r = some b := by
    obtain ⟨b, q, -⟩ := ax_ce_spec e0
    exact ⟨b, q⟩
  obtain ⟨b, rfl⟩ := hr
  refine ax_call B (rest := rest) (arr := (Value.ref b :: As).toArray) (res := none) (fun H locs hH => ?_) (k w1 e2)
  obtain ⟨b', q, cell, y1, y2, y3⟩ := ax_recv B hH ht e0
  cases q
  exact va_runVN (C := C) (b := b) (As := As) (rest := rest) B.2.1 (hM w1 e1) ⟨va_cnB n B.2.1.2.2.2.2 (lw_meth hw4) rfl rfl rfl (va_Nw.warmM B.2.2.2.1.1 (B.2.2.2.1.2.2.1 _ hl (Or.inl rfl))) (B.2.1.2.2.2.2 _ hw3) hd.2 (by obtain ⟨c1, c2, -⟩ := ax_roomR B; rw [c1, c2]; exact hR), B.2.1.2.2.2.2 _ hw1, B.2.1.2.2.2.2 _ hw2⟩ ⟨ax_blind, ⟨cell, y1, y2, y3⟩, fun U hU hW => ⟨rfl, ax_ready B hH U hU hW⟩⟩ rfl hn hz rfl (lv_room hrest) d (ax_fits B hH)
theorem ax_isV {α : Type} {y : MethodName} {bytes : ByteArray} {L n fr1 lo1 index : Nat} {ret : Option FieldType} {As : List Value} {callee : Option (ax_H)} {f : ax_H → Option α} {w : α} (B : ax_BL l G X cc nL own fr lo) (hcw : GoodIn lw_all (va_wsS own index y (ws_ y bytes L ret))) (hd : y.cls ≠ "java/lang/invoke/MethodHandle" ∧ y.cls ≠ "java/lang/invoke/VarHandle" ∧ (parseMethodDescriptor y.desc).map (fun d => d.parameters.length) = some n) (hR : fr1 + 1 ≤ fr ∧ 8 + (L + 11) + lo1 ≤ lo) (hM : ∀ w1, callee = some w1 → ax_Met l G y bytes L ret fr1 lo1 As h w1 none) (hn : As.length = n) (hz : ls.size = nL) (hrest : (rest.map fun v => v.category).sum ≤ 8) (d : decode cc pc = .ok (.invokestatic index, 3)) (e : callee.bind f = some w) (k : ∀ w1, f w1 = some w → ax_W G X Q w1 (pc + 3) ls rest) : ax_W G X Q h pc ls (As.reverse ++ rest) := by
  have hlx := B.1
  subst hlx
  obtain ⟨w1, e1, e2⟩ := ax_b e
  refine ax_call B (rest := rest) (arr := As.toArray) (res := none) (fun H locs hH => ?_) (k w1 e2)
  exact va_runS (As := As) (rest := rest) B.2.1 (hM w1 e1) (va_cwS n B.2.1.2.2.2.2 hcw rfl rfl rfl hd (by obtain ⟨c1, c2, -⟩ := ax_roomR B; rw [c1, c2]; exact hR)) ⟨ax_blind, fun U hU hW => ⟨rfl, ax_ready B hH U hU hW⟩⟩ rfl hn hz rfl (lv_room hrest) d (ax_fits B hH)
theorem ax_isNV {α : Type} {y : MethodName} {bytes : ByteArray} {L n fr1 lo1 index : Nat} {ret : Option FieldType} {As : List Value} {callee : Option (ax_H)} {f : ax_H → Option α} {w : α} (B : ax_BL l G X cc nL own fr lo) {host : String} (hl : Cond.methodLinkNest own index y host ∈ lw_tbl) (hw1 : Cond.static y ∈ lw_all) (hw3 : Cond.initialized y.cls ∈ lw_all) (hw4 : Cond.code y bytes L ret ∈ lw_all) (hd : y.cls ≠ "java/lang/invoke/MethodHandle" ∧ y.cls ≠ "java/lang/invoke/VarHandle" ∧ (parseMethodDescriptor y.desc).map (fun d => d.parameters.length) = some n) (hR : fr1 + 1 ≤ fr ∧ 8 + (L + 11) + lo1 ≤ lo) (hM : ∀ w1, callee = some w1 → ax_Met l G y bytes L ret fr1 lo1 As h w1 none) (hn : As.length = n) (hz : ls.size = nL) (hrest : (rest.map fun v => v.category).sum ≤ 8) (d : decode cc pc = .ok (.invokestatic index, 3)) (e : callee.bind f = some w) (k : ∀ w1, f w1 = some w → ax_W G X Q w1 (pc + 3) ls rest) : ax_W G X Q h pc ls (As.reverse ++ rest) := by
  have hlx := B.1
  subst hlx
  obtain ⟨w1, e1, e2⟩ := ax_b e
  refine ax_call B (rest := rest) (arr := As.toArray) (res := none) (fun H locs hH => ?_) (k w1 e2)
  exact va_runSN (As := As) (rest := rest) B.2.1 (hM w1 e1) ⟨va_cnB n B.2.1.2.2.2.2 (lw_meth hw4) rfl rfl rfl (va_Nw.warmM B.2.2.2.1.1 (B.2.2.2.1.2.2.1 _ hl (Or.inl rfl))) (B.2.1.2.2.2.2 _ hw3) hd (by obtain ⟨c1, c2, -⟩ := ax_roomR B; rw [c1, c2]; exact hR), B.2.1.2.2.2.2 _ hw1, trivial⟩ ⟨ax_blind, fun U hU hW => ⟨rfl, ax_ready B hH U hU hW⟩⟩ rfl hn hz rfl (lv_room hrest) d (ax_fits B hH)
theorem ax_ii {α : Type} {y : MethodName} {bytes : ByteArray} {L n fr1 lo1 index : Nat} {As : List Value} {callee : Option (ax_H)} {f : ax_H → Option α} {w : α} {b : Nat} (B : ax_BL l G X cc nL own fr lo) (hl : Cond.methodLink own index y ∈ lw_all) (hw1 : Cond.instanceMethod y ∈ lw_all) (hw3 : Cond.initialized y.cls ∈ lw_all) (hw4 : Cond.code y bytes L none ∈ lw_all) (hy1 : y.name = "<init>") (hd : y.cls ≠ "java/lang/invoke/MethodHandle" ∧ y.cls ≠ "java/lang/invoke/VarHandle" ∧ (parseMethodDescriptor y.desc).map (fun d => d.parameters.length) = some n) (hR : fr1 + 1 ≤ fr ∧ 8 + (L + 11) + lo1 ≤ lo) (hM : ∀ w1, callee = some w1 → ax_Met l G y bytes L none fr1 lo1 (va_rf (some b) :: As) h w1 none) (hn : As.length = n) (hz : ls.size = nL) (hrest : (rest.map fun v => v.category).sum ≤ 8) (d : decode cc pc = .ok (.invokespecial index, 3)) (e : callee.bind f = some w) (k : ∀ w1, f w1 = some w → ax_W G X Q w1 (pc + 3) ls rest) : ax_W G X Q h pc ls (As.reverse ++ va_rf (some b) :: rest) := by
  have hlx := B.1
  subst hlx
  obtain ⟨w1, e1, e2⟩ := ax_b e
  refine ax_call B (rest := rest) (arr := (Value.ref b :: As).toArray) (res := none) (fun H locs hH => ?_) (k w1 e2)
  exact va_runI (b := b) (As := As) (rest := rest) B.2.1 (hM w1 e1) (cwI n B.2.1.2.2.2.2 (lw_meth hw4) rfl rfl rfl (B.2.1.2.2.2.2 _ hw3) (B.2.1.2.2.2.2 _ hl) (B.2.1.2.2.2.2 _ hw1) hy1 hd (by obtain ⟨c1, c2, -⟩ := ax_roomR B; rw [c1, c2]; exact hR)) ⟨ax_blind, fun U hU hW => ⟨rfl, ax_ready B hH U hU hW⟩⟩ rfl hn hz rfl (lv_room hrest) d (ax_fits B hH)
theorem ax_iiN {α : Type} {y : MethodName} {bytes : ByteArray} {L n fr1 lo1 index : Nat} {As : List Value} {callee : Option (ax_H)} {f : ax_H → Option α} {w : α} {b : Nat} (B : ax_BL l G X cc nL own fr lo) {host : String} (hl : Cond.methodLinkNest own index y host ∈ lw_tbl) (hw1 : Cond.instanceMethod y ∈ lw_all) (hw3 : Cond.initialized y.cls ∈ lw_all) (hw4 : Cond.code y bytes L none ∈ lw_all) (hy1 : y.name = "<init>") (hd : y.cls ≠ "java/lang/invoke/MethodHandle" ∧ y.cls ≠ "java/lang/invoke/VarHandle" ∧ (parseMethodDescriptor y.desc).map (fun d => d.parameters.length) = some n) (hR : fr1 + 1 ≤ fr ∧ 8 + (L + 11) + lo1 ≤ lo) (hM : ∀ w1, callee = some w1 → ax_Met l G y bytes L none fr1 lo1 (va_rf (some b) :: As) h w1 none) (hn : As.length = n) (hz : ls.size = nL) (hrest : (rest.map fun v => v.category).sum ≤ 8) (d : decode cc pc = .ok (.invokespecial index, 3)) (e : callee.bind f = some w) (k : ∀ w1, f w1 = some w → ax_W G X Q w1 (pc + 3) ls rest) : ax_W G X Q h pc ls (As.reverse ++ va_rf (some b) :: rest) := by
  have hlx := B.1
  subst hlx
  obtain ⟨w1, e1, e2⟩ := ax_b e
  refine ax_call B (rest := rest) (arr := (Value.ref b :: As).toArray) (res := none) (fun H locs hH => ?_) (k w1 e2)
  exact va_runIN (b := b) (As := As) (rest := rest) B.2.1 (hM w1 e1) ⟨va_cnB n B.2.1.2.2.2.2 (lw_meth hw4) rfl rfl rfl (va_Nw.warmM B.2.2.2.1.1 (B.2.2.2.1.2.2.1 _ hl (Or.inl rfl))) (B.2.1.2.2.2.2 _ hw3) hd (by obtain ⟨c1, c2, -⟩ := ax_roomR B; rw [c1, c2]; exact hR), hy1, B.2.1.2.2.2.2 _ hw1⟩ ⟨ax_blind, fun U hU hW => ⟨rfl, ax_ready B hH U hU hW⟩⟩ rfl hn hz rfl (lv_room hrest) d (ax_fits B hH)
theorem ax_iuV {α : Type} {y : MethodName} {bytes : ByteArray} {L n fr1 lo1 index : Nat} {ret : Option FieldType} {As : List Value} {callee : Option (ax_H)} {f : ax_H → Option α} {w : α} {x : MethodName} {owner C : String} {T : u_T} {N t : Nat} {ty : Nat → FieldType} {r : Option Nat} (B : ax_BL l G X cc nL own fr lo) (ht : ax_kd t = some (.inl (C, T, N, ty))) (hcw : ∀ (R : Room), fr1 + 1 ≤ R.frames ∧ 8 + (L + 11) + lo1 ≤ R.locals → va_CU R X.2.2.2.2.1 X.2.2.2.2.2.2.1 own C owner index x y bytes L ret (ws_ y bytes L ret) (ax_rm G fr1 lo1 h) (G.2.2.1.1 - h.1) (G.2.2.1.2 - h.2.1) n) (hR : fr1 + 1 ≤ fr ∧ 8 + (L + 11) + lo1 ≤ lo) (hM : ∀ w1, callee = some w1 → ax_Met l G y bytes L ret fr1 lo1 (va_rf r :: As) h w1 none) (hn : As.length = n) (hz : ls.size = nL) (hrest : (rest.map fun v => v.category).sum ≤ 8) (d : decode cc pc = .ok (.invokevirtual index, 3)) (e : ((ax_ce G.2.2 h r t).bind fun _ => callee.bind f) = some w) (k : ∀ w1, f w1 = some w → ax_W G X Q w1 (pc + 3) ls rest) : ax_W G X Q h pc ls (As.reverse ++ va_rf r :: rest) := by
  have hlx := B.1
  subst hlx
  obtain ⟨c0, e0, e3⟩ := ax_b e
  obtain ⟨w1, e1, e2⟩ := ax_b e3
  have hr : ∃ b, r = some b := by
    obtain ⟨b, q, -⟩ := ax_ce_spec e0
    exact ⟨b, q⟩
  obtain ⟨b, rfl⟩ := hr
  refine ax_call B (rest := rest) (arr := (Value.ref b :: As).toArray) (res := none) (fun H locs hH => ?_) (k w1 e2)
  obtain ⟨b', q, cell, y1, y2, y3⟩ := ax_recv B hH ht e0
  cases q
  exact va_runU (C := C) (b := b) (As := As) (rest := rest) B.2.1 (hM w1 e1) (hcw _ (by obtain ⟨c1, c2, -⟩ := ax_roomR B; rw [c1, c2]; exact hR)) ⟨ax_blind, ⟨cell, y1, y2, y3⟩, fun U hU hW => ⟨rfl, ax_ready B hH U hU hW⟩⟩ rfl hn hz rfl (lv_room hrest) d (ax_fits B hH)
/-- Object.<init> -/
theorem ax_oi0 {index b : Nat} (B : ax_BL l G X cc nL own fr lo) (h1 : Cond.methodLink own index Lib.objectInit ∈ lw_all) (h2 : Cond.instanceMethod Lib.objectInit ∈ lw_all) (h3 : Cond.code Lib.objectInit ⟨#[0xb1]⟩ 1 none ∈ lw_all) (hz : ls.size = nL) (hrest : (rest.map fun v => v.category).sum + 12 ≤ lo) (hfr : 1 ≤ fr) (d : decode cc pc = .ok (.invokespecial index, 3)) (k : ax_W G X Q h (pc + 3) ls rest) : ax_W G X Q h pc ls (va_rf (some b) :: rest) := by
  intro H locs hH
  obtain ⟨c1, c2, -⟩ := ax_roomR B
  refine W.objInit B.2.1.1 B.2.1.2.1 B.2.1.2.2.2.1 (B.2.1.2.2.2.2 _ h1) (B.2.1.2.2.2.2 _ h2) (B.2.1.2.2.2.2 _ h3) rfl (hz.trans B.2.1.2.2.1.symm) rfl d (by rw [c1]; exact hfr) ?_ (k H locs hH)
  rw [c2]
  show 2 * 0 + _ + 12 ≤ lo
  omega
end AXK
