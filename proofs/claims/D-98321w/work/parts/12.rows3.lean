/-! ROWS: calls by the receiver's class, interface calls, static fields, texts, class objects, casts -/
set_option maxRecDepth 100000
/-- by the receiver's class -/
def ax_dp {β : Type} (E : ax_E) (h : ax_H) (r : Option Nat) (F : Nat → Option β) : Option β := match r with
  | none => none
  | some a => match ax_rd E h a with
    | none => none
    | some c => F c.1
theorem ax_dp_spec {β : Type} {E : ax_E} {h : ax_H} {r : Option Nat} {F : Nat → Option β} {w : β} (e : ax_dp E h r F = some w) : ∃ (t : Nat) (c : ax_C), ax_ce E h r t = some c ∧ F t = some w := by
  unfold ax_dp at e
  split at e
  · cases e
  · split at e
    · cases e
    · rename_i c hc
      exact ⟨c.1, c, by simp [ax_ce, hc], e⟩
/-- a constant -/
def ax_cst (E : ax_E) (j : Nat) : Option (Option Nat) := some (some (E.2.2 j))
def ax_cso (E : ax_E) (j : Nat) : Option (Option Nat) := some (ax_opt (E.2.2 j))
/-- a cast -/
def ax_cc (E : ax_E) (h : ax_H) (r : Option Nat) (t : Nat) : Option Unit := match r with
  | none => some ()
  | some a => (ax_ce E h (some a) t).map fun _ => ()
section AXD
variable {l : Launch} {G : ax_G} {X : ax_X} {Q : State → Prop} {h : ax_H} {cc : ByteArray} {nL fr lo pc : Nat} {own : String} {ls : Array Slot} {rest : List Value}
theorem ax_dcD (B : ax_BL l G X cc nL own fr lo) {y : MethodName} (h : Cond.declares y ∈ lw_tbl) : va_Decl X.2.2.2.2.1 y := va_Decl.abs (va_Nw.warmD B.2.2.2.1.1 (B.2.2.2.1.2.2.1 _ h (Or.inl rfl)))
theorem ax_dcC (B : ax_BL l G X cc nL own fr lo) {y : MethodName} {b : ByteArray} {m : Nat} {r : Option FieldType} (hi : Cond.instanceMethod y ∈ lw_all) (hc : Cond.code y b m r ∈ lw_all) : va_Decl X.2.2.2.2.1 y := va_Decl.of (B.2.1.2.2.2.2 _ hi) (B.2.1.2.2.2.2 _ hc)
/-- a private method is selected, whatever the receiver's class -/
theorem ax_selP (B : ax_BL l G X cc nL own fr lo) {C : String} {T : u_T} {N t : Nat} {ty : Nat → FieldType} (ht : ax_kd t = some (.inl (C, T, N, ty))) {y : MethodName} (hs : Cond.sameMethod y.cls y.cls y.name y.desc ∈ lw_all) (hp : Cond.privateMethod y ∈ lw_tbl) (hi : Cond.instanceMethod y ∈ lw_all) (hy : y.cls ≠ "java/lang/invoke/MethodHandle" ∧ y.cls ≠ "java/lang/invoke/VarHandle") : (Cond.selects C y y).before X.2.2.2.2.2.2.1 X.2.2.2.2.1 = true := by
  have hpr : (Cond.privateMethod y).before #[] X.2.2.2.2.1 = true := va_tabs rfl (rfl : (G.2.1.setVm X.2.2.2.2.1.vm).vm = X.2.2.2.2.1.vm) (by rw [Cond.privateMethod_setVm B.2.2.2.1.1.alike]; exact B.2.2.2.1.2.2.1 _ hp (Or.inl rfl))
  obtain ⟨cn, ck, r1, hcn, hck, hni, hf, hn1⟩ := Cond.sameMethod_found (B.2.1.2.2.2.2 _ hs)
  obtain ⟨mk, methM, hnamed, hmethM, -, -⟩ := Cond.instanceMethod_spec (B.2.1.2.2.2.2 _ hi)
  have hfound := State.methodFound?_of_named hnamed hy
  have hcls : mk.cls = cn := Option.some.inj ((findClass_of_methodNamed hnamed).symm.trans hcn)
  have hK := ((ax_Kn B.2).1 t _ ht).2
  have hsel : selectMethod {} X.2.2.2.2.1.vm (G.1.1 t) mk = .method mk := selectMethod_private hmethM (Cond.privateMethod_at hpr mk methM hnamed hmethM)
  have hc := hK.1
  simp only [Cond.before, Cond.holds, Cond.value, hc, hfound, hnamed, hsel, hcls, hck]
  simp
  exact hni
/-- what the call of a method of the receiver's class comes to -/
def ax_Cal (l : Launch) (G : ax_G) (X : ax_X) (own : String) (fr lo index : Nat) (x : MethodName) (n : Nat) (As : List Value) (h : ax_H) (r : Option Nat) (w : ax_H) (res : Option Value) : Prop :=
  ∃ (C owner : String) (T : u_T) (N t : Nat) (ty : Nat → FieldType) (c : ax_C) (y : MethodName) (bytes : ByteArray) (L : Nat) (ret : Option FieldType) (fr1 lo1 : Nat), ax_kd t = some (.inl (C, T, N, ty)) ∧ ax_ce G.2.2 h r t = some c ∧
    (∀ (R : Room), fr1 + 1 ≤ R.frames ∧ 8 + (L + 11) + lo1 ≤ R.locals → va_CU R X.2.2.2.2.1 X.2.2.2.2.2.2.1 own C owner index x y bytes L ret (ws_ y bytes L ret) (ax_rm G fr1 lo1 h) (G.2.2.1.1 - h.1) (G.2.2.1.2 - h.2.1) n) ∧ (fr1 + 1 ≤ fr ∧ 8 + (L + 11) + lo1 ≤ lo) ∧ ax_Met l G y bytes L ret fr1 lo1 (va_rf r :: As) h w res
theorem ax_cal (B : ax_BL l G X cc nL own fr lo) {C owner : String} {T : u_T} {N t : Nat} {ty : Nat → FieldType} {c : ax_C} {x y : MethodName} {bytes : ByteArray} {L fr1 lo1 index n : Nat} {ret : Option FieldType} {As : List Value} {r : Option Nat} {w : ax_H} {res : Option Value} (ht : ax_kd t = some (.inl (C, T, N, ty))) (e : ax_ce G.2.2 h r t = some c)
    (hl : Cond.methodLink own index x ∈ lw_all) (hs : Cond.sameMethod x.cls owner x.name x.desc ∈ lw_all) (hdc : va_Decl X.2.2.2.2.1 ⟨owner, x.name, x.desc⟩) (hsel : (Cond.selects C x y).before X.2.2.2.2.2.2.1 X.2.2.2.2.1 = true) (hin : Cond.instanceMethod y ∈ lw_all) (hini : Cond.initialized y.cls ∈ lw_all) (hc : Cond.code y bytes L ret ∈ lw_all)
    (hd : owner ≠ "java/lang/invoke/MethodHandle" ∧ owner ≠ "java/lang/invoke/VarHandle" ∧ (parseMethodDescriptor x.desc).map (fun d => d.parameters.length) = some n) (hR : fr1 + 1 ≤ fr ∧ 8 + (L + 11) + lo1 ≤ lo) (hM : ax_Met l G y bytes L ret fr1 lo1 (va_rf r :: As) h w res) : ax_Cal l G X own fr lo index x n As h r w res :=
  ⟨C, owner, T, N, t, ty, c, y, bytes, L, ret, fr1, lo1, ht, e, fun R hR => ⟨⟨rfl, rfl, hR.1, hR.2, pay_in B.2.1.2.2.2.2 (lw_meth hc), List.mem_cons_self⟩, B.2.1.2.2.2.2 _ hc, B.2.1.2.2.2.2 _ hini, ⟨hd.1, hd.2.1⟩, fun sig h => (by have h2 := hd.2.2; rw [h] at h2; exact (Option.some.inj h2).symm), B.2.1.2.2.2.2 _ hl, B.2.1.2.2.2.2 _ hs, hdc, hsel, B.2.1.2.2.2.2 _ hin⟩, hR, hM⟩

theorem ax_iwI {α : Type} {n index : Nat} {x : MethodName} {As : List Value} {callee : Option (Int × ax_H)} {f : Int × ax_H → Option α} {w : α} {r : Option Nat} (B : ax_BL l G X cc nL own fr lo) (hcal : ∀ w1, callee = some w1 → ax_Cal l G X own fr lo index x n As h r w1.2 (some (.int (Int32.ofInt w1.1)))) (hn : As.length = n) (hz : ls.size = nL) (hrest : (rest.map fun v => v.category).sum ≤ 8) (d : decode cc pc = .ok (.invokevirtual index, 3)) (e : callee.bind f = some w) (k : ∀ w1, f w1 = some w → ax_W G X Q w1.2 (pc + 3) ls (.int (Int32.ofInt w1.1) :: rest)) : ax_W G X Q h pc ls (As.reverse ++ va_rf r :: rest) := by
  obtain ⟨w1, e1, e2⟩ := ax_b e
  obtain ⟨C, owner, T, N, t, ty, c, y, bytes, L, ret, fr1, lo1, ht, e0, hcw, hR, hM⟩ := hcal w1 e1
  exact ax_iuI (callee := some w1) (f := f) (w := w) B ht hcw hR (fun w2 q => by cases q; exact hM) hn hz hrest d (by rw [e0]; exact e2) k
theorem ax_iwL {α : Type} {n index : Nat} {x : MethodName} {As : List Value} {callee : Option (Int × ax_H)} {f : Int × ax_H → Option α} {w : α} {r : Option Nat} (B : ax_BL l G X cc nL own fr lo) (hcal : ∀ w1, callee = some w1 → ax_Cal l G X own fr lo index x n As h r w1.2 (some (.long (Int64.ofInt w1.1)))) (hn : As.length = n) (hz : ls.size = nL) (hrest : (rest.map fun v => v.category).sum ≤ 8) (d : decode cc pc = .ok (.invokevirtual index, 3)) (e : callee.bind f = some w) (k : ∀ w1, f w1 = some w → ax_W G X Q w1.2 (pc + 3) ls (.long (Int64.ofInt w1.1) :: rest)) : ax_W G X Q h pc ls (As.reverse ++ va_rf r :: rest) := by
  obtain ⟨w1, e1, e2⟩ := ax_b e
  obtain ⟨C, owner, T, N, t, ty, c, y, bytes, L, ret, fr1, lo1, ht, e0, hcw, hR, hM⟩ := hcal w1 e1
  exact ax_iuL (callee := some w1) (f := f) (w := w) B ht hcw hR (fun w2 q => by cases q; exact hM) hn hz hrest d (by rw [e0]; exact e2) k
theorem ax_iwR {α : Type} {n index : Nat} {x : MethodName} {As : List Value} {callee : Option (Option Nat × ax_H)} {f : Option Nat × ax_H → Option α} {w : α} {r : Option Nat} (B : ax_BL l G X cc nL own fr lo) (hcal : ∀ w1, callee = some w1 → ax_Cal l G X own fr lo index x n As h r w1.2 (some (va_rf w1.1))) (hn : As.length = n) (hz : ls.size = nL) (hrest : (rest.map fun v => v.category).sum ≤ 8) (d : decode cc pc = .ok (.invokevirtual index, 3)) (e : callee.bind f = some w) (k : ∀ w1, f w1 = some w → ax_W G X Q w1.2 (pc + 3) ls (va_rf w1.1 :: rest)) : ax_W G X Q h pc ls (As.reverse ++ va_rf r :: rest) := by
  obtain ⟨w1, e1, e2⟩ := ax_b e
  obtain ⟨C, owner, T, N, t, ty, c, y, bytes, L, ret, fr1, lo1, ht, e0, hcw, hR, hM⟩ := hcal w1 e1
  exact ax_iuR (callee := some w1) (f := f) (w := w) B ht hcw hR (fun w2 q => by cases q; exact hM) hn hz hrest d (by rw [e0]; exact e2) k
theorem ax_iwV {α : Type} {n index : Nat} {x : MethodName} {As : List Value} {callee : Option (ax_H)} {f : ax_H → Option α} {w : α} {r : Option Nat} (B : ax_BL l G X cc nL own fr lo) (hcal : ∀ w1, callee = some w1 → ax_Cal l G X own fr lo index x n As h r w1 none) (hn : As.length = n) (hz : ls.size = nL) (hrest : (rest.map fun v => v.category).sum ≤ 8) (d : decode cc pc = .ok (.invokevirtual index, 3)) (e : callee.bind f = some w) (k : ∀ w1, f w1 = some w → ax_W G X Q w1 (pc + 3) ls rest) : ax_W G X Q h pc ls (As.reverse ++ va_rf r :: rest) := by
  obtain ⟨w1, e1, e2⟩ := ax_b e
  obtain ⟨C, owner, T, N, t, ty, c, y, bytes, L, ret, fr1, lo1, ht, e0, hcw, hR, hM⟩ := hcal w1 e1
  exact ax_iuV (callee := some w1) (f := f) (w := w) B ht hcw hR (fun w2 q => by cases q; exact hM) hn hz hrest d (by rw [e0]; exact e2) k
theorem ax_call5 {h2 : ax_H} {res : Option Value} {st : List Value} {arr : Array Value} (B : ax_BL l G X cc nL own fr lo) (hrun : ∀ (H : Heap) (locs : List Loc), ax_HH G X h H locs → va_Run5 X.1 X.2.1 X.2.2.1 X.2.2.2.1 X.2.2.2.2.1 X.2.2.2.2.2.1 X.2.2.2.2.2.2.1 X.2.2.2.2.2.2.2.1 X.2.2.2.2.2.2.2.2.1 X.2.2.2.2.2.2.2.2.2.1 H locs (H.size - X.2.2.2.2.1.heap.size) (ax_sl H - ax_sl X.2.2.2.2.1.heap) (G.2.2.1.1 - h.1) (G.2.2.1.2 - h.2.1) (F0 X.2.2.2.2.2.1 pc ls st) rest (ax_Qc G h h2 res arr) (ax_F h)) (k : ax_W G X Q h2 (pc + 5) ls (res.toList ++ rest)) : ax_W G X Q h pc ls st := by
  intro H locs hH T hT XS
  obtain ⟨v, st₀, t, T', L, e0, XS', hL, e1, e2, ⟨q1, q2, q3, q4⟩, hgo⟩ := hrun H locs hH T hT XS
  cases q1
  obtain ⟨⟨g1, g2, g3, g4⟩, g5, ⟨g6, g7⟩, g8, g9⟩ := id hH
  have hF : ∀ q, ax_F h q → X.2.2.2.2.2.2.2.2.2.2 q := by
    intro q hq
    rcases hq with hq | hq
    · cases hc : h.2.2 q with
      | none => exact absurd hc hq
      | some c => exact (g5 q c hc).2
    · exact B.2.2.2.2.2.1 q (by omega)
  have hH2 : ax_HH G X h2 T'.heap (locs ++ L) := by
    obtain ⟨m1, m2, m3, m4⟩ := q2
    obtain ⟨f1, f2⟩ := q3
    rw [e1]
    have hsz : H.size ≤ t.heap.size := by rw [← e0]; exact f1
    refine ⟨m1, fun a c hc => ⟨(m2 a c hc).1, hF a (q4 a (by rw [hc]; intro z; cases z))⟩, ⟨by omega, ?_⟩, fun q z1 z2 => ?_, fun q hq => ?_⟩
    · have h1 := ax_tight XS'
      obtain ⟨-, s2, s3, s4, s5, s6⟩ := h1.same
      have hT' : (T'.setVm X.2.2.2.2.1.vm).heap = T'.heap := rfl
      rw [hT'] at s6 s2
      rw [← e1]
      have hcut := ax_sl_cut T'.heap X.2.2.2.2.1.heap.size
      have htk : ((T'.heap.toList.take X.2.2.2.2.1.heap.size).map (fun c => c.slots.size)).sum = ax_sl X.2.2.2.2.1.heap := by
        unfold ax_sl
        congr 1
        refine List.ext_getElem? fun i => ?_
        rw [List.getElem?_map, List.getElem?_map]
        by_cases hi : i < X.2.2.2.2.1.heap.size
        · obtain ⟨c', y1, -, y2, -⟩ := s6 i _ (Array.getElem?_eq_getElem hi)
          rw [List.getElem?_take_of_lt hi, Array.getElem?_toList, Array.getElem?_toList, y1, Array.getElem?_eq_getElem hi]
          simp [y2]
        · have y1 : X.2.2.2.2.1.heap.toList[i]? = none := by simp; omega
          have y2 : (T'.heap.toList.take X.2.2.2.2.1.heap.size)[i]? = none := by simp; omega
          rw [y1, y2]
      omega
    · rw [f2 q (by rw [e0]; omega) (fun w => z2 (hF q w)), e0]
      exact g8 q z1 z2
    · rcases List.mem_append.mp hq with hq | hq
      · exact g9 q hq
      · exact hF _ (hL q hq)
  obtain ⟨t2, a1, b1⟩ := k T'.heap (locs ++ L) hH2 T' rfl (ax_tight XS')
  exact ⟨t2, hgo t2 a1, b1⟩
theorem ax_iFR {α : Type} {n index count : Nat} {x y : MethodName} {bytes : ByteArray} {L fr1 lo1 : Nat} {ret : Option FieldType} {As : List Value} {callee : Option (Option Nat × ax_H)} {f : Option Nat × ax_H → Option α} {w : α} {C : String} {T : u_T} {N t : Nat} {ty : Nat → FieldType} {r : Option Nat} (B : ax_BL l G X cc nL own fr lo) (ht : ax_kd t = some (.inl (C, T, N, ty)))
    (hl : Cond.methodLink own index x ∈ lw_all) (hsel : Cond.selects C x y ∈ lw_all) (hin : Cond.instanceMethod y ∈ lw_all) (hini : Cond.initialized y.cls ∈ lw_all) (hc : Cond.code y bytes L ret ∈ lw_all)
    (f1 : Cond.declares x ∈ lw_tbl) (f2 : Cond.interfaceMethod x.cls x.cls x.name x.desc ∈ lw_tbl) (f3 : Cond.publicMethod y ∈ lw_tbl) (f4 : Cond.unhidden C x.name x.desc ∈ lw_tbl) (f5 : Cond.castable C x.cls ∈ lw_tbl)
    (hd : x.cls ≠ "java/lang/invoke/MethodHandle" ∧ x.cls ≠ "java/lang/invoke/VarHandle" ∧ (parseMethodDescriptor x.desc).map (fun d => d.parameters.length) = some n) (hR : fr1 + 1 ≤ fr ∧ 8 + (L + 11) + lo1 ≤ lo) (hM : ∀ w1, callee = some w1 → ax_Met l G y bytes L ret fr1 lo1 (va_rf r :: As) h w1.2 (some (va_rf w1.1))) (hn : As.length = n) (hz : ls.size = nL) (hrest : (rest.map fun v => v.category).sum ≤ 8) (d : decode cc pc = .ok (.invokeinterface index count, 5)) (e : ((ax_ce G.2.2 h r t).bind fun _ => callee.bind f) = some w) (k : ∀ w1, f w1 = some w → ax_W G X Q w1.2 (pc + 5) ls (va_rf w1.1 :: rest)) : ax_W G X Q h pc ls (As.reverse ++ va_rf r :: rest) := by
  have hlx := B.1
  subst hlx
  obtain ⟨c0, e0, e3⟩ := ax_b e
  obtain ⟨w1, e1, e2⟩ := ax_b e3
  have hr : ∃ b, r = some b := by
    obtain ⟨b, q, -⟩ := ax_ce_spec e0
    exact ⟨b, q⟩
  obtain ⟨b, rfl⟩ := hr
  have hFw : va_Fw C x y X.2.2.2.2.1 := va_Fw.moved ⟨hd.1, hd.2.1⟩ B.2.2.2.1.1.alike (va_Fw.of (A := #[]) (B.2.2.2.1.2.2.1 _ f1 (Or.inl rfl)) (B.2.2.2.1.2.2.1 _ f2 (Or.inl rfl)) (B.2.2.2.1.2.2.1 _ f3 (Or.inl rfl)) (B.2.2.2.1.2.2.1 _ f4 (Or.inl rfl)) (B.2.2.2.1.2.2.1 _ f5 (Or.inl rfl)))
  refine ax_call5 B (rest := rest) (arr := (Value.ref b :: As).toArray) (res := (some (va_rf w1.1))) (fun H locs hH => ?_) (k w1 e2)
  obtain ⟨b', q, cell, y1, y2, y3⟩ := ax_recv B hH ht e0
  cases q
  have hg : GoodIn lw_all (va_wsF own index C x y (ws_ y bytes L ret)) := by
    refine lw_app (fun w hw => ?_) (lw_meth hc)
    simp only [List.mem_cons, List.not_mem_nil, or_false] at hw
    rcases hw with rfl | rfl | rfl | rfl
    · exact hl
    · exact hsel
    · exact hin
    · exact hini
  exact va_runF (C := C) (b := b) (As := As) (rest := rest) (n := n) ((ax_Kn B.2).1 t _ ht).2 B.2.1 (hM w1 e1) (va_cwF n B.2.1.2.2.2.2 hg rfl rfl rfl hFw hd (by obtain ⟨c1, c2, -⟩ := ax_roomR B; rw [c1, c2]; exact hR)) ⟨ax_blind, ⟨cell, y1, y2, y3⟩, fun U hU hW => ⟨rfl, ax_ready B hH U hU hW⟩⟩ rfl hn hz rfl (lv_room hrest) d (ax_fits B hH)
/-- a static field -/
theorem ax_gstv {index : Nat} {C n dd ref : String} {v : Value} (B : ax_BL l G X cc nL own fr lo) (hZ : va_Z C n dd v (fun _ => False) G.2.1 G.2.1.heap) (hl : Cond.fieldLink own index ref n dd ∈ lw_all) (hs : ref = C ∨ Cond.sameField ref C n dd ∈ lw_all) (d : decode cc pc = .ok (.getstatic index, 3)) (kk : ax_W G X Q h (pc + 3) ls (v :: rest)) : ax_W G X Q h pc ls rest := by
  intro H locs hH
  have hsame : ∀ x, X.2.2.2.2.1.fieldFound? C n dd = some x → X.2.2.2.2.1.fieldFound? ref n dd = some x := by
    rcases hs with rfl | hs
    · exact fun x h => h
    · exact fun x h => u_same (B.2.1.2.2.2.2 _ hs) x h
  obtain ⟨cf, kf, fi, f, a, cell, h1, h2, h3, h4, h5, h6, h7, h8⟩ := va_Z.moved B.2.2.2.1.1.alike hZ
  exact W.gets B.2.1.1 B.2.1.2.1 B.2.1.2.2.2.1 (B.2.1.2.2.2.2 _ hl) (hsame _ h1) h2 h3 h4 (by rw [ax_old B.2 hH (Array.getElem?_eq_some_iff.mp h5).1]; exact h5) (fun e => by rw [e] at h6; cases h6) h7 rfl d (kk H locs hH)
theorem ax_gst {α : Type} {f : Option Nat → Option α} {w : α} {index : Nat} {C n dd ref : String} {o : Option Nat} (B : ax_BL l G X cc nL own fr lo) (hZ : va_Z C n dd (va_rf o) (fun _ => False) G.2.1 G.2.1.heap) (hl : Cond.fieldLink own index ref n dd ∈ lw_all) (hs : ref = C ∨ Cond.sameField ref C n dd ∈ lw_all) (d : decode cc pc = .ok (.getstatic index, 3)) (e : (some o).bind f = some w) (kk : ∀ v, f v = some w → ax_W G X Q h (pc + 3) ls (va_rf v :: rest)) : ax_W G X Q h pc ls rest := ax_gstv B hZ hl hs d (kk o e)
theorem ax_sx (B : ax_BL l G X cc nL own fr lo) : ax_SX G.2.2.2.2 G.2.1 := B.2.2.2.1.2.2.2.2
/-- a text -/
theorem ax_ldcS {α : Type} {f : Option Nat → Option α} {w : α} {index j : Nat} {tx : String} (B : ax_BL l G X cc nL own fr lo) (hq : (own, index, tx, j) ∈ ax_strs) (d : decode cc pc = .ok (.ldc index, 2)) (e : (ax_cst G.2.2 (10 + j)).bind f = some w) (kk : ∀ v, f v = some w → ax_W G X Q h (pc + 2) ls (va_rf v :: rest)) : ax_W G X Q h pc ls rest := fun H locs hH => va_ldcS B.2.1.1 B.2.1.2.1 B.2.1.2.2.2.1 (vk_R.warm B.2.2.2.1.1 ((ax_sx B).2.1 _ hq)) d (kk _ e H locs hH)
/-- a class object -/
theorem ax_ldcM {α : Type} {f : Option Nat → Option α} {w : α} {index j : Nat} {C : String} (B : ax_BL l G X cc nL own fr lo) (hM : va_Mi C (G.2.2.2.2 j) G.2.1) (hl : Cond.classLink own index C ∈ lw_all) (d : decode cc pc = .ok (.ldc index, 2)) (e : (ax_cst G.2.2 j).bind f = some w) (kk : ∀ v, f v = some w → ax_W G X Q h (pc + 2) ls (va_rf v :: rest)) : ax_W G X Q h pc ls rest := fun H locs hH => va_ldcM B.2.1.1 B.2.1.2.1 B.2.1.2.2.2.1 (B.2.1.2.2.2.2 _ hl) (va_Mi.moved B.2.2.2.1.1.alike hM) d (kk _ e H locs hH)
/-- a cast -/
theorem ax_ckc {α : Type} {f : Unit → Option α} {w : α} {index t : Nat} {C : String} {T : u_T} {N : Nat} {ty : Nat → FieldType} {r : Option Nat} (B : ax_BL l G X cc nL own fr lo) (ht : ax_kd t = some (.inl (C, T, N, ty))) (hl : Cond.classLink own index C ∈ lw_all) (d : decode cc pc = .ok (.checkcast index, 3)) (e : (ax_cc G.2.2 h r t).bind f = some w) (kk : f () = some w → ax_W G X Q h (pc + 3) ls (va_rf r :: rest)) : ax_W G X Q h pc ls (va_rf r :: rest) := by
  intro H locs hH
  obtain ⟨u, e1, e2⟩ := ax_b e
  cases r with
  | none => exact lv_castN B.2.1.1 B.2.1.2.1 d (kk e2 H locs hH)
  | some a =>
    unfold ax_cc at e1
    obtain ⟨c, e3, -⟩ := Option.map_eq_some_iff.mp e1
    obtain ⟨b', q, cell, y1, y2, y3⟩ := ax_recv B hH ht e3
    cases q
    exact va_castS B.2.1.1 B.2.1.2.1 B.2.1.2.2.2.1 (B.2.1.2.2.2.2 _ hl) ((ax_Kn B.2).1 t _ ht).2 ⟨cell, y1, y2, y3⟩ d (kk e2 H locs hH)
/-- the class of an array of objects -/
theorem ax_getC {α : Type} {f : Option Nat → Option α} {w : α} {index : Nat} {r : Option Nat} (B : ax_BL l G X cc nL own fr lo) (hl : Cond.methodLink own index ⟨"java/lang/Object", "getClass", "()Ljava/lang/Class;"⟩ ∈ lw_all) (hdc : Cond.declares ⟨"java/lang/Object", "getClass", "()Ljava/lang/Class;"⟩ ∈ lw_tbl) (hsel : Cond.selects "[Ljava/lang/Object;" ⟨"java/lang/Object", "getClass", "()Ljava/lang/Class;"⟩ ⟨"java/lang/Object", "getClass", "()Ljava/lang/Class;"⟩ ∈ lw_all) (hin : Cond.instanceMethod ⟨"java/lang/Object", "getClass", "()Ljava/lang/Class;"⟩ ∈ lw_all) (hna : Cond.native ⟨"java/lang/Object", "getClass", "()Ljava/lang/Class;"⟩ ∈ lw_all) (hz : ls.size = nL) (hfr : 1 ≤ fr) (hlo : (rest.map fun v => v.category).sum + 14 ≤ lo) (d : decode cc pc = .ok (.invokevirtual index, 3)) (e : ((ax_ce G.2.2 h r 104).bind fun _ => (ax_cst G.2.2 4).bind f) = some w) (kk : ∀ v, f v = some w → ax_W G X Q h (pc + 3) ls (va_rf v :: rest)) : ax_W G X Q h pc ls (va_rf r :: rest) := by
  intro H locs hH
  obtain ⟨c0, e0, e3⟩ := ax_b e
  obtain ⟨b, rfl, e4, e5⟩ := ax_ce_spec e0
  obtain ⟨cell, y1, y2, y3⟩ := (ax_read B.2 hH e4).cell ⟨by rw [e5]; decide, by rw [e5]; decide⟩
  obtain ⟨c1, c2, -⟩ := ax_roomR B
  have hRA := ((ax_Kn B.2).2 104 _ kd104).2
  have hcl : X.2.2.2.2.1.vm.findClass "[Ljava/lang/Object;" = some cell.cls := by
    rw [y3, e5]
    exact va_nmO hRA rfl
  exact va_getC B.2.1.1 B.2.1.2.1 (B.2.1.2.2.1.trans hz.symm) B.2.1.2.2.2.1 (B.2.1.2.2.2.2 _ hl) (va_Dc.use (va_Dc.moved B.2.2.2.1.1.alike (va_Dc.of (A := #[]) (B.2.2.2.1.2.2.1 _ hdc (Or.inl rfl))))) (B.2.1.2.2.2.2 _ hsel) (B.2.1.2.2.2.2 _ hin) (B.2.1.2.2.2.2 _ hna) (va_Mi.moved B.2.2.2.1.1.alike (ax_sx B).2.2.1) ⟨cell, y1, y2.1, hcl⟩ (by rw [c1]; exact hfr) (by rw [c2]; exact hlo) d (kk _ e3 H locs hH)
end AXD
