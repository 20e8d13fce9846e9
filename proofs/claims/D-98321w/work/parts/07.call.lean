/-! ROWS: a method's entry and end, calls -/
set_option maxRecDepth 100000
def ax_args : Nat → List (Int ⊕ Int ⊕ Option Nat) → ax_L
  | _, [] => []
  | i, v :: vs => (i, v) :: ax_args (if ax_cat v = 2 then i + 2 else i + 1) vs
theorem ax_args_eq (vs : List (Int ⊕ Int ⊕ Option Nat)) : ∀ i, lv_args i (vs.map ax_val) = (ax_args i vs).map fun q => (q.1, ax_val q.2) := by
  induction vs with
  | nil => intro i; rfl
  | cons v vs ih =>
    intro i
    show _ :: lv_args (if (ax_val v).category = 2 then i + 2 else i + 1) (vs.map ax_val) = _ :: _
    rw [ih, ax_cat_val]
theorem ax_args_len (vs : List (Int ⊕ Int ⊕ Option Nat)) : (lg_sl (vs.map ax_val)).length = (vs.map ax_cat).sum := by
  induction vs with
  | nil => rfl
  | cons v vs ih =>
    have e : lg_sl ((v :: vs).map ax_val) = (if (ax_val v).category = 2 then [Slot.val (ax_val v), .second] else [.val (ax_val v)]) ++ lg_sl (vs.map ax_val) := rfl
    rw [e, List.length_append, ih, ax_cat_val]
    rcases v with x | x | x <;> simp [ax_cat]
/-! loops: a body that goes on (left) or is through (right) -/
def ax_itN {S R : Type} (body : S → Option (S ⊕ R)) : Nat → S → Option R
  | 0, _ => none
  | n + 1, s => match body s with
    | none => none
    | some (.inl s') => ax_itN body n s'
    | some (.inr r) => some r
noncomputable def ax_iter {S R : Type} (body : S → Option (S ⊕ R)) (s : S) : Option R := match Classical.propDecidable (∃ (r : R), ∃ n, ax_itN body n s = some r) with
  | .isTrue h => some (Classical.choose h)
  | .isFalse _ => none
theorem ax_itN_mono {S R : Type} {body : S → Option (S ⊕ R)} : ∀ (n m : Nat) (s : S) (r : R), n ≤ m → ax_itN body n s = some r → ax_itN body m s = some r := by
  intro n
  induction n with
  | zero => intro m s r _ h; cases h
  | succ n ih =>
    intro m s r hm h
    cases m with
    | zero => omega
    | succ m =>
      unfold ax_itN at h ⊢
      split at h
      · cases h
      · exact ih m _ r (by omega) h
      · exact h
theorem ax_iter_iff {S R : Type} {body : S → Option (S ⊕ R)} {s : S} {r : R} : ax_iter body s = some r ↔ ∃ n, ax_itN body n s = some r := by
  unfold ax_iter
  split
  · rename_i h _
    constructor
    · intro e
      cases e
      exact Classical.choose_spec h
    · intro ⟨n, hn⟩
      obtain ⟨m, hm⟩ := Classical.choose_spec h
      congr 1
      have a := ax_itN_mono m (max m n) s _ (Nat.le_max_left _ _) hm
      have b := ax_itN_mono n (max m n) s _ (Nat.le_max_right _ _) hn
      exact Option.some.inj (a.symm.trans b)
  · rename_i h _
    constructor
    · intro e; cases e
    · intro ⟨n, hn⟩; exact absurd ⟨r, n, hn⟩ h
theorem ax_iter_l {S R : Type} {body : S → Option (S ⊕ R)} {s s' : S} {r : R} (h : body s = some (.inl s')) (h2 : ax_iter body s' = some r) : ax_iter body s = some r := by
  obtain ⟨n, hn⟩ := ax_iter_iff.mp h2
  exact ax_iter_iff.mpr ⟨n + 1, by unfold ax_itN; rw [h]; exact hn⟩
theorem ax_iter_r {S R : Type} {body : S → Option (S ⊕ R)} {s : S} {r : R} (h : body s = some (.inr r)) : ax_iter body s = some r :=
  ax_iter_iff.mpr ⟨1, by unfold ax_itN; rw [h]⟩
/-- what a loop's body leaves to be shown -/
def ax_PL {S R : Type} (Pin : S → Prop) (Pout : R → Prop) : S ⊕ R → Prop
  | .inl s => Pin s
  | .inr r => Pout r
theorem ax_iter_W {S R : Type} {body : S → Option (S ⊕ R)} {Pin : S → Prop} {Pout : R → Prop} (hb : ∀ s w, body s = some w → ax_PL Pin Pout w → Pin s) : ∀ s w, ax_iter body s = some w → Pout w → Pin s := by
  intro s w h hw
  obtain ⟨n, hn⟩ := ax_iter_iff.mp h
  induction n generalizing s with
  | zero => cases hn
  | succ n ih =>
    unfold ax_itN at hn
    split at hn
    · cases hn
    · rename_i s' hs
      exact hb s _ hs (ih s' (ax_iter_iff.mpr ⟨n, hn⟩) hn)
    · rename_i r hs
      cases hn
      exact hb s _ hs hw
section AXC
variable {l : Launch} {G : ax_G} {X : ax_X} {Q : State → Prop} {h h0 h2 : ax_H} {cc : ByteArray} {nL fr lo pc : Nat} {own : String} {ls : Array Slot} {rest : List Value} {H : Heap} {locs : List Loc}
theorem ax_ofWF {y : MethodName} {ws ws' : List Cond} {rm : Room} {Pc : Array Value → State → Prop} {Qc : Array Value → State → Outcome → State → Prop} {mc ms : Nat} {free : Addr → Prop} {cc : ByteArray} {maxL : Nat} {ret : Option FieldType}
    (hy : plainFor y = true) (hw : ws = Cond.code y cc maxL ret :: ws')
    (body : ∀ p e s m args below meth c s₁, BodyLoose p l y (headSpec ws rm) cc maxL ret e s m args below meth c s₁ → c.maxLocals = maxL → Pc args s →
      W p l e (headSpec ws rm).room s m args below meth c s.heap [] 0 0 (MQ below Qc args s mc ms free) (entryFrame m args maxL)) : Met l y ws rm Pc Qc mc ms free := by
  refine MetFree.of_bodySF (code := cc) (maxLocals := maxL) (ret := ret) hy ?_ ?_
  · intro args s m h hn
    obtain ⟨meth, c, h1, h2, h3, h4, h5, h6, -, -⟩ := Cond.code_spec hn (atoms_spec (ws := ws) h _ (by rw [hw]; exact List.mem_cons_self))
    exact ⟨meth, c, h1, h2, h3, h4, h5, h6⟩
  · intro p e s m args below meth c s₁ B hml hP _
    have hh0 : s₁.heap = s.heap := by rw [B.state]; rfl
    obtain ⟨t, a1, o, b1, b2, b3⟩ := body p e s m args below meth c s₁ B hml hP s₁ hh0 (Stand.of_body B)
    exact ⟨t, o, a1, b1, b2, ⟨b3.1, b3.2⟩⟩
theorem ax_enter (avs : List (Int ⊕ Int ⊕ Option Nat)) {y : MethodName} {L : Nat} {ret : Option FieldType} {h' : ax_H} {r : Option Value} (hSF : ax_SF G) (hy : plainFor y = true) (hlen : (avs.map ax_cat).sum ≤ L)
    (body : ∀ (X : ax_X) (ls : Array Slot), ax_BL l G X cc L y.cls fr lo → ax_Z X h ret → X.2.2.2.2.2.2.2.2.1.name = y.name → ax_hl ls L (ax_args 0 avs) → ax_W G X (ax_Q G X h h' r) h 0 ls []) : ax_Met l G y cc L ret fr lo (avs.map ax_val) h h' r := by
  have hlen : (lg_sl (avs.map ax_val)).length ≤ L := by rw [ax_args_len]; exact hlen
  have body : ∀ (X : ax_X) (ls : Array Slot), ax_BL l G X cc L y.cls fr lo → ax_Z X h ret → X.2.2.2.2.2.2.2.2.1.name = y.name → lv_has ls L (lv_args 0 (avs.map ax_val)) → ax_W G X (ax_Q G X h h' r) h 0 ls [] := fun X ls h1 h2 h3 h4 => body X ls h1 h2 h3 (by rw [ax_args_eq] at h4; exact h4)
  generalize avs.map ax_val = av at hlen body ⊢
  refine ax_ofWF (cc := cc) (maxL := L) (ret := ret) hy rfl ?_
  intro p e s m args below meth c s₁ B hml hv
  obtain ⟨rfl, ⟨g1, g2, g3, g4⟩, g5, ⟨g6, g7⟩, g8⟩ := hv
  have hts := atoms_spec (ws := ws_ y cc L ret) B.pre
  have hts : ∀ w ∈ lw_all, w.before _ s = true := fun w h => hts w (List.mem_cons_of_mem _ h)
  have hown : s.vm.findClass y.cls = some m.cls := findClass_of_methodNamed B.named
  have hl := lv_entry av (n := L) hlen
  rw [lg_entry_eq]
  generalize (lg_sl av ++ List.replicate (L - (lg_sl av).length) Slot.unset).toArray = ls at hl ⊢
  have hb := body (p, l, e, ax_rm G fr lo h, s, m, av.toArray, below, meth, c, ax_F h) ls ⟨rfl, ⟨B.exec, B.bytes, hml, hown, hts⟩, B.notSynchronized, ⟨g8, hSF⟩, by show ax_rm G fr lo h = _; unfold ax_rm; rw [g1, g2], fun q hq => Or.inr (by rw [← g1]; exact hq), fun q hq => by
      rcases hq with hq | hq
      · cases hc : h.2.2 q with
        | none => exact absurd hc hq
        | some c => exact (g5 q c hc).2
      · have : h.1 ≤ q := hq
        show G.2.1.heap.size ≤ q
        omega, ⟨g6, g7⟩⟩ ⟨rfl, g1, g2, B.returns⟩ (name_of_methodNamed B.named B.method).1 hl
  have hk := hb s.heap [] ⟨⟨g1, g2, g3, g4⟩, fun a c hc => ⟨(g5 a c hc).1, Or.inl (by rw [hc]; intro q; cases q)⟩, ⟨Nat.le_refl _, Nat.le_refl _⟩, fun _ _ _ => rfl, fun _ q => by cases q⟩
  have z1 : s.heap.size - s.heap.size = 0 := Nat.sub_self _
  have z2 : ax_sl s.heap - ax_sl s.heap = 0 := Nat.sub_self _
  dsimp only at hk
  rw [z1, z2] at hk
  exact hk
theorem ax_end {ret : Option FieldType} {r : Option Value} (B : ax_BL l G X cc nL own fr lo) (Z : ax_Z X h0 ret) (hH : ax_HH G X h H locs) : (∀ t : State, t.heap = H → X.2.2.2.2.1.WarmedH t.vm → ax_Qc G h0 h r X.2.2.2.2.2.2.1 X.2.2.2.2.1 (.returned r) t) ∧ (∀ q ∈ locs, ax_F h0 q.base) ∧ H.size - X.2.2.2.2.1.heap.size ≤ G.2.2.1.1 - h0.1 ∧ ax_sl H - ax_sl X.2.2.2.2.1.heap ≤ G.2.2.1.2 - h0.2.1 := by
  obtain ⟨z1, z2, z3, -⟩ := Z
  obtain ⟨⟨g1, g2, g3, g4⟩, g5, ⟨g6, g7⟩, g8, g9⟩ := id hH
  rw [z1] at g8 g9
  refine ⟨fun t ht hW => ⟨rfl, ⟨⟨by rw [ht]; exact g1, by rw [ht]; exact g2, g3, g4⟩, fun a c hc => ?_, ⟨?_, fun q hq => ?_⟩, State.WarmedH.trans B.2.2.2.1.1 hW⟩, ⟨by rw [ht]; exact g6, fun q q1 q2 => by rw [ht]; exact g8 q q1 q2⟩, fun q hq => ?_⟩, g9, by omega, by omega⟩
  · have := g5 a c hc
    rw [ht]
    exact ⟨this.1, B.2.2.2.2.2.2.1 _ this.2⟩
  · rw [ht]
    exact Nat.le_trans B.2.2.2.2.2.2.2.1 g6
  · rw [ht]
    exact ax_old B.2 hH hq
  · cases hc : h.2.2 q with
    | none => exact absurd hc hq
    | some c =>
      have := (g5 q c hc).2
      rw [z1] at this
      exact this
theorem ax_ireturn {v : Int} {w : Int × ax_H} (B : ax_BL l G X cc nL own fr lo) (Z : ax_Z X h0 (some .int)) (d : decode cc pc = .ok (.ireturn, 1)) (e : some (v, h) = some w) : ax_W G X (ax_Q G X h0 w.2 (some (.int (Int32.ofInt w.1)))) h pc ls [.int (Int32.ofInt v)] := by
  cases e
  intro H locs hH
  obtain ⟨a1, a2, a3, a4⟩ := ax_end (r := some (.int (Int32.ofInt v))) B Z hH
  exact W.widen a3 a4 (W.iret B.2.1.1 B.2.1.2.1 Z.2.2.2 a1 a2 d B.2.2.1)
theorem ax_zreturn {v : Int} {w : Int × ax_H} (B : ax_BL l G X cc nL own fr lo) (Z : ax_Z X h0 (some .boolean)) (d : decode cc pc = .ok (.ireturn, 1)) (e : (if v = 0 ∨ v = 1 then some (v, h) else none) = some w) : ax_W G X (ax_Q G X h0 w.2 (some (.int (Int32.ofInt w.1)))) h pc ls [.int (Int32.ofInt v)] := by
  split at e
  · rename_i hv
    cases e
    intro H locs hH
    obtain ⟨a1, a2, a3, a4⟩ := ax_end (r := some (.int (Int32.ofInt v))) B Z hH
    exact W.widen a3 a4 (W.zret B.2.1.1 B.2.1.2.1 Z.2.2.2 (by rcases hv with rfl | rfl <;> rfl) a1 a2 d B.2.2.1)
  · cases e
theorem ax_lreturn {v : Int} {w : Int × ax_H} (B : ax_BL l G X cc nL own fr lo) (Z : ax_Z X h0 (some .long)) (d : decode cc pc = .ok (.lreturn, 1)) (e : some (v, h) = some w) : ax_W G X (ax_Q G X h0 w.2 (some (.long (Int64.ofInt w.1)))) h pc ls [.long (Int64.ofInt v)] := by
  cases e
  intro H locs hH
  obtain ⟨a1, a2, a3, a4⟩ := ax_end (r := some (.long (Int64.ofInt v))) B Z hH
  exact W.widen a3 a4 (W.lret B.2.1.1 B.2.1.2.1 Z.2.2.2 a1 a2 d B.2.2.1)
theorem ax_return {w : ax_H} (B : ax_BL l G X cc nL own fr lo) (Z : ax_Z X h0 none) (d : decode cc pc = .ok (.return_, 1)) (e : some h = some w) : ax_W G X (ax_Q G X h0 w none) h pc ls [] := by
  cases e
  intro H locs hH
  obtain ⟨a1, a2, a3, a4⟩ := ax_end (r := none) B Z hH
  exact W.widen a3 a4 (W.vret B.2.1.1 B.2.1.2.1 Z.2.2.2 a1 a2 d B.2.2.1)
theorem ax_areturn {rt : FieldType} {v : Option Nat} {w : Option Nat × ax_H} (B : ax_BL l G X cc nL own fr lo) (Z : ax_Z X h0 (some rt)) (hrt : (∃ n, rt = .object n) ∨ ∃ t, rt = .array t) (d : decode cc pc = .ok (.areturn, 1)) (e : some (v, h) = some w) : ax_W G X (ax_Q G X h0 w.2 (some (va_rf w.1))) h pc ls [va_rf v] := by
  cases e
  intro H locs hH
  obtain ⟨a1, a2, a3, a4⟩ := ax_end (r := some (va_rf v)) B Z hH
  exact W.widen a3 a4 (W.aret B.2.1.1 B.2.1.2.1 Z.2.2.2 hrt (va_rf_or v) a1 a2 d B.2.2.1)
/-- what holds of a state at a call -/
theorem ax_ready (B : ax_BL l G X cc nL own fr lo) (hH : ax_HH G X h H locs) : ∀ U : State, U.heap = H → X.2.2.2.2.1.WarmedH U.vm → ax_M G h U := by
  intro U hU hW
  obtain ⟨⟨g1, g2, g3, g4⟩, g5, ⟨g6, g7⟩, g8, g9⟩ := id hH
  refine ⟨⟨by rw [hU]; exact g1, by rw [hU]; exact g2, g3, g4⟩, fun a c hc => ?_, ⟨?_, fun q hq => ?_⟩, State.WarmedH.trans B.2.2.2.1.1 hW⟩
  · have := g5 a c hc
    rw [hU]
    exact ⟨this.1, B.2.2.2.2.2.2.1 _ this.2⟩
  · rw [hU]
    exact Nat.le_trans B.2.2.2.2.2.2.2.1 g6
  · rw [hU]
    exact ax_old B.2 hH hq
theorem ax_blind {av : List Value} : FrameBlind (ax_Pc G av h) := fun _ _ _ _ hp => hp
/-- behind a call -/
theorem ax_call {res : Option Value} {st : List Value} {arr : Array Value} (B : ax_BL l G X cc nL own fr lo) (hrun : ∀ (H : Heap) (locs : List Loc), ax_HH G X h H locs → va_Run X.1 X.2.1 X.2.2.1 X.2.2.2.1 X.2.2.2.2.1 X.2.2.2.2.2.1 X.2.2.2.2.2.2.1 X.2.2.2.2.2.2.2.1 X.2.2.2.2.2.2.2.2.1 X.2.2.2.2.2.2.2.2.2.1 H locs (H.size - X.2.2.2.2.1.heap.size) (ax_sl H - ax_sl X.2.2.2.2.1.heap) (G.2.2.1.1 - h.1) (G.2.2.1.2 - h.2.1) (F0 X.2.2.2.2.2.1 pc ls st) rest (ax_Qc G h h2 res arr) (ax_F h)) (k : ax_W G X Q h2 (pc + 3) ls (res.toList ++ rest)) : ax_W G X Q h pc ls st := by
  intro H locs hH T hT XS
  obtain ⟨v, st₀, t, T', L, e0, XS', hL, e1, e2, ⟨q1, q2, q3, q4⟩, hgo⟩ := hrun H locs hH T hT XS
  cases q1
  obtain ⟨⟨g1, g2, g3, g4⟩, g5, ⟨g6, g7⟩, g8, g9⟩ := id hH
  have hF : ∀ q, ax_F h q → X.2.2.2.2.2.2.2.2.2.2 q := by
    intro q hq
    rcases hq with hq | hq
    · cases hc : h.2.2 q with
      | none => exact absurd hc hq
      | some c => exact (g5 q c hc).2
    · exact B.2.2.2.2.2.1 q (by omega)
  have hH2 : ax_HH G X h2 T'.heap (locs ++ L) := by
    obtain ⟨m1, m2, m3, m4⟩ := q2
    obtain ⟨f1, f2⟩ := q3
    rw [e1]
    have hsz : H.size ≤ t.heap.size := by rw [← e0]; exact f1
    refine ⟨m1, fun a c hc => ⟨(m2 a c hc).1, hF a (q4 a (by rw [hc]; intro z; cases z))⟩, ⟨by omega, ?_⟩, fun q z1 z2 => ?_, fun q hq => ?_⟩
    · have h1 := ax_tight XS'
      obtain ⟨-, s2, s3, s4, s5, s6⟩ := h1.same
      have hT' : (T'.setVm X.2.2.2.2.1.vm).heap = T'.heap := rfl
      rw [hT'] at s6 s2
      rw [← e1]
      have hcut := ax_sl_cut T'.heap X.2.2.2.2.1.heap.size
      have htk : ((T'.heap.toList.take X.2.2.2.2.1.heap.size).map (fun c => c.slots.size)).sum = ax_sl X.2.2.2.2.1.heap := by
        unfold ax_sl
        congr 1
        refine List.ext_getElem? fun i => ?_
        rw [List.getElem?_map, List.getElem?_map]
        by_cases hi : i < X.2.2.2.2.1.heap.size
        · obtain ⟨c', y1, -, y2, -⟩ := s6 i _ (Array.getElem?_eq_getElem hi)
          rw [List.getElem?_take_of_lt hi, Array.getElem?_toList, Array.getElem?_toList, y1, Array.getElem?_eq_getElem hi]
          simp [y2]
        · have y1 : X.2.2.2.2.1.heap.toList[i]? = none := by simp; omega
          have y2 : (T'.heap.toList.take X.2.2.2.2.1.heap.size)[i]? = none := by simp; omega
          rw [y1, y2]
      omega
    · rw [f2 q (by rw [e0]; omega) (fun w => z2 (hF q w)), e0]
      exact g8 q z1 z2
    · rcases List.mem_append.mp hq with hq | hq
      · exact g9 q hq
      · exact hF _ (hL q hq)
  obtain ⟨t2, a1, b1⟩ := k T'.heap (locs ++ L) hH2 T' rfl (ax_tight XS')
  exact ⟨t2, hgo t2 a1, b1⟩
end AXC
