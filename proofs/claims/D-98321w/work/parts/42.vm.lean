/-! what the machine throws by itself: the laws of EXCEPTIONS, with what was made -/
set_option maxRecDepth 100000
def ay_no (w : Cond) : Bool := decide (w ≠ .isRef (.static Bundle.tN "UNASSIGNED_STACK" Bundle.steD)) && decide (w ≠ .isRef (.static Bundle.tN "SUPPRESSED_SENTINEL" Bundle.listD)) && decide (w ≠ .laysStatic Bundle.tN "UNASSIGNED_STACK" Bundle.steD) && decide (w ≠ .laysStatic Bundle.tN "SUPPRESSED_SENTINEL" Bundle.listD)
def ay_ot (w : Cond) : Bool := w.onTables || goodWord w
theorem ay_ot_at {args a' : Array Value} {s U : State} {w : Cond} (hW : s.WarmedH U.vm) (hvm : s.vm = U.vm) (hg : ay_ot w = true) (h : w.before args s = true) : w.before a' U = true := by
  simp only [ay_ot, Bool.or_eq_true] at hg
  rcases hg with hg | hg
  · exact va_tabs hg hvm h
  · exact word_at hW (good_of_word hg) h
theorem ay_own {args : Array Value} {s : State} {L : List Cond} (h1 : ∀ w ∈ L.filter ay_no, w.before args s = true)
    (hU : (Cond.isRef (.static Bundle.tN "UNASSIGNED_STACK" Bundle.steD)).before args s = true) (hN : (Cond.isRef (.static Bundle.tN "SUPPRESSED_SENTINEL" Bundle.listD)).before args s = true)
    (lU : (Cond.laysStatic Bundle.tN "UNASSIGNED_STACK" Bundle.steD).before args s = true) (lN : (Cond.laysStatic Bundle.tN "SUPPRESSED_SENTINEL" Bundle.listD).before args s = true) : ∀ w ∈ L, w.before args s = true := by
  intro w hw
  by_cases e1 : w = .isRef (.static Bundle.tN "UNASSIGNED_STACK" Bundle.steD)
  · rw [e1]; exact hU
  · by_cases e2 : w = .isRef (.static Bundle.tN "SUPPRESSED_SENTINEL" Bundle.listD)
    · rw [e2]; exact hN
    · by_cases e3 : w = .laysStatic Bundle.tN "UNASSIGNED_STACK" Bundle.steD
      · rw [e3]; exact lU
      · by_cases e4 : w = .laysStatic Bundle.tN "SUPPRESSED_SENTINEL" Bundle.listD
        · rw [e4]; exact lN
        · exact h1 w (List.mem_filter.mpr ⟨hw, by unfold ay_no; rw [decide_eq_true e1, decide_eq_true e2, decide_eq_true e3, decide_eq_true e4]; rfl⟩)
def ay_L (C n d : String) (A : Nat → Prop) (U : State) (H : Heap) : Prop := ∃ (c : ClassId) (k : Class) (i : Nat) (f : Field) (a : Nat) (cell : Cell), U.vm.findClass C = some c ∧ U.fieldFound? C n d = some (c, k, i, f) ∧ f.isStatic = true ∧ k.statics = some a ∧ H[a]? = some cell ∧ cell.vm.isStatics = true ∧ cell.cls = c ∧ f.slot < cell.slots.size ∧ k.staticTypes[f.slot]? = some f.type ∧ ¬ A a
theorem ay_L.moved {C n d : String} {A : Nat → Prop} {u U : State} {H : Heap} (hvm : u.vm.Alike U.vm) (h : ay_L C n d A u H) : ay_L C n d A U H := by
  obtain ⟨c, k, i, f, a, cell, h1, h2, h3, h4, h5, h6, h7, h8, h9, h10⟩ := h
  obtain ⟨k', hi', he⟩ := State.fieldFound?_setVm hvm h2
  exact ⟨c, k', i, f, a, cell, by rw [hvm.findClass]; exact h1, hi', h3, by rw [he]; exact h4, h5, h6, h7, h8, by rw [he]; exact h9, h10⟩
theorem ay_L.word {C n d : String} {A : Nat → Prop} {s : State} {args : Array Value} (h : ay_L C n d A s s.heap) : (Cond.laysStatic C n d).before args s = true := by
  obtain ⟨c, k, i, f, a, cell, h1, h2, h3, h4, h5, h6, h7, h8, h9, -⟩ := h
  show (Cond.laysStatic C n d).holds args s none s [] = true
  exact Cond.laysStatic_of h1 h2 h3 h4 h5 h6 h7 h8 h9
theorem ay_isRef {C n d : String} {v : Value} {A : Nat → Prop} {s : State} {args : Array Value} (h : va_Z C n d v A s s.heap) (hv : v.isRef = true) : (Cond.isRef (.static C n d)).before args s = true := by
  obtain ⟨cf, kf, fi, f, a, cell, h1, h2, h3, h4, h5, h6, h7, -⟩ := h
  have he : (Term.static C n d).eval args s none [] s = some v := by
    simp [Term.eval, State.fieldNamed?, h1, h2, h4, h5, h6, h7]
  simp only [Cond.before, Cond.holds, Cond.value, he]
  cases v <;> simp_all [Value.isRef]
theorem ay_isRefq {C n d : String} {A : Nat → Prop} {s : State} {args : Array Value} (h : va_Zq C n d A s s.heap) : (Cond.isRef (.static C n d)).before args s = true := by
  rcases h with h | ⟨t, h⟩
  · exact ay_isRef h rfl
  · exact ay_isRef h rfl
section VMX
variable {p : Program} {l : Launch} {e : Env} {R : Room} {s : State} {m : MethodId} {args : Array Value} {below : List Frame} {meth : Method} {c : Code} {locs : List Loc} {cells slots : Nat} {H : Heap} {Q : State → Prop} {pc : Nat} {ls : Array Slot} {rest : List Value}
theorem ay_frame {U : State} {k n : Nat} (h : s.sameButNew ({ U with vm := s.vm } : State) locs k n) : s.heap.size ≤ U.heap.size ∧ ∀ q : Nat, q < s.heap.size → (∀ z ∈ locs, z.base ≠ q) → U.heap[q]? = s.heap[q]? := by
  obtain ⟨-, h2, -, -, -, h6⟩ := h
  refine ⟨h2, fun q hq hz => ?_⟩
  obtain ⟨c9, e1, e2, e3, e4⟩ := h6 q _ (Array.getElem?_eq_getElem hq)
  have hs : c9.slots = (s.heap[q]).slots := Array.ext_getElem? fun i => e4 i fun hm => hz _ hm rfl
  have h9 : c9 = s.heap[q] := by
    rw [hs] at e2
    exact e2
  have e5 : U.heap[q]? = some c9 := e1
  rw [e5, h9, Array.getElem?_eq_getElem hq]
theorem ay_rebase {T : State} (X : Stand p l e R s m args below meth c T locs cells slots) {R' : Room} (hf : R'.frames ≤ R.frames) (hl : R'.locals ≤ R.locals) (hc : cells + R'.cells ≤ R.cells) (hs : slots + R'.slots ≤ R.slots) :
    Stand p l e R' ((T.setVm s.vm).setFrames (.invoking m args :: below)) m args below meth c T [] 0 0 := by
  have htop : (T.setVm s.vm).topJava?.isSome := X.here.top
  have hF : ((T.setVm s.vm).setFrames (.invoking m args :: below)).frames = .invoking m args :: below := State.frames_setFrames _ (State.cur_lt_of_top htop)
  obtain ⟨g₀, hg0⟩ := Option.isSome_iff_exists.mp htop
  obtain ⟨r, hr⟩ := State.topJava?_eq_some.mp hg0
  have hl9 : e.platform.stackLimits (T.setVm s.vm).me = e.platform.stackLimits s.me := X.limits
  have hb9 : (T.setVm s.vm).me.stackBytes = s.me.stackBytes := X.bytes
  refine ⟨X.admits, X.cas, X.clock, hF, ?_, X.hears, X.method, X.code, X.here, X.tail, X.warmed, ?_, ?_, ?_⟩
  · have h := X.room
    have hU : ((T.setVm s.vm).setFrames (.invoking m args :: below)).localsInUse = s.localsInUse := by
      rw [State.localsInUse_invoking hF (meth := meth) (c := c) X.method X.code, State.localsInUse_invoking X.frames X.method X.code]
    simp only [State.hasRoom, Bool.and_eq_true, decide_eq_true_eq] at h ⊢
    obtain ⟨⟨⟨⟨h1, h2, h3, h4, h5, h6⟩, h7⟩, h8⟩, h9⟩ := h
    rw [X.frames, List.length_cons] at h2 h3
    have q1 := X.heapSize
    have q2 := X.used
    simp only [hF, hU, List.length_cons, State.stackLimits_setFrames, State.stackBytes_setFrames, hl9, hb9]
    refine ⟨⟨⟨⟨by omega, by omega, by omega, by omega, by omega, h6⟩, ?_⟩, ?_⟩, X.book⟩
    · show T.heap.size + R'.cells ≤ e.platform.maxCells
      omega
    · show T.slotsUsed + R'.slots ≤ e.platform.maxSlots
      omega
  · rw [State.stackLimits_setFrames]; rfl
  · rw [State.stackBytes_setFrames]; rfl
  · refine ⟨?_, Nat.le_refl _, Nat.le_refl _, ?_, ?_, fun a c9 h9 => ⟨c9, h9, rfl, rfl, fun _ _ => rfl⟩⟩
    · obtain ⟨t, ht, -⟩ := State.frames_cons hr
      show T.setVm s.vm = { ((T.setVm s.vm).setFrames (.invoking m args :: below)).setFrames (T.setVm s.vm).frames with heap := T.heap, slotsUsed := T.slotsUsed }
      rw [State.setFrames_setFrames, State.setFrames_self ht]
      rfl
    · show T.slotsUsed = T.slotsUsed + ((T.heap.toList.drop T.heap.size).map (·.slots.size)).sum
      rw [List.drop_eq_nil_of_le (Nat.le_of_eq Array.length_toList)]
      rfl
    · show ((T.heap.toList.drop T.heap.size).map (·.slots.size)).sum ≤ 0
      rw [List.drop_eq_nil_of_le (Nat.le_of_eq Array.length_toList)]
      exact Nat.le_refl _
set_option maxHeartbeats 1000000 in
theorem ay_vmAt {p : Program} {l : Launch} {e : Env} {R : Room} {s : State} {m₀ : MethodId} {args : Array Value} {below : List Frame} {meth : Method} {c : Code} {W : State} {locs : List Loc} {cells slots : Nat}
    (X : Stand p l e R s m₀ args below meth c W locs cells slots) (hexec : p.tables.exec = Jvm.exec) (htr : e.platform.stackTraces = false) {cls : String} {names : List String} {text : String}
    (hcls : Bundle.fit cls = true) (hnames : ∀ n ∈ names, Bundle.fit n = true) (hsoe : (cls == "java/lang/StackOverflowError") = false) (hoom : (cls == "java/lang/OutOfMemoryError") = false)
    (h : ∀ a ∈ Bundle.messageArmAtoms cls names, a.before args s = true)
    (hlocs : ∀ x ∈ locs, ∀ cell, s.heap[x.base]? = some cell → cell.vm.isStatics = false)
    (htext : (text == notModelled) = false) (hlimit : ¬ (stringBytes (stringToUtf16 text)).size > e.platform.arrayLengthLimit) (hheap : ¬ (stringBytes (stringToUtf16 text)).size * componentBytes .byte > e.platform.maxHeapBytes)
    {g : JFrame} (hg : g.method = m₀) (hsize : g.locals.size = c.maxLocals)
    (hRframes : names.length + 4 < R.frames) (hRlocals : 2 * g.monitorRoom + (g.stack.map fun v => v.category).sum + 10240 ≤ R.locals) (hshort : 13 * names.length + 55 ≤ 10240)
    (hRcells : cells + 3 ≤ R.cells) (hRslots : slots + ((stringBytes (stringToUtf16 text)).size + 4 + 6) ≤ R.slots) (hlocks : meth.locks = false) :
    ∃ (S : State) (q : Addr) (ce : Cell), (∀ target, Steps p.tables e below ((S.setTop g).pushFrame (.throwing q)) target → Steps p.tables e below ((W.setTop g).pushFrame (.throwNew cls (some text) none)) target) ∧
      Stand p l e R s m₀ args below meth c S locs (cells + 3) (slots + ((stringBytes (stringToUtf16 text)).size + 4 + 6)) ∧ S.heap[q]? = some ce ∧ s.vm.findClass cls = some ce.cls ∧ ce.vm = .none ∧ S.heap.size = W.heap.size + 3 ∧ ax_sl S.heap = ax_sl W.heap + ((stringBytes (stringToUtf16 text)).size + 10) ∧ q = W.heap.size + 2 := by
  have howns : e.platform.frameOwnsMonitors = true := by rw [X.admits.platform]
  have hfin : e.platform.finalization = false := by rw [X.admits.platform]
  have hpl : e.platform.magicAccessors = ({} : Platform).magicAccessors := by rw [X.admits.platform]
  have a : ∀ x, x ∈ Bundle.messageArmAtoms cls names → x.holds args s none s [] = true := fun x hx => h x hx
  obtain ⟨T, Z0, L, -, Y⟩ := ThrowableC.of_atoms (args := args) howns hfin hpl (fun x hx => h x (by simp [Bundle.messageArmAtoms, hx]))
  obtain ⟨Z, M, LZ, LM, hnZ⟩ := Init0T.ofS_atoms (args := args) hpl L Y (fun x hx => h x (by simp [Bundle.messageArmAtoms, hx]))
  obtain ⟨P1, Ps, hlen, L1, hL, hP1m, hlink1, hlink⟩ := Bundle.chainS (args := args) hpl hnZ names cls hcls hnames (fun x hx => h x (by simp [Bundle.messageArmAtoms, hx]))
  obtain ⟨Zs, LZs, hn4, hfitv, hfitc⟩ := StringT.of_atoms (args := args) (fun x hx => h x (by simp [Bundle.messageArmAtoms, hx]))
  have hfound : s.vm.findClass cls = some P1.m.cls := findClass_of_methodNamed hP1m
  obtain ⟨c1, kX, hc1, hk, hord, -, -, hn6⟩ := Cond.instantiable_spec (a (.instantiable cls 6) (by simp [Bundle.messageArmAtoms]))
  cases Option.some.inj (hc1.symm.trans hfound)
  have hinit := Cond.initialized_spec hfound hk (a (.initialized cls) (by simp [Bundle.messageArmAtoms]))
  have hctor : kX.findMethod "<init>" "(Ljava/lang/String;)V" = some P1.m.idx := findMethod_of_methodNamed hP1m hk
  have hsel0 : selectMethod e.platform s.vm P1.m.cls T.fill0 = .method T.fill0 := by
    obtain ⟨c2, r2, m2, q1, q2, q3, q4, -⟩ := Cond.selects_spec (a (.selects cls Bundle.tFill0 Bundle.tFill0) (by simp [Bundle.messageArmAtoms]))
    cases Option.some.inj (q1.symm.trans hfound)
    cases Option.some.inj (q2.symm.trans (State.methodFound?_of_named Y.fill0 (by decide)))
    cases Option.some.inj (q3.symm.trans Y.fill0)
    rw [Launch.admits_selectMethod X.admits]; exact q4
  have hselF : selectMethod e.platform s.vm P1.m.cls T.fill = .method T.fill := by
    obtain ⟨c2, r2, m2, q1, q2, q3, q4, -⟩ := Cond.selects_spec (a (.selects cls Bundle.tFill Bundle.tFill) (by simp [Bundle.messageArmAtoms]))
    cases Option.some.inj (q1.symm.trans hfound)
    cases Option.some.inj (q2.symm.trans (State.methodFound?_of_named Y.fill (by decide)))
    cases Option.some.inj (q3.symm.trans Y.fill)
    rw [Launch.admits_selectMethod X.admits]; exact q4
  obtain ⟨cellS0, hcS0, hiss⟩ := Y.statics
  obtain ⟨u0, hu0⟩ := Cond.staticRefV Y.unassigned L.unassignedStatic L.statics hcS0 hiss (a (.isRef (.static Bundle.tN "UNASSIGNED_STACK" Bundle.steD)) (by simp [Bundle.messageArmAtoms]))
  obtain ⟨sen, hsen⟩ := Cond.staticRefV Y.sentinel L.sentinelStatic L.statics hcS0 hiss (a (.isRef (.static Bundle.tN "SUPPRESSED_SENTINEL" Bundle.listD)) (by simp [Bundle.messageArmAtoms]))
  obtain ⟨ci198, i198, fB, hk198, hg198, ha198, hsB, -, hnB, htB, hffB⟩ := Cond.ownField (t := .object "java/lang/Object") Y.found L.cls (by decide +kernel) (a (.fieldLink Bundle.tN 198 Bundle.tN "backtrace" "Ljava/lang/Object;") (by simp [Bundle.messageArmAtoms])) (a (.lays Bundle.tN Bundle.tN "backtrace" "Ljava/lang/Object;") (by simp [Bundle.messageArmAtoms])) e.platform hpl
  obtain ⟨cellS, hcS', heS, -, hkeep⟩ := X.same.2.2.2.2.2 T.aS cellS0 hcS0
  have hcellS : W.heap[T.aS]? = some cellS := hcS'
  have hout' : ∀ i, (⟨T.aS, i⟩ : Loc) ∉ locs := fun i hmem => by
    have := hlocs _ hmem cellS0 hcS0
    rw [hiss] at this; cases this
  have hknownS : cellS.vm ≠ .unknown := by
    rw [heS]; intro hu
    rw [show cellS0.vm = .unknown from hu] at hiss
    cases hiss
  have hvU : cellS.slots[T.fUnassigned.slot]? = some u0.v := by rw [hkeep _ (hout' _)]; exact hu0
  have hvSen : cellS.slots[T.fSentinel.slot]? = some sen.v := by rw [hkeep _ (hout' _)]; exact hsen
  obtain ⟨iM, hffM⟩ := Y.msg
  obtain ⟨tyC, dC, hdC, hdnC⟩ := Cond.laysAt hfound hk Y.cause (a (.lays cls Bundle.tN "cause" "Ljava/lang/Throwable;") (by simp [Bundle.messageArmAtoms]))
  obtain ⟨tyS, dS, hdS, hdnS⟩ := Cond.laysAt hfound hk Y.stack (a (.lays cls Bundle.tN "stackTrace" Bundle.steD) (by simp [Bundle.messageArmAtoms]))
  obtain ⟨tyP, dP, hdP, hdnP⟩ := Cond.laysAt hfound hk Y.supp (a (.lays cls Bundle.tN "suppressedExceptions" Bundle.listD) (by simp [Bundle.messageArmAtoms]))
  obtain ⟨tyM, dM, hdM, hdnM⟩ := Cond.laysAt hfound hk hffM (a (.lays cls Bundle.tN "detailMessage" "Ljava/lang/String;") (by simp [Bundle.messageArmAtoms]))
  obtain ⟨tyB, dB, hdB, hdnB⟩ := Cond.laysAt hfound hk hffB (a (.lays cls Bundle.tN "backtrace" "Ljava/lang/Object;") (by simp [Bundle.messageArmAtoms]))
  have bC := Cond.laysApart hdB hdC hdnB hdnC (by rw [hnB, Y.causeName]; decide)
  have bS := Cond.laysApart hdB hdS hdnB hdnS (by rw [hnB, Y.stackName]; decide)
  have bP := Cond.laysApart hdB hdP hdnB hdnP (by rw [hnB, Y.suppName]; decide)
  have hbk : ((preparedCellV T.toThrowableT (freshCell P1.m.cls kX) (W.heap.size + 2) u0 sen).withEntry W.cur).slots[fB.slot]? = some .null := by
    have := fresh_default (c := P1.m.cls) tyB
    rw [htB] at this
    simpa [preparedCellV, Cell.setSlot, Cell.withEntry, Array.getElem?_setIfInBounds, bC, bS, bP, bC.symm, bS.symm, bP.symm, defaultValue] using this
  have tkC := Takes.of_laid (v := .ref (W.heap.size + 2)) hk hord tyC (by rw [Y.causeType]; rfl)
  have tkS := Takes.of_laid (v := u0.v) hk hord tyS (by rw [Y.stackType]; exact fits_refV_array _ u0)
  have tkP := Takes.of_laid (v := sen.v) hk hord tyP (by rw [Y.suppType]; exact fits_refV_object _ sen)
  have tkM := Takes.of_laid (v := .ref (W.heap.size + 1)) hk hord tyM (by rw [Y.msgType]; rfl)
  have hskip : SkipFacts T e.platform s (fun u => u) u0 ((preparedCellV T.toThrowableT (freshCell P1.m.cls kX) (W.heap.size + 2) u0 sen).withEntry W.cur) := ⟨{ ci198 := ci198, i198 := i198, fBack := fB }, ⟨hk198, hg198, ha198, hsB⟩, hbk, fun _ _ => rfl⟩
  have h0 : At W g.method c below := by rw [hg]; exact X.here
  obtain ⟨hbeyond, hfreeW⟩ := X.vmMayThrow hsize (.throwNew cls (some text) none) (fun f hf => by cases hf) rfl hRlocals
  have hfr' : W.frames.length + Ps.length + 4 < (e.platform.stackLimits W.me).1 := by have := X.framesAbove hRframes; omega
  have hwd' : (stackUse (.java g :: W.frames.tail)).2 + 13 * Ps.length + 55 ≤ (e.platform.stackLimits W.me).2 := by have := X.stackAbove hsize (K := 13 * Ps.length + 55) (by omega); omega
  have hslots : W.slotsUsed + (stringBytes (stringToUtf16 text)).size + Zs.kS.instanceTypes.size + kX.instanceTypes.size ≤ e.platform.maxSlots := by
    have := X.slotsAbove hRslots
    rw [hn4, hn6]
    omega
  obtain ⟨vm', hW', st⟩ := Steps.vmThrowsMessageColdByV p (s₀ := s) (S := W) (g := g) h0 hexec T L Z LZ M LM X.warmed (t := W.cur) rfl Zs LZs P1 L1 Ps hL hlink1 hlink hsoe hoom hfound hk hinit hord hctor
    (Launch.admits_hotImplicitExceptions X.admits) hbeyond hfreeW htext hlimit hheap (X.cellsAbove hRcells) hslots (hfitv _) (hfitc _)
    (Nn := fun u => u) heapOnly_id (fun _ _ => rfl) (fun _ => rfl) (fun u x y => setCell_twice _ _ _ _) (fun _ => Nat.le_refl _) (cN := ((preparedCellV T.toThrowableT (freshCell P1.m.cls kX) (W.heap.size + 2) u0 sen).withEntry W.cur))
    hsel0 hcellS hknownS hvU tkS (fun _ hu => hu) (fun _ hu => hu) rfl rfl rfl (by simp [preparedCellV, Cell.setSlot, Cell.withEntry]) hskip (fun _ _ hA hW _ hroom _ hrest => L.nativeOff p htr hA hW hroom hrest) hselF hvSen tkC tkP tkM Y.objLocals rfl hfr' hwd'
  rw [plainBareV_eq T.toThrowableT (W.heap.size + 2) u0 sen (.ref (W.heap.size + 1)) W.cur rfl rfl] at st
  obtain ⟨-, -, w3, w4, -, -, -⟩ := withThrown_facts e.platform W Zs text P1.m.cls kX
  have hsl9 : ax_sl (((withThrown W Zs text P1.m.cls kX).setVm vm').setCell (W.heap.size + 2) (plainBareV T.toThrowableT (freshCell P1.m.cls kX) (W.heap.size + 2) u0 sen (.ref (W.heap.size + 1)))).heap = ax_sl W.heap + ((stringBytes (stringToUtf16 text)).size + 10) := by
    have hT3 : (withThrown W Zs text P1.m.cls kX) = ((W.pushCell (bytesOf Zs.cB (stringToUtf16 text))).pushCell (stringAt Zs.cS Zs.kS Zs.fv Zs.fc (stringToUtf16 text) W.heap.size)).pushCell (freshCell P1.m.cls kX) := by
      rw [← withString_eq]
    have g1 : ∀ (S9 : State) (c9 : Cell), ax_sl (S9.pushCell c9).heap = ax_sl S9.heap + c9.slots.size := fun S9 c9 => ax_sl_new (by simp) (fun q hq => State.heap_pushCell_of_lt (h := hq) ..) (by simp)
    have b1 : (bytesOf Zs.cB (stringToUtf16 text)).slots.size = (stringBytes (stringToUtf16 text)).size := by
      rw [(Cell.writeAll_facts _ _).2.2]; simp [bytes0]
    have b2 : (stringAt Zs.cS Zs.kS Zs.fv Zs.fc (stringToUtf16 text) W.heap.size).slots.size = 4 := by simp [string0, Cell.setSlot, hn4]
    have b3 : (freshCell P1.m.cls kX).slots.size = 6 := by simp [hn6]
    have g2 : ax_sl (withThrown W Zs text P1.m.cls kX).heap = ax_sl W.heap + ((stringBytes (stringToUtf16 text)).size + 10) := by
      rw [hT3, g1, g1, g1, b1, b2, b3]
      omega
    have g3 : ax_sl (((withThrown W Zs text P1.m.cls kX).setVm vm').setCell (W.heap.size + 2) (plainBareV T.toThrowableT (freshCell P1.m.cls kX) (W.heap.size + 2) u0 sen (.ref (W.heap.size + 1)))).heap = ax_sl (withThrown W Zs text P1.m.cls kX).heap := by
      refine ax_sl_of (by rw [size_setCell]; rfl) fun q9 d9 hq9 => ?_
      by_cases e9 : q9 = W.heap.size + 2
      · subst e9
        rw [w4] at hq9
        cases hq9
        exact ⟨_, heapAt_setCell_self _ (by show _ < (withThrown W Zs text P1.m.cls kX).heap.size; rw [w3]; omega), by simp [plainBareV, Cell.setSlot]⟩
      · exact ⟨d9, by rw [heapAt_setCell_ne _ (Ne.symm e9)]; exact hq9, rfl⟩
    rw [g3, g2]
  have X3 := ((X.pushed (bytesOf Zs.cB (stringToUtf16 text))).pushed (stringAt Zs.cS Zs.kS Zs.fv Zs.fc (stringToUtf16 text) W.heap.size)).pushed (freshCell P1.m.cls kX)
  rw [← withString_eq] at X3
  have X4 := X3.noted hW'
  have ha : (W.heap.size + 2) < ((withThrown W Zs text P1.m.cls kX).setVm vm').heap.size := by show _ < (withThrown W Zs text P1.m.cls kX).heap.size; rw [w3]; omega
  have hcell : ((withThrown W Zs text P1.m.cls kX).setVm vm').heap[(W.heap.size + 2)]? = some (freshCell P1.m.cls kX) := w4
  have X5 := ((((X4.stored hcell T.fCause.slot (.ref (W.heap.size + 2))).storedAgain ha T.fStack.slot u0.v).storedAgain ha T.fSupp.slot sen.v).storedAgain ha T.fStack.slot u0.v).storedAgain ha T.fMsg.slot (.ref (W.heap.size + 1))
  obtain ⟨g₁, hfrM⟩ := X5.frames_eq
  have hU : ((((withThrown W Zs text P1.m.cls kX).setVm vm').setCell (W.heap.size + 2) (plainBareV T.toThrowableT (freshCell P1.m.cls kX) (W.heap.size + 2) u0 sen (.ref (W.heap.size + 1)))).setTop g).pushFrame (.throwing (W.heap.size + 2)) = (((withThrown W Zs text P1.m.cls kX).setVm vm').setCell (W.heap.size + 2) (plainBareV T.toThrowableT (freshCell P1.m.cls kX) (W.heap.size + 2) u0 sen (.ref (W.heap.size + 1)))).setFrames (.throwing (W.heap.size + 2) :: .java g :: below) := by
    rw [State.pushFrame, State.frames_setTop _ hfrM, State.setTop_of_frames _ hfrM, State.setFrames_setFrames]
  have b1 : (bytesOf Zs.cB (stringToUtf16 text)).slots.size = (stringBytes (stringToUtf16 text)).size := by
    rw [(Cell.writeAll_facts _ _).2.2]; simp [bytes0]
  have b2 : (stringAt Zs.cS Zs.kS Zs.fv Zs.fc (stringToUtf16 text) W.heap.size).slots.size = 4 := by simp [string0, Cell.setSlot, hn4]
  have b3 : (freshCell P1.m.cls kX).slots.size = 6 := by simp [hn6]
  rw [b1, b2, b3] at X5
  have e9 : slots + (stringBytes (stringToUtf16 text)).size + 4 + 6 = slots + ((stringBytes (stringToUtf16 text)).size + 4 + 6) := by omega
  rw [e9] at X5
  simp only [List.append_assoc, List.cons_append, List.nil_append] at X5
  refine ⟨((withThrown W Zs text P1.m.cls kX).setVm vm').setCell (W.heap.size + 2) (plainBareV T.toThrowableT (freshCell P1.m.cls kX) (W.heap.size + 2) u0 sen (.ref (W.heap.size + 1))), W.heap.size + 2, _, fun target ht => st _ (by rw [X.tail, ← hU]; exact ht),
    X5.forget (fun y hy => ?_), heapAt_setCell_self _ ha, hfound, rfl, by rw [size_setCell]; exact w3, ?_, rfl⟩
  rotate_left
  · exact hsl9
  simp only [List.mem_cons, List.not_mem_nil, or_false] at hy
  have hge : s.heap.size ≤ W.heap.size := X.same.2.1
  rcases hy with rfl | rfl | rfl | rfl | rfl <;> exact Nat.le_trans hge (Nat.le_add_right _ 2)
def ay_atM (X : String) (names : List String) : List Cond := (Bundle.messageArmAtoms X names).filter ay_no
theorem ay_back9 {T S : State} {R' : Room} {k n : Nat} (X : Stand p l e R s m args below meth c T locs cells slots) (Y : Stand p l e R' ((T.setVm s.vm).setFrames (.invoking m args :: below)) m args below meth c T [] 0 0) (Z : Stand p l e R' ((T.setVm s.vm).setFrames (.invoking m args :: below)) m args below meth c S [] k n) :
    Stand p l e R s m args below meth c S locs (cells + k) (slots + n) := by
  have hW0 : s.WarmedH ((T.setVm s.vm).setFrames (.invoking m args :: below)).vm := State.WarmedH.refl s
  refine { admits := X.admits, cas := X.cas, clock := X.clock, frames := X.frames, room := X.room, hears := X.hears, method := X.method, code := X.code, here := Z.here, tail := Z.tail, warmed := State.WarmedH.trans hW0 Z.warmed, limits := Z.limits.trans (Y.limits.symm.trans X.limits), bytes := Z.bytes.trans (Y.bytes.symm.trans X.bytes), same := ?_ }
  obtain ⟨e1, e2⟩ := Z.same
  rw [State.setFrames_setFrames] at e1
  have h2 : (T.setVm s.vm).sameButNew (S.setVm s.vm) [] k n := ⟨e1, e2⟩
  have h3 := X.same.trans h2
  rw [List.append_nil] at h3
  exact h3
def ay_Note (p : Program) (l : Launch) (e : Env) (R : Room) (s : State) (m : MethodId) (args : Array Value) (below : List Frame) (meth : Method) (c : Code) (H : Heap) (locs : List Loc) (cells slots : Nat) (Q : State → Prop) (g : JFrame) (E text : String) : Prop :=
  ∀ T : State, T.heap = H → Stand p l e R s m args below meth c T locs cells slots → ∃ t, Steps p.tables e below ((T.setTop g).pushFrame (.throwNew E (some text) none)) t ∧ Q t
end VMX
def ay_X : String := "java/lang/ArrayIndexOutOfBoundsException"
def ay_names : List String := ["java/lang/IndexOutOfBoundsException", "java/lang/RuntimeException", "java/lang/Exception"]
def ay_chk (w : Cond) : Bool := decide (w ∈ lw_tbl) && (goodWord w || match w with
  | .castable _ _ => true
  | .declares _ => true
  | _ => false)
set_option maxHeartbeats 4000000 in
theorem ay_all : (ay_atM ay_X ay_names).all ay_chk = true := by decide +kernel
theorem ay_goods : ∀ w ∈ ay_atM ay_X ay_names, ay_ot w = true := by
  intro w hw
  have h := List.all_eq_true.mp ay_all w hw
  unfold ay_chk at h
  rw [Bool.and_eq_true, Bool.or_eq_true] at h
  unfold ay_ot
  rw [Bool.or_eq_true]
  rcases h.2 with g | g
  · exact Or.inr g
  · left
    cases w <;> first | rfl | cases g
def ax_txt (i : Int) (n : Nat) : String := toString "Index " ++ toString (Int32.ofInt i) ++ toString " out of bounds for length " ++ toString n
def ax_nb (i : Int) (n : Nat) : Nat := (stringBytes (stringToUtf16 (ax_txt i n))).size
/-- the heap behind the machine's throw of an index -/
def ax_th (E : ax_E) (h : ax_H) (i : Int) (n : Nat) : Option (Nat × ax_H) := if h.1 + 3 ≤ E.1.1 ∧ h.2.1 + (ax_nb i n + 10) ≤ E.1.2 ∧ ax_nb i n ≤ 1000 ∧ (ax_txt i n == notModelled) = false then some (h.1 + 2, (h.1 + 3, h.2.1 + (ax_nb i n + 10), h.2.2)) else none
/-- a byte of an array, or the throw -/
def ax_ldX (E : ax_E) (h : ax_H) (r : Option Nat) (i : Int) : Option ((Nat × ax_H) ⊕ Int) := (ax_ce E h r 101).bind fun c => if 0 ≤ i2 i ∧ i2 i < c.2.1 then (ax_ld E h r 101 i).map .inr else (ax_th E h i c.2.1).map .inl
section AXV
variable {l : Launch} {G : ax_G} {X : ax_X} {Q : State → Prop} {h h0 : ax_H} {cc : ByteArray} {nL fr lo pc : Nat} {own : String} {ls : Array Slot} {rest : List Value}
theorem ay_hat (B : ax_BL l G X cc nL own fr lo) : ∀ w ∈ ay_atM ay_X ay_names, w.before X.2.2.2.2.2.2.1 X.2.2.2.2.1 = true := by
  intro w hw
  have h := List.all_eq_true.mp ay_all w hw
  unfold ay_chk at h
  rw [Bool.and_eq_true, Bool.or_eq_true] at h
  have hm := of_decide_eq_true h.1
  rcases h.2 with g | g
  · exact B.2.1.2.2.2.2 _ (List.mem_filter.mpr ⟨hm, g⟩)
  · cases w <;> first | (cases g; done) | skip
    · exact va_Nw.use rfl (va_Nw.warmD B.2.2.2.1.1 (B.2.2.2.1.2.2.1 _ hm (Or.inl rfl)))
    · exact va_Nw.use rfl (va_Nw.warmC B.2.2.2.1.1 (B.2.2.2.1.2.2.1 _ hm (Or.inl rfl)))
theorem ay_lays {n d : String} {H : Heap} {locs : List Loc} (B : ax_BL l G X cc nL own fr lo) (hH : ax_HH G X h H locs) (hl : (Cond.laysStatic "java/lang/Throwable" n d).before #[] G.2.1 = true) {T : State} (hT : T.heap = H) (hv : T.vm = X.2.2.2.2.1.vm) {args : Array Value} : (Cond.laysStatic "java/lang/Throwable" n d).before args T = true := by
  obtain ⟨c, k, i, f, a, cell, h1, h2, h3, h4, h5, h6, h7, h8, h9⟩ := Cond.laysStatic_spec hl
  have h0 : ay_L "java/lang/Throwable" n d (fun _ => False) G.2.1 G.2.1.heap := ⟨c, k, i, f, a, cell, h1, h2, h3, h4, h5, h6, h7, h8, h9, id⟩
  obtain ⟨c, k, i, f, a, cell, h1, h2, h3, h4, h5, h6, h7, h8, h9, h10⟩ := ay_L.moved (U := T) (by rw [hv]; exact B.2.2.2.1.1.alike) h0
  exact ay_L.word (A := fun _ => False) ⟨c, k, i, f, a, cell, h1, h2, h3, h4, by rw [hT, ax_old B.2 hH (Array.getElem?_eq_some_iff.mp h5).1]; exact h5, h6, h7, h8, h9, h10⟩
theorem ay_isr {n d : String} {o : Option Nat} {H : Heap} {locs : List Loc} (B : ax_BL l G X cc nL own fr lo) (hH : ax_HH G X h H locs) (hZ : va_Z "java/lang/Throwable" n d (va_rf o) (fun _ => False) G.2.1 G.2.1.heap) {T : State} (hT : T.heap = H) (hv : T.vm = X.2.2.2.2.1.vm) {args : Array Value} : (Cond.isRef (.static "java/lang/Throwable" n d)).before args T = true := by
  obtain ⟨cf, kf, fi, f, a, cell, h1, h2, h3, h4, h5, h6, h7, h8⟩ := va_Z.moved (U := T) (by rw [hv]; exact B.2.2.2.1.1.alike) hZ
  exact ay_isRef (A := fun _ => False) (v := va_rf o) ⟨cf, kf, fi, f, a, cell, h1, h2, h3, h4, by rw [hT, ax_old B.2 hH (Array.getElem?_eq_some_iff.mp h5).1]; exact h5, h6, h7, h8⟩ (by cases o <;> rfl)
/-- the machine throws, an index being out of bounds -/
theorem ax_vm {i : Int} {n q : Nat} {h' : ax_H} (B : ax_BL l G X cc nL own fr lo) (hlt : l.stackTraces = false) (hz : ls.size = nL) (hfr : 7 < fr) (hlo : (rest.map fun v => v.category).sum + 10240 ≤ lo) (e : ax_th G.2.2 h i n = some (q, h')) (k : ax_V G X Q ay_X h' pc ls rest q) {H : Heap} {locs : List Loc} (hH : ax_HH G X h H locs) :
    ay_Note X.1 X.2.1 X.2.2.1 X.2.2.2.1 X.2.2.2.2.1 X.2.2.2.2.2.1 X.2.2.2.2.2.2.1 X.2.2.2.2.2.2.2.1 X.2.2.2.2.2.2.2.2.1 X.2.2.2.2.2.2.2.2.2.1 H locs (H.size - X.2.2.2.2.1.heap.size) (ax_sl H - ax_sl X.2.2.2.2.1.heap) Q (F0 X.2.2.2.2.2.1 pc ls rest) ay_X (ax_txt i n) := by
  unfold ax_th at e
  split at e
  · rename_i hn
    cases e
    obtain ⟨n1, n2, n3, n4⟩ := hn
    obtain ⟨⟨p1, p2, p3, p4⟩, p5, ⟨p6, p7⟩, p8, p9⟩ := id hH
    obtain ⟨c1, c2, c3, c4⟩ := ax_roomR B
    intro T hT XS
    have htr : X.2.2.1.platform.stackTraces = false := (show X.2.2.1.platform.stackTraces = X.2.1.stackTraces by rw [XS.admits.platform]).trans (by rw [B.1]; exact hlt)
    have Y := ay_rebase XS (R' := { frames := X.2.2.2.1.frames, locals := X.2.2.2.1.locals, cells := 3, slots := ax_nb i n + 10 }) (Nat.le_refl _) (Nat.le_refl _) (by rw [c3]; show _ + 3 ≤ _; omega) (by rw [c4]; show _ + (ax_nb i n + 10) ≤ _; omega)
    have hhp : ((T.setVm X.2.2.2.2.1.vm).setFrames (.invoking X.2.2.2.2.2.1 X.2.2.2.2.2.2.1 :: X.2.2.2.2.2.2.2.1)).heap = H := hT
    have hvm0 : ((T.setVm X.2.2.2.2.1.vm).setFrames (.invoking X.2.2.2.2.2.1 X.2.2.2.2.2.2.1 :: X.2.2.2.2.2.2.2.1)).vm = X.2.2.2.2.1.vm := rfl
    have hW0 : X.2.2.2.2.1.WarmedH ((T.setVm X.2.2.2.2.1.vm).setFrames (.invoking X.2.2.2.2.2.1 X.2.2.2.2.2.2.1 :: X.2.2.2.2.2.2.2.1)).vm := State.WarmedH.refl X.2.2.2.2.1
    have hat' : ∀ w ∈ ay_atM ay_X ay_names, w.before X.2.2.2.2.2.2.1 ((T.setVm X.2.2.2.2.1.vm).setFrames (.invoking X.2.2.2.2.2.1 X.2.2.2.2.2.2.1 :: X.2.2.2.2.2.2.2.1)) = true := fun w hw => ay_ot_at hW0 rfl (ay_goods w hw) (ay_hat B w hw)
    obtain ⟨S, q, ce, st, Z, hce, hcl', hv, hs1, hs2, hs3⟩ := ay_vmAt Y B.2.1.1 htr (cls := ay_X) (names := ay_names) (text := ax_txt i n) (by decide +kernel) (by decide +kernel) (by decide +kernel) (by decide +kernel) (ay_own hat' (ay_isr B hH (ax_sx B).1.2.2.1 hhp hvm0) (ay_isr B hH (ax_sx B).1.2.2.2.1 hhp hvm0) (ay_lays B hH (ax_sx B).2.2.2.2.1 hhp hvm0) (ay_lays B hH (ax_sx B).2.2.2.2.2 hhp hvm0)) (fun x hx => nomatch hx) n4
      (by rw [Launch.admits_arrayLengthLimit XS.admits]; unfold ax_nb at n3; omega) (by rw [Launch.admits_maxHeapBytes XS.admits]; simp only [componentBytes]; unfold ax_nb at n3; omega)
      (g := F0 X.2.2.2.2.2.1 pc ls rest) rfl (hz.trans B.2.1.2.2.1.symm) (by show 3 + 4 < X.2.2.2.1.frames; rw [c1]; omega) (by show 2 * 0 + (rest.map fun v => v.category).sum + 10240 ≤ X.2.2.2.1.locals; rw [c2]; omega) (by decide) (by show 0 + 3 ≤ 3; omega) (by show 0 + (_ + 4 + 6) ≤ ax_nb i n + 10; unfold ax_nb; omega) B.2.2.1
    obtain ⟨f1, f2⟩ := ay_frame Z.same
    have f2' : ∀ q : Nat, q < H.size → S.heap[q]? = H[q]? := fun q hq => by
      rw [← hT]
      exact f2 q (by rw [← hT] at hq; exact hq) (fun z hz => nomatch hz)
    have X5 := ay_back9 XS Y Z
    rw [hT] at hs1 hs2 hs3
    have hq : q = h.1 + 2 := by rw [hs3, p1]
    subst hq
    have hH' : ax_HH G X (h.1 + 3, h.2.1 + (ax_nb i n + 10), h.2.2) S.heap locs := by
      refine ⟨⟨by rw [hs1, p1], by rw [hs2, p2]; rfl, n1, n2⟩, fun a c hc => ⟨(p5 a c hc).1.kept (f2' a (p5 a c hc).1.lt), (p5 a c hc).2⟩, ⟨by rw [hs1]; omega, by rw [hs2]; omega⟩, fun a a1 a2 => ?_, p9⟩
      rw [f2' a (by omega)]
      exact p8 a a1 a2
    obtain ⟨t, a1, b1⟩ := k S.heap locs ce hH' hce hv hcl' S rfl (ax_tight X5)
    exact ⟨t, st t a1, b1⟩
  · cases e
theorem ax_baldX {α : Type} {r : Option Nat} {i : Int} {g : Nat × ax_H → Option α} {f : Int → Option α} {w : α} (B : ax_BL l G X cc nL own fr lo) (hlt : l.stackTraces = false) (hz : ls.size = nL) (hfr : 7 < fr) (hlo : (rest.map fun v => v.category).sum + 10240 ≤ lo) (d : decode cc pc = .ok (.baload, 1)) (e : ax_tc g (ax_ldX G.2.2 h r i) f = some w) (kx : ∀ x, g x = some w → ax_V G X Q ay_X x.2 pc ls rest x.1) (k : ∀ v, f v = some w → ax_W G X Q h (pc + 1) ls (.int (Int32.ofInt v) :: rest)) : ax_W G X Q h pc ls (.int (Int32.ofInt i) :: va_rf r :: rest) := by
  rcases ax_tc_spec e with ⟨x, e1, e2⟩ | ⟨v, e1, e2⟩
  · unfold ax_ldX at e1
    obtain ⟨c, e3, e4⟩ := ax_b e1
    split at e4
    · obtain ⟨v, -, q⟩ := Option.map_eq_some_iff.mp e4
      cases q
    · rename_i hn
      obtain ⟨y, e5, q⟩ := Option.map_eq_some_iff.mp e4
      cases q
      obtain ⟨b, rfl, e6, e7⟩ := ax_ce_spec e3
      intro H locs hH T hT XS
      have ht1 : ax_kd c.1 = some (.inr .byte) := by rw [e7]; exact kd101
      obtain ⟨cell, hc, hv, hA, hs, -⟩ := (ax_read B.2 hH e6).arr ht1
      obtain ⟨t, st, q⟩ := ax_vm B hlt hz hfr hlo e5 (kx _ e2) hH T hT XS
      refine ⟨t, ?_, q⟩
      have h1 := XS.baloadOut B.2.1.1 (by rw [hT]; exact hc) hA (j := Int32.ofInt i) (by
        rw [hs, arrV_size, ax_lt0, ax_clamp]
        by_cases h0 : i2 i < 0
        · exact Or.inl h0
        · right
          omega) (g := F0 X.2.2.2.2.2.1 pc ls (.int (Int32.ofInt i) :: .ref b :: rest)) rfl (rest := rest) rfl (by rw [B.2.1.2.1]; exact d) t
      simp only [hs, arrV_size] at h1
      exact h1 st
  · refine ax_bald B kd101 d (f := f) (w := w) ?_ k
    unfold ax_ldX at e1
    obtain ⟨c, e3, e4⟩ := ax_b e1
    split at e4
    · obtain ⟨v', e5, q⟩ := Option.map_eq_some_iff.mp e4
      cases q
      rw [e5]
      exact e2
    · obtain ⟨y, -, q⟩ := Option.map_eq_some_iff.mp e4
      cases q
theorem ax_xsI {α : Type} {y : MethodName} {bytes : ByteArray} {L n fr1 lo1 index : Nat} {ret : Option FieldType} {As : List Value} {callee : Option ((Nat × ax_H) ⊕ (Int × ax_H))} {g : Nat × ax_H → Option α} {f : Int × ax_H → Option α} {w : α} {Ex : String} (B : ax_BL l G X cc nL own fr lo) (hcw : GoodIn lw_all (va_wsS own index y (ws_ y bytes L ret))) (hd : y.cls ≠ "java/lang/invoke/MethodHandle" ∧ y.cls ≠ "java/lang/invoke/VarHandle" ∧ (parseMethodDescriptor y.desc).map (fun d => d.parameters.length) = some n) (hR : fr1 + 1 ≤ fr ∧ 8 + (L + 11) + lo1 ≤ lo) (hM : ∀ w1, callee = some w1 → ax_MetX l G Ex y bytes L ret fr1 lo1 As h (ax_zI w1)) (hn : As.length = n) (hz : ls.size = nL) (hrest : (rest.map fun v => v.category).sum ≤ 8) (d : decode cc pc = .ok (.invokestatic index, 3)) (e : ax_tc g callee f = some w) (kx : ∀ x, g x = some w → ax_V G X Q Ex x.2 pc ls rest x.1) (k : ∀ w1, f w1 = some w → ax_W G X Q w1.2 (pc + 3) ls (.int (Int32.ofInt w1.1) :: rest)) : ax_W G X Q h pc ls (As.reverse ++ rest) := by
  have hlx := B.1
  subst hlx
  have run : ∀ z : ax_Rz, ax_MetX X.2.1 G Ex y bytes L ret fr1 lo1 As h z → (∀ w, z = .inr w → ax_W G X Q w.1 (pc + 3) ls (w.2.toList ++ rest)) → (∀ x, z = .inl x → ax_V G X Q Ex x.2 pc ls rest x.1) → ax_W G X Q h pc ls (As.reverse ++ rest) := fun z hM k kx => by
    refine ax_callX B (arr := As.toArray) (z := z) (Ex := Ex) (fun H locs hH => ?_) k kx
    exact ay_runS (As := As) (rest := rest) B.2.1 hM (va_cwS n B.2.1.2.2.2.2 hcw rfl rfl rfl hd (by obtain ⟨c1, c2, -⟩ := ax_roomR B; rw [c1, c2]; exact hR)) ⟨ax_blind, fun U hU hW => ⟨rfl, ax_ready B hH U hU hW⟩⟩ rfl hn hz rfl (lv_room hrest) d (ax_fits B hH)
  rcases ax_tc_spec e with ⟨x1, e1, e2⟩ | ⟨w1, e1, e2⟩
  · refine run _ (hM _ e1) (fun w q => by cases q) (fun x q => ?_)
    cases q
    exact kx _ e2
  · refine run _ (hM _ e1) (fun w q => ?_) (fun x q => by cases q)
    cases q
    exact k _ e2
/-- DebtDoors.byteAt, an index out of bounds being thrown -/
def fx_X0_byteAt (E : ax_E) (x0 : Option Nat) (x1 : Int) (h : ax_H) : Option ((Nat × ax_H) ⊕ (Int × ax_H)) := ax_tc (fun x => some (.inl x)) (ax_ldX E h x0 x1) fun v => some (.inr (ax_and v 255, h))
end AXV

