/-! exceptions: the laws of EXCEPTIONS, with the thrown object known -/
set_option maxRecDepth 100000
def ay_T (XC : Addr → String → State → State → Prop) (st : State) (q : Addr) (t : State) (mc ms : Nat) (free : Addr → Prop) : Prop :=
  ∃ (E : String) (ce : Cell) (L : List Loc), XC q E st t ∧ t.heap[q]? = some ce ∧ ce.vm = .none ∧ st.vm.findClass E = some ce.cls ∧ st.WarmedH t.vm ∧ st.sameButNew ({ t with vm := st.vm } : State) L mc ms ∧ ∀ z ∈ L, free z.base
def ay_Q (Qc : Array Value → State → Outcome → State → Prop) (XC : Addr → String → State → State → Prop) (mc ms : Nat) (free : Addr → Prop) : Array Value → State → Outcome → State → Prop := fun a st o t =>
  (Qc a st o t ∧ ∃ L, FrameEnd st o t L mc ms ∧ ∀ q ∈ L, free q.base) ∨ ∃ q, o = .threw q ∧ ay_T XC st q t mc ms free
def ay_Met (l : Launch) (y : MethodName) (ws : List Cond) (rm : Room) (Pc : Array Value → State → Prop) (Qc : Array Value → State → Outcome → State → Prop) (XC : Addr → String → State → State → Prop) (mc ms : Nat) (free : Addr → Prop) : Prop :=
  MetFree l y (headSpec ws rm) Pc (fun _ _ _ _ _ => True) (ay_Q Qc XC mc ms free)
def ay_Post (XC : Addr → String → State → State → Prop) (mc ms : Nat) (free : Addr → Prop) : Pt → Array Value → Addr → Pt → Prop := fun A a q B =>
  ∃ (g : JFrame) (mk : MethodId) (t : State) (L : List Loc) (E : String) (ce : Cell), B.U.heap = t.heap ∧ B.U.vm = t.vm ∧ XC q E (A.U.calling g mk a) t ∧ t.heap[q]? = some ce ∧ ce.vm = .none ∧ A.U.vm.findClass E = some ce.cls ∧ B.locs = A.locs ++ L ∧ (∀ z ∈ L, free z.base) ∧ B.cells = A.cells + mc ∧ B.slots = A.slots + ms
def ay_Back (l : Launch) (R : Room) (p : Program) (e : Env) (below : List Frame) (s : State) (sargs : Array Value) (y : MethodName) (len W9 : Nat)
    (Pre : Pt → Array Value → Prop) (Post : Pt → Array Value → Option Value → Pt → Prop) (PostX : Pt → Array Value → Addr → Pt → Prop) : Prop :=
  ∀ (m : MethodId) (meth : Method) (c : Code) (A : Pt) (g : JFrame) (ig : Instr) (mk : MethodId) (a : Array Value),
    Stand p l e R s m sargs below meth c A.U A.locs A.cells A.slots → g.method = m → g.locals.size = c.maxLocals → decode c.code g.pc = .ok (ig, len) →
    2 * g.monitorRoom + (g.stack.map fun v => v.category).sum ≤ W9 → A.U.methodNamed? y = some mk → Pre A a →
    (∃ (v : Option Value) (B : Pt), Stand p l e R s m sargs below meth c B.U B.locs B.cells B.slots ∧ Post A a v B ∧
      Steps p.tables e below (doInvoke e (A.U.setTop g) [] mk a).1 (B.U.setTop { g with pc := g.pc + len, stack := v.toList ++ g.stack })) ∨
    (∃ (q : Addr) (B : Pt), Stand p l e R s m sargs below meth c B.U B.locs B.cells B.slots ∧ PostX A a q B ∧
      Steps p.tables e below (doInvoke e (A.U.setTop g) [] mk a).1 ((B.U.setTop g).pushFrame (.throwing q)))
section Payer
variable {l : Launch} {R : Room} {p : Program} {e : Env} {below : List Frame} {s : State} {sargs : Array Value} {y : MethodName} {len W9 : Nat}
theorem ay_back {ws : List Cond} {rm : Room} {Pc : Array Value → State → Prop} {Qc : Array Value → State → Outcome → State → Prop} {XC : Addr → String → State → State → Prop} {mc ms : Nat} {free : Addr → Prop} {bytes : ByteArray} {maxL : Nat} {ret : Option FieldType}
    (hM : ay_Met l y ws rm Pc Qc XC mc ms free) (hblind : FrameBlind Pc) (hrc : rm.cells = mc) (hrs : rm.slots = ms)
    (hframes : rm.frames + 1 ≤ R.frames) (hlocals : W9 + (maxL + 11) + rm.locals ≤ R.locals)
    (hws : ∀ w ∈ ws, ∀ a' U, s.WarmedH U.vm → w.before a' U = true) (hcode : Cond.code y bytes maxL ret ∈ ws) (hinit : ∀ a' U, s.WarmedH U.vm → (Cond.initialized y.cls).before a' U = true) :
    ay_Back l R p e below s sargs y len W9 (PreOf R mc ms Pc) (PostOf Qc mc ms free) (ay_Post XC mc ms free) := by
  intro m meth c A g ig mk a X hg hsize hdg hW hn hp
  have h1 : (headSpec ws rm).pre.before a A.U = true := atoms_intro fun w hw => hws w hw _ _ X.warmed
  have h2 : (Cond.code y bytes maxL ret).before a A.U = true := hws _ hcode _ _ X.warmed
  have h3 : (Cond.initialized y.cls).before a A.U = true := hinit _ _ X.warmed
  have h4 : A.cells + (headSpec ws rm).room.cells ≤ R.cells := by rw [show (headSpec ws rm).room.cells = mc from hrc]; exact hp.1
  have h5 : A.slots + (headSpec ws rm).room.slots ≤ R.slots := by rw [show (headSpec ws rm).room.slots = ms from hrs]; exact hp.2.1
  have hPc : Pc a (A.U.calling g mk a) := hblind _ _ _ _ hp.2.2
  obtain ⟨U, Ls, c0, s0⟩ := A
  dsimp only [Pt.U, Pt.locs, Pt.cells, Pt.slots] at h1 h2 h3 h4 h5 X hn hPc ⊢
  obtain ⟨methY, cY, hmY, hcY, -, hlY, -, -, -, -⟩ := Cond.code_spec hn h2
  obtain ⟨kY, hkY, -⟩ := className_of_methodNamed hn
  have hinitY : kY.init = .initialized := Cond.initialized_spec (findClass_of_methodNamed hn) hkY h3
  have h : At U g.method c below := by rw [hg]; exact X.here
  have hlocals9 : W9 + (maxL + 11) + (headSpec ws rm).room.locals ≤ R.locals := hlocals
  have happ : (headSpec ws rm).appliesLoose y e.platform (U.calling g mk a) = true :=
    Spec.appliesLoose_calling (g := g) h hdg hn hkY hinitY
      (X.room_calling (g := g) (R' := (headSpec ws rm).room) hsize hmY hcY hframes (by rw [hlY]; omega) h4 h5) h1
  obtain ⟨mid, hmid⟩ := h.above
  have hfr : (U.setTop g).frames = (.java g :: mid) ++ below := by rw [State.frames_setTop' g h.top, hmid]; rfl
  obtain ⟨o, s₂, hsteps, -, hend, hq⟩ := Steps.callFree hM p X.admits X.cas X.clock (acts := []) hfr happ hPc trivial
  have hq' : ay_Q Qc XC mc ms free a (U.calling g mk a) o s₂ := hq
  rw [State.frames_setTop' g h.top] at hend
  obtain ⟨g₀, hg0⟩ := Option.isSome_iff_exists.mp h.top
  obtain ⟨r, hr⟩ := State.topJava?_eq_some.mp hg0
  have hr' : (({ U with heap := s₂.heap, slotsUsed := s₂.slotsUsed } : State).setVm s₂.vm).frames = .java g₀ :: r := hr
  rcases hq' with ⟨hqc, L, hfe, hL⟩ | ⟨q, rfl, E, ce, L, hx, hce, hcv, hcl, hW₂, hsm, hL⟩
  · obtain ⟨⟨v, rfl⟩, hW₂, e2, q2, q3, q4, q5, q6⟩ := id hfe
    have e3 : s₂ = ({ (U.calling g mk a).setFrames s₂.frames with heap := s₂.heap, slotsUsed := s₂.slotsUsed } : State).setVm s₂.vm := by
      have : s₂ = ({ s₂ with vm := (U.calling g mk a).vm } : State).setVm s₂.vm := rfl
      rw [e2] at this
      exact this
    obtain ⟨c₂, i₂, len₂, hc₂, hd₂, hf₂⟩ := hend
    have hW' : U.WarmedH s₂.vm := hW₂
    have hcc : c₂ = c := by
      have h1 : s₂.code? g.method = U.code? g.method := by
        rw [State.code?_eq, State.code?_eq, hW'.alike.method?]
      exact Option.some.inj (hc₂.symm.trans (h1.trans h.code))
    subst hcc
    have hlen : len₂ = len := by rw [hdg] at hd₂; cases hd₂; rfl
    subst hlen
    have hs₂ : s₂ = (({ U with heap := s₂.heap, slotsUsed := s₂.slotsUsed } : State).setVm s₂.vm).setTop { g with pc := g.pc + len₂, stack := v.toList ++ g.stack } := by
      refine e3.trans ?_
      rw [hf₂, State.calling_eq h.top, State.setFrames_setFrames, State.setTop_of_frames _ hr', hr]
      rfl
    have hsame : U.sameButNew ({ U with heap := s₂.heap, slotsUsed := s₂.slotsUsed } : State) L mc ms := by
      refine ⟨?_, q2, q3, q4, q5, q6⟩
      obtain ⟨t, ht, -⟩ := State.frames_cons hr
      show ({ U with heap := s₂.heap, slotsUsed := s₂.slotsUsed } : State) = { U.setFrames U.frames with heap := s₂.heap, slotsUsed := s₂.slotsUsed }
      rw [State.setFrames_self ht]
    subst hg
    refine Or.inl ⟨v, ⟨(({ U with heap := s₂.heap, slotsUsed := s₂.slotsUsed } : State).setVm s₂.vm), Ls ++ L, c0 + mc, s0 + ms⟩,
      ⟨X.admits, X.cas, X.clock, X.frames, X.room, X.hears, X.method, X.code, (X.here.setHeapUsed s₂.heap s₂.slotsUsed).setVm hW'.alike, X.tail, State.WarmedH.trans X.warmed hW', X.limits, X.bytes, X.same.trans (hsame.setVm s.vm)⟩,
      ⟨g, mk, s₂, L, rfl, rfl, hqc, rfl, hL, rfl, rfl⟩, ?_⟩
    show Steps p.tables e below _ ((({ U with heap := s₂.heap, slotsUsed := s₂.slotsUsed } : State).setVm s₂.vm).setTop { g with pc := g.pc + len₂, stack := v.toList ++ g.stack })
    rw [← hs₂]
    exact hsteps
  · obtain ⟨e2, q2, q3, q4, q5, q6⟩ := id hsm
    have e3 : s₂ = ({ (U.calling g mk a).setFrames s₂.frames with heap := s₂.heap, slotsUsed := s₂.slotsUsed } : State).setVm s₂.vm := by
      have : s₂ = ({ s₂ with vm := (U.calling g mk a).vm } : State).setVm s₂.vm := rfl
      rw [e2] at this
      exact this
    have hf₂ : s₂.frames = .throwing q :: .java g :: U.frames.tail := hend
    have hW' : U.WarmedH s₂.vm := hW₂
    have hs₂ : s₂ = ((({ U with heap := s₂.heap, slotsUsed := s₂.slotsUsed } : State).setVm s₂.vm).setTop g).pushFrame (.throwing q) := by
      refine e3.trans ?_
      rw [hf₂, State.calling_eq h.top, State.setFrames_setFrames, State.pushFrame, State.frames_setTop _ hr', State.setTop_of_frames _ hr', State.setFrames_setFrames, hr]
      rfl
    have hsame : U.sameButNew ({ U with heap := s₂.heap, slotsUsed := s₂.slotsUsed } : State) L mc ms := by
      refine ⟨?_, q2, q3, q4, q5, q6⟩
      obtain ⟨t, ht, -⟩ := State.frames_cons hr
      show ({ U with heap := s₂.heap, slotsUsed := s₂.slotsUsed } : State) = { U.setFrames U.frames with heap := s₂.heap, slotsUsed := s₂.slotsUsed }
      rw [State.setFrames_self ht]
    subst hg
    refine Or.inr ⟨q, ⟨(({ U with heap := s₂.heap, slotsUsed := s₂.slotsUsed } : State).setVm s₂.vm), Ls ++ L, c0 + mc, s0 + ms⟩,
      ⟨X.admits, X.cas, X.clock, X.frames, X.room, X.hears, X.method, X.code, (X.here.setHeapUsed s₂.heap s₂.slotsUsed).setVm hW'.alike, X.tail, State.WarmedH.trans X.warmed hW', X.limits, X.bytes, X.same.trans (hsame.setVm s.vm)⟩,
      ⟨g, mk, s₂, L, E, ce, rfl, rfl, hx, hce, hcv, hcl, rfl, hL, rfl, rfl⟩, ?_⟩
    show Steps p.tables e below _ (((({ U with heap := s₂.heap, slotsUsed := s₂.slotsUsed } : State).setVm s₂.vm).setTop g).pushFrame (.throwing q))
    rw [← hs₂]
    exact hsteps
end Payer
section Calls
variable {p : Program} {l : Launch} {e : Env} {R : Room} {s : State} {m : MethodId} {args : Array Value} {below : List Frame} {meth : Method} {c : Code} {T : State} {locs : List Loc} {cells slots : Nat}
theorem ay_callVU (X : Stand p l e R s m args below meth c T locs cells slots) (hexec : p.tables.exec = Jvm.exec) {own C owner : String} {index : Nat} {x y : MethodName} {bytes : ByteArray} {maxL : Nat} {ret : Option FieldType}
    (hown : s.vm.findClass own = some m.cls) (hlink : (Cond.methodLink own index x).before args s = true) (hsame : (Cond.sameMethod x.cls owner x.name x.desc).before args s = true)
    (hd0 : va_Decl s ⟨owner, x.name, x.desc⟩) (howner : owner ≠ "java/lang/invoke/MethodHandle" ∧ owner ≠ "java/lang/invoke/VarHandle")
    (hsel : (Cond.selects C x y).before args s = true) (hinst : (Cond.instanceMethod y).before args s = true) (hcode : (Cond.code y bytes maxL ret).before args s = true)
    {W : Nat} {Pre : Pt → Array Value → Prop} {Post : Pt → Array Value → Option Value → Pt → Prop} {PostX : Pt → Array Value → Addr → Pt → Prop} (hK : ay_Back l R p e below s args y 3 W Pre Post PostX)
    {b : Addr} {cellB : Cell} (hcell : T.heap[b]? = some cellB) (hobj : cellB.vm.isStatics = false) (hcls : s.vm.findClass C = some cellB.cls)
    {g : JFrame} (hg : g.method = m) (hsize : g.locals.size = c.maxLocals) {argsL rest : List Value} (hlen : ∀ sig, parseMethodDescriptor x.desc = some sig → argsL.length = sig.parameters.length)
    (hstack : g.stack = argsL.reverse ++ .ref b :: rest) (hW : 2 * g.monitorRoom + (rest.map fun v => v.category).sum ≤ W) (hdg : decode c.code g.pc = .ok (.invokevirtual index, 3))
    (hpre : ∀ vm₁, s.WarmedH vm₁ → Pre ⟨T.setVm vm₁, locs, cells, slots⟩ (Value.ref b :: argsL).toArray) :
    (∃ (v : Option Value) (vm₁ : Vm) (B : Pt), s.WarmedH vm₁ ∧ Stand p l e R s m args below meth c B.U B.locs B.cells B.slots ∧ Post ⟨T.setVm vm₁, locs, cells, slots⟩ (Value.ref b :: argsL).toArray v B ∧
      ∀ target, Steps p.tables e below (B.U.setTop { g with pc := g.pc + 3, stack := v.toList ++ rest }) target → Steps p.tables e below (T.setTop g) target) ∨
    (∃ (q : Addr) (vm₁ : Vm) (B : Pt), s.WarmedH vm₁ ∧ Stand p l e R s m args below meth c B.U B.locs B.cells B.slots ∧ PostX ⟨T.setVm vm₁, locs, cells, slots⟩ (Value.ref b :: argsL).toArray q B ∧
      Steps p.tables e below (T.setTop g) ((B.U.setTop { g with stack := rest }).pushFrame (.throwing q))) := by
  obtain ⟨r0, r, hn, hrm, hstR, hsigR⟩ := hd0
  obtain ⟨cn, ck, r1, hcn, hck, hni, hf, hn1⟩ := Cond.sameMethod_found hsame
  cases hn.symm.trans hn1
  obtain ⟨mk, methM, hnamed, hmethM, -, habM⟩ := Cond.instanceMethod_spec hinst
  obtain ⟨c2, r2, m2, q1, q2, q3, q4, kP, hkP, hkPi⟩ := Cond.selects_spec hsel
  cases hcls.symm.trans q1
  cases hf.symm.trans q2
  cases hnamed.symm.trans q3
  have hselP : selectMethod e.platform s.vm cellB.cls r0 = .method mk := by rw [Launch.admits_selectMethod X.admits]; exact q4
  obtain ⟨vm₁, X₁, hstep₁⟩ := X.invokevirtualUp hexec hown hlink hsame howner hn hrm hstR (a := b) (cell := cellB) hcell
    (fun z h => by rw [h] at hobj; cases hobj) hselP hmethM habM hkP hkPi (g := g) hg (argsL := argsL) (rest := rest) (hlen _ hsigR) hstack hdg
  rcases hK m meth c ⟨T.setVm vm₁, locs, cells, slots⟩ { g with stack := rest } (.invokevirtual index) mk (Value.ref b :: argsL).toArray X₁ hg hsize hdg hW (X₁.named hnamed) (hpre vm₁ X₁.warmed) with ⟨v, B, X', hpost, hsteps⟩ | ⟨q, B, X', hpost, hsteps⟩
  · exact Or.inl ⟨v, vm₁, B, X₁.warmed, X', hpost, fun target h => hstep₁ _ fun acts => by rw [doInvoke_state]; exact hsteps.trans h⟩
  · exact Or.inr ⟨q, vm₁, B, X₁.warmed, X', hpost, hstep₁ _ fun acts => by rw [doInvoke_state]; exact hsteps⟩
theorem ay_callS (X : Stand p l e R s m args below meth c T locs cells slots) (hexec : p.tables.exec = Jvm.exec) {own : String} {index : Nat} {y : MethodName} {bytes : ByteArray} {maxL : Nat} {ret : Option FieldType}
    (hown : s.vm.findClass own = some m.cls) (hlink : (Cond.methodLink own index y).before args s = true) (hstat : (Cond.static y).before args s = true) (hinit : (Cond.initialized y.cls).before args s = true)
    (hcode : (Cond.code y bytes maxL ret).before args s = true) (hy : y.cls ≠ "java/lang/invoke/MethodHandle" ∧ y.cls ≠ "java/lang/invoke/VarHandle")
    {W9 : Nat} {Pre : Pt → Array Value → Prop} {Post : Pt → Array Value → Option Value → Pt → Prop} {PostX : Pt → Array Value → Addr → Pt → Prop} (hK : ay_Back l R p e below s args y 3 W9 Pre Post PostX)
    {g : JFrame} (hg : g.method = m) (hsize : g.locals.size = c.maxLocals) {argsL rest : List Value} (hlen : ∀ sig, parseMethodDescriptor y.desc = some sig → argsL.length = sig.parameters.length)
    (hstack : g.stack = argsL.reverse ++ rest) (hW : 2 * g.monitorRoom + (rest.map fun v => v.category).sum ≤ W9) (hdg : decode c.code g.pc = .ok (.invokestatic index, 3))
    (hpre : ∀ vm₁, s.WarmedH vm₁ → Pre ⟨T.setVm vm₁, locs, cells, slots⟩ argsL.toArray) :
    (∃ (v : Option Value) (vm₁ : Vm) (B : Pt), s.WarmedH vm₁ ∧ Stand p l e R s m args below meth c B.U B.locs B.cells B.slots ∧ Post ⟨T.setVm vm₁, locs, cells, slots⟩ argsL.toArray v B ∧
      ∀ target, Steps p.tables e below (B.U.setTop { g with pc := g.pc + 3, stack := v.toList ++ rest }) target → Steps p.tables e below (T.setTop g) target) ∨
    (∃ (q : Addr) (vm₁ : Vm) (B : Pt), s.WarmedH vm₁ ∧ Stand p l e R s m args below meth c B.U B.locs B.cells B.slots ∧ PostX ⟨T.setVm vm₁, locs, cells, slots⟩ argsL.toArray q B ∧
      Steps p.tables e below (T.setTop g) ((B.U.setTop { g with stack := rest }).pushFrame (.throwing q))) := by
  obtain ⟨mk, hnamed⟩ := Cond.code_named hcode
  obtain ⟨methM, cM, hmethM, -, -, -, -, -, -, hsigM⟩ := Cond.code_spec hnamed hcode
  have hstatic : methM.isStatic = true := Cond.static_spec hnamed hmethM hstat
  obtain ⟨kP, hkP, -⟩ := className_of_methodNamed hnamed
  have hinitP : kP.init = .initialized := Cond.initialized_spec (findClass_of_methodNamed hnamed) hkP hinit
  obtain ⟨vm₁, X₁, hstep₁⟩ := X.invokestatic hexec hown hlink hnamed hmethM hstatic hkP hinitP hy (g := g) hg (argsL := argsL) (rest := rest) (hlen _ hsigM) hstack hdg
  rcases hK m meth c ⟨T.setVm vm₁, locs, cells, slots⟩ { g with stack := rest } (.invokestatic index) mk argsL.toArray X₁ hg hsize hdg hW (X₁.named hnamed) (hpre vm₁ X₁.warmed) with ⟨v, B, X', hpost, hsteps⟩ | ⟨q, B, X', hpost, hsteps⟩
  · exact Or.inl ⟨v, vm₁, B, X₁.warmed, X', hpost, fun target h => hstep₁ _ fun acts => by rw [doInvoke_state]; exact hsteps.trans h⟩
  · exact Or.inr ⟨q, vm₁, B, X₁.warmed, X', hpost, hstep₁ _ fun acts => by rw [doInvoke_state]; exact hsteps⟩
end Calls
theorem ay_cls {s : State} {T : State} {vm₁ : Vm} {E : String} {k : ClassId} (hW : s.WarmedH vm₁) (h : (T.setVm vm₁).vm.findClass E = some k) : s.vm.findClass E = some k := by
  have h1 : vm₁.findClass E = some k := h
  rw [hW.alike.findClass] at h1
  exact h1
def ay_W (p : Program) (l : Launch) (e : Env) (R : Room) (s : State) (m : MethodId) (args : Array Value) (below : List Frame) (meth : Method) (c : Code) (H : Heap) (locs : List Loc) (cells slots : Nat) (Q : State → Prop) (g : JFrame) (q : Addr) : Prop :=
  ∀ T : State, T.heap = H → Stand p l e R s m args below meth c T locs cells slots → ∃ t, Steps p.tables e below ((T.setTop g).pushFrame (.throwing q)) t ∧ Q t
def ay_Run (p : Program) (l : Launch) (e : Env) (R : Room) (s : State) (m : MethodId) (args : Array Value) (below : List Frame) (meth : Method) (c : Code) (H : Heap) (locs : List Loc) (cells slots mc ms : Nat) (g : JFrame) (rest : List Value) (Qa : State → Outcome → State → Prop) (XC : Addr → String → State → State → Prop) (free : Addr → Prop) : Prop :=
  ∀ T : State, T.heap = H → Stand p l e R s m args below meth c T locs cells slots →
    (∃ (v : Option Value) (st₀ t T' : State) (L : List Loc), st₀.heap = H ∧ Stand p l e R s m args below meth c T' (locs ++ L) (cells + mc) (slots + ms) ∧ (∀ q ∈ L, free q.base) ∧ T'.heap = t.heap ∧ T'.vm = t.vm ∧ Qa st₀ (.returned v) t ∧
      Goes p e below T g T' { g with pc := g.pc + 3, stack := v.toList ++ rest }) ∨
    (∃ (q : Addr) (st₀ t T' : State) (L : List Loc) (E : String) (ce : Cell), st₀.heap = H ∧ Stand p l e R s m args below meth c T' (locs ++ L) (cells + mc) (slots + ms) ∧ (∀ z ∈ L, free z.base) ∧ T'.heap = t.heap ∧ T'.vm = t.vm ∧ XC q E st₀ t ∧ t.heap[q]? = some ce ∧ ce.vm = .none ∧ s.vm.findClass E = some ce.cls ∧
      Steps p.tables e below (T.setTop g) ((T'.setTop { g with stack := rest }).pushFrame (.throwing q)))
section Runs
variable {p : Program} {l : Launch} {e : Env} {R : Room} {s : State} {m : MethodId} {args : Array Value} {below : List Frame} {meth : Method} {c : Code} {H : Heap} {locs : List Loc} {cells slots : Nat}
variable {x y : MethodName} {bytes cc : ByteArray} {maxL nL mc ms n index : Nat} {ret : Option FieldType} {ws : List Cond} {rm : Room} {Pc : Array Value → State → Prop} {Qc : Array Value → State → Outcome → State → Prop} {XC : Addr → String → State → State → Prop} {free : Addr → Prop} {Ts : List Cond} {own C owner : String} {b : Addr} {As rest : List Value} {g : JFrame}
theorem ay_callBack (cb : CallB R s args own index y bytes maxL ret ws rm mc ms n) (hM : ay_Met l y ws rm Pc Qc XC mc ms free) (hbl : FrameBlind Pc) : ay_Back l R p e below s args y 3 8 (PreOf R mc ms Pc) (PostOf Qc mc ms free) (ay_Post XC mc ms free) := by
  obtain ⟨hrc, hrs, hfr, hlo, hws, hcw, -, hini, -⟩ := cb
  exact ay_back (bytes := bytes) (maxL := maxL) (ret := ret) hM hbl hrc hrs hfr hlo hws hcw (fun a' U hW => word_at hW (Or.inl (by first | rfl | simp [Cond.onTables, Cond.keeps, Cond.steady])) hini)
theorem ay_runU (S : CallFix p m c cc nL s args Ts own) (hM : ay_Met l y ws rm Pc Qc XC mc ms free) (cw : va_CU R s args own C owner index x y bytes maxL ret ws rm mc ms n) (hp : PreV s H C b Pc As)
    (hg : g.method = m) (hn : As.length = n) (hsize : g.locals.size = nL) (hstack : g.stack = As.reverse ++ .ref b :: rest) (hW : 2 * g.monitorRoom + (rest.map fun v => v.category).sum ≤ 8) (hdg : decode cc g.pc = .ok (.invokevirtual index, 3)) (hf : cells + mc ≤ R.cells ∧ slots + ms ≤ R.slots) :
    ay_Run p l e R s m args below meth c H locs cells slots mc ms g rest (Qc (Value.ref b :: As).toArray) XC free := by
  obtain ⟨hrc, hrs, hfr, hlo, hws, hcw⟩ := cw.back
  have hini := cw.init
  have hK : ay_Back l R p e below s args y 3 8 (PreOf R mc ms Pc) (PostOf Qc mc ms free) (ay_Post XC mc ms free) := ay_back (bytes := bytes) (maxL := maxL) (ret := ret) hM hp.1 hrc hrs hfr hlo hws hcw (fun a' U hW => word_at hW (Or.inl (by first | rfl | simp [Cond.onTables, Cond.keeps, Cond.steady])) hini)
  obtain ⟨hx, hb, hml, ho, -⟩ := S
  obtain ⟨-, ⟨cellB, hcB, hoB, hclB⟩, hPc⟩ := hp
  intro T hT X
  rcases ay_callVU X hx (C := C) (owner := owner) (bytes := bytes) (maxL := maxL) (ret := ret) ho cw.link cw.same cw.decl cw.notMH cw.sel cw.inst cw.code hK (by rw [hT]; exact hcB) hoB hclB hg (hsize.trans hml.symm) (argsL := As) (rest := rest) (fun sig h => hn.trans (cw.len sig h)) hstack hW (by rw [hb]; exact hdg)
    (fun vm₁ hW₁ => ⟨hf.1, hf.2, hPc (T.setVm vm₁) hT hW₁⟩) with ⟨v, vm₁, ⟨U', l2, c2, s2⟩, hW₁, X', ⟨g', mk, t, L, e1, e2, hq, h1, hL, h2, h3⟩, st⟩ | ⟨q, vm₁, ⟨U', l2, c2, s2⟩, hW₁, X', ⟨g', mk, t, L, E, ce, e1, e2, hq, hce, hcv, hcl, h1, hL, h2, h3⟩, st⟩
  · dsimp only [Pt.U, Pt.locs, Pt.cells, Pt.slots] at X' e1 e2 h1 h2 h3 st
    subst h1; subst h2; subst h3
    exact Or.inl ⟨v, (T.setVm vm₁).calling g' mk (Value.ref b :: As).toArray, t, U', L, hT, X', hL, e1, e2, hq, st⟩
  · dsimp only [Pt.U, Pt.locs, Pt.cells, Pt.slots] at X' e1 e2 h1 h2 h3 st hcl
    subst h1; subst h2; subst h3
    exact Or.inr ⟨q, (T.setVm vm₁).calling g' mk (Value.ref b :: As).toArray, t, U', L, E, ce, hT, X', hL, e1, e2, hq, hce, hcv, ay_cls hW₁ hcl, st⟩
theorem ay_runS (S : CallFix p m c cc nL s args Ts own) (hM : ay_Met l y ws rm Pc Qc XC mc ms free) (cw : CallB R s args own index y bytes maxL ret ws rm mc ms n ∧ (Cond.static y).before args s = true) (hp : PreS s H Pc As)
    (hg : g.method = m) (hn : As.length = n) (hsize : g.locals.size = nL) (hstack : g.stack = As.reverse ++ rest) (hW : 2 * g.monitorRoom + (rest.map fun v => v.category).sum ≤ 8) (hdg : decode cc g.pc = .ok (.invokestatic index, 3)) (hf : cells + mc ≤ R.cells ∧ slots + ms ≤ R.slots) :
    ay_Run p l e R s m args below meth c H locs cells slots mc ms g rest (Qc As.toArray) XC free := by
  have hK : ay_Back l R p e below s args y 3 8 (PreOf R mc ms Pc) (PostOf Qc mc ms free) (ay_Post XC mc ms free) := ay_callBack cw.1 hM hp.1
  obtain ⟨⟨-, -, -, -, -, -, hcode, hini, hy, hlen, hl⟩, hstt⟩ := cw
  obtain ⟨hx, hb, hml, ho, -⟩ := S
  intro T hT X
  rcases ay_callS X hx (bytes := bytes) (maxL := maxL) (ret := ret) ho hl hstt hini hcode hy hK hg (hsize.trans hml.symm) (argsL := As) (rest := rest) (fun sig h => hn.trans (hlen sig h)) hstack hW (by rw [hb]; exact hdg)
    (fun vm₁ hW₁ => ⟨hf.1, hf.2, hp.2 (T.setVm vm₁) hT hW₁⟩) with ⟨v, vm₁, ⟨U', l2, c2, s2⟩, hW₁, X', ⟨g', mk, t, L, e1, e2, hq, h1, hL, h2, h3⟩, st⟩ | ⟨q, vm₁, ⟨U', l2, c2, s2⟩, hW₁, X', ⟨g', mk, t, L, E, ce, e1, e2, hq, hce, hcv, hcl, h1, hL, h2, h3⟩, st⟩
  · dsimp only [Pt.U, Pt.locs, Pt.cells, Pt.slots] at X' e1 e2 h1 h2 h3 st
    subst h1; subst h2; subst h3
    exact Or.inl ⟨v, (T.setVm vm₁).calling g' mk As.toArray, t, U', L, hT, X', hL, e1, e2, hq, st⟩
  · dsimp only [Pt.U, Pt.locs, Pt.cells, Pt.slots] at X' e1 e2 h1 h2 h3 st hcl
    subst h1; subst h2; subst h3
    exact Or.inr ⟨q, (T.setVm vm₁).calling g' mk As.toArray, t, U', L, E, ce, hT, X', hL, e1, e2, hq, hce, hcv, ay_cls hW₁ hcl, st⟩
end Runs
section Rows
variable {p : Program} {l : Launch} {e : Env} {R : Room} {s : State} {m : MethodId} {args : Array Value} {below : List Frame} {meth : Method} {c : Code} {H : Heap} {locs : List Loc} {cells slots : Nat} {Q : State → Prop}
variable {mc ms : Nat} {free : Addr → Prop} {pc : Nat} {ls : Array Slot} {st0 rest : List Value} {a : Array Value} {Qc : Array Value → State → Outcome → State → Prop} {XC : Addr → String → State → State → Prop}
def ay_Nc (E nm : String) (s : State) : Prop := ∃ (a b : ClassId), s.vm.findClass E = some a ∧ s.vm.findClass nm = some b ∧ s.vm.assignable a b = false
theorem ay_catch {own name : String} {E : String} {ce : Cell} {q : Addr} (hown : s.vm.findClass own = some m.cls) (pre : List ExceptionTableEntry) (x : ExceptionTableEntry) (suf : List ExceptionTableEntry) (hsplit : c.exceptionTable.toList = pre ++ x :: suf)
    (hpass : ∀ z ∈ pre, covers z pc = false ∨ (z.catchType ≠ 0 ∧ ∃ nm : String, (Cond.classLink own z.catchType nm).before args s = true ∧ ay_Nc E nm s)) (hx : covers x pc = true) (h0 : x.catchType ≠ 0)
    (hlink : (Cond.classLink own x.catchType name).before args s = true) (hcast : (Cond.castable E name).before args s = true) (hcell : H[q]? = some ce) (hv : ce.vm = .none) (hcl : s.vm.findClass E = some ce.cls)
    (kk : W p l e R s m args below meth c H locs cells slots Q (F0 m x.handlerPc ls [.ref q])) : ay_W p l e R s m args below meth c H locs cells slots Q (F0 m pc ls rest) q := by
  intro T hT X
  have hpl : e.platform.magicAccessors = ({} : Platform).magicAccessors := by rw [X.admits.platform]
  obtain ⟨c3, c4, hc3, hc4, hasg⟩ := Cond.castable_spec hcast
  cases Option.some.inj (hc3.symm.trans hcl)
  obtain ⟨c5, hc5, hcl5⟩ := Cond.classLink_spec hown hlink e.platform hpl
  cases Option.some.inj (hc4.symm.trans hc5)
  obtain ⟨vm', X', st⟩ := X.thenCaughtThrough q (g := F0 m pc ls rest) rfl (Steps.refl _) (by rw [hT]; exact hcell) (by rw [hv]; rfl) (by obtain ⟨k9, h9, -⟩ := Vm.findClass_spec hcl; exact ⟨k9, h9⟩) pre x suf hsplit
    (fun z hz => by
      rcases hpass z hz with h | ⟨hz0, nm, hl1, hn1⟩
      · exact Or.inl h
      · obtain ⟨c6, hc6, hcl6⟩ := Cond.classLink_spec hown hl1 e.platform hpl
        obtain ⟨a8, b8, h1, h2, h3⟩ := hn1
        cases Option.some.inj (h1.symm.trans hcl)
        cases Option.some.inj (h2.symm.trans hc6)
        exact Or.inr ⟨hz0, _, hcl6, h3⟩) hx (Or.inr ⟨h0, c4, hcl5, hasg⟩)
  obtain ⟨t, a1, b1⟩ := kk (T.setVm vm') hT X'
  exact ⟨t, st.trans a1, b1⟩
def ay_MQ (below : List Frame) (Qc : Array Value → State → Outcome → State → Prop) (XC : Addr → String → State → State → Prop) (a : Array Value) (s : State) (mc ms : Nat) (free : Addr → Prop) : State → Prop := fun t =>
  ∃ o, t.status = .running ∧ Ended t below o ∧ ay_Q Qc XC mc ms free a s o t
theorem ay_ret {g : JFrame} {mc ms : Nat} (k : W p l e R s m args below meth c H locs cells slots (MQ below Qc args s mc ms free) g) : W p l e R s m args below meth c H locs cells slots (ay_MQ below Qc XC args s mc ms free) g := by
  intro T hT X
  obtain ⟨t, a1, o, b1, b2, b3, b4⟩ := k T hT X
  exact ⟨t, a1, o, b1, b2, Or.inl ⟨b3, b4⟩⟩
theorem ay_widen {g : JFrame} {q : Addr} {k n : Nat} (h1 : cells ≤ k) (h2 : slots ≤ n) (kk : ay_W p l e R s m args below meth c H locs k n Q g q) : ay_W p l e R s m args below meth c H locs cells slots Q g q := fun T hT X => kk T hT (stand_widen X h1 h2)
theorem ay_out {pc : Nat} {E : String} {ce : Cell} {q : Addr} {mc ms : Nat} (hout : ∀ x ∈ c.exceptionTable.toList, covers x pc = false) (hlocks : meth.locks = false) (hcell : H[q]? = some ce) (hv : ce.vm = .none) (hcl : s.vm.findClass E = some ce.cls)
    (hx : ∀ t : State, t.heap = H → s.WarmedH t.vm → XC q E s t) (hf : ∀ z ∈ locs, free z.base) (hc : cells ≤ mc) (hs : slots ≤ ms) :
    ay_W p l e R s m args below meth c H locs cells slots (ay_MQ below Qc XC args s mc ms free) (F0 m pc ls rest) q := by
  intro T hT X
  obtain ⟨st1, hrun, hend, hW, hsm⟩ := X.leaveThrown q (g := F0 m pc ls rest) rfl rfl rfl hout hlocks
  have hcell9 : (T.setFrames (.throwing q :: below)).heap[q]? = some ce := by
    show T.heap[q]? = some ce
    rw [hT]; exact hcell
  exact ⟨_, st1, .threw q, hrun, hend, Or.inr ⟨q, rfl, E, ce, locs, hx _ hT hW, hcell9, hv, hcl, hW, hsm.mono hc hs, hf⟩⟩
theorem ay_athrow {cc : ByteArray} {pc : Nat} (hexec : p.tables.exec = Jvm.exec) (hb : c.code = cc) {q : Addr} (hdg : decode cc pc = .ok (.athrow, 1)) (k : ay_W p l e R s m args below meth c H locs cells slots Q (F0 m pc ls rest) q) : W p l e R s m args below meth c H locs cells slots Q (F0 m pc ls (.ref q :: rest)) := by
  intro T hT X
  obtain ⟨t, st, hq⟩ := k T hT X
  refine ⟨t, ?_, hq⟩
  have hdg' : decode c.code pc = .ok (.athrow, 1) := by rw [hb]; exact hdg
  jvm_step X.here [X.here.top, hexec, hdg', athrow.wp_sem]
  exact st
end Rows
section Bodies
theorem ay_ofW {l : Launch} {y : MethodName} {ws ws' : List Cond} {rm : Room} {Pc : Array Value → State → Prop} {Qc : Array Value → State → Outcome → State → Prop} {XC : Addr → String → State → State → Prop} {mc ms : Nat} {free : Addr → Prop} {cc : ByteArray} {maxL : Nat} {ret : Option FieldType}
    (hy : plainFor y = true) (hw : ws = Cond.code y cc maxL ret :: ws')
    (body : ∀ p e s m args below meth c s₁, BodyLoose p l y (headSpec ws rm) cc maxL ret e s m args below meth c s₁ → c.maxLocals = maxL → (∀ x ∈ c.exceptionTable.toList, False) → Pc args s →
      W p l e (headSpec ws rm).room s m args below meth c s.heap [] 0 0 (ay_MQ below Qc XC args s mc ms free) (entryFrame m args maxL)) : ay_Met l y ws rm Pc Qc XC mc ms free := by
  refine MetFree.of_bodySF (code := cc) (maxLocals := maxL) (ret := ret) hy ?_ ?_
  · intro args s m h hn
    obtain ⟨meth, c, h1, h2, h3, h4, h5, h6, -, -⟩ := Cond.code_spec hn (atoms_spec (ws := ws) h _ (by rw [hw]; exact List.mem_cons_self))
    exact ⟨meth, c, h1, h2, h3, h4, h5, h6⟩
  · intro p e s m args below meth c s₁ B hml hP _
    have hh0 : s₁.heap = s.heap := by rw [B.state]; rfl
    have ht : ∀ x ∈ c.exceptionTable.toList, False := by
      obtain ⟨meth9, c9, h1, h2, -, -, -, -, h7, -⟩ := Cond.code_spec B.named (atoms_spec (ws := ws) B.pre _ (by rw [hw]; exact List.mem_cons_self))
      cases Option.some.inj (h1.symm.trans B.method)
      cases Option.some.inj (h2.symm.trans (Stand.of_body B).code)
      intro x hx
      rw [Array.isEmpty_iff.mp h7] at hx
      cases hx
    obtain ⟨t, a1, o, b1, b2, b3⟩ := body p e s m args below meth c s₁ B hml ht hP s₁ hh0 (Stand.of_body B)
    exact ⟨t, o, a1, b1, b2, b3⟩
theorem ay_table {l : Launch} {p : Program} {x y : MethodName} {S : Spec} {cc bytes : ByteArray} {maxL maxL' : Nat} {ret ret' : Option FieldType} {e : Env} {s s₁ : State} {m : MethodId} {args : Array Value} {below : List Frame} {meth : Method} {c : Code} {hh : List (Nat × Nat × Nat × Nat)}
    (B : BodyLoose p l y S cc maxL ret e s m args below meth c s₁) (h : (Cond.codeWith y bytes maxL' ret' hh).before args s = true) : c.exceptionTable.toList = tableOf hh := by
  obtain ⟨m9, meth9, c9, hn9, h1, h2, -, -, h6, -⟩ := Cond.codeWith_spec h
  cases Option.some.inj (hn9.symm.trans B.named)
  cases Option.some.inj (h1.symm.trans B.method)
  cases Option.some.inj (h2.symm.trans (Stand.of_body B).code)
  rw [← h6, table_eq]
theorem ay_ofWH {l : Launch} {y : MethodName} {ws ws' : List Cond} {rm : Room} {Pc : Array Value → State → Prop} {Qc : Array Value → State → Outcome → State → Prop} {XC : Addr → String → State → State → Prop} {mc ms : Nat} {free : Addr → Prop} {cc : ByteArray} {maxL : Nat} {ret : Option FieldType} {hh : List (Nat × Nat × Nat × Nat)}
    (hy : plainFor y = true) (hw : ws = Cond.codeWith y cc maxL ret hh :: ws')
    (body : ∀ p e s m args below meth c s₁, BodyLoose p l y (headSpec ws rm) cc maxL ret e s m args below meth c s₁ → c.maxLocals = maxL → Pc args s →
      W p l e (headSpec ws rm).room s m args below meth c s.heap [] 0 0 (ay_MQ below Qc XC args s mc ms free) (entryFrame m args maxL)) : ay_Met l y ws rm Pc Qc XC mc ms free := by
  refine MetFree.of_bodySF (code := cc) (maxLocals := maxL) (ret := ret) hy ?_ ?_
  · intro args s m h hn
    obtain ⟨m9, meth, c, hn9, h1, h2, h3, h4, -, h5, h6, -⟩ := Cond.codeWith_spec (atoms_spec (ws := ws) h _ (by rw [hw]; exact List.mem_cons_self))
    cases hn.symm.trans hn9
    exact ⟨meth, c, h1, h2, h3, h4, h5, h6⟩
  · intro p e s m args below meth c s₁ B hml hP _
    have hh0 : s₁.heap = s.heap := by rw [B.state]; rfl
    obtain ⟨t, a1, o, b1, b2, b3⟩ := body p e s m args below meth c s₁ B hml hP s₁ hh0 (Stand.of_body B)
    exact ⟨t, o, a1, b1, b2, b3⟩
end Bodies
/-! the walk's own exceptions -/
abbrev ax_Rz : Type := (Nat × ax_H) ⊕ (ax_H × Option Value)
def ax_Qr (G : ax_G) (h : ax_H) (z : ax_Rz) : Array Value → State → Outcome → State → Prop := fun a st o t => match z with
  | .inl _ => False
  | .inr w => ax_Qc G h w.1 w.2 a st o t
def ax_Xr (G : ax_G) (Ex : String) (h : ax_H) (z : ax_Rz) : Addr → String → State → State → Prop := fun q E st t => match z with
  | .inl x => q = x.1 ∧ E = Ex ∧ ax_M G x.2 t ∧ va_F (ax_F h) st t ∧ ∀ q : Nat, x.2.2.2 q ≠ none → ax_F h q
  | .inr _ => False
/-- the contract of a method that returns or throws -/
abbrev ax_MetX (l : Launch) (G : ax_G) (Ex : String) (y : MethodName) (b : ByteArray) (L : Nat) (ret : Option FieldType) (fr lo : Nat) (av : List Value) (h : ax_H) (z : ax_Rz) : Prop :=
  ay_Met l y (ws_ y b L ret) (ax_rm G fr lo h) (ax_Pc G av h) (ax_Qr G h z) (ax_Xr G Ex h z) (G.2.2.1.1 - h.1) (G.2.2.1.2 - h.2.1) (ax_F h)
abbrev ax_MetW (l : Launch) (G : ax_G) (y : MethodName) (b : ByteArray) (L : Nat) (ret : Option FieldType) (hh : List (Nat × Nat × Nat × Nat)) (fr lo : Nat) (av : List Value) (h h' : ax_H) (r : Option Value) : Prop :=
  Met l y (wsW_ y b L ret hh) (ax_rm G fr lo h) (ax_Pc G av h) (ax_Qc G h h' r) (G.2.2.1.1 - h.1) (G.2.2.1.2 - h.2.1) (ax_F h)
def ax_QX (G : ax_G) (X : ax_X) (Ex : String) (h0 : ax_H) (z : ax_Rz) : State → Prop := ay_MQ X.2.2.2.2.2.2.2.1 (ax_Qr G h0 z) (ax_Xr G Ex h0 z) X.2.2.2.2.2.2.1 X.2.2.2.2.1 (G.2.2.1.1 - h0.1) (G.2.2.1.2 - h0.2.1) (ax_F h0)
/-- where a walk stands with q thrown -/
def ax_V (G : ax_G) (X : ax_X) (Q : State → Prop) (E : String) (h : ax_H) (pc : Nat) (ls : Array Slot) (st : List Value) (q : Nat) : Prop := ∀ (H : Heap) (locs : List Loc) (ce : Cell), ax_HH G X h H locs → H[q]? = some ce → ce.vm = .none → X.2.2.2.2.1.vm.findClass E = some ce.cls →
  ay_W X.1 X.2.1 X.2.2.1 X.2.2.2.1 X.2.2.2.2.1 X.2.2.2.2.2.1 X.2.2.2.2.2.2.1 X.2.2.2.2.2.2.2.1 X.2.2.2.2.2.2.2.2.1 X.2.2.2.2.2.2.2.2.2.1 H locs (H.size - X.2.2.2.2.1.heap.size) (ax_sl H - ax_sl X.2.2.2.2.1.heap) Q (F0 X.2.2.2.2.2.1 pc ls st) q
abbrev ax_tb (X : ax_X) : List ExceptionTableEntry := X.2.2.2.2.2.2.2.2.2.1.exceptionTable.toList
/-- a call that may throw: what is thrown goes to g, what comes back to f -/
def ax_tc {α β γ : Type} (g : α → Option γ) (e : Option (α ⊕ β)) (f : β → Option γ) : Option γ := e.bind (Sum.elim g f)
theorem ax_tc_spec {α β γ : Type} {g : α → Option γ} {e : Option (α ⊕ β)} {f : β → Option γ} {w : γ} (h : ax_tc g e f = some w) : (∃ x, e = some (.inl x) ∧ g x = some w) ∨ ∃ y, e = some (.inr y) ∧ f y = some w := by
  unfold ax_tc at h
  obtain ⟨s, h1, h2⟩ := ax_b h
  cases s with
  | inl x => exact Or.inl ⟨x, h1, h2⟩
  | inr y => exact Or.inr ⟨y, h1, h2⟩
section AXX
variable {l : Launch} {G : ax_G} {X : ax_X} {Q : State → Prop} {h h0 : ax_H} {cc : ByteArray} {nL fr lo pc : Nat} {own Ex : String} {ls : Array Slot} {rest : List Value}
theorem ax_retX {w : ax_H} {r : Option Value} {st : List Value} (k : ax_W G X (ax_Q G X h0 w r) h pc ls st) : ax_W G X (ax_QX G X Ex h0 (.inr (w, r))) h pc ls st := fun H locs hH => ay_ret (Qc := ax_Qr G h0 (.inr (w, r))) (k H locs hH)
/-- not caught here -/
theorem ax_outX {ret : Option FieldType} {st : List Value} {q : Nat} (B : ax_BL l G X cc nL own fr lo) (Z : ax_Z X h0 ret) (hT : ∀ x ∈ ax_tb X, covers x pc = false) : ax_V G X (ax_QX G X Ex h0 (.inl (q, h))) Ex h pc ls st q := by
  intro H locs ce hH h1 h2 h3
  obtain ⟨a1, a2, a3, a4⟩ := ax_end (r := none) B Z hH
  refine ay_out (ce := ce) (E := Ex) hT B.2.2.1 h1 h2 h3 (fun t ht hW => ?_) a2 a3 a4
  obtain ⟨-, b2, b3, b4⟩ := a1 t ht hW
  exact ⟨rfl, rfl, b2, b3, b4⟩
theorem ax_athrow {ret : Option FieldType} {α : Type} {f : Nat → Option α} {w : α} {r : Option Nat} (B : ax_BL l G X cc nL own fr lo) (Z : ax_Z X h0 ret) (hT : ∀ x ∈ ax_tb X, covers x pc = false) (d : decode cc pc = .ok (.athrow, 1)) (e : (r.bind fun a => (ax_ce G.2.2 h (some a) 8).bind fun _ => f a) = some w) (k : ∀ a, f a = some w → Q = ax_QX G X "DebtDoors$Wrong" h0 (.inl (a, h))) : ax_W G X Q h pc ls (va_rf r :: rest) := by
  obtain ⟨a, rfl, e1⟩ := Option.bind_eq_some_iff.mp e
  obtain ⟨c0, e2, e3⟩ := ax_b e1
  have hk := k a e3
  subst hk
  intro H locs hH
  obtain ⟨b, q, e4, e5⟩ := ax_ce_spec e2
  cases q
  obtain ⟨cell, y1, y3, y2', -⟩ := (ax_read B.2 hH e4).obj (by rw [e5]; exact kd8)
  have y2 := y2'.2.resolve_right (by rw [e5]; decide)
  refine ay_athrow B.2.1.1 B.2.1.2.1 d (ax_outX B Z hT H locs cell hH y1 y2 ?_)
  rw [y3, e5]
  exact ((ax_Kn B.2).1 8 _ kd8).2.1
/-- behind a call -/
theorem ax_after {h2 : ax_H} {H : Heap} {locs L : List Loc} {st₀ t T' : State} (B : ax_BL l G X cc nL own fr lo) (hH : ax_HH G X h H locs) (e0 : st₀.heap = H) (XS' : Stand X.1 X.2.1 X.2.2.1 X.2.2.2.1 X.2.2.2.2.1 X.2.2.2.2.2.1 X.2.2.2.2.2.2.1 X.2.2.2.2.2.2.2.1 X.2.2.2.2.2.2.2.2.1 X.2.2.2.2.2.2.2.2.2.1 T' (locs ++ L) (H.size - X.2.2.2.2.1.heap.size + (G.2.2.1.1 - h.1)) (ax_sl H - ax_sl X.2.2.2.2.1.heap + (G.2.2.1.2 - h.2.1))) (hL : ∀ q ∈ L, ax_F h q.base) (e1 : T'.heap = t.heap) (q2 : ax_M G h2 t) (q3 : va_F (ax_F h) st₀ t) (q4 : ∀ q : Nat, h2.2.2 q ≠ none → ax_F h q) : ax_HH G X h2 T'.heap (locs ++ L) := by
  obtain ⟨⟨g1, g2, g3, g4⟩, g5, ⟨g6, g7⟩, g8, g9⟩ := id hH
  have hF : ∀ q, ax_F h q → X.2.2.2.2.2.2.2.2.2.2 q := by
    intro q hq
    rcases hq with hq | hq
    · cases hc : h.2.2 q with
      | none => exact absurd hc hq
      | some c => exact (g5 q c hc).2
    · exact B.2.2.2.2.2.1 q (by omega)
  obtain ⟨m1, m2, m3, m4⟩ := q2
  obtain ⟨f1, f2⟩ := q3
  rw [e1]
  have hsz : H.size ≤ t.heap.size := by rw [← e0]; exact f1
  refine ⟨m1, fun a c hc => ⟨(m2 a c hc).1, hF a (q4 a (by rw [hc]; intro z; cases z))⟩, ⟨by omega, ?_⟩, fun q z1 z2 => ?_, fun q hq => ?_⟩
  · have h1 := ax_tight XS'
    obtain ⟨-, s2, s3, s4, s5, s6⟩ := h1.same
    have hT' : (T'.setVm X.2.2.2.2.1.vm).heap = T'.heap := rfl
    rw [hT'] at s6 s2
    rw [← e1]
    have hcut := ax_sl_cut T'.heap X.2.2.2.2.1.heap.size
    have htk : ((T'.heap.toList.take X.2.2.2.2.1.heap.size).map (fun c => c.slots.size)).sum = ax_sl X.2.2.2.2.1.heap := by
      unfold ax_sl
      congr 1
      refine List.ext_getElem? fun i => ?_
      rw [List.getElem?_map, List.getElem?_map]
      by_cases hi : i < X.2.2.2.2.1.heap.size
      · obtain ⟨c', y1, -, y2, -⟩ := s6 i _ (Array.getElem?_eq_getElem hi)
        rw [List.getElem?_take_of_lt hi, Array.getElem?_toList, Array.getElem?_toList, y1, Array.getElem?_eq_getElem hi]
        simp [y2]
      · have y1 : X.2.2.2.2.1.heap.toList[i]? = none := by simp; omega
        have y2 : (T'.heap.toList.take X.2.2.2.2.1.heap.size)[i]? = none := by simp; omega
        rw [y1, y2]
    omega
  · rw [f2 q (by rw [e0]; omega) (fun w => z2 (hF q w)), e0]
    exact g8 q z1 z2
  · rcases List.mem_append.mp hq with hq | hq
    · exact g9 q hq
    · exact hF _ (hL q hq)
/-- a call that returns or throws -/
theorem ax_callX {z : ax_Rz} {st : List Value} {arr : Array Value} (B : ax_BL l G X cc nL own fr lo) (hrun : ∀ (H : Heap) (locs : List Loc), ax_HH G X h H locs → ay_Run X.1 X.2.1 X.2.2.1 X.2.2.2.1 X.2.2.2.2.1 X.2.2.2.2.2.1 X.2.2.2.2.2.2.1 X.2.2.2.2.2.2.2.1 X.2.2.2.2.2.2.2.2.1 X.2.2.2.2.2.2.2.2.2.1 H locs (H.size - X.2.2.2.2.1.heap.size) (ax_sl H - ax_sl X.2.2.2.2.1.heap) (G.2.2.1.1 - h.1) (G.2.2.1.2 - h.2.1) (F0 X.2.2.2.2.2.1 pc ls st) rest (ax_Qr G h z arr) (ax_Xr G Ex h z) (ax_F h)) (k : ∀ w, z = .inr w → ax_W G X Q w.1 (pc + 3) ls (w.2.toList ++ rest)) (kx : ∀ x, z = .inl x → ax_V G X Q Ex x.2 pc ls rest x.1) : ax_W G X Q h pc ls st := by
  intro H locs hH T hT XS
  rcases hrun H locs hH T hT XS with ⟨v, st₀, t, T', L, e0, XS', hL, e1, e2, hq, hgo⟩ | ⟨q, st₀, t, T', L, E, ce, e0, XS', hL, e1, e2, hq, hce, hcv, hcl, hgo⟩
  · cases z with
    | inl x => exact hq.elim
    | inr w =>
      obtain ⟨q1, q2, q3, q4⟩ := hq
      cases q1
      obtain ⟨t2, a1, b1⟩ := k w rfl T'.heap (locs ++ L) (ax_after B hH e0 XS' hL e1 q2 q3 q4) T' rfl (ax_tight XS')
      exact ⟨t2, hgo t2 a1, b1⟩
  · cases z with
    | inr w => exact hq.elim
    | inl x =>
      obtain ⟨rfl, rfl, q2, q3, q4⟩ := hq
      obtain ⟨t2, a1, b1⟩ := kx x rfl T'.heap (locs ++ L) ce (ax_after B hH e0 XS' hL e1 q2 q3 q4) (by rw [e1]; exact hce) hcv hcl T' rfl (ax_tight XS')
      exact ⟨t2, hgo.trans a1, b1⟩
/-- what the call of a method of the receiver's class comes to, where it may throw -/
def ax_CalX (l : Launch) (G : ax_G) (X : ax_X) (Ex own : String) (fr lo index : Nat) (x : MethodName) (n : Nat) (As : List Value) (h : ax_H) (r : Option Nat) (z : ax_Rz) : Prop :=
  ∃ (C owner : String) (T : u_T) (N t : Nat) (ty : Nat → FieldType) (c : ax_C) (y : MethodName) (bytes : ByteArray) (L : Nat) (ret : Option FieldType) (fr1 lo1 : Nat), ax_kd t = some (.inl (C, T, N, ty)) ∧ ax_ce G.2.2 h r t = some c ∧
    (∀ (R : Room), fr1 + 1 ≤ R.frames ∧ 8 + (L + 11) + lo1 ≤ R.locals → va_CU R X.2.2.2.2.1 X.2.2.2.2.2.2.1 own C owner index x y bytes L ret (ws_ y bytes L ret) (ax_rm G fr1 lo1 h) (G.2.2.1.1 - h.1) (G.2.2.1.2 - h.2.1) n) ∧ (fr1 + 1 ≤ fr ∧ 8 + (L + 11) + lo1 ≤ lo) ∧ ax_MetX l G Ex y bytes L ret fr1 lo1 (va_rf r :: As) h z
theorem ax_calX (B : ax_BL l G X cc nL own fr lo) {C owner : String} {T : u_T} {N t : Nat} {ty : Nat → FieldType} {c : ax_C} {x y : MethodName} {bytes : ByteArray} {L fr1 lo1 index n : Nat} {ret : Option FieldType} {As : List Value} {r : Option Nat} {z : ax_Rz} (ht : ax_kd t = some (.inl (C, T, N, ty))) (e : ax_ce G.2.2 h r t = some c)
    (hl : Cond.methodLink own index x ∈ lw_all) (hs : (Cond.sameMethod x.cls owner x.name x.desc).before X.2.2.2.2.2.2.1 X.2.2.2.2.1 = true) (hdc : va_Decl X.2.2.2.2.1 ⟨owner, x.name, x.desc⟩) (hsel : (Cond.selects C x y).before X.2.2.2.2.2.2.1 X.2.2.2.2.1 = true) (hin : Cond.instanceMethod y ∈ lw_all) (hini : Cond.initialized y.cls ∈ lw_all) (hc : Cond.code y bytes L ret ∈ lw_all)
    (hd : owner ≠ "java/lang/invoke/MethodHandle" ∧ owner ≠ "java/lang/invoke/VarHandle" ∧ (parseMethodDescriptor x.desc).map (fun d => d.parameters.length) = some n) (hR : fr1 + 1 ≤ fr ∧ 8 + (L + 11) + lo1 ≤ lo) (hM : ax_MetX l G Ex y bytes L ret fr1 lo1 (va_rf r :: As) h z) : ax_CalX l G X Ex own fr lo index x n As h r z :=
  ⟨C, owner, T, N, t, ty, c, y, bytes, L, ret, fr1, lo1, ht, e, fun R hR => ⟨⟨rfl, rfl, hR.1, hR.2, pay_in B.2.1.2.2.2.2 (lw_meth hc), List.mem_cons_self⟩, B.2.1.2.2.2.2 _ hc, B.2.1.2.2.2.2 _ hini, ⟨hd.1, hd.2.1⟩, fun sig h => (by have h2 := hd.2.2; rw [h] at h2; exact (Option.some.inj h2).symm), B.2.1.2.2.2.2 _ hl, hs, hdc, hsel, B.2.1.2.2.2.2 _ hin⟩, hR, hM⟩
/-- a method of the class itself -/
theorem ax_smO (B : ax_BL l G X cc nL own fr lo) {y : MethodName} {n : Nat} (hi : Cond.instanceMethod y ∈ lw_all) (hins : Cond.instantiable y.cls n ∈ lw_all) (hy : y.cls ≠ "java/lang/invoke/MethodHandle" ∧ y.cls ≠ "java/lang/invoke/VarHandle") : (Cond.sameMethod y.cls y.cls y.name y.desc).before X.2.2.2.2.2.2.1 X.2.2.2.2.1 = true := by
  obtain ⟨mk, methM, hnamed, hmethM, -, -⟩ := Cond.instanceMethod_spec (B.2.1.2.2.2.2 _ hi)
  have hfound := State.methodFound?_of_named hnamed hy
  obtain ⟨c, k, hc, hk, -, hniab, -, -⟩ := Cond.instantiable_spec (B.2.1.2.2.2.2 _ hins)
  have hni : k.isInterface = false := (Bool.or_eq_false_iff.mp hniab).1
  simp only [Cond.before, Cond.holds, Cond.value, hc, hfound, hnamed, hk]
  simp
  exact hni
theorem ax_iwX {z : ax_Rz} {n index : Nat} {x : MethodName} {As : List Value} {r : Option Nat} (B : ax_BL l G X cc nL own fr lo) (hcal : ax_CalX l G X Ex own fr lo index x n As h r z) (hn : As.length = n) (hz : ls.size = nL) (hrest : (rest.map fun v => v.category).sum ≤ 8) (d : decode cc pc = .ok (.invokevirtual index, 3)) (k : ∀ w, z = .inr w → ax_W G X Q w.1 (pc + 3) ls (w.2.toList ++ rest)) (kx : ∀ x, z = .inl x → ax_V G X Q Ex x.2 pc ls rest x.1) : ax_W G X Q h pc ls (As.reverse ++ va_rf r :: rest) := by
  have hlx := B.1
  subst hlx
  obtain ⟨C, owner, T, N, t, ty, c, y, bytes, L, ret, fr1, lo1, ht, e0, hcw, hR, hM⟩ := hcal
  have hr : ∃ b, r = some b := by
    obtain ⟨b, q, -⟩ := ax_ce_spec e0
    exact ⟨b, q⟩
  obtain ⟨b, rfl⟩ := hr
  refine ax_callX B (arr := (Value.ref b :: As).toArray) (z := z) (Ex := Ex) (fun H locs hH => ?_) k kx
  obtain ⟨b', q, cell, y1, y2, y3⟩ := ax_recv B hH ht e0
  cases q
  exact ay_runU (C := C) (b := b) (As := As) (rest := rest) B.2.1 hM (hcw _ (by obtain ⟨c1, c2, -⟩ := ax_roomR B; rw [c1, c2]; exact hR)) ⟨ax_blind, ⟨cell, y1, y2, y3⟩, fun U hU hW => ⟨rfl, ax_ready B hH U hU hW⟩⟩ rfl hn hz rfl (lv_room hrest) d (ax_fits B hH)
def ax_zI : ((Nat × ax_H) ⊕ (Int × ax_H)) → ax_Rz := fun z => match z with
  | .inl x => .inl x
  | .inr w => .inr (w.2, some (.int (Int32.ofInt w.1)))
theorem ax_xwI {α : Type} {n index : Nat} {x : MethodName} {As : List Value} {callee : Option ((Nat × ax_H) ⊕ (Int × ax_H))} {g : Nat × ax_H → Option α} {f : Int × ax_H → Option α} {w : α} {r : Option Nat} (B : ax_BL l G X cc nL own fr lo) (hcal : ∀ w1, callee = some w1 → ax_CalX l G X Ex own fr lo index x n As h r (ax_zI w1)) (hn : As.length = n) (hz : ls.size = nL) (hrest : (rest.map fun v => v.category).sum ≤ 8) (d : decode cc pc = .ok (.invokevirtual index, 3)) (e : ax_tc g callee f = some w) (kx : ∀ x, g x = some w → ax_V G X Q Ex x.2 pc ls rest x.1) (k : ∀ w1, f w1 = some w → ax_W G X Q w1.2 (pc + 3) ls (.int (Int32.ofInt w1.1) :: rest)) : ax_W G X Q h pc ls (As.reverse ++ va_rf r :: rest) := by
  rcases ax_tc_spec e with ⟨x1, e1, e2⟩ | ⟨w1, e1, e2⟩
  · refine ax_iwX B (hcal _ e1) hn hz hrest d (fun w q => by cases q) (fun x q => ?_)
    cases q
    exact kx _ e2
  · refine ax_iwX B (hcal _ e1) hn hz hrest d (fun w q => ?_) (fun x q => by cases q)
    cases q
    exact k _ e2
def ax_zR : ((Nat × ax_H) ⊕ (Option Nat × ax_H)) → ax_Rz := fun z => match z with
  | .inl x => .inl x
  | .inr w => .inr (w.2, some (va_rf w.1))
theorem ax_xwR {α : Type} {n index : Nat} {x : MethodName} {As : List Value} {callee : Option ((Nat × ax_H) ⊕ (Option Nat × ax_H))} {g : Nat × ax_H → Option α} {f : Option Nat × ax_H → Option α} {w : α} {r : Option Nat} (B : ax_BL l G X cc nL own fr lo) (hcal : ∀ w1, callee = some w1 → ax_CalX l G X Ex own fr lo index x n As h r (ax_zR w1)) (hn : As.length = n) (hz : ls.size = nL) (hrest : (rest.map fun v => v.category).sum ≤ 8) (d : decode cc pc = .ok (.invokevirtual index, 3)) (e : ax_tc g callee f = some w) (kx : ∀ x, g x = some w → ax_V G X Q Ex x.2 pc ls rest x.1) (k : ∀ w1, f w1 = some w → ax_W G X Q w1.2 (pc + 3) ls (va_rf w1.1 :: rest)) : ax_W G X Q h pc ls (As.reverse ++ va_rf r :: rest) := by
  rcases ax_tc_spec e with ⟨x1, e1, e2⟩ | ⟨w1, e1, e2⟩
  · refine ax_iwX B (hcal _ e1) hn hz hrest d (fun w q => by cases q) (fun x q => ?_)
    cases q
    exact kx _ e2
  · refine ax_iwX B (hcal _ e1) hn hz hrest d (fun w q => ?_) (fun x q => by cases q)
    cases q
    exact k _ e2
def ax_zV : ((Nat × ax_H) ⊕ (ax_H)) → ax_Rz := fun z => match z with
  | .inl x => .inl x
  | .inr w => .inr (w, none)
theorem ax_xwV {α : Type} {n index : Nat} {x : MethodName} {As : List Value} {callee : Option ((Nat × ax_H) ⊕ (ax_H))} {g : Nat × ax_H → Option α} {f : ax_H → Option α} {w : α} {r : Option Nat} (B : ax_BL l G X cc nL own fr lo) (hcal : ∀ w1, callee = some w1 → ax_CalX l G X Ex own fr lo index x n As h r (ax_zV w1)) (hn : As.length = n) (hz : ls.size = nL) (hrest : (rest.map fun v => v.category).sum ≤ 8) (d : decode cc pc = .ok (.invokevirtual index, 3)) (e : ax_tc g callee f = some w) (kx : ∀ x, g x = some w → ax_V G X Q Ex x.2 pc ls rest x.1) (k : ∀ w1, f w1 = some w → ax_W G X Q w1 (pc + 3) ls rest) : ax_W G X Q h pc ls (As.reverse ++ va_rf r :: rest) := by
  rcases ax_tc_spec e with ⟨x1, e1, e2⟩ | ⟨w1, e1, e2⟩
  · refine ax_iwX B (hcal _ e1) hn hz hrest d (fun w q => by cases q) (fun x q => ?_)
    cases q
    exact kx _ e2
  · refine ax_iwX B (hcal _ e1) hn hz hrest d (fun w q => ?_) (fun x q => by cases q)
    cases q
    exact k _ e2
/-- caught by the first row of the table -/
theorem ax_caught {q handler : Nat} {st : List Value} {h2 : ax_H} {x : ExceptionTableEntry} {suf : List ExceptionTableEntry} {nm : String} (B : ax_BL l G X cc nL own fr lo) (hT : ax_tb X = x :: suf) (hx : covers x pc = true) (h0 : x.catchType ≠ 0) (hlink : Cond.classLink own x.catchType nm ∈ lw_all) (hcast : Cond.castable nm nm ∈ lw_tbl) (hh : x.handlerPc = handler) (k : ax_W G X Q h2 handler ls [va_rf (some q)]) : ax_V G X Q nm h2 pc ls st q := by
  intro H locs ce hH h1 hv hcl
  subst hh
  exact ay_catch B.2.1.2.2.2.1 [] x suf hT (fun z hz => by cases hz) hx h0 (B.2.1.2.2.2.2 _ hlink) (va_Nw.use rfl (va_Nw.warmC B.2.2.2.1.1 (B.2.2.2.1.2.2.1 _ hcast (Or.inl rfl)))) h1 hv hcl (k H locs hH)
theorem ax_enterX (avs : List (Int ⊕ Int ⊕ Option Nat)) {y : MethodName} {L : Nat} {ret : Option FieldType} {z : ax_Rz} (hSF : ax_SF G) (hy : plainFor y = true) (hlen : (avs.map ax_cat).sum ≤ L)
    (body : ∀ (X : ax_X) (ls : Array Slot), ax_BL l G X cc L y.cls fr lo → ax_Z X h ret → X.2.2.2.2.2.2.2.2.1.name = y.name → (∀ x ∈ ax_tb X, False) → ax_hl ls L (ax_args 0 avs) → ax_W G X (ax_QX G X Ex h z) h 0 ls []) : ax_MetX l G Ex y cc L ret fr lo (avs.map ax_val) h z := by
  have hlen : (lg_sl (avs.map ax_val)).length ≤ L := by rw [ax_args_len]; exact hlen
  have body : ∀ (X : ax_X) (ls : Array Slot), ax_BL l G X cc L y.cls fr lo → ax_Z X h ret → X.2.2.2.2.2.2.2.2.1.name = y.name → (∀ x ∈ ax_tb X, False) → lv_has ls L (lv_args 0 (avs.map ax_val)) → ax_W G X (ax_QX G X Ex h z) h 0 ls [] := fun X ls h1 h2 h3 h5 h4 => body X ls h1 h2 h3 h5 (by rw [ax_args_eq] at h4; exact h4)
  generalize avs.map ax_val = av at hlen body ⊢
  refine ay_ofW (cc := cc) (maxL := L) (ret := ret) hy rfl ?_
  intro p e s m args below meth c s₁ B hml htb hv
  obtain ⟨rfl, ⟨g1, g2, g3, g4⟩, g5, ⟨g6, g7⟩, g8⟩ := hv
  have hts := atoms_spec (ws := ws_ y cc L ret) B.pre
  have hts : ∀ w ∈ lw_all, w.before _ s = true := fun w h => hts w (List.mem_cons_of_mem _ h)
  have hown : s.vm.findClass y.cls = some m.cls := findClass_of_methodNamed B.named
  have hl := lv_entry av (n := L) hlen
  rw [lg_entry_eq]
  generalize (lg_sl av ++ List.replicate (L - (lg_sl av).length) Slot.unset).toArray = ls at hl ⊢
  have hb := body (p, l, e, ax_rm G fr lo h, s, m, av.toArray, below, meth, c, ax_F h) ls ⟨rfl, ⟨B.exec, B.bytes, hml, hown, hts⟩, B.notSynchronized, ⟨g8, hSF⟩, by show ax_rm G fr lo h = _; unfold ax_rm; rw [g1, g2], fun q hq => Or.inr (by rw [← g1]; exact hq), fun q hq => by
      rcases hq with hq | hq
      · cases hc : h.2.2 q with
        | none => exact absurd hc hq
        | some c => exact (g5 q c hc).2
      · have : h.1 ≤ q := hq
        show G.2.1.heap.size ≤ q
        omega, ⟨g6, g7⟩⟩ ⟨rfl, g1, g2, B.returns⟩ (name_of_methodNamed B.named B.method).1 htb hl
  have hk := hb s.heap [] ⟨⟨g1, g2, g3, g4⟩, fun a c hc => ⟨(g5 a c hc).1, Or.inl (by rw [hc]; intro q; cases q)⟩, ⟨Nat.le_refl _, Nat.le_refl _⟩, fun _ _ _ => rfl, fun _ q => by cases q⟩
  have z1 : s.heap.size - s.heap.size = 0 := Nat.sub_self _
  have z2 : ax_sl s.heap - ax_sl s.heap = 0 := Nat.sub_self _
  dsimp only at hk
  rw [z1, z2] at hk
  exact hk
theorem ax_enterW (avs : List (Int ⊕ Int ⊕ Option Nat)) {y : MethodName} {L : Nat} {ret : Option FieldType} {hh : List (Nat × Nat × Nat × Nat)} {h' : ax_H} {r : Option Value} (hSF : ax_SF G) (hy : plainName y.cls = true) (hlen : (avs.map ax_cat).sum ≤ L)
    (body : ∀ (X : ax_X) (ls : Array Slot), ax_BL l G X cc L y.cls fr lo → ax_Z X h ret → X.2.2.2.2.2.2.2.2.1.name = y.name → ax_tb X = tableOf hh → ax_hl ls L (ax_args 0 avs) → ax_W G X (ax_Q G X h h' r) h 0 ls []) : ax_MetW l G y cc L ret hh fr lo (avs.map ax_val) h h' r := by
  have hlen : (lg_sl (avs.map ax_val)).length ≤ L := by rw [ax_args_len]; exact hlen
  have body : ∀ (X : ax_X) (ls : Array Slot), ax_BL l G X cc L y.cls fr lo → ax_Z X h ret → X.2.2.2.2.2.2.2.2.1.name = y.name → ax_tb X = tableOf hh → lv_has ls L (lv_args 0 (avs.map ax_val)) → ax_W G X (ax_Q G X h h' r) h 0 ls [] := fun X ls h1 h2 h3 h5 h4 => body X ls h1 h2 h3 h5 (by rw [ax_args_eq] at h4; exact h4)
  generalize avs.map ax_val = av at hlen body ⊢
  refine va_MetW (cc := cc) (maxL := L) (ret := ret) (hh := hh) hy rfl ?_
  intro p e s m args below meth c s₁ B hml hv
  have htb : c.exceptionTable.toList = tableOf hh := ay_table (x := y) B (atoms_spec (ws := wsW_ y cc L ret hh) B.pre _ List.mem_cons_self)
  obtain ⟨rfl, ⟨g1, g2, g3, g4⟩, g5, ⟨g6, g7⟩, g8⟩ := hv
  have hts := atoms_spec (ws := wsW_ y cc L ret hh) B.pre
  have hts : ∀ w ∈ lw_all, w.before _ s = true := fun w h => hts w (List.mem_cons_of_mem _ h)
  have hown : s.vm.findClass y.cls = some m.cls := findClass_of_methodNamed B.named
  have hl := lv_entry av (n := L) hlen
  rw [lg_entry_eq]
  generalize (lg_sl av ++ List.replicate (L - (lg_sl av).length) Slot.unset).toArray = ls at hl ⊢
  have hb := body (p, l, e, ax_rm G fr lo h, s, m, av.toArray, below, meth, c, ax_F h) ls ⟨rfl, ⟨B.exec, B.bytes, hml, hown, hts⟩, B.notSynchronized, ⟨g8, hSF⟩, by show ax_rm G fr lo h = _; unfold ax_rm; rw [g1, g2], fun q hq => Or.inr (by rw [← g1]; exact hq), fun q hq => by
      rcases hq with hq | hq
      · cases hc : h.2.2 q with
        | none => exact absurd hc hq
        | some c => exact (g5 q c hc).2
      · have : h.1 ≤ q := hq
        show G.2.1.heap.size ≤ q
        omega, ⟨g6, g7⟩⟩ ⟨rfl, g1, g2, B.returns⟩ (name_of_methodNamed B.named B.method).1 htb hl
  have hk := hb s.heap [] ⟨⟨g1, g2, g3, g4⟩, fun a c hc => ⟨(g5 a c hc).1, Or.inl (by rw [hc]; intro q; cases q)⟩, ⟨Nat.le_refl _, Nat.le_refl _⟩, fun _ _ _ => rfl, fun _ q => by cases q⟩
  have z1 : s.heap.size - s.heap.size = 0 := Nat.sub_self _
  have z2 : ax_sl s.heap - ax_sl s.heap = 0 := Nat.sub_self _
  dsimp only at hk
  rw [z1, z2] at hk
  exact hk
end AXX

