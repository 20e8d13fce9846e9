/-! fields: one fact each, and their rows -/
set_option maxRecDepth 100000
/-- the field instruction at entry 'index' of own's pool names field k of tag t, of type ty -/
def ax_FF (own : String) (index t k : Nat) (ty : FieldType) (fin : Nat) (nest : Bool) : Prop := ∃ (C : String) (T : u_T) (N : Nat) (tf : Nat → FieldType) (ref : String), ax_kd t = some (.inl (C, T, N, tf)) ∧ (∀ w ∈ u_ws C T N, w ∈ lw_all) ∧ (∀ k, k < N → parseFieldDescriptor (T k).2.2.1 = some (tf k)) ∧ ax_ap T N ∧ k < N ∧ tf k = ty ∧ ((fin = 0 → (T k).2.2.2 = false) ∧ (fin = 1 → (T k).2.2.2 = true)) ∧ (match nest with
  | false => Cond.fieldLink own index ref (T k).2.1 (T k).2.2.1 ∈ lw_all
  | true => ∃ host, Cond.fieldLinkNest own index ref (T k).2.1 (T k).2.2.1 host ∈ lw_tbl) ∧ (ref = (T k).1 ∨ Cond.sameField ref (T k).1 (T k).2.1 (T k).2.2.1 ∈ lw_all) ∧ (fin = 1 → (T k).1 = own)
theorem ax_dv (ty : FieldType) (h : ty ≠ .float ∧ ty ≠ .double) : defaultValue ty = ax_v ty 0 none := by
  cases ty <;> first | rfl | exact absurd rfl h.1 | exact absurd rfl h.2
theorem ax_lookup {ts : List (Nat × Nat)} {a b : Nat} (h : ts.lookup a = some b) : (a, b) ∈ ts := by
  induction ts with
  | nil => cases h
  | cons p ts ih =>
    obtain ⟨x, y⟩ := p
    rw [List.lookup_cons] at h
    split at h
    · rename_i hx
      cases h
      have : a = x := by simpa using hx
      subst this
      exact List.mem_cons_self
    · exact List.mem_cons_of_mem _ (ih h)
/-- the cell that a reference names, of one of several tags, and the place of a field there -/
def ax_cs (E : ax_E) (h : ax_H) (r : Option Nat) (ts : List (Nat × Nat)) : Option (ax_C × Nat) := match r with
  | none => none
  | some a => match ax_rd E h a with
    | none => none
    | some c => (ts.lookup c.1).map fun k => (c, k)
def ax_gIs (E : ax_E) (h : ax_H) (r : Option Nat) (ts : List (Nat × Nat)) : Option Int := (ax_cs E h r ts).map fun q => q.1.2.2.1 q.2
def ax_gRs (E : ax_E) (h : ax_H) (r : Option Nat) (ts : List (Nat × Nat)) : Option (Option Nat) := (ax_cs E h r ts).map fun q => q.1.2.2.2 q.2
def ax_ws (h : ax_H) (r : Option Nat) (ts : List (Nat × Nat)) : Option ((Nat × ax_C) × Nat) := match r with
  | none => none
  | some a => match h.2.2 a with
    | none => none
    | some c => (ts.lookup c.1).map fun k => ((a, c), k)
def ax_pIs (h : ax_H) (r : Option Nat) (ts : List (Nat × Nat)) (v : Int) : Option ax_H := (ax_ws h r ts).map fun q => ax_set h q.1.1 (q.1.2.1, q.1.2.2.1, va_up q.1.2.2.2.1 q.2 v, q.1.2.2.2.2)
def ax_pRs (h : ax_H) (r : Option Nat) (ts : List (Nat × Nat)) (v : Option Nat) : Option ax_H := (ax_ws h r ts).map fun q => ax_set h q.1.1 (q.1.2.1, q.1.2.2.1, q.1.2.2.2.1, va_up q.1.2.2.2.2 q.2 v)
theorem ax_cs_ce {E : ax_E} {h : ax_H} {r : Option Nat} {ts : List (Nat × Nat)} {q : ax_C × Nat} (e : ax_cs E h r ts = some q) : (q.1.1, q.2) ∈ ts ∧ ax_ce E h r q.1.1 = some q.1 := by
  unfold ax_cs at e
  split at e
  · cases e
  · split at e
    · cases e
    · rename_i c' hc
      obtain ⟨k, hk, rfl⟩ := Option.map_eq_some_iff.mp e
      exact ⟨ax_lookup hk, by simp [ax_ce, hc]⟩
theorem ax_ws_wc {h : ax_H} {r : Option Nat} {ts : List (Nat × Nat)} {q : (Nat × ax_C) × Nat} (e : ax_ws h r ts = some q) : (q.1.2.1, q.2) ∈ ts ∧ ax_wc h r q.1.2.1 = some q.1 := by
  unfold ax_ws at e
  split at e
  · cases e
  · split at e
    · cases e
    · rename_i c' hc
      obtain ⟨k, hk, rfl⟩ := Option.map_eq_some_iff.mp e
      exact ⟨ax_lookup hk, by simp [ax_wc, hc]⟩
section AXF
variable {l : Launch} {G : ax_G} {X : ax_X} {Q : State → Prop} {h : ax_H} {cc : ByteArray} {nL fr lo pc index t k : Nat} {own : String} {ls : Array Slot} {rest : List Value} {ty : FieldType} {fin : Nat} {nest : Bool} {r : Option Nat}
theorem ax_getF {α : Type} {f : ax_C → Option α} {w : α} (B : ax_BL l G X cc nL own fr lo) (F : ax_FF own index t k ty fin nest) (d : decode cc pc = .ok (.getfield index, 3)) (e : (ax_ce G.2.2 h r t).bind f = some w) (kk : ∀ c : ax_C, f c = some w → ax_W G X Q h (pc + 3) ls (ax_v ty (c.2.2.1 k) (c.2.2.2 k) :: rest)) : ax_W G X Q h pc ls (va_rf r :: rest) := by
  obtain ⟨C, T, N, tf, ref, f1, f2, f3, f4, f5, rfl, f7, f8, f9, -⟩ := F
  have hs : ∀ x, X.2.2.2.2.1.fieldFound? (T k).1 (T k).2.1 (T k).2.2.1 = some x → X.2.2.2.2.1.fieldFound? ref (T k).2.1 (T k).2.2.1 = some x := by
    rcases f9 with rfl | f9
    · exact fun x h => h
    · exact fun x h => u_same (B.2.1.2.2.2.2 _ f9) x h
  cases nest with
  | false => exact ax_getv B f1 f2 f5 f8 hs d e kk
  | true =>
    obtain ⟨host, f8⟩ := f8
    exact ax_getvN B f1 f2 f5 f8 hs d e kk
theorem ax_putF {α : Type} {v : Value} {f : Nat × ax_C → Option α} {w : α} {g : ax_C → ax_C} (B : ax_BL l G X cc nL own fr lo) (F : ax_FF own index t k ty fin nest) (hf : fin = 0 ∨ (fin = 1 ∧ nest = false ∧ X.2.2.2.2.2.2.2.2.1.name = "<init>")) (d : decode cc pc = .ok (.putfield index, 3)) (e : (ax_wc h r t).bind f = some w) (hv : ∀ (tf : Nat → FieldType) (c : ax_C), tf k = ty → ax_Pv tf k c (g c) v) (kk : ∀ q : Nat × ax_C, f q = some w → ax_W G X Q (ax_set h q.1 (g q.2)) (pc + 3) ls rest) : ax_W G X Q h pc ls (v :: va_rf r :: rest) := by
  obtain ⟨C, T, N, tf, ref, f1, f2, f3, f4, f5, f6, f7, f8, f9, f10⟩ := F
  have hs : ∀ x, X.2.2.2.2.1.fieldFound? (T k).1 (T k).2.1 (T k).2.2.1 = some x → X.2.2.2.2.1.fieldFound? ref (T k).2.1 (T k).2.2.1 = some x := by
    rcases f9 with rfl | f9
    · exact fun x h => h
    · exact fun x h => u_same (B.2.1.2.2.2.2 _ f9) x h
  rcases hf with rfl | ⟨rfl, rfl, hi⟩
  · have f7 := f7.1 rfl
    cases nest with
    | false => exact ax_putv B f1 f2 f3 f4 f5 f8 hs f7 d e (fun c => hv tf c f6) kk
    | true =>
      obtain ⟨host, f8⟩ := f8
      exact ax_putvN B f1 f2 f3 f4 f5 f8 hs f7 d e (fun c => hv tf c f6) kk
  · exact ax_putvF B f1 f2 f3 f4 f5 f8 hs (f7.2 rfl) hi (f10 rfl) d e (fun c => hv tf c f6) kk

theorem ax_getI {α : Type} {f : Int → Option α} {w : α} (B : ax_BL l G X cc nL own fr lo) (F : ax_FF own index t k ty fin nest) (hty : ∀ (x : Int) (r : Option Nat), ax_v ty x r = .int (Int32.ofInt x)) (d : decode cc pc = .ok (.getfield index, 3)) (e : (ax_gI G.2.2 h r t k).bind f = some w) (kk : ∀ v, f v = some w → ax_W G X Q h (pc + 3) ls (.int (Int32.ofInt v) :: rest)) : ax_W G X Q h pc ls (va_rf r :: rest) := by
  refine ax_getF (f := fun c => f (c.2.2.1 k)) B F d ?_ (fun c hc => by rw [hty]; exact kk _ hc)
  unfold ax_gI at e
  rw [Option.bind_map] at e
  exact e
theorem ax_getIs {α : Type} {f : Int → Option α} {w : α} {ts : List (Nat × Nat)} (B : ax_BL l G X cc nL own fr lo) (F : ∀ p ∈ ts, ax_FF own index p.1 p.2 ty fin nest) (hty : ∀ (x : Int) (r : Option Nat), ax_v ty x r = .int (Int32.ofInt x)) (d : decode cc pc = .ok (.getfield index, 3)) (e : (ax_gIs G.2.2 h r ts).bind f = some w) (kk : ∀ v, f v = some w → ax_W G X Q h (pc + 3) ls (.int (Int32.ofInt v) :: rest)) : ax_W G X Q h pc ls (va_rf r :: rest) := by
  obtain ⟨v, e1, e2⟩ := ax_b e
  unfold ax_gIs at e1
  obtain ⟨c, e3, rfl⟩ := Option.map_eq_some_iff.mp e1
  obtain ⟨e4, e5⟩ := ax_cs_ce e3
  exact ax_getI (t := c.1.1) (k := c.2) (f := f) (w := w) B (F _ e4) hty d (by unfold ax_gI; rw [e5]; exact e2) kk
theorem ax_getL {α : Type} {f : Int → Option α} {w : α} (B : ax_BL l G X cc nL own fr lo) (F : ax_FF own index t k ty fin nest) (hty : ∀ (x : Int) (r : Option Nat), ax_v ty x r = .long (Int64.ofInt x)) (d : decode cc pc = .ok (.getfield index, 3)) (e : (ax_gI G.2.2 h r t k).bind f = some w) (kk : ∀ v, f v = some w → ax_W G X Q h (pc + 3) ls (.long (Int64.ofInt v) :: rest)) : ax_W G X Q h pc ls (va_rf r :: rest) := by
  refine ax_getF (f := fun c => f (c.2.2.1 k)) B F d ?_ (fun c hc => by rw [hty]; exact kk _ hc)
  unfold ax_gI at e
  rw [Option.bind_map] at e
  exact e
theorem ax_getLs {α : Type} {f : Int → Option α} {w : α} {ts : List (Nat × Nat)} (B : ax_BL l G X cc nL own fr lo) (F : ∀ p ∈ ts, ax_FF own index p.1 p.2 ty fin nest) (hty : ∀ (x : Int) (r : Option Nat), ax_v ty x r = .long (Int64.ofInt x)) (d : decode cc pc = .ok (.getfield index, 3)) (e : (ax_gIs G.2.2 h r ts).bind f = some w) (kk : ∀ v, f v = some w → ax_W G X Q h (pc + 3) ls (.long (Int64.ofInt v) :: rest)) : ax_W G X Q h pc ls (va_rf r :: rest) := by
  obtain ⟨v, e1, e2⟩ := ax_b e
  unfold ax_gIs at e1
  obtain ⟨c, e3, rfl⟩ := Option.map_eq_some_iff.mp e1
  obtain ⟨e4, e5⟩ := ax_cs_ce e3
  exact ax_getL (t := c.1.1) (k := c.2) (f := f) (w := w) B (F _ e4) hty d (by unfold ax_gI; rw [e5]; exact e2) kk
theorem ax_getR {α : Type} {f : Option Nat → Option α} {w : α} (B : ax_BL l G X cc nL own fr lo) (F : ax_FF own index t k ty fin nest) (hty : ∀ (x : Int) (r : Option Nat), ax_v ty x r = va_rf r) (d : decode cc pc = .ok (.getfield index, 3)) (e : (ax_gR G.2.2 h r t k).bind f = some w) (kk : ∀ v, f v = some w → ax_W G X Q h (pc + 3) ls (va_rf v :: rest)) : ax_W G X Q h pc ls (va_rf r :: rest) := by
  refine ax_getF (f := fun c => f (c.2.2.2 k)) B F d ?_ (fun c hc => by rw [hty]; exact kk _ hc)
  unfold ax_gR at e
  rw [Option.bind_map] at e
  exact e
theorem ax_getRs {α : Type} {f : Option Nat → Option α} {w : α} {ts : List (Nat × Nat)} (B : ax_BL l G X cc nL own fr lo) (F : ∀ p ∈ ts, ax_FF own index p.1 p.2 ty fin nest) (hty : ∀ (x : Int) (r : Option Nat), ax_v ty x r = va_rf r) (d : decode cc pc = .ok (.getfield index, 3)) (e : (ax_gRs G.2.2 h r ts).bind f = some w) (kk : ∀ v, f v = some w → ax_W G X Q h (pc + 3) ls (va_rf v :: rest)) : ax_W G X Q h pc ls (va_rf r :: rest) := by
  obtain ⟨v, e1, e2⟩ := ax_b e
  unfold ax_gRs at e1
  obtain ⟨c, e3, rfl⟩ := Option.map_eq_some_iff.mp e1
  obtain ⟨e4, e5⟩ := ax_cs_ce e3
  exact ax_getR (t := c.1.1) (k := c.2) (f := f) (w := w) B (F _ e4) hty d (by unfold ax_gR; rw [e5]; exact e2) kk
theorem ax_putI {α : Type} {x : Int} {f : ax_H → Option α} {w : α} (B : ax_BL l G X cc nL own fr lo) (F : ax_FF own index t k ty fin nest) (hf : fin = 0 ∨ (fin = 1 ∧ nest = false ∧ X.2.2.2.2.2.2.2.2.1.name = "<init>")) (hty : ty = .int) (d : decode cc pc = .ok (.putfield index, 3)) (e : (ax_pI h r t k x).bind f = some w) (kk : ∀ h', f h' = some w → ax_W G X Q h' (pc + 3) ls rest) : ax_W G X Q h pc ls (.int (Int32.ofInt x) :: va_rf r :: rest) := by
  refine ax_putF (f := fun q => f (ax_set h q.1 ((fun c : ax_C => (c.1, c.2.1, va_up c.2.2.1 k x, c.2.2.2)) q.2))) (g := fun c => (c.1, c.2.1, va_up c.2.2.1 k x, c.2.2.2)) B F hf d ?_ (fun tf c htf => ax_PvI c x (by rw [htf]; exact hty)) (fun q hq => kk _ hq)
  unfold ax_pI at e
  rw [Option.bind_map] at e
  exact e
theorem ax_putIs {α : Type} {x : Int} {f : ax_H → Option α} {w : α} {ts : List (Nat × Nat)} (B : ax_BL l G X cc nL own fr lo) (F : ∀ p ∈ ts, ax_FF own index p.1 p.2 ty fin nest) (hf : fin = 0 ∨ (fin = 1 ∧ nest = false ∧ X.2.2.2.2.2.2.2.2.1.name = "<init>")) (hty : ty = .int) (d : decode cc pc = .ok (.putfield index, 3)) (e : (ax_pIs h r ts x).bind f = some w) (kk : ∀ h', f h' = some w → ax_W G X Q h' (pc + 3) ls rest) : ax_W G X Q h pc ls (.int (Int32.ofInt x) :: va_rf r :: rest) := by
  obtain ⟨h1, e1, e2⟩ := ax_b e
  unfold ax_pIs at e1
  obtain ⟨q, e3, rfl⟩ := Option.map_eq_some_iff.mp e1
  obtain ⟨e4, e5⟩ := ax_ws_wc e3
  exact ax_putI (t := q.1.2.1) (k := q.2) (f := f) (w := w) B (F _ e4) hf hty d (by unfold ax_pI; rw [e5]; exact e2) kk
theorem ax_putL {α : Type} {x : Int} {f : ax_H → Option α} {w : α} (B : ax_BL l G X cc nL own fr lo) (F : ax_FF own index t k ty fin nest) (hf : fin = 0 ∨ (fin = 1 ∧ nest = false ∧ X.2.2.2.2.2.2.2.2.1.name = "<init>")) (hty : ty = .long) (d : decode cc pc = .ok (.putfield index, 3)) (e : (ax_pI h r t k x).bind f = some w) (kk : ∀ h', f h' = some w → ax_W G X Q h' (pc + 3) ls rest) : ax_W G X Q h pc ls (.long (Int64.ofInt x) :: va_rf r :: rest) := by
  refine ax_putF (f := fun q => f (ax_set h q.1 ((fun c : ax_C => (c.1, c.2.1, va_up c.2.2.1 k x, c.2.2.2)) q.2))) (g := fun c => (c.1, c.2.1, va_up c.2.2.1 k x, c.2.2.2)) B F hf d ?_ (fun tf c htf => ax_PvL c x (by rw [htf]; exact hty)) (fun q hq => kk _ hq)
  unfold ax_pI at e
  rw [Option.bind_map] at e
  exact e
theorem ax_putLs {α : Type} {x : Int} {f : ax_H → Option α} {w : α} {ts : List (Nat × Nat)} (B : ax_BL l G X cc nL own fr lo) (F : ∀ p ∈ ts, ax_FF own index p.1 p.2 ty fin nest) (hf : fin = 0 ∨ (fin = 1 ∧ nest = false ∧ X.2.2.2.2.2.2.2.2.1.name = "<init>")) (hty : ty = .long) (d : decode cc pc = .ok (.putfield index, 3)) (e : (ax_pIs h r ts x).bind f = some w) (kk : ∀ h', f h' = some w → ax_W G X Q h' (pc + 3) ls rest) : ax_W G X Q h pc ls (.long (Int64.ofInt x) :: va_rf r :: rest) := by
  obtain ⟨h1, e1, e2⟩ := ax_b e
  unfold ax_pIs at e1
  obtain ⟨q, e3, rfl⟩ := Option.map_eq_some_iff.mp e1
  obtain ⟨e4, e5⟩ := ax_ws_wc e3
  exact ax_putL (t := q.1.2.1) (k := q.2) (f := f) (w := w) B (F _ e4) hf hty d (by unfold ax_pI; rw [e5]; exact e2) kk
theorem ax_putR {α : Type} {x : Option Nat} {f : ax_H → Option α} {w : α} (B : ax_BL l G X cc nL own fr lo) (F : ax_FF own index t k ty fin nest) (hf : fin = 0 ∨ (fin = 1 ∧ nest = false ∧ X.2.2.2.2.2.2.2.2.1.name = "<init>")) (hty : ty.isReference = true) (d : decode cc pc = .ok (.putfield index, 3)) (e : (ax_pR h r t k x).bind f = some w) (kk : ∀ h', f h' = some w → ax_W G X Q h' (pc + 3) ls rest) : ax_W G X Q h pc ls (va_rf x :: va_rf r :: rest) := by
  refine ax_putF (f := fun q => f (ax_set h q.1 ((fun c : ax_C => (c.1, c.2.1, c.2.2.1, va_up c.2.2.2 k x)) q.2))) (g := fun c => (c.1, c.2.1, c.2.2.1, va_up c.2.2.2 k x)) B F hf d ?_ (fun tf c htf => ax_PvR c x (by rw [htf]; exact hty)) (fun q hq => kk _ hq)
  unfold ax_pR at e
  rw [Option.bind_map] at e
  exact e
theorem ax_putRs {α : Type} {x : Option Nat} {f : ax_H → Option α} {w : α} {ts : List (Nat × Nat)} (B : ax_BL l G X cc nL own fr lo) (F : ∀ p ∈ ts, ax_FF own index p.1 p.2 ty fin nest) (hf : fin = 0 ∨ (fin = 1 ∧ nest = false ∧ X.2.2.2.2.2.2.2.2.1.name = "<init>")) (hty : ty.isReference = true) (d : decode cc pc = .ok (.putfield index, 3)) (e : (ax_pRs h r ts x).bind f = some w) (kk : ∀ h', f h' = some w → ax_W G X Q h' (pc + 3) ls rest) : ax_W G X Q h pc ls (va_rf x :: va_rf r :: rest) := by
  obtain ⟨h1, e1, e2⟩ := ax_b e
  unfold ax_pRs at e1
  obtain ⟨q, e3, rfl⟩ := Option.map_eq_some_iff.mp e1
  obtain ⟨e4, e5⟩ := ax_ws_wc e3
  exact ax_putR (t := q.1.2.1) (k := q.2) (f := f) (w := w) B (F _ e4) hf hty d (by unfold ax_pR; rw [e5]; exact e2) kk
theorem ax_putZ {α : Type} {x : Int} {f : ax_H → Option α} {w : α} (B : ax_BL l G X cc nL own fr lo) (F : ax_FF own index t k .boolean fin nest) (hf : fin = 0 ∨ (fin = 1 ∧ nest = false ∧ X.2.2.2.2.2.2.2.2.1.name = "<init>")) (d : decode cc pc = .ok (.putfield index, 3)) (e : (if x = 0 ∨ x = 1 then (ax_pI h r t k x).bind f else none) = some w) (kk : ∀ h', f h' = some w → ax_W G X Q h' (pc + 3) ls rest) : ax_W G X Q h pc ls (.int (Int32.ofInt x) :: va_rf r :: rest) := by
  split at e
  · rename_i hx
    refine ax_putF (f := fun q => f (ax_set h q.1 ((fun c : ax_C => (c.1, c.2.1, va_up c.2.2.1 k x, c.2.2.2)) q.2))) (g := fun c => (c.1, c.2.1, va_up c.2.2.1 k x, c.2.2.2)) B F hf d ?_ (fun tf c htf => ax_PvZ c x hx htf) (fun q hq => kk _ hq)
    unfold ax_pI at e
    rw [Option.bind_map] at e
    exact e
  · cases e
theorem ax_putZs {α : Type} {x : Int} {f : ax_H → Option α} {w : α} {ts : List (Nat × Nat)} (B : ax_BL l G X cc nL own fr lo) (F : ∀ p ∈ ts, ax_FF own index p.1 p.2 .boolean fin nest) (hf : fin = 0 ∨ (fin = 1 ∧ nest = false ∧ X.2.2.2.2.2.2.2.2.1.name = "<init>")) (d : decode cc pc = .ok (.putfield index, 3)) (e : (if x = 0 ∨ x = 1 then (ax_pIs h r ts x).bind f else none) = some w) (kk : ∀ h', f h' = some w → ax_W G X Q h' (pc + 3) ls rest) : ax_W G X Q h pc ls (.int (Int32.ofInt x) :: va_rf r :: rest) := by
  split at e
  · rename_i hx
    obtain ⟨h1, e1, e2⟩ := ax_b e
    unfold ax_pIs at e1
    obtain ⟨q, e3, rfl⟩ := Option.map_eq_some_iff.mp e1
    obtain ⟨e4, e5⟩ := ax_ws_wc e3
    exact ax_putZ (t := q.1.2.1) (k := q.2) (f := f) (w := w) B (F _ e4) hf d (by rw [if_pos hx]; unfold ax_pI; rw [e5]; exact e2) kk
  · cases e
end AXF
theorem apJ10 : ax_ap TJ10 6 := by unfold ax_ap; decide +kernel
theorem dfJ10 : ∀ k, k < 6 → tyJ10 k ≠ .float ∧ tyJ10 k ≠ .double := by decide +kernel
theorem apJ11 : ax_ap TJ11 2 := by unfold ax_ap; decide +kernel
theorem dfJ11 : ∀ k, k < 2 → tyJ11 k ≠ .float ∧ tyJ11 k ≠ .double := by decide +kernel
theorem apJ2 : ax_ap TJ2 3 := by unfold ax_ap; decide +kernel
theorem dfJ2 : ∀ k, k < 3 → tyJ2 k ≠ .float ∧ tyJ2 k ≠ .double := by decide +kernel
theorem apJ6 : ax_ap TJ6 5 := by unfold ax_ap; decide +kernel
theorem dfJ6 : ∀ k, k < 5 → tyJ6 k ≠ .float ∧ tyJ6 k ≠ .double := by decide +kernel
theorem apX0 : ax_ap TX0 18 := by unfold ax_ap; decide +kernel
theorem dfX0 : ∀ k, k < 18 → tyX0 k ≠ .float ∧ tyX0 k ≠ .double := by decide +kernel
theorem apX1 : ax_ap TX1 9 := by unfold ax_ap; decide +kernel
theorem dfX1 : ∀ k, k < 9 → tyX1 k ≠ .float ∧ tyX1 k ≠ .double := by decide +kernel
theorem apX10 : ax_ap TX10 1 := by unfold ax_ap; decide +kernel
theorem dfX10 : ∀ k, k < 1 → tyX10 k ≠ .float ∧ tyX10 k ≠ .double := by decide +kernel
theorem apX11 : ax_ap TX11 1 := by unfold ax_ap; decide +kernel
theorem dfX11 : ∀ k, k < 1 → tyX11 k ≠ .float ∧ tyX11 k ≠ .double := by decide +kernel
theorem apX12 : ax_ap TX12 2 := by unfold ax_ap; decide +kernel
theorem dfX12 : ∀ k, k < 2 → tyX12 k ≠ .float ∧ tyX12 k ≠ .double := by decide +kernel
theorem apX13 : ax_ap TX13 3 := by unfold ax_ap; decide +kernel
theorem dfX13 : ∀ k, k < 3 → tyX13 k ≠ .float ∧ tyX13 k ≠ .double := by decide +kernel
theorem apX14 : ax_ap TX14 3 := by unfold ax_ap; decide +kernel
theorem dfX14 : ∀ k, k < 3 → tyX14 k ≠ .float ∧ tyX14 k ≠ .double := by decide +kernel
theorem apX15 : ax_ap TX15 4 := by unfold ax_ap; decide +kernel
theorem dfX15 : ∀ k, k < 4 → tyX15 k ≠ .float ∧ tyX15 k ≠ .double := by decide +kernel
theorem apX17 : ax_ap TX17 3 := by unfold ax_ap; decide +kernel
theorem dfX17 : ∀ k, k < 3 → tyX17 k ≠ .float ∧ tyX17 k ≠ .double := by decide +kernel
theorem apX18 : ax_ap TX18 1 := by unfold ax_ap; decide +kernel
theorem dfX18 : ∀ k, k < 1 → tyX18 k ≠ .float ∧ tyX18 k ≠ .double := by decide +kernel
theorem apX19 : ax_ap TX19 2 := by unfold ax_ap; decide +kernel
theorem dfX19 : ∀ k, k < 2 → tyX19 k ≠ .float ∧ tyX19 k ≠ .double := by decide +kernel
theorem apX2 : ax_ap TX2 7 := by unfold ax_ap; decide +kernel
theorem dfX2 : ∀ k, k < 7 → tyX2 k ≠ .float ∧ tyX2 k ≠ .double := by decide +kernel
theorem apX21 : ax_ap TX21 5 := by unfold ax_ap; decide +kernel
theorem dfX21 : ∀ k, k < 5 → tyX21 k ≠ .float ∧ tyX21 k ≠ .double := by decide +kernel
theorem apX23 : ax_ap TX23 9 := by unfold ax_ap; decide +kernel
theorem dfX23 : ∀ k, k < 9 → tyX23 k ≠ .float ∧ tyX23 k ≠ .double := by decide +kernel
theorem apX24 : ax_ap TX24 9 := by unfold ax_ap; decide +kernel
theorem dfX24 : ∀ k, k < 9 → tyX24 k ≠ .float ∧ tyX24 k ≠ .double := by decide +kernel
theorem apX25 : ax_ap TX25 10 := by unfold ax_ap; decide +kernel
theorem dfX25 : ∀ k, k < 10 → tyX25 k ≠ .float ∧ tyX25 k ≠ .double := by decide +kernel
theorem apX26 : ax_ap TX26 2 := by unfold ax_ap; decide +kernel
theorem dfX26 : ∀ k, k < 2 → tyX26 k ≠ .float ∧ tyX26 k ≠ .double := by decide +kernel
theorem apX27 : ax_ap TX27 6 := by unfold ax_ap; decide +kernel
theorem dfX27 : ∀ k, k < 6 → tyX27 k ≠ .float ∧ tyX27 k ≠ .double := by decide +kernel
theorem apX28 : ax_ap TX28 4 := by unfold ax_ap; decide +kernel
theorem dfX28 : ∀ k, k < 4 → tyX28 k ≠ .float ∧ tyX28 k ≠ .double := by decide +kernel
theorem apX3 : ax_ap TX3 2 := by unfold ax_ap; decide +kernel
theorem dfX3 : ∀ k, k < 2 → tyX3 k ≠ .float ∧ tyX3 k ≠ .double := by decide +kernel
theorem apX30 : ax_ap TX30 9 := by unfold ax_ap; decide +kernel
theorem dfX30 : ∀ k, k < 9 → tyX30 k ≠ .float ∧ tyX30 k ≠ .double := by decide +kernel
theorem apX31 : ax_ap TX31 6 := by unfold ax_ap; decide +kernel
theorem dfX31 : ∀ k, k < 6 → tyX31 k ≠ .float ∧ tyX31 k ≠ .double := by decide +kernel
theorem apX32 : ax_ap TX32 4 := by unfold ax_ap; decide +kernel
theorem dfX32 : ∀ k, k < 4 → tyX32 k ≠ .float ∧ tyX32 k ≠ .double := by decide +kernel
theorem apX33 : ax_ap TX33 1 := by unfold ax_ap; decide +kernel
theorem dfX33 : ∀ k, k < 1 → tyX33 k ≠ .float ∧ tyX33 k ≠ .double := by decide +kernel
theorem apX4 : ax_ap TX4 1 := by unfold ax_ap; decide +kernel
theorem dfX4 : ∀ k, k < 1 → tyX4 k ≠ .float ∧ tyX4 k ≠ .double := by decide +kernel
theorem apX5 : ax_ap TX5 61 := by unfold ax_ap; decide +kernel
theorem dfX5 : ∀ k, k < 61 → tyX5 k ≠ .float ∧ tyX5 k ≠ .double := by decide +kernel
theorem apX7 : ax_ap TX7 11 := by unfold ax_ap; decide +kernel
theorem dfX7 : ∀ k, k < 11 → tyX7 k ≠ .float ∧ tyX7 k ≠ .double := by decide +kernel
theorem apX8 : ax_ap TX8 7 := by unfold ax_ap; decide +kernel
theorem dfX8 : ∀ k, k < 7 → tyX8 k ≠ .float ∧ tyX8 k ≠ .double := by decide +kernel
