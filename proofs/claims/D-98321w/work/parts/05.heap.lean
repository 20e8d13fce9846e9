/-! ROWS over the heap: entry, return, fields, arrays, new -/
set_option maxRecDepth 100000
def ax_rd (E : ax_E) (h : ax_H) (a : Nat) : Option ax_C := match h.2.2 a with
  | some c => some c
  | none => E.2.1 a
def ax_set (h : ax_H) (a : Nat) (c : ax_C) : ax_H := (h.1, h.2.1, va_up h.2.2 a (some c))
/-- the cell that a reference names, of a tag -/
def ax_ce (E : ax_E) (h : ax_H) (r : Option Nat) (t : Nat) : Option ax_C := match r with
  | none => none
  | some a => match ax_rd E h a with
    | none => none
    | some c => if c.1 = t then some c else none
def ax_gI (E : ax_E) (h : ax_H) (r : Option Nat) (t k : Nat) : Option Int := (ax_ce E h r t).map fun c => c.2.2.1 k
def ax_gR (E : ax_E) (h : ax_H) (r : Option Nat) (t k : Nat) : Option (Option Nat) := (ax_ce E h r t).map fun c => c.2.2.2 k
/-- the cell that a reference names, among those that may be written -/
def ax_wc (h : ax_H) (r : Option Nat) (t : Nat) : Option (Nat × ax_C) := match r with
  | none => none
  | some a => match h.2.2 a with
    | none => none
    | some c => if c.1 = t then some (a, c) else none
def ax_pI (h : ax_H) (r : Option Nat) (t k : Nat) (v : Int) : Option ax_H := (ax_wc h r t).map fun q => ax_set h q.1 (q.2.1, q.2.2.1, va_up q.2.2.2.1 k v, q.2.2.2.2)
def ax_pR (h : ax_H) (r : Option Nat) (t k : Nat) (v : Option Nat) : Option ax_H := (ax_wc h r t).map fun q => ax_set h q.1 (q.2.1, q.2.2.1, q.2.2.2.1, va_up q.2.2.2.2 k v)
def ax_in (i : Int) (n : Nat) : Prop := 0 ≤ i2 i ∧ i2 i < n
/-- arrays: load, store, length -/
def ax_ld (E : ax_E) (h : ax_H) (r : Option Nat) (t : Nat) (i : Int) : Option Int := (ax_ce E h r t).bind fun c => if 0 ≤ i2 i ∧ i2 i < c.2.1 then some (c.2.2.1 (i2 i).toNat) else none
def ax_ldR (E : ax_E) (h : ax_H) (r : Option Nat) (t : Nat) (i : Int) : Option (Option Nat) := (ax_ce E h r t).bind fun c => if 0 ≤ i2 i ∧ i2 i < c.2.1 then some (c.2.2.2 (i2 i).toNat) else none
def ax_sto (h : ax_H) (r : Option Nat) (t : Nat) (i v : Int) : Option ax_H := (ax_wc h r t).bind fun q => if 0 ≤ i2 i ∧ i2 i < q.2.2.1 then some (ax_set h q.1 (q.2.1, q.2.2.1, va_up q.2.2.2.1 (i2 i).toNat v, q.2.2.2.2)) else none
def ax_len (E : ax_E) (h : ax_H) (r : Option Nat) (t : Nat) : Option Int := (ax_ce E h r t).map fun c => (c.2.1 : Int)
/-- a new cell -/
def ax_nw (E : ax_E) (h : ax_H) (t n sl : Nat) : Option (Nat × ax_H) := if h.1 + 1 ≤ E.1.1 ∧ h.2.1 + sl ≤ E.1.2 then some (h.1, (h.1 + 1, h.2.1 + sl, va_up h.2.2 h.1 (some (t, n, (fun _ => 0), (fun _ => none))))) else none
/-- a new array of a length known at run time only -/
def ax_na (E : ax_E) (h : ax_H) (t : Nat) (n : Int) : Option (Nat × ax_H) := if 0 ≤ i2 n ∧ i2 n ≤ 65536 then ax_nw E h t (i2 n).toNat (i2 n).toNat else none
theorem ax_b {α β : Type} {x : Option α} {f : α → Option β} {w : β} (e : x.bind f = some w) : ∃ v, x = some v ∧ f v = some w := Option.bind_eq_some_iff.mp e
theorem ax_ce_spec {E : ax_E} {h : ax_H} {r : Option Nat} {t : Nat} {c : ax_C} (e : ax_ce E h r t = some c) : ∃ a, r = some a ∧ ax_rd E h a = some c ∧ c.1 = t := by
  unfold ax_ce at e
  split at e
  · cases e
  · rename_i a
    split at e
    · cases e
    · rename_i c' hc
      split at e
      · rename_i ht
        cases e
        exact ⟨a, rfl, hc, ht⟩
      · cases e
theorem ax_wc_spec {h : ax_H} {r : Option Nat} {t : Nat} {q : Nat × ax_C} (e : ax_wc h r t = some q) : r = some q.1 ∧ h.2.2 q.1 = some q.2 ∧ q.2.1 = t := by
  unfold ax_wc at e
  split at e
  · cases e
  · rename_i a
    split at e
    · cases e
    · rename_i c' hc
      split at e
      · rename_i ht
        cases e
        exact ⟨rfl, hc, ht⟩
      · cases e
section AXH
variable {l : Launch} {G : ax_G} {X : ax_X} {Q : State → Prop} {h : ax_H} {cc : ByteArray} {nL fr lo pc : Nat} {own : String} {ls : Array Slot} {rest : List Value} {H : Heap} {locs : List Loc}
theorem ax_old (B : ax_B G X cc nL own fr lo) (hH : ax_HH G X h H locs) {q : Nat} (hq : q < G.2.1.heap.size) : H[q]? = G.2.1.heap[q]? := by
  obtain ⟨-, -, -, -, -, hF, hz, ho⟩ := B
  rw [hH.2.2.2.1 q (Nat.lt_of_lt_of_le hq hz) (fun w => absurd (hF q w) (by omega))]
  exact ho q hq
theorem ax_read (B : ax_B G X cc nL own fr lo) (hH : ax_HH G X h H locs) {a : Nat} {c : ax_C} (e : ax_rd G.2.2 h a = some c) : ax_atR G.1 a c X.2.2.2.2.1 H := by
  unfold ax_rd at e
  split at e
  · rename_i c' hc
    cases e
    exact (hH.2.1 a _ hc).1.ro (B.2.2.1.2.1.moved B.2.2.1.1.alike)
  · have h1 := B.2.2.1.2.2.2.1 a c e
    exact (h1.kept (ax_old B hH h1.lt)).moved B.2.2.1.1.alike
theorem ax_Kn (B : ax_B G X cc nL own fr lo) : ax_K G.1 X.2.2.2.2.1 := B.2.2.1.2.1.moved B.2.2.1.1.alike
/-- behind a store -/
theorem ax_HH.put (hH : ax_HH G X h H locs) {a : Nat} {c c' : ax_C} (hc : h.2.2 a = some c) {H' : Heap} (ha : ax_at G.1 a c' H') (hz : H'.size = H.size) (ho : ∀ q : Nat, q ≠ a → H'[q]? = H[q]?) {cell cell' : Cell} (h1 : H[a]? = some cell) (h2 : H'[a]? = some cell') (h3 : cell'.slots.size = cell.slots.size) {i : Nat} : ax_HH G X (ax_set h a c') H' (locs ++ [⟨a, i⟩]) ∧ ax_sl H' = ax_sl H := by
  have hs : ax_sl H' = ax_sl H := by
    refine ax_sl_of hz fun q d hq => ?_
    by_cases e : q = a
    · subst e
      rw [h1] at hq
      cases hq
      exact ⟨cell', h2, h3⟩
    · exact ⟨d, by rw [ho q e]; exact hq, rfl⟩
  obtain ⟨⟨g1, g2, g3, g4⟩, g5, ⟨g6, g7⟩, g8, g9⟩ := hH
  have hFa := (g5 a c hc).2
  refine ⟨⟨⟨hz.trans g1, hs.trans g2, g3, g4⟩, fun q d hq => ?_, ⟨by rw [hz]; exact g6, by rw [hs]; exact g7⟩, fun q q1 q2 => ?_, fun q hq => ?_⟩, hs⟩
  · show _ ∧ _
    by_cases e : q = a
    · subst e
      have : some c' = some d := by simpa [ax_set, va_up] using hq
      cases this
      exact ⟨ha, hFa⟩
    · have hq' : h.2.2 q = some d := by simpa [ax_set, va_up, e] using hq
      exact ⟨(g5 q d hq').1.kept (ho q e), (g5 q d hq').2⟩
  · rw [ho q (fun e => q2 (by rw [e]; exact hFa))]
    exact g8 q q1 q2
  · rcases List.mem_append.mp hq with hq | hq
    · exact g9 q hq
    · rw [List.mem_singleton.mp hq]
      exact hFa
/-- behind a new cell -/
theorem ax_HH.new (B : ax_B G X cc nL own fr lo) (hH : ax_HH G X h H locs) {t n sl : Nat} {q0 : Nat} {h' : ax_H} (e : ax_nw G.2.2 h t n sl = some (q0, h')) {H' : Heap} {cell : Cell} (hz : H'.size = H.size + 1) (ho : ∀ q : Nat, q < H.size → H'[q]? = H[q]?) (hc : H'[H.size]? = some cell) (hs : cell.slots.size = sl) (ha : ax_at G.1 H.size (t, n, (fun _ => 0), (fun _ => none)) H') : q0 = H.size ∧ ax_HH G X h' H' locs ∧ ax_sl H' = ax_sl H + sl := by
  unfold ax_nw at e
  split at e
  · rename_i hl
    cases e
    have h1 := ax_sl_new hz ho hc
    rw [hs] at h1
    obtain ⟨⟨g1, g2, g3, g4⟩, g5, ⟨g6, g7⟩, g8, g9⟩ := hH
    refine ⟨g1.symm, ⟨⟨by rw [hz, g1], by rw [h1, g2], hl.1, hl.2⟩, fun q d hq => ?_, ⟨by omega, by omega⟩, fun q q1 q2 => ?_, g9⟩, h1⟩
    · by_cases e : q = h.1
      · subst e
        have : some (t, n, (fun _ => (0 : Int)), (fun _ => (none : Option Nat))) = some d := by simpa [va_up] using hq
        cases this
        refine ⟨by rw [← g1]; exact ha, B.2.2.2.2.1 _ (by rw [← g1]; exact g6)⟩
      · have hq' : h.2.2 q = some d := by simpa [va_up, e] using hq
        have h5 := g5 q d hq'
        exact ⟨h5.1.kept (ho q h5.1.lt), h5.2⟩
    · rw [ho q (Nat.lt_of_lt_of_le q1 g6)]
      exact g8 q q1 q2
  · cases e
theorem va_rf_arg (ty : FieldType) (hty : ty.isReference = true) (x : Int) (r : Option Nat) : ax_v ty x r = va_rf r := by
  cases ty <;> first | rfl | cases hty
theorem ax_nar (ty : FieldType) (hty : ty = .int ∨ ty = .long ∨ ty.isReference = true) (x : Int) (r : Option Nat) : narrow ty (ax_v ty x r) = ax_v ty x r ∧ fits ty (ax_v ty x r) = true := by
  rcases hty with rfl | rfl | hty
  · exact ⟨vp_nar_int _, rfl⟩
  · exact ⟨rfl, rfl⟩
  · rw [va_rf_arg ty hty]
    cases ty <;> first | (cases r <;> exact ⟨rfl, rfl⟩) | cases hty
theorem ax_field {X : ax_X} {own ref C : String} {T : u_T} {N t k index : Nat} {ty : Nat → FieldType} (B : ax_B G X cc nL own fr lo) (ht : ax_kd t = some (.inl (C, T, N, ty))) (hin : ∀ w ∈ u_ws C T N, w ∈ lw_all) (hk : k < N) (hsame : ∀ x, X.2.2.2.2.1.fieldFound? (T k).1 (T k).2.1 (T k).2.2.1 = some x → X.2.2.2.2.1.fieldFound? ref (T k).2.1 (T k).2.2.1 = some x) :
    ∃ (cf i : Nat) (kf : Class) (f : Field), X.2.2.2.2.1.fieldFound? (T k).1 (T k).2.1 (T k).2.2.1 = some (cf, kf, i, f) ∧ X.2.2.2.2.1.fieldFound? ref (T k).2.1 (T k).2.2.1 = some (cf, kf, i, f) ∧ f.isStatic = false ∧ f.slot = G.1.2 t k := by
  obtain ⟨hS, hfc, kC, hkC, hkind⟩ := (ax_Kn B).1 t _ ht
  obtain ⟨cf, kf, fi, f, hi, hsl⟩ := hS k hk
  exact ⟨cf, fi, kf, f, hi, hsame _ hi, (u_facts hfc hkC (u_lays B.1.2.2.2.2 hin hk) hi).1, hsl⟩
/-- a field's value on the stack -/
theorem ax_getv {α : Type} {ref C : String} {T : u_T} {N t k index : Nat} {ty : Nat → FieldType} {r : Option Nat} {f : ax_C → Option α} {w : α} (B : ax_BL l G X cc nL own fr lo) (ht : ax_kd t = some (.inl (C, T, N, ty))) (hin : ∀ w ∈ u_ws C T N, w ∈ lw_all) (hk : k < N) (hl : Cond.fieldLink own index ref (T k).2.1 (T k).2.2.1 ∈ lw_all) (hsame : ∀ x, X.2.2.2.2.1.fieldFound? (T k).1 (T k).2.1 (T k).2.2.1 = some x → X.2.2.2.2.1.fieldFound? ref (T k).2.1 (T k).2.2.1 = some x) (d : decode cc pc = .ok (.getfield index, 3)) (e : (ax_ce G.2.2 h r t).bind f = some w)
    (kk : ∀ c : ax_C, f c = some w → ax_W G X Q h (pc + 3) ls (ax_v (ty k) (c.2.2.1 k) (c.2.2.2 k) :: rest)) : ax_W G X Q h pc ls (va_rf r :: rest) := by
  obtain ⟨c, e1, e2⟩ := ax_b e
  obtain ⟨a, rfl, e3, rfl⟩ := ax_ce_spec e1
  intro H locs hH
  obtain ⟨cell, q1, q2, q3, q4⟩ := (ax_read B.2 hH e3).obj ht
  obtain ⟨cf, i, kf, fl, hi, hi2, hst, hsl⟩ := ax_field (ref := ref) (index := index) B.2 ht hin hk hsame
  refine W.getf B.2.1.1 B.2.1.2.1 B.2.1.2.2.2.1 (B.2.1.2.2.2.2 _ hl) hi2 hst q1 q3.1.2 (v := ax_v (ty k) (c.2.2.1 k) (c.2.2.2 k)) ?_ rfl rfl d (kk c e2 H locs hH)
  rw [hsl]
  exact q4 k hk
theorem ax_getvN {α : Type} {ref host C : String} {T : u_T} {N t k index : Nat} {ty : Nat → FieldType} {r : Option Nat} {f : ax_C → Option α} {w : α} (B : ax_BL l G X cc nL own fr lo) (ht : ax_kd t = some (.inl (C, T, N, ty))) (hin : ∀ w ∈ u_ws C T N, w ∈ lw_all) (hk : k < N) (hl : Cond.fieldLinkNest own index ref (T k).2.1 (T k).2.2.1 host ∈ lw_tbl) (hsame : ∀ x, X.2.2.2.2.1.fieldFound? (T k).1 (T k).2.1 (T k).2.2.1 = some x → X.2.2.2.2.1.fieldFound? ref (T k).2.1 (T k).2.2.1 = some x) (d : decode cc pc = .ok (.getfield index, 3)) (e : (ax_ce G.2.2 h r t).bind f = some w)
    (kk : ∀ c : ax_C, f c = some w → ax_W G X Q h (pc + 3) ls (ax_v (ty k) (c.2.2.1 k) (c.2.2.2 k) :: rest)) : ax_W G X Q h pc ls (va_rf r :: rest) := by
  obtain ⟨c, e1, e2⟩ := ax_b e
  obtain ⟨a, rfl, e3, rfl⟩ := ax_ce_spec e1
  intro H locs hH
  obtain ⟨cell, q1, q2, q3, q4⟩ := (ax_read B.2 hH e3).obj ht
  obtain ⟨cf, i, kf, fl, hi, hi2, hst, hsl⟩ := ax_field (ref := ref) (index := index) B.2 ht hin hk hsame
  refine va_Wgetf B.2.1.1 B.2.1.2.1 B.2.1.2.2.2.1 (va_Nw.use rfl (va_Nw.warmF B.2.2.2.1.1 (B.2.2.2.1.2.2.1 _ hl (Or.inl rfl)))) hi2 hst q1 q3.1.2 (v := ax_v (ty k) (c.2.2.1 k) (c.2.2.2 k)) ?_ rfl rfl d (kk c e2 H locs hH)
  rw [hsl]
  exact q4 k hk
/-- fields of one class lie in different slots: different names, or final ones of two declarers -/
def ax_ap (T : u_T) (N : Nat) : Prop := ∀ a, a < N → ∀ b, b < N → a ≠ b → (T a).2.1 ≠ (T b).2.1 ∨ ((T a).2.2.2 = true ∧ (T b).2.2.2 = true ∧ (T a).1 ≠ (T b).1)
theorem ax_apart {X : ax_X} {C : String} {T : u_T} {N t : Nat} {ty : Nat → FieldType} (B : ax_B G X cc nL own fr lo) (ht : ax_kd t = some (.inl (C, T, N, ty))) (hin : ∀ w ∈ u_ws C T N, w ∈ lw_all) (hty : ∀ k, k < N → parseFieldDescriptor (T k).2.2.1 = some (ty k)) (hap : ax_ap T N) : ∀ x y, x < N → y < N → x ≠ y → G.1.2 t x ≠ G.1.2 t y := by
  intro x y hx hy hne
  obtain ⟨hS, -⟩ := (ax_Kn B).1 t _ ht
  obtain ⟨_, _, _, fa, hia, ea⟩ := hS x hx
  obtain ⟨_, _, _, fb, hib, eb⟩ := hS y hy
  rw [← ea, ← eb]
  rcases hap x hx y hy hne with hn | ⟨hfx, hfy, ho⟩
  · refine u_apart (u_lays B.1.2.2.2.2 hin hx) (u_lays B.1.2.2.2.2 hin hy) hia hib ?_
    rw [(State.fieldFound?_type hia (hty x hx)).1, (State.fieldFound?_type hib (hty y hy)).1]
    exact hn
  · have lx := B.1.2.2.2.2 _ (hin _ (u_in_lay hx))
    have ly := B.1.2.2.2.2 _ (hin _ (u_in_lay hy))
    unfold u_lay at lx ly
    rw [if_pos hfx] at lx
    rw [if_pos hfy] at ly
    obtain ⟨c, k, c', k', i, f, a1, -, a3, -, -, -, a7, -, d, a9, a10, -⟩ := Cond.laysFinal_spec lx
    obtain ⟨c2, k2, c2', k2', i2, f2, b1, -, b3, -, -, -, b7, -, d2, b9, b10, -⟩ := Cond.laysFinal_spec ly
    cases a1.symm.trans b1
    cases hia.symm.trans a3
    cases hib.symm.trans b3
    intro hs
    rw [hs] at a9
    cases a9.symm.trans b9
    obtain ⟨z1, y1, n1⟩ := Vm.findClass_spec a7
    obtain ⟨z2, y2, n2⟩ := Vm.findClass_spec b7
    cases y1.symm.trans (State.fieldFound?_spec hia).1
    cases y2.symm.trans (State.fieldFound?_spec hib).1
    exact ho (n1.symm.trans (a10.symm.trans (b10.trans n2)))
/-- what a value must be to be stored in a field of a type, and the cell behind it -/
def ax_Pv (ty : Nat → FieldType) (k : Nat) (c c' : ax_C) (v : Value) : Prop := c'.1 = c.1 ∧ narrow (ty k) v = v ∧ fits (ty k) v = true ∧ ∀ j : Nat, ax_v (ty j) (c'.2.2.1 j) (c'.2.2.2 j) = if j = k then v else ax_v (ty j) (c.2.2.1 j) (c.2.2.2 j)
theorem ax_PvI {ty : Nat → FieldType} {k : Nat} (c : ax_C) (x : Int) (hty : ty k = .int) : ax_Pv ty k c (c.1, c.2.1, va_up c.2.2.1 k x, c.2.2.2) (.int (Int32.ofInt x)) := by
  refine ⟨rfl, by rw [hty]; exact vp_nar_int _, by rw [hty]; rfl, fun j => ?_⟩
  by_cases hj : j = k
  · subst hj
    rw [if_pos rfl, hty]
    simp [ax_v, va_up]
  · rw [if_neg hj]
    simp [va_up, hj]
theorem ax_PvL {ty : Nat → FieldType} {k : Nat} (c : ax_C) (x : Int) (hty : ty k = .long) : ax_Pv ty k c (c.1, c.2.1, va_up c.2.2.1 k x, c.2.2.2) (.long (Int64.ofInt x)) := by
  refine ⟨rfl, by rw [hty]; rfl, by rw [hty]; rfl, fun j => ?_⟩
  by_cases hj : j = k
  · subst hj
    rw [if_pos rfl, hty]
    simp [ax_v, va_up]
  · rw [if_neg hj]
    simp [va_up, hj]
theorem ax_PvZ {ty : Nat → FieldType} {k : Nat} (c : ax_C) (x : Int) (hx : x = 0 ∨ x = 1) (hty : ty k = .boolean) : ax_Pv ty k c (c.1, c.2.1, va_up c.2.2.1 k x, c.2.2.2) (.int (Int32.ofInt x)) := by
  refine ⟨rfl, by rw [hty]; rcases hx with rfl | rfl <;> rfl, by rw [hty]; rcases hx with rfl | rfl <;> rfl, fun j => ?_⟩
  by_cases hj : j = k
  · subst hj
    rw [if_pos rfl, hty]
    simp [ax_v, va_up]
  · rw [if_neg hj]
    simp [va_up, hj]
theorem ax_PvR {ty : Nat → FieldType} {k : Nat} (c : ax_C) (r : Option Nat) (hty : (ty k).isReference = true) : ax_Pv ty k c (c.1, c.2.1, c.2.2.1, va_up c.2.2.2 k r) (va_rf r) := by
  have hn := ax_nar (ty k) (Or.inr (Or.inr hty)) 0 r
  rw [va_rf_arg _ hty] at hn
  refine ⟨rfl, hn.1, hn.2, fun j => ?_⟩
  by_cases hj : j = k
  · subst hj
    rw [if_pos rfl, va_rf_arg _ hty]
    simp [va_up]
  · rw [if_neg hj]
    simp [va_up, hj]
theorem ax_putv {α : Type} {ref C : String} {T : u_T} {N t k index : Nat} {ty : Nat → FieldType} {r : Option Nat} {v : Value} {f : Nat × ax_C → Option α} {w : α} {g : ax_C → ax_C} (B : ax_BL l G X cc nL own fr lo) (ht : ax_kd t = some (.inl (C, T, N, ty))) (hin : ∀ w ∈ u_ws C T N, w ∈ lw_all) (hty : ∀ k, k < N → parseFieldDescriptor (T k).2.2.1 = some (ty k)) (hap : ax_ap T N) (hk : k < N) (hl : Cond.fieldLink own index ref (T k).2.1 (T k).2.2.1 ∈ lw_all) (hsame : ∀ x, X.2.2.2.2.1.fieldFound? (T k).1 (T k).2.1 (T k).2.2.1 = some x → X.2.2.2.2.1.fieldFound? ref (T k).2.1 (T k).2.2.1 = some x) (hfin : (T k).2.2.2 = false) (d : decode cc pc = .ok (.putfield index, 3)) (e : (ax_wc h r t).bind f = some w) (hv : ∀ c : ax_C, ax_Pv ty k c (g c) v)
    (kk : ∀ q : Nat × ax_C, f q = some w → ax_W G X Q (ax_set h q.1 (g q.2)) (pc + 3) ls rest) : ax_W G X Q h pc ls (v :: va_rf r :: rest) := by
  obtain ⟨⟨a, c⟩, e1, e2⟩ := ax_b e
  obtain ⟨rfl, e3, e4⟩ := ax_wc_spec e1
  dsimp only at e3 e4
  intro H locs hH
  have hc1 := hv c
  obtain ⟨v1, v2, v3, v4⟩ := hc1
  have ht1 : ax_kd c.1 = some (.inl (C, T, N, ty)) := by rw [e4]; exact ht
  obtain ⟨cell, q1, q2, q3, q4⟩ := (hH.2.1 a c e3).1.obj ht1
  rw [e4] at q2 q4
  obtain ⟨hS, hfc, kC, hkC, hkind⟩ := (ax_Kn B.2).1 t _ ht
  obtain ⟨cf, i, kf, fl, hi, hi2, hst, hsl⟩ := ax_field (ref := ref) (index := index) B.2 ht hin hk hsame
  have hlay := B.2.1.2.2.2.2 _ (hin _ (u_in_lay hk))
  unfold u_lay at hlay
  rw [hfin] at hlay
  rw [if_neg (by decide)] at hlay
  have h6 := u_store hfc hkC hkind hlay hi (hty k hk) v2 v3
  have hslt : G.1.2 t k < cell.slots.size := k2_hasslot (q4 k hk)
  refine W.putK B.2.1.1 B.2.1.2.1 (f := fl) ⟨B.2.1.2.2.2.1, B.2.1.2.2.2.2 _ hl, ⟨_, _, _, hi2⟩, hst⟩ (by rw [q2]; exact h6) q1 q3 (by rw [hsl]; exact k2_hasslot (q4 k hk)) rfl rfl d fun H' z1 z2 z3 => ?_
  rw [hsl] at z1
  obtain ⟨hH', hs'⟩ := ax_HH.put (c' := g c) (i := fl.slot) hH e3 (ax_at.ofObj (by rw [v1]; exact ht1) (by
    rw [v1, e4]
    refine ⟨_, z1, q2, q3, fun j hj => ?_⟩
    show _ = some (ax_v (ty j) _ _)
    rw [v4 j]
    by_cases hjk : j = k
    · subst hjk
      rw [if_pos rfl]
      simp [Cell.setSlot, hslt]
    · rw [if_neg hjk]
      have := ax_apart B.2 ht hin hty hap k j hk hj (Ne.symm hjk)
      rw [← q4 j hj]
      simp [Cell.setSlot, Array.getElem?_setIfInBounds_ne this])) z2 z3 q1 z1 (by simp [Cell.setSlot])
  have hk2 := kk (a, c) e2 H' _ hH'
  rw [z2, hs'] at hk2
  exact hk2
theorem ax_putvN {α : Type} {ref host C : String} {T : u_T} {N t k index : Nat} {ty : Nat → FieldType} {r : Option Nat} {v : Value} {f : Nat × ax_C → Option α} {w : α} {g : ax_C → ax_C} (B : ax_BL l G X cc nL own fr lo) (ht : ax_kd t = some (.inl (C, T, N, ty))) (hin : ∀ w ∈ u_ws C T N, w ∈ lw_all) (hty : ∀ k, k < N → parseFieldDescriptor (T k).2.2.1 = some (ty k)) (hap : ax_ap T N) (hk : k < N) (hl : Cond.fieldLinkNest own index ref (T k).2.1 (T k).2.2.1 host ∈ lw_tbl) (hsame : ∀ x, X.2.2.2.2.1.fieldFound? (T k).1 (T k).2.1 (T k).2.2.1 = some x → X.2.2.2.2.1.fieldFound? ref (T k).2.1 (T k).2.2.1 = some x) (hfin : (T k).2.2.2 = false) (d : decode cc pc = .ok (.putfield index, 3)) (e : (ax_wc h r t).bind f = some w) (hv : ∀ c : ax_C, ax_Pv ty k c (g c) v)
    (kk : ∀ q : Nat × ax_C, f q = some w → ax_W G X Q (ax_set h q.1 (g q.2)) (pc + 3) ls rest) : ax_W G X Q h pc ls (v :: va_rf r :: rest) := by
  obtain ⟨⟨a, c⟩, e1, e2⟩ := ax_b e
  obtain ⟨rfl, e3, e4⟩ := ax_wc_spec e1
  dsimp only at e3 e4
  intro H locs hH
  have hc1 := hv c
  obtain ⟨v1, v2, v3, v4⟩ := hc1
  have ht1 : ax_kd c.1 = some (.inl (C, T, N, ty)) := by rw [e4]; exact ht
  obtain ⟨cell, q1, q2, q3, q4⟩ := (hH.2.1 a c e3).1.obj ht1
  rw [e4] at q2 q4
  obtain ⟨hS, hfc, kC, hkC, hkind⟩ := (ax_Kn B.2).1 t _ ht
  obtain ⟨cf, i, kf, fl, hi, hi2, hst, hsl⟩ := ax_field (ref := ref) (index := index) B.2 ht hin hk hsame
  have hlay := B.2.1.2.2.2.2 _ (hin _ (u_in_lay hk))
  unfold u_lay at hlay
  rw [hfin] at hlay
  rw [if_neg (by decide)] at hlay
  have h6 := u_store hfc hkC hkind hlay hi (hty k hk) v2 v3
  have hslt : G.1.2 t k < cell.slots.size := k2_hasslot (q4 k hk)
  refine va_WputK B.2.1.1 B.2.1.2.1 (f := fl) B.2.1.2.2.2.1 (va_Nw.use rfl (va_Nw.warmF B.2.2.2.1.1 (B.2.2.2.1.2.2.1 _ hl (Or.inl rfl)))) hi2 hst (by rw [q2]; exact h6) q1 q3 (by rw [hsl]; exact k2_hasslot (q4 k hk)) rfl rfl d fun H' z1 z2 z3 => ?_
  rw [hsl] at z1
  obtain ⟨hH', hs'⟩ := ax_HH.put (c' := g c) (i := fl.slot) hH e3 (ax_at.ofObj (by rw [v1]; exact ht1) (by
    rw [v1, e4]
    refine ⟨_, z1, q2, q3, fun j hj => ?_⟩
    show _ = some (ax_v (ty j) _ _)
    rw [v4 j]
    by_cases hjk : j = k
    · subst hjk
      rw [if_pos rfl]
      simp [Cell.setSlot, hslt]
    · rw [if_neg hjk]
      have := ax_apart B.2 ht hin hty hap k j hk hj (Ne.symm hjk)
      rw [← q4 j hj]
      simp [Cell.setSlot, Array.getElem?_setIfInBounds_ne this])) z2 z3 q1 z1 (by simp [Cell.setSlot])
  have hk2 := kk (a, c) e2 H' _ hH'
  rw [z2, hs'] at hk2
  exact hk2
theorem ax_putvF {α : Type} {ref C : String} {T : u_T} {N t k index : Nat} {ty : Nat → FieldType} {r : Option Nat} {v : Value} {f : Nat × ax_C → Option α} {w : α} {g : ax_C → ax_C} (B : ax_BL l G X cc nL own fr lo) (ht : ax_kd t = some (.inl (C, T, N, ty))) (hin : ∀ w ∈ u_ws C T N, w ∈ lw_all) (hty : ∀ k, k < N → parseFieldDescriptor (T k).2.2.1 = some (ty k)) (hap : ax_ap T N) (hk : k < N) (hl : Cond.fieldLink own index ref (T k).2.1 (T k).2.2.1 ∈ lw_all) (hsame : ∀ x, X.2.2.2.2.1.fieldFound? (T k).1 (T k).2.1 (T k).2.2.1 = some x → X.2.2.2.2.1.fieldFound? ref (T k).2.1 (T k).2.2.1 = some x) (hfin : (T k).2.2.2 = true) (hini : X.2.2.2.2.2.2.2.2.1.name = "<init>") (hdecl : (T k).1 = own) (d : decode cc pc = .ok (.putfield index, 3)) (e : (ax_wc h r t).bind f = some w) (hv : ∀ c : ax_C, ax_Pv ty k c (g c) v)
    (kk : ∀ q : Nat × ax_C, f q = some w → ax_W G X Q (ax_set h q.1 (g q.2)) (pc + 3) ls rest) : ax_W G X Q h pc ls (v :: va_rf r :: rest) := by
  obtain ⟨⟨a, c⟩, e1, e2⟩ := ax_b e
  obtain ⟨rfl, e3, e4⟩ := ax_wc_spec e1
  dsimp only at e3 e4
  intro H locs hH
  have hc1 := hv c
  obtain ⟨v1, v2, v3, v4⟩ := hc1
  have ht1 : ax_kd c.1 = some (.inl (C, T, N, ty)) := by rw [e4]; exact ht
  obtain ⟨cell, q1, q2, q3, q4⟩ := (hH.2.1 a c e3).1.obj ht1
  rw [e4] at q2 q4
  obtain ⟨hS, hfc, kC, hkC, hkind⟩ := (ax_Kn B.2).1 t _ ht
  obtain ⟨cf, i, kf, fl, hi, hi2, hst, hsl⟩ := ax_field (ref := ref) (index := index) B.2 ht hin hk hsame
  have hlay := B.2.1.2.2.2.2 _ (hin _ (u_in_lay hk))
  unfold u_lay at hlay
  rw [hfin] at hlay
  rw [if_pos rfl] at hlay
  have hcf : X.2.2.2.2.2.1.cls = cf := by
    obtain ⟨_, _, c', _, _, _, -, -, hf', -, -, -, hown2, -⟩ := Cond.laysFinal_spec hlay
    have e1 : c' = cf := by have := hi.symm.trans hf'; simp at this; exact this.1.symm
    rw [hdecl] at hown2
    rw [← e1]; exact Option.some.inj (B.2.1.2.2.2.1.symm.trans hown2)
  have h6 := u_fits hfc hkC hkind (Or.inr hlay) hi (hty k hk) v2 v3
  have hslt : G.1.2 t k < cell.slots.size := k2_hasslot (q4 k hk)
  refine W.putFinK B.2.1.1 B.2.1.2.1 B.2.1.2.2.2.1 (B.2.1.2.2.2.2 _ hl) hi2 hst hcf hini (by rw [q2]; exact h6) q1 q3 (by rw [hsl]; exact k2_hasslot (q4 k hk)) rfl rfl d fun H' z1 z2 z3 => ?_
  rw [hsl] at z1
  obtain ⟨hH', hs'⟩ := ax_HH.put (c' := g c) (i := fl.slot) hH e3 (ax_at.ofObj (by rw [v1]; exact ht1) (by
    rw [v1, e4]
    refine ⟨_, z1, q2, q3, fun j hj => ?_⟩
    show _ = some (ax_v (ty j) _ _)
    rw [v4 j]
    by_cases hjk : j = k
    · subst hjk
      rw [if_pos rfl]
      simp [Cell.setSlot, hslt]
    · rw [if_neg hjk]
      have := ax_apart B.2 ht hin hty hap k j hk hj (Ne.symm hjk)
      rw [← q4 j hj]
      simp [Cell.setSlot, Array.getElem?_setIfInBounds_ne this])) z2 z3 q1 z1 (by simp [Cell.setSlot])
  have hk2 := kk (a, c) e2 H' _ hH'
  rw [z2, hs'] at hk2
  exact hk2
/-! arrays -/
theorem ax_inI {i : Int} {n : Nat} (h : 0 ≤ i2 i ∧ i2 i < n) : ¬ (Int32.ofInt i < 0 ∨ n ≤ (Int32.ofInt i).toNatClampNeg) ∧ (Int32.ofInt i).toNatClampNeg < n ∧ (Int32.ofInt i).toNatClampNeg = (i2 i).toNat := by
  rw [ax_clamp, ax_lt0]
  omega
theorem ax_iald {α : Type} {t : Nat} {r : Option Nat} {i : Int} {f : Int → Option α} {w : α} (B : ax_BL l G X cc nL own fr lo) (ht : ax_kd t = some (.inr .int)) (d : decode cc pc = .ok (.iaload, 1)) (e : (ax_ld G.2.2 h r t i).bind f = some w)
    (kk : ∀ v, f v = some w → ax_W G X Q h (pc + 1) ls (.int (Int32.ofInt v) :: rest)) : ax_W G X Q h pc ls (.int (Int32.ofInt i) :: va_rf r :: rest) := by
  obtain ⟨v, e1, e2⟩ := ax_b e
  obtain ⟨c, e3, e4⟩ := ax_b e1
  obtain ⟨a, rfl, e5, rfl⟩ := ax_ce_spec e3
  split at e4
  · rename_i hin
    cases e4
    obtain ⟨i1, i3, i4⟩ := ax_inI hin
    intro H locs hH
    obtain ⟨cell, hc, hv, hA, hs, -⟩ := (ax_read B.2 hH e5).arr ht
    refine W.iald (v := ax_v .int (c.2.2.1 (i2 i).toNat) (c.2.2.2 (i2 i).toNat)) B.2.1.1 B.2.1.2.1 hc hA hv.2 (by rw [hs, arrV_size]; exact i1) (by rw [hs, arrV_read _ _ i3, i4]) rfl rfl d ?_
    exact kk _ e2 H locs hH
  · cases e4
theorem ax_bald {α : Type} {t : Nat} {r : Option Nat} {i : Int} {f : Int → Option α} {w : α} (B : ax_BL l G X cc nL own fr lo) (ht : ax_kd t = some (.inr .byte)) (d : decode cc pc = .ok (.baload, 1)) (e : (ax_ld G.2.2 h r t i).bind f = some w)
    (kk : ∀ v, f v = some w → ax_W G X Q h (pc + 1) ls (.int (Int32.ofInt v) :: rest)) : ax_W G X Q h pc ls (.int (Int32.ofInt i) :: va_rf r :: rest) := by
  obtain ⟨v, e1, e2⟩ := ax_b e
  obtain ⟨c, e3, e4⟩ := ax_b e1
  obtain ⟨a, rfl, e5, rfl⟩ := ax_ce_spec e3
  split at e4
  · rename_i hin
    cases e4
    obtain ⟨i1, i3, i4⟩ := ax_inI hin
    intro H locs hH
    obtain ⟨cell, hc, hv, hA, hs, -⟩ := (ax_read B.2 hH e5).arr ht
    refine W.bald (v := ax_v .byte (c.2.2.1 (i2 i).toNat) (c.2.2.2 (i2 i).toNat)) B.2.1.1 B.2.1.2.1 hc hA hv.2 (by rw [hs, arrV_size]; exact i1) (by rw [hs, arrV_read _ _ i3, i4]) rfl rfl d ?_
    exact kk _ e2 H locs hH
  · cases e4
theorem ax_zald {α : Type} {t : Nat} {r : Option Nat} {i : Int} {f : Int → Option α} {w : α} (B : ax_BL l G X cc nL own fr lo) (ht : ax_kd t = some (.inr .boolean)) (d : decode cc pc = .ok (.baload, 1)) (e : (ax_ld G.2.2 h r t i).bind f = some w)
    (kk : ∀ v, f v = some w → ax_W G X Q h (pc + 1) ls (.int (Int32.ofInt v) :: rest)) : ax_W G X Q h pc ls (.int (Int32.ofInt i) :: va_rf r :: rest) := by
  obtain ⟨v, e1, e2⟩ := ax_b e
  obtain ⟨c, e3, e4⟩ := ax_b e1
  obtain ⟨a, rfl, e5, rfl⟩ := ax_ce_spec e3
  split at e4
  · rename_i hin
    cases e4
    obtain ⟨i1, i3, i4⟩ := ax_inI hin
    intro H locs hH
    obtain ⟨cell, hc, hv, hA, hs, -⟩ := (ax_read B.2 hH e5).arr ht
    refine W.zald (v := ax_v .boolean (c.2.2.1 (i2 i).toNat) (c.2.2.2 (i2 i).toNat)) B.2.1.1 B.2.1.2.1 hc hA hv.2 (by rw [hs, arrV_size]; exact i1) (by rw [hs, arrV_read _ _ i3, i4]) rfl rfl d ?_
    exact kk _ e2 H locs hH
  · cases e4
theorem ax_lald {α : Type} {t : Nat} {r : Option Nat} {i : Int} {f : Int → Option α} {w : α} (B : ax_BL l G X cc nL own fr lo) (ht : ax_kd t = some (.inr .long)) (d : decode cc pc = .ok (.laload, 1)) (e : (ax_ld G.2.2 h r t i).bind f = some w)
    (kk : ∀ v, f v = some w → ax_W G X Q h (pc + 1) ls (.long (Int64.ofInt v) :: rest)) : ax_W G X Q h pc ls (.int (Int32.ofInt i) :: va_rf r :: rest) := by
  obtain ⟨v, e1, e2⟩ := ax_b e
  obtain ⟨c, e3, e4⟩ := ax_b e1
  obtain ⟨a, rfl, e5, rfl⟩ := ax_ce_spec e3
  split at e4
  · rename_i hin
    cases e4
    obtain ⟨i1, i3, i4⟩ := ax_inI hin
    intro H locs hH
    obtain ⟨cell, hc, hv, hA, hs, -⟩ := (ax_read B.2 hH e5).arr ht
    refine W.lald (v := ax_v .long (c.2.2.1 (i2 i).toNat) (c.2.2.2 (i2 i).toNat)) B.2.1.1 B.2.1.2.1 hc hA hv.2 (by rw [hs, arrV_size]; exact i1) (by rw [hs, arrV_read _ _ i3, i4]) rfl rfl d ?_
    exact kk _ e2 H locs hH
  · cases e4
theorem ax_aald {α : Type} {t : Nat} {r : Option Nat} {i : Int} {f : Option Nat → Option α} {w : α} {ty : FieldType} (hR : ty.isReference = true) (B : ax_BL l G X cc nL own fr lo) (ht : ax_kd t = some (.inr ty)) (d : decode cc pc = .ok (.aaload, 1)) (e : (ax_ldR G.2.2 h r t i).bind f = some w)
    (kk : ∀ v, f v = some w → ax_W G X Q h (pc + 1) ls (va_rf v :: rest)) : ax_W G X Q h pc ls (.int (Int32.ofInt i) :: va_rf r :: rest) := by
  obtain ⟨v, e1, e2⟩ := ax_b e
  obtain ⟨c, e3, e4⟩ := ax_b e1
  obtain ⟨a, rfl, e5, rfl⟩ := ax_ce_spec e3
  split at e4
  · rename_i hin
    cases e4
    obtain ⟨i1, i3, i4⟩ := ax_inI hin
    intro H locs hH
    obtain ⟨cell, hc, hv, hA, hs, -⟩ := (ax_read B.2 hH e5).arr ht
    refine W.aald (v := ax_v ty (c.2.2.1 (i2 i).toNat) (c.2.2.2 (i2 i).toNat)) B.2.1.1 B.2.1.2.1 hc hA hR hv.2 (by rw [hs, arrV_size]; exact i1) (by rw [hs, arrV_read _ _ i3, i4]) rfl rfl d ?_
    rw [va_rf_arg _ hR]; exact kk _ e2 H locs hH
  · cases e4
end AXH
