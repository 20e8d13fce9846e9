/-! The law: its cases, 1 -/
set_option maxRecDepth 100000
/-- what a call needs -/
def LwC (E : ax_E) (x : Nat) (n : Int) (g : ax_H) : Prop := Ek E x ∧ Ek1 E x ∧ TxtE E x ∧ n ≤ 1000000 ∧ g.1 + 3300 ≤ E.1.1 ∧ g.2.1 + 40000 ≤ E.1.2
/-- what a call gives -/
def LwR (E : ax_E) (x : Nat) (n : Int) (g : ax_H) (i : Int) (res : Option ((Int × ax_H) ⊕ (Int × ax_H))) : Prop := ∃ g2 s2, res = some (.inl (i + 6, g2)) ∧ INV E x (n + 1) s2 g2 ∧ (g2.1 ≤ g.1 + 3000 ∧ g2.2.1 ≤ g.2.1 + 30000)
section
variable {E : ax_E} {x a0 len : Nat} {g : ax_H} {s : Sg} {n i : Int} {sc : Int → Int}
theorem lc_person (Sc : ScE E x a0 len sc) (I : INV E x n s g) (C : LwC E x n g) (i0 : 0 ≤ i) (i1 : i + 6 ≤ len) : LwR E x n g i ((ax_ld E g (some a0) 100 (i + 1)).bind fun v3 =>
      (ax_ld E g (some a0) 100 (i + 2)).bind fun v4 =>
      (ax_ld E g (some a0) 100 (i + 3)).bind fun v5 =>
      (ax_ce E g (some x) 0).bind fun _ => (f_X0_person E (some x) v3 v4 v5 g).bind fun q6 =>
      (ax_ld E q6.2 (some a0) 100 (i + 1)).bind fun v7 =>
      (ax_ld E q6.2 (some a0) 100 (i + 2)).bind fun v8 =>
      (ax_ld E q6.2 (some a0) 100 (i + 3)).bind fun v9 =>
      (ax_ce E q6.2 (some (x + 84)) 5).bind fun _ => (f_X5_person E (some (x + 84)) v7 v8 v9 q6.2).bind fun q10 =>
      if i2 q6.1 = i2 q10.1 then
        f_L_law_1554 E (some a0) (some x) (some (x + 84)) i q10.2
      else
        (some (0, q10.2)).map Sum.inr) := by
  obtain ⟨⟨t, dl, dv, ds, du, H⟩, V, M⟩ := I
  obtain ⟨hE, hE1, hX, hn, r1, r2⟩ := C
  have hG := V.1.1
  have hK := V.1.2.1
  have hL := V.1.2.2.1
  have hU := V.1.2.2.2.1
  have re := V.1.2.2.2.2
  have fv := V.2.1.2.2.1
  have fs := V.2.1.2.2.2
  have h11 := V.2.2.2.1
  have lo := H.low
  have l3 := Sc.2.1
  have j1 := Sc.2.2.2 (i + 1)
  have j2 := Sc.2.2.2 (i + 2)
  have j3 := Sc.2.2.2 (i + 3)
  obtain ⟨g1, g2, s2, p1, p2, l1, ⟨c5, e5⟩, J, sz⟩ := call_step (E := E) (x := x) (n := n) (s' := (setP (personS s (sc (i + 1)) (sc (i + 2)) (sc (i + 3)))).2) (v := (setP (personS s (sc (i + 1)) (sc (i + 2)) (sc (i + 3)))).1) (f0 := fun h => f_X0_person E (some x) (sc (i + 1)) (sc (i + 2)) (sc (i + 3)) h) (f5 := fun h => f_X5_person E (some (x + 84)) (sc (i + 1)) (sc (i + 2)) (sc (i + 3)) h) M H.1.1.1 (by
    obtain ⟨h', p1, p2, p3⟩ := c_personP (E := E) H hE hG hK ⟨fv.1.2, fs.1.2⟩ j1 j2 j3
    exact ⟨t, dl, dv, ds, du, h', p1, p2, p3.up (by decide) (by decide)⟩) (fun h' => ⟨_, m_personP (E := E) (m := x + 84) (h := h') hG hK j1 j2 j3, Ew.refl _⟩) (by
    have w := personS_VW (n := n) V j1 j2 j3
    exact w.1.set (by omega) (by omega) (by omega))
  refine ⟨g2, s2, ?_, J, sz⟩
  rw [sc_ld Sc lo (by omega) (by omega), Option.bind_some, sc_ld Sc lo (by omega) (by omega), Option.bind_some, sc_ld Sc lo (by omega) (by omega), Option.bind_some, f_ce H.2.1.1 (by decide), Option.bind_some, p1, Option.bind_some]
  dsimp only
  rw [sc_ld Sc l1 (by omega) (by omega), Option.bind_some, sc_ld Sc l1 (by omega) (by omega), Option.bind_some, sc_ld Sc l1 (by omega) (by omega), Option.bind_some, e5, Option.bind_some, p2, Option.bind_some]
  dsimp only
  rw [if_pos rfl]
  rfl
theorem lc_put (Sc : ScE E x a0 len sc) (I : INV E x n s g) (C : LwC E x n g) (i0 : 0 ≤ i) (i1 : i + 6 ≤ len) : LwR E x n g i ((ax_ld E g (some a0) 100 (i + 1)).bind fun v11 =>
      (ax_ld E g (some a0) 100 (i + 2)).bind fun v12 =>
      (ax_ld E g (some a0) 100 (i + 3)).bind fun v13 =>
      (ax_ce E g (some x) 0).bind fun _ => (f_X0_put E (some x) v11 v12 v13 g).bind fun q14 =>
      (ax_ld E q14.2 (some a0) 100 (i + 1)).bind fun v15 =>
      (ax_ld E q14.2 (some a0) 100 (i + 2)).bind fun v16 =>
      (ax_ld E q14.2 (some a0) 100 (i + 3)).bind fun v17 =>
      (ax_ce E q14.2 (some (x + 84)) 5).bind fun _ => (f_X5_put E (some (x + 84)) v15 v16 v17 q14.2).bind fun q18 =>
      if i2 q14.1 = i2 q18.1 then
        f_L_law_1554 E (some a0) (some x) (some (x + 84)) i q18.2
      else
        (some (0, q18.2)).map Sum.inr) := by
  obtain ⟨⟨t, dl, dv, ds, du, H⟩, V, M⟩ := I
  obtain ⟨hE, hE1, hX, hn, r1, r2⟩ := C
  have hG := V.1.1
  have hK := V.1.2.1
  have hL := V.1.2.2.1
  have hU := V.1.2.2.2.1
  have re := V.1.2.2.2.2
  have fv := V.2.1.2.2.1
  have fs := V.2.1.2.2.2
  have h11 := V.2.2.2.1
  have lo := H.low
  have l3 := Sc.2.1
  have j1 := Sc.2.2.2 (i + 1)
  have j2 := Sc.2.2.2 (i + 2)
  have j3 := Sc.2.2.2 (i + 3)
  obtain ⟨g1, g2, s2, p1, p2, l1, ⟨c5, e5⟩, J, sz⟩ := call_step (E := E) (x := x) (n := n) (s' := (setP (putS s (sc (i + 1)) (sc (i + 2)) (sc (i + 3)))).2) (v := (setP (putS s (sc (i + 1)) (sc (i + 2)) (sc (i + 3)))).1) (f0 := fun h => f_X0_put E (some x) (sc (i + 1)) (sc (i + 2)) (sc (i + 3)) h) (f5 := fun h => f_X5_put E (some (x + 84)) (sc (i + 1)) (sc (i + 2)) (sc (i + 3)) h) M H.1.1.1 (by
    obtain ⟨h', p1, p2, p3⟩ := c_putP (E := E) H hE hG hK ⟨fv.1.2, fs.1.2⟩ j1 j2 j3
    exact ⟨t, dl, dv, ds, du, h', p1, p2, p3.up (by decide) (by decide)⟩) (fun h' => ⟨_, m_putP (E := E) (m := x + 84) (h := h') hG hK j1 j2 j3, Ew.refl _⟩) (by
    have w := putS_VW (n := n) (p := (sc (i + 1))) (w := (sc (i + 2))) V j3
    exact w.1.set (by omega) (by omega) (by omega))
  refine ⟨g2, s2, ?_, J, sz⟩
  rw [sc_ld Sc lo (by omega) (by omega), Option.bind_some, sc_ld Sc lo (by omega) (by omega), Option.bind_some, sc_ld Sc lo (by omega) (by omega), Option.bind_some, f_ce H.2.1.1 (by decide), Option.bind_some, p1, Option.bind_some]
  dsimp only
  rw [sc_ld Sc l1 (by omega) (by omega), Option.bind_some, sc_ld Sc l1 (by omega) (by omega), Option.bind_some, sc_ld Sc l1 (by omega) (by omega), Option.bind_some, e5, Option.bind_some, p2, Option.bind_some]
  dsimp only
  rw [if_pos rfl]
  rfl
theorem lc_of (Sc : ScE E x a0 len sc) (I : INV E x n s g) (C : LwC E x n g) (i0 : 0 ≤ i) (i1 : i + 6 ≤ len) : LwR E x n g i ((ax_ld E g (some a0) 100 (i + 1)).bind fun v19 =>
      (ax_ld E g (some a0) 100 (i + 2)).bind fun v20 =>
      (ax_ce E g (some x) 0).bind fun _ => (f_X0_of E (some x) v19 v20 g).bind fun q21 =>
      (ax_ld E q21.2 (some a0) 100 (i + 1)).bind fun v22 =>
      (ax_ld E q21.2 (some a0) 100 (i + 2)).bind fun v23 =>
      (ax_ce E q21.2 (some (x + 84)) 5).bind fun _ => (f_X5_of E (some (x + 84)) v22 v23 q21.2).bind fun q24 =>
      if i2 q21.1 = i2 q24.1 then
        f_L_law_1554 E (some a0) (some x) (some (x + 84)) i q24.2
      else
        (some (0, q24.2)).map Sum.inr) := by
  obtain ⟨⟨t, dl, dv, ds, du, H⟩, V, M⟩ := I
  obtain ⟨hE, hE1, hX, hn, r1, r2⟩ := C
  have hG := V.1.1
  have hK := V.1.2.1
  have hL := V.1.2.2.1
  have hU := V.1.2.2.2.1
  have re := V.1.2.2.2.2
  have fv := V.2.1.2.2.1
  have fs := V.2.1.2.2.2
  have h11 := V.2.2.2.1
  have lo := H.low
  have l3 := Sc.2.1
  have j1 := Sc.2.2.2 (i + 1)
  have j2 := Sc.2.2.2 (i + 2)
  obtain ⟨g1, g2, s2, p1, p2, l1, ⟨c5, e5⟩, J, sz⟩ := call_step (E := E) (x := x) (n := n) (s' := s) (v := ofP s (sc (i + 1)) (sc (i + 2))) (f0 := fun h => f_X0_of E (some x) (sc (i + 1)) (sc (i + 2)) h) (f5 := fun h => f_X5_of E (some (x + 84)) (sc (i + 1)) (sc (i + 2)) h) M H.1.1.1 ⟨t, dl, dv, ds, du, g, c_ofP H hG hK j1 j2, H, (Blk.refl x g).up (by decide) (by decide)⟩ (fun h' => ⟨s, m_ofP hG hK j1 j2, Ew.refl s⟩) (V.up (by omega))
  refine ⟨g2, s2, ?_, J, sz⟩
  rw [sc_ld Sc lo (by omega) (by omega), Option.bind_some, sc_ld Sc lo (by omega) (by omega), Option.bind_some, f_ce H.2.1.1 (by decide), Option.bind_some, p1, Option.bind_some]
  dsimp only
  rw [sc_ld Sc l1 (by omega) (by omega), Option.bind_some, sc_ld Sc l1 (by omega) (by omega), Option.bind_some, e5, Option.bind_some, p2, Option.bind_some]
  dsimp only
  rw [if_pos rfl]
  rfl
theorem lc_debt (Sc : ScE E x a0 len sc) (I : INV E x n s g) (C : LwC E x n g) (i0 : 0 ≤ i) (i1 : i + 6 ≤ len) : LwR E x n g i ((ax_ld E g (some a0) 100 (i + 1)).bind fun v25 =>
      (ax_ld E g (some a0) 100 (i + 2)).bind fun v26 =>
      (ax_ld E g (some a0) 100 (i + 3)).bind fun v27 =>
      (ax_ce E g (some x) 0).bind fun _ => (f_X0_debt E (some x) v25 v26 v27 g).bind fun q28 =>
      (ax_ld E q28.2 (some a0) 100 (i + 1)).bind fun v29 =>
      (ax_ld E q28.2 (some a0) 100 (i + 2)).bind fun v30 =>
      (ax_ld E q28.2 (some a0) 100 (i + 3)).bind fun v31 =>
      (ax_ce E q28.2 (some (x + 84)) 5).bind fun _ => (f_X5_debt E (some (x + 84)) v29 v30 v31 q28.2).bind fun q32 =>
      if i2 q28.1 = i2 q32.1 then
        f_L_law_1554 E (some a0) (some x) (some (x + 84)) i q32.2
      else
        (some (0, q32.2)).map Sum.inr) := by
  obtain ⟨⟨t, dl, dv, ds, du, H⟩, V, M⟩ := I
  obtain ⟨hE, hE1, hX, hn, r1, r2⟩ := C
  have hG := V.1.1
  have hK := V.1.2.1
  have hL := V.1.2.2.1
  have hU := V.1.2.2.2.1
  have re := V.1.2.2.2.2
  have fv := V.2.1.2.2.1
  have fs := V.2.1.2.2.2
  have h11 := V.2.2.2.1
  have lo := H.low
  have l3 := Sc.2.1
  have j1 := Sc.2.2.2 (i + 1)
  have j2 := Sc.2.2.2 (i + 2)
  have j3 := Sc.2.2.2 (i + 3)
  obtain ⟨g1, g2, s2, p1, p2, l1, ⟨c5, e5⟩, J, sz⟩ := call_step (E := E) (x := x) (n := n) (s' := (setP (debtS s (sc (i + 1)) (sc (i + 2)) (sc (i + 3)))).2) (v := (setP (debtS s (sc (i + 1)) (sc (i + 2)) (sc (i + 3)))).1) (f0 := fun h => f_X0_debt E (some x) (sc (i + 1)) (sc (i + 2)) (sc (i + 3)) h) (f5 := fun h => f_X5_debt E (some (x + 84)) (sc (i + 1)) (sc (i + 2)) (sc (i + 3)) h) M H.1.1.1 (by
    obtain ⟨h', p1, p2, p3⟩ := c_debtP (E := E) H hE hG hK j1 j2 j3
    exact ⟨t, dl, dv, ds, du, h', p1, p2, p3.up (by decide) (by decide)⟩) (fun h' => ⟨_, m_debtP (E := E) (m := x + 84) (h := h') hG hK j1 j2 j3, Ew.refl _⟩) (by
    have w := debtS_VW (n := n) (p := (sc (i + 1))) (q := (sc (i + 2))) (a := (sc (i + 3))) V
    have b := debtS_b hK ((sc (i + 1))) ((sc (i + 2))) ((sc (i + 3)))
    exact w.set (by omega) (by omega) (by omega))
  refine ⟨g2, s2, ?_, J, sz⟩
  rw [sc_ld Sc lo (by omega) (by omega), Option.bind_some, sc_ld Sc lo (by omega) (by omega), Option.bind_some, sc_ld Sc lo (by omega) (by omega), Option.bind_some, f_ce H.2.1.1 (by decide), Option.bind_some, p1, Option.bind_some]
  dsimp only
  rw [sc_ld Sc l1 (by omega) (by omega), Option.bind_some, sc_ld Sc l1 (by omega) (by omega), Option.bind_some, sc_ld Sc l1 (by omega) (by omega), Option.bind_some, e5, Option.bind_some, p2, Option.bind_some]
  dsimp only
  rw [if_pos rfl]
  rfl
theorem lc_at (Sc : ScE E x a0 len sc) (I : INV E x n s g) (C : LwC E x n g) (i0 : 0 ≤ i) (i1 : i + 6 ≤ len) : LwR E x n g i ((ax_ld E g (some a0) 100 (i + 1)).bind fun v33 =>
      (ax_ld E g (some a0) 100 (i + 2)).bind fun v34 =>
      (ax_ce E g (some x) 0).bind fun _ => (f_X0_at E (some x) v33 v34 g).bind fun q35 =>
      (ax_ld E q35.2 (some a0) 100 (i + 1)).bind fun v36 =>
      (ax_ld E q35.2 (some a0) 100 (i + 2)).bind fun v37 =>
      (ax_ce E q35.2 (some (x + 84)) 5).bind fun _ => (f_X5_at E (some (x + 84)) v36 v37 q35.2).bind fun q38 =>
      if i2 q35.1 = i2 q38.1 then
        f_L_law_1554 E (some a0) (some x) (some (x + 84)) i q38.2
      else
        (some (0, q38.2)).map Sum.inr) := by
  obtain ⟨⟨t, dl, dv, ds, du, H⟩, V, M⟩ := I
  obtain ⟨hE, hE1, hX, hn, r1, r2⟩ := C
  have hG := V.1.1
  have hK := V.1.2.1
  have hL := V.1.2.2.1
  have hU := V.1.2.2.2.1
  have re := V.1.2.2.2.2
  have fv := V.2.1.2.2.1
  have fs := V.2.1.2.2.2
  have h11 := V.2.2.2.1
  have lo := H.low
  have l3 := Sc.2.1
  have j1 := Sc.2.2.2 (i + 1)
  have j2 := Sc.2.2.2 (i + 2)
  obtain ⟨g1, g2, s2, p1, p2, l1, ⟨c5, e5⟩, J, sz⟩ := call_step (E := E) (x := x) (n := n) (s' := s) (v := atP s (sc (i + 1)) (sc (i + 2))) (f0 := fun h => f_X0_at E (some x) (sc (i + 1)) (sc (i + 2)) h) (f5 := fun h => f_X5_at E (some (x + 84)) (sc (i + 1)) (sc (i + 2)) h) M H.1.1.1 (by
    obtain ⟨h', p1, p2, p3⟩ := c_atP (E := E) H hG hK j1 j2
    exact ⟨t, dl, dv, ds, du, h', p1, p2, p3.up (by decide) (by decide)⟩) (fun h' => by
    obtain ⟨s'', q1, q2⟩ := m_atP (E := E) (m := x + 84) (h := h') hG hK hL j1 j2
    exact ⟨s'', q1, q2.ew⟩) (V.up (by omega))
  refine ⟨g2, s2, ?_, J, sz⟩
  rw [sc_ld Sc lo (by omega) (by omega), Option.bind_some, sc_ld Sc lo (by omega) (by omega), Option.bind_some, f_ce H.2.1.1 (by decide), Option.bind_some, p1, Option.bind_some]
  dsimp only
  rw [sc_ld Sc l1 (by omega) (by omega), Option.bind_some, sc_ld Sc l1 (by omega) (by omega), Option.bind_some, e5, Option.bind_some, p2, Option.bind_some]
  dsimp only
  rw [if_pos rfl]
  rfl
theorem lc_owes (Sc : ScE E x a0 len sc) (I : INV E x n s g) (C : LwC E x n g) (i0 : 0 ≤ i) (i1 : i + 6 ≤ len) : LwR E x n g i ((ax_ld E g (some a0) 100 (i + 1)).bind fun v39 =>
      (ax_ld E g (some a0) 100 (i + 2)).bind fun v40 =>
      (ax_ce E g (some x) 0).bind fun _ => (f_X0_owes E (some x) v39 v40 g).bind fun q41 =>
      (ax_ld E q41.2 (some a0) 100 (i + 1)).bind fun v42 =>
      (ax_ld E q41.2 (some a0) 100 (i + 2)).bind fun v43 =>
      (ax_ce E q41.2 (some (x + 84)) 5).bind fun _ => (f_X5_owes E (some (x + 84)) v42 v43 q41.2).bind fun q44 =>
      if i2 q41.1 = i2 q44.1 then
        f_L_law_1554 E (some a0) (some x) (some (x + 84)) i q44.2
      else
        (some (0, q44.2)).map Sum.inr) := by
  obtain ⟨⟨t, dl, dv, ds, du, H⟩, V, M⟩ := I
  obtain ⟨hE, hE1, hX, hn, r1, r2⟩ := C
  have hG := V.1.1
  have hK := V.1.2.1
  have hL := V.1.2.2.1
  have hU := V.1.2.2.2.1
  have re := V.1.2.2.2.2
  have fv := V.2.1.2.2.1
  have fs := V.2.1.2.2.2
  have h11 := V.2.2.2.1
  have lo := H.low
  have l3 := Sc.2.1
  have j1 := Sc.2.2.2 (i + 1)
  have j2 := Sc.2.2.2 (i + 2)
  obtain ⟨g1, g2, s2, p1, p2, l1, ⟨c5, e5⟩, J, sz⟩ := call_step (E := E) (x := x) (n := n) (s' := s) (v := owesP s (sc (i + 1)) (sc (i + 2))) (f0 := fun h => f_X0_owes E (some x) (sc (i + 1)) (sc (i + 2)) h) (f5 := fun h => f_X5_owes E (some (x + 84)) (sc (i + 1)) (sc (i + 2)) h) M H.1.1.1 ⟨t, dl, dv, ds, du, g, c_owesP H hG hK j1 j2, H, (Blk.refl x g).up (by decide) (by decide)⟩ (fun h' => ⟨s, m_owesP hG hK j1 j2, Ew.refl s⟩) (V.up (by omega))
  refine ⟨g2, s2, ?_, J, sz⟩
  rw [sc_ld Sc lo (by omega) (by omega), Option.bind_some, sc_ld Sc lo (by omega) (by omega), Option.bind_some, f_ce H.2.1.1 (by decide), Option.bind_some, p1, Option.bind_some]
  dsimp only
  rw [sc_ld Sc l1 (by omega) (by omega), Option.bind_some, sc_ld Sc l1 (by omega) (by omega), Option.bind_some, e5, Option.bind_some, p2, Option.bind_some]
  dsimp only
  rw [if_pos rfl]
  rfl
theorem lc_terms (Sc : ScE E x a0 len sc) (I : INV E x n s g) (C : LwC E x n g) (i0 : 0 ≤ i) (i1 : i + 6 ≤ len) : LwR E x n g i ((ax_ld E g (some a0) 100 (i + 1)).bind fun v45 =>
      (ax_ld E g (some a0) 100 (i + 2)).bind fun v46 =>
      (ax_ce E g (some x) 0).bind fun _ => (f_X0_terms E (some x) v45 v46 g).bind fun q47 =>
      (ax_ld E q47.2 (some a0) 100 (i + 1)).bind fun v48 =>
      (ax_ld E q47.2 (some a0) 100 (i + 2)).bind fun v49 =>
      (ax_ce E q47.2 (some (x + 84)) 5).bind fun _ => (f_X5_terms E (some (x + 84)) v48 v49 q47.2).bind fun q50 =>
      if i2 q47.1 = i2 q50.1 then
        f_L_law_1554 E (some a0) (some x) (some (x + 84)) i q50.2
      else
        (some (0, q50.2)).map Sum.inr) := by
  obtain ⟨⟨t, dl, dv, ds, du, H⟩, V, M⟩ := I
  obtain ⟨hE, hE1, hX, hn, r1, r2⟩ := C
  have hG := V.1.1
  have hK := V.1.2.1
  have hL := V.1.2.2.1
  have hU := V.1.2.2.2.1
  have re := V.1.2.2.2.2
  have fv := V.2.1.2.2.1
  have fs := V.2.1.2.2.2
  have h11 := V.2.2.2.1
  have lo := H.low
  have l3 := Sc.2.1
  have j1 := Sc.2.2.2 (i + 1)
  have j2 := Sc.2.2.2 (i + 2)
  obtain ⟨g1, g2, s2, p1, p2, l1, ⟨c5, e5⟩, J, sz⟩ := call_step (E := E) (x := x) (n := n) (s' := (setP (termS s (sc (i + 1)) (sc (i + 2)))).2) (v := (setP (termS s (sc (i + 1)) (sc (i + 2)))).1) (f0 := fun h => f_X0_terms E (some x) (sc (i + 1)) (sc (i + 2)) h) (f5 := fun h => f_X5_terms E (some (x + 84)) (sc (i + 1)) (sc (i + 2)) h) M H.1.1.1 (by
    obtain ⟨h', p1, p2, p3⟩ := c_terms (E := E) H hE hG hK ⟨fv.1.2, fs.1.2⟩ j1 j2
    exact ⟨t, dl, dv, ds, du, h', p1, p2, p3.up (by decide) (by decide)⟩) (fun h' => ⟨_, m_terms (E := E) (m := x + 84) (h := h') hG hK j1 j2, Ew.refl _⟩) (by
    have w := termS_VW (n := n) (w := (sc (i + 1))) V j2
    exact w.1.set (by omega) (by omega) (by omega))
  refine ⟨g2, s2, ?_, J, sz⟩
  rw [sc_ld Sc lo (by omega) (by omega), Option.bind_some, sc_ld Sc lo (by omega) (by omega), Option.bind_some, f_ce H.2.1.1 (by decide), Option.bind_some, p1, Option.bind_some]
  dsimp only
  rw [sc_ld Sc l1 (by omega) (by omega), Option.bind_some, sc_ld Sc l1 (by omega) (by omega), Option.bind_some, e5, Option.bind_some, p2, Option.bind_some]
  dsimp only
  rw [if_pos rfl]
  rfl
theorem lc_feed (Sc : ScE E x a0 len sc) (I : INV E x n s g) (C : LwC E x n g) (i0 : 0 ≤ i) (i1 : i + 6 ≤ len) : LwR E x n g i ((ax_ld E g (some a0) 100 (i + 1)).bind fun v51 =>
      (ax_ld E g (some a0) 100 (i + 2)).bind fun v52 =>
      (ax_ld E g (some a0) 100 (i + 3)).bind fun v53 =>
      (ax_ld E g (some a0) 100 (i + 4)).bind fun v54 =>
      (ax_ld E g (some a0) 100 (i + 5)).bind fun v55 =>
      (ax_ce E g (some x) 0).bind fun _ => (f_X0_feed E (some x) v51 v52 v53 v54 v55 g).bind fun q56 =>
      (ax_ld E q56.2 (some a0) 100 (i + 1)).bind fun v57 =>
      (ax_ld E q56.2 (some a0) 100 (i + 2)).bind fun v58 =>
      (ax_ld E q56.2 (some a0) 100 (i + 3)).bind fun v59 =>
      (ax_ld E q56.2 (some a0) 100 (i + 4)).bind fun v60 =>
      (ax_ld E q56.2 (some a0) 100 (i + 5)).bind fun v61 =>
      (ax_ce E q56.2 (some (x + 84)) 5).bind fun _ => (f_X5_feed E (some (x + 84)) v57 v58 v59 v60 v61 q56.2).bind fun q62 =>
      if i2 q56.1 = i2 q62.1 then
        f_L_law_1554 E (some a0) (some x) (some (x + 84)) i q62.2
      else
        (some (0, q62.2)).map Sum.inr) := by
  obtain ⟨⟨t, dl, dv, ds, du, H⟩, V, M⟩ := I
  obtain ⟨hE, hE1, hX, hn, r1, r2⟩ := C
  have hG := V.1.1
  have hK := V.1.2.1
  have hL := V.1.2.2.1
  have hU := V.1.2.2.2.1
  have re := V.1.2.2.2.2
  have fv := V.2.1.2.2.1
  have fs := V.2.1.2.2.2
  have h11 := V.2.2.2.1
  have lo := H.low
  have l3 := Sc.2.1
  have j1 := Sc.2.2.2 (i + 1)
  have j2 := Sc.2.2.2 (i + 2)
  have j3 := Sc.2.2.2 (i + 3)
  have j4 := Sc.2.2.2 (i + 4)
  have j5 := Sc.2.2.2 (i + 5)
  obtain ⟨g1, g2, s2, p1, p2, l1, ⟨c5, e5⟩, J, sz⟩ := call_step (E := E) (x := x) (n := n) (s' := (feedS s (sc (i + 1)) (sc (i + 2)) (sc (i + 3)) (sc (i + 4)) (sc (i + 5))).2) (v := (feedS s (sc (i + 1)) (sc (i + 2)) (sc (i + 3)) (sc (i + 4)) (sc (i + 5))).1) (f0 := fun h => f_X0_feed E (some x) (sc (i + 1)) (sc (i + 2)) (sc (i + 3)) (sc (i + 4)) (sc (i + 5)) h) (f5 := fun h => f_X5_feed E (some (x + 84)) (sc (i + 1)) (sc (i + 2)) (sc (i + 3)) (sc (i + 4)) (sc (i + 5)) h) M H.1.1.1 (by
    obtain ⟨h', p1, p2, p3⟩ := c_feed (E := E) H h11
    exact ⟨t, dl, dv, ds, du, h', p1, p2, p3.up (by decide) (by decide)⟩) (fun h' => by
    obtain ⟨s'', q1, q2⟩ := m_feed (E := E) (m := x + 84) (h := h') hG h11 j1 j2 j3 j4 j5
    exact ⟨s'', q1, q2⟩) ((feedS_VW V).up (by omega))
  refine ⟨g2, s2, ?_, J, sz⟩
  rw [sc_ld Sc lo (by omega) (by omega), Option.bind_some, sc_ld Sc lo (by omega) (by omega), Option.bind_some, sc_ld Sc lo (by omega) (by omega), Option.bind_some, sc_ld Sc lo (by omega) (by omega), Option.bind_some, sc_ld Sc lo (by omega) (by omega), Option.bind_some, f_ce H.2.1.1 (by decide), Option.bind_some, p1, Option.bind_some]
  dsimp only
  rw [sc_ld Sc l1 (by omega) (by omega), Option.bind_some, sc_ld Sc l1 (by omega) (by omega), Option.bind_some, sc_ld Sc l1 (by omega) (by omega), Option.bind_some, sc_ld Sc l1 (by omega) (by omega), Option.bind_some, sc_ld Sc l1 (by omega) (by omega), Option.bind_some, e5, Option.bind_some, p2, Option.bind_some]
  dsimp only
  rw [if_pos rfl]
  rfl
theorem lc_end (Sc : ScE E x a0 len sc) (I : INV E x n s g) (C : LwC E x n g) (i0 : 0 ≤ i) (i1 : i + 6 ≤ len) : LwR E x n g i ((ax_ld E g (some a0) 100 (i + 1)).bind fun v63 =>
      (ax_ce E g (some x) 0).bind fun _ => (f_X0_end E (some x) v63 g).bind fun q64 =>
      (ax_ld E q64.2 (some a0) 100 (i + 1)).bind fun v65 =>
      (ax_ce E q64.2 (some (x + 84)) 5).bind fun _ => (f_X5_end E (some (x + 84)) v65 q64.2).bind fun q66 =>
      if i2 q64.1 = i2 q66.1 then
        f_L_law_1554 E (some a0) (some x) (some (x + 84)) i q66.2
      else
        (some (0, q66.2)).map Sum.inr) := by
  obtain ⟨⟨t, dl, dv, ds, du, H⟩, V, M⟩ := I
  obtain ⟨hE, hE1, hX, hn, r1, r2⟩ := C
  have hG := V.1.1
  have hK := V.1.2.1
  have hL := V.1.2.2.1
  have hU := V.1.2.2.2.1
  have re := V.1.2.2.2.2
  have fv := V.2.1.2.2.1
  have fs := V.2.1.2.2.2
  have h11 := V.2.2.2.1
  have lo := H.low
  have l3 := Sc.2.1
  have j1 := Sc.2.2.2 (i + 1)
  obtain ⟨g1, g2, s2, p1, p2, l1, ⟨c5, e5⟩, J, sz⟩ := call_step (E := E) (x := x) (n := n) (s' := (endS s (sc (i + 1))).2) (v := (endS s (sc (i + 1))).1) (f0 := fun h => f_X0_end E (some x) (sc (i + 1)) h) (f5 := fun h => f_X5_end E (some (x + 84)) (sc (i + 1)) h) M H.1.1.1 (by
    obtain ⟨h', p1, p2, p3⟩ := c_end (E := E) H j1 h11
    exact ⟨t, dl, dv, ds, du, h', p1, p2, p3.up (by decide) (by decide)⟩) (fun h' => ⟨_, m_end (E := E) (m := x + 84) (h := h') j1 h11, Ew.refl _⟩) ((endS_VW V).up (by omega))
  refine ⟨g2, s2, ?_, J, sz⟩
  rw [sc_ld Sc lo (by omega) (by omega), Option.bind_some, f_ce H.2.1.1 (by decide), Option.bind_some, p1, Option.bind_some]
  dsimp only
  rw [sc_ld Sc l1 (by omega) (by omega), Option.bind_some, e5, Option.bind_some, p2, Option.bind_some]
  dsimp only
  rw [if_pos rfl]
  rfl
theorem lc_row (Sc : ScE E x a0 len sc) (I : INV E x n s g) (C : LwC E x n g) (i0 : 0 ≤ i) (i1 : i + 6 ≤ len) : LwR E x n g i ((ax_ce E g (some x) 0).bind fun _ => (f_X0_row E (some x) g).bind fun q67 =>
      (ax_ce E q67.2 (some (x + 84)) 5).bind fun _ => (f_X5_row E (some (x + 84)) q67.2).bind fun q68 =>
      if i2 q67.1 = i2 q68.1 then
        f_L_law_1554 E (some a0) (some x) (some (x + 84)) i q68.2
      else
        (some (0, q68.2)).map Sum.inr) := by
  obtain ⟨⟨t, dl, dv, ds, du, H⟩, V, M⟩ := I
  obtain ⟨hE, hE1, hX, hn, r1, r2⟩ := C
  have hG := V.1.1
  have hK := V.1.2.1
  have hL := V.1.2.2.1
  have hU := V.1.2.2.2.1
  have re := V.1.2.2.2.2
  have fv := V.2.1.2.2.1
  have fs := V.2.1.2.2.2
  have h11 := V.2.2.2.1
  have lo := H.low
  have l3 := Sc.2.1
  obtain ⟨g1, g2, s2, p1, p2, l1, ⟨c5, e5⟩, J, sz⟩ := call_step (E := E) (x := x) (n := n) (s' := (setP (rowS s)).2) (v := (setP (rowS s)).1) (f0 := fun h => f_X0_row E (some x)  h) (f5 := fun h => f_X5_row E (some (x + 84))  h) M H.1.1.1 (by
    obtain ⟨h', p1, p2, p3⟩ := c_row (E := E) H hE V (by omega) (by omega)
    exact ⟨t, dl, dv, ds, du, h', p1, p2, p3.up (by decide) (by decide)⟩) (fun h' => ⟨_, m_row (E := E) (m := x + 84) (h := h') V, Ew.refl _⟩) (by
    have w := rowS_VW (n := n) V
    have b := rowS_b h11
    exact w.set (by omega) (by omega) (by omega))
  refine ⟨g2, s2, ?_, J, sz⟩
  rw [f_ce H.2.1.1 (by decide), Option.bind_some, p1, Option.bind_some]
  dsimp only
  rw [e5, Option.bind_some, p2, Option.bind_some]
  dsimp only
  rw [if_pos rfl]
  rfl
theorem lc_blots (Sc : ScE E x a0 len sc) (I : INV E x n s g) (C : LwC E x n g) (i0 : 0 ≤ i) (i1 : i + 6 ≤ len) : LwR E x n g i ((ax_ce E g (some x) 0).bind fun _ => (f_X0_blots E (some x) g).bind fun q69 =>
      (ax_ce E q69.2 (some (x + 84)) 5).bind fun _ => (f_X5_blots E (some (x + 84)) q69.2).bind fun q70 =>
      if i2 q69.1 = i2 q70.1 then
        f_L_law_1554 E (some a0) (some x) (some (x + 84)) i q70.2
      else
        (some (0, q70.2)).map Sum.inr) := by
  obtain ⟨⟨t, dl, dv, ds, du, H⟩, V, M⟩ := I
  obtain ⟨hE, hE1, hX, hn, r1, r2⟩ := C
  have hG := V.1.1
  have hK := V.1.2.1
  have hL := V.1.2.2.1
  have hU := V.1.2.2.2.1
  have re := V.1.2.2.2.2
  have fv := V.2.1.2.2.1
  have fs := V.2.1.2.2.2
  have h11 := V.2.2.2.1
  have lo := H.low
  have l3 := Sc.2.1
  obtain ⟨g1, g2, s2, p1, p2, l1, ⟨c5, e5⟩, J, sz⟩ := call_step (E := E) (x := x) (n := n) (s' := s) (v := s 0 6) (f0 := fun h => f_X0_blots E (some x)  h) (f5 := fun h => f_X5_blots E (some (x + 84))  h) M H.1.1.1 ⟨t, dl, dv, ds, du, g, c_blots H , H, (Blk.refl x g).up (by decide) (by decide)⟩ (fun h' => ⟨s, m_blots  , Ew.refl s⟩) (V.up (by omega))
  refine ⟨g2, s2, ?_, J, sz⟩
  rw [f_ce H.2.1.1 (by decide), Option.bind_some, p1, Option.bind_some]
  dsimp only
  rw [e5, Option.bind_some, p2, Option.bind_some]
  dsimp only
  rw [if_pos rfl]
  rfl
theorem lc_law (Sc : ScE E x a0 len sc) (I : INV E x n s g) (C : LwC E x n g) (i0 : 0 ≤ i) (i1 : i + 6 ≤ len) : LwR E x n g i ((ax_ce E g (some x) 0).bind fun _ => (f_X0_law E (some x) g).bind fun q71 =>
      (ax_ce E q71.2 (some (x + 84)) 5).bind fun _ => (f_X5_law E (some (x + 84)) q71.2).bind fun q72 =>
      if i2 q71.1 = i2 q72.1 then
        f_L_law_1554 E (some a0) (some x) (some (x + 84)) i q72.2
      else
        (some (0, q72.2)).map Sum.inr) := by
  obtain ⟨⟨t, dl, dv, ds, du, H⟩, V, M⟩ := I
  obtain ⟨hE, hE1, hX, hn, r1, r2⟩ := C
  have hG := V.1.1
  have hK := V.1.2.1
  have hL := V.1.2.2.1
  have hU := V.1.2.2.2.1
  have re := V.1.2.2.2.2
  have fv := V.2.1.2.2.1
  have fs := V.2.1.2.2.2
  have h11 := V.2.2.2.1
  have lo := H.low
  have l3 := Sc.2.1
  obtain ⟨g1, g2, s2, p1, p2, l1, ⟨c5, e5⟩, J, sz⟩ := call_step (E := E) (x := x) (n := n) (s' := (telP (lawS s)).2) (v := (lawS s).1) (f0 := fun h => f_X0_law E (some x)  h) (f5 := fun h => f_X5_law E (some (x + 84))  h) M H.1.1.1 (by
    obtain ⟨dl', h', p1, p2, p3⟩ := c_law (E := E) H hE hX V (by omega) (by omega)
    exact ⟨t, dl', dv, ds, du, h', p1, p2, p3.up (by decide) (by decide)⟩) (fun h' => by
    obtain ⟨s'', q1, q2⟩ := m_law (E := E) (m := x + 84) (h := h') V (by omega)
    exact ⟨s'', q1, q2⟩) (lawT_VW V (by omega))
  refine ⟨g2, s2, ?_, J, sz⟩
  rw [f_ce H.2.1.1 (by decide), Option.bind_some, p1, Option.bind_some]
  dsimp only
  rw [e5, Option.bind_some, p2, Option.bind_some]
  dsimp only
  rw [if_pos rfl]
  rfl
end
