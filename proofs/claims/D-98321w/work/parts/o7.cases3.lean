/-! The law: its cases, 3 -/
set_option maxRecDepth 100000
section
variable {E : ax_E} {x a0 len : Nat} {g : ax_H} {s : Sg} {n i : Int} {sc : Int → Int}
theorem lc_undo (Sc : ScE E x a0 len sc) (I : INV E x n s g) (C : LwC E x n g) (i0 : 0 ≤ i) (i1 : i + 6 ≤ len) : LwR E x n g i ((ax_ce E g (some x) 0).bind fun _ => (f_X0_undo E (some x) g).bind fun q123 =>
      (ax_ce E q123.2 (some (x + 84)) 5).bind fun _ => (f_X5_undo E (some (x + 84)) q123.2).bind fun q124 =>
      if i2 q123.1 = i2 q124.1 then
        f_L_law_1554 E (some a0) (some x) (some (x + 84)) i q124.2
      else
        (some (0, q124.2)).map Sum.inr) := by
  obtain ⟨⟨t, dl, dv, ds, du, H⟩, V, M⟩ := I
  obtain ⟨hE, hE1, hX, hn, r1, r2⟩ := C
  have hG := V.1.1
  have hK := V.1.2.1
  have hL := V.1.2.2.1
  have hU := V.1.2.2.2.1
  have re := V.1.2.2.2.2
  have fv := V.2.1.2.2.1
  have fs := V.2.1.2.2.2
  have h11 := V.2.2.2.1
  have lo := H.low
  have l3 := Sc.2.1
  obtain ⟨g1, g2, s2, p1, p2, l1, ⟨c5, e5⟩, J, sz⟩ := call_step (E := E) (x := x) (n := n) (s' := (telP (undoS s)).2) (v := (telP (undoS s)).1) (f0 := fun h => f_X0_undo E (some x)  h) (f5 := fun h => f_X5_undo E (some (x + 84))  h) M H.1.1.1 (by
    obtain ⟨h', p1, p2, p3⟩ := c_undo (E := E) H hE hG hK hU
    exact ⟨t, dl, dv, ds, du, h', p1, p2, p3.up (by decide) (by decide)⟩) (fun h' => ⟨_, m_undo (E := E) (m := x + 84) (h := h') hG hU, Ew.refl _⟩) (by
    have b := undoS_b V
    exact (undoS_VW V).tel (by omega) (by omega) (by omega))
  refine ⟨g2, s2, ?_, J, sz⟩
  rw [f_ce H.2.1.1 (by decide), Option.bind_some, p1, Option.bind_some]
  dsimp only
  rw [e5, Option.bind_some, p2, Option.bind_some]
  dsimp only
  rw [if_pos rfl]
  rfl
theorem lc_need (Sc : ScE E x a0 len sc) (I : INV E x n s g) (C : LwC E x n g) (i0 : 0 ≤ i) (i1 : i + 6 ≤ len) : LwR E x n g i ((ax_ld E g (some a0) 100 (i + 1)).bind fun v125 =>
      (ax_ld E g (some a0) 100 (i + 2)).bind fun v126 =>
      (ax_ld E g (some a0) 100 (i + 3)).bind fun v127 =>
      (ax_ce E g (some x) 0).bind fun _ => (f_X0_need E (some x) v125 v126 v127 g).bind fun q128 =>
      (ax_ld E q128.2 (some a0) 100 (i + 1)).bind fun v129 =>
      (ax_ld E q128.2 (some a0) 100 (i + 2)).bind fun v130 =>
      (ax_ld E q128.2 (some a0) 100 (i + 3)).bind fun v131 =>
      (ax_ce E q128.2 (some (x + 84)) 5).bind fun _ => (f_X5_need E (some (x + 84)) v129 v130 v131 q128.2).bind fun q132 =>
      if i2 q128.1 = i2 q132.1 then
        f_L_law_1554 E (some a0) (some x) (some (x + 84)) i q132.2
      else
        (some (0, q132.2)).map Sum.inr) := by
  obtain ⟨⟨t, dl, dv, ds, du, H⟩, V, M⟩ := I
  obtain ⟨hE, hE1, hX, hn, r1, r2⟩ := C
  have hG := V.1.1
  have hK := V.1.2.1
  have hL := V.1.2.2.1
  have hU := V.1.2.2.2.1
  have re := V.1.2.2.2.2
  have fv := V.2.1.2.2.1
  have fs := V.2.1.2.2.2
  have h11 := V.2.2.2.1
  have lo := H.low
  have l3 := Sc.2.1
  have j1 := Sc.2.2.2 (i + 1)
  have j2 := Sc.2.2.2 (i + 2)
  have j3 := Sc.2.2.2 (i + 3)
  obtain ⟨g1, g2, s2, p1, p2, l1, ⟨c5, e5⟩, J, sz⟩ := call_step (E := E) (x := x) (n := n) (s' := s) (v := needP s (sc (i + 1)) (sc (i + 2)) (sc (i + 3))) (f0 := fun h => f_X0_need E (some x) (sc (i + 1)) (sc (i + 2)) (sc (i + 3)) h) (f5 := fun h => f_X5_need E (some (x + 84)) (sc (i + 1)) (sc (i + 2)) (sc (i + 3)) h) M H.1.1.1 (by
    obtain ⟨h', p1, p2, p3⟩ := c_needP (E := E) H hG hK j1 j2 j3
    exact ⟨t, dl, dv, ds, du, h', p1, p2, p3.up (by decide) (by decide)⟩) (fun h' => by
    obtain ⟨s'', q1, q2⟩ := m_needP (E := E) (m := x + 84) (h := h') hG hK hL j1 j2 j3
    exact ⟨s'', q1, q2.ew⟩) (V.up (by omega))
  refine ⟨g2, s2, ?_, J, sz⟩
  rw [sc_ld Sc lo (by omega) (by omega), Option.bind_some, sc_ld Sc lo (by omega) (by omega), Option.bind_some, sc_ld Sc lo (by omega) (by omega), Option.bind_some, f_ce H.2.1.1 (by decide), Option.bind_some, p1, Option.bind_some]
  dsimp only
  rw [sc_ld Sc l1 (by omega) (by omega), Option.bind_some, sc_ld Sc l1 (by omega) (by omega), Option.bind_some, sc_ld Sc l1 (by omega) (by omega), Option.bind_some, e5, Option.bind_some, p2, Option.bind_some]
  dsimp only
  rw [if_pos rfl]
  rfl
theorem lc_visit (Sc : ScE E x a0 len sc) (I : INV E x n s g) (C : LwC E x n g) (i0 : 0 ≤ i) (i1 : i + 6 ≤ len) : LwR E x n g i ((ax_ld E g (some a0) 100 (i + 1)).bind fun v133 =>
      (ax_ld E g (some a0) 100 (i + 2)).bind fun v134 =>
      (ax_ld E g (some a0) 100 (i + 3)).bind fun v135 =>
      (ax_ld E g (some a0) 100 (i + 4)).bind fun v136 =>
      (ax_ce E g (some x) 0).bind fun _ => (f_X0_visit E (some x) v133 v134 v135 v136 g).bind fun q137 =>
      (ax_ld E q137.2 (some a0) 100 (i + 1)).bind fun v138 =>
      (ax_ld E q137.2 (some a0) 100 (i + 2)).bind fun v139 =>
      (ax_ld E q137.2 (some a0) 100 (i + 3)).bind fun v140 =>
      (ax_ld E q137.2 (some a0) 100 (i + 4)).bind fun v141 =>
      (ax_ce E q137.2 (some (x + 84)) 5).bind fun _ => (f_X5_visit E (some (x + 84)) v138 v139 v140 v141 q137.2).bind fun q142 =>
      if i2 q137.1 = i2 q142.1 then
        f_L_law_1554 E (some a0) (some x) (some (x + 84)) i q142.2
      else
        (some (0, q142.2)).map Sum.inr) := by
  obtain ⟨⟨t, dl, dv, ds, du, H⟩, V, M⟩ := I
  obtain ⟨hE, hE1, hX, hn, r1, r2⟩ := C
  have hG := V.1.1
  have hK := V.1.2.1
  have hL := V.1.2.2.1
  have hU := V.1.2.2.2.1
  have re := V.1.2.2.2.2
  have fv := V.2.1.2.2.1
  have fs := V.2.1.2.2.2
  have h11 := V.2.2.2.1
  have lo := H.low
  have l3 := Sc.2.1
  have j1 := Sc.2.2.2 (i + 1)
  have j2 := Sc.2.2.2 (i + 2)
  have j3 := Sc.2.2.2 (i + 3)
  have j4 := Sc.2.2.2 (i + 4)
  obtain ⟨g1, g2, s2, p1, p2, l1, ⟨c5, e5⟩, J, sz⟩ := call_step (E := E) (x := x) (n := n) (s' := (telP (visitS s (sc (i + 1)) (sc (i + 2)) (sc (i + 3)) (sc (i + 4)))).2) (v := (telP (visitS s (sc (i + 1)) (sc (i + 2)) (sc (i + 3)) (sc (i + 4)))).1) (f0 := fun h => f_X0_visit E (some x) (sc (i + 1)) (sc (i + 2)) (sc (i + 3)) (sc (i + 4)) h) (f5 := fun h => f_X5_visit E (some (x + 84)) (sc (i + 1)) (sc (i + 2)) (sc (i + 3)) (sc (i + 4)) h) M H.1.1.1 (by
    obtain ⟨dv', h', p1, p2, p3⟩ := c_visit (E := E) H hE hG hK fv.1 fs.1 j1 j2 j3 j4 (by omega) (by omega)
    exact ⟨t, dl, dv', ds, du, h', p1, p2, p3.up (by decide) (by decide)⟩) (fun h' => ⟨_, m_visit (E := E) (m := x + 84) (h := h') hG hK fv.1 j1 j2 j3 j4, Ew.refl _⟩) (by
    have w := visitS_VW (n := n) (v := (sc (i + 1))) (o := (sc (i + 2))) (r := (sc (i + 3))) (w := (sc (i + 4))) V
    exact w.1.tel (by omega) (by omega) (by omega))
  refine ⟨g2, s2, ?_, J, sz⟩
  rw [sc_ld Sc lo (by omega) (by omega), Option.bind_some, sc_ld Sc lo (by omega) (by omega), Option.bind_some, sc_ld Sc lo (by omega) (by omega), Option.bind_some, sc_ld Sc lo (by omega) (by omega), Option.bind_some, f_ce H.2.1.1 (by decide), Option.bind_some, p1, Option.bind_some]
  dsimp only
  rw [sc_ld Sc l1 (by omega) (by omega), Option.bind_some, sc_ld Sc l1 (by omega) (by omega), Option.bind_some, sc_ld Sc l1 (by omega) (by omega), Option.bind_some, sc_ld Sc l1 (by omega) (by omega), Option.bind_some, e5, Option.bind_some, p2, Option.bind_some]
  dsimp only
  rw [if_pos rfl]
  rfl
theorem lc_cancel (Sc : ScE E x a0 len sc) (I : INV E x n s g) (C : LwC E x n g) (i0 : 0 ≤ i) (i1 : i + 6 ≤ len) : LwR E x n g i ((ax_ce E g (some x) 0).bind fun _ => (f_X0_cancel E (some x) g).bind fun q143 =>
      (ax_ce E q143.2 (some (x + 84)) 5).bind fun _ => (f_X5_cancel E (some (x + 84)) q143.2).bind fun q144 =>
      if i2 q143.1 = i2 q144.1 then
        f_L_law_1554 E (some a0) (some x) (some (x + 84)) i q144.2
      else
        (some (0, q144.2)).map Sum.inr) := by
  obtain ⟨⟨t, dl, dv, ds, du, H⟩, V, M⟩ := I
  obtain ⟨hE, hE1, hX, hn, r1, r2⟩ := C
  have hG := V.1.1
  have hK := V.1.2.1
  have hL := V.1.2.2.1
  have hU := V.1.2.2.2.1
  have re := V.1.2.2.2.2
  have fv := V.2.1.2.2.1
  have fs := V.2.1.2.2.2
  have h11 := V.2.2.2.1
  have lo := H.low
  have l3 := Sc.2.1
  obtain ⟨g1, g2, s2, p1, p2, l1, ⟨c5, e5⟩, J, sz⟩ := call_step (E := E) (x := x) (n := n) (s' := (goS s 153).2) (v := (goS s 153).1) (f0 := fun h => f_X0_cancel E (some x)  h) (f5 := fun h => f_X5_cancel E (some (x + 84))  h) M H.1.1.1 (by
    obtain ⟨h', p1, p2, p3⟩ := c_cancel (E := E) H hE hK fs.1
    exact ⟨t, dl, dv, ds, du, h', p1, p2, p3.up (by decide) (by decide)⟩) (fun h' => ⟨_, m_cancel (E := E) (m := x + 84) (h := h') , Ew.refl _⟩) ((goS_VW V (Or.inl rfl)).up (by omega))
  refine ⟨g2, s2, ?_, J, sz⟩
  rw [f_ce H.2.1.1 (by decide), Option.bind_some, p1, Option.bind_some]
  dsimp only
  rw [e5, Option.bind_some, p2, Option.bind_some]
  dsimp only
  rw [if_pos rfl]
  rfl
theorem lc_lendings (Sc : ScE E x a0 len sc) (I : INV E x n s g) (C : LwC E x n g) (i0 : 0 ≤ i) (i1 : i + 6 ≤ len) : LwR E x n g i ((ax_ld E g (some a0) 100 (i + 1)).bind fun v145 =>
      (ax_ce E g (some x) 0).bind fun _ => (f_X0_lendings E (some x) v145 g).bind fun q146 =>
      (ax_ld E q146.2 (some a0) 100 (i + 1)).bind fun v147 =>
      (ax_ce E q146.2 (some (x + 84)) 5).bind fun _ => (f_X5_lendings E (some (x + 84)) v147 q146.2).bind fun q148 =>
      if i2 q146.1 = i2 q148.1 then
        f_L_law_1554 E (some a0) (some x) (some (x + 84)) i q148.2
      else
        (some (0, q148.2)).map Sum.inr) := by
  obtain ⟨⟨t, dl, dv, ds, du, H⟩, V, M⟩ := I
  obtain ⟨hE, hE1, hX, hn, r1, r2⟩ := C
  have hG := V.1.1
  have hK := V.1.2.1
  have hL := V.1.2.2.1
  have hU := V.1.2.2.2.1
  have re := V.1.2.2.2.2
  have fv := V.2.1.2.2.1
  have fs := V.2.1.2.2.2
  have h11 := V.2.2.2.1
  have lo := H.low
  have l3 := Sc.2.1
  have j1 := Sc.2.2.2 (i + 1)
  obtain ⟨g1, g2, s2, p1, p2, l1, ⟨c5, e5⟩, J, sz⟩ := call_step (E := E) (x := x) (n := n) (s' := s) (v := lendP s (sc (i + 1))) (f0 := fun h => f_X0_lendings E (some x) (sc (i + 1)) h) (f5 := fun h => f_X5_lendings E (some (x + 84)) (sc (i + 1)) h) M H.1.1.1 (by
    obtain ⟨h', p1, p2, p3⟩ := c_lendP (E := E) H V j1 (by omega) (by omega)
    exact ⟨t, dl, dv, ds, du, h', p1, p2, p3.up (by decide) (by decide)⟩) (fun h' => by
    obtain ⟨s'', q1, q2⟩ := m_lendP (E := E) (m := x + 84) (h := h') V j1
    exact ⟨s'', q1, q2⟩) (V.up (by omega))
  refine ⟨g2, s2, ?_, J, sz⟩
  rw [sc_ld Sc lo (by omega) (by omega), Option.bind_some, f_ce H.2.1.1 (by decide), Option.bind_some, p1, Option.bind_some]
  dsimp only
  rw [sc_ld Sc l1 (by omega) (by omega), Option.bind_some, e5, Option.bind_some, p2, Option.bind_some]
  dsimp only
  rw [if_pos rfl]
  rfl
theorem lc_plan (Sc : ScE E x a0 len sc) (I : INV E x n s g) (C : LwC E x n g) (i0 : 0 ≤ i) (i1 : i + 6 ≤ len) : LwR E x n g i ((ax_ld E g (some a0) 100 (i + 1)).bind fun v149 =>
      (ax_ce E g (some x) 0).bind fun _ => (f_X0_plan E (some x) v149 g).bind fun q150 =>
      (ax_ld E q150.2 (some a0) 100 (i + 1)).bind fun v151 =>
      (ax_ce E q150.2 (some (x + 84)) 5).bind fun _ => (f_X5_plan E (some (x + 84)) v151 q150.2).bind fun q152 =>
      if i2 q150.1 = i2 q152.1 then
        f_L_law_1554 E (some a0) (some x) (some (x + 84)) i q152.2
      else
        (some (0, q152.2)).map Sum.inr) := by
  obtain ⟨⟨t, dl, dv, ds, du, H⟩, V, M⟩ := I
  obtain ⟨hE, hE1, hX, hn, r1, r2⟩ := C
  have hG := V.1.1
  have hK := V.1.2.1
  have hL := V.1.2.2.1
  have hU := V.1.2.2.2.1
  have re := V.1.2.2.2.2
  have fv := V.2.1.2.2.1
  have fs := V.2.1.2.2.2
  have h11 := V.2.2.2.1
  have lo := H.low
  have l3 := Sc.2.1
  have j1 := Sc.2.2.2 (i + 1)
  obtain ⟨g1, g2, s2, p1, p2, l1, ⟨c5, e5⟩, J, sz⟩ := call_step (E := E) (x := x) (n := n) (s' := s) (v := planP s (sc (i + 1))) (f0 := fun h => f_X0_plan E (some x) (sc (i + 1)) h) (f5 := fun h => f_X5_plan E (some (x + 84)) (sc (i + 1)) h) M H.1.1.1 (by
    obtain ⟨h', p1, p2, p3⟩ := c_planP (E := E) H V j1 (by omega) (by omega)
    exact ⟨t, dl, dv, ds, du, h', p1, p2, p3.up (by decide) (by decide)⟩) (fun h' => by
    obtain ⟨s'', q1, q2⟩ := m_planP (E := E) (m := x + 84) (h := h') V j1
    exact ⟨s'', q1, q2⟩) (V.up (by omega))
  refine ⟨g2, s2, ?_, J, sz⟩
  rw [sc_ld Sc lo (by omega) (by omega), Option.bind_some, f_ce H.2.1.1 (by decide), Option.bind_some, p1, Option.bind_some]
  dsimp only
  rw [sc_ld Sc l1 (by omega) (by omega), Option.bind_some, e5, Option.bind_some, p2, Option.bind_some]
  dsimp only
  rw [if_pos rfl]
  rfl
theorem lc_thief (Sc : ScE E x a0 len sc) (I : INV E x n s g) (C : LwC E x n g) (i0 : 0 ≤ i) (i1 : i + 6 ≤ len) : LwR E x n g i ((ax_ld E g (some a0) 100 (i + 1)).bind fun v153 =>
      (ax_ld E g (some a0) 100 (i + 2)).bind fun v154 =>
      (ax_ld E g (some a0) 100 (i + 3)).bind fun v155 =>
      (ax_ld E g (some a0) 100 (i + 4)).bind fun v156 =>
      (ax_ce E g (some x) 0).bind fun _ => (f_X0_thief E (some x) v153 v154 v155 v156 g).bind fun q157 =>
      (ax_ld E q157.2 (some a0) 100 (i + 1)).bind fun v158 =>
      (ax_ld E q157.2 (some a0) 100 (i + 2)).bind fun v159 =>
      (ax_ld E q157.2 (some a0) 100 (i + 3)).bind fun v160 =>
      (ax_ld E q157.2 (some a0) 100 (i + 4)).bind fun v161 =>
      (ax_ce E q157.2 (some (x + 84)) 5).bind fun _ => (f_X5_thief E (some (x + 84)) v158 v159 v160 v161 q157.2).bind fun q162 =>
      if i2 q157.1 = i2 q162.1 then
        f_L_law_1554 E (some a0) (some x) (some (x + 84)) i q162.2
      else
        (some (0, q162.2)).map Sum.inr) := by
  obtain ⟨⟨t, dl, dv, ds, du, H⟩, V, M⟩ := I
  obtain ⟨hE, hE1, hX, hn, r1, r2⟩ := C
  have hG := V.1.1
  have hK := V.1.2.1
  have hL := V.1.2.2.1
  have hU := V.1.2.2.2.1
  have re := V.1.2.2.2.2
  have fv := V.2.1.2.2.1
  have fs := V.2.1.2.2.2
  have h11 := V.2.2.2.1
  have lo := H.low
  have l3 := Sc.2.1
  have j1 := Sc.2.2.2 (i + 1)
  have j2 := Sc.2.2.2 (i + 2)
  have j3 := Sc.2.2.2 (i + 3)
  have j4 := Sc.2.2.2 (i + 4)
  obtain ⟨g1, g2, s2, p1, p2, l1, ⟨c5, e5⟩, J, sz⟩ := call_step (E := E) (x := x) (n := n) (s' := s) (v := thiefP s (sc (i + 1)) (sc (i + 2)) (sc (i + 3)) (sc (i + 4))) (f0 := fun h => f_X0_thief E (some x) (sc (i + 1)) (sc (i + 2)) (sc (i + 3)) (sc (i + 4)) h) (f5 := fun h => f_X5_thief E (some (x + 84)) (sc (i + 1)) (sc (i + 2)) (sc (i + 3)) (sc (i + 4)) h) M H.1.1.1 (by
    obtain ⟨h', p1, p2, p3⟩ := c_thief (E := E) H hG hK j1 j2 j3 j4 (by omega) (by omega)
    exact ⟨t, dl, dv, ds, du, h', p1, p2, p3.up (by decide) (by decide)⟩) (fun h' => by
    obtain ⟨s'', q1, q2⟩ := m_thief (E := E) (m := x + 84) (h := h') hG hK hL j1 j2 j3 j4
    exact ⟨s'', q1, q2⟩) (V.up (by omega))
  refine ⟨g2, s2, ?_, J, sz⟩
  rw [sc_ld Sc lo (by omega) (by omega), Option.bind_some, sc_ld Sc lo (by omega) (by omega), Option.bind_some, sc_ld Sc lo (by omega) (by omega), Option.bind_some, sc_ld Sc lo (by omega) (by omega), Option.bind_some, f_ce H.2.1.1 (by decide), Option.bind_some, p1, Option.bind_some]
  dsimp only
  rw [sc_ld Sc l1 (by omega) (by omega), Option.bind_some, sc_ld Sc l1 (by omega) (by omega), Option.bind_some, sc_ld Sc l1 (by omega) (by omega), Option.bind_some, sc_ld Sc l1 (by omega) (by omega), Option.bind_some, e5, Option.bind_some, p2, Option.bind_some]
  dsimp only
  rw [if_pos rfl]
  rfl
theorem lc_shut (Sc : ScE E x a0 len sc) (I : INV E x n s g) (C : LwC E x n g) (i0 : 0 ≤ i) (i1 : i + 6 ≤ len) : LwR E x n g i ((ax_ld E g (some a0) 100 (i + 1)).bind fun v163 =>
      (ax_ld E g (some a0) 100 (i + 2)).bind fun v164 =>
      (ax_ld E g (some a0) 100 (i + 3)).bind fun v165 =>
      (ax_ce E g (some x) 0).bind fun _ => (f_X0_shut E (some x) v163 v164 v165 g).bind fun q166 =>
      (ax_ld E q166.2 (some a0) 100 (i + 1)).bind fun v167 =>
      (ax_ld E q166.2 (some a0) 100 (i + 2)).bind fun v168 =>
      (ax_ld E q166.2 (some a0) 100 (i + 3)).bind fun v169 =>
      (ax_ce E q166.2 (some (x + 84)) 5).bind fun _ => (f_X5_shut E (some (x + 84)) v167 v168 v169 q166.2).bind fun q170 =>
      if i2 q166.1 = i2 q170.1 then
        f_L_law_1554 E (some a0) (some x) (some (x + 84)) i q170.2
      else
        (some (0, q170.2)).map Sum.inr) := by
  obtain ⟨⟨t, dl, dv, ds, du, H⟩, V, M⟩ := I
  obtain ⟨hE, hE1, hX, hn, r1, r2⟩ := C
  have hG := V.1.1
  have hK := V.1.2.1
  have hL := V.1.2.2.1
  have hU := V.1.2.2.2.1
  have re := V.1.2.2.2.2
  have fv := V.2.1.2.2.1
  have fs := V.2.1.2.2.2
  have h11 := V.2.2.2.1
  have lo := H.low
  have l3 := Sc.2.1
  have j1 := Sc.2.2.2 (i + 1)
  have j2 := Sc.2.2.2 (i + 2)
  have j3 := Sc.2.2.2 (i + 3)
  obtain ⟨g1, g2, s2, p1, p2, l1, ⟨c5, e5⟩, J, sz⟩ := call_step (E := E) (x := x) (n := n) (s' := s) (v := shutP s (sc (i + 1)) (sc (i + 2)) (sc (i + 3))) (f0 := fun h => f_X0_shut E (some x) (sc (i + 1)) (sc (i + 2)) (sc (i + 3)) h) (f5 := fun h => f_X5_shut E (some (x + 84)) (sc (i + 1)) (sc (i + 2)) (sc (i + 3)) h) M H.1.1.1 (by
    obtain ⟨h', p1, p2, p3⟩ := c_shutP (E := E) H hG hK j1 j2 j3
    exact ⟨t, dl, dv, ds, du, h', p1, p2, p3.up (by decide) (by decide)⟩) (fun h' => by
    obtain ⟨s'', q1, q2⟩ := m_shutP (E := E) (m := x + 84) (h := h') hG hK hL j1 j2 j3
    exact ⟨s'', q1, q2.ew⟩) (V.up (by omega))
  refine ⟨g2, s2, ?_, J, sz⟩
  rw [sc_ld Sc lo (by omega) (by omega), Option.bind_some, sc_ld Sc lo (by omega) (by omega), Option.bind_some, sc_ld Sc lo (by omega) (by omega), Option.bind_some, f_ce H.2.1.1 (by decide), Option.bind_some, p1, Option.bind_some]
  dsimp only
  rw [sc_ld Sc l1 (by omega) (by omega), Option.bind_some, sc_ld Sc l1 (by omega) (by omega), Option.bind_some, sc_ld Sc l1 (by omega) (by omega), Option.bind_some, e5, Option.bind_some, p2, Option.bind_some]
  dsimp only
  rw [if_pos rfl]
  rfl
theorem lc_ban (Sc : ScE E x a0 len sc) (I : INV E x n s g) (C : LwC E x n g) (i0 : 0 ≤ i) (i1 : i + 6 ≤ len) : LwR E x n g i ((ax_ld E g (some a0) 100 (i + 1)).bind fun v171 =>
      (ax_ce E g (some x) 0).bind fun _ => (f_X0_ban E (some x) v171 g).bind fun q172 =>
      (ax_ld E q172.2 (some a0) 100 (i + 1)).bind fun v173 =>
      (ax_ce E q172.2 (some (x + 84)) 5).bind fun _ => (f_X5_ban E (some (x + 84)) v173 q172.2).bind fun q174 =>
      if i2 q172.1 = i2 q174.1 then
        f_L_law_1554 E (some a0) (some x) (some (x + 84)) i q174.2
      else
        (some (0, q174.2)).map Sum.inr) := by
  obtain ⟨⟨t, dl, dv, ds, du, H⟩, V, M⟩ := I
  obtain ⟨hE, hE1, hX, hn, r1, r2⟩ := C
  have hG := V.1.1
  have hK := V.1.2.1
  have hL := V.1.2.2.1
  have hU := V.1.2.2.2.1
  have re := V.1.2.2.2.2
  have fv := V.2.1.2.2.1
  have fs := V.2.1.2.2.2
  have h11 := V.2.2.2.1
  have lo := H.low
  have l3 := Sc.2.1
  have j1 := Sc.2.2.2 (i + 1)
  obtain ⟨g1, g2, s2, p1, p2, l1, ⟨c5, e5⟩, J, sz⟩ := call_step (E := E) (x := x) (n := n) (s' := s) (v := banP s (sc (i + 1))) (f0 := fun h => f_X0_ban E (some x) (sc (i + 1)) h) (f5 := fun h => f_X5_ban E (some (x + 84)) (sc (i + 1)) h) M H.1.1.1 (by
    obtain ⟨h', p1, p2, p3⟩ := c_ban (E := E) H hG hK j1
    exact ⟨t, dl, dv, ds, du, h', p1, p2, p3.up (by decide) (by decide)⟩) (fun h' => by
    obtain ⟨s'', q1, q2⟩ := m_ban (E := E) (m := x + 84) (h := h') hG hK hL j1
    exact ⟨s'', q1, q2.ew⟩) (V.up (by omega))
  refine ⟨g2, s2, ?_, J, sz⟩
  rw [sc_ld Sc lo (by omega) (by omega), Option.bind_some, f_ce H.2.1.1 (by decide), Option.bind_some, p1, Option.bind_some]
  dsimp only
  rw [sc_ld Sc l1 (by omega) (by omega), Option.bind_some, e5, Option.bind_some, p2, Option.bind_some]
  dsimp only
  rw [if_pos rfl]
  rfl
theorem lc_party (Sc : ScE E x a0 len sc) (I : INV E x n s g) (C : LwC E x n g) (i0 : 0 ≤ i) (i1 : i + 6 ≤ len) : LwR E x n g i ((ax_ld E g (some a0) 100 (i + 1)).bind fun v175 =>
      (ax_ce E g (some x) 0).bind fun _ => (f_X0_party E (some x) v175 g).bind fun q176 =>
      (ax_ld E q176.2 (some a0) 100 (i + 1)).bind fun v177 =>
      (ax_ce E q176.2 (some (x + 84)) 5).bind fun _ => (f_X5_party E (some (x + 84)) v177 q176.2).bind fun q178 =>
      if i2 q176.1 = i2 q178.1 then
        f_L_law_1554 E (some a0) (some x) (some (x + 84)) i q178.2
      else
        (some (0, q178.2)).map Sum.inr) := by
  obtain ⟨⟨t, dl, dv, ds, du, H⟩, V, M⟩ := I
  obtain ⟨hE, hE1, hX, hn, r1, r2⟩ := C
  have hG := V.1.1
  have hK := V.1.2.1
  have hL := V.1.2.2.1
  have hU := V.1.2.2.2.1
  have re := V.1.2.2.2.2
  have fv := V.2.1.2.2.1
  have fs := V.2.1.2.2.2
  have h11 := V.2.2.2.1
  have lo := H.low
  have l3 := Sc.2.1
  have j1 := Sc.2.2.2 (i + 1)
  obtain ⟨g1, g2, s2, p1, p2, l1, ⟨c5, e5⟩, J, sz⟩ := call_step (E := E) (x := x) (n := n) (s' := s) (v := partyP s (sc (i + 1))) (f0 := fun h => f_X0_party E (some x) (sc (i + 1)) h) (f5 := fun h => f_X5_party E (some (x + 84)) (sc (i + 1)) h) M H.1.1.1 (by
    obtain ⟨h', p1, p2, p3⟩ := c_party (E := E) H hG hK j1
    exact ⟨t, dl, dv, ds, du, h', p1, p2, p3.up (by decide) (by decide)⟩) (fun h' => by
    obtain ⟨s'', q1, q2⟩ := m_party (E := E) (m := x + 84) (h := h') hG hK hL j1
    exact ⟨s'', q1, q2.ew⟩) (V.up (by omega))
  refine ⟨g2, s2, ?_, J, sz⟩
  rw [sc_ld Sc lo (by omega) (by omega), Option.bind_some, f_ce H.2.1.1 (by decide), Option.bind_some, p1, Option.bind_some]
  dsimp only
  rw [sc_ld Sc l1 (by omega) (by omega), Option.bind_some, e5, Option.bind_some, p2, Option.bind_some]
  dsimp only
  rw [if_pos rfl]
  rfl
theorem lc_ring (Sc : ScE E x a0 len sc) (I : INV E x n s g) (C : LwC E x n g) (i0 : 0 ≤ i) (i1 : i + 6 ≤ len) : LwR E x n g i ((ax_ld E g (some a0) 100 (i + 1)).bind fun v179 =>
      (ax_ce E g (some x) 0).bind fun _ => (f_X0_ring E (some x) v179 g).bind fun q180 =>
      (ax_ld E q180.2 (some a0) 100 (i + 1)).bind fun v181 =>
      (ax_ce E q180.2 (some (x + 84)) 5).bind fun _ => (f_X5_ring E (some (x + 84)) v181 q180.2).bind fun q182 =>
      if i2 q180.1 = i2 q182.1 then
        f_L_law_1554 E (some a0) (some x) (some (x + 84)) i q182.2
      else
        (some (0, q182.2)).map Sum.inr) := by
  obtain ⟨⟨t, dl, dv, ds, du, H⟩, V, M⟩ := I
  obtain ⟨hE, hE1, hX, hn, r1, r2⟩ := C
  have hG := V.1.1
  have hK := V.1.2.1
  have hL := V.1.2.2.1
  have hU := V.1.2.2.2.1
  have re := V.1.2.2.2.2
  have fv := V.2.1.2.2.1
  have fs := V.2.1.2.2.2
  have h11 := V.2.2.2.1
  have lo := H.low
  have l3 := Sc.2.1
  have j1 := Sc.2.2.2 (i + 1)
  obtain ⟨g1, g2, s2, p1, p2, l1, ⟨c5, e5⟩, J, sz⟩ := call_step (E := E) (x := x) (n := n) (s' := s) (v := ringP s (sc (i + 1))) (f0 := fun h => f_X0_ring E (some x) (sc (i + 1)) h) (f5 := fun h => f_X5_ring E (some (x + 84)) (sc (i + 1)) h) M H.1.1.1 (by
    obtain ⟨h', p1, p2, p3⟩ := c_ring (E := E) H hG hK j1 (by omega) (by omega)
    exact ⟨t, dl, dv, ds, du, h', p1, p2, p3.up (by decide) (by decide)⟩) (fun h' => by
    obtain ⟨s'', q1, q2⟩ := m_ring (E := E) (m := x + 84) (h := h') hG hK j1
    exact ⟨s'', q1, q2⟩) (V.up (by omega))
  refine ⟨g2, s2, ?_, J, sz⟩
  rw [sc_ld Sc lo (by omega) (by omega), Option.bind_some, f_ce H.2.1.1 (by decide), Option.bind_some, p1, Option.bind_some]
  dsimp only
  rw [sc_ld Sc l1 (by omega) (by omega), Option.bind_some, e5, Option.bind_some, p2, Option.bind_some]
  dsimp only
  rw [if_pos rfl]
  rfl
theorem lc_cleared (Sc : ScE E x a0 len sc) (I : INV E x n s g) (C : LwC E x n g) (i0 : 0 ≤ i) (i1 : i + 6 ≤ len) : LwR E x n g i ((ax_ld E g (some a0) 100 (i + 1)).bind fun v183 =>
      (ax_ce E g (some x) 0).bind fun _ => (f_X0_cleared E (some x) v183 g).bind fun q184 =>
      (ax_ld E q184.2 (some a0) 100 (i + 1)).bind fun v185 =>
      (ax_ce E q184.2 (some (x + 84)) 5).bind fun _ => (f_X5_cleared E (some (x + 84)) v185 q184.2).bind fun q186 =>
      if i2 q184.1 = i2 q186.1 then
        f_L_law_1554 E (some a0) (some x) (some (x + 84)) i q186.2
      else
        (some (0, q186.2)).map Sum.inr) := by
  obtain ⟨⟨t, dl, dv, ds, du, H⟩, V, M⟩ := I
  obtain ⟨hE, hE1, hX, hn, r1, r2⟩ := C
  have hG := V.1.1
  have hK := V.1.2.1
  have hL := V.1.2.2.1
  have hU := V.1.2.2.2.1
  have re := V.1.2.2.2.2
  have fv := V.2.1.2.2.1
  have fs := V.2.1.2.2.2
  have h11 := V.2.2.2.1
  have lo := H.low
  have l3 := Sc.2.1
  have j1 := Sc.2.2.2 (i + 1)
  obtain ⟨g1, g2, s2, p1, p2, l1, ⟨c5, e5⟩, J, sz⟩ := call_step (E := E) (x := x) (n := n) (s' := s) (v := clearedP s (sc (i + 1))) (f0 := fun h => f_X0_cleared E (some x) (sc (i + 1)) h) (f5 := fun h => f_X5_cleared E (some (x + 84)) (sc (i + 1)) h) M H.1.1.1 (by
    obtain ⟨h', p1, p2, p3⟩ := c_cleared (E := E) H hG hK j1 (by omega) (by omega)
    exact ⟨t, dl, dv, ds, du, h', p1, p2, p3.up (by decide) (by decide)⟩) (fun h' => by
    obtain ⟨s'', q1, q2⟩ := m_cleared (E := E) (m := x + 84) (h := h') hG hK hL j1
    exact ⟨s'', q1, q2⟩) (V.up (by omega))
  refine ⟨g2, s2, ?_, J, sz⟩
  rw [sc_ld Sc lo (by omega) (by omega), Option.bind_some, f_ce H.2.1.1 (by decide), Option.bind_some, p1, Option.bind_some]
  dsimp only
  rw [sc_ld Sc l1 (by omega) (by omega), Option.bind_some, e5, Option.bind_some, p2, Option.bind_some]
  dsimp only
  rw [if_pos rfl]
  rfl
end
