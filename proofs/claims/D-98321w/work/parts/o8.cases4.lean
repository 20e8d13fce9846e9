/-! The law: its cases, 4 -/
set_option maxRecDepth 100000
section
variable {E : ax_E} {x a0 len : Nat} {g : ax_H} {s : Sg} {n i : Int} {sc : Int → Int}
theorem lc_balance (Sc : ScE E x a0 len sc) (I : INV E x n s g) (C : LwC E x n g) (i0 : 0 ≤ i) (i1 : i + 6 ≤ len) : LwR E x n g i ((ax_ld E g (some a0) 100 (i + 1)).bind fun v187 =>
      (ax_ce E g (some x) 0).bind fun _ => (f_X0_balance E (some x) v187 g).bind fun q188 =>
      (ax_ld E q188.2 (some a0) 100 (i + 1)).bind fun v189 =>
      (ax_ce E q188.2 (some (x + 84)) 5).bind fun _ => (f_X5_balance E (some (x + 84)) v189 q188.2).bind fun q190 =>
      if i2 q188.1 = i2 q190.1 then
        f_L_law_1554 E (some a0) (some x) (some (x + 84)) i q190.2
      else
        (some (0, q190.2)).map Sum.inr) := by
  obtain ⟨⟨t, dl, dv, ds, du, H⟩, V, M⟩ := I
  obtain ⟨hE, hE1, hX, hn, r1, r2⟩ := C
  have hG := V.1.1
  have hK := V.1.2.1
  have hL := V.1.2.2.1
  have hU := V.1.2.2.2.1
  have re := V.1.2.2.2.2
  have fv := V.2.1.2.2.1
  have fs := V.2.1.2.2.2
  have h11 := V.2.2.2.1
  have lo := H.low
  have l3 := Sc.2.1
  have j1 := Sc.2.2.2 (i + 1)
  obtain ⟨g1, g2, s2, p1, p2, l1, ⟨c5, e5⟩, J, sz⟩ := call_step (E := E) (x := x) (n := n) (s' := s) (v := balP s (sc (i + 1))) (f0 := fun h => f_X0_balance E (some x) (sc (i + 1)) h) (f5 := fun h => f_X5_balance E (some (x + 84)) (sc (i + 1)) h) M H.1.1.1 ⟨t, dl, dv, ds, du, g, c_balP H hG hK j1, H, (Blk.refl x g).up (by decide) (by decide)⟩ (fun h' => ⟨s, m_balP hG hK j1, Ew.refl s⟩) (V.up (by omega))
  refine ⟨g2, s2, ?_, J, sz⟩
  rw [sc_ld Sc lo (by omega) (by omega), Option.bind_some, f_ce H.2.1.1 (by decide), Option.bind_some, p1, Option.bind_some]
  dsimp only
  rw [sc_ld Sc l1 (by omega) (by omega), Option.bind_some, e5, Option.bind_some, p2, Option.bind_some]
  dsimp only
  rw [if_pos rfl]
  rfl
theorem lc_payments (Sc : ScE E x a0 len sc) (I : INV E x n s g) (C : LwC E x n g) (i0 : 0 ≤ i) (i1 : i + 6 ≤ len) : LwR E x n g i ((ax_ce E g (some x) 0).bind fun _ => (f_X0_payments E (some x) g).bind fun q191 =>
      (ax_ce E q191.2 (some (x + 84)) 5).bind fun _ => (f_X5_payments E (some (x + 84)) q191.2).bind fun q192 =>
      if i2 q191.1 = i2 q192.1 then
        f_L_law_1554 E (some a0) (some x) (some (x + 84)) i q192.2
      else
        (some (0, q192.2)).map Sum.inr) := by
  obtain ⟨⟨t, dl, dv, ds, du, H⟩, V, M⟩ := I
  obtain ⟨hE, hE1, hX, hn, r1, r2⟩ := C
  have hG := V.1.1
  have hK := V.1.2.1
  have hL := V.1.2.2.1
  have hU := V.1.2.2.2.1
  have re := V.1.2.2.2.2
  have fv := V.2.1.2.2.1
  have fs := V.2.1.2.2.2
  have h11 := V.2.2.2.1
  have lo := H.low
  have l3 := Sc.2.1
  obtain ⟨g1, g2, s2, p1, p2, l1, ⟨c5, e5⟩, J, sz⟩ := call_step (E := E) (x := x) (n := n) (s' := s) (v := payP s) (f0 := fun h => f_X0_payments E (some x)  h) (f5 := fun h => f_X5_payments E (some (x + 84))  h) M H.1.1.1 (by
    obtain ⟨h', p1, p2, p3⟩ := c_payments (E := E) H hG hK (by omega) (by omega)
    exact ⟨t, dl, dv, ds, du, h', p1, p2, p3.up (by decide) (by decide)⟩) (fun h' => by
    obtain ⟨s'', q1, q2⟩ := m_payments (E := E) (m := x + 84) (h := h') hG hK
    exact ⟨s'', q1, q2⟩) (V.up (by omega))
  refine ⟨g2, s2, ?_, J, sz⟩
  rw [f_ce H.2.1.1 (by decide), Option.bind_some, p1, Option.bind_some]
  dsimp only
  rw [e5, Option.bind_some, p2, Option.bind_some]
  dsimp only
  rw [if_pos rfl]
  rfl
theorem lc_scuff (Sc : ScE E x a0 len sc) (I : INV E x n s g) (C : LwC E x n g) (i0 : 0 ≤ i) (i1 : i + 6 ≤ len) : LwR E x n g i ((ax_ld E g (some a0) 100 (i + 1)).bind fun v193 =>
      (ax_ld E g (some a0) 100 (i + 2)).bind fun v194 =>
      (ax_ld E g (some a0) 100 (i + 3)).bind fun v195 =>
      (ax_ld E g (some a0) 100 (i + 4)).bind fun v196 =>
      (ax_ce E g (some x) 0).bind fun _ => (f_X0_scuff E (some x) v193 v194 v195 v196 g).bind fun q197 =>
      (ax_ld E q197.2 (some a0) 100 (i + 1)).bind fun v198 =>
      (ax_ld E q197.2 (some a0) 100 (i + 2)).bind fun v199 =>
      (ax_ld E q197.2 (some a0) 100 (i + 3)).bind fun v200 =>
      (ax_ld E q197.2 (some a0) 100 (i + 4)).bind fun v201 =>
      (ax_ce E q197.2 (some (x + 84)) 5).bind fun _ => (f_X5_scuff E (some (x + 84)) v198 v199 v200 v201 q197.2).bind fun q202 =>
      if i2 q197.1 = i2 q202.1 then
        f_L_law_1554 E (some a0) (some x) (some (x + 84)) i q202.2
      else
        (some (0, q202.2)).map Sum.inr) := by
  obtain ⟨⟨t, dl, dv, ds, du, H⟩, V, M⟩ := I
  obtain ⟨hE, hE1, hX, hn, r1, r2⟩ := C
  have hG := V.1.1
  have hK := V.1.2.1
  have hL := V.1.2.2.1
  have hU := V.1.2.2.2.1
  have re := V.1.2.2.2.2
  have fv := V.2.1.2.2.1
  have fs := V.2.1.2.2.2
  have h11 := V.2.2.2.1
  have lo := H.low
  have l3 := Sc.2.1
  have j1 := Sc.2.2.2 (i + 1)
  have j2 := Sc.2.2.2 (i + 2)
  have j3 := Sc.2.2.2 (i + 3)
  have j4 := Sc.2.2.2 (i + 4)
  obtain ⟨g1, g2, s2, p1, p2, l1, ⟨c5, e5⟩, J, sz⟩ := call_step (E := E) (x := x) (n := n) (s' := (telP (scuffS s (sc (i + 1)) (sc (i + 2)) (sc (i + 3)) (sc (i + 4)))).2) (v := (telP (scuffS s (sc (i + 1)) (sc (i + 2)) (sc (i + 3)) (sc (i + 4)))).1) (f0 := fun h => f_X0_scuff E (some x) (sc (i + 1)) (sc (i + 2)) (sc (i + 3)) (sc (i + 4)) h) (f5 := fun h => f_X5_scuff E (some (x + 84)) (sc (i + 1)) (sc (i + 2)) (sc (i + 3)) (sc (i + 4)) h) M H.1.1.1 (by
    obtain ⟨ds', h', p1, p2, p3⟩ := c_scuff (E := E) H hE hG hK fs.1 fv.1 j1 j2 j3 j4 (by omega) (by omega)
    exact ⟨t, dl, dv, ds', du, h', p1, p2, p3.up (by decide) (by decide)⟩) (fun h' => ⟨_, m_scuff (E := E) (m := x + 84) (h := h') hG hK fs.1 j1 j2 j3 j4, Ew.refl _⟩) (by
    have w := scuffS_VW (n := n) (v := (sc (i + 1))) (o := (sc (i + 2))) (r := (sc (i + 3))) (w := (sc (i + 4))) V
    exact w.1.tel (by omega) (by omega) (by omega))
  refine ⟨g2, s2, ?_, J, sz⟩
  rw [sc_ld Sc lo (by omega) (by omega), Option.bind_some, sc_ld Sc lo (by omega) (by omega), Option.bind_some, sc_ld Sc lo (by omega) (by omega), Option.bind_some, sc_ld Sc lo (by omega) (by omega), Option.bind_some, f_ce H.2.1.1 (by decide), Option.bind_some, p1, Option.bind_some]
  dsimp only
  rw [sc_ld Sc l1 (by omega) (by omega), Option.bind_some, sc_ld Sc l1 (by omega) (by omega), Option.bind_some, sc_ld Sc l1 (by omega) (by omega), Option.bind_some, sc_ld Sc l1 (by omega) (by omega), Option.bind_some, e5, Option.bind_some, p2, Option.bind_some]
  dsimp only
  rw [if_pos rfl]
  rfl
theorem lc_sweep (Sc : ScE E x a0 len sc) (I : INV E x n s g) (C : LwC E x n g) (i0 : 0 ≤ i) (i1 : i + 6 ≤ len) : LwR E x n g i ((ax_ce E g (some x) 0).bind fun _ => (f_X0_sweep E (some x) g).bind fun q203 =>
      (ax_ce E q203.2 (some (x + 84)) 5).bind fun _ => (f_X5_sweep E (some (x + 84)) q203.2).bind fun q204 =>
      if i2 q203.1 = i2 q204.1 then
        f_L_law_1554 E (some a0) (some x) (some (x + 84)) i q204.2
      else
        (some (0, q204.2)).map Sum.inr) := by
  obtain ⟨⟨t, dl, dv, ds, du, H⟩, V, M⟩ := I
  obtain ⟨hE, hE1, hX, hn, r1, r2⟩ := C
  have hG := V.1.1
  have hK := V.1.2.1
  have hL := V.1.2.2.1
  have hU := V.1.2.2.2.1
  have re := V.1.2.2.2.2
  have fv := V.2.1.2.2.1
  have fs := V.2.1.2.2.2
  have h11 := V.2.2.2.1
  have lo := H.low
  have l3 := Sc.2.1
  obtain ⟨g1, g2, s2, p1, p2, l1, ⟨c5, e5⟩, J, sz⟩ := call_step (E := E) (x := x) (n := n) (s' := (goS s 154).2) (v := (goS s 154).1) (f0 := fun h => f_X0_sweep E (some x)  h) (f5 := fun h => f_X5_sweep E (some (x + 84))  h) M H.1.1.1 (by
    obtain ⟨h', p1, p2, p3⟩ := c_sweep (E := E) H hE hK fv.1
    exact ⟨t, dl, dv, ds, du, h', p1, p2, p3.up (by decide) (by decide)⟩) (fun h' => ⟨_, m_sweep (E := E) (m := x + 84) (h := h') , Ew.refl _⟩) ((goS_VW V (Or.inr rfl)).up (by omega))
  refine ⟨g2, s2, ?_, J, sz⟩
  rw [f_ce H.2.1.1 (by decide), Option.bind_some, p1, Option.bind_some]
  dsimp only
  rw [e5, Option.bind_some, p2, Option.bind_some]
  dsimp only
  rw [if_pos rfl]
  rfl
theorem lc_secret (Sc : ScE E x a0 len sc) (I : INV E x n s g) (C : LwC E x n g) (i0 : 0 ≤ i) (i1 : i + 6 ≤ len) : LwR E x n g i ((ax_ld E g (some a0) 100 (i + 1)).bind fun v205 =>
      (ax_ce E g (some x) 0).bind fun _ => (f_X0_secret E (some x) v205 g).bind fun q206 =>
      (ax_ld E q206.2 (some a0) 100 (i + 1)).bind fun v207 =>
      (ax_ce E q206.2 (some (x + 84)) 5).bind fun _ => (f_X5_secret E (some (x + 84)) v207 q206.2).bind fun q208 =>
      if i2 q206.1 = i2 q208.1 then
        f_L_law_1554 E (some a0) (some x) (some (x + 84)) i q208.2
      else
        (some (0, q208.2)).map Sum.inr) := by
  obtain ⟨⟨t, dl, dv, ds, du, H⟩, V, M⟩ := I
  obtain ⟨hE, hE1, hX, hn, r1, r2⟩ := C
  have hG := V.1.1
  have hK := V.1.2.1
  have hL := V.1.2.2.1
  have hU := V.1.2.2.2.1
  have re := V.1.2.2.2.2
  have fv := V.2.1.2.2.1
  have fs := V.2.1.2.2.2
  have h11 := V.2.2.2.1
  have lo := H.low
  have l3 := Sc.2.1
  have j1 := Sc.2.2.2 (i + 1)
  obtain ⟨g1, g2, s2, p1, p2, l1, ⟨c5, e5⟩, J, sz⟩ := call_step (E := E) (x := x) (n := n) (s' := s) (v := secretP s (sc (i + 1))) (f0 := fun h => f_X0_secret E (some x) (sc (i + 1)) h) (f5 := fun h => f_X5_secret E (some (x + 84)) (sc (i + 1)) h) M H.1.1.1 (by
    obtain ⟨h', p1, p2, p3⟩ := c_secret (E := E) H hG hK fs j1
    exact ⟨t, dl, dv, ds, du, h', p1, p2, p3.up (by decide) (by decide)⟩) (fun h' => by
    obtain ⟨s'', q1, q2⟩ := m_secret (E := E) (m := x + 84) (h := h') hG hK hL fs j1
    exact ⟨s'', q1, q2.ew⟩) (V.up (by omega))
  refine ⟨g2, s2, ?_, J, sz⟩
  rw [sc_ld Sc lo (by omega) (by omega), Option.bind_some, f_ce H.2.1.1 (by decide), Option.bind_some, p1, Option.bind_some]
  dsimp only
  rw [sc_ld Sc l1 (by omega) (by omega), Option.bind_some, e5, Option.bind_some, p2, Option.bind_some]
  dsimp only
  rw [if_pos rfl]
  rfl
theorem lc_denied (Sc : ScE E x a0 len sc) (I : INV E x n s g) (C : LwC E x n g) (i0 : 0 ≤ i) (i1 : i + 6 ≤ len) : LwR E x n g i ((ax_ce E g (some x) 0).bind fun _ => (f_X0_denied E (some x) g).bind fun q209 =>
      (ax_ce E q209.2 (some (x + 84)) 5).bind fun _ => (f_X5_denied E (some (x + 84)) q209.2).bind fun q210 =>
      if i2 q209.1 = i2 q210.1 then
        f_L_law_1554 E (some a0) (some x) (some (x + 84)) i q210.2
      else
        (some (0, q210.2)).map Sum.inr) := by
  obtain ⟨⟨t, dl, dv, ds, du, H⟩, V, M⟩ := I
  obtain ⟨hE, hE1, hX, hn, r1, r2⟩ := C
  have hG := V.1.1
  have hK := V.1.2.1
  have hL := V.1.2.2.1
  have hU := V.1.2.2.2.1
  have re := V.1.2.2.2.2
  have fv := V.2.1.2.2.1
  have fs := V.2.1.2.2.2
  have h11 := V.2.2.2.1
  have lo := H.low
  have l3 := Sc.2.1
  obtain ⟨g1, g2, s2, p1, p2, l1, ⟨c5, e5⟩, J, sz⟩ := call_step (E := E) (x := x) (n := n) (s' := s) (v := deniedP s) (f0 := fun h => f_X0_denied E (some x)  h) (f5 := fun h => f_X5_denied E (some (x + 84))  h) M H.1.1.1 (by
    obtain ⟨h', p1, p2, p3⟩ := c_denied (E := E) H hG hK fs
    exact ⟨t, dl, dv, ds, du, h', p1, p2, p3.up (by decide) (by decide)⟩) (fun h' => by
    obtain ⟨s'', q1, q2⟩ := m_denied (E := E) (m := x + 84) (h := h') hG hK hL fs
    exact ⟨s'', q1, q2.ew⟩) (V.up (by omega))
  refine ⟨g2, s2, ?_, J, sz⟩
  rw [f_ce H.2.1.1 (by decide), Option.bind_some, p1, Option.bind_some]
  dsimp only
  rw [e5, Option.bind_some, p2, Option.bind_some]
  dsimp only
  rw [if_pos rfl]
  rfl
theorem lc_month (Sc : ScE E x a0 len sc) (I : INV E x n s g) (C : LwC E x n g) (i0 : 0 ≤ i) (i1 : i + 6 ≤ len) : LwR E x n g i ((ax_ld E g (some a0) 100 (i + 1)).bind fun v211 =>
      (ax_ld E g (some a0) 100 (i + 2)).bind fun v212 =>
      (ax_ce E g (some x) 0).bind fun _ => (f_X0_month E (some x) v211 v212 g).bind fun q213 =>
      (ax_ld E q213.2 (some a0) 100 (i + 1)).bind fun v214 =>
      (ax_ld E q213.2 (some a0) 100 (i + 2)).bind fun v215 =>
      (ax_ce E q213.2 (some (x + 84)) 5).bind fun _ => (f_X5_month E (some (x + 84)) v214 v215 q213.2).bind fun q216 =>
      if i2 q213.1 = i2 q216.1 then
        f_L_law_1554 E (some a0) (some x) (some (x + 84)) i q216.2
      else
        (some (0, q216.2)).map Sum.inr) := by
  obtain ⟨⟨t, dl, dv, ds, du, H⟩, V, M⟩ := I
  obtain ⟨hE, hE1, hX, hn, r1, r2⟩ := C
  have hG := V.1.1
  have hK := V.1.2.1
  have hL := V.1.2.2.1
  have hU := V.1.2.2.2.1
  have re := V.1.2.2.2.2
  have fv := V.2.1.2.2.1
  have fs := V.2.1.2.2.2
  have h11 := V.2.2.2.1
  have lo := H.low
  have l3 := Sc.2.1
  have j1 := Sc.2.2.2 (i + 1)
  have j2 := Sc.2.2.2 (i + 2)
  obtain ⟨g1, g2, s2, p1, p2, l1, ⟨c5, e5⟩, J, sz⟩ := call_step (E := E) (x := x) (n := n) (s' := (telM (monthS s (sc (i + 1)) (sc (i + 2))).2 (monthS s (sc (i + 1)) (sc (i + 2))).1)) (v := (monthS s (sc (i + 1)) (sc (i + 2))).1) (f0 := fun h => f_X0_month E (some x) (sc (i + 1)) (sc (i + 2)) h) (f5 := fun h => f_X5_month E (some (x + 84)) (sc (i + 1)) (sc (i + 2)) h) M H.1.1.1 (by
    obtain ⟨h', p1, p2, p3⟩ := c_month (E := E) H V j1 j2 (by omega) (by omega)
    exact ⟨t, dl, dv, ds, du, h', p1, p2, p3.up (by decide) (by decide)⟩) (fun h' => by
    obtain ⟨s'', q1, q2⟩ := m_month (E := E) (m := x + 84) (h := h') V (by omega) j1 j2
    exact ⟨s'', q1, q2⟩) (by
    have b := monthS_b V ((sc (i + 1))) ((sc (i + 2)))
    exact (monthS_VW V).tel (by omega) (by omega) (by omega))
  refine ⟨g2, s2, ?_, J, sz⟩
  rw [sc_ld Sc lo (by omega) (by omega), Option.bind_some, sc_ld Sc lo (by omega) (by omega), Option.bind_some, f_ce H.2.1.1 (by decide), Option.bind_some, p1, Option.bind_some]
  dsimp only
  rw [sc_ld Sc l1 (by omega) (by omega), Option.bind_some, sc_ld Sc l1 (by omega) (by omega), Option.bind_some, e5, Option.bind_some, p2, Option.bind_some]
  dsimp only
  rw [if_pos rfl]
  rfl
theorem lc_drawn (Sc : ScE E x a0 len sc) (I : INV E x n s g) (C : LwC E x n g) (i0 : 0 ≤ i) (i1 : i + 6 ≤ len) : LwR E x n g i ((ax_ld E g (some a0) 100 (i + 1)).bind fun v217 =>
      (ax_ld E g (some a0) 100 (i + 2)).bind fun v218 =>
      (ax_ce E g (some x) 0).bind fun _ => (f_X0_drawn E (some x) v217 v218 g).bind fun q219 =>
      (ax_ld E q219.2 (some a0) 100 (i + 1)).bind fun v220 =>
      (ax_ld E q219.2 (some a0) 100 (i + 2)).bind fun v221 =>
      (ax_ce E q219.2 (some (x + 84)) 5).bind fun _ => (f_X5_drawn E (some (x + 84)) v220 v221 q219.2).bind fun q222 =>
      if i2 q219.1 = i2 q222.1 then
        f_L_law_1554 E (some a0) (some x) (some (x + 84)) i q222.2
      else
        (some (0, q222.2)).map Sum.inr) := by
  obtain ⟨⟨t, dl, dv, ds, du, H⟩, V, M⟩ := I
  obtain ⟨hE, hE1, hX, hn, r1, r2⟩ := C
  have hG := V.1.1
  have hK := V.1.2.1
  have hL := V.1.2.2.1
  have hU := V.1.2.2.2.1
  have re := V.1.2.2.2.2
  have fv := V.2.1.2.2.1
  have fs := V.2.1.2.2.2
  have h11 := V.2.2.2.1
  have lo := H.low
  have l3 := Sc.2.1
  have j1 := Sc.2.2.2 (i + 1)
  have j2 := Sc.2.2.2 (i + 2)
  obtain ⟨g1, g2, s2, p1, p2, l1, ⟨c5, e5⟩, J, sz⟩ := call_step (E := E) (x := x) (n := n) (s' := s) (v := drawnP s (sc (i + 1)) (sc (i + 2))) (f0 := fun h => f_X0_drawn E (some x) (sc (i + 1)) (sc (i + 2)) h) (f5 := fun h => f_X5_drawn E (some (x + 84)) (sc (i + 1)) (sc (i + 2)) h) M H.1.1.1 ⟨t, dl, dv, ds, du, g, c_drawn H V.2.2.2.2.2.2.1 j1 j2, H, (Blk.refl x g).up (by decide) (by decide)⟩ (fun h' => ⟨s, m_drawn hG V.2.2.2.2.2.2 j1 j2, Ew.refl s⟩) (V.up (by omega))
  refine ⟨g2, s2, ?_, J, sz⟩
  rw [sc_ld Sc lo (by omega) (by omega), Option.bind_some, sc_ld Sc lo (by omega) (by omega), Option.bind_some, f_ce H.2.1.1 (by decide), Option.bind_some, p1, Option.bind_some]
  dsimp only
  rw [sc_ld Sc l1 (by omega) (by omega), Option.bind_some, sc_ld Sc l1 (by omega) (by omega), Option.bind_some, e5, Option.bind_some, p2, Option.bind_some]
  dsimp only
  rw [if_pos rfl]
  rfl
theorem lc_image (Sc : ScE E x a0 len sc) (I : INV E x n s g) (C : LwC E x n g) (i0 : 0 ≤ i) (i1 : i + 6 ≤ len) : LwR E x n g i ((ax_ld E g (some a0) 100 (i + 1)).bind fun v223 =>
      (ax_ce E g (some x) 0).bind fun _ => (f_X0_image E (some x) v223 g).bind fun q224 =>
      (ax_ld E q224.2 (some a0) 100 (i + 1)).bind fun v225 =>
      (ax_ce E q224.2 (some (x + 84)) 5).bind fun _ => (f_X5_image E (some (x + 84)) v225 q224.2).bind fun q226 =>
      if i2 q224.1 = i2 q226.1 then
        f_L_law_1554 E (some a0) (some x) (some (x + 84)) i q226.2
      else
        (some (0, q226.2)).map Sum.inr) := by
  obtain ⟨⟨t, dl, dv, ds, du, H⟩, V, M⟩ := I
  obtain ⟨hE, hE1, hX, hn, r1, r2⟩ := C
  have hG := V.1.1
  have hK := V.1.2.1
  have hL := V.1.2.2.1
  have hU := V.1.2.2.2.1
  have re := V.1.2.2.2.2
  have fv := V.2.1.2.2.1
  have fs := V.2.1.2.2.2
  have h11 := V.2.2.2.1
  have lo := H.low
  have l3 := Sc.2.1
  have j1 := Sc.2.2.2 (i + 1)
  obtain ⟨g1, g2, s2, p1, p2, l1, ⟨c5, e5⟩, J, sz⟩ := call_step (E := E) (x := x) (n := n) (s' := (imageS s (sc (i + 1))).2) (v := (imageS s (sc (i + 1))).1) (f0 := fun h => f_X0_image E (some x) (sc (i + 1)) h) (f5 := fun h => f_X5_image E (some (x + 84)) (sc (i + 1)) h) M H.1.1.1 (by
    obtain ⟨h', p1, p2, p3⟩ := c_image (E := E) H hE V.2.1 V.2.2.1 j1 (by omega) (by omega)
    exact ⟨t, dl, dv, ds, du, h', p1, p2, p3.up (by decide) (by decide)⟩) (fun h' => ⟨_, m_imageP (E := E) (m := x + 84) (h := h') j1, Ew.refl _⟩) (imageS_VW V (by omega))
  refine ⟨g2, s2, ?_, J, sz⟩
  rw [sc_ld Sc lo (by omega) (by omega), Option.bind_some, f_ce H.2.1.1 (by decide), Option.bind_some, p1, Option.bind_some]
  dsimp only
  rw [sc_ld Sc l1 (by omega) (by omega), Option.bind_some, e5, Option.bind_some, p2, Option.bind_some]
  dsimp only
  rw [if_pos rfl]
  rfl
theorem lc_back (Sc : ScE E x a0 len sc) (I : INV E x n s g) (C : LwC E x n g) (i0 : 0 ≤ i) (i1 : i + 6 ≤ len) : LwR E x n g i ((ax_ld E g (some a0) 100 (i + 1)).bind fun v227 =>
      (ax_ce E g (some x) 0).bind fun _ => (f_X0_back E (some x) v227 g).bind fun q228 =>
      (ax_ld E q228.2 (some a0) 100 (i + 1)).bind fun v229 =>
      (ax_ce E q228.2 (some (x + 84)) 5).bind fun _ => (f_X5_back E (some (x + 84)) v229 q228.2).bind fun q230 =>
      if i2 q228.1 = i2 q230.1 then
        f_L_law_1554 E (some a0) (some x) (some (x + 84)) i q230.2
      else
        (some (0, q230.2)).map Sum.inr) := by
  obtain ⟨⟨t, dl, dv, ds, du, H⟩, V, M⟩ := I
  obtain ⟨hE, hE1, hX, hn, r1, r2⟩ := C
  have hG := V.1.1
  have hK := V.1.2.1
  have hL := V.1.2.2.1
  have hU := V.1.2.2.2.1
  have re := V.1.2.2.2.2
  have fv := V.2.1.2.2.1
  have fs := V.2.1.2.2.2
  have h11 := V.2.2.2.1
  have lo := H.low
  have l3 := Sc.2.1
  have j1 := Sc.2.2.2 (i + 1)
  obtain ⟨g1, g2, s2, p1, p2, l1, ⟨c5, e5⟩, J, sz⟩ := call_step (E := E) (x := x) (n := n) (s' := (backS s (sc (i + 1))).2) (v := (backS s (sc (i + 1))).1) (f0 := fun h => f_X0_back E (some x) (sc (i + 1)) h) (f5 := fun h => f_X5_back E (some (x + 84)) (sc (i + 1)) h) M H.1.1.1 (by
    obtain ⟨t', dl', dv', ds', h', p1, p2, p3⟩ := c_back (E := E) H hE V.2.2.1 j1 (by omega) (by omega)
    exact ⟨t', dl', dv', ds', du, h', p1, p2, p3.up (by decide) (by decide)⟩) (fun h' => ⟨_, m_backP (E := E) (m := x + 84) (h := h') j1 (fun k k0 k1 => by rcases V.2.2.1 k k0 k1 with z | z; exact Or.inl z; exact Or.inr z.1), Ew.refl _⟩) (backS_VW V (by omega))
  refine ⟨g2, s2, ?_, J, sz⟩
  rw [sc_ld Sc lo (by omega) (by omega), Option.bind_some, f_ce H.2.1.1 (by decide), Option.bind_some, p1, Option.bind_some]
  dsimp only
  rw [sc_ld Sc l1 (by omega) (by omega), Option.bind_some, e5, Option.bind_some, p2, Option.bind_some]
  dsimp only
  rw [if_pos rfl]
  rfl
theorem lc_count (Sc : ScE E x a0 len sc) (I : INV E x n s g) (C : LwC E x n g) (i0 : 0 ≤ i) (i1 : i + 6 ≤ len) : LwR E x n g i ((ax_ld E g (some a0) 100 (i + 1)).bind fun v231 =>
      (ax_ce E g (some x) 0).bind fun _ => (f_X0_count E (some x) v231 g).bind fun q232 =>
      (ax_ld E q232.2 (some a0) 100 (i + 1)).bind fun v233 =>
      (ax_ce E q232.2 (some (x + 84)) 5).bind fun _ => (f_X5_count E (some (x + 84)) v233 q232.2).bind fun q234 =>
      if i2 q232.1 = i2 q234.1 then
        f_L_law_1554 E (some a0) (some x) (some (x + 84)) i q234.2
      else
        (some (0, q234.2)).map Sum.inr) := by
  obtain ⟨⟨t, dl, dv, ds, du, H⟩, V, M⟩ := I
  obtain ⟨hE, hE1, hX, hn, r1, r2⟩ := C
  have hG := V.1.1
  have hK := V.1.2.1
  have hL := V.1.2.2.1
  have hU := V.1.2.2.2.1
  have re := V.1.2.2.2.2
  have fv := V.2.1.2.2.1
  have fs := V.2.1.2.2.2
  have h11 := V.2.2.2.1
  have lo := H.low
  have l3 := Sc.2.1
  have j1 := Sc.2.2.2 (i + 1)
  obtain ⟨g1, g2, s2, p1, p2, l1, ⟨c5, e5⟩, J, sz⟩ := call_step (E := E) (x := x) (n := n) (s' := s) (v := countP s (sc (i + 1))) (f0 := fun h => f_X0_count E (some x) (sc (i + 1)) h) (f5 := fun h => f_X5_count E (some (x + 84)) (sc (i + 1)) h) M H.1.1.1 ⟨t, dl, dv, ds, du, g, c_count H j1, H, (Blk.refl x g).up (by decide) (by decide)⟩ (fun h' => ⟨s, m_count  j1, Ew.refl s⟩) (V.up (by omega))
  refine ⟨g2, s2, ?_, J, sz⟩
  rw [sc_ld Sc lo (by omega) (by omega), Option.bind_some, f_ce H.2.1.1 (by decide), Option.bind_some, p1, Option.bind_some]
  dsimp only
  rw [sc_ld Sc l1 (by omega) (by omega), Option.bind_some, e5, Option.bind_some, p2, Option.bind_some]
  dsimp only
  rw [if_pos rfl]
  rfl
theorem lc_status (Sc : ScE E x a0 len sc) (I : INV E x n s g) (C : LwC E x n g) (i0 : 0 ≤ i) (i1 : i + 6 ≤ len) : LwR E x n g i ((ax_ce E g (some x) 0).bind fun _ => (f_X0_status E (some x) g).bind fun q235 =>
      (ax_ce E q235.2 (some (x + 84)) 5).bind fun _ => (f_X5_status E (some (x + 84)) q235.2).bind fun q236 =>
      if i2 q235.1 = i2 q236.1 then
        f_L_law_1554 E (some a0) (some x) (some (x + 84)) i q236.2
      else
        (some (0, q236.2)).map Sum.inr) := by
  obtain ⟨⟨t, dl, dv, ds, du, H⟩, V, M⟩ := I
  obtain ⟨hE, hE1, hX, hn, r1, r2⟩ := C
  have hG := V.1.1
  have hK := V.1.2.1
  have hL := V.1.2.2.1
  have hU := V.1.2.2.2.1
  have re := V.1.2.2.2.2
  have fv := V.2.1.2.2.1
  have fs := V.2.1.2.2.2
  have h11 := V.2.2.2.1
  have lo := H.low
  have l3 := Sc.2.1
  obtain ⟨g1, g2, s2, p1, p2, l1, ⟨c5, e5⟩, J, sz⟩ := call_step (E := E) (x := x) (n := n) (s' := s) (v := s 0 0) (f0 := fun h => f_X0_status E (some x)  h) (f5 := fun h => f_X5_status E (some (x + 84))  h) M H.1.1.1 ⟨t, dl, dv, ds, du, g, c_status H , H, (Blk.refl x g).up (by decide) (by decide)⟩ (fun h' => ⟨s, m_status  , Ew.refl s⟩) (V.up (by omega))
  refine ⟨g2, s2, ?_, J, sz⟩
  rw [f_ce H.2.1.1 (by decide), Option.bind_some, p1, Option.bind_some]
  dsimp only
  rw [e5, Option.bind_some, p2, Option.bind_some]
  dsimp only
  rw [if_pos rfl]
  rfl
end
