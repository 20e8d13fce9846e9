/-! The law: its cases, 2 -/
set_option maxRecDepth 100000
section
variable {E : ax_E} {x a0 len : Nat} {g : ax_H} {s : Sg} {n i : Int} {sc : Int → Int}
theorem lc_orders (Sc : ScE E x a0 len sc) (I : INV E x n s g) (C : LwC E x n g) (i0 : 0 ≤ i) (i1 : i + 6 ≤ len) : LwR E x n g i ((ax_ce E g (some x) 0).bind fun _ => (f_X0_orders E (some x) g).bind fun q73 =>
      (ax_ce E q73.2 (some (x + 84)) 5).bind fun _ => (f_X5_orders E (some (x + 84)) q73.2).bind fun q74 =>
      if i2 q73.1 = i2 q74.1 then
        f_L_law_1554 E (some a0) (some x) (some (x + 84)) i q74.2
      else
        (some (0, q74.2)).map Sum.inr) := by
  obtain ⟨⟨t, dl, dv, ds, du, H⟩, V, M⟩ := I
  obtain ⟨hE, hE1, hX, hn, r1, r2⟩ := C
  have hG := V.1.1
  have hK := V.1.2.1
  have hL := V.1.2.2.1
  have hU := V.1.2.2.2.1
  have re := V.1.2.2.2.2
  have fv := V.2.1.2.2.1
  have fs := V.2.1.2.2.2
  have h11 := V.2.2.2.1
  have lo := H.low
  have l3 := Sc.2.1
  obtain ⟨g1, g2, s2, p1, p2, l1, ⟨c5, e5⟩, J, sz⟩ := call_step (E := E) (x := x) (n := n) (s' := (telP (ordersS s)).2) (v := (ordersS s).1) (f0 := fun h => f_X0_orders E (some x)  h) (f5 := fun h => f_X5_orders E (some (x + 84))  h) M H.1.1.1 (by
    obtain ⟨du', h', p1, p2, p3⟩ := c_orders (E := E) H hE hE1 hX V (by omega) (by omega)
    exact ⟨t, dl, dv, ds, du', h', p1, p2, p3.up (by decide) (by decide)⟩) (fun h' => by
    obtain ⟨s'', q1, q2⟩ := m_orders (E := E) (m := x + 84) (h := h') V (by omega)
    exact ⟨s'', q1, q2⟩) (ordersS_VW V (by omega)).1
  refine ⟨g2, s2, ?_, J, sz⟩
  rw [f_ce H.2.1.1 (by decide), Option.bind_some, p1, Option.bind_some]
  dsimp only
  rw [e5, Option.bind_some, p2, Option.bind_some]
  dsimp only
  rw [if_pos rfl]
  rfl
theorem lc_fault (Sc : ScE E x a0 len sc) (I : INV E x n s g) (C : LwC E x n g) (i0 : 0 ≤ i) (i1 : i + 6 ≤ len) : LwR E x n g i ((ax_ce E g (some x) 0).bind fun _ => (f_X0_fault E (some x) g).bind fun q75 =>
      (ax_ce E q75.2 (some (x + 84)) 5).bind fun _ => (f_X5_fault E (some (x + 84)) q75.2).bind fun q76 =>
      if i2 q75.1 = i2 q76.1 then
        f_L_law_1554 E (some a0) (some x) (some (x + 84)) i q76.2
      else
        (some (0, q76.2)).map Sum.inr) := by
  obtain ⟨⟨t, dl, dv, ds, du, H⟩, V, M⟩ := I
  obtain ⟨hE, hE1, hX, hn, r1, r2⟩ := C
  have hG := V.1.1
  have hK := V.1.2.1
  have hL := V.1.2.2.1
  have hU := V.1.2.2.2.1
  have re := V.1.2.2.2.2
  have fv := V.2.1.2.2.1
  have fs := V.2.1.2.2.2
  have h11 := V.2.2.2.1
  have lo := H.low
  have l3 := Sc.2.1
  obtain ⟨g1, g2, s2, p1, p2, l1, ⟨c5, e5⟩, J, sz⟩ := call_step (E := E) (x := x) (n := n) (s' := s) (v := s 0 12) (f0 := fun h => f_X0_fault E (some x)  h) (f5 := fun h => f_X5_fault E (some (x + 84))  h) M H.1.1.1 ⟨t, dl, dv, ds, du, g, c_fault H , H, (Blk.refl x g).up (by decide) (by decide)⟩ (fun h' => ⟨s, m_fault  , Ew.refl s⟩) (V.up (by omega))
  refine ⟨g2, s2, ?_, J, sz⟩
  rw [f_ce H.2.1.1 (by decide), Option.bind_some, p1, Option.bind_some]
  dsimp only
  rw [e5, Option.bind_some, p2, Option.bind_some]
  dsimp only
  rw [if_pos rfl]
  rfl
theorem lc_stopped (Sc : ScE E x a0 len sc) (I : INV E x n s g) (C : LwC E x n g) (i0 : 0 ≤ i) (i1 : i + 6 ≤ len) : LwR E x n g i ((ax_ce E g (some x) 0).bind fun _ => (f_X0_stopped E (some x) g).bind fun q77 =>
      (ax_ce E q77.2 (some (x + 84)) 5).bind fun _ => (f_X5_stopped E (some (x + 84)) q77.2).bind fun q78 =>
      if i2 q77.1 = i2 q78.1 then
        f_L_law_1554 E (some a0) (some x) (some (x + 84)) i q78.2
      else
        (some (0, q78.2)).map Sum.inr) := by
  obtain ⟨⟨t, dl, dv, ds, du, H⟩, V, M⟩ := I
  obtain ⟨hE, hE1, hX, hn, r1, r2⟩ := C
  have hG := V.1.1
  have hK := V.1.2.1
  have hL := V.1.2.2.1
  have hU := V.1.2.2.2.1
  have re := V.1.2.2.2.2
  have fv := V.2.1.2.2.1
  have fs := V.2.1.2.2.2
  have h11 := V.2.2.2.1
  have lo := H.low
  have l3 := Sc.2.1
  obtain ⟨g1, g2, s2, p1, p2, l1, ⟨c5, e5⟩, J, sz⟩ := call_step (E := E) (x := x) (n := n) (s' := s) (v := s 0 47) (f0 := fun h => f_X0_stopped E (some x)  h) (f5 := fun h => f_X5_stopped E (some (x + 84))  h) M H.1.1.1 ⟨t, dl, dv, ds, du, g, c_stopped H , H, (Blk.refl x g).up (by decide) (by decide)⟩ (fun h' => ⟨s, m_stopped  , Ew.refl s⟩) (V.up (by omega))
  refine ⟨g2, s2, ?_, J, sz⟩
  rw [f_ce H.2.1.1 (by decide), Option.bind_some, p1, Option.bind_some]
  dsimp only
  rw [e5, Option.bind_some, p2, Option.bind_some]
  dsimp only
  rw [if_pos rfl]
  rfl
theorem lc_force (Sc : ScE E x a0 len sc) (I : INV E x n s g) (C : LwC E x n g) (i0 : 0 ≤ i) (i1 : i + 6 ≤ len) : LwR E x n g i ((ax_ld E g (some a0) 100 (i + 1)).bind fun v79 =>
      (ax_ce E g (some x) 0).bind fun _ => (f_X0_force E (some x) v79 g).bind fun q80 =>
      (ax_ld E q80.2 (some a0) 100 (i + 1)).bind fun v81 =>
      (ax_ce E q80.2 (some (x + 84)) 5).bind fun _ => (f_X5_force E (some (x + 84)) v81 q80.2).bind fun q82 =>
      if i2 q80.1 = i2 q82.1 then
        f_L_law_1554 E (some a0) (some x) (some (x + 84)) i q82.2
      else
        (some (0, q82.2)).map Sum.inr) := by
  obtain ⟨⟨t, dl, dv, ds, du, H⟩, V, M⟩ := I
  obtain ⟨hE, hE1, hX, hn, r1, r2⟩ := C
  have hG := V.1.1
  have hK := V.1.2.1
  have hL := V.1.2.2.1
  have hU := V.1.2.2.2.1
  have re := V.1.2.2.2.2
  have fv := V.2.1.2.2.1
  have fs := V.2.1.2.2.2
  have h11 := V.2.2.2.1
  have lo := H.low
  have l3 := Sc.2.1
  have j1 := Sc.2.2.2 (i + 1)
  obtain ⟨g1, g2, s2, p1, p2, l1, ⟨c5, e5⟩, J, sz⟩ := call_step (E := E) (x := x) (n := n) (s' := (forceS s (sc (i + 1))).2) (v := (forceS s (sc (i + 1))).1) (f0 := fun h => f_X0_force E (some x) (sc (i + 1)) h) (f5 := fun h => f_X5_force E (some (x + 84)) (sc (i + 1)) h) M H.1.1.1 (by
    obtain ⟨h', p1, p2, p3⟩ := c_force (E := E) H hG hK ⟨fv.1.2, fs.1.2⟩ j1
    exact ⟨t, dl, dv, ds, du, h', p1, p2, p3.up (by decide) (by decide)⟩) (fun h' => ⟨_, m_force (E := E) (m := x + 84) (h := h') hG hK j1, Ew.refl _⟩) (forceS_VW V j1 (by omega))
  refine ⟨g2, s2, ?_, J, sz⟩
  rw [sc_ld Sc lo (by omega) (by omega), Option.bind_some, f_ce H.2.1.1 (by decide), Option.bind_some, p1, Option.bind_some]
  dsimp only
  rw [sc_ld Sc l1 (by omega) (by omega), Option.bind_some, e5, Option.bind_some, p2, Option.bind_some]
  dsimp only
  rw [if_pos rfl]
  rfl
theorem lc_deep (Sc : ScE E x a0 len sc) (I : INV E x n s g) (C : LwC E x n g) (i0 : 0 ≤ i) (i1 : i + 6 ≤ len) : LwR E x n g i ((ax_ld E g (some a0) 100 (i + 1)).bind fun v83 =>
      (ax_ld E g (some a0) 100 (i + 2)).bind fun v84 =>
      (ax_ce E g (some x) 0).bind fun _ => (f_X0_deep E (some x) v83 v84 g).bind fun q85 =>
      (ax_ld E q85.2 (some a0) 100 (i + 1)).bind fun v86 =>
      (ax_ld E q85.2 (some a0) 100 (i + 2)).bind fun v87 =>
      (ax_ce E q85.2 (some (x + 84)) 5).bind fun _ => (f_X5_deep E (some (x + 84)) v86 v87 q85.2).bind fun q88 =>
      if i2 q85.1 = i2 q88.1 then
        f_L_law_1554 E (some a0) (some x) (some (x + 84)) i q88.2
      else
        (some (0, q88.2)).map Sum.inr) := by
  obtain ⟨⟨t, dl, dv, ds, du, H⟩, V, M⟩ := I
  obtain ⟨hE, hE1, hX, hn, r1, r2⟩ := C
  have hG := V.1.1
  have hK := V.1.2.1
  have hL := V.1.2.2.1
  have hU := V.1.2.2.2.1
  have re := V.1.2.2.2.2
  have fv := V.2.1.2.2.1
  have fs := V.2.1.2.2.2
  have h11 := V.2.2.2.1
  have lo := H.low
  have l3 := Sc.2.1
  have j1 := Sc.2.2.2 (i + 1)
  have j2 := Sc.2.2.2 (i + 2)
  obtain ⟨g1, g2, s2, p1, p2, l1, ⟨c5, e5⟩, J, sz⟩ := call_step (E := E) (x := x) (n := n) (s' := s) (v := deepP s (sc (i + 1)) (sc (i + 2))) (f0 := fun h => f_X0_deep E (some x) (sc (i + 1)) (sc (i + 2)) h) (f5 := fun h => f_X5_deep E (some (x + 84)) (sc (i + 1)) (sc (i + 2)) h) M H.1.1.1 (by
    obtain ⟨h', p1, p2, p3⟩ := c_deepP (E := E) H hG hK j1 j2
    exact ⟨t, dl, dv, ds, du, h', p1, p2, p3.up (by decide) (by decide)⟩) (fun h' => by
    obtain ⟨s'', q1, q2⟩ := m_deepP (E := E) (m := x + 84) (h := h') hG hK hL j1 j2
    exact ⟨s'', q1, q2.ew⟩) (V.up (by omega))
  refine ⟨g2, s2, ?_, J, sz⟩
  rw [sc_ld Sc lo (by omega) (by omega), Option.bind_some, sc_ld Sc lo (by omega) (by omega), Option.bind_some, f_ce H.2.1.1 (by decide), Option.bind_some, p1, Option.bind_some]
  dsimp only
  rw [sc_ld Sc l1 (by omega) (by omega), Option.bind_some, sc_ld Sc l1 (by omega) (by omega), Option.bind_some, e5, Option.bind_some, p2, Option.bind_some]
  dsimp only
  rw [if_pos rfl]
  rfl
theorem lc_doors (Sc : ScE E x a0 len sc) (I : INV E x n s g) (C : LwC E x n g) (i0 : 0 ≤ i) (i1 : i + 6 ≤ len) : LwR E x n g i ((ax_ld E g (some a0) 100 (i + 1)).bind fun v89 =>
      (ax_ce E g (some x) 0).bind fun _ => (f_X0_doors E (some x) v89 g).bind fun q90 =>
      (ax_ld E q90.2 (some a0) 100 (i + 1)).bind fun v91 =>
      (ax_ce E q90.2 (some (x + 84)) 5).bind fun _ => (f_X5_doors E (some (x + 84)) v91 q90.2).bind fun q92 =>
      if i2 q90.1 = i2 q92.1 then
        f_L_law_1554 E (some a0) (some x) (some (x + 84)) i q92.2
      else
        (some (0, q92.2)).map Sum.inr) := by
  obtain ⟨⟨t, dl, dv, ds, du, H⟩, V, M⟩ := I
  obtain ⟨hE, hE1, hX, hn, r1, r2⟩ := C
  have hG := V.1.1
  have hK := V.1.2.1
  have hL := V.1.2.2.1
  have hU := V.1.2.2.2.1
  have re := V.1.2.2.2.2
  have fv := V.2.1.2.2.1
  have fs := V.2.1.2.2.2
  have h11 := V.2.2.2.1
  have lo := H.low
  have l3 := Sc.2.1
  have j1 := Sc.2.2.2 (i + 1)
  obtain ⟨g1, g2, s2, p1, p2, l1, ⟨c5, e5⟩, J, sz⟩ := call_step (E := E) (x := x) (n := n) (s' := s) (v := doorsP s (sc (i + 1))) (f0 := fun h => f_X0_doors E (some x) (sc (i + 1)) h) (f5 := fun h => f_X5_doors E (some (x + 84)) (sc (i + 1)) h) M H.1.1.1 (by
    obtain ⟨h', p1, p2, p3⟩ := c_doors (E := E) H hG hK j1
    exact ⟨t, dl, dv, ds, du, h', p1, p2, p3.up (by decide) (by decide)⟩) (fun h' => by
    obtain ⟨s'', q1, q2⟩ := m_doors (E := E) (m := x + 84) (h := h') hG hK hL j1
    exact ⟨s'', q1, q2.ew⟩) (V.up (by omega))
  refine ⟨g2, s2, ?_, J, sz⟩
  rw [sc_ld Sc lo (by omega) (by omega), Option.bind_some, f_ce H.2.1.1 (by decide), Option.bind_some, p1, Option.bind_some]
  dsimp only
  rw [sc_ld Sc l1 (by omega) (by omega), Option.bind_some, e5, Option.bind_some, p2, Option.bind_some]
  dsimp only
  rw [if_pos rfl]
  rfl
theorem lc_lend (Sc : ScE E x a0 len sc) (I : INV E x n s g) (C : LwC E x n g) (i0 : 0 ≤ i) (i1 : i + 6 ≤ len) : LwR E x n g i ((ax_ld E g (some a0) 100 (i + 1)).bind fun v93 =>
      (ax_ld E g (some a0) 100 (i + 2)).bind fun v94 =>
      (ax_ld E g (some a0) 100 (i + 3)).bind fun v95 =>
      (ax_ce E g (some x) 0).bind fun _ => (f_X0_lend E (some x) v93 v94 v95 g).bind fun q96 =>
      (ax_ld E q96.2 (some a0) 100 (i + 1)).bind fun v97 =>
      (ax_ld E q96.2 (some a0) 100 (i + 2)).bind fun v98 =>
      (ax_ld E q96.2 (some a0) 100 (i + 3)).bind fun v99 =>
      (ax_ce E q96.2 (some (x + 84)) 5).bind fun _ => (f_X5_lend E (some (x + 84)) v97 v98 v99 q96.2).bind fun q100 =>
      if i2 q96.1 = i2 q100.1 then
        f_L_law_1554 E (some a0) (some x) (some (x + 84)) i q100.2
      else
        (some (0, q100.2)).map Sum.inr) := by
  obtain ⟨⟨t, dl, dv, ds, du, H⟩, V, M⟩ := I
  obtain ⟨hE, hE1, hX, hn, r1, r2⟩ := C
  have hG := V.1.1
  have hK := V.1.2.1
  have hL := V.1.2.2.1
  have hU := V.1.2.2.2.1
  have re := V.1.2.2.2.2
  have fv := V.2.1.2.2.1
  have fs := V.2.1.2.2.2
  have h11 := V.2.2.2.1
  have lo := H.low
  have l3 := Sc.2.1
  have j1 := Sc.2.2.2 (i + 1)
  have j2 := Sc.2.2.2 (i + 2)
  have j3 := Sc.2.2.2 (i + 3)
  obtain ⟨g1, g2, s2, p1, p2, l1, ⟨c5, e5⟩, J, sz⟩ := call_step (E := E) (x := x) (n := n) (s' := (telP (lendS s (sc (i + 1)) (sc (i + 2)) (sc (i + 3)))).2) (v := (telP (lendS s (sc (i + 1)) (sc (i + 2)) (sc (i + 3)))).1) (f0 := fun h => f_X0_lend E (some x) (sc (i + 1)) (sc (i + 2)) (sc (i + 3)) h) (f5 := fun h => f_X5_lend E (some (x + 84)) (sc (i + 1)) (sc (i + 2)) (sc (i + 3)) h) M H.1.1.1 (by
    obtain ⟨du', h', p1, p2, p3⟩ := c_lend (E := E) H hE hG hK hU j1 j2 j3 (by omega) (by omega)
    exact ⟨t, dl, dv, ds, du', h', p1, p2, p3.up (by decide) (by decide)⟩) (fun h' => ⟨_, m_lend (E := E) (m := x + 84) (h := h') hG hK hU j1 j2 j3, Ew.refl _⟩) (by
    have b := lendS_b s ((sc (i + 1))) ((sc (i + 2))) ((sc (i + 3)))
    exact (lendS_VW V).tel (by omega) (by omega) (by omega))
  refine ⟨g2, s2, ?_, J, sz⟩
  rw [sc_ld Sc lo (by omega) (by omega), Option.bind_some, sc_ld Sc lo (by omega) (by omega), Option.bind_some, sc_ld Sc lo (by omega) (by omega), Option.bind_some, f_ce H.2.1.1 (by decide), Option.bind_some, p1, Option.bind_some]
  dsimp only
  rw [sc_ld Sc l1 (by omega) (by omega), Option.bind_some, sc_ld Sc l1 (by omega) (by omega), Option.bind_some, sc_ld Sc l1 (by omega) (by omega), Option.bind_some, e5, Option.bind_some, p2, Option.bind_some]
  dsimp only
  rw [if_pos rfl]
  rfl
theorem lc_repay (Sc : ScE E x a0 len sc) (I : INV E x n s g) (C : LwC E x n g) (i0 : 0 ≤ i) (i1 : i + 6 ≤ len) : LwR E x n g i ((ax_ld E g (some a0) 100 (i + 1)).bind fun v101 =>
      (ax_ld E g (some a0) 100 (i + 2)).bind fun v102 =>
      (ax_ld E g (some a0) 100 (i + 3)).bind fun v103 =>
      (ax_ce E g (some x) 0).bind fun _ => (f_X0_repay E (some x) v101 v102 v103 g).bind fun q104 =>
      (ax_ld E q104.2 (some a0) 100 (i + 1)).bind fun v105 =>
      (ax_ld E q104.2 (some a0) 100 (i + 2)).bind fun v106 =>
      (ax_ld E q104.2 (some a0) 100 (i + 3)).bind fun v107 =>
      (ax_ce E q104.2 (some (x + 84)) 5).bind fun _ => (f_X5_repay E (some (x + 84)) v105 v106 v107 q104.2).bind fun q108 =>
      if i2 q104.1 = i2 q108.1 then
        f_L_law_1554 E (some a0) (some x) (some (x + 84)) i q108.2
      else
        (some (0, q108.2)).map Sum.inr) := by
  obtain ⟨⟨t, dl, dv, ds, du, H⟩, V, M⟩ := I
  obtain ⟨hE, hE1, hX, hn, r1, r2⟩ := C
  have hG := V.1.1
  have hK := V.1.2.1
  have hL := V.1.2.2.1
  have hU := V.1.2.2.2.1
  have re := V.1.2.2.2.2
  have fv := V.2.1.2.2.1
  have fs := V.2.1.2.2.2
  have h11 := V.2.2.2.1
  have lo := H.low
  have l3 := Sc.2.1
  have j1 := Sc.2.2.2 (i + 1)
  have j2 := Sc.2.2.2 (i + 2)
  have j3 := Sc.2.2.2 (i + 3)
  obtain ⟨g1, g2, s2, p1, p2, l1, ⟨c5, e5⟩, J, sz⟩ := call_step (E := E) (x := x) (n := n) (s' := (telP (repayO s (sc (i + 1)) (sc (i + 2)) (sc (i + 3)))).2) (v := (telP (repayO s (sc (i + 1)) (sc (i + 2)) (sc (i + 3)))).1) (f0 := fun h => f_X0_repay E (some x) (sc (i + 1)) (sc (i + 2)) (sc (i + 3)) h) (f5 := fun h => f_X5_repay E (some (x + 84)) (sc (i + 1)) (sc (i + 2)) (sc (i + 3)) h) M H.1.1.1 (by
    obtain ⟨du', h', p1, p2, p3⟩ := c_repayP (E := E) H hE hG hK hU j1 j2 j3 (by omega) (by omega)
    exact ⟨t, dl, dv, ds, du', h', p1, p2, p3.up (by decide) (by decide)⟩) (fun h' => ⟨_, m_repay (E := E) (m := x + 84) (h := h') hG hK hU j1 j2 j3, Ew.refl _⟩) (by
    have b := repayO_b (s := s) (p := (sc (i + 1))) (q := (sc (i + 2))) hK j3
    exact (repayO_VW V j3).tel (by omega) (by omega) (by omega))
  refine ⟨g2, s2, ?_, J, sz⟩
  rw [sc_ld Sc lo (by omega) (by omega), Option.bind_some, sc_ld Sc lo (by omega) (by omega), Option.bind_some, sc_ld Sc lo (by omega) (by omega), Option.bind_some, f_ce H.2.1.1 (by decide), Option.bind_some, p1, Option.bind_some]
  dsimp only
  rw [sc_ld Sc l1 (by omega) (by omega), Option.bind_some, sc_ld Sc l1 (by omega) (by omega), Option.bind_some, sc_ld Sc l1 (by omega) (by omega), Option.bind_some, e5, Option.bind_some, p2, Option.bind_some]
  dsimp only
  rw [if_pos rfl]
  rfl
theorem lc_forgive (Sc : ScE E x a0 len sc) (I : INV E x n s g) (C : LwC E x n g) (i0 : 0 ≤ i) (i1 : i + 6 ≤ len) : LwR E x n g i ((ax_ld E g (some a0) 100 (i + 1)).bind fun v109 =>
      (ax_ce E g (some x) 0).bind fun _ => (f_X0_forgive E (some x) v109 g).bind fun q110 =>
      (ax_ld E q110.2 (some a0) 100 (i + 1)).bind fun v111 =>
      (ax_ce E q110.2 (some (x + 84)) 5).bind fun _ => (f_X5_forgive E (some (x + 84)) v111 q110.2).bind fun q112 =>
      if i2 q110.1 = i2 q112.1 then
        f_L_law_1554 E (some a0) (some x) (some (x + 84)) i q112.2
      else
        (some (0, q112.2)).map Sum.inr) := by
  obtain ⟨⟨t, dl, dv, ds, du, H⟩, V, M⟩ := I
  obtain ⟨hE, hE1, hX, hn, r1, r2⟩ := C
  have hG := V.1.1
  have hK := V.1.2.1
  have hL := V.1.2.2.1
  have hU := V.1.2.2.2.1
  have re := V.1.2.2.2.2
  have fv := V.2.1.2.2.1
  have fs := V.2.1.2.2.2
  have h11 := V.2.2.2.1
  have lo := H.low
  have l3 := Sc.2.1
  have j1 := Sc.2.2.2 (i + 1)
  obtain ⟨g1, g2, s2, p1, p2, l1, ⟨c5, e5⟩, J, sz⟩ := call_step (E := E) (x := x) (n := n) (s' := (telP (forgS s (sc (i + 1)))).2) (v := (telP (forgS s (sc (i + 1)))).1) (f0 := fun h => f_X0_forgive E (some x) (sc (i + 1)) h) (f5 := fun h => f_X5_forgive E (some (x + 84)) (sc (i + 1)) h) M H.1.1.1 (by
    obtain ⟨du', h', p1, p2, p3⟩ := c_forgive (E := E) H hE hG hK hU j1 (by omega) (by omega)
    exact ⟨t, dl, dv, ds, du', h', p1, p2, p3.up (by decide) (by decide)⟩) (fun h' => ⟨_, m_forgive (E := E) (m := x + 84) (h := h') hG hK hU j1, Ew.refl _⟩) (by
    have b := forgS_b V ((sc (i + 1)))
    exact (forgS_VW V).tel (by omega) (by omega) (by omega))
  refine ⟨g2, s2, ?_, J, sz⟩
  rw [sc_ld Sc lo (by omega) (by omega), Option.bind_some, f_ce H.2.1.1 (by decide), Option.bind_some, p1, Option.bind_some]
  dsimp only
  rw [sc_ld Sc l1 (by omega) (by omega), Option.bind_some, e5, Option.bind_some, p2, Option.bind_some]
  dsimp only
  rw [if_pos rfl]
  rfl
theorem lc_sell (Sc : ScE E x a0 len sc) (I : INV E x n s g) (C : LwC E x n g) (i0 : 0 ≤ i) (i1 : i + 6 ≤ len) : LwR E x n g i ((ax_ld E g (some a0) 100 (i + 1)).bind fun v113 =>
      (ax_ld E g (some a0) 100 (i + 2)).bind fun v114 =>
      (ax_ce E g (some x) 0).bind fun _ => (f_X0_sell E (some x) v113 v114 g).bind fun q115 =>
      (ax_ld E q115.2 (some a0) 100 (i + 1)).bind fun v116 =>
      (ax_ld E q115.2 (some a0) 100 (i + 2)).bind fun v117 =>
      (ax_ce E q115.2 (some (x + 84)) 5).bind fun _ => (f_X5_sell E (some (x + 84)) v116 v117 q115.2).bind fun q118 =>
      if i2 q115.1 = i2 q118.1 then
        f_L_law_1554 E (some a0) (some x) (some (x + 84)) i q118.2
      else
        (some (0, q118.2)).map Sum.inr) := by
  obtain ⟨⟨t, dl, dv, ds, du, H⟩, V, M⟩ := I
  obtain ⟨hE, hE1, hX, hn, r1, r2⟩ := C
  have hG := V.1.1
  have hK := V.1.2.1
  have hL := V.1.2.2.1
  have hU := V.1.2.2.2.1
  have re := V.1.2.2.2.2
  have fv := V.2.1.2.2.1
  have fs := V.2.1.2.2.2
  have h11 := V.2.2.2.1
  have lo := H.low
  have l3 := Sc.2.1
  have j1 := Sc.2.2.2 (i + 1)
  have j2 := Sc.2.2.2 (i + 2)
  obtain ⟨g1, g2, s2, p1, p2, l1, ⟨c5, e5⟩, J, sz⟩ := call_step (E := E) (x := x) (n := n) (s' := (telP (sellS s (sc (i + 1)) (sc (i + 2)))).2) (v := (telP (sellS s (sc (i + 1)) (sc (i + 2)))).1) (f0 := fun h => f_X0_sell E (some x) (sc (i + 1)) (sc (i + 2)) h) (f5 := fun h => f_X5_sell E (some (x + 84)) (sc (i + 1)) (sc (i + 2)) h) M H.1.1.1 (by
    obtain ⟨du', h', p1, p2, p3⟩ := c_sell (E := E) H hE hG hK hU j1 j2 (by omega) (by omega)
    exact ⟨t, dl, dv, ds, du', h', p1, p2, p3.up (by decide) (by decide)⟩) (fun h' => by
    obtain ⟨s'', q1, q2⟩ := m_sell (E := E) (m := x + 84) (h := h') hG hK hL hU j1 j2
    exact ⟨s'', q1, q2.ew⟩) (by
    have b := sellS_b V ((sc (i + 1))) ((sc (i + 2)))
    exact (sellS_VW V j2).tel (by omega) (by omega) (by omega))
  refine ⟨g2, s2, ?_, J, sz⟩
  rw [sc_ld Sc lo (by omega) (by omega), Option.bind_some, sc_ld Sc lo (by omega) (by omega), Option.bind_some, f_ce H.2.1.1 (by decide), Option.bind_some, p1, Option.bind_some]
  dsimp only
  rw [sc_ld Sc l1 (by omega) (by omega), Option.bind_some, sc_ld Sc l1 (by omega) (by omega), Option.bind_some, e5, Option.bind_some, p2, Option.bind_some]
  dsimp only
  rw [if_pos rfl]
  rfl
theorem lc_await (Sc : ScE E x a0 len sc) (I : INV E x n s g) (C : LwC E x n g) (i0 : 0 ≤ i) (i1 : i + 6 ≤ len) : LwR E x n g i ((ax_ce E g (some x) 0).bind fun _ => (f_X0_await E (some x) g).bind fun q119 =>
      (ax_ce E q119.2 (some (x + 84)) 5).bind fun _ => (f_X5_await E (some (x + 84)) q119.2).bind fun q120 =>
      if i2 q119.1 = i2 q120.1 then
        f_L_law_1554 E (some a0) (some x) (some (x + 84)) i q120.2
      else
        (some (0, q120.2)).map Sum.inr) := by
  obtain ⟨⟨t, dl, dv, ds, du, H⟩, V, M⟩ := I
  obtain ⟨hE, hE1, hX, hn, r1, r2⟩ := C
  have hG := V.1.1
  have hK := V.1.2.1
  have hL := V.1.2.2.1
  have hU := V.1.2.2.2.1
  have re := V.1.2.2.2.2
  have fv := V.2.1.2.2.1
  have fs := V.2.1.2.2.2
  have h11 := V.2.2.2.1
  have lo := H.low
  have l3 := Sc.2.1
  obtain ⟨g1, g2, s2, p1, p2, l1, ⟨c5, e5⟩, J, sz⟩ := call_step (E := E) (x := x) (n := n) (s' := (telP (waitO s)).2) (v := (telP (waitO s)).1) (f0 := fun h => f_X0_await E (some x)  h) (f5 := fun h => f_X5_await E (some (x + 84))  h) M H.1.1.1 (by
    obtain ⟨du', h', p1, p2, p3⟩ := c_await (E := E) H hE hG hK hU (by omega) (by omega)
    exact ⟨t, dl, dv, ds, du', h', p1, p2, p3.up (by decide) (by decide)⟩) (fun h' => by
    obtain ⟨s'', q1, q2⟩ := m_await (E := E) (m := x + 84) (h := h') hG hK hL hU (fun s' e => e.2.2 (waitO_VS V.1).1)
    exact ⟨s'', q1, q2.ew⟩) (by
    have b := waitO_b (s := s) hK
    exact (waitO_VW V).tel (by omega) (by omega) (by omega))
  refine ⟨g2, s2, ?_, J, sz⟩
  rw [f_ce H.2.1.1 (by decide), Option.bind_some, p1, Option.bind_some]
  dsimp only
  rw [e5, Option.bind_some, p2, Option.bind_some]
  dsimp only
  rw [if_pos rfl]
  rfl
theorem lc_clear (Sc : ScE E x a0 len sc) (I : INV E x n s g) (C : LwC E x n g) (i0 : 0 ≤ i) (i1 : i + 6 ≤ len) : LwR E x n g i ((ax_ce E g (some x) 0).bind fun _ => (f_X0_clear E (some x) g).bind fun q121 =>
      (ax_ce E q121.2 (some (x + 84)) 5).bind fun _ => (f_X5_clear E (some (x + 84)) q121.2).bind fun q122 =>
      if i2 q121.1 = i2 q122.1 then
        f_L_law_1554 E (some a0) (some x) (some (x + 84)) i q122.2
      else
        (some (0, q122.2)).map Sum.inr) := by
  obtain ⟨⟨t, dl, dv, ds, du, H⟩, V, M⟩ := I
  obtain ⟨hE, hE1, hX, hn, r1, r2⟩ := C
  have hG := V.1.1
  have hK := V.1.2.1
  have hL := V.1.2.2.1
  have hU := V.1.2.2.2.1
  have re := V.1.2.2.2.2
  have fv := V.2.1.2.2.1
  have fs := V.2.1.2.2.2
  have h11 := V.2.2.2.1
  have lo := H.low
  have l3 := Sc.2.1
  obtain ⟨g1, g2, s2, p1, p2, l1, ⟨c5, e5⟩, J, sz⟩ := call_step (E := E) (x := x) (n := n) (s' := (telP (clearS s)).2) (v := (telP (clearS s)).1) (f0 := fun h => f_X0_clear E (some x)  h) (f5 := fun h => f_X5_clear E (some (x + 84))  h) M H.1.1.1 (by
    obtain ⟨du', h', p1, p2, p3⟩ := c_clear0 (E := E) H hE hG hK hU (by omega) (by omega)
    exact ⟨t, dl, dv, ds, du', h', p1, p2, p3.up (by decide) (by decide)⟩) (fun h' => by
    obtain ⟨s'', q1, q2⟩ := m_clear (E := E) (m := x + 84) (h := h') hG hK hU (fun k k0 k1 => by have := re k k0 k1; omega)
    exact ⟨s'', q1, q2⟩) (by
    have w := clearS_VW (n := n) V
    exact w.1.tel (by omega) (by omega) (by omega))
  refine ⟨g2, s2, ?_, J, sz⟩
  rw [f_ce H.2.1.1 (by decide), Option.bind_some, p1, Option.bind_some]
  dsimp only
  rw [e5, Option.bind_some, p2, Option.bind_some]
  dsimp only
  rw [if_pos rfl]
  rfl
end
