/-! Visits, scuffs told: the component, whole -/
set_option maxRecDepth 100000
section
variable {E : ax_E} {h : ax_H} {x t dl dv ds du : Nat} {s : Sg}
theorem REP.tt (H : REP E h x t dl dv ds du s) : hT h t = 1 ∧ hR h t 0 = some (t + 1) ∧ hR h t 1 = some (t + 2) ∧ hR h t 2 = some (t + 3) ∧ hR h t 3 = some (t + 4) ∧ hR h t 4 = some (t + 10) ∧ hR h t 5 = some (t + 11) := H.2.2.2.2.1.1
theorem c_visit {v o r w : Int} (H : REP E h x t dl dv ds du s) (hE : Ek E x) (hG : G32 s) (hK : KB (s 2)) (h7 : 0 ≤ s 2 153 ∧ s 2 153 ≤ 8) (hO : 0 ≤ s 2 154 ∧ s 2 154 ≤ 8) (hv : i2 v = v) (ho : i2 o = o) (hr : i2 r = r) (hw : i2 w = w) (e1 : h.1 + 3 ≤ E.1.1) (e2 : h.2.1 + 1700 ≤ E.1.2) : ∃ (d' : Nat) (h' : ax_H), f_X0_visit E (some x) v o r w h = some ((telP (visitS s v o r w)).1, h') ∧ REP E h' x t dl d' ds du (telP (visitS s v o r w)).2 ∧ Blk x 8 110 h h' := by
  have a1 := H.2.1.1
  have rx := H.2.1.2.1
  obtain ⟨t0, t1, t2, t3, -⟩ := H.tt
  have st := H.2.2.2.2.1
  have l2 := st.2.2.2.2.2.2.1
  have l3 := st.2.2.2.2.2.2.2
  have b0 := (Blk.refl x h).up (c' := 8) (z' := 110) (by decide) (by decide)
  have neg : ∀ k : Int, -7 < k → k < 0 → visitS s v o r w = (k, s) → ∃ (d' : Nat) (h' : ax_H), ((ax_ce E h (some x) 0).bind fun _ => (f_X0_tell E (some x) k h).bind fun q1 => some (q1.1, q1.2)) = some ((telP (visitS s v o r w)).1, h') ∧ REP E h' x t dl d' ds du (telP (visitS s v o r w)).2 ∧ Blk x 8 110 h h' := by
    intro k k0 k1 e
    obtain ⟨g, v1, v2, v3⟩ := c_told (v := k) H b0 k0 (by omega)
    refine ⟨dv, g, ?_, by rw [e]; exact v2, v3⟩
    rw [e, f_ce a1 (by decide), Option.bind_some, v1, Option.bind_some]
    rfl
  unfold f_X0_visit f_X0_visit_25 f_X0_visit_47
  rw [c_isRoom hr, Option.bind_some, hv, ho, hw]
  by_cases c1 : 1 ≤ r ∧ r ≤ 3
  · rw [if_neg (by rw [b01_z]; simp [c1])]
    have wb := i2_lh hw
    rw [c_in (by omega) (by decide) (by decide), Option.bind_some]
    by_cases c2 : 0 ≤ w ∧ w ≤ 999
    · rw [if_neg (by rw [b01_z]; simp [c2])]
      by_cases c0 : v = o
      · rw [if_pos c0]
        exact neg _ (by decide) (by decide) (by unfold visitS; rw [if_pos (fun z => z.2.2 c0)])
      · rw [if_neg c0, f_ce a1 (by decide), Option.bind_some, c_isPerson H hK hv, Option.bind_some]
        have e0 : visitS s v o r w = fourS s 87 153 v o r w := by unfold visitS; rw [if_neg (fun z => z ⟨c1, c2, c0⟩)]
        by_cases c3 : 0 ≤ v ∧ v ≤ s 2 152 - 1
        · rw [if_neg (by rw [b01_z]; simp [c3]), f_ce a1 (by decide), Option.bind_some, c_isPerson H hK ho, Option.bind_some]
          by_cases c4 : 0 ≤ o ∧ o ≤ s 2 152 - 1
          · rw [if_neg (by rw [b01_z]; simp [c4]), f_gR a1 (by decide), rx, Option.bind_some, f_gR t0 (by decide), t2, Option.bind_some, f_ce l2.1 (by decide), Option.bind_some, c_size l2, Option.bind_some]
            dsimp only
            rw [hG, show i2 8 = 8 by decide]
            by_cases c5 : s 2 153 = 8
            · rw [if_pos c5]
              exact neg _ (by decide) (by decide) (by rw [e0]; unfold fourS; rw [if_neg (fun z => z ⟨c3, c4⟩), if_pos c5])
            · rw [if_neg c5, f_gR a1 (by decide), rx, Option.bind_some, f_gR t0 (by decide), t2, Option.bind_some, f_nw (by omega) (by omega), Option.bind_some]
              obtain ⟨d', g, p1, H2, b2⟩ := c_addvisit (v := v) (o := o) (r := r) (w := w) H hE hK (by omega) hO e1 e2
              have e3 : visitS s v o r w = (s 2 153 + 1, sw s 2 (fourR (s 2) 87 153 v o r w)) := by rw [e0]; unfold fourS; rw [if_neg (fun z => z ⟨c3, c4⟩), if_neg c5]
              obtain ⟨t0', t1', t2', t3', -⟩ := H2.tt
              have l2' := H2.2.2.2.2.1.2.2.2.2.2.2.1
              have l3' := H2.2.2.2.2.1.2.2.2.2.2.2.2
              have nc : (sw s 2 (fourR (s 2) 87 153 v o r w)) 2 153 = s 2 153 + 1 := by rw [sw_eq]; exact u1_eq _ _ _
              rw [nc] at l2'
              obtain ⟨g3, v1, v2, v3⟩ := c_told (v := s 2 153 + 1) H2 b2 (by omega) (by omega)
              have ini : f_X28_init E (some h.1) v o r w (nwH h 28 0 4) = some (wI (wI (wI (wI (nwH h 28 0 4) h.1 0 v) h.1 1 o) h.1 2 r) h.1 3 w) := by
                unfold f_X28_init
                rw [Option.bind_some, f_pI hT_nw_eq (by decide), Option.bind_some, f_pI (by rw [hT_wI]; exact hT_nw_eq) (by decide), Option.bind_some, f_pI (by rw [hT_wI, hT_wI]; exact hT_nw_eq) (by decide), Option.bind_some, f_pI (by rw [hT_wI, hT_wI, hT_wI]; exact hT_nw_eq) (by decide), Option.bind_some]
              have ta : hT (wI (wI (wI (wI (nwH h 28 0 4) h.1 0 v) h.1 1 o) h.1 2 r) h.1 3 w) (t + 2) = 42 := by
                have := H.1.1
                rw [hT_wI, hT_wI, hT_wI, hT_wI, hT_nw_ne (by omega)]
                exact l2.1
              refine ⟨d', g3, ?_, by rw [e3]; exact v2, v3⟩
              rw [e3]
              dsimp only
              rw [Option.bind_some, ini, Option.bind_some, f_ce ta (by decide), Option.bind_some, p1, Option.bind_some, f_gR H2.2.1.1 (by decide), H2.2.1.2.1, Option.bind_some, f_gR t0' (by decide), t2', Option.bind_some, f_ce l2'.1 (by decide), Option.bind_some, c_size l2', Option.bind_some]
              dsimp only
              rw [f_ce H2.2.1.1 (by decide), Option.bind_some, v1, Option.bind_some]
              rfl
          · rw [if_pos (by rw [b01_z]; exact c4)]
            exact neg _ (by decide) (by decide) (by rw [e0]; unfold fourS; rw [if_pos (fun z => c4 z.2)])
        · rw [if_pos (by rw [b01_z]; exact c3)]
          exact neg _ (by decide) (by decide) (by rw [e0]; unfold fourS; rw [if_pos (fun z => c3 z.1)])
    · rw [if_pos (by rw [b01_z]; exact c2)]
      exact neg _ (by decide) (by decide) (by unfold visitS; rw [if_pos (fun z => c2 z.2.1)])
  · rw [if_pos (by rw [b01_z]; exact c1)]
    exact neg _ (by decide) (by decide) (by unfold visitS; rw [if_pos (fun z => c1 z.1)])
theorem c_scuff {v o r w : Int} (H : REP E h x t dl dv ds du s) (hE : Ek E x) (hG : G32 s) (hK : KB (s 2)) (h7 : 0 ≤ s 2 154 ∧ s 2 154 ≤ 8) (hO : 0 ≤ s 2 153 ∧ s 2 153 ≤ 8) (hv : i2 v = v) (ho : i2 o = o) (hr : i2 r = r) (hw : i2 w = w) (e1 : h.1 + 3 ≤ E.1.1) (e2 : h.2.1 + 1700 ≤ E.1.2) : ∃ (d' : Nat) (h' : ax_H), f_X0_scuff E (some x) v o r w h = some ((telP (scuffS s v o r w)).1, h') ∧ REP E h' x t dl dv d' du (telP (scuffS s v o r w)).2 ∧ Blk x 8 110 h h' := by
  have a1 := H.2.1.1
  have rx := H.2.1.2.1
  obtain ⟨t0, t1, t2, t3, -⟩ := H.tt
  have st := H.2.2.2.2.1
  have l2 := st.2.2.2.2.2.2.1
  have l3 := st.2.2.2.2.2.2.2
  have b0 := (Blk.refl x h).up (c' := 8) (z' := 110) (by decide) (by decide)
  have neg : ∀ k : Int, -7 < k → k < 0 → scuffS s v o r w = (k, s) → ∃ (d' : Nat) (h' : ax_H), ((ax_ce E h (some x) 0).bind fun _ => (f_X0_tell E (some x) k h).bind fun q1 => some (q1.1, q1.2)) = some ((telP (scuffS s v o r w)).1, h') ∧ REP E h' x t dl dv d' du (telP (scuffS s v o r w)).2 ∧ Blk x 8 110 h h' := by
    intro k k0 k1 e
    obtain ⟨g, v1, v2, v3⟩ := c_told (v := k) H b0 k0 (by omega)
    refine ⟨ds, g, ?_, by rw [e]; exact v2, v3⟩
    rw [e, f_ce a1 (by decide), Option.bind_some, v1, Option.bind_some]
    rfl
  unfold f_X0_scuff f_X0_scuff_23 f_X0_scuff_45
  rw [c_isRoom hr, Option.bind_some, hv, ho, hw]
  by_cases c1 : 1 ≤ r ∧ r ≤ 3
  · rw [if_neg (by rw [b01_z]; simp [c1])]
    have wb := i2_lh hw
    rw [c_in (by omega) (by decide) (by decide), Option.bind_some]
    by_cases c2 : 0 ≤ w ∧ w ≤ 1
    · rw [if_neg (by rw [b01_z]; simp [c2])]
      by_cases c0 : v = o
      · rw [if_pos c0]
        exact neg _ (by decide) (by decide) (by unfold scuffS; rw [if_pos (fun z => z.2.2 c0)])
      · rw [if_neg c0, f_ce a1 (by decide), Option.bind_some, c_isPerson H hK hv, Option.bind_some]
        have e0 : scuffS s v o r w = fourS s 119 154 v o r w := by unfold scuffS; rw [if_neg (fun z => z ⟨c1, c2, c0⟩)]
        by_cases c3 : 0 ≤ v ∧ v ≤ s 2 152 - 1
        · rw [if_neg (by rw [b01_z]; simp [c3]), f_ce a1 (by decide), Option.bind_some, c_isPerson H hK ho, Option.bind_some]
          by_cases c4 : 0 ≤ o ∧ o ≤ s 2 152 - 1
          · rw [if_neg (by rw [b01_z]; simp [c4]), f_gR a1 (by decide), rx, Option.bind_some, f_gR t0 (by decide), t3, Option.bind_some, f_ce l3.1 (by decide), Option.bind_some, c_size l3, Option.bind_some]
            dsimp only
            rw [hG, show i2 8 = 8 by decide]
            by_cases c5 : s 2 154 = 8
            · rw [if_pos c5]
              exact neg _ (by decide) (by decide) (by rw [e0]; unfold fourS; rw [if_neg (fun z => z ⟨c3, c4⟩), if_pos c5])
            · rw [if_neg c5, f_gR a1 (by decide), rx, Option.bind_some, f_gR t0 (by decide), t3, Option.bind_some, f_nw (by omega) (by omega), Option.bind_some]
              obtain ⟨d', g, p1, H2, b2⟩ := c_addscuff (v := v) (o := o) (r := r) (w := w) H hE hK (by omega) hO e1 e2
              have e3 : scuffS s v o r w = (s 2 154 + 1, sw s 2 (fourR (s 2) 119 154 v o r w)) := by rw [e0]; unfold fourS; rw [if_neg (fun z => z ⟨c3, c4⟩), if_neg c5]
              obtain ⟨t0', t1', t2', t3', -⟩ := H2.tt
              have l2' := H2.2.2.2.2.1.2.2.2.2.2.2.1
              have l3' := H2.2.2.2.2.1.2.2.2.2.2.2.2
              have nc : (sw s 2 (fourR (s 2) 119 154 v o r w)) 2 154 = s 2 154 + 1 := by rw [sw_eq]; exact u1_eq _ _ _
              rw [nc] at l3'
              obtain ⟨g3, v1, v2, v3⟩ := c_told (v := s 2 154 + 1) H2 b2 (by omega) (by omega)
              have ini : f_X32_init E (some h.1) v o r w (nwH h 32 0 4) = some (wI (wI (wI (wI (nwH h 32 0 4) h.1 0 v) h.1 1 o) h.1 2 r) h.1 3 w) := by
                unfold f_X32_init
                rw [Option.bind_some, f_pI hT_nw_eq (by decide), Option.bind_some, f_pI (by rw [hT_wI]; exact hT_nw_eq) (by decide), Option.bind_some, f_pI (by rw [hT_wI, hT_wI]; exact hT_nw_eq) (by decide), Option.bind_some, if_pos (by omega), f_pI (by rw [hT_wI, hT_wI, hT_wI]; exact hT_nw_eq) (by decide), Option.bind_some]
              have ta : hT (wI (wI (wI (wI (nwH h 32 0 4) h.1 0 v) h.1 1 o) h.1 2 r) h.1 3 w) (t + 3) = 42 := by
                have := H.1.1
                rw [hT_wI, hT_wI, hT_wI, hT_wI, hT_nw_ne (by omega)]
                exact l3.1
              refine ⟨d', g3, ?_, by rw [e3]; exact v2, v3⟩
              rw [e3]
              have fin : ∀ q : Int, q = w → f_X0_scuff_99 E (some x) (some (t + 3)) (some h.1) (some h.1) v o r q (nwH h 32 0 4) = some (s 2 154 + 1, g3) := by
                intro q hq
                subst hq
                unfold f_X0_scuff_99
                rw [Option.bind_some, ini, Option.bind_some, f_ce ta (by decide), Option.bind_some, p1, Option.bind_some, f_gR H2.2.1.1 (by decide), H2.2.1.2.1, Option.bind_some, f_gR t0' (by decide), t3', Option.bind_some, f_ce l3'.1 (by decide), Option.bind_some, c_size l3', Option.bind_some]
                dsimp only
                rw [f_ce H2.2.1.1 (by decide), Option.bind_some, v1, Option.bind_some]
              dsimp only
              rw [show i2 1 = 1 by decide]
              by_cases c6 : w = 1
              · rw [if_pos c6]
                exact fin 1 c6.symm
              · rw [if_neg c6]
                exact fin 0 (by omega)
          · rw [if_pos (by rw [b01_z]; exact c4)]
            exact neg _ (by decide) (by decide) (by rw [e0]; unfold fourS; rw [if_pos (fun z => c4 z.2)])
        · rw [if_pos (by rw [b01_z]; exact c3)]
          exact neg _ (by decide) (by decide) (by rw [e0]; unfold fourS; rw [if_pos (fun z => c3 z.1)])
    · rw [if_pos (by rw [b01_z]; exact c2)]
      exact neg _ (by decide) (by decide) (by unfold scuffS; rw [if_pos (fun z => c2 z.2.1)])
  · rw [if_pos (by rw [b01_z]; exact c1)]
    exact neg _ (by decide) (by decide) (by unfold scuffS; rw [if_pos (fun z => c1 z.1)])
theorem c_cancel (H : REP E h x t dl dv ds du s) (hE : Ek E x) (hK : KB (s 2)) (hO : 0 ≤ s 2 154 ∧ s 2 154 ≤ 8) : ∃ (h' : ax_H), f_X0_cancel E (some x) h = some ((goS s 153).1, h') ∧ REP E h' x t dl dv ds du (goS s 153).2 ∧ Blk x 8 110 h h' := by
  have a1 := H.2.1.1
  have rx := H.2.1.2.1
  obtain ⟨pl, -, -, -, st, -, -, -⟩ := id H
  obtain ⟨⟨q1, q2, q3⟩, ⟨b1, b2, b3, b4⟩, ⟨c1, c2, c3, c4, c5, c6⟩, -, ex⟩ := id pl
  have X1 : x + 1 ≤ t := by clear c1 c2 c3 c4 c5 c6; omega
  have X2 : ∀ b, x + 84 ≤ b → b < x + 116 → b < t ∨ t + 12 ≤ b := by clear c1 c2 c3 c4 c5 c6; intro b _ _; omega
  have lt : ∀ d, Dok E h x t d → d < h.1 ∧ (d < t ∨ t + 12 ≤ d) ∧ (d < x ∨ x + 116 ≤ d) := by
    clear c1 c2 c3 c4 c5 c6
    intro d hd
    unfold Dok at hd
    omega
  clear q2
  obtain ⟨D1, D2, D3⟩ := lt dv b2
  have n1 : dl ≠ dv ∨ dl = E.2.2 0 := c1
  have n2 : ds ≠ dv ∨ ds = E.2.2 0 := by omega
  clear c1 c2 c3 c4 c5 c6
  obtain ⟨t0, t1, t2, t3, -⟩ := H.tt
  have l1 := st.2.2.2.2.2.1
  have l2 := st.2.2.2.2.2.2.1
  have l3 := st.2.2.2.2.2.2.2
  have dne : t + 2 ≠ dv := by omega
  obtain ⟨g, p1, p2, p3, p4, p5, p6, p7⟩ := c_clear (E := E) (P' := FrN (Frz h x t dl dv ds du) h 28 (u1 (s 2) 153 0) 87) l2 (by decide) dne
  have nz : s 2 153 = 0 ∨ hT h dv = 104 := by
    rcases l2.2.2.2.2.1 with z | z
    · exact Or.inl z.1
    · exact Or.inr z.1
  have h0 : ∀ d, hT h d = 104 → d ≠ E.2.2 0 := fun d hd => pl.k0 hd
  have same : ∀ b, b ≠ t + 2 → b ≠ dv → g.2.2 b = h.2.2 b := fun b z1 z2 => p5 b z1 (Or.inl z2)
  have hlow : ∀ a, a < x → g.2.2 a = h.2.2 a := by
    intro a ha
    by_cases e : a = dv
    · rcases nz with z | z
      · exact p5 a (by omega) (Or.inr z)
      · have b := b2
        rcases b with b | b
        · exact absurd b (h0 _ z)
        · omega
    · exact same a (by omega) e
  have pl' : PlN E g x t dl dv ds du := pl.lst (by omega) hlow (fun a _ _ => p6 a) (Or.inl rfl) (Or.inl rfl) (Or.inl rfl) (Or.inl ⟨rfl, rfl⟩)
  have hfr : ∀ a, Frz h x t dl dv ds du a → Frz g x t dl dv ds du a := fun a ha => ha.lst (by omega) (Or.inl rfl) (Or.inl rfl) (Or.inl rfl)
  have hf : ∀ a, Frz h x t dl dv ds du a → Frz g x t dl dv ds du a ∧ eqT (hC h a) (hC g a) := fun a ha => ⟨hfr a ha, eqT.of (same a (by have := ha.2.2; unfold Mut at this; omega) (by have := ha.2.2; unfold Mut at this; omega))⟩
  have ne : ∀ i, i ≠ 153 → u1 (s 2) 153 0 i = s 2 i := fun i hi => u1_ne _ hi
  have dsame : ∀ d, Dok E h x t d → d ≠ dv ∨ d = E.2.2 0 → d ≠ E.2.2 0 → g.2.2 d = h.2.2 d := by
    intro d hd z1 z2
    have z3 := lt d hd
    exact same d (by omega) (z1.resolve_right z2)
  refine ⟨g, ?_, H.street (by omega) hlow (fun a _ z2 z3 z4 z5 z6 => same a (by omega) (by omega)) pl' hfr ?_, ⟨by omega, by omega, by omega, by omega, fun b z1 z2 => same b (by have := X2 b z1 z2; omega) (by omega)⟩⟩
  · unfold f_X0_cancel goS
    rw [f_gR a1 (by decide), rx, Option.bind_some, f_gR t0 (by decide), t2, Option.bind_some, f_ce l2.1 (by decide), Option.bind_some, c_size l2, Option.bind_some]
    dsimp only
    rw [f_gR a1 (by decide), rx, Option.bind_some, f_gR t0 (by decide), t2, Option.bind_some, f_ce l2.1 (by decide), Option.bind_some, p1, Option.bind_some]
  · refine st.up (fun a ha => same a (by omega) (by omega)) hK.1.2 hK.2.2.2.2.1.2 (fun i hi => ne i (by omega)) ?_ ?_ ?_
    · rw [ne 155 (by decide)]
      exact lawL l1 (same _ (by omega) (by omega)) (fun z => dsame dl b1 n1 z) (h0 dl) hf (fun i hi => ne i (by omega))
    · rw [u1_eq]
      obtain ⟨y1, y2, y3, y4, y5, y6⟩ := p2
      exact ⟨y1, y2, y3, y4, y5, fun k hk => absurd hk (by omega)⟩
    · rw [ne 154 (by decide)]
      exact fourL l3 hO.2 (by decide) (same _ (by omega) (by omega)) (fun z => dsame ds b3 n2 z) (h0 ds) hf (fun i i0 i1 => ne i (by omega))
theorem c_sweep (H : REP E h x t dl dv ds du s) (hE : Ek E x) (hK : KB (s 2)) (hO : 0 ≤ s 2 153 ∧ s 2 153 ≤ 8) : ∃ (h' : ax_H), f_X0_sweep E (some x) h = some ((goS s 154).1, h') ∧ REP E h' x t dl dv ds du (goS s 154).2 ∧ Blk x 8 110 h h' := by
  have a1 := H.2.1.1
  have rx := H.2.1.2.1
  obtain ⟨pl, -, -, -, st, -, -, -⟩ := id H
  obtain ⟨⟨q1, q2, q3⟩, ⟨b1, b2, b3, b4⟩, ⟨c1, c2, c3, c4, c5, c6⟩, -, ex⟩ := id pl
  have X1 : x + 1 ≤ t := by clear c1 c2 c3 c4 c5 c6; omega
  have X2 : ∀ b, x + 84 ≤ b → b < x + 116 → b < t ∨ t + 12 ≤ b := by clear c1 c2 c3 c4 c5 c6; intro b _ _; omega
  have lt : ∀ d, Dok E h x t d → d < h.1 ∧ (d < t ∨ t + 12 ≤ d) ∧ (d < x ∨ x + 116 ≤ d) := by
    clear c1 c2 c3 c4 c5 c6
    intro d hd
    unfold Dok at hd
    omega
  clear q2
  obtain ⟨D1, D2, D3⟩ := lt ds b3
  have n1 : dl ≠ ds ∨ dl = E.2.2 0 := c2
  have n2 : dv ≠ ds ∨ dv = E.2.2 0 := c4
  clear c1 c2 c3 c4 c5 c6
  obtain ⟨t0, t1, t2, t3, -⟩ := H.tt
  have l1 := st.2.2.2.2.2.1
  have l2 := st.2.2.2.2.2.2.1
  have l3 := st.2.2.2.2.2.2.2
  have dne : t + 3 ≠ ds := by omega
  obtain ⟨g, p1, p2, p3, p4, p5, p6, p7⟩ := c_clear (E := E) (P' := FrN (Frz h x t dl dv ds du) h 32 (u1 (s 2) 154 0) 119) l3 (by decide) dne
  have nz : s 2 154 = 0 ∨ hT h ds = 104 := by
    rcases l3.2.2.2.2.1 with z | z
    · exact Or.inl z.1
    · exact Or.inr z.1
  have h0 : ∀ d, hT h d = 104 → d ≠ E.2.2 0 := fun d hd => pl.k0 hd
  have same : ∀ b, b ≠ t + 3 → b ≠ ds → g.2.2 b = h.2.2 b := fun b z1 z2 => p5 b z1 (Or.inl z2)
  have hlow : ∀ a, a < x → g.2.2 a = h.2.2 a := by
    intro a ha
    by_cases e : a = ds
    · rcases nz with z | z
      · exact p5 a (by omega) (Or.inr z)
      · have b := b3
        rcases b with b | b
        · exact absurd b (h0 _ z)
        · omega
    · exact same a (by omega) e
  have pl' : PlN E g x t dl dv ds du := pl.lst (by omega) hlow (fun a _ _ => p6 a) (Or.inl rfl) (Or.inl rfl) (Or.inl rfl) (Or.inl ⟨rfl, rfl⟩)
  have hfr : ∀ a, Frz h x t dl dv ds du a → Frz g x t dl dv ds du a := fun a ha => ha.lst (by omega) (Or.inl rfl) (Or.inl rfl) (Or.inl rfl)
  have hf : ∀ a, Frz h x t dl dv ds du a → Frz g x t dl dv ds du a ∧ eqT (hC h a) (hC g a) := fun a ha => ⟨hfr a ha, eqT.of (same a (by have := ha.2.2; unfold Mut at this; omega) (by have := ha.2.2; unfold Mut at this; omega))⟩
  have ne : ∀ i, i ≠ 154 → u1 (s 2) 154 0 i = s 2 i := fun i hi => u1_ne _ hi
  have dsame : ∀ d, Dok E h x t d → d ≠ ds ∨ d = E.2.2 0 → d ≠ E.2.2 0 → g.2.2 d = h.2.2 d := by
    intro d hd z1 z2
    have z3 := lt d hd
    exact same d (by omega) (z1.resolve_right z2)
  refine ⟨g, ?_, H.street (by omega) hlow (fun a _ z2 z3 z4 z5 z6 => same a (by omega) (by omega)) pl' hfr ?_, ⟨by omega, by omega, by omega, by omega, fun b z1 z2 => same b (by have := X2 b z1 z2; omega) (by omega)⟩⟩
  · unfold f_X0_sweep goS
    rw [f_gR a1 (by decide), rx, Option.bind_some, f_gR t0 (by decide), t3, Option.bind_some, f_ce l3.1 (by decide), Option.bind_some, c_size l3, Option.bind_some]
    dsimp only
    rw [f_gR a1 (by decide), rx, Option.bind_some, f_gR t0 (by decide), t3, Option.bind_some, f_ce l3.1 (by decide), Option.bind_some, p1, Option.bind_some]
  · refine st.up (fun a ha => same a (by omega) (by omega)) hK.1.2 hK.2.2.2.2.1.2 (fun i hi => ne i (by omega)) ?_ ?_ ?_
    · rw [ne 155 (by decide)]
      exact lawL l1 (same _ (by omega) (by omega)) (fun z => dsame dl b1 n1 z) (h0 dl) hf (fun i hi => ne i (by omega))
    · rw [ne 153 (by decide)]
      exact fourL l2 hO.2 (by decide) (same _ (by omega) (by omega)) (fun z => dsame dv b2 n2 z) (h0 dv) hf (fun i i0 i1 => ne i (by omega))
    · rw [u1_eq]
      obtain ⟨y1, y2, y3, y4, y5, y6⟩ := p2
      exact ⟨y1, y2, y3, y4, y5, fun k hk => absurd hk (by omega)⟩
end
