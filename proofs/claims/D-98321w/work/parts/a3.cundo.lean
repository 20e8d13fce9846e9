/-! An act undone: the component, whole -/
set_option maxRecDepth 100000
section
variable {E : ax_E} {h : ax_H} {x t dl dv ds du : Nat} {s : Sg}
theorem c_undo (H : REP E h x t dl dv ds du s) (hE : Ek E x) (hG : G32 s) (hK : KB (s 2)) (hU : UnV s) : ∃ h' : ax_H, f_X0_undo E (some x) h = some ((telP (undoS s)).1, h') ∧ REP E h' x t dl dv ds du (telP (undoS s)).2 ∧ Blk x 8 110 h h' := by
  obtain ⟨a1, a2, ⟨-, a14, -⟩, -⟩ := id H.2.1
  have hn := hU.1
  have tl := H.1.1
  have L := H.2.2.2.2.2.1
  have b0 : Blk x 8 110 h h := (Blk.refl x h).up (by decide) (by decide)
  unfold f_X0_undo f_J2_isEmpty telP undoS
  rw [f_gR a1 (by decide), a14, Option.bind_some, f_ce L.1 (by decide), Option.bind_some, f_gI L.1 (by decide), Option.bind_some, L.2.2.1, hG]
  by_cases c : s 0 28 = 0
  · obtain ⟨g3, v1, v2, v3⟩ := c_told (v := -3) H b0 (by decide) (by decide)
    rw [if_pos c, if_pos c]
    refine ⟨g3, ?_, v2, v3⟩
    rw [Option.bind_some]
    dsimp only
    rw [show i2 1 = 1 by decide, if_neg (by decide), f_ce a1 (by decide), Option.bind_some, v1, Option.bind_some]
  · obtain ⟨d1, d2⟩ := H.du1 hE
    have hd104 : hT h du = 104 := by
      rcases L.2.2.2.2.1 with z | z
      · omega
      · exact z.1
    have el := L.2.2.2.2.2
    have hdx : x + 116 ≤ du := by
      rcases H.1.2.1.2.2.2 with z | z
      · exact absurd z (H.1.k0 hd104)
      · exact z.1
    obtain ⟨g, q1, q2, q3, q4, q5, q6⟩ := c_lsPop (E := E) L.l0 (by decide) (by omega) hd104 (Ne.symm d2)
    have e0 : popU s 0 28 = s 0 28 - 1 := by unfold popU; rw [sw_eq, u1_eq]
    have e14 : popU s 14 = s 14 := sw_ne _ (by decide)
    have e2 : popU s 2 = s 2 := sw_ne _ (by decide)
    have hf : ∀ a, Frz h x t dl dv ds du a → Frz g x t dl dv ds du a ∧ eqT (hC h a) (hC g a) := frz_of (by rw [q3]; exact Nat.le_refl _) (fun a ha => by
      obtain ⟨z1, z2, z3⟩ := ha
      unfold Mut at z3
      exact q5 a (by omega) (by omega))
    have H1 : REP E g x t dl dv ds du (popU s) := by
      refine H.und (by rw [q3]; exact Nat.le_refl _) (fun a ha => q5 a (by omega) (by omega)) (fun a _ _ z3 z4 => q5 a z3 z4) (by rw [q2.1]; decide) (Or.inl rfl) ?_ ?_
      · obtain ⟨l1, l2, l3, l4, l5⟩ := q2
        rw [e0, e14]
        refine ⟨l1, l2, l3, l4, l5, fun k hk => ?_⟩
        obtain ⟨u, v1, v2⟩ := el k (by omega)
        exact ⟨u, by rw [q6 k hk]; exact v1, v2.mv hf (fun i i0 i1 => rfl) (hU.2 (k : Int) (by omega) (by omega)).1.1.2⟩
      · unfold popU
        refine ⟨?_, ?_, ?_, ?_, ?_, ?_, ?_, ?_, ?_, ?_, ?_, ?_, ?_, ?_⟩ <;> first | exact sw_ne _ (by decide) | (rw [sw_eq, u1_ne _ (by decide)])
    obtain ⟨u, v1, v2⟩ := el (s 0 28 - 1).toNat (by omega)
    have rv := (hU.2 (((s 0 28 - 1).toNat : Nat) : Int) (by omega) (by omega))
    have v3 := v2.mv (R' := s 14) (k' := (s 0 28 - 1).toNat) hf (fun i i0 i1 => rfl) rv.1.1.2
    obtain ⟨f1, f2, f3, b, f4, f5, f6⟩ := v3
    have ek : (((s 0 28 - 1).toNat : Nat) : Int) = s 0 28 - 1 := by omega
    rw [ek] at f3 f6 rv
    have m0 := (f5 b (by omega) (by omega)).2.2
    have m5 := (f5 (b + 5) (by omega) (by omega)).2.2
    unfold Mut at m0 m5
    have B1 := H1.bk
    have w71 := rv.1.1
    obtain ⟨g2, p1, B2, O2⟩ := c_as (E := E) (a := t + 4) B1.1 f6 (by omega) w71.1 w71.2
    have up : ∀ i, 73 ≤ i → cpR (s 2) 0 (lastU s) 73 i = s 2 i := fun i hi => cpR_out (by omega)
    have lo : ∀ i, 0 ≤ i → i < 73 → cpR (s 2) 0 (lastU s) 73 i = s 14 (74 * (s 0 28 - 1) + i) := fun i i0 i1 => by rw [cpR_in (by omega)]; unfold lastU; congr 2; omega
    have w72 : s 14 (74 * (s 0 28 - 1) + 71) ≤ 16 := w71.2
    have B3 : BK g2 (t + 4) (cpR (s 2) 0 (lastU s) 73) := B2.congr (lo 71 (by decide) (by decide)) (lo 72 (by decide) (by decide)) (fun p p0 p1 => lo p p0 (by omega)) (fun i i0 i1 => lo i (by omega) (by have i1' : i < 7 + 4 * s 14 (74 * (s 0 28 - 1) + 71) := i1; omega))
    have H2 := H1.books O2 B3 (fun i hi => by rw [e2]; exact up i hi)
    have b2 : Blk x 8 110 h g2 := ((show Blk x 0 0 h g from ⟨by omega, by omega, by omega, by omega, fun a a1 a2 => q5 a (by omega) (by omega)⟩).trans (O2.blk (by omega))).up (by decide) (by decide)
    have hl : lastU s 73 = s 14 (74 * (s 0 28 - 1) + 73) := rfl
    have rq := rv.2
    obtain ⟨g3, y1, y2, y3⟩ := c_told (v := lastU s 73) H2 b2 (by omega) (by omega)
    rw [if_neg c, if_neg c]
    refine ⟨g3, ?_, y2, y3⟩
    rw [Option.bind_some]
    dsimp only
    rw [show i2 0 = 0 by decide, if_pos rfl, f_gR a1 (by decide), a14, Option.bind_some, Option.bind_some, f_ce L.1 (by decide), Option.bind_some, c_size L, Option.bind_some]
    dsimp only
    rw [f_ce L.1 (by decide), Option.bind_some, q1, v1, Option.bind_some]
    dsimp only
    have cc : ∃ z, ax_cc E g (some u) 26 = some z := by
      unfold ax_cc
      dsimp only
      rw [f_ce f2 (by decide)]
      exact ⟨_, rfl⟩
    obtain ⟨z, hz⟩ := cc
    rw [hz, Option.bind_some, f_ce H1.2.1.1 (by decide), Option.bind_some, c_books H1, Option.bind_some]
    dsimp only
    rw [f_gR f2 (by decide), f4, Option.bind_some, f_ce B1.1.1 (by decide), Option.bind_some, p1, Option.bind_some]
    have fu := f1.2.2
    unfold Mut at fu
    have qe := eqT.of (h := g) (h' := g2) (a := u) (O2.1.2.2 u (by omega))
    have hu2 : hT g2 u = 26 := qe.hT.trans f2
    have hi2 : hI g2 u 0 = hI g u 0 := qe.2.2.2 0 (by intro e9; unfold hT at f2; omega)
    dsimp only
    rw [f_gI hu2 (by decide), Option.bind_some, hi2, f3, f_ce H2.2.1.1 (by decide), Option.bind_some, ← hl, y1, Option.bind_some]
end
