/-! Rows that differ in scratch alone; what ends all that can be undone -/
set_option maxRecDepth 100000
section
variable {E : ax_E} {h h' : ax_H} {x t dl dv ds du : Nat} {s s' : Sg}
theorem REP.es (H : REP E h x t dl dv ds du s) (e : Es s s') : REP E h x t dl dv ds du s' := by
  obtain ⟨e1, e2, -⟩ := e
  have r1 := e1 1 (by decide) (by decide)
  have r2 := e1 2 (by decide) (by decide)
  have r3 := e1 3 (by decide) (by decide)
  have r4 := e1 4 (by decide) (by decide)
  have r7 := e1 7 (by decide) (by decide)
  have r14 := e1 14 (by decide) (by decide)
  have r29 := e1 29 (by decide) (by decide)
  have r30 := e1 30 (by decide) (by decide)
  have r31 := e1 31 (by decide) (by decide)
  have q : ∀ k : Int, k ≠ 20 ∧ k ≠ 21 ∧ k ≠ 22 ∧ k ≠ 23 → s' 0 k = s 0 k := fun k z => e2 k z.1 z.2.1 z.2.2.1 z.2.2.2
  unfold REP RiN RaN ImN DrN at H ⊢
  rw [r1, r2, r3, r4, r7, r14, r29, r30, r31, q 0 (by decide), q 12 (by decide), q 6 (by decide), q 47 (by decide), q 11 (by decide), q 28 (by decide), q 59 (by decide)]
  exact H
/-- refused, or told with nothing left to undo -/
def setM (s : Sg) (v : Int) : Sg := if v < 0 then sRef s v else sSet s
def setP (r : Int × Sg) : Int × Sg := (r.1, setM r.2 r.1)
theorem c_settled {v : Int} {c z : Nat} {h1 : ax_H} (H : REP E h1 x t dl dv ds du s) (hE : Ek E x) (b : Blk x c z h h1) (l1 : -7 < v) (l2 : v ≤ 1000000000) : ∃ h', f_X0_settled E (some x) v h1 = some (v, h') ∧ REP E h' x t dl dv ds du (setM s v) ∧ Blk x c z h h' := by
  have a1 := H.2.1.1
  obtain ⟨-, -, ⟨-, a14, -⟩, -⟩ := id H.2.1
  have tl := H.1.1
  have L := H.2.2.2.2.2.1
  unfold f_X0_settled f_X0_settled_11
  rw [i2_of (by omega) (by omega)]
  by_cases c0 : v < 0
  · obtain ⟨g3, v1, v2, v3⟩ := c_told (v := v) H b l1 l2
    refine ⟨g3, ?_, ?_, v3⟩
    · rw [if_pos c0, f_ce a1 (by decide), Option.bind_some, v1, Option.bind_some]
    · unfold telM at v2
      unfold setM
      rw [if_pos c0] at v2 ⊢
      exact v2
  · obtain ⟨d1, d2⟩ := H.du1 hE
    obtain ⟨g, q1, q2, q3, q4, q5, q6, q7⟩ := c_clear (E := E) (P' := DnN (Frz h1 x t dl dv ds du) h1 (s 14)) L (by decide) (Ne.symm d2)
    have hz : ∀ a, a < x → a ≠ du ∨ s 0 28 = 0 := by
      intro a ha
      rcases L.2.2.2.2.1 with w | w
      · exact Or.inr w.1
      · left
        rcases H.1.2.1.2.2.2 with y | y
        · exact absurd y (H.1.k0 w.1)
        · have := y.1
          omega
    have H2 : REP E g x t dl dv ds du (sw s 0 (u1 (s 0) 28 0)) := by
      refine H.und (by rw [q3]; exact Nat.le_refl _) (fun a ha => q5 a (by omega) (hz a ha)) (fun a _ _ z3 z4 => q5 a z3 (Or.inl z4)) (by rw [q2.1]; decide) (Or.inl rfl) ?_ ?_
      · obtain ⟨k1, k2, k3, k4, k5, k6⟩ := q2
        rw [sw_eq, u1_eq]
        exact ⟨k1, k2, k3, k4, k5, fun k hk => absurd hk (by omega)⟩
      · refine ⟨?_, ?_, ?_, ?_, ?_, ?_, ?_, ?_, ?_, ?_, ?_, ?_, ?_, ?_⟩ <;> first | exact sw_ne _ (by decide) | (rw [sw_eq, u1_ne _ (by decide)])
    have b2 : Blk x c z h g := by
      obtain ⟨y1, y2, y3, y4, y5⟩ := b
      refine ⟨by omega, by omega, by omega, by omega, fun a z1 z2 => (q5 a (by omega) ?_).trans (y5 a z1 z2)⟩
      rcases H.1.2.1.2.2.2 with y | y
      · left
        have := hE.1
        omega
      · left
        have := y.1
        omega
    obtain ⟨g3, v1, v2, v3⟩ := c_told (v := v) H2 b2 l1 l2
    refine ⟨g3, ?_, ?_, v3⟩
    · rw [if_neg c0, f_gR a1 (by decide), a14, Option.bind_some, f_ce L.1 (by decide), Option.bind_some, q1, Option.bind_some, f_ce H2.2.1.1 (by decide), Option.bind_some, v1, Option.bind_some]
    · unfold telM sGood at v2
      unfold setM sSet
      rw [if_neg c0] at v2 ⊢
      rw [sw_sw, sw_eq] at v2
      exact v2
theorem setM_VS {n v : Int} (H : VS n s) (h1 : -7 < v) (h2 : v ≤ 1000000000) (hn : n ≤ 1000000000) : VS (n + 1) (setM s v) := by
  have T := VS_tel H h1 h2 hn
  unfold telM at T
  unfold setM
  split
  · rename_i c
    rw [if_pos c] at T
    exact T
  · obtain ⟨a1, a2, a3, a4, a5⟩ := H
    have u : sSet s 2 = s 2 := sw_ne _ (by decide)
    have u1' : sSet s 1 = s 1 := sw_ne _ (by decide)
    have u0 : sSet s 0 28 = 0 := by unfold sSet; rw [sw_eq, u1_ne _ (by decide), u1_eq]
    refine ⟨G32_sw a1 (u1_32 (u1_32 (a1 0) (by decide)) (by decide)), by rw [u]; exact a2, by rw [u]; exact a3, ⟨by omega, fun k k0 k1 => absurd k1 (by omega)⟩, ?_⟩
    rw [u1']
    intro k k0 k1
    have := a5 k k0 k1
    omega
end
