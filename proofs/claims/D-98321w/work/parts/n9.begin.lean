/-! Orders: a list cleared; rows that the component does not see -/
set_option maxRecDepth 100000
section
variable {E : ax_E} {h h' : ax_H} {x t dl dv ds du du' a d : Nat} {s s' : Sg} {n : Int} {cap : Nat} {P P' : Nat → Nat → Prop}
theorem c_clearL (H : LsN E h a d n cap P) (hc : cap ≤ 1000) (had : a ≠ d) : ∃ h', f_J2_clear E (some a) h = some h' ∧ LsN E h' a d 0 cap P' ∧ h'.1 = h.1 ∧ h'.2.1 = h.2.1 ∧ (∀ b, b ≠ a → (b ≠ d ∨ n = 0) → h'.2.2 b = h.2.2 b) ∧ (∀ b, hT h' b = hT h b ∧ hL h' b = hL h b) ∧ ∀ k, hR h' a k = hR h a k := by
  obtain ⟨ta, ra, ia, n0, c, e⟩ := H
  let g1 := wI (wI h a 0 (hI h a 0 + 1)) a 2 0
  have main := it_traj (body := fun y : Int × ax_H => lb_J2_clear_27 E (some d) n y.1 y.2) (fun k => ((k : Int), clr g1 d k)) n.toNat (r := clr g1 d n.toNat) ?_ ?_
  · refine ⟨clr g1 d n.toNat, ?_, ?_, ?_, ?_, ?_, ?_, ?_⟩
    · unfold f_J2_clear f_J2_clear_27
      rw [f_gI ta (by decide), Option.bind_some, f_pI ta (by decide), Option.bind_some, f_gR (by rw [hT_wI]; exact ta) (by decide), hR_wI, ra, Option.bind_some, f_gI (by rw [hT_wI]; exact ta) (by decide), hI_wI_ne (by omega), ia, Option.bind_some, f_pI (by rw [hT_wI]; exact ta) (by decide), Option.bind_some]
      exact main
    · refine ⟨by rw [clr_T, hT_wI, hT_wI]; exact ta, ?_, by rw [clr_I, hI_wI_eq], Int.le_refl _, ?_, fun k hk => by omega⟩
      · have : hR (clr g1 d n.toNat) a 1 = hR g1 a 1 := by
          have := hC_eq (clr_ne (h := g1) (d := d) n.toNat a (Or.inl had))
          unfold hR
          rw [this]
        rw [this, hR_wI, hR_wI]
        exact ra
      · rcases c with c | ⟨c1, c2, c3⟩
        · exact Or.inl ⟨rfl, c.2⟩
        · exact Or.inr ⟨by rw [clr_T, hT_wI, hT_wI]; exact c1, by omega, by rw [clr_L, hL_wI, hL_wI]; exact c3⟩
    · rw [clr_1]; rfl
    · rw [clr_2]; rfl
    · intro b h1 h2
      rw [clr_ne _ _ (by omega), hC_wI_ne h1, hC_wI_ne h1]
    · intro b
      rw [clr_T, hT_wI, hT_wI, clr_L, hL_wI, hL_wI]
      exact ⟨rfl, rfl⟩
    · intro k
      have := hC_eq (clr_ne (h := g1) (d := d) n.toNat a (Or.inl had))
      have e2 : hR (clr g1 d n.toNat) a k = hR g1 a k := by
        unfold hR
        rw [this]
      rw [e2, hR_wI, hR_wI]
  · intro k hk
    rcases c with c | ⟨c1, c2, c3⟩
    · omega
    · simp only [lb_J2_clear_27]
      rw [i2_of (by omega) (by omega), i2_of (by omega) (by omega), if_pos (by omega), f_stR0 (by rw [clr_T, hT_wI, hT_wI]; exact c1) (by decide) (by omega) (by rw [clr_L, hL_wI, hL_wI]; omega) (by rw [clr_L, hL_wI, hL_wI]; omega), Option.bind_some, Int.toNat_natCast]
      rfl
  · have hb : n ≤ 1000 := by
      rcases c with c | ⟨c1, c2, c3⟩ <;> omega
    simp only [lb_J2_clear_27]
    rw [i2_of (by omega) (by omega), i2_of (by omega) (by omega), if_neg (by omega)]
    rfl
/-- a row that says the same of all that the component holds -/
theorem REP.k2 {K : Rw} (H : REP E h x t dl dv ds du s) (b : (0 ≤ s 2 152 ∧ s 2 152 ≤ 7) ∧ s 2 71 ≤ 16 ∧ s 2 153 ≤ 8 ∧ s 2 154 ≤ 8) (hK : ∀ i, i < 163 → K i = s 2 i) (hL : ∀ q : Int, 0 ≤ q → q < s 2 155 → lawAt K q = lawAt (s 2) q) : REP E h x t dl dv ds du (sw s 2 K) := by
  obtain ⟨pl, rt, ri, ra, st, un, im, dr⟩ := H
  obtain ⟨⟨b1, b2⟩, b3, b4, b5⟩ := b
  have o0 : sw s 2 K 0 = s 0 := sw_ne _ (by decide)
  have o1 : sw s 2 K 1 = s 1 := sw_ne _ (by decide)
  have o3 : sw s 2 K 3 = s 3 := sw_ne _ (by decide)
  have o4 : sw s 2 K 4 = s 4 := sw_ne _ (by decide)
  have o7 : sw s 2 K 7 = s 7 := sw_ne _ (by decide)
  have o14 : sw s 2 K 14 = s 14 := sw_ne _ (by decide)
  have o29 : sw s 2 K 29 = s 29 := sw_ne _ (by decide)
  have o30 : sw s 2 K 30 = s 30 := sw_ne _ (by decide)
  have o31 : sw s 2 K 31 = s 31 := sw_ne _ (by decide)
  unfold REP RiN RaN ImN DrN
  rw [o0, o1, o3, o4, o7, o14, o29, o30, o31, sw_eq]
  refine ⟨pl, rt, ri, ra, ?_, un, im, dr⟩
  obtain ⟨a, c, e, ⟨f1, f2, f3⟩, ⟨g1, g2, g3⟩, l1, l2, l3⟩ := st
  refine ⟨a, ?_, e.congr (hK 71 (by decide)) (hK 72 (by decide)) (fun p p0 p1 => hK p (by omega)) (fun i i0 i1 => hK i (by omega)), ⟨f1, f2, fun p hp => ?_⟩, ⟨g1, g2, fun p hp => ?_⟩, ?_, ?_, ?_⟩
  · rw [hK 152 (by decide), hK 151 (by decide), hK 156 (by decide)]
    exact c
  · rw [hK 152 (by decide)] at hp
    rw [hK _ (by omega)]
    exact f3 p hp
  · rw [hK 152 (by decide)] at hp
    rw [hK _ (by omega)]
    exact g3 p hp
  · rw [hK 155 (by decide)]
    obtain ⟨y1, y2, y3, y4, y5, y6⟩ := l1
    refine ⟨y1, y2, y3, y4, y5, fun k hk => ?_⟩
    obtain ⟨u, u1', L, u2, u3⟩ := y6 k hk
    exact ⟨u, u1', L, (hL k (by omega) hk).trans u2, u3⟩
  · rw [hK 153 (by decide)]
    obtain ⟨y1, y2, y3, y4, y5, y6⟩ := l2
    refine ⟨y1, y2, y3, y4, y5, fun k hk => ?_⟩
    obtain ⟨u, u1', z, z1, z2, z3, z4, z5⟩ := y6 k hk
    exact ⟨u, u1', z, z1, by rw [hK _ (by omega)]; exact z2, by rw [hK _ (by omega)]; exact z3, by rw [hK _ (by omega)]; exact z4, by rw [hK _ (by omega)]; exact z5⟩
  · rw [hK 154 (by decide)]
    obtain ⟨y1, y2, y3, y4, y5, y6⟩ := l3
    refine ⟨y1, y2, y3, y4, y5, fun k hk => ?_⟩
    obtain ⟨u, u1', z, z1, z2, z3, z4, z5⟩ := y6 k hk
    exact ⟨u, u1', z, z1, by rw [hK _ (by omega)]; exact z2, by rw [hK _ (by omega)]; exact z3, by rw [hK _ (by omega)]; exact z4, by rw [hK _ (by omega)]; exact z5⟩
/-- ahead of the first order -/
theorem REP.beg (H : REP E h x t dl dv ds du (rdE s (-1))) (V : VW n s) : REP E h x t dl dv ds du (begS s) := by
  have r2 : rdE s (-1) 2 = s 2 := by unfold rdE; rw [sw_ne _ (by decide)]
  have hK := V.1.2.1
  have k155 : s 2 155 ≤ 6 := by rcases hK.2.2.1 with z | z <;> omega
  have fv := V.2.1.2.2.1.1
  have fs := V.2.1.2.2.2.1
  have H2 := H.k2 (K := layS s 6) (by rw [r2]; exact ⟨hK.1, hK.2.2.2.2.1.2, fv.2, fs.2⟩) (fun i hi => by rw [r2]; exact lay6_o V hi) (fun q q0 q1 => by
    rw [r2] at q1 ⊢
    exact (lay6_law V ⟨q0, by omega⟩ (V.1.2.2.1 q q0 q1).1.2).1)
  refine H2.ew ⟨fun o ho => ?_, fun k hk => ?_, fun _ => (begS_VW V).1.1.1⟩
  · unfold RpO at ho
    by_cases c2 : o = 2
    · subst c2
      rw [begS_2, sw_eq]
    · rw [begS_o (by omega) c2, sw_ne _ c2]
      unfold rdE
      rw [sw_ne _ (by omega)]
  · unfold RpK at hk
    unfold begS rdE
    rw [sw_eq, sw_ne _ (by decide), sw_eq, u1_ne _ (by omega), u1_ne _ (by omega)]
end
