/-! What was done is kept, on both sides -/
set_option maxRecDepth 100000
def keep1 (s : Sg) (what : Int) : Sg := sw (sw s 14 (u1 (cpR (s 14) (74 * s 0 28) (s 2) 73) (74 * s 0 28 + 73) what)) 0 (u1 (s 0) 28 (s 0 28 + 1))
def shif1 (s : Sg) : Sg := sw (sw s 14 (cpR (s 14) 0 (fun j => s 14 (j + 74)) 1110)) 0 (u1 (s 0) 28 (s 0 28 - 1))
def keepsS (s : Sg) (what : Int) : Sg := if s 0 28 = 16 then keep1 (shif1 s) what else keep1 s what
/-- what can be undone is as it must be -/
def UnV (s : Sg) : Prop := (0 ≤ s 0 28 ∧ s 0 28 ≤ 16) ∧ ∀ k : Int, 0 ≤ k → k < s 0 28 → RV (s 2 152) (fun i => s 14 (74 * k + i)) ∧ (0 ≤ s 14 (74 * k + 73) ∧ s 14 (74 * k + 73) ≤ 5)
theorem sau_keep1 (s : Sg) (w : Int) : Sau s (keep1 s w) := by
  unfold keep1
  refine ⟨?_, ?_, ?_, ?_, ?_, ?_, ?_, ?_, ?_, ?_, ?_, ?_, ?_, ?_⟩
  all_goals first | rw [sw_ne _ (by decide), sw_ne _ (by decide)] | rw [sw_eq, u1_ne _ (by decide)]
theorem sau_shif1 (s : Sg) : Sau s (shif1 s) := by
  unfold shif1
  refine ⟨?_, ?_, ?_, ?_, ?_, ?_, ?_, ?_, ?_, ?_, ?_, ?_, ?_, ?_⟩
  all_goals first | rw [sw_ne _ (by decide), sw_ne _ (by decide)] | rw [sw_eq, u1_ne _ (by decide)]
section
variable {E : ax_E} {m : Nat} {s : Sg} {h : ax_H}
theorem m_keep52 {what : Int} (h0 : 0 ≤ s 0 28) (h1 : s 0 28 ≤ 15) : f_X5_keeps_52 E (some m) what 74 (mdl m s h) = some (mdl m (keep1 s what) h) := by
  have e := it_traj (body := fun y : Int × ax_H => lb_X5_keeps_54 E (some m) what 74 y.1 y.2) (fun n => ((n : Int), mdl m (sw s 14 (cpR (s 14) (74 * s 0 28) (s 2) n)) h)) 73 (r := mdl m (keep1 s what) h) ?_ ?_
  · refine Eq.trans ?_ e
    show ax_iter _ (0, mdl m s h) = ax_iter _ (((0 : Nat) : Int), _)
    rw [show ((0 : Nat) : Int) = 0 from rfl, cpR_0, sw_self]
  · intro n hn
    simp (disch := first | omega | assumption | exact hG _ _ | (refine i2_ofp ?_; omega)) only [lb_X5_keeps_54, md_gI28, md_pI28, md_gR2, md_ld2, md_sto2, md_gR26, md_ld14, md_sto14, Option.bind_some, Option.map_some, sw_eq, sw_ne, u1_eq, u1_ne, u1_u1, sw_sw, i2_of, if_pos, if_neg, true_or, or_true, if_true, if_false]
    rw [cpR_s (by omega) rfl]
    rfl
  · simp (disch := first | omega | assumption | exact hG _ _ | (refine i2_ofp ?_; omega)) only [lb_X5_keeps_54, md_gI28, md_pI28, md_gR2, md_ld2, md_sto2, md_gR26, md_ld14, md_sto14, Option.bind_some, Option.map_some, sw_eq, sw_ne, u1_eq, u1_ne, u1_u1, sw_sw, i2_of, if_pos, if_neg, true_or, or_true, if_true, if_false]
    rfl
theorem m_keeps {what : Int} (hG : G32 s) (h0 : 0 ≤ s 0 28) (h1 : s 0 28 ≤ 16) : f_X5_keeps E (some m) what (mdl m s h) = some (mdl m (keepsS s what) h) := by
  unfold f_X5_keeps keepsS
  rw [md_gI28, Option.bind_some, hG, show i2 16 = 16 by decide]
  by_cases hn : s 0 28 = 16
  · rw [if_pos hn, if_pos hn]
    have e28 : shif1 s 0 28 = 15 := by
      unfold shif1
      rw [sw_eq, u1_eq, hn]
      rfl
    have e := it_traj (body := fun y : Int × ax_H => lb_X5_keeps_14 E (some m) what 74 y.1 y.2) (fun n => ((n : Int), mdl m (sw s 14 (cpR (s 14) 0 (fun j => s 14 (j + 74)) n)) h)) 1110 (r := mdl m (keep1 (shif1 s) what) h) ?_ ?_
    · refine Eq.trans ?_ e
      show ax_iter _ (0, mdl m s h) = ax_iter _ (((0 : Nat) : Int), _)
      rw [show ((0 : Nat) : Int) = 0 from rfl, cpR_0, sw_self]
    · intro n hn
      have e2 : cpR (s 14) 0 (fun j => s 14 (j + 74)) n ((n : Int) + 74) = s 14 ((n : Int) + 74) := cpR_out (by omega)
      simp (disch := first | omega | assumption | exact hG _ _ | (refine i2_ofp ?_; omega)) only [lb_X5_keeps_14, f_X5_keeps_52, md_gI28, md_pI28, md_gR26, md_ld14, md_sto14, e2, Option.bind_some, Option.map_some, sw_eq, sw_ne, u1_eq, u1_ne, u1_u1, sw_sw, i2_of, if_pos, if_neg, true_or, or_true, if_true, if_false]
      rw [cpR_s (g := fun j => s 14 (j + 74)) (by omega) (by omega)]
      rfl
    · simp (disch := first | omega | assumption | exact hG _ _ | (refine i2_ofp ?_; omega)) only [lb_X5_keeps_14, md_gI28, md_pI28, Option.bind_some, Option.map_some, sw_eq, sw_ne, u1_eq, u1_ne, u1_u1, sw_sw, i2_of, if_pos, if_neg, true_or, or_true, if_true, if_false]
      have := m_keep52 (E := E) (m := m) (s := shif1 s) (h := h) (what := what) (by rw [e28]; decide) (by rw [e28]; decide)
      exact congrArg (Option.map Sum.inr) this
  · rw [if_neg hn, if_neg hn]
    exact m_keep52 h0 (by omega)
end
theorem DnN.mv {Fz Fz' : Nat → Prop} {h h' : ax_H} {R R' : Rw} {k k' t : Nat} (H : DnN Fz h R k t) (hf : ∀ a, Fz a → Fz' a ∧ eqT (hC h a) (hC h' a)) (hR : ∀ i, 0 ≤ i → i < 74 → R' (74 * k' + i) = R (74 * k + i)) (h16 : R (74 * k + 71) ≤ 16) : DnN Fz' h' R' k' t := by
  obtain ⟨z, t1, i0, b, r, zb, B⟩ := H.fr0 hf
  refine ⟨z, t1, by rw [i0, hR 73 (by omega) (by omega)], b, r, zb, B.congr ?_ ?_ ?_ ?_⟩
  · exact hR 71 (by omega) (by omega)
  · exact hR 72 (by omega) (by omega)
  · intro p h1 h2; exact hR p (by omega) (by omega)
  · intro i h1 h2; exact hR i (by omega) (by omega)
/-- the list's first array is there, and nobody writes it -/
def Ek (E : ax_E) (x : Nat) : Prop := E.2.2 0 < x ∧ ∃ c : ax_C, E.2.1 (E.2.2 0) = some c ∧ c.1 = 104 ∧ c.2.1 = 0
section
variable {E : ax_E} {h h' : ax_H} {x t dl dv ds du : Nat} {s : Sg}
theorem REP.emp (H : REP E h x t dl dv ds du s) (hE : Ek E x) : Emp E h := ⟨H.1.2.2.2.1.1 _ hE.1, hE.2⟩
theorem REP.du1 (H : REP E h x t dl dv ds du s) (hE : Ek E x) : du < h.1 ∧ du ≠ x + 14 := by
  have h1 := H.1.1
  rcases H.1.2.1.2.2.2 with z | z
  · have := hE.1
    omega
  · omega
theorem LsN.l0 {a d : Nat} {n : Int} {cap : Nat} {P : Nat → Nat → Prop} (H : LsN E h a d n cap P) : Ls0 E h a d n cap := ⟨H.1, H.2.1, H.2.2.1, H.2.2.2.1, H.2.2.2.2.1⟩
theorem c_rem21 {what : Int} (H : REP E h x t dl dv ds du s) (hE : Ek E x) (hU : UnV s) (h15 : s 0 28 ≤ 15) (hb : 0 ≤ s 2 71 ∧ s 2 71 ≤ 16) (e1 : h.1 + 8 ≤ E.1.1) (e2 : h.2.1 + 1700 ≤ E.1.2) : ∃ (du' : Nat) (h' : ax_H), f_X0_remember_21 E (some x) what h = some h' ∧ REP E h' x t dl dv ds du' (keep1 s what) ∧ h.1 ≤ h'.1 ∧ h'.1 ≤ h.1 + 8 ∧ h.2.1 ≤ h'.2.1 ∧ h'.2.1 ≤ h.2.1 + 110 ∧ (∀ b, b < h.1 → b ≠ x + 14 → b ≠ du → h'.2.2 b = h.2.2 b) ∧ (du' = du ∨ h.1 ≤ du') := by
  have hlo := Kp_lo H
  obtain ⟨d1, d2⟩ := H.du1 hE
  obtain ⟨a1, a2, ⟨-, a14, -⟩, -⟩ := id H.2.1
  have hn := hU.1
  let g1 := nwH h 26 0 2
  have x1 : Ext h g1 := Ext_nw (Ext.refl h)
  have x2 : Ext h (newB g1) := x1.trans newB_ext
  have K2 : Kp x h (newB g1) := Kp_ext (Kp.refl x h) hlo x2.1 x2.2.1 x2.2.2
  have H2 := H.keep K2
  obtain ⟨n1, n2⟩ := c_newB (E := E) (h := g1) (by show h.1 + 1 + 6 ≤ _; omega) (by show h.2.1 + 2 + 82 ≤ _; omega)
  have B2 := H2.bk
  have tlo := H.1.1
  obtain ⟨g3, e3, B3, O3⟩ := c_as (E := E) (a := h.1 + 1) (newB_BS (h := g1)) B2 (by omega) hb.1 hb.2
  let g4 := wR (wI g3 h.1 0 what) h.1 1 (some (h.1 + 1))
  have x3 : Ext h g3 := Ext_on x2 (by omega) O3.1
  have x4 : Ext h g4 := Ext_wR (Ext_wI x3 (Nat.le_refl _)) (Nat.le_refl _)
  have q1 : g4.1 = h.1 + 7 := by
    show g3.1 = _
    rw [O3.1.1, newB_1]
    rfl
  have q2 : g4.2.1 = h.2.1 + 84 := by
    show g3.2.1 = _
    rw [O3.1.2.1, newB_2]
    show h.2.1 + 2 + 82 = _
    omega
  have T26 : hT g3 h.1 = 26 := by
    have : g3.2.2 h.1 = (newB g1).2.2 h.1 := O3.1.2.2 h.1 (by omega)
    have e5 : (newB g1).2.2 h.1 = g1.2.2 h.1 := newB_ext.2.2 h.1 (by show h.1 < h.1 + 1; omega)
    unfold hT
    rw [hC_eq this, hC_eq e5]
    exact hT_nw_eq
  have hC4 : ∀ b, b < h.1 → hC g4 b = hC h b := fun b hb => hC_eq (x4.2.2 b hb)
  have L4 : Ls0 E g4 (x + 14) du (s 0 28) 24 := by
    obtain ⟨l1, l2, l3, l4, l5⟩ := H.2.2.2.2.2.1.l0
    refine ⟨?_, ?_, ?_, l4, ?_⟩
    · unfold hT; rw [hC4 _ (by omega)]; exact l1
    · unfold hR; rw [hC4 _ (by omega)]; exact l2
    · unfold hI; rw [hC4 _ (by omega)]; exact l3
    · unfold hT hL; rw [hC4 _ d1]; exact l5
  have hEm4 : Emp E g4 := by
    refine ⟨?_, hE.2⟩
    rw [x4.2.2 _ (by have := hE.1; omega)]
    exact (H.emp hE).1
  have el := H.2.2.2.2.2.1.2.2.2.2.2
  obtain ⟨du', h', e6, e7, L', ne', r1, r2⟩ := c_lsAdd (E := E) (cap' := 24) (u := h.1) L4 (by decide) (by decide) (by omega) (by decide) hEm4 (by omega) (by omega) (Ne.symm d2) (fun k hk => by
    obtain ⟨u, v1, v2⟩ := el k hk
    refine ⟨u, ?_, ?_, ?_, by have := v2.1.2.1; omega⟩
    · unfold hR; rw [hC4 _ d1]; exact v1
    · unfold hT; rw [hC4 _ v2.1.2.1]; have := v2.2.1; unfold hT at this; omega
    · unfold hT; rw [hC4 _ v2.1.2.1]; have := v2.2.1; unfold hT at this; rw [this]; decide) (by rw [hT_wR, hT_wI, T26]; decide) (by rw [hT_wR, hT_wI, T26]; decide) (by omega) (by omega) (by omega)
  refine ⟨du', h', ?_, ?_, by omega, by omega, by omega, by omega, fun b b1 b2 b3 => ?_, by omega⟩
  · unfold f_X0_remember_21
    rw [f_gR a1 (by decide), a14, Option.bind_some, f_nw (by omega) (by omega), Option.bind_some]
    dsimp only
    rw [n1, Option.bind_some]
    dsimp only
    rw [Option.bind_some, n2, Option.bind_some, f_ce H2.2.1.1 (by decide), Option.bind_some, c_books H2, Option.bind_some]
    dsimp only
    rw [f_ce newB_BS.1 (by decide), Option.bind_some]
    have e3' : f_X2_as E (some g1.1) (some (t + 4)) (newB g1) = some (some (h.1 + 1), g3) := e3
    rw [e3', Option.bind_some, Option.bind_some]
    unfold f_X26_init
    dsimp only
    rw [Option.bind_some, f_pI T26 (by decide), Option.bind_some, f_pR (by rw [hT_wI]; exact T26) (by decide), Option.bind_some, Option.bind_some, f_ce L4.1 (by decide), Option.bind_some]
    have e6' : f_J2_add E (some (x + 14)) (some h.1) (wR (wI g3 h.1 0 what) h.1 1 (some (h.1 + 1))) = some (1, h') := e6
    rw [e6', Option.bind_some]
  · have hf : ∀ a, Frz h x t dl dv ds du a → Frz h' x t dl dv ds du' a ∧ eqT (hC h a) (hC h' a) := by
      intro a ha
      obtain ⟨z1, z2, z3⟩ := ha
      unfold Mut at z3
      refine ⟨⟨z1, by omega, ?_⟩, ?_⟩
      · unfold Mut
        omega
      · have : h'.2.2 a = h.2.2 a := by rw [ne' a (by omega) (by omega) (by omega), x4.2.2 a z2]
        exact eqT.of this
    have nw : ∀ b, h.1 ≤ b → b < h.1 + 7 → h'.2.2 b = g4.2.2 b := fun b b1 b2 => ne' b (by omega) (by omega) (by omega)
    have fz : ∀ b, h.1 ≤ b → b < h.1 + 7 → Frz h' x t dl dv ds du' b := by
      intro b b1 b2
      refine ⟨by omega, by omega, ?_⟩
      unfold Mut
      have s1 := H.1.2.1
      have dk : ∀ d, Dok E h x t d → d < h.1 := by
        intro d hd
        rcases hd with z | z
        · have := hE.1; omega
        · exact z.2.1
      have y1 := dk _ s1.1
      have y2 := dk _ s1.2.1
      have y3 := dk _ s1.2.2.1
      omega
    have hlw : ∀ a, a < x → (a ≠ du ∨ du' ≠ du) := by
      intro a ha
      rcases H.1.2.1.2.2.2 with z | z
      · right
        intro y
        rcases e7 with e7 | e7
        · have w := e7.2.2.2
          rw [z] at w
          unfold hT hC at w
          rw [hEm4.1] at w
          cases w
        · omega
      · left
        omega
    refine H.und (by omega) (fun a ha => by rw [ne' a (by omega) (by omega) (hlw a ha), x4.2.2 a (by omega)]) (fun a z1 z2 z3 z4 => by rw [ne' a (by omega) z3 (Or.inl z4), x4.2.2 a z2]) (by rw [L'.1]; decide) (by omega) ?_ (sau_keep1 s what)
    have e28 : keep1 s what 0 28 = s 0 28 + 1 := by unfold keep1; rw [sw_eq, u1_eq]
    have e14 : keep1 s what 14 = u1 (cpR (s 14) (74 * s 0 28) (s 2) 73) (74 * s 0 28 + 73) what := by unfold keep1; rw [sw_ne _ (by decide), sw_eq]
    rw [e28, e14]
    obtain ⟨l1, l2, l3, l4, l5⟩ := L'
    refine ⟨l1, l2, l3, l4, l5, fun k hk => ?_⟩
    by_cases hk2 : (k : Int) < s 0 28
    · obtain ⟨u, v1, v2⟩ := el k hk2
      refine ⟨u, ?_, ?_⟩
      · rw [r1 k hk2]
        unfold hR
        rw [hC4 _ d1]
        exact v1
      · refine v2.mv hf (fun i i0 i1 => ?_) ?_
        · rw [u1_ne _ (by omega), cpR_out (by omega)]
        · exact (hU.2 k (by omega) hk2).1.1.2
    · have hkn : (k : Int) = s 0 28 := by omega
      refine ⟨h.1, ?_, fz _ (Nat.le_refl _) (by omega), ?_, ?_, h.1 + 1, ?_, fun a z1 z2 => fz a (by omega) (by omega), ?_⟩
      · have : k = (s 0 28).toNat := by omega
        rw [this]
        exact r2
      · unfold hT
        rw [hC_eq (nw h.1 (Nat.le_refl _) (by omega))]
        show hT g4 h.1 = 26
        rw [hT_wR, hT_wI]
        exact T26
      · unfold hI
        rw [hC_eq (nw h.1 (Nat.le_refl _) (by omega))]
        show hI g4 h.1 0 = _
        rw [hI_wR, hI_wI_eq, hkn, u1_eq]
      · unfold hR
        rw [hC_eq (nw h.1 (Nat.le_refl _) (by omega))]
        exact hR_wR_eq
      · have B4 : BK h' (h.1 + 1) (s 2) := B3.fr (fun a z1 z2 => by rw [nw a (by omega) (by omega), hC_wR_ne (by omega), hC_wI_ne (by omega)])
        have rr : ∀ i : Int, 0 ≤ i → i < 73 → u1 (cpR (s 14) (74 * s 0 28) (s 2) 73) (74 * s 0 28 + 73) what (74 * (k : Int) + i) = s 2 i := by
          intro i i0 i1
          rw [u1_ne _ (by omega), cpR_in (by omega)]
          congr 1
          omega
        refine B4.congr (rr 71 (by omega) (by omega)) (rr 72 (by omega) (by omega)) (fun p z1 z2 => rr p z1 (by omega)) (fun i z1 z2 => rr i (by omega) (by omega))
  · rw [ne' b (by omega) b2 (Or.inl b3), x4.2.2 b b1]
end
