/-! A law told: the component -/
set_option maxRecDepth 100000
section
variable {E : ax_E} {h h1 : ax_H} {x t dl dv ds du : Nat} {s : Sg} {n : Int}
theorem c_law (H : REP E h x t dl dv ds du s) (hE : Ek E x) (hX : TxtE E x) (V : VW n s) (e1 : h.1 + 950 ≤ E.1.1) (e2 : h.2.1 + 5000 ≤ E.1.2) : ∃ (dl' : Nat) (h' : ax_H), f_X0_law E (some x) h = some ((lawS s).1, h') ∧ REP E h' x t dl' dv ds du (telP (lawS s)).2 ∧ Blk x 900 2100 h h' := by
  obtain ⟨a1, a2, ⟨-, -, -, -, -, -, a11, -⟩, -, -, -, -, -, ⟨t22, l22⟩, -⟩ := id H.2.1
  have i12 : hI h x 12 = s 0 11 := H.2.2.1.2.2.2.2
  have tt := H.tt
  have l1 := H.2.2.2.2.1.2.2.2.2.2.1
  have k155 : 0 ≤ s 2 155 ∧ s 2 155 ≤ 6 := by rcases V.1.2.1.2.2.1 with z | z <;> omega
  have h11 := V.2.2.2.1
  have hN : ((tpN s : Nat) : Int) = s 0 11 := by unfold tpN; omega
  have hx : x + 116 ≤ h.1 := H.1.1.1
  have b0 := (Blk.refl x h).up (c' := 900) (z' := 2100) (by decide) (by decide)
  unfold f_X0_law
  rw [f_gR a1 (by decide), Option.bind_some, a2, f_gR tt.1 (by decide), Option.bind_some, tt.2.1, f_ce l1.1 (by decide), Option.bind_some, c_size l1, Option.bind_some]
  dsimp only
  rw [i2_of (a := s 2 155) (by omega) (by omega), show i2 6 = 6 by decide]
  by_cases c6 : s 2 155 = 6
  · have eS : lawS s = (-5, sw s 0 (u1 (s 0) 11 0)) := by unfold lawS; rw [if_pos c6]
    obtain ⟨H2, b2'⟩ := c_taped (v := 0) H b0
    obtain ⟨h', w1, w2, w3⟩ := c_told (v := -5) H2 b2' (by decide) (by decide)
    rw [if_pos c6, f_pI a1 (by decide), Option.bind_some, f_ce H2.2.1.1 (by decide), Option.bind_some, w1, Option.bind_some, eS]
    exact ⟨dl, h', rfl, w2, w3⟩
  · obtain ⟨g0, y1, y2, y3, y4, y5, y6⟩ := c_birth7 (E := E) (T := s 7) (N := tpN s) (x := x) (h := h) hx H.low hX ⟨a1, a11, i12.trans hN.symm⟩ ⟨t22, l22, fun k hk => H.2.2.2.1.2 k (by omega)⟩ ⟨by omega, V.2.2.2.2.1⟩ (by omega) (by omega)
    have iT := y2.1.2.2.2.2.2.2.2.2.2
    have R := c_readT y2 y3 (by omega) (by omega)
    rw [if_neg c6, f_gR a1 (by decide), Option.bind_some, a2, f_gR tt.1 (by decide), Option.bind_some, tt.2.1, f_nw (by omega) (by omega), Option.bind_some]
    dsimp only
    rw [Option.bind_some, y1, Option.bind_some, f_dp iT.1 (by decide), if_pos rfl]
    have low : ∀ g : ax_H, RdL h.1 (h.1 + 2) g0 g → ∀ b, b < h.1 → g.2.2 b = h.2.2 b := fun g q b hb => (q.2.2 b (by omega) (by omega) (by omega) (by omega)).trans (y4 b hb)
    cases hLw : lawP s with
    | inl f =>
      have eP : pLaw (cT (s 7) (tpN s)) (wT (s 7) (tpN s)) (toks (s 7) (tpN s)) = .inl f := hLw
      rw [eP] at R
      obtain ⟨r, r1, r2, r3, r4, r5, r6⟩ := R
      have eS : lawS s = (-6, rdE s (pos (s 7) (tpN s) f.toNat)) := by unfold lawS; rw [if_neg c6, hLw]
      have q1 := r4.1
      have q2 := r4.2.1
      have Hr : REP E r.2 x t dl dv ds du s := H.keep (Kp_ext (Kp.refl x h) hx (by omega) (by omega) (low _ r4))
      have br : Blk x 900 2100 h r.2 := ⟨by omega, by omega, by omega, by omega, fun b z1 z2 => low _ r4 b (by omega)⟩
      obtain ⟨H2, b2'⟩ := c_f8 (v := (pos (s 7) (tpN s) f.toNat : Int)) Hr br
      obtain ⟨h3, w1, w2, w3⟩ := c_told (v := -6) H2 b2' (by decide) (by decide)
      obtain ⟨H4, b4⟩ := c_taped (v := 0) w2 w3
      rw [r1, tc_l, f_gI r2 (by decide), Option.bind_some, r3, f_pI Hr.2.1.1 (by decide), Option.bind_some, f_ce H2.2.1.1 (by decide), Option.bind_some, w1, Option.bind_some]
      dsimp only
      rw [f_pI w2.2.1.1 (by decide), Option.bind_some, eS]
      refine ⟨dl, _, rfl, ?_, b4⟩
      rw [tel_11, ← rdE_eq] at H4
      exact H4
    | inr L =>
      have eP : pLaw (cT (s 7) (tpN s)) (wT (s 7) (tpN s)) (toks (s 7) (tpN s)) = .inr L := hLw
      rw [eP] at R
      obtain ⟨u, g1, r1, r2, r3, r4, r5, r6⟩ := R
      have eS : lawS s = (s 2 155, sw (rdE s (-1)) 2 (moreK s)) := by unfold lawS; rw [if_neg c6, hLw]; rfl
      have q1 := r2.1
      have q2 := r2.2.1
      have lw := low _ r2
      obtain ⟨d', g2, p1, p2, p3, p4⟩ := c_addlaw H hE V ⟨k155.1, by omega⟩ hLw (by omega) (by omega) lw (TxN.fr (fun a ha => ⟨⟨by have := ha.1; omega, ha.2⟩, eqT.refl _⟩) r3) (by omega) (by omega)
      have b2' : Blk x 900 2100 h g2 := ⟨by omega, by omega, by omega, by omega, p4⟩
      obtain ⟨H3, b3⟩ := c_f8 (v := -1) p2 b2'
      have tt3 := H3.tt
      have l3 := H3.2.2.2.2.1.2.2.2.2.2.1
      have e155 : sw (sw s 2 (moreK s)) 0 (u1 (sw s 2 (moreK s) 0) 12 (-1)) 2 155 = s 2 155 + 1 := by rw [sw_ne _ (by decide), sw_eq]; exact u1_eq _ _ _
      rw [e155] at l3
      obtain ⟨h4, w1, w2, w3⟩ := c_told (v := s 2 155) H3 b3 (by omega) (by omega)
      obtain ⟨H5, b5⟩ := c_taped (v := 0) w2 w3
      have ts : t + 1 < h.1 := by have := H.1.1.2.2; omega
      rw [r1, tc_r]
      dsimp only
      rw [f_ce (by rw [(ceq (lw (t + 1) ts)).1]; exact l1.1) (by decide), Option.bind_some, p1, Option.bind_some]
      dsimp only
      rw [f_pI p2.2.1.1 (by decide), Option.bind_some, f_gR H3.2.1.1 (by decide), Option.bind_some, H3.2.1.2.1, f_gR tt3.1 (by decide), Option.bind_some, tt3.2.1, f_ce l3.1 (by decide), Option.bind_some, c_size l3, Option.bind_some]
      dsimp only
      rw [f_ce H3.2.1.1 (by decide), Option.bind_some, show s 2 155 + 1 - 1 = s 2 155 by omega, w1, Option.bind_some]
      dsimp only
      rw [f_pI w2.2.1.1 (by decide), Option.bind_some, eS]
      refine ⟨d', _, rfl, ?_, b5⟩
      rw [tel_11, ← rdE_eq] at H5
      have eK : rdE (sw s 2 (moreK s)) (-1) = sw (rdE s (-1)) 2 (moreK s) := by
        unfold rdE
        rw [sw_ne (s := s) (o := 2) _ (by decide), sw_comm _ _ (by decide)]
      rw [eK] at H5
      exact H5
end
