/-! Lendings, repayments, days: the component, and what stays -/
set_option maxRecDepth 100000
/-- what is frozen stays -/
def FzK (x t dl dv ds du du' : Nat) (h h' : ax_H) : Prop := (du' = du ∨ h.1 ≤ du') ∧ (∀ a, Frz h x t dl dv ds du a → eqT (hC h a) (hC h' a)) ∧ h'.2.2 x = h.2.2 x
theorem FzK.refl {x t dl dv ds du : Nat} {h : ax_H} : FzK x t dl dv ds du du h h := ⟨Or.inl rfl, fun _ _ => eqT.refl _, rfl⟩
theorem FzK.of {x t dl dv ds du du' : Nat} {h h' : ax_H} (hd : du' = du ∨ h.1 ≤ du') (e : ∀ a, x + 116 ≤ a → a < h.1 → (a < t ∨ t + 12 ≤ a) → a ≠ du → h'.2.2 a = h.2.2 a) (hx : h'.2.2 x = h.2.2 x) : FzK x t dl dv ds du du' h h' := by
  refine ⟨hd, fun a ha => eqT.of ?_, hx⟩
  obtain ⟨a1, a2, a3⟩ := ha
  unfold Mut at a3
  exact e a (by omega) a2 (by omega) (by omega)
theorem FzK.trans {x t dl dv ds du du1 du2 : Nat} {h h1 h2 : ax_H} (p : FzK x t dl dv ds du du1 h h1) (q : FzK x t dl dv ds du1 du2 h1 h2) (hl : h.1 ≤ h1.1) : FzK x t dl dv ds du du2 h h2 := by
  obtain ⟨p1, p2, p3⟩ := p
  obtain ⟨q1, q2, q3⟩ := q
  refine ⟨by omega, fun a ha => (p2 a ha).trans (q2 a ?_), q3.trans p3⟩
  obtain ⟨a1, a2, a3⟩ := ha
  refine ⟨a1, by omega, ?_⟩
  unfold Mut at a3 ⊢
  omega
/-- what is frozen stays frozen -/
theorem FzK.frz {x t dl dv ds du du' a : Nat} {h h' : ax_H} (p : FzK x t dl dv ds du du' h h') (hl : h.1 ≤ h'.1) (ha : Frz h x t dl dv ds du a) : Frz h' x t dl dv ds du' a ∧ eqT (hC h a) (hC h' a) := by
  obtain ⟨p1, p2, -⟩ := p
  refine ⟨?_, p2 a ha⟩
  obtain ⟨a1, a2, a3⟩ := ha
  refine ⟨a1, by omega, ?_⟩
  unfold Mut at a3 ⊢
  omega
theorem REP.xdu {E : ax_E} {h : ax_H} {x t dl dv ds du : Nat} {s : Sg} (H : REP E h x t dl dv ds du s) (hE : Ek E x) : x ≠ du := by
  rcases H.1.2.1.2.2.2 with z | z
  · have := hE.1
    omega
  · omega
section
variable {E : ax_E} {h h' : ax_H} {x t dl dv ds du : Nat} {s : Sg}
def StF (E : ax_E) (x t dl dv ds du : Nat) (s : Sg) (h0 g : ax_H) (K : Rw) : Prop := StP E x t dl dv ds du s h0 g K ∧ g.1 = h0.1 ∧ (∀ a, Frz h0 x t dl dv ds du a → eqT (hC h0 a) (hC g a)) ∧ g.2.2 x = h0.2.2 x
theorem StF.ctx {h0 : ax_H} : Ctx E x t dl dv ds du (t + 4) (StF E x t dl dv ds du s h0) := by
  obtain ⟨c1, c2, c3⟩ := StP.ctx (E := E) (x := x) (t := t) (dl := dl) (dv := dv) (ds := ds) (du := du) (s := s) (h0 := h0)
  refine ⟨fun g K p => c1 g K p.1, ?_, ?_⟩
  · rintro g g' K ⟨p1, p2, p3, p4⟩ e
    refine ⟨c2 g g' K p1 e, by rw [e.2.1]; exact p2, fun a ha => (p3 a ha).trans (e.1.2.2.2.1 a ?_ ?_ ?_), (e.2.2.2 x (by omega) (by omega) (by rw [p1.1.2.1.1]; decide)).trans p4⟩
    · have a1 := ha.1
      have a3 := ha.2.2
      unfold Mut at a3
      omega
    · have := ha.2.1
      omega
    · have a1 := ha.1
      have a3 := ha.2.2
      unfold Mut at a3
      unfold SZ
      omega
  · rintro g g' K K' ⟨p1, p2, p3, p4⟩ O B hu hKB hK3
    have tl := p1.1.1.1
    refine ⟨c3 g g' K K' p1 O B hu hKB hK3, by rw [O.1.1]; exact p2, fun a ha => (p3 a ha).trans (eqT.of (O.1.2.2 a ?_)), (O.1.2.2 x (by omega)).trans p4⟩
    have a3 := ha.2.2
    unfold Mut at a3
    omega
theorem c_lendNowF {g r a : Int} (H : REP E h x t dl dv ds du s) (hE : Ek E x) (hG : G32 s) (hK : KB (s 2)) (hU : UnV s) (hg : i2 g = g) (ht : i2 r = r) (ha : i2 a = a) (e1 : h.1 + 8 ≤ E.1.1) (e2 : h.2.1 + 1700 ≤ E.1.2) : ∃ (du' : Nat) (h' : ax_H), f_X0_lendNow E (some x) g r a h = some ((lendS s g r a).1, h') ∧ REP E h' x t dl dv ds du' (lendS s g r a).2 ∧ Blk x 8 110 h h' ∧ FzK x t dl dv ds du du' h h' := by
  have hn := hK.1
  have hR := hK.2.2.2.2
  have h71 := hR.1
  have a1 := H.2.1.1
  have B := H.bk
  have b0 : Blk x 8 110 h h := (Blk.refl x h).up (by decide) (by decide)
  unfold f_X0_lendNow f_X0_lendNow_25 f_X0_lendNow_46 lendS
  rw [c_isAmount ha, Option.bind_some]
  by_cases c1 : 1 ≤ a ∧ a ≤ 9999
  · rw [if_neg (by rw [b01_z]; simp [c1]), if_neg (by simp [c1]), f_ce a1 (by decide), Option.bind_some, c_isPerson H hK hg, Option.bind_some]
    by_cases c2 : 0 ≤ g ∧ g ≤ s 2 152 - 1
    · rw [if_neg (by rw [b01_z]; simp [c2]), f_ce a1 (by decide), Option.bind_some, c_isPerson H hK ht, Option.bind_some]
      by_cases c3 : 0 ≤ r ∧ r ≤ s 2 152 - 1
      · rw [if_neg (by rw [b01_z]; simp [c3]), if_neg (show ¬ ¬ ((0 ≤ g ∧ g ≤ s 2 152 - 1) ∧ (0 ≤ r ∧ r ≤ s 2 152 - 1)) from fun z => z ⟨c2, c3⟩), hg, ht]
        by_cases c4 : g = r
        · rw [if_pos c4, if_pos (fun z => z.1 c4)]
          exact ⟨du, h, rfl, H, b0, FzK.refl⟩
        · rw [if_neg c4, f_ce a1 (by decide), Option.bind_some, c_books H, Option.bind_some]
          dsimp only
          rw [f_ce B.1.1 (by decide), Option.bind_some, c_canPay B (hG 2) hR (by omega) (by omega) (by omega), Option.bind_some]
          by_cases c5 : a ≤ s 2 g ∧ s 2 r + a ≤ 9999
          · rw [if_neg (by rw [b01_z]; exact fun z => z c5), if_neg (fun z => z ⟨c4, c5⟩)]
            simp only [f_ce a1 (by decide : (0:Nat) ≠ 999), Option.bind_some, c_books H]
            rw [f_gI B.1.1 (by decide), Option.bind_some, B.2.1.1, hG, show i2 16 = 16 by decide]
            by_cases c6 : s 2 71 = 16
            · rw [if_pos c6, if_pos c6]
              exact ⟨du, h, rfl, H, b0, FzK.refl⟩
            · rw [if_neg c6, if_neg c6]
              obtain ⟨du', g1, w1, w2, w3, w4, w5, w6, w7, w8⟩ := c_remember (E := E) (what := 0) H hE hU hG h71 e1 e2
              have B1 := w2.bk
              rw [keeps_2] at B1
              obtain ⟨g2, p1, B2, O2⟩ := c_pay (E := E) (v := a) B1 (show 0 ≤ g ∧ g < 7 by omega) (show 0 ≤ r ∧ r < 7 by omega)
              have pu : ∀ i, 7 ≤ i → payS (s 2) g r a i = s 2 i := by
                intro i hi
                unfold payS
                rw [u1_ne _ (by omega), u1_ne _ (by omega)]
              obtain ⟨g3, p2, B3, O3⟩ := c_add (E := E) (d := r) (c := g) (v := a) B2 (by rw [pu 71 (by omega)]; omega) (by rw [pu 71 (by omega)]; omega)
              have hR3 : REP E g3 x t dl dv ds du' (sw (keepsS s 0) 2 (lendsS (s 2) g r a)) := by
                refine w2.books (O2.trans O3) B3 (fun i hi => ?_)
                rw [keeps_2]
                unfold lendsS addsS
                have := pu 71 (by omega)
                rw [this, u1_ne _ (by omega), u1_ne _ (by omega), u1_ne _ (by omega), u1_ne _ (by omega), u1_ne _ (by omega), pu i (by omega)]
              refine ⟨du', g3, ?_, hR3, ((rem_blk H hE w3 w4 w5 w6 w7).trans ((O2.trans O3).blk (by have := H.1.1; omega))).up (by decide) (by decide), FzK.of w8 (fun a a1 a2 a3 a4 => ((O2.trans O3).1.2.2 a (by omega)).trans (w7 a a2 (by omega) a4)) (((O2.trans O3).1.2.2 x (by have := H.1.1; omega)).trans (w7 x (by have := H.1.1; omega) (by omega) (H.xdu hE)))⟩
              rw [w1, Option.bind_some, f_ce w2.2.1.1 (by decide), Option.bind_some, c_books w2, Option.bind_some]
              unfold f_X0_lendIn
              dsimp only
              rw [f_ce B1.1.1 (by decide), Option.bind_some, p1, Option.bind_some, f_ce B2.1.1 (by decide), Option.bind_some, p2, Option.bind_some, Option.bind_some]
          · rw [if_pos (by rw [b01_z]; exact c5), if_pos (fun z => c5 z.2)]
            exact ⟨du, h, rfl, H, b0, FzK.refl⟩
      · rw [if_pos (by rw [b01_z]; exact c3), if_pos (show ¬ ((0 ≤ g ∧ g ≤ s 2 152 - 1) ∧ (0 ≤ r ∧ r ≤ s 2 152 - 1)) from fun z => c3 z.2)]
        exact ⟨du, h, rfl, H, b0, FzK.refl⟩
    · rw [if_pos (by rw [b01_z]; exact c2), if_pos (show ¬ ((0 ≤ g ∧ g ≤ s 2 152 - 1) ∧ (0 ≤ r ∧ r ≤ s 2 152 - 1)) from fun z => c2 z.1)]
      exact ⟨du, h, rfl, H, b0, FzK.refl⟩
  · rw [if_pos (by rw [b01_z]; exact c1), if_pos c1]
    exact ⟨du, h, rfl, H, b0, FzK.refl⟩
theorem c_repayNowF {p q a : Int} (H : REP E h x t dl dv ds du s) (hE : Ek E x) (hG : G32 s) (hK : KB (s 2)) (hU : UnV s) (hp : i2 p = p) (hq : i2 q = q) (ha : i2 a = a) (e1 : h.1 + 8 ≤ E.1.1) (e2 : h.2.1 + 1700 ≤ E.1.2) : ∃ (du' : Nat) (h' : ax_H), f_X0_repayNow E (some x) p q a h = some ((repayO s p q a).1, h') ∧ REP E h' x t dl dv ds du' (repayO s p q a).2 ∧ Blk x 8 110 h h' ∧ FzK x t dl dv ds du du' h h' := by
  have hn := hK.1
  have hR := hK.2.2.2.2
  have h71 := hR.1
  have a1 := H.2.1.1
  have B := H.bk
  have tl := H.1.1
  have b0 : Blk x 8 110 h h := (Blk.refl x h).up (by decide) (by decide)
  unfold f_X0_repayNow f_X0_repayNow_25 repayO
  rw [c_isAmount ha, Option.bind_some]
  by_cases c1 : 1 ≤ a ∧ a ≤ 9999
  · rw [if_neg (by rw [b01_z]; simp [c1]), if_neg (by simp [c1]), f_ce a1 (by decide), Option.bind_some, c_isPerson H hK hp, Option.bind_some]
    by_cases c2 : 0 ≤ p ∧ p ≤ s 2 152 - 1
    · rw [if_neg (by rw [b01_z]; simp [c2]), f_ce a1 (by decide), Option.bind_some, c_isPerson H hK hq, Option.bind_some]
      by_cases c3 : 0 ≤ q ∧ q ≤ s 2 152 - 1
      · have hcr := canRepay_b (a := a) hR (show 0 ≤ p ∧ p < 7 by omega) (show 0 ≤ q ∧ q < 7 by omega) (by omega)
        rw [if_neg (by rw [b01_z]; simp [c3]), if_neg (show ¬ ¬ ((0 ≤ p ∧ p ≤ s 2 152 - 1) ∧ (0 ≤ q ∧ q ≤ s 2 152 - 1)) from fun z => z ⟨c2, c3⟩)]
        dsimp only
        have bsp : BS h (x + 23) := H.2.1.2.2.2.2.2.2.2.2.2.1
        obtain ⟨g1, w1, B1, O1⟩ := c_as (E := E) (a := x + 23) bsp B (by omega) h71.1 h71.2
        have K1 : Kp x h g1 := Kp_on (Or.inl rfl) O1
        have H1 := H.keep K1
        obtain ⟨g2, w2, B2, O2⟩ := c_repay (E := E) (p := p) (q := q) (v := a) B1 (hG 2) hR (by omega) (by omega) (by omega) ha
        have K2 : Kp x h g2 := K1.trans (Kp_on (Or.inl rfl) O2)
        have H2 := H.keep K2
        have bl2 : Blk x 0 0 h g2 := (O1.trans O2).blk (by omega)
        have a13 := H.2.1.2.2.1.2.2.2.2.2.2.2.1
        rw [f_gR a1 (by decide), a13, Option.bind_some, f_ce a1 (by decide), Option.bind_some, c_books H, Option.bind_some]
        dsimp only
        rw [f_ce bsp.1 (by decide), Option.bind_some, w1, Option.bind_some]
        dsimp only
        rw [f_ce B1.1.1 (by decide), Option.bind_some, w2, Option.bind_some, i2_of (by omega) (by omega)]
        by_cases c4 : canRepayS (s 2) p q a = 0
        · rw [if_pos c4, if_pos c4]
          exact ⟨du, g2, rfl, H2, bl2.up (by decide) (by decide), FzK.of (Or.inl rfl) (fun a a1 a2 a3 a4 => (O1.trans O2).1.2.2 a (by omega)) ((O1.trans O2).1.2.2 x (by omega))⟩
        · rw [if_neg c4, if_neg c4]
          obtain ⟨du', g3, v1, v2, v3, v4, v5, v6, v7, v8⟩ := c_remember (E := E) (what := 1) H2 hE hU hG h71 (by have := bl2.2.1; omega) (by have := bl2.2.2.2.1; omega)
          have B3 := v2.bk
          rw [keeps_2] at B3
          obtain ⟨g4, w4, B4, O4⟩ := c_repay (E := E) (p := p) (q := q) (v := a) B3 (hG 2) hR (by omega) (by omega) (by omega) ha
          have er : repS (s 2) p q a = repaysS (s 2) p q (canRepayS (s 2) p q a) := by
            unfold repS
            rw [if_pos (by omega)]
          rw [er] at B4
          have H4 := v2.books O4 B4 (fun i hi => by rw [keeps_2]; exact rep_up h71.2 (by omega) (by omega) i hi)
          refine ⟨du', g4, ?_, H4, ((bl2.trans (rem_blk H2 hE v3 v4 v5 v6 v7)).trans (O4.blk (by omega))).up (by decide) (by decide), FzK.of (by have := (O1.trans O2).1.1; omega) (fun a a1 a2 a3 a4 => (O4.1.2.2 a (by omega)).trans ((v7 a (by have := (O1.trans O2).1.1; omega) (by omega) a4).trans ((O1.trans O2).1.2.2 a (by omega)))) ((O4.1.2.2 x (by omega)).trans ((v7 x (by have := (O1.trans O2).1.1; omega) (by omega) (H2.xdu hE)).trans ((O1.trans O2).1.2.2 x (by omega))))⟩
          rw [f_ce H2.2.1.1 (by decide), Option.bind_some, v1, Option.bind_some, f_ce v2.2.1.1 (by decide), Option.bind_some, c_books v2, Option.bind_some]
          dsimp only
          rw [f_ce B3.1.1 (by decide), Option.bind_some, w4]
          rfl
      · rw [if_pos (by rw [b01_z]; exact c3), if_pos (show ¬ ((0 ≤ p ∧ p ≤ s 2 152 - 1) ∧ (0 ≤ q ∧ q ≤ s 2 152 - 1)) from fun z => c3 z.2)]
        exact ⟨du, h, rfl, H, b0, FzK.refl⟩
    · rw [if_pos (by rw [b01_z]; exact c2), if_pos (show ¬ ((0 ≤ p ∧ p ≤ s 2 152 - 1) ∧ (0 ≤ q ∧ q ≤ s 2 152 - 1)) from fun z => c2 z.1)]
      exact ⟨du, h, rfl, H, b0, FzK.refl⟩
  · rw [if_pos (by rw [b01_z]; exact c1), if_pos c1]
    exact ⟨du, h, rfl, H, b0, FzK.refl⟩
theorem c_waitNowF (H : REP E h x t dl dv ds du s) (hE : Ek E x) (hG : G32 s) (hK : KB (s 2)) (hU : UnV s) (e1 : h.1 + 8 ≤ E.1.1) (e2 : h.2.1 + 1700 ≤ E.1.2) : ∃ (du' : Nat) (h' : ax_H), f_X0_waitNow E (some x) h = some ((waitO s).1, h') ∧ REP E h' x t dl dv ds du' (waitO s).2 ∧ Blk x 8 110 h h' ∧ FzK x t dl dv ds du du' h h' := by
  have hR := hK.2.2.2.2
  have h71 := hR.1
  have h72 := hR.2.1
  have a1 := H.2.1.1
  have B := H.bk
  have tl := H.1.1
  unfold f_X0_waitNow waitO
  rw [f_ce a1 (by decide), Option.bind_some, c_books H, Option.bind_some]
  dsimp only
  rw [f_gI B.1.1 (by decide), Option.bind_some, B.2.1.2, hG, show i2 999 = 999 by decide]
  by_cases c : s 2 72 = 999
  · rw [if_pos c, if_pos c]
    exact ⟨du, h, rfl, H, (Blk.refl x h).up (by decide) (by decide), FzK.refl⟩
  · rw [if_neg c, if_neg c, f_ce a1 (by decide), Option.bind_some]
    obtain ⟨du', g3, v1, v2, v3, v4, v5, v6, v7, v8⟩ := c_remember (E := E) (what := 4) H hE hU hG h71 e1 e2
    have hG3 := keeps_32 (w := 4) hG (by decide) hU.1
    have hP : StP E x t dl dv ds du' (keepsS s 4) g3 g3 (s 2) := by
      refine ⟨?_, ?_, hK, fun i _ => by rw [keeps_2], fun _ _ _ => rfl⟩
      · rw [← keeps_2 s 4, sw_self]; exact v2
      · rw [← keeps_2 s 4, sw_self]; exact hG3
    obtain ⟨g4, w1, ⟨⟨w2, -, -, -, w3⟩, -, wF⟩, w4, w5⟩ := c_waitIn (E := E) StF.ctx ⟨hP, rfl, fun _ _ => eqT.refl _, rfl⟩ (by have := v2.tb; exact this) (by omega)
    refine ⟨du', g4, ?_, w2, ((rem_blk H hE v3 v4 v5 v6 v7).trans (show Blk x 0 0 g3 g4 from ⟨by omega, by omega, by omega, by omega, w3⟩)).up (by decide) (by decide), (FzK.of v8 (fun a a1 a2 a3 a4 => v7 a a2 (by omega) a4) (v7 x (by omega) (by omega) (H.xdu hE))).trans ⟨Or.inl rfl, wF⟩ (by omega)⟩
    rw [v1, Option.bind_some, f_ce v2.2.1.1 (by decide), Option.bind_some, c_books v2, Option.bind_some]
    dsimp only
    rw [f_ce v2.2.1.1 (by decide), Option.bind_some, w1]
    rfl
end
