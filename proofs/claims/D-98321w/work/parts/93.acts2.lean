/-! Repayments and days: the component -/
set_option maxRecDepth 100000
section
variable {E : ax_E} {h h' : ax_H} {x t dl dv ds du : Nat} {s : Sg}
theorem canRepay_b {n : Int} {K : Rw} {p q a : Int} (hR : RV n K) (hp : 0 ≤ p ∧ p < 7) (hq : 0 ≤ q ∧ q < 7) (ha : 0 ≤ a) : 0 ≤ canRepayS K p q a ∧ canRepayS K p q a ≤ 9999 := by
  have v1 := hR.2.2.1 p hp.1 hp.2
  have v2 := hR.2.2.1 q hq.1 hq.2
  have ho := owed_b hR p q
  unfold canRepayS
  split <;> omega
theorem low_up {p q : Int} : ∀ (f : Nat) (r d : Int) (K : Rw), K 71 ≤ 16 → 0 ≤ d → ∀ i, 73 ≤ i → lowF p q f r d K i = K i := by
  intro f
  induction f with
  | zero => intro r d K _ _ i _; rfl
  | succ f ih =>
    intro r d K hk h0 i hi
    unfold lowF
    split
    · rename_i hd
      split
      · split
        · rw [ih _ _ _ (by rw [removes_71 hk h0 hd]; omega) h0 i hi]
          unfold removesS
          rw [cpR_out (by rw [u1_ne _ (by omega)]; omega), u1_ne _ (by omega), u1_ne _ (by omega)]
        · rw [ih _ _ _ (by rw [u1_ne _ (by omega)]; exact hk) (by omega) i hi, u1_ne _ (by omega)]
      · exact ih _ _ _ hk (by omega) i hi
    · rfl
theorem rep_up {K : Rw} {p q a : Int} (hk : K 71 ≤ 16) (hp : 0 ≤ p ∧ p < 7) (hq : 0 ≤ q ∧ q < 7) (i : Int) (hi : 73 ≤ i) : repaysS K p q a i = K i := by
  unfold repaysS lowersS
  rw [low_up 17 a 0 _ (by unfold payS; rw [u1_ne _ (by omega), u1_ne _ (by omega)]; exact hk) (by decide) i hi]
  unfold payS
  rw [u1_ne _ (by omega), u1_ne _ (by omega)]
theorem c_repayNow {p q a : Int} (H : REP E h x t dl dv ds du s) (hE : Ek E x) (hG : G32 s) (hK : KB (s 2)) (hU : UnV s) (hp : i2 p = p) (hq : i2 q = q) (ha : i2 a = a) (e1 : h.1 + 8 ≤ E.1.1) (e2 : h.2.1 + 1700 ≤ E.1.2) : ∃ (du' : Nat) (h' : ax_H), f_X0_repayNow E (some x) p q a h = some ((repayO s p q a).1, h') ∧ REP E h' x t dl dv ds du' (repayO s p q a).2 ∧ Blk x 8 110 h h' := by
  have hn := hK.1
  have hR := hK.2.2.2.2
  have h71 := hR.1
  have a1 := H.2.1.1
  have B := H.bk
  have tl := H.1.1
  have b0 : Blk x 8 110 h h := (Blk.refl x h).up (by decide) (by decide)
  unfold f_X0_repayNow f_X0_repayNow_25 repayO
  rw [c_isAmount ha, Option.bind_some]
  by_cases c1 : 1 ≤ a ∧ a ≤ 9999
  · rw [if_neg (by rw [b01_z]; simp [c1]), if_neg (by simp [c1]), f_ce a1 (by decide), Option.bind_some, c_isPerson H hK hp, Option.bind_some]
    by_cases c2 : 0 ≤ p ∧ p ≤ s 2 152 - 1
    · rw [if_neg (by rw [b01_z]; simp [c2]), f_ce a1 (by decide), Option.bind_some, c_isPerson H hK hq, Option.bind_some]
      by_cases c3 : 0 ≤ q ∧ q ≤ s 2 152 - 1
      · have hcr := canRepay_b (a := a) hR (show 0 ≤ p ∧ p < 7 by omega) (show 0 ≤ q ∧ q < 7 by omega) (by omega)
        rw [if_neg (by rw [b01_z]; simp [c3]), if_neg (show ¬ ¬ ((0 ≤ p ∧ p ≤ s 2 152 - 1) ∧ (0 ≤ q ∧ q ≤ s 2 152 - 1)) from fun z => z ⟨c2, c3⟩)]
        dsimp only
        have bsp : BS h (x + 23) := H.2.1.2.2.2.2.2.2.2.2.2.1
        obtain ⟨g1, w1, B1, O1⟩ := c_as (E := E) (a := x + 23) bsp B (by omega) h71.1 h71.2
        have K1 : Kp x h g1 := Kp_on (Or.inl rfl) O1
        have H1 := H.keep K1
        obtain ⟨g2, w2, B2, O2⟩ := c_repay (E := E) (p := p) (q := q) (v := a) B1 (hG 2) hR (by omega) (by omega) (by omega) ha
        have K2 : Kp x h g2 := K1.trans (Kp_on (Or.inl rfl) O2)
        have H2 := H.keep K2
        have bl2 : Blk x 0 0 h g2 := (O1.trans O2).blk (by omega)
        have a13 := H.2.1.2.2.1.2.2.2.2.2.2.2.1
        rw [f_gR a1 (by decide), a13, Option.bind_some, f_ce a1 (by decide), Option.bind_some, c_books H, Option.bind_some]
        dsimp only
        rw [f_ce bsp.1 (by decide), Option.bind_some, w1, Option.bind_some]
        dsimp only
        rw [f_ce B1.1.1 (by decide), Option.bind_some, w2, Option.bind_some, i2_of (by omega) (by omega)]
        by_cases c4 : canRepayS (s 2) p q a = 0
        · rw [if_pos c4, if_pos c4]
          exact ⟨du, g2, rfl, H2, bl2.up (by decide) (by decide)⟩
        · rw [if_neg c4, if_neg c4]
          obtain ⟨du', g3, v1, v2, v3, v4, v5, v6, v7, v8⟩ := c_remember (E := E) (what := 1) H2 hE hU hG h71 (by have := bl2.2.1; omega) (by have := bl2.2.2.2.1; omega)
          have B3 := v2.bk
          rw [keeps_2] at B3
          obtain ⟨g4, w4, B4, O4⟩ := c_repay (E := E) (p := p) (q := q) (v := a) B3 (hG 2) hR (by omega) (by omega) (by omega) ha
          have er : repS (s 2) p q a = repaysS (s 2) p q (canRepayS (s 2) p q a) := by
            unfold repS
            rw [if_pos (by omega)]
          rw [er] at B4
          have H4 := v2.books O4 B4 (fun i hi => by rw [keeps_2]; exact rep_up h71.2 (by omega) (by omega) i hi)
          refine ⟨du', g4, ?_, H4, ((bl2.trans (rem_blk H2 hE v3 v4 v5 v6 v7)).trans (O4.blk (by omega))).up (by decide) (by decide)⟩
          rw [f_ce H2.2.1.1 (by decide), Option.bind_some, v1, Option.bind_some, f_ce v2.2.1.1 (by decide), Option.bind_some, c_books v2, Option.bind_some]
          dsimp only
          rw [f_ce B3.1.1 (by decide), Option.bind_some, w4]
          rfl
      · rw [if_pos (by rw [b01_z]; exact c3), if_pos (show ¬ ((0 ≤ p ∧ p ≤ s 2 152 - 1) ∧ (0 ≤ q ∧ q ≤ s 2 152 - 1)) from fun z => c3 z.2)]
        exact ⟨du, h, rfl, H, b0⟩
    · rw [if_pos (by rw [b01_z]; exact c2), if_pos (show ¬ ((0 ≤ p ∧ p ≤ s 2 152 - 1) ∧ (0 ≤ q ∧ q ≤ s 2 152 - 1)) from fun z => c2 z.1)]
      exact ⟨du, h, rfl, H, b0⟩
  · rw [if_pos (by rw [b01_z]; exact c1), if_pos c1]
    exact ⟨du, h, rfl, H, b0⟩
/-- the street's own books, in their surroundings -/
def StP (E : ax_E) (x t dl dv ds du : Nat) (s : Sg) (h0 g : ax_H) (K : Rw) : Prop := REP E g x t dl dv ds du (sw s 2 K) ∧ G32 (sw s 2 K) ∧ KB K ∧ (∀ i, 73 ≤ i → K i = s 2 i) ∧ ∀ b, x + 84 ≤ b → b < x + 116 → g.2.2 b = h0.2.2 b
theorem StP.ctx {h0 : ax_H} : Ctx E x t dl dv ds du (t + 4) (StP E x t dl dv ds du s h0) := by
  refine ⟨?_, ?_, ?_⟩
  · rintro g K ⟨p1, p2, p3, p4, p5⟩
    have B := p1.bk
    rw [sw_eq] at B
    refine ⟨⟨sw s 2 K, p1, p2, by rw [sw_eq]; exact p3, fun i hi => by rw [sw_eq]⟩, B, p3, fun i => ?_⟩
    have := p2 2 i
    rwa [sw_eq] at this
  · rintro g g' K ⟨p1, p2, p3, p4, p5⟩ e
    exact ⟨p1.keep e.1, p2, p3, p4, fun b b1 b2 => (e.1.2.2.2.2.2.2 b b1 b2).trans (p5 b b1 b2)⟩
  · rintro g g' K K' ⟨p1, p2, p3, p4, p5⟩ O B hu hKB hK3
    have := p1.books O B (fun i hi => by rw [sw_eq]; exact hu i hi)
    rw [sw_sw] at this
    refine ⟨this, ?_, hKB, fun i hi => (hu i hi).trans (p4 i hi), fun b b1 b2 => ?_⟩
    · have h2 := G32_sw (o := 2) (f := K') p2 hK3
      rwa [sw_sw] at h2
    · have tl := p1.1.1
      rw [O.1.2.2 b (by omega)]
      exact p5 b b1 b2
theorem c_waitNow (H : REP E h x t dl dv ds du s) (hE : Ek E x) (hG : G32 s) (hK : KB (s 2)) (hU : UnV s) (e1 : h.1 + 8 ≤ E.1.1) (e2 : h.2.1 + 1700 ≤ E.1.2) : ∃ (du' : Nat) (h' : ax_H), f_X0_waitNow E (some x) h = some ((waitO s).1, h') ∧ REP E h' x t dl dv ds du' (waitO s).2 ∧ Blk x 8 110 h h' := by
  have hR := hK.2.2.2.2
  have h71 := hR.1
  have h72 := hR.2.1
  have a1 := H.2.1.1
  have B := H.bk
  have tl := H.1.1
  unfold f_X0_waitNow waitO
  rw [f_ce a1 (by decide), Option.bind_some, c_books H, Option.bind_some]
  dsimp only
  rw [f_gI B.1.1 (by decide), Option.bind_some, B.2.1.2, hG, show i2 999 = 999 by decide]
  by_cases c : s 2 72 = 999
  · rw [if_pos c, if_pos c]
    exact ⟨du, h, rfl, H, (Blk.refl x h).up (by decide) (by decide)⟩
  · rw [if_neg c, if_neg c, f_ce a1 (by decide), Option.bind_some]
    obtain ⟨du', g3, v1, v2, v3, v4, v5, v6, v7, v8⟩ := c_remember (E := E) (what := 4) H hE hU hG h71 e1 e2
    have hG3 := keeps_32 (w := 4) hG (by decide) hU.1
    have hP : StP E x t dl dv ds du' (keepsS s 4) g3 g3 (s 2) := by
      refine ⟨?_, ?_, hK, fun i _ => by rw [keeps_2], fun _ _ _ => rfl⟩
      · rw [← keeps_2 s 4, sw_self]; exact v2
      · rw [← keeps_2 s 4, sw_self]; exact hG3
    obtain ⟨g4, w1, ⟨w2, -, -, -, w3⟩, w4, w5⟩ := c_waitIn (E := E) StP.ctx hP (by have := v2.tb; exact this) (by omega)
    refine ⟨du', g4, ?_, w2, ((rem_blk H hE v3 v4 v5 v6 v7).trans (show Blk x 0 0 g3 g4 from ⟨by omega, by omega, by omega, by omega, w3⟩)).up (by decide) (by decide)⟩
    rw [v1, Option.bind_some, f_ce v2.2.1.1 (by decide), Option.bind_some, c_books v2, Option.bind_some]
    dsimp only
    rw [f_ce v2.2.1.1 (by decide), Option.bind_some, w1]
    rfl
end
