/-! A month: the model's days -/
set_option maxRecDepth 100000
def moT (sB : Sg) (L : Int) (K : Rw) : Sg := sw (sw sB 2 K) 0 (u1 (sB 0) 60 L)
/-- the model within a month -/
def MoS (sB : Sg) (L : Int) (K : Rw) (s1 : Sg) : Prop := Es (moT sB L K) s1 ∧ G32 s1 ∧ s1 2 = K ∧ s1 0 60 = L ∧ s1 0 59 = sB 0 59
theorem moT_2 (sB : Sg) (L : Int) (K : Rw) : moT sB L K 2 = K := by unfold moT; rw [sw_ne _ (by decide), sw_eq]
theorem MoS.of {sB s1 : Sg} {L : Int} {K : Rw} (e : Es (moT sB L K) s1) (g : G32 s1) : MoS sB L K s1 := by
  refine ⟨e, g, e.k.trans (moT_2 sB L K), ?_, ?_⟩
  · rw [e.2.1 60 (by decide) (by decide) (by decide) (by decide)]
    unfold moT
    rw [sw_eq, u1_eq]
  · rw [e.2.1 59 (by decide) (by decide) (by decide) (by decide)]
    unfold moT
    rw [sw_eq, u1_ne _ (by decide)]
theorem MoS.es {sB s1 s2 : Sg} {L : Int} {K : Rw} (H : MoS sB L K s1) (e : Es s1 s2) : MoS sB L K s2 := MoS.of (H.1.trans e) (e.2.2 H.2.1)
theorem MoS.draw {sB s1 : Sg} {L v : Int} {K : Rw} (H : MoS sB L K s1) (hv : i2 v = v) : MoS sB v K (sw s1 0 (u1 (s1 0) 60 v)) := by
  have e := Es_u0 (k := 60) H.1 H.2.1 hv
  have t : sw (moT sB L K) 0 (u1 (moT sB L K 0) 60 v) = moT sB v K := by unfold moT; rw [sw_sw, sw_eq, u1_u1]
  rw [t] at e
  exact MoS.of e (G32_sw H.2.1 (u1_32 (H.2.1 0) hv))
theorem MoS.act {sB s1 : Sg} {L : Int} {K K' : Rw} (H : MoS sB L K s1) (hK : K32 K') : MoS sB L K' (sw s1 2 K') := by
  have e := Es_sw (o := 2) H.1 H.2.1 (by decide) hK
  have t : sw (moT sB L K) 2 K' = moT sB L K' := by
    unfold moT
    funext o
    by_cases c0 : o = 0
    · subst c0; rw [sw_ne _ (by decide), sw_eq, sw_eq]
    · by_cases c2 : o = 2
      · subst c2; rw [sw_eq, sw_ne _ (by decide), sw_eq]
      · rw [sw_ne _ c2, sw_ne _ c0, sw_ne _ c2, sw_ne _ c0, sw_ne _ c2]
  rw [t] at e
  exact MoS.of e (G32_sw H.2.1 hK)
section
variable {E : ax_E} {m : Nat} {h : ax_H}
theorem m_drawM {sB s1 : Sg} {L n : Int} {K : Rw} (H : MoS sB L K s1) (hL : 0 ≤ L ∧ L ≤ 1000002) (hn : 1 ≤ n ∧ n ≤ 50) : ∃ s2, f_X5_draws E (some m) n (mdl m s1 h) = some (mL L % n, mdl m s2 h) ∧ MoS sB (mL L) K s2 := by
  have b := mL_b L
  have e := H.2.2.2.1
  refine ⟨sw s1 0 (u1 (s1 0) 60 (mL L)), ?_, H.draw (i2_of (by omega) (by omega))⟩
  rw [m_draws (by omega) hn, e]
theorem m_moRep {sB s1 : Sg} {n B x2 x5 : Int} {q : Int × Int × Rw} (Q : MoQ (sB 2) B q) (H : MoS sB q.2.1 q.2.2 s1) (hn : n = sB 2 152) (h59 : sB 0 59 = n) (h1 : 1 ≤ n ∧ n ≤ 7) (h5 : 0 ≤ x5 ∧ x5 ≤ 100) : ∃ s2, f_X5_month_145 E (some m) x2 q.1 x5 (mdl m s1 h) = some (.inl ((moDay (moRep n q)).1, (moDay (moRep n q)).2.1, x5 + 1, mdl m s2 h)) ∧ MoS sB (moDay (moRep n q)).2.2.1 (moDay (moRep n q)).2.2.2 s2 := by
  have Q2 := moRep_Q Q hn h1.1
  obtain ⟨lent, L, K⟩ := q
  obtain ⟨a, b, c⟩ := Q
  dsimp only at a b c H
  have e152 := c.2.2 152 (by decide)
  have hR := c.1.1.2.2.2.2
  have g0 := Int.emod_nonneg (mL L) (show n ≠ 0 by omega)
  have g1 := Int.emod_lt_of_pos (mL L) (show 0 < n by omega)
  have r0 := Int.emod_nonneg (mL (mL L)) (show n ≠ 0 by omega)
  have r1 := Int.emod_lt_of_pos (mL (mL L)) (show 0 < n by omega)
  obtain ⟨sa, pa, Ha⟩ := m_drawM (E := E) (m := m) (h := h) H b (n := n) (by omega)
  obtain ⟨sb, pb, Hb⟩ := m_drawM (E := E) (m := m) (h := h) Ha (mL_b L) (n := n) (by omega)
  obtain ⟨d, ed⟩ : ∃ d, d = mL L % n := ⟨_, rfl⟩
  obtain ⟨cr, ec⟩ : ∃ cr, cr = mL (mL L) % n := ⟨_, rfl⟩
  rw [← ed] at pa g0 g1
  rw [← ec] at pb r0 r1
  have eR : moRep n (lent, L, K) = (lent, mL (mL L), repS K d cr 9999) := by unfold moRep; rw [ed, ec]
  rw [eR] at Q2 ⊢
  have ho := owed_b hR d cr
  have kd := hR.2.2.1 d g0 (by omega)
  have kc := hR.2.2.1 cr r0 (by omega)
  have eC : canRepayS K d cr 1000000000 = canRepayS K d cr 9999 := by
    unfold canRepayS
    by_cases e : d = cr
    · rw [if_pos e, if_pos e]
    · rw [if_neg e, if_neg e]
      omega
  have Hb2 := Hb.2.2.1
  have cR := m_canRepay (E := E) (m := m) (h := h) (s := sb) (p := d) (q := cr) (a := 1000000000) Hb.2.1 (by rw [Hb2]; exact hR) ⟨g0, by omega⟩ ⟨r0, by omega⟩ (by decide) (by rw [Hb2]; exact i2_of (by omega) (by omega))
  rw [Hb2, eC] at cR
  -- the day's end
  have fin : ∀ sc, MoS sB (mL (mL L)) (repS K d cr 9999) sc → ∃ s2, f_X5_month_193 E (some m) x2 lent x5 (mdl m sc h) = some (.inl ((moDay (lent, mL (mL L), repS K d cr 9999)).1, (moDay (lent, mL (mL L), repS K d cr 9999)).2.1, x5 + 1, mdl m s2 h)) ∧ MoS sB (moDay (lent, mL (mL L), repS K d cr 9999)).2.2.1 (moDay (lent, mL (mL L), repS K d cr 9999)).2.2.2 s2 := by
    intro sc Hc
    have V := Q2.2.2
    dsimp only at V
    have h72 := V.1.1.2.2.2.2.2.1
    unfold f_X5_month_193 moDay
    rw [md_gR2, Option.bind_some, md_ld2 (by decide) (by decide), Option.bind_some, Hc.2.2.1, i2_of (by omega) (by omega), show i2 999 = 999 by decide]
    dsimp only
    by_cases c9 : repS K d cr 9999 72 < 999
    · rw [if_pos c9, if_pos c9]
      obtain ⟨s2, p2, e2⟩ := m_waits (E := E) (m := m) (h := h) (s := sc) Hc.2.1 (by rw [Hc.2.2.1]; exact V.1.1) (by rw [Hc.2.2.1]; exact V.1.2.1) (by rw [Hc.2.2.1]; omega)
      rw [Hc.2.2.1] at e2 p2
      refine ⟨s2, ?_, (Hc.act (wait_MoV V (by omega)).2.1).es e2⟩
      unfold f_X5_month_211 f_X5_month_223
      rw [show i2 1 = 1 by decide, if_neg (by decide), md_ce, Option.bind_some, p2, Option.bind_some]
    · rw [if_neg c9, if_neg c9]
      refine ⟨sc, ?_, Hc⟩
      unfold f_X5_month_211 f_X5_month_223
      rw [show i2 0 = 0 by decide, if_pos rfl]
  unfold f_X5_month_145
  rw [md_gI59, Option.bind_some, H.2.2.2.2, h59, md_ce, Option.bind_some, pa, Option.bind_some]
  dsimp only
  rw [md_gI59, Option.bind_some, Ha.2.2.2.2, h59, md_ce, Option.bind_some, pb, Option.bind_some]
  dsimp only
  rw [md_ce, Option.bind_some, cR, Option.bind_some]
  dsimp only
  have cb : canRepayS K d cr 9999 ≤ 9999 ∧ 0 ≤ canRepayS K d cr 9999 := by
    unfold canRepayS
    split <;> omega
  rw [i2_of (by omega) (by omega)]
  by_cases cc : 0 < canRepayS K d cr 9999
  · have hc : d ≠ cr ∧ canRepayS K d cr 9999 ≤ K d ∧ K cr + canRepayS K d cr 9999 ≤ 9999 := by
      unfold canRepayS at cc ⊢
      by_cases e : d = cr
      · rw [if_pos e] at cc
        omega
      · rw [if_neg e] at cc ⊢
        omega
    rw [if_pos cc, md_ce, Option.bind_some, m_repays Hb.2.1 (by rw [Hb2]; exact hR) ⟨g0, by omega⟩ ⟨r0, by omega⟩ hc.1 cb.2 (by rw [Hb2]; exact hc.2.1) (by rw [Hb2]; exact hc.2.2), Option.bind_some, Hb2]
    have eS : repaysS K d cr (canRepayS K d cr 9999) = repS K d cr 9999 := by unfold repS; rw [if_pos cc]
    rw [eS]
    exact fin _ (Hb.act Q2.2.2.2.1)
  · rw [if_neg cc]
    have eS : repS K d cr 9999 = K := by unfold repS; rw [if_neg cc]
    refine fin sb ?_
    rw [eS]
    exact Hb
end
