/-! THE COMPONENT: how deep one gets, what a debt grows by, what it is sold for -/
set_option maxRecDepth 100000
theorem lawNow_congr {K K' : Rw} (h : ∀ i, 73 ≤ i → K' i = K i) (h6 : -1 ≤ K 156) : lawNow K' = lawNow K := by
  unfold lawNow
  rw [h 156 (by omega)]
  split
  · rfl
  · rename_i hn
    rw [lawAt_congr (h _ (by omega)) (fun k h1 h2 => h _ (by omega)) (fun k h1 h2 => h _ (by omega))]
theorem KB.f {K : Rw} (h : KB K) : -1 ≤ K 156 := by
  rcases h.2.2.1 with q | q <;> omega
section
variable {E : ax_E} {h h' : ax_H} {x t dl dv ds du : Nat} {s : Sg}
theorem c_deepBy {K : Rw} {ow vi oe ba : Int} (H : REP E h x t dl dv ds du s) (hG : G32 s) (hKB : KB (s 2)) (hKK : KB K) (hu : ∀ i, 73 ≤ i → K i = s 2 i) (h1 : 0 ≤ ow ∧ ow < K 152) (h2 : 0 ≤ vi ∧ vi < K 152) (h3 : 0 ≤ oe ∧ oe ≤ 1000000) (h4 : 0 ≤ ba ∧ ba ≤ 1000000) : ∃ h', f_X0_deepBy E (some x) ow vi oe ba (K 72) h = some (deepByS K ow vi oe ba, h') ∧ Kp x h h' ∧ h'.1 = h.1 ∧ h'.2.1 = h.2.1 ∧ ∀ b, b ≠ x + 15 → b ≠ x + 16 → hT h b ≠ 15 → h'.2.2 b = h.2.2 b := by
  have hd := hKK.2.2.2.2.2.1
  have hu152 := hu 152 (by omega)
  have hn := hKK.1
  obtain ⟨r1, r2⟩ := hKK.2.2.2.1 ow h1.1 h1.2
  have hEB : EB (envL K ow vi oe ba (-1) (-1)) := envL_b hKK h1 h2 (by omega) (by omega) (by omega) (by omega)
  have hL : lawNow K = lawNow (s 2) := lawNow_congr hu hKB.f
  have hE1 : (envL K ow vi oe ba (-1) (-1)).1 = numL ow vi oe ba (s 2 (73 + 2 * ow)) (s 2 (73 + 2 * ow + 1)) (-1) (-1) (K 72) (s 2 151) := by
    simp only [envL]
    rw [hu _ (by omega), hu _ (by omega), hu 151 (by omega)]
  obtain ⟨g1, e1, k1, o1, ax1⟩ := c_ask (E := E) (ow := ow) (vi := vi) (oe := oe) (ba := ba) (da := K 72) H hG hKB (by omega) (i2_of (by omega) (by omega)) (i2_of (by omega) (by omega)) (i2_of (by omega) (by omega)) (i2_of (by omega) (by omega))
  have H1 := H.keep k1
  rw [← hE1] at ax1
  obtain ⟨Fz1, u1, l1, T1, q1⟩ := c_law1 H1 hKB
  obtain ⟨g2, e2, S2⟩ := c_has (E := E) T1 ax1.n hEB q1
  have k2 := H1.scr S2
  have H2 := H1.keep k2
  have an2 := ax1.n.scr S2
  have sc : ∀ (g g' : ax_H), Scr (x + 15) g g' → ∀ b, b ≠ x + 15 → hT g b ≠ 15 → g'.2.2 b = g.2.2 b := fun g g' S b hb h15 => (S.2.2.1 b hb).2 h15
  have fin2 : ∀ b, b ≠ x + 15 → b ≠ x + 16 → hT h b ≠ 15 → g2.2.2 b = h.2.2 b := by
    intro b b1 b2 b3
    have := o1.1.2.2 b (by omega)
    rw [sc _ _ S2 b b1 (by unfold hT; rw [hC_eq this]; exact b3), this]
  have hany := tells_any (e := envL K ow vi oe ba (-1) (-1)) (lawNow (s 2)) 0 T1.fb.2
  unfold f_X0_deepBy
  rw [f_ce H.2.1.1 (by decide), Option.bind_some, e1, Option.bind_some, f_ce H1.2.1.1 (by decide), Option.bind_some, l1, Option.bind_some]
  simp only [f_gR H1.2.1.1 (by decide : (0:Nat) ≠ 999), H1.2.1.2.2.1.2.2.1, Option.bind_some, f_ce T1.2.1 (by decide : (4:Nat) ≠ 999), e2]
  unfold deepByS
  rw [hL, hany]
  cases ha : anyH (lawNow (s 2)) (envL K ow vi oe ba (-1) (-1)) with
  | true =>
    refine ⟨g2, ?_, k1.trans k2, by rw [S2.1, o1.1.1], by rw [S2.2.1, o1.1.2.1], fin2⟩
    rw [if_neg (by decide), if_pos rfl]
    rfl
  | false =>
    simp only [Bool.false_eq_true, if_false]
    rw [if_pos i2_0]
    obtain ⟨Fz2, u2, l2, T2, q2⟩ := c_law1 H2 hKB
    have tail : ∀ wo : Int, (-1000000000 ≤ wo ∧ wo ≤ 1000000000) → ∃ h', f_X0_deepBy_43 E (some x) ow wo g2 = some (max 0 (min (K (73 + 2 * ow)) ((lawNow (s 2)).foldl (comT (envL K ow vi oe ba (-1) (-1)) 1) wo)), h') ∧ Scr (x + 15) g2 h' := by
      intro wo hwo
      obtain ⟨g3, e3, S3⟩ := c_tells (E := E) (hd := 1) (wo := wo) T2 an2 hEB q2 (by omega) (by omega)
      have hb := comT_b hEB (hd := 1) (lawNow (s 2)) wo T2.fb.1 hwo
      obtain ⟨⟨b1, -, -, -, -, b4, b5⟩, -, -, ⟨t10, l10, v10⟩, -⟩ := H2.2.2.2.2.1
      have w10 := v10 ow.toNat (by omega)
      rw [Int.toNat_of_nonneg h1.1, ← hu _ (by omega)] at w10
      refine ⟨g3, ?_, S3⟩
      unfold f_X0_deepBy_43
      rw [f_gR H2.2.1.1 (by decide), H2.2.1.2.1, Option.bind_some, f_gR b1 (by decide), b4, Option.bind_some, f_ld t10 (by decide) h1.1 (by omega) (by omega), Option.bind_some, w10, f_ce H2.2.1.1 (by decide), Option.bind_some, l2, Option.bind_some]
      simp only [f_gR H2.2.1.1 (by decide : (0:Nat) ≠ 999), H2.2.1.2.2.1.2.2.1, Option.bind_some, f_ce T2.2.1 (by decide : (4:Nat) ≠ 999)]
      rw [show (0 : Int) = 1 - 1 from rfl, e3, Option.bind_some, i2_of (by omega) (by omega), c_min2 (by omega) (by omega) (by omega) (by omega), Option.bind_some, c_max (by omega) (by omega) (by omega) (by omega)]
      rfl
    have wrap : ∀ wo : Int, (-1000000000 ≤ wo ∧ wo ≤ 1000000000) → max 0 (min (K (73 + 2 * ow)) wo) = (if oe = 0 then 0 else min (K (73 + 2 * ow)) (1 + oe.tdiv 100)) → ∃ h', f_X0_deepBy_43 E (some x) ow wo g2 = some (tellsS (lawNow (s 2)) (envL K ow vi oe ba (-1) (-1)) 1 (K (73 + 2 * ow)) (if oe = 0 then 0 else min (K (73 + 2 * ow)) (1 + oe.tdiv 100)), h') ∧ Kp x h h' ∧ h'.1 = h.1 ∧ h'.2.1 = h.2.1 ∧ ∀ b, b ≠ x + 15 → b ≠ x + 16 → hT h b ≠ 15 → h'.2.2 b = h.2.2 b := by
      intro wo hwo hw
      obtain ⟨g3, e3, S3⟩ := tail wo hwo
      refine ⟨g3, ?_, (k1.trans k2).trans (H2.scr S3), by rw [S3.1, S2.1, o1.1.1], by rw [S3.2.1, S2.2.1, o1.1.2.1], ?_⟩
      · rw [e3, clamp_fold (by omega), hw]
        rfl
      · intro b b1 b2 b3
        have := fin2 b b1 b2 b3
        rw [sc _ _ S3 b b1 (by unfold hT; rw [hC_eq this]; exact b3), this]
    by_cases ho : oe = 0
    · rw [if_pos (by rw [ho]; decide)]
      exact wrap 0 (by omega) (by rw [if_pos ho]; omega)
    · have h100 : ¬ i2 100 = 0 := by decide
      have hdv : 0 ≤ oe.tdiv 100 ∧ oe.tdiv 100 ≤ oe := by
        rw [Int.tdiv_eq_ediv_of_nonneg h3.1]
        omega
      rw [if_neg (by rw [i2_of (by omega) (by omega)]; exact ho), if_neg h100, show i2 100 = 100 by decide, i2_of (a := oe) (by omega) (by omega), i2_of (by omega) (by omega)]
      exact wrap (1 + oe.tdiv 100) (by omega) (by rw [if_neg ho]; omega)
end
