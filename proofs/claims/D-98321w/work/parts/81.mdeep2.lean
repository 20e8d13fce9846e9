/-! THE MODEL: how deep one gets, what debts grow by -/
set_option maxRecDepth 100000
def askR (s : Sg) (ow vi oe ba am ag : Int) : Rw := (u1 (u1 (u1 (u1 (u1 (u1 (u1 (u1 (u1 (u1 (s 12) 0 ow) 1 vi) 2 oe) 3 ba) 4 (s 2 (73 + 2 * ow))) 5 (s 2 (73 + 2 * ow + 1))) 6 am) 7 ag) 8 (s 2 72)) 9 (s 2 151))
theorem askR_eq {s : Sg} {ow vi oe ba am ag : Int} (k : Int) (h0 : 0 ≤ k) (h1 : k < 10) : askR s ow vi oe ba am ag k = (envL (s 2) ow vi oe ba am ag).1 k := by
  have : k = 0 ∨ k = 1 ∨ k = 2 ∨ k = 3 ∨ k = 4 ∨ k = 5 ∨ k = 6 ∨ k = 7 ∨ k = 8 ∨ k = 9 := by omega
  rcases this with e | e | e | e | e | e | e | e | e | e <;> subst e <;> simp [askR, envL, numL, u1]
section
variable {E : ax_E} {m : Nat} {s : Sg} {h : ax_H}
theorem m_sets {ow vi oe ba am ag : Int} (h0 : 0 ≤ ow ∧ ow < 7) : f_X5_sets E (some m) ow vi oe ba am ag (mdl m s h) = some (mdl m (sw s 12 (askR s ow vi oe ba am ag)) h) := by
  unfold f_X5_sets
  have p1 : ∀ g : ax_H, f_X5_placeOf E ow 1 g = some (73 + 2 * ow, g) := by
    intro g
    rw [m_placeOf (by decide), if_neg (by decide), show 73 + 2 * ow + 1 - 1 = 73 + 2 * ow by omega]
  have p2 : ∀ g : ax_H, f_X5_placeOf E ow 2 g = some (73 + 2 * ow + 1, g) := by
    intro g
    rw [m_placeOf (by decide), if_neg (by decide), show 73 + 2 * ow + 2 - 1 = 73 + 2 * ow + 1 by omega]
  simp (disch := omega) only [md_gR24, md_gR2, md_sto12, md_ld2, p1, p2, Option.bind_some, sw_eq, sw_sw, sw_ne]
  rfl
theorem Es_ask {R : Rw} (hR : K32 R) : Es s (sw s 12 R) := ⟨fun o _ h2 => sw_ne _ h2, fun k _ _ _ _ => by rw [sw_ne _ (by decide)], fun g => G32_sw g hR⟩
theorem askR_32 {ow vi oe ba am ag : Int} (hG : G32 s) (h1 : i2 ow = ow) (h2 : i2 vi = vi) (h3 : i2 oe = oe) (h4 : i2 ba = ba) (h5 : i2 am = am) (h6 : i2 ag = ag) : K32 (askR s ow vi oe ba am ag) := by
  unfold askR
  exact u1_32 (u1_32 (u1_32 (u1_32 (u1_32 (u1_32 (u1_32 (u1_32 (u1_32 (u1_32 (hG 12) h1) h2) h3) h4) (hG 2 _)) (hG 2 _)) h5) h6) (hG 2 _)) (hG 2 _)
theorem m_deepBy {ow vi oe ba : Int} (hG : G32 s) (hK : KB (s 2)) (hL : LsV (s 2)) (h1 : 0 ≤ ow ∧ ow < s 2 152) (h2 : 0 ≤ vi ∧ vi < s 2 152) (h3 : 0 ≤ oe ∧ oe ≤ 1000000) (h4 : 0 ≤ ba ∧ ba ≤ 1000000) : ∃ s', f_X5_deepBy E (some m) ow vi oe ba (mdl m s h) = some (deepByS (s 2) ow vi oe ba, mdl m s' h) ∧ Es s s' := by
  have hn := hK.1
  obtain ⟨r1, r2⟩ := hK.2.2.2.1 ow h1.1 h1.2
  have hEB : EB (envL (s 2) ow vi oe ba (-1) (-1)) := envL_b hK h1 h2 (by omega) (by omega) (by omega) (by omega)
  have g1 : Es s (sw s 12 (askR s ow vi oe ba (-1) (-1))) := Es_ask (askR_32 hG (i2_of (by omega) (by omega)) (i2_of (by omega) (by omega)) (i2_of (by omega) (by omega)) (i2_of (by omega) (by omega)) (by decide) (by decide))
  obtain ⟨s1, hs1⟩ : ∃ s1 : Sg, s1 = sw s 12 (askR s ow vi oe ba (-1) (-1)) := ⟨_, rfl⟩
  rw [← hs1] at g1
  have k1 := g1.k
  have r12 : s1 12 = askR s ow vi oe ba (-1) (-1) := by rw [hs1, sw_eq]
  have hV1 : ∀ k : Int, 0 ≤ k → k < 10 → s1 12 k = (envL (s 2) ow vi oe ba (-1) (-1)).1 k := by
    intro k k0 k1
    rw [r12, askR_eq k k0 k1]
  obtain ⟨s2, e2, g2, q2⟩ := m_tells (E := E) (m := m) (h := h) (hd := 4) (hi := 1) (wo := 0) (g1.2.2 hG) (by rw [k1]; exact hK) (by rw [k1]; exact hL) hV1 hEB (by decide) (by decide) (by decide)
  have k2 : s2 2 = s 2 := g2.k.trans k1
  have pl : ∀ g : ax_H, f_X5_placeOf E ow 1 g = some (73 + 2 * ow, g) := by
    intro g
    rw [m_placeOf (by decide), if_neg (by decide), show 73 + 2 * ow + 1 - 1 = 73 + 2 * ow by omega]
  have n1 : i2 1 = 1 := by decide
  have hr := fold_range (e := envL (s 2) ow vi oe ba (-1) (-1)) (hd := 4) (hi := 1) (by decide) (lawNow (s 2)) 0 (by decide)
  unfold f_X5_deepBy
  rw [md_gR2, Option.bind_some, pl, Option.bind_some, md_ld2 (by omega) (by omega), Option.bind_some, md_ce, Option.bind_some, m_sets (by omega), Option.bind_some, ← hs1, md_ce, Option.bind_some, e2, Option.bind_some, n1, i2_of (by rw [k1]; omega) (by rw [k1]; omega), k1]
  dsimp only
  unfold deepByS
  by_cases hb : tellsS (lawNow (s 2)) (envL (s 2) ow vi oe ba (-1) (-1)) 4 1 0 = 1
  · rw [if_pos hb, if_pos hb]
    exact ⟨s2, rfl, g1.trans g2⟩
  · rw [if_neg hb, if_neg hb]
    have fin : ∀ wo : Int, i2 wo = wo → ∃ s', f_X5_deepBy_59 E (some m) 1 (s 2 (73 + 2 * ow)) wo (mdl m s2 h) = some (tellsS (lawNow (s 2)) (envL (s 2) ow vi oe ba (-1) (-1)) 1 (s 2 (73 + 2 * ow)) wo, mdl m s' h) ∧ Es s s' := by
      intro wo hwo
      obtain ⟨s3, e3, g3, -⟩ := m_tells (E := E) (m := m) (h := h) (hd := 1) (hi := s 2 (73 + 2 * ow)) (wo := wo) (g2.2.2 (g1.2.2 hG)) (by rw [k2]; exact hK) (by rw [k2]; exact hL) (fun k k0 k1 => by rw [q2]; exact hV1 k k0 k1) hEB (by omega) (by decide) hwo
      refine ⟨s3, ?_, (g1.trans g2).trans g3⟩
      unfold f_X5_deepBy_59
      rw [md_ce, Option.bind_some, e3, k2]
      rfl
    by_cases ho : oe = 0
    · rw [if_pos (by rw [ho]; decide), if_pos ho]
      exact fin 0 (by decide)
    · have h100 : ¬ i2 100 = 0 := by decide
      have hdv : 0 ≤ oe.tdiv 100 ∧ oe.tdiv 100 ≤ oe := by
        rw [Int.tdiv_eq_ediv_of_nonneg h3.1]
        omega
      rw [if_neg (by rw [i2_of (by omega) (by omega)]; exact ho), if_neg h100, if_neg ho, show i2 100 = 100 by decide, i2_of (a := oe) (by omega) (by omega), m_lesser (i2_of (by omega) (by omega)) (i2_of (by omega) (by omega)), Option.bind_some]
      exact fin _ (i2_of (by omega) (by omega))
theorem m_deepNow {ow vi : Int} (hG : G32 s) (hK : KB (s 2)) (hL : LsV (s 2)) (h1 : 0 ≤ ow ∧ ow < s 2 152) (h2 : 0 ≤ vi ∧ vi < s 2 152) : ∃ s', f_X5_deepNow E (some m) ow vi (mdl m s h) = some (deepS (s 2) ow vi, mdl m s' h) ∧ Es s s' := by
  have hn := hK.1
  have d1 := hK.2.2.2.2.1
  have b1 := owed_b hK.2.2.2.2 ow vi
  have b2 := owed_b hK.2.2.2.2 vi ow
  obtain ⟨s', e1, g1⟩ := m_deepBy (E := E) (m := m) (h := h) (oe := owed (s 2) ow vi) (ba := owed (s 2) vi ow) hG hK hL h1 h2 (by omega) (by omega)
  refine ⟨s', ?_, g1⟩
  unfold f_X5_deepNow
  simp only [md_ce, Option.bind_some, m_owed hG d1.1 d1.2 (i2_of (show -2147483648 ≤ ow by omega) (by omega)) (i2_of (show -2147483648 ≤ vi by omega) (by omega)), m_owed hG d1.1 d1.2 (i2_of (show -2147483648 ≤ vi by omega) (by omega)) (i2_of (show -2147483648 ≤ ow by omega) (by omega)), e1]
  rfl
end
