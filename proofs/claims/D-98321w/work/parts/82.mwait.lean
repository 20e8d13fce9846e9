/-! THE MODEL: debts grow, a day goes by -/
set_option maxRecDepth 100000
theorem KB.low {K K' : Rw} (H : KB K) (hu : ∀ i, 73 ≤ i → K' i = K i) (hR : RV (K 152) K') : KB K' := by
  obtain ⟨a1, a2, a3, a4, a5⟩ := H
  unfold KB
  rw [hu 152 (by omega), hu 151 (by omega), hu 156 (by omega), hu 155 (by omega)]
  refine ⟨a1, a2, a3, fun p h0 h1 => ?_, hR⟩
  rw [hu _ (by omega), hu _ (by omega)]
  exact a4 p h0 h1
theorem LsV.low {K K' : Rw} (H : LsV K) (hu : ∀ i, 73 ≤ i → K' i = K i) : LsV K' := by
  intro t h0 h1
  rw [hu 155 (by omega)] at h1
  obtain ⟨a, b, L, c⟩ := H t h0 h1
  have e1 : valuesS K' t = valuesS K t := by
    unfold valuesS
    rw [hu (157 + t) (by omega)]
    exact cut_congr (fun k k0 k1 => hu _ (by omega))
  refine ⟨by rw [hu (157 + t) (by omega)]; exact a, by rw [e1]; exact b, L, ?_⟩
  rw [lawAt_congr (hu _ (by omega)) (fun k k0 k1 => hu _ (by omega)) (fun k k0 k1 => hu _ (by omega))]
  exact c
theorem grows_b (K : Rw) (d : Int) : 0 ≤ growsS K d ∧ growsS K d ≤ 99 := fold_range (by decide) _ _ (by decide)
theorem sold_b {K : Rw} {d : Int} (h : 0 ≤ K (7 + 4 * d + 2) ∧ K (7 + 4 * d + 2) ≤ 9999) : 0 ≤ soldS K d ∧ soldS K d ≤ 9999 := fold_range (by decide) _ _ h
theorem waitT_s (K : Rw) (k : Nat) : (waitT K (k + 1)).2 = u1 (waitT K k).2 (7 + 4 * (k : Int) + 2) (min 9999 ((waitT K k).2 (7 + 4 * (k : Int) + 2) + ((waitT K k).2 (7 + 4 * (k : Int) + 2) * growsS (waitT K k).2 k).tdiv 100)) := rfl
theorem waitT_0 (K : Rw) : (waitT K 0).2 = u1 K 72 (K 72 + 1) := rfl
theorem waitT_up (K : Rw) : ∀ (k : Nat) (i : Int), (i < 7 ∨ i = 71 ∨ 73 ≤ i) → (k : Int) ≤ 16 → (waitT K k).2 i = K i := by
  intro k
  induction k with
  | zero => intro i hi _; exact u1_ne _ (by omega)
  | succ k ih =>
    intro i hi hk
    have := ih i hi (by omega)
    rw [waitT_s, u1_ne _ (by omega)]
    exact this
theorem waitT_72 (K : Rw) : ∀ (k : Nat), (k : Int) ≤ 16 → (waitT K k).2 72 = K 72 + 1 := by
  intro k
  induction k with
  | zero => intro _; rw [waitT_0]; exact u1_eq _ _ _
  | succ k ih =>
    intro hk
    rw [waitT_s, u1_ne _ (by omega)]
    exact ih (by omega)
theorem grow_b {a g : Int} (ha : 1 ≤ a ∧ a ≤ 9999) (hg : 0 ≤ g ∧ g ≤ 99) : 0 ≤ a * g ∧ a * g ≤ 989901 ∧ 0 ≤ (a * g).tdiv 100 ∧ (a * g).tdiv 100 ≤ 9899 := by
  have h1 : 0 ≤ a * g := Int.mul_nonneg (by omega) hg.1
  have h2 : a * g ≤ 9999 * 99 := Int.mul_le_mul ha.2 hg.2 hg.1 (by decide)
  rw [Int.tdiv_eq_ediv_of_nonneg h1]
  omega
theorem waitT_RV {n : Int} {K : Rw} (H : RV n K) (hd : K 72 ≤ 998) : ∀ (k : Nat), (k : Int) ≤ K 71 → RV n (waitT K k).2 := by
  intro k
  induction k with
  | zero =>
    intro _
    obtain ⟨a, b, c, e⟩ := H
    have hw : (waitT K 0).2 = u1 K 72 (K 72 + 1) := rfl
    rw [hw]
    refine ⟨by rw [u1_ne _ (by omega)]; exact a, by rw [u1_eq]; omega, fun p p0 p1 => by rw [u1_ne _ (by omega)]; exact c p p0 p1, fun d d0 d1 => ?_⟩
    rw [u1_ne _ (by omega)] at d1
    rw [u1_ne _ (by omega), u1_ne _ (by omega), u1_ne _ (by omega), u1_ne _ (by omega)]
    exact e d d0 d1
  | succ k ih =>
    intro hk
    have ha := H.1
    have H1 := ih (by omega)
    have h71 := waitT_up K k 71 (by omega) (by omega)
    obtain ⟨-, -, -, e4, -⟩ := H1.2.2.2 k (by omega) (by omega)
    have hg := grows_b (waitT K k).2 k
    have hb := grow_b e4 hg
    rw [waitT_s]
    exact H1.amount (by omega) (by omega) (by omega)
theorem waitT_32 {n : Int} {K : Rw} (H : RV n K) (hK : K32 K) (hd : K 72 ≤ 998) : ∀ (k : Nat), (k : Int) ≤ K 71 → K32 (waitT K k).2 := by
  intro k
  have ha := H.1
  have hc := H.2.1
  induction k with
  | zero => intro _; exact u1_32 hK (i2_of (by omega) (by omega))
  | succ k ih =>
    intro hk
    have H1 := waitT_RV H hd k (by omega)
    have h71 := waitT_up K k 71 (by omega) (by omega)
    obtain ⟨-, -, -, e4, -⟩ := H1.2.2.2 k (by omega) (by omega)
    have hg := grows_b (waitT K k).2 k
    have hb := grow_b e4 hg
    rw [waitT_s]
    exact u1_32 (ih (by omega)) (i2_of (by omega) (by omega))
theorem waitT_v {n : Int} {K : Rw} (H : RV n K) (hd : K 72 ≤ 998) : ∀ (k : Nat), (k : Int) ≤ K 71 → 0 ≤ (waitT K k).1 ∧ (waitT K k).1 ≤ 10000 * k := by
  intro k
  have ha := H.1
  induction k with
  | zero =>
    intro _
    show (0 : Int) ≤ 0 ∧ (0 : Int) ≤ 10000 * ((0 : Nat) : Int)
    omega
  | succ k ih =>
    intro hk
    have H1 := waitT_RV H hd k (by omega)
    have h71 := waitT_up K k 71 (by omega) (by omega)
    obtain ⟨-, -, -, e4, -⟩ := H1.2.2.2 k (by omega) (by omega)
    have hg := grows_b (waitT K k).2 k
    have hb := grow_b e4 hg
    have := ih (by omega)
    rw [waitT]
    dsimp only
    omega
section
variable {E : ax_E} {m : Nat} {s : Sg} {h : ax_H}
theorem m_tellsD {hd hi wo d : Int} (hG : G32 s) (hK : KB (s 2)) (hL : LsV (s 2)) (h1 : 0 ≤ d ∧ d < s 2 71) (hhi : 0 ≤ hi ∧ hi ≤ 100000) (hhd : i2 hd = hd) (hwo : i2 wo = wo) : ∃ s1, f_X5_setsDebt E (some m) d (mdl m s h) = some (mdl m s1 h) ∧ Es s s1 ∧ ∃ s2, f_X5_tells E (some m) hd hi wo (mdl m s1 h) = some (tellsS (lawNow (s 2)) (envD (s 2) d) hd hi wo, mdl m s2 h) ∧ Es s s2 := by
  have hn := hK.1
  have hRV := hK.2.2.2.2
  have d1 := hRV.1
  have d2 := hRV.2.1
  obtain ⟨q1, q2, q3, q4, q5⟩ := hRV.2.2.2 d h1.1 h1.2
  have b1 := owed_b hRV (s 2 (7 + 4 * d)) (s 2 (7 + 4 * d + 1))
  have b2 := owed_b hRV (s 2 (7 + 4 * d + 1)) (s 2 (7 + 4 * d))
  have hEB : EB (envD (s 2) d) := envL_b hK q1 q2 (by omega) (by omega) (by omega) (by omega)
  have g1 : Es s (sw s 12 (askR s (s 2 (7 + 4 * d)) (s 2 (7 + 4 * d + 1)) (owed (s 2) (s 2 (7 + 4 * d)) (s 2 (7 + 4 * d + 1))) (owed (s 2) (s 2 (7 + 4 * d + 1)) (s 2 (7 + 4 * d))) (s 2 (7 + 4 * d + 2)) (s 2 72 - s 2 (7 + 4 * d + 3)))) := Es_ask (askR_32 hG (hG 2 _) (hG 2 _) (i2_of (by omega) (by omega)) (i2_of (by omega) (by omega)) (hG 2 _) (i2_of (by omega) (by omega)))
  refine ⟨_, ?_, g1, ?_⟩
  · unfold f_X5_setsDebt
    simp (disch := first | omega | exact hG _ _) only [md_gR2, md_ld2, md_ce, Option.bind_some, m_owed hG d1.1 d1.2 (hG 2 (7 + 4 * d)) (hG 2 (7 + 4 * d + 1)), m_owed hG d1.1 d1.2 (hG 2 (7 + 4 * d + 1)) (hG 2 (7 + 4 * d)), m_sets (show 0 ≤ s 2 (7 + 4 * d) ∧ s 2 (7 + 4 * d) < 7 by omega)]
  · have hV1 : ∀ k : Int, 0 ≤ k → k < 10 → (sw s 12 (askR s (s 2 (7 + 4 * d)) (s 2 (7 + 4 * d + 1)) (owed (s 2) (s 2 (7 + 4 * d)) (s 2 (7 + 4 * d + 1))) (owed (s 2) (s 2 (7 + 4 * d + 1)) (s 2 (7 + 4 * d))) (s 2 (7 + 4 * d + 2)) (s 2 72 - s 2 (7 + 4 * d + 3)))) 12 k = (envD (s 2) d).1 k := by
      intro k k0 k1
      rw [sw_eq, askR_eq k k0 k1]
      rfl
    obtain ⟨s2, e2, g2, -⟩ := m_tells (E := E) (m := m) (h := h) (hd := hd) (hi := hi) (wo := wo) (g1.2.2 hG) (by rw [g1.k]; exact hK) (by rw [g1.k]; exact hL) hV1 hEB hhi hhd hwo
    rw [g1.k] at e2
    exact ⟨s2, e2, g1.trans g2⟩
theorem m_growsBy {d : Int} (hG : G32 s) (hK : KB (s 2)) (hL : LsV (s 2)) (h1 : 0 ≤ d ∧ d < s 2 71) : ∃ s', f_X5_growsBy E (some m) d (mdl m s h) = some (growsS (s 2) d, mdl m s' h) ∧ Es s s' := by
  obtain ⟨s1, e1, g1, s2, e2, g2⟩ := m_tellsD (E := E) (m := m) (h := h) (hd := 2) (hi := 99) (wo := 0) hG hK hL h1 (by decide) (by decide) (by decide)
  refine ⟨s2, ?_, g2⟩
  unfold f_X5_growsBy
  rw [md_ce, Option.bind_some, e1, Option.bind_some, md_ce, Option.bind_some, e2]
  rfl
theorem m_soldFor {d : Int} (hG : G32 s) (hK : KB (s 2)) (hL : LsV (s 2)) (h1 : 0 ≤ d ∧ d < s 2 71) : ∃ s', f_X5_soldFor E (some m) d (mdl m s h) = some (soldS (s 2) d, mdl m s' h) ∧ Es s s' := by
  have d1 := hK.2.2.2.2.1
  obtain ⟨s1, e1, g1, s2, e2, g2⟩ := m_tellsD (E := E) (m := m) (h := h) (hd := 3) (hi := 9999) (wo := s 2 (7 + 4 * d + 2)) hG hK hL h1 (by decide) (by decide) (hG 2 _)
  refine ⟨s2, ?_, g2⟩
  unfold f_X5_soldFor
  rw [md_ce, Option.bind_some, e1, Option.bind_some, md_gR2, Option.bind_some, md_ld2 (by omega) (by omega), Option.bind_some, g1.k, md_ce, Option.bind_some, e2]
  rfl
end
