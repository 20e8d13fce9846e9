/-! The component's reader: leaves -/
set_option maxRecDepth 100000
section
variable {E : ax_E} {T : Rw} {N x i p w tg k : Nat} {a b lv dp pl v : Int} {g g' g0 : ax_H}
theorem RdG.nw {t n sl : Nat} (G : RdG E T N x i p w tg a b lv dp pl g) : RdG E T N x i p w tg a b lv dp pl (nwH g t n sl) ∧ RdR i p pl g (nwH g t n sl) := ⟨G.oth (Nat.le_succ _) (fun c hc => hC_nw_ne (by have := G.1.2.1; omega)), (RdR.refl i p pl g).oth G.1.2.1.2.2.2.2.2.2.2.1 (Nat.le_succ _) (Nat.le_add_right _ _) (fun c hc => hC_nw_ne (by omega))⟩
theorem RdG.wq {q j : Nat} (G : RdG E T N x i p w tg a b lv dp pl g) (hq : x + 116 ≤ q) (h : q ≠ i ∧ q ≠ p ∧ q ≠ w) : RdG E T N x i p w tg a b lv dp pl (wI g q j v) := G.oth (Nat.le_refl _) (fun c hc => hC_wI_ne (by omega))
theorem RdG.wqR {q j : Nat} {r : Option Nat} (G : RdG E T N x i p w tg a b lv dp pl g) (hq : x + 116 ≤ q) (h : q ≠ i ∧ q ≠ p ∧ q ≠ w) : RdG E T N x i p w tg a b lv dp pl (wR g q j r) := G.oth (Nat.le_refl _) (fun c hc => hC_wR_ne (by omega))
/-- a value's word -/
theorem c_part11 (G : RdC E T N x i p w tg k lv dp pl g) (r1 : g.1 + 1 ≤ E.1.1) (r2 : g.2.1 + 1 ≤ E.1.2) : ∃ g', f_X6_behindWord E (some i) v g = some (.inr (some g.1, g')) ∧ RdC E T N x i p w tg k lv dp pl g' ∧ RdR i p pl g g' ∧ (hT g' g.1 = 11 ∧ hI g' g.1 0 = v) ∧ g'.1 = g.1 + 1 ∧ g'.2.1 = g.2.1 + 1 := by
  have hp := G.1.2.1
  obtain ⟨h1, e1⟩ : ∃ h1, h1 = nwH g 11 0 1 := ⟨_, rfl⟩
  have n1 : RdC E T N x i p w tg k lv dp pl h1 ∧ RdR i p pl g h1 := by rw [e1]; exact RdG.nw G
  have t1 : hT h1 g.1 = 11 := by rw [e1]; exact hT_nw_eq
  refine ⟨wI h1 g.1 0 v, ?_, RdG.wq n1.1 (by omega) (by omega), n1.2.oth (by omega) (Nat.le_refl _) (Nat.le_refl _) (fun c hc => hC_wI_ne (by omega)), ⟨by rw [hT_wI]; exact t1, hI_wI_eq⟩, by rw [wI_1, e1]; rfl, by rw [wI_2, e1]; rfl⟩
  unfold f_X6_behindWord f_X11_init f_X9_init
  rw [f_nw r1 r2, Option.bind_some]
  dsimp only
  rw [← e1, Option.bind_some, Option.bind_some, Option.bind_some, Option.bind_some, f_pI t1 (by decide), Option.bind_some, Option.bind_some]
/-- an amount -/
theorem c_part10 (G : RdC E T N x i p w tg k lv dp pl g) (r1 : g.1 + 2 ≤ E.1.1) (r2 : g.2.1 + 8 ≤ E.1.2) : (cT T N k = 50 ∧ wT T N k ≤ 1000 → ∃ g', ((ax_nw E g 10 0 1).bind fun q5 => ax_tc (fun z7 => some (.inl z7)) (ax_dp E q5.2 (some i) fun t => if t = 25 ∨ t = 7 then f_X6_number E (some i) 1000 q5.2 else none) fun q6 => (some q5.1).bind fun _ => (f_X10_init E (some q5.1) q6.1 q6.2).bind fun h8 => some (.inr ((some q5.1), h8))) = (some (.inr (some g.1, g')) : Option ((Nat × ax_H) ⊕ (Option Nat × ax_H))) ∧ RdC E T N x i p w tg (k + 1) lv dp pl g' ∧ RdR i p pl g g' ∧ (hT g' g.1 = 10 ∧ hI g' g.1 0 = wT T N k) ∧ g'.1 = g.1 + 1 ∧ g'.2.1 = g.2.1 + 1)
    ∧ (¬ (cT T N k = 50 ∧ wT T N k ≤ 1000) → ∃ r, ((ax_nw E g 10 0 1).bind fun q5 => ax_tc (fun z7 => some (.inl z7)) (ax_dp E q5.2 (some i) fun t => if t = 25 ∨ t = 7 then f_X6_number E (some i) 1000 q5.2 else none) fun q6 => (some q5.1).bind fun _ => (f_X10_init E (some q5.1) q6.1 q6.2).bind fun h8 => some (.inr ((some q5.1), h8))) = (some (.inl r) : Option ((Nat × ax_H) ⊕ (Option Nat × ax_H))) ∧ RdW T N i p pl g k 2 8 r) := by
  have hp := G.1.2.1
  obtain ⟨h1, e1⟩ : ∃ h1, h1 = nwH g 10 0 1 := ⟨_, rfl⟩
  have n1 : RdC E T N x i p w tg k lv dp pl h1 ∧ RdR i p pl g h1 := by rw [e1]; exact RdG.nw G
  have t1 : hT h1 g.1 = 10 := by rw [e1]; exact hT_nw_eq
  have s1 : h1.1 = g.1 + 1 := by rw [e1]; rfl
  have s2 : h1.2.1 = g.2.1 + 1 := by rw [e1]; rfl
  have nu := c_rnum (most := 1000) n1.1 (by decide) (by omega) (by omega)
  rw [f_nw (by omega) (by omega), Option.bind_some]
  dsimp only
  rw [← e1, n1.1.1.dsp]
  constructor
  · intro h
    obtain ⟨h2, m1, m2, m3⟩ := nu.1 h
    have u := m3.2
    have t2 : hT h2 g.1 = 10 := by rw [(ceq (m3.1.2.2.1 g.1 (by omega) (by omega) (by omega))).1]; exact t1
    refine ⟨wI h2 g.1 0 (wT T N k), ?_, RdG.wq m2 (by omega) (by omega), (n1.2.trans m3.1 (Int.le_refl _)).oth (by omega) (Nat.le_refl _) (Nat.le_refl _) (fun c hc => hC_wI_ne (by omega)), ⟨by rw [hT_wI]; exact t2, hI_wI_eq⟩, by rw [wI_1]; omega, by rw [wI_2]; omega⟩
    unfold f_X10_init f_X9_init
    rw [m1, tc_r, Option.bind_some, Option.bind_some, Option.bind_some, Option.bind_some, f_pI t2 (by decide), Option.bind_some, Option.bind_some]
  · intro h
    obtain ⟨r, m1, m2⟩ := nu.2 h
    refine ⟨r, by rw [m1, tc_l], m2.of n1.2 (Int.le_refl _) (by omega) (by omega)⟩
/-- what a person has -/
theorem c_part12 (G : RdC E T N x i p w 25 k lv dp pl g) (r1 : g.1 + 2 ≤ E.1.1) (r2 : g.2.1 + 9 ≤ E.1.2) : (cT T N k = 50 ∧ wT T N k ≤ 6 → ∃ g', f_X25_behindWord E (some i) 4 g = some (.inr (some g.1, g')) ∧ RdC E T N x i p w 25 (k + 1) lv dp pl g' ∧ RdR i p pl g g' ∧ (hT g' g.1 = 12 ∧ hI g' g.1 0 = wT T N k ∧ hR g' g.1 1 = some x) ∧ g'.1 = g.1 + 1 ∧ g'.2.1 = g.2.1 + 2) ∧ (¬ (cT T N k = 50 ∧ wT T N k ≤ 6) → ∃ r, f_X25_behindWord E (some i) 4 g = some (.inl r) ∧ RdW T N i p pl g k 2 9 r) := by
  have hp := G.1.2.1
  obtain ⟨h1, e1⟩ : ∃ h1, h1 = nwH g 12 0 2 := ⟨_, rfl⟩
  have n1 : RdC E T N x i p w 25 k lv dp pl h1 ∧ RdR i p pl g h1 := by rw [e1]; exact RdG.nw G
  have t1 : hT h1 g.1 = 12 := by rw [e1]; exact hT_nw_eq
  have s1 : h1.1 = g.1 + 1 := by rw [e1]; rfl
  have s2 : h1.2.1 = g.2.1 + 2 := by rw [e1]; rfl
  have nu := c_rnum (most := 6) n1.1 (by decide) (by omega) (by omega)
  have iT := n1.1.1.2.2.2.2.2.2.2.2.2
  unfold f_X25_behindWord
  rw [if_pos rfl, f_nw (by omega) (by omega), Option.bind_some]
  dsimp only
  rw [← e1, f_gR iT.1 (by decide), Option.bind_some, iT.2.2.2.2.1 rfl, f_dp iT.1 (by decide), if_pos rfl]
  constructor
  · intro h
    obtain ⟨h2, m1, m2, m3⟩ := nu.1 h
    have u := m3.2
    have t2 : hT h2 g.1 = 12 := by rw [(ceq (m3.1.2.2.1 g.1 (by omega) (by omega) (by omega))).1]; exact t1
    obtain ⟨h3, e3⟩ : ∃ h3, h3 = wR h2 g.1 1 (some x) := ⟨_, rfl⟩
    have t3 : hT h3 g.1 = 12 := by rw [e3, hT_wR]; exact t2
    have G3 : RdC E T N x i p w 25 (k + 1) lv dp pl h3 := by rw [e3]; exact RdG.wqR m2 (by omega) (by omega)
    have s3 : h3.1 = h2.1 ∧ h3.2.1 = h2.2.1 := by rw [e3]; exact ⟨rfl, rfl⟩
    refine ⟨wI h3 g.1 0 (wT T N k), ?_, RdG.wq G3 (by omega) (by omega), (n1.2.trans m3.1 (Int.le_refl _)).oth (by omega) (by rw [wI_1]; omega) (by rw [wI_2]; omega) (fun c hc => by rw [hC_wI_ne (by omega), e3, hC_wR_ne (by omega)]), ⟨by rw [hT_wI]; exact t3, hI_wI_eq, by rw [hR_wI, e3]; exact hR_wR_eq⟩, by rw [wI_1]; omega, by rw [wI_2]; omega⟩
    unfold f_X12_init f_X9_init
    rw [m1, tc_r, Option.bind_some]
    dsimp only
    rw [f_pR t2 (by decide), Option.bind_some, ← e3, Option.bind_some, Option.bind_some, Option.bind_some, f_pI t3 (by decide), Option.bind_some, Option.bind_some]
  · intro h
    obtain ⟨r, m1, m2⟩ := nu.2 h
    refine ⟨r, by rw [m1, tc_l], m2.of n1.2 (Int.le_refl _) (by omega) (by omega)⟩
/-- what one owes another -/
theorem c_part13 (G : RdC E T N x i p w 25 k lv dp pl g) (r1 : g.1 + 2 ≤ E.1.1) (r2 : g.2.1 + 10 ≤ E.1.2) : (¬ (cT T N k = 50 ∧ wT T N k ≤ 6) → ∃ r, f_X25_behindWord E (some i) 5 g = some (.inl r) ∧ RdW T N i p pl g k 2 10 r) ∧ (cT T N k = 50 ∧ wT T N k ≤ 6 → ¬ (cT T N (k + 1 : Nat) = 50 ∧ wT T N (k + 1 : Nat) ≤ 6) → ∃ r, f_X25_behindWord E (some i) 5 g = some (.inl r) ∧ RdW T N i p pl g (k + 1 : Nat) 2 10 r) ∧ (cT T N k = 50 ∧ wT T N k ≤ 6 → cT T N (k + 1 : Nat) = 50 ∧ wT T N (k + 1 : Nat) ≤ 6 → ∃ g', f_X25_behindWord E (some i) 5 g = some (.inr (some g.1, g')) ∧ RdC E T N x i p w 25 (k + 2) lv dp pl g' ∧ RdR i p pl g g' ∧ (hT g' g.1 = 13 ∧ hI g' g.1 0 = wT T N k ∧ hI g' g.1 1 = wT T N (k + 1 : Nat) ∧ hR g' g.1 2 = some x) ∧ g'.1 = g.1 + 1 ∧ g'.2.1 = g.2.1 + 3) := by
  have hp := G.1.2.1
  have nu := c_rnum (most := 6) G (by decide) (by omega) (by omega)
  have iT := G.1.2.2.2.2.2.2.2.2.2
  unfold f_X25_behindWord
  rw [if_neg (by decide), if_pos rfl, f_dp iT.1 (by decide), if_pos rfl]
  by_cases h : cT T N k = 50 ∧ wT T N k ≤ 6
  · obtain ⟨g1, m1, m2, m3⟩ := nu.1 h
    have u := m3.2
    obtain ⟨h1, e1⟩ : ∃ h1, h1 = nwH g1 13 0 3 := ⟨_, rfl⟩
    have n1 : RdC E T N x i p w 25 (k + 1) lv dp pl h1 ∧ RdR i p pl g1 h1 := by rw [e1]; exact RdG.nw m2
    have t1 : hT h1 g.1 = 13 := by rw [e1, ← u.1]; exact hT_nw_eq
    have s1 : h1.1 = g.1 + 1 := by rw [e1, ← u.1]; rfl
    have s2 : h1.2.1 = g.2.1 + 3 := by rw [e1, ← u.2]; rfl
    have nu2 := c_rnum (most := 6) n1.1 (by decide) (by omega) (by omega)
    have iT1 := n1.1.1.2.2.2.2.2.2.2.2.2
    have R1 := m3.1.trans n1.2 (Int.le_refl _)
    rw [m1, tc_r]
    dsimp only
    rw [f_nw (by omega) (by omega), Option.bind_some]
    dsimp only
    rw [← e1, f_gR iT1.1 (by decide), Option.bind_some, iT1.2.2.2.2.1 rfl, f_dp iT1.1 (by decide), if_pos rfl, u.1]
    refine ⟨fun z => absurd h z, fun _ h2 => ?_, fun _ h2 => ?_⟩
    · obtain ⟨r, q1, q2⟩ := nu2.2 h2
      exact ⟨r, by rw [q1, tc_l], q2.of R1 (Int.le_refl _) (by omega) (by omega)⟩
    · obtain ⟨h2', q1, q2, q3⟩ := nu2.1 h2
      have v' := q3.2
      have t2 : hT h2' g.1 = 13 := by rw [(ceq (q3.1.2.2.1 g.1 (by omega) (by omega) (by omega))).1]; exact t1
      obtain ⟨h3, e3⟩ : ∃ h3, h3 = wR h2' g.1 2 (some x) := ⟨_, rfl⟩
      have t3 : hT h3 g.1 = 13 := by rw [e3, hT_wR]; exact t2
      have G3 : RdC E T N x i p w 25 (k + 1 + 1) lv dp pl h3 := by rw [e3]; exact RdG.wqR q2 (by omega) (by omega)
      have s3 : h3.1 = h2'.1 ∧ h3.2.1 = h2'.2.1 := by rw [e3]; exact ⟨rfl, rfl⟩
      obtain ⟨h4, e4⟩ : ∃ h4, h4 = wI h3 g.1 0 (wT T N k) := ⟨_, rfl⟩
      have t4 : hT h4 g.1 = 13 := by rw [e4, hT_wI]; exact t3
      have G4 : RdC E T N x i p w 25 (k + 1 + 1) lv dp pl h4 := by rw [e4]; exact RdG.wq G3 (by omega) (by omega)
      have s4 : h4.1 = h3.1 ∧ h4.2.1 = h3.2.1 := by rw [e4]; exact ⟨rfl, rfl⟩
      refine ⟨wI h4 g.1 1 (wT T N (k + 1 : Nat)), ?_, RdG.wq G4 (by omega) (by omega), (R1.trans q3.1 (Int.le_refl _)).oth (by omega) (by rw [wI_1]; omega) (by rw [wI_2]; omega) (fun c hc => by rw [hC_wI_ne (by omega), e4, hC_wI_ne (by omega), e3, hC_wR_ne (by omega)]), ⟨by rw [hT_wI]; exact t4, by rw [hI_wI_ne (by omega), e4]; exact hI_wI_eq, hI_wI_eq, by rw [hR_wI, e4, hR_wI, e3]; exact hR_wR_eq⟩, by rw [wI_1]; omega, by rw [wI_2]; omega⟩
      unfold f_X13_init f_X9_init
      rw [q1, tc_r, Option.bind_some]
      dsimp only
      rw [f_pR t2 (by decide), Option.bind_some, ← e3, Option.bind_some, Option.bind_some, Option.bind_some, f_pI t3 (by decide), Option.bind_some, ← e4, f_pI t4 (by decide), Option.bind_some, Option.bind_some]
  · obtain ⟨r, m1, m2⟩ := nu.2 h
    rw [m1, tc_l]
    exact ⟨fun _ => ⟨r, rfl, m2.of (RdR.refl _ _ _ _) (Int.le_refl _) (by omega) (by omega)⟩, fun z => absurd z h, fun z => absurd z h⟩
end
