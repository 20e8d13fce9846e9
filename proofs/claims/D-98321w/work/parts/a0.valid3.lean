/-! Repayments, sales keep what holds -/
set_option maxRecDepth 100000
theorem RV.cred {n d b : Int} {K : Rw} (H : RV n K) (h0 : 0 ≤ d) (h1 : d < K 71) (hb : 0 ≤ b ∧ b < n) (hne : K (7 + 4 * d) ≠ b) : RV n (u1 K (7 + 4 * d + 1) b) := by
  obtain ⟨a1, a2, a3, a4⟩ := H
  refine ⟨by rw [u1_ne _ (by omega)]; exact a1, by rw [u1_ne _ (by omega)]; exact a2, fun p p0 p1 => by rw [u1_ne _ (by omega)]; exact a3 p p0 p1, fun k k0 k1 => ?_⟩
  rw [u1_ne _ (by omega)] at k1
  obtain ⟨b1, b2, b3, b4, b5⟩ := a4 k k0 k1
  have n0 : u1 K (7 + 4 * d + 1) b (7 + 4 * k) = K (7 + 4 * k) := u1_ne _ (by omega)
  have n2 : u1 K (7 + 4 * d + 1) b (7 + 4 * k + 2) = K (7 + 4 * k + 2) := u1_ne _ (by omega)
  have n3 : u1 K (7 + 4 * d + 1) b (7 + 4 * k + 3) = K (7 + 4 * k + 3) := u1_ne _ (by omega)
  rw [n0, n2, n3]
  by_cases e : k = d
  · subst e
    rw [u1_eq]
    exact ⟨b1, hb, hne, b4, b5⟩
  · rw [u1_ne _ (by omega)]
    exact ⟨b1, b2, b3, b4, b5⟩
theorem repayO_VS {n p q a : Int} {s : Sg} (H : VS n s) (ha : i2 a = a) : VS n (repayO s p q a).2 := by
  have hn := H.2.1.1
  have hR := H.2.1.2.2.2.2
  have h71 := hR.1
  unfold repayO
  split
  · exact H
  · split
    · exact H
    · split
      · exact H
      · rename_i c1 c2 c3
        have c2' : (0 ≤ p ∧ p ≤ s 2 152 - 1) ∧ (0 ≤ q ∧ q ≤ s 2 152 - 1) := by omega
        have v1 := hR.2.2.1 p (by omega) (by omega)
        have v2 := hR.2.2.1 q (by omega) (by omega)
        have ho := owed_b hR p q
        have hc : p ≠ q ∧ 0 ≤ canRepayS (s 2) p q a ∧ canRepayS (s 2) p q a ≤ s 2 p ∧ s 2 q + canRepayS (s 2) p q a ≤ 9999 := by
          unfold canRepayS at c3 ⊢
          by_cases e : p = q
          · rw [if_pos e] at c3
            exact absurd rfl c3
          · rw [if_neg e] at c3 ⊢
            omega
        have hP := pay_RV hR (show 0 ≤ p ∧ p < 7 by omega) (show 0 ≤ q ∧ q < 7 by omega) hc.1 hc.2.1 hc.2.2.1 hc.2.2.2
        have hp : p ≠ q := hc.1
        have h32 := pay_32 (a := canRepayS (s 2) p q a) (H.1 2) (g := p) (t := q) (i2_of (by omega) (by omega)) (by rw [u1_ne _ (by omega)]; exact i2_of (by omega) (by omega))
        refine VS_act H (by decide) ?_ ?_ (fun i hi => rep_up h71.2 (by omega) (by omega) i hi)
        · unfold repaysS lowersS
          exact lowF_RV _ _ _ _ hP (by decide) hc.2.1
        · unfold repaysS lowersS
          exact lowF_32 _ _ _ _ hP h32 (by decide) hc.2.1
theorem sellS_VS {n d b : Int} {s : Sg} (H : VS n s) (hb : i2 b = b) : VS n (sellS s d b).2 := by
  have hn := H.2.1.1
  have hR := H.2.1.2.2.2.2
  have h71 := hR.1
  unfold sellS
  split
  · exact H
  · rename_i c0
    split
    · exact H
    · rename_i c3
      have c0' : (0 ≤ d ∧ d ≤ s 2 71 - 1) ∧ (0 ≤ b ∧ b ≤ s 2 152 - 1) := by omega
      obtain ⟨k1, k2, k3, k4, k5⟩ := hR.2.2.2 d (by omega) (by omega)
      have hs := sold_b (K := s 2) (d := d) (by omega)
      have c3' : s 2 (7 + 4 * d) ≠ b ∧ s 2 (7 + 4 * d + 1) ≠ b ∧ soldS (s 2) d ≤ s 2 b ∧ s 2 (s 2 (7 + 4 * d + 1)) + soldS (s 2) d ≤ 9999 := Classical.not_not.mp c3
      obtain ⟨e1, e2, e3, e4⟩ := c3'
      have v1 := hR.2.2.1 b (by omega) (by omega)
      have v2 := hR.2.2.1 (s 2 (7 + 4 * d + 1)) (by omega) (by omega)
      have hP := pay_RV hR (show 0 ≤ b ∧ b < 7 by omega) (show 0 ≤ s 2 (7 + 4 * d + 1) ∧ s 2 (7 + 4 * d + 1) < 7 by omega) (Ne.symm e2) hs.1 e3 e4
      have h32 := pay_32 (a := soldS (s 2) d) (H.1 2) (g := b) (t := s 2 (7 + 4 * d + 1)) (i2_of (by omega) (by omega)) (by rw [u1_ne _ (by omega)]; exact i2_of (by omega) (by omega))
      refine VS_act H (by decide) ?_ ?_ (fun i hi => ?_)
      · refine hP.cred (by omega) ?_ (by omega) ?_
        · rw [pay_u (by omega) (by omega) (by omega)]; omega
        · rw [pay_u (by omega) (by omega) (by omega)]; exact e1
      · exact u1_32 h32 hb
      · rw [u1_ne _ (by omega), pay_u (by omega) (by omega) (by omega)]
