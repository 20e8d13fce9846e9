/-! What holds between calls: acts on the books keep it -/
set_option maxRecDepth 100000
theorem VW_act {n w : Int} {s : Sg} {K : Rw} (H : VW n s) (hw : 0 ≤ w ∧ w ≤ 5) (hR : RV (s 2 152) K) (h32 : ∀ i, i2 (K i) = K i) (hu : ∀ i, 73 ≤ i → K i = s 2 i) : VW n (sw (keepsS s w) 2 K) := H.low (VS_act H.1 hw hR h32 hu) (Low_act hu)
theorem waitO_VW {n : Int} {s : Sg} (H : VW n s) : VW n (waitO s).2 := by
  have hR := H.1.2.1.2.2.2.2
  have h71 := hR.1
  have h72 := hR.2.1
  unfold waitO
  split
  · exact H
  · unfold waitsS
    refine VW_act H (by decide) (waitT_RV hR (by omega) _ (by omega)) (waitT_32 hR (H.1.1 2) (by omega) _ (by omega)) (fun i hi => waitT_up _ _ i (by omega) (by omega))
theorem forgS_VW {n d : Int} {s : Sg} (H : VW n s) : VW n (forgS s d).2 := by
  have hR := H.1.2.1.2.2.2.2
  have h71 := hR.1
  unfold forgS
  split
  · exact H
  · exact VW_act H (by decide) (hR.drop (by omega) (by omega)) (removes_32 (H.1.1 2) h71.1 h71.2) (fun i hi => rem_u s d (by omega) h71.2 i hi)

theorem lendS_VW {n g r a : Int} {s : Sg} (H : VW n s) : VW n (lendS s g r a).2 := by
  have hn := H.1.2.1.1
  have hR := H.1.2.1.2.2.2.2
  have h71 := hR.1
  unfold lendS
  split
  · exact H
  · split
    · exact H
    · split
      · exact H
      · split
        · exact H
        · rename_i c1 c2 c3 c4
          have c1' : 1 ≤ a ∧ a ≤ 9999 := by omega
          have c2' : (0 ≤ g ∧ g ≤ s 2 152 - 1) ∧ (0 ≤ r ∧ r ≤ s 2 152 - 1) := by omega
          have c3' : g ≠ r ∧ a ≤ s 2 g ∧ s 2 r + a ≤ 9999 := by
            by_cases e : g ≠ r ∧ a ≤ s 2 g ∧ s 2 r + a ≤ 9999
            · exact e
            · exact absurd e c3
          have v1 := hR.2.2.1 g (by omega) (by omega)
          have v2 := hR.2.2.1 r (by omega) (by omega)
          have hP := pay_RV hR (show 0 ≤ g ∧ g < 7 by omega) (show 0 ≤ r ∧ r < 7 by omega) c3'.1 (by omega) c3'.2.1 c3'.2.2
          have e71 : payS (s 2) g r a 71 = s 2 71 := pay_u (by omega) (by omega) (by omega)
          have h32 := pay_32 (a := a) (H.1.1 2) (g := g) (t := r) (i2_of (by omega) (by omega)) (by rw [u1_ne _ (by omega)]; exact i2_of (by omega) (by omega))
          refine VW_act H (by decide) ?_ ?_ (fun i hi => ?_)
          · exact hP.adds (by omega) (by omega) (by omega) (by omega) c1'
          · unfold lendsS addsS
            have := hR.2.1
            have e72 : payS (s 2) g r a 72 = s 2 72 := pay_u (by omega) (by omega) (by omega)
            refine u1_32 (u1_32 (u1_32 (u1_32 (u1_32 h32 (i2_of (by omega) (by omega))) (i2_of (by omega) (by omega))) (i2_of (by omega) (by omega))) (h32 72)) (i2_of (by omega) (by omega))
          · unfold lendsS addsS
            rw [u1_ne _ (by omega), u1_ne _ (by omega), u1_ne _ (by omega), u1_ne _ (by omega), u1_ne _ (by omega), pay_u (by omega) (by omega) (by omega)]

theorem repayO_VW {n p q a : Int} {s : Sg} (H : VW n s) (ha : i2 a = a) : VW n (repayO s p q a).2 := by
  have hn := H.1.2.1.1
  have hR := H.1.2.1.2.2.2.2
  have h71 := hR.1
  unfold repayO
  split
  · exact H
  · split
    · exact H
    · split
      · exact H
      · rename_i c1 c2 c3
        have c2' : (0 ≤ p ∧ p ≤ s 2 152 - 1) ∧ (0 ≤ q ∧ q ≤ s 2 152 - 1) := by omega
        have v1 := hR.2.2.1 p (by omega) (by omega)
        have v2 := hR.2.2.1 q (by omega) (by omega)
        have ho := owed_b hR p q
        have hc : p ≠ q ∧ 0 ≤ canRepayS (s 2) p q a ∧ canRepayS (s 2) p q a ≤ s 2 p ∧ s 2 q + canRepayS (s 2) p q a ≤ 9999 := by
          unfold canRepayS at c3 ⊢
          by_cases e : p = q
          · rw [if_pos e] at c3
            exact absurd rfl c3
          · rw [if_neg e] at c3 ⊢
            omega
        have hP := pay_RV hR (show 0 ≤ p ∧ p < 7 by omega) (show 0 ≤ q ∧ q < 7 by omega) hc.1 hc.2.1 hc.2.2.1 hc.2.2.2
        have hp : p ≠ q := hc.1
        have h32 := pay_32 (a := canRepayS (s 2) p q a) (H.1.1 2) (g := p) (t := q) (i2_of (by omega) (by omega)) (by rw [u1_ne _ (by omega)]; exact i2_of (by omega) (by omega))
        refine VW_act H (by decide) ?_ ?_ (fun i hi => rep_up h71.2 (by omega) (by omega) i hi)
        · unfold repaysS lowersS
          exact lowF_RV _ _ _ _ hP (by decide) hc.2.1
        · unfold repaysS lowersS
          exact lowF_32 _ _ _ _ hP h32 (by decide) hc.2.1
theorem sellS_VW {n d b : Int} {s : Sg} (H : VW n s) (hb : i2 b = b) : VW n (sellS s d b).2 := by
  have hn := H.1.2.1.1
  have hR := H.1.2.1.2.2.2.2
  have h71 := hR.1
  unfold sellS
  split
  · exact H
  · rename_i c0
    split
    · exact H
    · rename_i c3
      have c0' : (0 ≤ d ∧ d ≤ s 2 71 - 1) ∧ (0 ≤ b ∧ b ≤ s 2 152 - 1) := by omega
      obtain ⟨k1, k2, k3, k4, k5⟩ := hR.2.2.2 d (by omega) (by omega)
      have hs := sold_b (K := s 2) (d := d) (by omega)
      have c3' : s 2 (7 + 4 * d) ≠ b ∧ s 2 (7 + 4 * d + 1) ≠ b ∧ soldS (s 2) d ≤ s 2 b ∧ s 2 (s 2 (7 + 4 * d + 1)) + soldS (s 2) d ≤ 9999 := Classical.not_not.mp c3
      obtain ⟨e1, e2, e3, e4⟩ := c3'
      have v1 := hR.2.2.1 b (by omega) (by omega)
      have v2 := hR.2.2.1 (s 2 (7 + 4 * d + 1)) (by omega) (by omega)
      have hP := pay_RV hR (show 0 ≤ b ∧ b < 7 by omega) (show 0 ≤ s 2 (7 + 4 * d + 1) ∧ s 2 (7 + 4 * d + 1) < 7 by omega) (Ne.symm e2) hs.1 e3 e4
      have h32 := pay_32 (a := soldS (s 2) d) (H.1.1 2) (g := b) (t := s 2 (7 + 4 * d + 1)) (i2_of (by omega) (by omega)) (by rw [u1_ne _ (by omega)]; exact i2_of (by omega) (by omega))
      refine VW_act H (by decide) ?_ ?_ (fun i hi => ?_)
      · refine hP.cred (by omega) ?_ (by omega) ?_
        · rw [pay_u (by omega) (by omega) (by omega)]; omega
        · rw [pay_u (by omega) (by omega) (by omega)]; exact e1
      · exact u1_32 h32 hb
      · rw [u1_ne _ (by omega), pay_u (by omega) (by omega) (by omega)]

theorem undoS_VW {n : Int} {s : Sg} (H : VW n s) : VW n (undoS s).2 := by
  refine H.low (undoS_VS H.1) ?_
  unfold undoS
  split
  · exact Low.refl s
  · show Low s (sw (popU s) 2 (cpR (s 2) 0 (lastU s) 73))
    have e2 : popU s 2 = s 2 := sw_ne _ (by decide)
    have lp : Low s (popU s) := by
      unfold popU
      refine ⟨fun o h => by rw [sw_ne _ (by omega)], ⟨by rw [sw_eq, u1_ne _ (by decide)], by rw [sw_eq, u1_ne _ (by decide)]⟩, fun i _ => by rw [sw_ne _ (by decide)]⟩
    exact lp.trans (Low_2 (fun i hi => by rw [e2]; exact cpR_out (by omega)))
