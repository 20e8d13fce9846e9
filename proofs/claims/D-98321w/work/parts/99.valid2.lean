/-! Lendings, repayments, sales keep what holds -/
set_option maxRecDepth 100000
theorem RV.adds {n d c v : Int} {K : Rw} (H : RV n K) (h15 : K 71 ≤ 15) (hd : 0 ≤ d ∧ d < n) (hc : 0 ≤ c ∧ c < n) (hdc : d ≠ c) (hv : 1 ≤ v ∧ v ≤ 9999) : RV n (addsS K d c v) := by
  obtain ⟨a1, a2, a3, a4⟩ := H
  unfold addsS
  refine ⟨?_, ?_, fun p p0 p1 => ?_, fun k k0 k1 => ?_⟩
  · simp only [u1_eq, u1_ne _ (show (71 : Int) ≠ 7 + 4 * K 71 by omega), u1_ne _ (show (71 : Int) ≠ 7 + 4 * K 71 + 1 by omega), u1_ne _ (show (71 : Int) ≠ 7 + 4 * K 71 + 2 by omega), u1_ne _ (show (71 : Int) ≠ 7 + 4 * K 71 + 3 by omega)]
    omega
  · rw [u1_ne _ (by omega), u1_ne _ (by omega), u1_ne _ (by omega), u1_ne _ (by omega), u1_ne _ (by omega)]
    exact a2
  · rw [u1_ne _ (by omega), u1_ne _ (by omega), u1_ne _ (by omega), u1_ne _ (by omega), u1_ne _ (by omega)]
    exact a3 p p0 p1
  · have k2 : k < K 71 + 1 := by
      rw [u1_eq] at k1
      exact k1
    by_cases e : k = K 71
    · subst e
      have g0 : ∀ (A : Rw) (x y z w : Int), u1 (u1 (u1 (u1 (u1 A (7 + 4 * K 71) x) (7 + 4 * K 71 + 1) y) (7 + 4 * K 71 + 2) z) (7 + 4 * K 71 + 3) w) 71 (K 71 + 1) (7 + 4 * K 71) = x := by
        intro A x y z w
        rw [u1_ne _ (by omega), u1_ne _ (by omega), u1_ne _ (by omega), u1_ne _ (by omega), u1_eq]
      have g1 : ∀ (A : Rw) (x y z w : Int), u1 (u1 (u1 (u1 (u1 A (7 + 4 * K 71) x) (7 + 4 * K 71 + 1) y) (7 + 4 * K 71 + 2) z) (7 + 4 * K 71 + 3) w) 71 (K 71 + 1) (7 + 4 * K 71 + 1) = y := by
        intro A x y z w
        rw [u1_ne _ (by omega), u1_ne _ (by omega), u1_ne _ (by omega), u1_eq]
      have g2 : ∀ (A : Rw) (x y z w : Int), u1 (u1 (u1 (u1 (u1 A (7 + 4 * K 71) x) (7 + 4 * K 71 + 1) y) (7 + 4 * K 71 + 2) z) (7 + 4 * K 71 + 3) w) 71 (K 71 + 1) (7 + 4 * K 71 + 2) = z := by
        intro A x y z w
        rw [u1_ne _ (by omega), u1_ne _ (by omega), u1_eq]
      have g3 : ∀ (A : Rw) (x y z w : Int), u1 (u1 (u1 (u1 (u1 A (7 + 4 * K 71) x) (7 + 4 * K 71 + 1) y) (7 + 4 * K 71 + 2) z) (7 + 4 * K 71 + 3) w) 71 (K 71 + 1) (7 + 4 * K 71 + 3) = w := by
        intro A x y z w
        rw [u1_ne _ (by omega), u1_eq]
      rw [g0, g1, g2, g3]
      exact ⟨hd, hc, hdc, hv, a2⟩
    · have gg : ∀ i, 7 ≤ i → i < 7 + 4 * K 71 → i ≠ 71 → addsS K d c v i = K i := by
        intro i i0 i1 i2'
        unfold addsS
        rw [u1_ne _ (by omega), u1_ne _ (by omega), u1_ne _ (by omega), u1_ne _ (by omega), u1_ne _ (by omega)]
      unfold addsS at gg
      rw [gg (7 + 4 * k) (by omega) (by omega) (by omega), gg (7 + 4 * k + 1) (by omega) (by omega) (by omega), gg (7 + 4 * k + 2) (by omega) (by omega) (by omega), gg (7 + 4 * k + 3) (by omega) (by omega) (by omega)]
      exact a4 k k0 (by omega)
theorem pay_u {K : Rw} {g t a i : Int} (hg : 0 ≤ g ∧ g < 7) (ht : 0 ≤ t ∧ t < 7) (hi : 7 ≤ i) : payS K g t a i = K i := by
  unfold payS
  rw [u1_ne _ (by omega), u1_ne _ (by omega)]
theorem lendS_VS {n g r a : Int} {s : Sg} (H : VS n s) : VS n (lendS s g r a).2 := by
  have hn := H.2.1.1
  have hR := H.2.1.2.2.2.2
  have h71 := hR.1
  unfold lendS
  split
  · exact H
  · split
    · exact H
    · split
      · exact H
      · split
        · exact H
        · rename_i c1 c2 c3 c4
          have c1' : 1 ≤ a ∧ a ≤ 9999 := by omega
          have c2' : (0 ≤ g ∧ g ≤ s 2 152 - 1) ∧ (0 ≤ r ∧ r ≤ s 2 152 - 1) := by omega
          have c3' : g ≠ r ∧ a ≤ s 2 g ∧ s 2 r + a ≤ 9999 := by
            by_cases e : g ≠ r ∧ a ≤ s 2 g ∧ s 2 r + a ≤ 9999
            · exact e
            · exact absurd e c3
          have v1 := hR.2.2.1 g (by omega) (by omega)
          have v2 := hR.2.2.1 r (by omega) (by omega)
          have hP := pay_RV hR (show 0 ≤ g ∧ g < 7 by omega) (show 0 ≤ r ∧ r < 7 by omega) c3'.1 (by omega) c3'.2.1 c3'.2.2
          have e71 : payS (s 2) g r a 71 = s 2 71 := pay_u (by omega) (by omega) (by omega)
          have h32 := pay_32 (a := a) (H.1 2) (g := g) (t := r) (i2_of (by omega) (by omega)) (by rw [u1_ne _ (by omega)]; exact i2_of (by omega) (by omega))
          refine VS_act H (by decide) ?_ ?_ (fun i hi => ?_)
          · exact hP.adds (by omega) (by omega) (by omega) (by omega) c1'
          · unfold lendsS addsS
            have := hR.2.1
            have e72 : payS (s 2) g r a 72 = s 2 72 := pay_u (by omega) (by omega) (by omega)
            refine u1_32 (u1_32 (u1_32 (u1_32 (u1_32 h32 (i2_of (by omega) (by omega))) (i2_of (by omega) (by omega))) (i2_of (by omega) (by omega))) (h32 72)) (i2_of (by omega) (by omega))
          · unfold lendsS addsS
            rw [u1_ne _ (by omega), u1_ne _ (by omega), u1_ne _ (by omega), u1_ne _ (by omega), u1_ne _ (by omega), pay_u (by omega) (by omega) (by omega)]
