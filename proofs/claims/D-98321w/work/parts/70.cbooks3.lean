/-! THE COMPONENT: debts lessened, repaid; books copied, made -/
set_option maxRecDepth 100000
def repS (K : Rw) (p q most : Int) : Rw := if 0 < canRepayS K p q most then repaysS K p q (canRepayS K p q most) else K
section
variable {E : ax_E} {h h' : ax_H} {a b : Nat} {K : Rw} {n : Int}
theorem c_amount {d v : Int} (hB : BK h b K) (h0 : 0 ≤ d) (h1 : d < K 71) (h2 : K 71 ≤ 16) : BK (wI h (b + 4) d.toNat v) b (u1 K (7 + 4 * d + 2) v) ∧ OnS b 6 h (wI h (b + 4) d.toNat v) := by
  have hB0 := hB
  obtain ⟨-, ⟨c5, c6⟩, cp, ck⟩ := hB
  refine ⟨⟨hB0.1.wI, ?_, fun p hp => ?_, fun k hk => ?_⟩, OnS_wI (OnS.refl _ _ _) (by omega)⟩
  · rw [u1_ne _ (by omega), u1_ne _ (by omega), hI_wI_ne (by omega), hI_wI_ne (by omega)]
    exact ⟨c5, c6⟩
  · rw [u1_ne _ (by omega), hI_wI_ne (by omega)]
    exact cp p hp
  · rw [u1_ne _ (by omega)] at hk
    obtain ⟨k1, k2, k3, k4⟩ := ck k hk
    have n0 : u1 K (7 + 4 * d + 2) v (7 + 4 * k) = K (7 + 4 * k) := u1_ne _ (by omega)
    have n1 : u1 K (7 + 4 * d + 2) v (7 + 4 * k + 1) = K (7 + 4 * k + 1) := u1_ne _ (by omega)
    have n3 : u1 K (7 + 4 * d + 2) v (7 + 4 * k + 3) = K (7 + 4 * k + 3) := u1_ne _ (by omega)
    rw [n0, n1, n3, hI_wI_ne (by omega), hI_wI_ne (by omega), hI_wI_ne (a := b + 4) (b := b + 5) (by omega)]
    refine ⟨k1, k2, ?_, k4⟩
    by_cases e : (k : Int) = d
    · rw [e, u1_eq]
      have : k = d.toNat := by omega
      rw [this, hI_wI_eq]
    · rw [u1_ne _ (by omega), hI_wI_ne (by omega)]
      exact k3
theorem c_less {p q : Int} (hp : i2 p = p) (hq : i2 q = q) : ∀ (f : Nat) (r d : Int) (h : ax_H) (K : Rw), BK h b K → K32 K → RV n K → 0 ≤ d ∧ d ≤ K 71 → K 71 - d ≤ f → 0 ≤ r → i2 r = r → ∃ h', ax_iter (fun x : Int × Int × ax_H => lb_X2_lessen_6 E (some b) p q x.1 x.2.1 x.2.2) (r, d, h) = some h' ∧ BK h' b (lowF p q f r d K) ∧ OnS b 6 h h' := by
  intro f
  induction f with
  | zero =>
    intro r d h K hB hK H h00 h1 hr hr2
    have ha := H.1
    refine ⟨h, it_done ?_, hB, OnS.refl _ _ _⟩
    simp only [lb_X2_lessen_6]
    rw [f_gI hB.1.1 (by decide), Option.bind_some, hB.2.1.1, i2_of (by omega) (by omega), i2_of (by omega) (by omega), if_neg (by omega)]
    rfl
  | succ f ih =>
    intro r d h K hB hK H h00 h1 hr hr2
    have ha := H.1
    have h0 := h00.1
    by_cases hd : d < K 71
    · by_cases hr0 : r = 0
      · subst hr0
        refine ⟨h, it_done ?_, by rw [lowF_0 _ _ H h0]; exact hB, OnS.refl _ _ _⟩
        simp only [lb_X2_lessen_6]
        rw [f_gI hB.1.1 (by decide), Option.bind_some, hB.2.1.1, i2_of (by omega) (by omega), i2_of (by omega) (by omega), if_pos hd, i2_0, if_neg (by omega)]
        rfl
      · obtain ⟨-, -, -, e4, -⟩ := H.2.2.2 d h0 hd
        have hrl := i2_lh hr2
        by_cases hi : K (7 + 4 * d) = p ∧ K (7 + 4 * d + 1) = q
        · have hm : 0 ≤ min r (K (7 + 4 * d + 2)) ∧ min r (K (7 + 4 * d + 2)) ≤ K (7 + 4 * d + 2) ∧ min r (K (7 + 4 * d + 2)) ≤ r := by omega
          have h32 : K32 (u1 K (7 + 4 * d + 2) (K (7 + 4 * d + 2) - min r (K (7 + 4 * d + 2)))) := u1_32' hK (i2_of (by omega) (by omega))
          obtain ⟨B1, O1⟩ := c_amount (v := K (7 + 4 * d + 2) - min r (K (7 + 4 * d + 2))) hB h0 hd ha.2
          obtain ⟨⟨t0, ⟨r0, r1, r2, r3, r4⟩, ⟨t1, t2, t3, t4, t5⟩, l1, l2, l3, l4, l5⟩, ⟨c5, c6⟩, cp, ck⟩ := id hB
          obtain ⟨k1, k2, k3, k4⟩ := ck d.toNat (by omega)
          rw [Int.toNat_of_nonneg h0] at k3
          have pre : lb_X2_lessen_6 E (some b) p q r d h = if i2 (K (7 + 4 * d + 2) - min r (K (7 + 4 * d + 2))) = 0 then (f_X2_drop E (some b) d (wI h (b + 4) d.toNat (K (7 + 4 * d + 2) - min r (K (7 + 4 * d + 2))))).bind (fun h11 => f_X2_lessen_86 E (some b) p q (r - min r (K (7 + 4 * d + 2))) (d + (-1)) h11) else f_X2_lessen_86 E (some b) p q (r - min r (K (7 + 4 * d + 2))) d (wI h (b + 4) d.toNat (K (7 + 4 * d + 2) - min r (K (7 + 4 * d + 2)))) := by
            simp only [lb_X2_lessen_6]
            rw [f_gI t0 (by decide), Option.bind_some, c5, i2_of (by omega) (by omega), i2_of (by omega) (by omega), if_pos hd, hr2, if_pos (by omega), f_ce t0 (by decide), Option.bind_some, c_is hB hK h0 hd ha.2 hp hq, Option.bind_some, if_neg (by rw [b01_z]; simp [hi]), f_gR t0 (by decide), Option.bind_some, r3, f_ld t4 (by decide) h0 (by omega) (by omega), Option.bind_some, k3, c_min hr2 (hK _), Option.bind_some]
            simp only [f_gR t0 (by decide : (2:Nat) ≠ 999), Option.bind_some, r3]
            rw [f_ld t4 (by decide) h0 (by omega) (by omega), Option.bind_some, k3, f_sto t4 (by decide) h0 (by omega) (by omega), Option.bind_some, f_gR (by rw [hT_wI]; exact t0) (by decide), Option.bind_some, hR_wI, r3, f_ld (by rw [hT_wI]; exact t4) (by decide) h0 (by rw [hL_wI]; omega) (by rw [hL_wI]; omega), Option.bind_some, hI_wI_eq]
            simp only [f_ce B1.1.1 (by decide : (2:Nat) ≠ 999), Option.bind_some]
          by_cases hz : K (7 + 4 * d + 2) - min r (K (7 + 4 * d + 2)) = 0
          · obtain ⟨g, e1, B2, O2⟩ := c_drop (E := E) B1 h0 (by rw [u1_ne _ (by omega)]; exact hd) (by rw [u1_ne _ (by omega)]; exact ha.2)
            have g71 := removes_71 (K := K) (d := d) (v := K (7 + 4 * d + 2) - min r (K (7 + 4 * d + 2))) (by omega) h0 hd
            obtain ⟨h', e2, B3, O3⟩ := ih (r - min r (K (7 + 4 * d + 2))) d g _ B2 (removes_32 h32 (by rw [u1_ne _ (by omega)]; omega) (by rw [u1_ne _ (by omega)]; omega)) (H.removes h0 hd) (by rw [g71]; omega) (by rw [g71]; omega) (by omega) (i2_of (by omega) (by omega))
            refine ⟨h', (it_step (s' := (r - min r (K (7 + 4 * d + 2)), d, g)) ?_).trans e2, ?_, (O1.trans O2).trans O3⟩
            · simp only
              rw [pre, i2_of (by omega) (by omega), if_pos hz, e1, Option.bind_some]
              unfold f_X2_lessen_86
              rw [show d + -1 + 1 = d by omega]
            · unfold lowF
              rw [if_pos hd, if_pos hi, if_pos hz]
              exact B3
          · obtain ⟨h', e2, B3, O3⟩ := ih (r - min r (K (7 + 4 * d + 2))) (d + 1) _ _ B1 h32 (H.amount h0 hd (by omega)) (by rw [u1_ne _ (by omega)]; omega) (by rw [u1_ne _ (by omega)]; omega) (by omega) (i2_of (by omega) (by omega))
            refine ⟨h', (it_step (s' := (r - min r (K (7 + 4 * d + 2)), d + 1, wI h (b + 4) d.toNat (K (7 + 4 * d + 2) - min r (K (7 + 4 * d + 2))))) ?_).trans e2, ?_, O1.trans O3⟩
            · simp only
              rw [pre, i2_of (by omega) (by omega), if_neg hz]
              rfl
            · unfold lowF
              rw [if_pos hd, if_pos hi, if_neg hz]
              exact B3
        · obtain ⟨h', e2, B3, O3⟩ := ih r (d + 1) h K hB hK H (by omega) (by omega) hr hr2
          refine ⟨h', (it_step (s' := (r, d + 1, h)) ?_).trans e2, ?_, O3⟩
          · simp only [lb_X2_lessen_6]
            rw [f_gI hB.1.1 (by decide), Option.bind_some, hB.2.1.1, i2_of (by omega) (by omega), i2_of (by omega) (by omega), if_pos hd, hr2, if_pos (by omega), f_ce hB.1.1 (by decide), Option.bind_some, c_is hB hK h0 hd ha.2 hp hq, Option.bind_some, if_pos (by rw [b01_z]; exact hi)]
            rfl
          · unfold lowF
            rw [if_pos hd, if_neg hi]
            exact B3
    · refine ⟨h, it_done ?_, ?_, OnS.refl _ _ _⟩
      · simp only [lb_X2_lessen_6]
        rw [f_gI hB.1.1 (by decide), Option.bind_some, hB.2.1.1, i2_of (by omega) (by omega), i2_of (by omega) (by omega), if_neg hd]
        rfl
      · unfold lowF
        rw [if_neg hd]
        exact hB
theorem c_lessen {p q v : Int} (hB : BK h b K) (hK : K32 K) (H : RV n K) (hp : i2 p = p) (hq : i2 q = q) (h0 : 0 ≤ v) (hv : i2 v = v) : ∃ h', f_X2_lessen E (some b) p q v h = some h' ∧ BK h' b (lowersS K p q v) ∧ OnS b 6 h h' := by
  have := H.1
  exact c_less hp hq 17 v 0 h K hB hK H (by omega) (by omega) h0 hv
theorem c_repay {p q v : Int} (hB : BK h b K) (hK : K32 K) (H : RV n K) (hp : 0 ≤ p ∧ p < 7) (hq : 0 ≤ q ∧ q < 7) (h0 : 0 ≤ v) (hv : i2 v = v) : ∃ h', f_X2_repay E (some b) p q v h = some (canRepayS K p q v, h') ∧ BK h' b (repS K p q v) ∧ OnS b 6 h h' := by
  have ha := H.1
  have ho := owed_b H p q
  have c1 := H.2.2.1 p hp.1 hp.2
  have c2 := H.2.2.1 q hq.1 hq.2
  have hvl := i2_lh hv
  obtain ⟨⟨t0, ⟨r0, -⟩, ⟨t1, -⟩, l1, -⟩, -, cp, -⟩ := id hB
  have x1 := cp p.toNat (by omega)
  have x2 := cp q.toNat (by omega)
  rw [Int.toNat_of_nonneg (by omega)] at x1 x2
  have pre : f_X2_repay E (some b) p q v h = if i2 p = i2 q then some (0, h) else if 0 < i2 (min (min v (owed K p q)) (min (K p) (9999 - K q))) then (f_X2_pay E (some b) p q (min (min v (owed K p q)) (min (K p) (9999 - K q))) h).bind (fun h9 => (ax_ce E h9 (some b) 2).bind fun _ => (f_X2_lessen E (some b) p q (min (min v (owed K p q)) (min (K p) (9999 - K q))) h9).bind fun h10 => some (min (min v (owed K p q)) (min (K p) (9999 - K q)), h10)) else some (0, h) := by
    unfold f_X2_repay f_X2_repay_44
    rw [f_ce t0 (by decide), Option.bind_some, c_owes hB hK ha.1 ha.2 (i2_of (by omega) (by omega)) (i2_of (by omega) (by omega)), Option.bind_some, c_min hv (i2_of (by omega) (by omega)), Option.bind_some, f_gR t0 (by decide), r0, Option.bind_some, f_ld t1 (by decide) hp.1 (by omega) (by omega), Option.bind_some, x1]
    simp only [f_gR t0 (by decide : (2:Nat) ≠ 999), r0, Option.bind_some]
    rw [f_ld t1 (by decide) hq.1 (by omega) (by omega), Option.bind_some, x2, c_min (i2_of (by omega) (by omega)) (i2_of (by omega) (by omega)), Option.bind_some, c_min (i2_of (by omega) (by omega)) (i2_of (by omega) (by omega)), Option.bind_some]
    simp only [f_ce t0 (by decide : (2:Nat) ≠ 999), Option.bind_some]
  rw [pre, i2_of (by omega) (by omega), i2_of (by omega) (by omega), i2_of (by omega) (by omega)]
  by_cases e : p = q
  · refine ⟨h, ?_, ?_, OnS.refl _ _ _⟩
    · rw [if_pos e]
      unfold canRepayS
      rw [if_pos e]
    · unfold repS canRepayS
      rw [if_pos e, if_neg (by omega)]
      exact hB
  · have ec : canRepayS K p q v = min (min v (owed K p q)) (min (K p) (9999 - K q)) := by
      unfold canRepayS
      rw [if_neg e]
    rw [if_neg e, ← ec]
    by_cases h1 : 0 < canRepayS K p q v
    · obtain ⟨g, e1, B1, O1⟩ := c_pay (E := E) (v := canRepayS K p q v) hB hp hq
      have V1 : RV n (payS K p q (canRepayS K p q v)) := pay_RV H hp hq e (by omega) (by omega) (by omega)
      have K1 : K32 (payS K p q (canRepayS K p q v)) := pay_32 hK (i2_of (by omega) (by omega)) (by rw [u1_ne _ (Ne.symm e)]; exact i2_of (by omega) (by omega))
      obtain ⟨g2, e2, B2, O2⟩ := c_lessen (E := E) (p := p) (q := q) (v := canRepayS K p q v) B1 K1 V1 (i2_of (by omega) (by omega)) (i2_of (by omega) (by omega)) (by omega) (i2_of (by omega) (by omega))
      refine ⟨g2, ?_, ?_, O1.trans O2⟩
      · rw [if_pos h1, e1, Option.bind_some, f_ce B1.1.1 (by decide), Option.bind_some, e2]
        rfl
      · unfold repS
        rw [if_pos h1]
        exact B2
    · refine ⟨h, ?_, ?_, OnS.refl _ _ _⟩
      · rw [if_neg h1]
        have : canRepayS K p q v = 0 := by omega
        rw [this]
      · unfold repS
        rw [if_neg h1]
        exact hB
end
