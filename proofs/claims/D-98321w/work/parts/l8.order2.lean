/-! The component's reader of orders: an order whole -/
set_option maxRecDepth 100000
section
variable {E : ax_E} {T : Rw} {N x i p w k c u : Nat} {lv hd n v : Int} {g : ax_H} {S : Dn × Dn × Dn} {Fz : Nat → Prop}
theorem OdA.times (A : OdA Fz g x u hd S n) (hF : ∀ a, Fz a → a ≠ u) : ∃ g', ax_pIs g (some u) [(21, 1), (23, 5), (24, 5)] v = some g' ∧ OdA Fz g' x u hd S v ∧ (∀ a, a ≠ u → g'.2.2 a = g.2.2 a) ∧ g'.1 = g.1 ∧ g'.2.1 = g.2.1 := by
  have tg := A.tag
  obtain ⟨tt, et⟩ : ∃ tt, tt = hT g u := ⟨_, rfl⟩
  have t21 : tt = 21 ∨ tt = 23 ∨ tt = 24 := by omega
  obtain ⟨kk, ek⟩ : ∃ kk, kk = (if tt = 21 then 1 else 5) := ⟨_, rfl⟩
  obtain ⟨h1, e1⟩ : ∃ h1, h1 = wI g u kk v := ⟨_, rfl⟩
  have c1 : ∀ a, a ≠ u → h1.2.2 a = g.2.2 a := fun a ha => by rw [e1]; exact hC_wI_ne ha
  have fr : ∀ a, Fz a → Fz a ∧ eqT (hC g a) (hC h1 a) := fun a ha => ⟨ha, eqT.of (c1 a (hF a ha))⟩
  have uT : hT h1 u = hT g u := by rw [e1, hT_wI]
  have uR : ∀ j, hR h1 u j = hR g u j := fun j => by rw [e1, hR_wI]
  have uK : hI h1 u kk = v := by rw [e1]; exact hI_wI_eq
  refine ⟨h1, by rw [f_pIs et.symm (by omega) (lk3 t21 1 5), ← ek, ← e1], ?_, c1, by rw [e1]; rfl, by rw [e1]; rfl⟩
  rcases A with ⟨a1, a0, a2, a3, a4, a5⟩ | ⟨a1, a2, a3, a4, a5, a6, s1, s2', s3, a7, a8, a9, b1, b2, b3⟩
  · have k1 : kk = 1 := by rw [ek, if_pos (by omega)]
    rw [k1] at uK
    exact Or.inl ⟨a1, a0, uT.trans a2, (uR 3).trans a3, (uR 4).trans a4, uK⟩
  · have n21 : ¬ tt = 21 := by
      rw [et, a2]
      split <;> decide
    have k5 : kk = 5 := by rw [ek, if_neg n21]
    rw [k5] at uK
    exact Or.inr ⟨a1, uT.trans a2, (uR 3).trans a3, (uR 7).trans a4, (uR 8).trans a5, uK, s1, s2', s3, (uR 0).trans a7, (uR 1).trans a8, (uR 2).trans a9, b1.fr fr, b2.fr fr, b3.fr fr⟩
theorem c_order (G : RdC E T N x i p w 25 k lv 0 0 g) (K : RdKo i p w g) (hc : c < 12) (hl : 0 ≤ lv ∧ lv ≤ 50) (rm1 : (g.1 : Int) + 16 * (51 - lv) + 34 ≤ E.1.1) (rm2 : (g.2.1 : Int) + 32 * (51 - lv) + 75 ≤ E.1.2) : RsCo E T N x i p w c g lv (f_X25_read E (some i) c g) (pOrder (cT T N) (wT T N) k lv) := by
  have iT := G.1.2.2.2.2.2.2.2.2.2
  have kk := K.1
  have hp := G.1.2.1
  have as := c_act G hl.1 hl.2 (by unfold RmR; omega)
  rw [pOrder_eq]
  unfold f_X25_read
  rw [f_dp iT.1 (by decide), if_pos rfl]
  cases hA : pAct (cT T N) (wT T N) k lv with
  | inl t =>
    rw [hA] at as
    obtain ⟨r, b1, b2⟩ := as
    rw [b1, tc_l]
    exact ⟨r, rfl, b2.of (RdR.refl _ _ _ _) (Int.le_refl _) (by omega) (by omega)⟩
  | inr vv =>
    obtain ⟨j, lv1, S⟩ := vv
    rw [hA] at as
    obtain ⟨u, g1, b1, b2, b3, b4, b5, b6, b7, b8, b9⟩ := as
    have iT1 := b4.1.2.2.2.2.2.2.2.2.2
    have hb5 := b5.1
    have hb6 := b5.2.1
    have ej : ((j.toNat : Nat) : Int) = j := Int.toNat_of_nonneg b2
    rw [b1, tc_r]
    unfold ax_cst pEnd pTimes
    dsimp only
    rw [Option.bind_some, f_dp iT1.1 (by decide), if_pos rfl]
    by_cases c29 : cT T N j = 29
    · obtain ⟨g2, x1, G2, N2⟩ := c_nxt b4
      have A29 : f_X6_accept E (some i) (some (E.2.2 36)) g1 = some (1, g2) := acc_yes (j := 26) b4 (by decide) (by rw [ej]; exact c29) x1
      have q1 := N2.2.1
      have q2 := N2.2.2
      have iT2 := G2.1.2.2.2.2.2.2.2.2.2
      have nz := nz_code G2
      have N0 := c_isNought G2
      have R2 : RdR i p 0 g g2 := b5.trans N2.1 (Int.le_refl _)
      have n4 := G2.1.2.2.2.2.2.1
      have nc := num_code (k := j.toNat + 1) n4.2 n4.1
      rw [A29, Option.bind_some, if_pos c29]
      dsimp only
      rw [if_neg (by decide), f_ce iT2.1 (by decide), Option.bind_some, N0, Option.bind_some]
      dsimp only
      have e1 : ((j.toNat + 1 : Nat) : Int) = j + 1 := by omega
      rw [e1] at nz nc
      by_cases z0 : cT T N (j + 1) = 50 ∧ wT T N (j + 1) = 0
      · obtain ⟨r, m1, m2⟩ := must_no (v := 0) G2 (by decide) (by omega) (by omega)
        rw [if_neg (by rw [b01_z]; exact fun h => h (nz.mpr z0)), if_neg (by omega)]
        unfold f_X25_read_27
        rw [f_dp iT2.1 (by decide), if_pos rfl, m1, tc_l]
        rw [e1] at m2
        exact ⟨r, rfl, m2.of R2 (Int.le_refl _) (by omega) (by omega)⟩
      · rw [if_pos (by rw [b01_z]; exact fun h => z0 (nz.mp h))]
        obtain ⟨r1, r2⟩ := c_rnum (most := 20) G2 (by decide) (by omega) (by omega)
        rw [e1] at r1 r2
        unfold f_X25_read_27
        rw [f_dp iT2.1 (by decide), if_pos rfl, must_ok (by decide), tc_r, f_dp iT2.1 (by decide), if_pos rfl]
        by_cases c50 : cT T N (j + 1) = 50 ∧ wT T N (j + 1) ≤ 20
        · obtain ⟨g3, y1, G3, N3⟩ := r1 c50
          have q3 := N3.2.1
          have q4 := N3.2.2
          have wb : 1 ≤ wT T N (j + 1) := by
            obtain ⟨d1, d2⟩ := nc.1.mp c50.1
            obtain ⟨w1, w2⟩ := nc.2 d1 d2
            have b := nu_b (T := T) (k := pos T N (j.toNat + 1)) _ (fun q hq => w2 q hq)
            rw [← w1] at b
            have := b.1
            by_cases h0 : wT T N (j + 1) = 0
            · exact absurd ⟨c50.1, h0⟩ z0
            · omega
          have A3 : OdA (fun a => RnF g.1 g1.1 a ∧ a ≠ u) g3 x u (cT T N k) S 1 := b7.fr (fun a ha => by
            obtain ⟨⟨a1, a2⟩, a3⟩ := ha
            exact ⟨⟨⟨a1, a2⟩, a3⟩, eqT.of ((N3.1.2.2.1 a (by omega) (by omega) (by omega)).trans (N2.1.2.2.1 a (by omega) (by omega) (by omega)))⟩) ((N3.1.2.2.1 u (by omega) (by omega) (by omega)).trans (N2.1.2.2.1 u (by omega) (by omega) (by omega)))
          obtain ⟨g4, t1, t2, t3, t4, t5⟩ := A3.times (v := wT T N (j + 1)) (fun a ha => ha.2)
          have G4 : RdC E T N x i p w 25 (j.toNat + 1 + 1) lv1 0 0 g4 := RdG.oth G3 (by omega) (fun a ha => t3 a (by omega))
          have R3 : RdR i p 0 g g3 := R2.trans N3.1 (Int.le_refl _)
          have R4 : RdR i p 0 g g4 := R3.oth (by omega) (by omega) (by omega) (fun a ha => t3 a (by omega))
          have K3 := ((K.r b5).r N2.1).r N3.1
          have k4 := ceq (t3 (i + 3) (by omega))
          have K4 : RdKo i p w g4 := K3.keep (by omega) ⟨k4.1, k4.2.1⟩
          have z := c_od40 (c := c) (lv0 := lv) (g := g) (u := u) (hd := cT T N k) (n := wT T N (j + 1)) (S := S) G4 R4 K4 kk.2.2 hc ⟨hl.1, b3.1, b3.2⟩ ⟨b6.1, by omega⟩ (by rw [show g4.1 = g1.1 by omega]; exact t2) ⟨wb, c50.2⟩ (by omega) (by omega) rm1 rm2
          rw [show ((j.toNat + 1 + 1 : Nat) : Int) = j + 2 by omega] at z
          rw [y1, tc_r, if_pos ⟨c50.1, wb, c50.2⟩]
          dsimp only
          rw [t1, Option.bind_some]
          cases hI : pIf 1 (cT T N) (wT T N) (j + 2) lv1 with
          | inl t => rw [hI] at z; exact z
          | inr vv => rw [hI] at z; exact z
        · obtain ⟨r, m1, m2⟩ := r2 c50
          rw [m1, tc_l, if_neg (fun h => c50 ⟨h.1, h.2.2⟩)]
          exact ⟨r, rfl, m2.of R2 (Int.le_refl _) (by omega) (by omega)⟩
    · have A29 : f_X6_accept E (some i) (some (E.2.2 36)) g1 = some (0, g1) := acc_no (j := 26) b4 (by decide) (by rw [ej]; exact c29)
      rw [A29, Option.bind_some, if_neg c29]
      dsimp only
      rw [if_pos (by decide)]
      have z := c_od40 (c := c) (lv0 := lv) (g := g) (u := u) (hd := cT T N k) (n := 1) (S := S) b4 b5 (K.r b5) kk.2.2 hc ⟨hl.1, b3.1, b3.2⟩ b6 b7 (by decide) (by omega) (by omega) rm1 rm2
      rw [ej] at z
      cases hI : pIf 1 (cT T N) (wT T N) j lv1 with
      | inl t => rw [hI] at z; exact z
      | inr vv => rw [hI] at z; exact z
end
