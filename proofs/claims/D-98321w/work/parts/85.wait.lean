/-! A day goes by, on both sides -/
set_option maxRecDepth 100000
theorem Es_k {s : Sg} {K : Rw} (hK : K32 K) (s' : Sg) (q : Es (sw s 2 K) s') : s' 2 = K := by
  rw [q.1 2 (by decide) (by decide), sw_eq]
section
variable {E : ax_E} {m : Nat} {s : Sg} {h : ax_H}
theorem m_waits (hG : G32 s) (hK : KB (s 2)) (hL : LsV (s 2)) (hd : s 2 72 ≤ 998) : ∃ s', f_X5_waits E (some m) (mdl m s h) = some ((waitsS (s 2)).1, mdl m s' h) ∧ Es (sw s 2 (waitsS (s 2)).2) s' := by
  have hR := hK.2.2.2.2
  have ha := hR.1
  have hc := hR.2.1
  have h100 : ¬ i2 100 = 0 := by decide
  have n100 : i2 100 = 100 := by decide
  have main := it_up (body := fun y : Int × Int × ax_H => lb_X5_waits_15 E (some m) y.1 y.2.1 y.2.2) (s 2 71).toNat (fun n y => y.1 = (waitT (s 2) n).1 ∧ y.2.1 = (n : Int) ∧ ∃ s', y.2.2 = mdl m s' h ∧ Es (sw s 2 (waitT (s 2) n).2) s') (fun r => r.1 = (waitsS (s 2)).1 ∧ ∃ s', r.2 = mdl m s' h ∧ Es (sw s 2 (waitsS (s 2)).2) s') ?_ ?_ (s := (0, 0, mdl m (sw s 2 (u1 (s 2) 72 (s 2 72 + 1))) h)) ⟨rfl, rfl, _, rfl, Es.refl _⟩
  · obtain ⟨⟨v, g⟩, e1, e2, s', e3, e4⟩ := main
    simp only at e2 e3
    refine ⟨s', ?_, e4⟩
    unfold f_X5_waits f_X5_waits_15
    rw [md_gR2, Option.bind_some, md_ld2 (by omega) (by omega), Option.bind_some, md_sto2 (by omega) (by omega), Option.bind_some, e1, e2, e3]
  · rintro n ⟨v, i, g⟩ hn ⟨rfl, rfl, s1, rfl, q1⟩
    have H1 := waitT_RV hR hd n (by omega)
    have K3 := waitT_32 hR (hG 2) hd n (by omega)
    have h71 := waitT_up (s 2) n 71 (by omega) (by omega)
    have hup : ∀ i, 73 ≤ i → (waitT (s 2) n).2 i = s 2 i := fun i hi => waitT_up (s 2) n i (by omega) (by omega)
    have hk := Es_k K3 s1 q1
    have hG1 : G32 s1 := q1.2.2 (G32_sw hG K3)
    have hKB1 : KB (waitT (s 2) n).2 := hK.low hup H1
    have hLs1 : LsV (waitT (s 2) n).2 := hL.low hup
    obtain ⟨-, -, -, e4, -⟩ := H1.2.2.2 n (by omega) (by omega)
    have hg := grows_b (waitT (s 2) n).2 n
    have hb := grow_b e4 hg
    obtain ⟨s2, e2, q2⟩ := m_growsBy (E := E) (m := m) (h := h) (d := n) hG1 (by rw [hk]; exact hKB1) (by rw [hk]; exact hLs1) (by rw [hk]; omega)
    have hk2 : s2 2 = (waitT (s 2) n).2 := q2.k.trans hk
    refine ⟨.inl ((waitT (s 2) (n + 1)).1, (n : Int) + 1, mdl m (sw s2 2 (waitT (s 2) (n + 1)).2) h), ?_, rfl, by simp, _, rfl, ?_⟩
    · simp only [lb_X5_waits_15]
      have hld : ax_ld E (mdl m s1 h) (some (m + 2)) 100 (7 + 4 * (n : Int) + 2) = some ((waitT (s 2) n).2 (7 + 4 * (n : Int) + 2)) := by rw [md_ld2 (by omega) (by omega), hk]
      have hld2 : ax_ld E (mdl m s2 h) (some (m + 2)) 100 (7 + 4 * (n : Int) + 2) = some ((waitT (s 2) n).2 (7 + 4 * (n : Int) + 2)) := by rw [md_ld2 (by omega) (by omega), hk2]
      rw [hk] at e2
      rw [md_ce, Option.bind_some, m_debts, Option.bind_some]
      dsimp only
      rw [hk, i2_of (by omega) (by omega), i2_of (by omega) (by omega), if_pos (by omega)]
      simp only [md_gR2, hld, Option.bind_some, md_ce, e2, if_neg h100, n100]
      rw [i2_of (by omega) (by omega), m_lesser (by decide) (i2_of (by omega) (by omega)), Option.bind_some]
      simp only [md_gR2, hld2, Option.bind_some]
      rw [md_sto2 (by omega) (by omega), Option.bind_some, hk2]
      rfl
    · have q := q1.trans q2
      refine ⟨fun o h1 h2 => ?_, fun k k1 k2 k3 k4 => ?_, fun _ => ?_⟩
      · by_cases ho : o = 2
        · subst ho
          rw [sw_eq, sw_eq]
        · rw [sw_ne _ ho, sw_ne _ ho, q.1 o h1 h2, sw_ne _ ho]
      · rw [sw_ne _ (by decide), sw_ne _ (by decide), q.2.1 k k1 k2 k3 k4, sw_ne _ (by decide)]
      · exact G32_sw (q2.2.2 hG1) (waitT_32 hR (hG 2) hd (n + 1) (by omega))
  · rintro ⟨v, i, g⟩ ⟨rfl, rfl, s1, rfl, q1⟩
    have K3 := waitT_32 hR (hG 2) hd (s 2 71).toNat (by omega)
    have h71 := waitT_up (s 2) (s 2 71).toNat 71 (by omega) (by omega)
    have hk := Es_k K3 s1 q1
    refine ⟨((waitT (s 2) (s 2 71).toNat).1, mdl m s1 h), ?_, rfl, s1, rfl, q1⟩
    simp only [lb_X5_waits_15]
    rw [md_ce, Option.bind_some, m_debts, Option.bind_some, hk, i2_of (by omega) (by omega), i2_of (by omega) (by omega), if_neg (by omega)]
    rfl
end
/-- books b in their surroundings -/
def Ctx (E : ax_E) (x t dl dv ds du b : Nat) (P : ax_H → Rw → Prop) : Prop := (∀ g K, P g K → (∃ s1, REP E g x t dl dv ds du s1 ∧ G32 s1 ∧ KB (s1 2) ∧ ∀ i, 73 ≤ i → K i = s1 2 i) ∧ BK g b K ∧ KB K ∧ K32 K) ∧ (∀ g g' K, P g K → EvS x g g' → P g' K) ∧ ∀ g g' K K', P g K → OnS b 6 g g' → BK g' b K' → (∀ i, 73 ≤ i → K' i = K i) → KB K' → K32 K' → P g' K'
section
variable {E : ax_E} {h h' : ax_H} {x t dl dv ds du b : Nat} {s : Sg} {K : Rw} {P : ax_H → Rw → Prop}
theorem c_waitIn (hC : Ctx E x t dl dv ds du b P) (hP : P h K) (hb : b + 6 ≤ x + 15 ∨ x + 17 ≤ b) (hd : K 72 ≤ 998) : ∃ h', f_X0_waitIn E (some x) (some b) h = some ((waitsS K).1, h') ∧ P h' (waitsS K).2 ∧ h'.1 = h.1 ∧ h'.2.1 = h.2.1 := by
  obtain ⟨C1, C2, C3⟩ := hC
  obtain ⟨-, hB, hK, hK3⟩ := C1 h K hP
  have hR := hK.2.2.2.2
  have ha := hR.1
  have hc := hR.2.1
  have h100 : ¬ i2 100 = 0 := by decide
  have n100 : i2 100 = 100 := by decide
  -- the day
  have P0 : P (wI h b 6 (K 72 + 1)) (waitT K 0).2 := by
    have H0 := waitT_RV hR hd 0 (by omega)
    have hup0 : ∀ i, 73 ≤ i → (waitT K 0).2 i = K i := fun i hi => waitT_up K 0 i (by omega) (by omega)
    refine C3 h _ K _ hP (OnS_wI (OnS.refl _ _ _) (by omega)) ?_ hup0 (hK.low hup0 H0) (waitT_32 hR hK3 hd 0 (by omega))
    rw [waitT_0]
    obtain ⟨bs, ⟨c5, c6⟩, cp, ck⟩ := hB
    refine ⟨bs.wI, ?_, fun p hp => ?_, fun k hk => ?_⟩
    · rw [hI_wI_ne (by omega), hI_wI_eq, u1_ne _ (by omega), u1_eq]
      exact ⟨c5, rfl⟩
    · rw [hI_wI_ne (by omega), u1_ne _ (by omega)]
      exact cp p hp
    · rw [u1_ne _ (by omega)] at hk
      rw [hI_wI_ne (by omega), hI_wI_ne (by omega), hI_wI_ne (by omega), hI_wI_ne (by omega), u1_ne _ (by omega), u1_ne _ (by omega), u1_ne _ (by omega), u1_ne _ (by omega)]
      exact ck k hk
  have main := it_up (body := fun y : Int × Int × ax_H => lb_X0_waitIn_14 E (some x) (some b) y.1 y.2.1 y.2.2) (K 71).toNat (fun n y => y.1 = (waitT K n).1 ∧ y.2.1 = (n : Int) ∧ P y.2.2 (waitT K n).2 ∧ y.2.2.1 = h.1 ∧ y.2.2.2.1 = h.2.1) (fun r => r.1 = (waitsS K).1 ∧ P r.2 (waitsS K).2 ∧ r.2.1 = h.1 ∧ r.2.2.1 = h.2.1) ?_ ?_ (s := (0, 0, wI h b 6 (K 72 + 1))) ⟨rfl, rfl, P0, rfl, rfl⟩
  · obtain ⟨⟨v, g⟩, e1, e2, e3, e4, e5⟩ := main
    simp only at e2 e3 e4 e5
    refine ⟨g, ?_, e3, e4, e5⟩
    unfold f_X0_waitIn f_X0_waitIn_14
    rw [f_gI hB.1.1 (by decide), Option.bind_some, hB.2.1.2, f_pI hB.1.1 (by decide), Option.bind_some, e1, e2]
  · rintro n ⟨v, i, g⟩ hn ⟨rfl, rfl, Pg, z1, z2⟩
    simp only at Pg z1 z2
    obtain ⟨⟨s1, R1, G1, B1, u1'⟩, Bg, Kg, K3g⟩ := C1 g _ Pg
    have H1 := waitT_RV hR hd n (by omega)
    have h71 := waitT_up K n 71 (by omega) (by omega)
    obtain ⟨-, -, -, e4, -⟩ := H1.2.2.2 n (by omega) (by omega)
    have hg := grows_b (waitT K n).2 n
    have hbb := grow_b e4 hg
    obtain ⟨g2, e2, q2⟩ := c_growsBy (E := E) (d := n) R1 G1 B1 Kg K3g u1' Bg hb (by omega)
    have Pg2 := C2 g g2 _ Pg q2
    obtain ⟨-, Bg2, -, -⟩ := C1 g2 _ Pg2
    obtain ⟨B3, O3⟩ := c_amount (v := min 9999 ((waitT K n).2 (7 + 4 * (n : Int) + 2) + ((waitT K n).2 (7 + 4 * (n : Int) + 2) * growsS (waitT K n).2 n).tdiv 100)) (d := (n : Int)) Bg2 (by omega) (by omega) (by omega)
    have hup : ∀ i, 73 ≤ i → (waitT K (n + 1)).2 i = (waitT K n).2 i := fun i hi => (waitT_up K (n + 1) i (by omega) (by omega)).trans (waitT_up K n i (by omega) (by omega)).symm
    have P3 := C3 g2 _ _ (waitT K (n + 1)).2 Pg2 O3 B3 hup (Kg.low hup (by rw [waitT_up K n 152 (by omega) (by omega)]; exact waitT_RV hR hd (n + 1) (by omega))) (waitT_32 hR hK3 hd (n + 1) (by omega))
    obtain ⟨⟨t0, ⟨r0, r1, r2, r3, r4⟩, ⟨t1, t2, t3, t4, t5⟩, l1, l2, l3, l4, l5⟩, ⟨c5, c6⟩, cp, ck⟩ := Bg
    obtain ⟨k1, k2, k3, k4⟩ := ck n (by omega)
    obtain ⟨⟨t0', ⟨r0', r1', r2', r3', r4'⟩, ⟨t1', t2', t3', t4', t5'⟩, l1', l2', l3', l4', l5'⟩, ⟨c5', c6'⟩, cp', ck'⟩ := Bg2
    obtain ⟨k1', k2', k3', k4'⟩ := ck' n (by omega)
    have esum : (waitT K n).2 (7 + 4 * (n : Int) + 2) + min (9999 - (waitT K n).2 (7 + 4 * (n : Int) + 2)) (((waitT K n).2 (7 + 4 * (n : Int) + 2) * growsS (waitT K n).2 n).tdiv 100) = min 9999 ((waitT K n).2 (7 + 4 * (n : Int) + 2) + ((waitT K n).2 (7 + 4 * (n : Int) + 2) * growsS (waitT K n).2 n).tdiv 100) := by omega
    have ev : (waitT K n).1 + min (9999 - (waitT K n).2 (7 + 4 * (n : Int) + 2)) (((waitT K n).2 (7 + 4 * (n : Int) + 2) * growsS (waitT K n).2 n).tdiv 100) = (waitT K (n + 1)).1 := by
      rw [waitT]
      dsimp only
      omega
    refine ⟨.inl ((waitT K (n + 1)).1, (n : Int) + 1, wI g2 (b + 4) ((n : Int)).toNat (min 9999 ((waitT K n).2 (7 + 4 * (n : Int) + 2) + ((waitT K n).2 (7 + 4 * (n : Int) + 2) * growsS (waitT K n).2 n).tdiv 100))), ?_, rfl, by simp, P3, q2.2.1.trans z1, q2.2.2.1.trans z2⟩
    simp only [lb_X0_waitIn_14]
    have hld : ax_ld E g (some (b + 4)) 100 (n : Int) = some ((waitT K n).2 (7 + 4 * (n : Int) + 2)) := by rw [f_ld t4 (by decide) (by omega) (by omega) (by omega), Int.toNat_natCast, k3]
    have hld2 : ax_ld E g2 (some (b + 4)) 100 (n : Int) = some ((waitT K n).2 (7 + 4 * (n : Int) + 2)) := by rw [f_ld t4' (by decide) (by omega) (by omega) (by omega), Int.toNat_natCast, k3']
    rw [f_gI t0 (by decide), Option.bind_some, c5, i2_of (by omega) (by omega), i2_of (by omega) (by omega), if_pos (by omega)]
    simp only [f_gR t0 (by decide : (2:Nat) ≠ 999), r3, hld, Option.bind_some, f_ce R1.2.1.1 (by decide : (0:Nat) ≠ 999), e2, if_neg h100, n100]
    rw [i2_of (by omega) (by omega), c_min (i2_of (by omega) (by omega)) (i2_of (by omega) (by omega)), Option.bind_some]
    simp only [f_gR t0' (by decide : (2:Nat) ≠ 999), r3', hld2, Option.bind_some]
    rw [esum, f_sto t4' (by decide) (by omega) (by omega) (by omega), Option.bind_some, ev, if_neg (show ¬ ((100 : Int) = 0) by decide)]
  · rintro ⟨v, i, g⟩ ⟨rfl, rfl, Pg, z1, z2⟩
    simp only at Pg z1 z2
    obtain ⟨-, Bg, -, -⟩ := C1 g _ Pg
    have h71 := waitT_up K (K 71).toNat 71 (by omega) (by omega)
    refine ⟨((waitT K (K 71).toNat).1, g), ?_, rfl, Pg, z1, z2⟩
    simp only [lb_X0_waitIn_14]
    rw [f_gI Bg.1.1 (by decide), Option.bind_some, Bg.2.1.1, i2_of (by omega) (by omega), i2_of (by omega) (by omega), if_neg (by omega)]
    rfl
end
