/-! Lendings, on both sides -/
set_option maxRecDepth 100000
theorem keeps_2 (s : Sg) (w : Int) : keepsS s w 2 = s 2 := by
  unfold keepsS
  split
  · rw [(sau_keep1 _ w).1, (sau_shif1 s).1]
  · exact (sau_keep1 s w).1
theorem sau_keeps (s : Sg) (w : Int) : Sau s (keepsS s w) := by
  unfold keepsS
  split
  · have a := sau_keep1 (shif1 s) w
    have b := sau_shif1 s
    obtain ⟨a1, a2, a3, a4, a5, a6, a7, a8, a9, a10, a11, a12, a13, a14⟩ := a
    obtain ⟨b1, b2, b3, b4, b5, b6, b7, b8, b9, b10, b11, b12, b13, b14⟩ := b
    exact ⟨a1.trans b1, a2.trans b2, a3.trans b3, a4.trans b4, a5.trans b5, a6.trans b6, a7.trans b7, a8.trans b8, a9.trans b9, a10.trans b10, a11.trans b11, a12.trans b12, a13.trans b13, a14.trans b14⟩
  · exact sau_keep1 s w
theorem keep1_32 {s : Sg} {w : Int} (hG : G32 s) (hw : i2 w = w) (h0 : 0 ≤ s 0 28 ∧ s 0 28 ≤ 16) : G32 (keep1 s w) := G32_sw (G32_sw hG (u1_32 (cpR_32 (hG 14) (hG 2)) hw)) (u1_32 (hG 0) (i2_of (by omega) (by omega)))
theorem keeps_32 {s : Sg} {w : Int} (hG : G32 s) (hw : i2 w = w) (h0 : 0 ≤ s 0 28 ∧ s 0 28 ≤ 16) : G32 (keepsS s w) := by
  unfold keepsS
  split
  · have h1 : G32 (shif1 s) := G32_sw (G32_sw hG (cpR_32 (hG 14) (fun j => hG 14 _))) (u1_32 (hG 0) (i2_of (by omega) (by omega)))
    refine keep1_32 h1 hw ?_
    unfold shif1
    rw [sw_eq, u1_eq]
    omega
  · exact keep1_32 hG hw h0
/-- what a lending answers, and what is then -/
def lendS (s : Sg) (g t a : Int) : Int × Sg := if ¬ (1 ≤ a ∧ a ≤ 9999) then (-1, s) else if ¬ ((0 ≤ g ∧ g ≤ s 2 152 - 1) ∧ (0 ≤ t ∧ t ≤ s 2 152 - 1)) then (-2, s) else if ¬ (g ≠ t ∧ a ≤ s 2 g ∧ s 2 t + a ≤ 9999) then (-3, s) else if s 2 71 = 16 then (-5, s) else (a, sw (keepsS s 0) 2 (lendsS (s 2) g t a))
section
variable {E : ax_E} {m : Nat} {s : Sg} {h : ax_H}
theorem m_canLend {g t a : Int} {n : Int} (hG : G32 s) (hR : RV n (s 2)) (hg : 0 ≤ g ∧ g < 7) (ht : 0 ≤ t ∧ t < 7) (ha : -1000000000 ≤ a ∧ a ≤ 1000000000) : f_X5_canLend E (some m) g t a (mdl m s h) = some (b01 (g ≠ t ∧ a ≤ s 2 g ∧ s 2 t + a ≤ 9999), mdl m s h) := by
  have c1 := hR.2.2.1 g hg.1 hg.2
  have c2 := hR.2.2.1 t ht.1 ht.2
  unfold f_X5_canLend f_X5_canLend_37
  rw [i2_of (by omega) (by omega), i2_of (by omega) (by omega), show i2 9999 = 9999 by decide, i2_of (a := a) (by omega) (by omega)]
  by_cases e : g = t
  · rw [if_pos e, b01_f (fun z => z.1 e)]
  · rw [if_neg e, md_gR2, Option.bind_some, Int.zero_add, md_ld2 (by omega) (by omega), Option.bind_some, hG]
    by_cases e1 : s 2 g < a
    · rw [if_pos e1, b01_f (by omega)]
    · rw [if_neg e1, Option.bind_some, Int.zero_add, md_ld2 (by omega) (by omega), Option.bind_some, i2_of (by omega) (by omega)]
      by_cases e2 : 9999 < s 2 t + a
      · rw [if_pos e2, b01_f (by omega)]
      · rw [if_neg e2, b01_t (by omega)]
theorem m_lends {g t a : Int} {n : Int} (hR : RV n (s 2)) (hg : 0 ≤ g ∧ g < 7) (ht : 0 ≤ t ∧ t < 7) (h15 : s 2 71 ≤ 15) : f_X5_lends E (some m) g t a (mdl m s h) = some (mdl m (sw s 2 (lendsS (s 2) g t a)) h) := by
  have h71 := hR.1
  unfold f_X5_lends
  rw [md_gR2, Option.bind_some, Int.zero_add, md_ld2 (by omega) (by omega), Option.bind_some, md_sto2 (by omega) (by omega), Option.bind_some, md_gR2, Option.bind_some, Int.zero_add, md_ld2 (by omega) (by omega), Option.bind_some, md_sto2 (by omega) (by omega), Option.bind_some, sw_eq, sw_sw, md_ce, Option.bind_some, m_adds (by rw [sw_eq, u1_ne _ (by omega), u1_ne _ (by omega)]; omega) (by rw [sw_eq, u1_ne _ (by omega), u1_ne _ (by omega)]; omega), Option.bind_some, sw_eq, sw_sw]
  rfl
theorem m_lendsKept {g t a : Int} (hG : G32 s) (hK : KB (s 2)) (hU : UnV s) (hg : i2 g = g) (ht : i2 t = t) (ha : i2 a = a) : f_X5_lendsKept E (some m) g t a (mdl m s h) = some ((lendS s g t a).1, mdl m (lendS s g t a).2 h) := by
  have hn := hK.1
  have hR := hK.2.2.2.2
  have h71 := hR.1
  unfold f_X5_lendsKept f_X5_lendsKept_25 lendS
  rw [m_isAmount ha, Option.bind_some]
  by_cases c1 : 1 ≤ a ∧ a ≤ 9999
  · rw [if_neg (by rw [b01_z]; simp [c1]), if_neg (by simp [c1]), md_ce, Option.bind_some, m_isPerson hG hg hn.1, Option.bind_some]
    by_cases c2 : 0 ≤ g ∧ g ≤ s 2 152 - 1
    · rw [if_neg (by rw [b01_z]; simp [c2]), md_ce, Option.bind_some, m_isPerson hG ht hn.1, Option.bind_some]
      by_cases c3 : 0 ≤ t ∧ t ≤ s 2 152 - 1
      · rw [if_neg (by rw [b01_z]; simp [c3]), if_neg (show ¬ ¬ ((0 ≤ g ∧ g ≤ s 2 152 - 1) ∧ (0 ≤ t ∧ t ≤ s 2 152 - 1)) from fun z => z ⟨c2, c3⟩), md_ce, Option.bind_some, m_canLend hG hR (by omega) (by omega) (by omega), Option.bind_some]
        by_cases c4 : g ≠ t ∧ a ≤ s 2 g ∧ s 2 t + a ≤ 9999
        · rw [if_neg (by rw [b01_z]; exact fun z => z c4), if_neg (fun z => z c4), md_ce, Option.bind_some, m_debts, Option.bind_some, hG, show i2 16 = 16 by decide]
          by_cases c5 : s 2 71 = 16
          · rw [if_pos c5, if_pos c5]
          · rw [if_neg c5, if_neg c5, md_ce, Option.bind_some, m_keeps hG hU.1.1 hU.1.2, Option.bind_some, md_ce, Option.bind_some, m_lends (by rw [keeps_2]; exact hR) (by omega) (by omega) (by rw [keeps_2]; omega), Option.bind_some, keeps_2]
        · rw [if_pos (by rw [b01_z]; exact c4), if_pos c4]
      · rw [if_pos (by rw [b01_z]; exact c3), if_pos (show ¬ ((0 ≤ g ∧ g ≤ s 2 152 - 1) ∧ (0 ≤ t ∧ t ≤ s 2 152 - 1)) from fun z => c3 z.2)]
    · rw [if_pos (by rw [b01_z]; exact c2), if_pos (show ¬ ((0 ≤ g ∧ g ≤ s 2 152 - 1) ∧ (0 ≤ t ∧ t ≤ s 2 152 - 1)) from fun z => c2 z.1)]
  · rw [if_pos (by rw [b01_z]; exact c1), if_pos c1]
end
section
variable {E : ax_E} {h h' : ax_H} {x t dl dv ds du : Nat} {s : Sg}
theorem shif_UnV (hU : UnV s) (h16 : s 0 28 = 16) : UnV (shif1 s) := by
  have e28 : shif1 s 0 28 = 15 := by unfold shif1; rw [sw_eq, u1_eq, h16]; rfl
  have e14 : shif1 s 14 = cpR (s 14) 0 (fun j => s 14 (j + 74)) 1110 := by unfold shif1; rw [sw_ne _ (by decide), sw_eq]
  have e2 : shif1 s 2 = s 2 := (sau_shif1 s).1
  refine ⟨by omega, fun k k0 k1 => ?_⟩
  rw [e28] at k1
  obtain ⟨r, q⟩ := hU.2 (k + 1) (by omega) (by omega)
  have rr : ∀ i : Int, 0 ≤ i → i < 74 → shif1 s 14 (74 * k + i) = s 14 (74 * (k + 1) + i) := by
    intro i i0 i1
    rw [e14, cpR_in (by omega)]
    congr 1
    omega
  rw [e2, rr 73 (by omega) (by omega)]
  refine ⟨?_, q⟩
  obtain ⟨a1, a2, a3, a4⟩ := r
  refine ⟨by simp only [rr 71 (by omega) (by omega)]; exact a1, by simp only [rr 72 (by omega) (by omega)]; exact a2, fun p p0 p1 => by simp only [rr p (by omega) (by omega)]; exact a3 p p0 p1, fun d d0 d1 => ?_⟩
  simp only [rr 71 (by omega) (by omega)] at d1
  have a11 := a1.2
  simp only at d1 a11
  simp only [rr (7 + 4 * d) (by omega) (by omega), rr (7 + 4 * d + 1) (by omega) (by omega), rr (7 + 4 * d + 2) (by omega) (by omega), rr (7 + 4 * d + 3) (by omega) (by omega)]
  exact a4 d d0 d1
theorem c_remember {what : Int} (H : REP E h x t dl dv ds du s) (hE : Ek E x) (hU : UnV s) (hG : G32 s) (hb : 0 ≤ s 2 71 ∧ s 2 71 ≤ 16) (e1 : h.1 + 8 ≤ E.1.1) (e2 : h.2.1 + 1700 ≤ E.1.2) : ∃ (du' : Nat) (h' : ax_H), f_X0_remember E (some x) what h = some h' ∧ REP E h' x t dl dv ds du' (keepsS s what) ∧ h.1 ≤ h'.1 ∧ h'.1 ≤ h.1 + 8 ∧ h.2.1 ≤ h'.2.1 ∧ h'.2.1 ≤ h.2.1 + 110 ∧ (∀ b, b < h.1 → b ≠ x + 14 → b ≠ du → h'.2.2 b = h.2.2 b) ∧ (du' = du ∨ h.1 ≤ du') := by
  obtain ⟨a1, a2, ⟨-, a14, -⟩, -⟩ := id H.2.1
  have hn := hU.1
  have L := H.2.2.2.2.2.1
  unfold f_X0_remember
  rw [f_gR a1 (by decide), a14, Option.bind_some, f_ce L.1 (by decide), Option.bind_some, c_size L, Option.bind_some, i2_of (by omega) (by omega), show i2 16 = 16 by decide]
  unfold keepsS
  by_cases h16 : s 0 28 = 16
  · rw [if_pos h16, if_pos h16]
    obtain ⟨d1, d2⟩ := H.du1 hE
    have hd104 : hT h du = 104 := by
      rcases L.2.2.2.2.1 with z | z
      · omega
      · exact z.1
    have el := L.2.2.2.2.2
    obtain ⟨r, g, q1, q2, q3, q4, q5, q6⟩ := c_lsRem (E := E) L.l0 (by decide) (by omega) hd104 (Ne.symm d2) (fun k hk => by
      obtain ⟨u, v1, v2⟩ := el k hk
      refine ⟨u, v1, by rw [v2.2.1]; decide, by rw [v2.2.1]; decide⟩)
    have hdx : x + 116 ≤ du := by
      rcases H.1.2.1.2.2.2 with z | z
      · exact absurd z (H.1.k0 hd104)
      · exact z.1
    have e28 : shif1 s 0 28 = s 0 28 - 1 := by unfold shif1; rw [sw_eq, u1_eq]
    have e14 : shif1 s 14 = cpR (s 14) 0 (fun j => s 14 (j + 74)) 1110 := by unfold shif1; rw [sw_ne _ (by decide), sw_eq]
    have hf : ∀ a, Frz h x t dl dv ds du a → Frz g x t dl dv ds du a ∧ eqT (hC h a) (hC g a) := frz_of (by rw [q3]; exact Nat.le_refl _) (fun a ha => by
      obtain ⟨z1, z2, z3⟩ := ha
      unfold Mut at z3
      exact q5 a (by omega) (by omega))
    have H1 : REP E g x t dl dv ds du (shif1 s) := by
      refine H.und (by rw [q3]; exact Nat.le_refl _) (fun a ha => q5 a (by omega) (by omega)) (fun a _ _ z3 z4 => q5 a z3 z4) (by rw [q2.1]; decide) (Or.inl rfl) ?_ (sau_shif1 s)
      obtain ⟨l1, l2, l3, l4, l5⟩ := q2
      rw [e28, e14]
      refine ⟨l1, l2, l3, l4, l5, fun k hk => ?_⟩
      obtain ⟨u, v1, v2⟩ := el (k + 1) (by omega)
      refine ⟨u, by rw [q6 k hk]; exact v1, v2.mv hf (fun i i0 i1 => ?_) ?_⟩
      · rw [cpR_in (by omega)]
        congr 1
        omega
      · exact (hU.2 ((k + 1 : Nat) : Int) (by omega) (by omega)).1.1.2
    obtain ⟨du', h', w1, w2, w3, w4, w5, w6, w7, w8⟩ := c_rem21 (E := E) (what := what) H1 hE (shif_UnV hU h16) (by rw [e28]; omega) (by rw [(sau_shif1 s).1]; exact hb) (by omega) (by omega)
    refine ⟨du', h', ?_, w2, by omega, by omega, by omega, by omega, fun b b1 b2 b3 => by rw [w7 b (by omega) b2 b3, q5 b b2 b3], by omega⟩
    simp only [f_gR a1 (by decide : (0:Nat) ≠ 999), a14, Option.bind_some, f_ce L.1 (by decide : (42:Nat) ≠ 999), q1]
    exact w1
  · rw [if_neg h16, if_neg h16]
    exact c_rem21 H hE hU (by omega) hb e1 e2
end
