/-! Debts sold -/
set_option maxRecDepth 100000
def sellS (s : Sg) (d b : Int) : Int × Sg := if ¬ ((0 ≤ d ∧ d ≤ s 2 71 - 1) ∧ (0 ≤ b ∧ b ≤ s 2 152 - 1)) then (-2, s) else if ¬ (s 2 (7 + 4 * d) ≠ b ∧ s 2 (7 + 4 * d + 1) ≠ b ∧ soldS (s 2) d ≤ s 2 b ∧ s 2 (s 2 (7 + 4 * d + 1)) + soldS (s 2) d ≤ 9999) then (-3, s) else (soldS (s 2) d, sw (keepsS s 3) 2 (u1 (payS (s 2) b (s 2 (7 + 4 * d + 1)) (soldS (s 2) d)) (7 + 4 * d + 1) b))
section
variable {E : ax_E} {m : Nat} {s : Sg} {h : ax_H}
theorem m_await (hG : G32 s) (hK : KB (s 2)) (hL : LsV (s 2)) (hU : UnV s) (hg : ∀ s', Es (waitO s).2 s' → G32 s') : ∃ s', f_X5_await E (some m) (mdl m s h) = some ((telP (waitO s)).1, mdl m s' h) ∧ Es (telP (waitO s)).2 s' := by
  have hb := waitO_b hK
  obtain ⟨s1, w1, w2⟩ := m_waitsKept (E := E) (m := m) (h := h) hG hK hL hU
  refine ⟨telM s1 (waitO s).1, ?_, w2.tel (hg s1 w2)⟩
  unfold f_X5_await telP
  dsimp only
  rw [md_ce, Option.bind_some, w1, Option.bind_some, md_ce, Option.bind_some, m_goodOr hb.1 (by omega), Option.bind_some]
theorem m_sell {d b : Int} (hG : G32 s) (hK : KB (s 2)) (hL : LsV (s 2)) (hU : UnV s) (hd : i2 d = d) (hb : i2 b = b) : ∃ s', f_X5_sell E (some m) d b (mdl m s h) = some ((telP (sellS s d b)).1, mdl m s' h) ∧ Es (telP (sellS s d b)).2 s' := by
  have hn := hK.1
  have hR := hK.2.2.2.2
  have h71 := hR.1
  have hr2 : ∀ s' : Sg, f_X5_refuses E (some m) (-2) (mdl m s' h) = some (-2, mdl m (sRef s' (-2)) h) := fun s' => m_refuses (by decide) (by decide)
  have hr3 : ∀ s' : Sg, f_X5_refuses E (some m) (-3) (mdl m s' h) = some (-3, mdl m (sRef s' (-3)) h) := fun s' => m_refuses (by decide) (by decide)
  unfold f_X5_sell telP sellS
  simp only [f_X5_sell_16, f_X5_sell_52, f_X5_sell_103]
  rw [md_ce, Option.bind_some, m_isDebt hG hd h71.1, Option.bind_some]
  by_cases c1 : 0 ≤ d ∧ d ≤ s 2 71 - 1
  · rw [if_neg (by rw [b01_z]; simp [c1]), md_ce, Option.bind_some, m_isPerson hG hb hn.1, Option.bind_some]
    by_cases c2 : 0 ≤ b ∧ b ≤ s 2 152 - 1
    · obtain ⟨k1, k2, k3, k4, k5⟩ := hR.2.2.2 d (by omega) (by omega)
      have v1 := hR.2.2.1 b (by omega) (by omega)
      have v2 := hR.2.2.1 (s 2 (7 + 4 * d + 1)) (by omega) (by omega)
      have hs := sold_b (K := s 2) (d := d) (by omega)
      rw [if_neg (by rw [b01_z]; simp [c2]), if_neg (show ¬ ¬ ((0 ≤ d ∧ d ≤ s 2 71 - 1) ∧ (0 ≤ b ∧ b ≤ s 2 152 - 1)) from fun z => z ⟨c1, c2⟩), md_gR2, Option.bind_some, md_ld2 (by omega) (by omega), Option.bind_some, hG, hb]
      by_cases c3 : s 2 (7 + 4 * d) = b
      · rw [if_pos c3, if_pos (fun z => z.1 c3), md_ce, Option.bind_some, hr3, Option.bind_some]
        exact ⟨_, rfl, Es.refl _⟩
      · rw [if_neg c3, Option.bind_some, md_ld2 (by omega) (by omega), Option.bind_some, hG]
        by_cases c4 : s 2 (7 + 4 * d + 1) = b
        · rw [if_pos c4, if_pos (fun z => z.2.1 c4), md_ce, Option.bind_some, hr3, Option.bind_some]
          exact ⟨_, rfl, Es.refl _⟩
        · obtain ⟨s1, w1, w2⟩ := m_soldFor (E := E) (m := m) (h := h) (d := d) hG hK hL (by omega)
          have g1 := w2.2.2 hG
          have ek := w2.k
          have l1 : i2 (soldS (s 2) d) = soldS (s 2) d := i2_of (by omega) (by omega)
          rw [if_neg c4, md_ce, Option.bind_some, w1, Option.bind_some]
          dsimp only
          rw [md_gR2, Option.bind_some, md_ld2 (by omega) (by omega), Option.bind_some, g1, ek, Int.zero_add, l1]
          by_cases c5 : s 2 b < soldS (s 2) d
          · rw [if_pos c5, if_pos (fun z => by have := z.2.2.1; omega), md_ce, Option.bind_some, hr3, Option.bind_some]
            exact ⟨_, rfl, w2.tel (v := -3) g1⟩
          · rw [if_neg c5, Option.bind_some, Option.bind_some, md_ld2 (by omega) (by omega), Option.bind_some, ek, md_ld2 (by omega) (by omega), Option.bind_some, ek, i2_of (a := s 2 (0 + s 2 (7 + 4 * d + 1)) + soldS (s 2) d) (by rw [Int.zero_add]; omega) (by rw [Int.zero_add]; omega), Int.zero_add, show i2 9999 = 9999 by decide]
            by_cases c6 : 9999 < s 2 (s 2 (7 + 4 * d + 1)) + soldS (s 2) d
            · rw [if_pos c6, if_pos (fun z => by have := z.2.2.2; omega), md_ce, Option.bind_some, hr3, Option.bind_some]
              exact ⟨_, rfl, w2.tel (v := -3) g1⟩
            · rw [if_neg c6, if_neg (fun z => z ⟨c3, c4, by omega, by omega⟩)]
              have u1' := w2.un hU
              have gk := keeps_32 (w := 3) g1 (by decide) u1'.1
              have ekk := Es_keeps (w := 3) w2 hG g1 (by decide) hU.1
              have e2 : keepsS s1 3 2 = s 2 := by rw [keeps_2, ek]
              have eA : u1 (s 2) b (s 2 b - soldS (s 2) d) (7 + 4 * d + 1) = s 2 (7 + 4 * d + 1) := u1_ne _ (by omega)
              have hF : ∀ i, i2 (u1 (payS (s 2) b (s 2 (7 + 4 * d + 1)) (soldS (s 2) d)) (7 + 4 * d + 1) b i) = u1 (payS (s 2) b (s 2 (7 + 4 * d + 1)) (soldS (s 2) d)) (7 + 4 * d + 1) b i := u1_32 (pay_32 (hG 2) (i2_of (by omega) (by omega)) (by rw [u1_ne _ (by omega)]; exact i2_of (by omega) (by omega))) hb
              refine ⟨telM (sw (keepsS s1 3) 2 (u1 (payS (s 2) b (s 2 (7 + 4 * d + 1)) (soldS (s 2) d)) (7 + 4 * d + 1) b)) (soldS (s 2) d), ?_, (Es_sw ekk gk (by decide) hF).tel (G32_sw gk hF)⟩
              rw [md_ce, Option.bind_some, m_keeps g1 u1'.1.1 u1'.1.2, Option.bind_some, md_gR2, Option.bind_some, md_ld2 (by omega) (by omega), Option.bind_some, md_sto2 (by omega) (by omega), Option.bind_some, e2, md_gR2, Option.bind_some, Option.bind_some, md_ld2 (by omega) (by omega), Option.bind_some, sw_eq, eA, md_ld2 (by omega) (by omega), Option.bind_some, md_sto2 (by omega) (by omega), Option.bind_some, md_gR2, Option.bind_some, md_sto2 (by omega) (by omega), Option.bind_some, md_ce, Option.bind_some, m_good, Option.bind_some]
              simp only [sw_eq, sw_sw]
              unfold telM payS
              rw [if_neg (show ¬ soldS (s 2) d < 0 by omega), Int.zero_add]
    · rw [if_pos (by rw [b01_z]; exact c2), if_pos (show ¬ ((0 ≤ d ∧ d ≤ s 2 71 - 1) ∧ (0 ≤ b ∧ b ≤ s 2 152 - 1)) from fun z => c2 z.2), md_ce, Option.bind_some, hr2, Option.bind_some]
      exact ⟨_, rfl, Es.refl _⟩
  · rw [if_pos (by rw [b01_z]; exact c1), if_pos (show ¬ ((0 ≤ d ∧ d ≤ s 2 71 - 1) ∧ (0 ≤ b ∧ b ≤ s 2 152 - 1)) from fun z => c1 z.1), md_ce, Option.bind_some, hr2, Option.bind_some]
    exact ⟨_, rfl, Es.refl _⟩
end
section
variable {E : ax_E} {h h' h1 : ax_H} {x t dl dv ds du : Nat} {s s1 : Sg}
theorem c_sell {d b : Int} (H : REP E h x t dl dv ds du s) (hE : Ek E x) (hG : G32 s) (hK : KB (s 2)) (hU : UnV s) (hd : i2 d = d) (hb : i2 b = b) (e1 : h.1 + 8 ≤ E.1.1) (e2 : h.2.1 + 1700 ≤ E.1.2) : ∃ (du' : Nat) (h' : ax_H), f_X0_sell E (some x) d b h = some ((telP (sellS s d b)).1, h') ∧ REP E h' x t dl dv ds du' (telP (sellS s d b)).2 ∧ Blk x 8 110 h h' := by
  have hn := hK.1
  have hR := hK.2.2.2.2
  have h71 := hR.1
  have a1 := H.2.1.1
  have tl := H.1.1
  have B := H.bk
  have tell : ∀ (g : ax_H) (v : Int), REP E g x t dl dv ds du s → Blk x 8 110 h g → v = -2 ∨ v = -3 → ∃ (du' : Nat) (h' : ax_H), ((ax_ce E g (some x) 0).bind fun _ => (f_X0_tell E (some x) v g).bind fun q1 => some (q1.1, q1.2)) = some (v, h') ∧ REP E h' x t dl dv ds du' (telM s v) ∧ Blk x 8 110 h h' := by
    intro g v Hg bg hv
    obtain ⟨g3, v1, v2, v3⟩ := c_told (v := v) Hg bg (by omega) (by omega)
    refine ⟨du, g3, ?_, v2, v3⟩
    rw [f_ce Hg.2.1.1 (by decide), Option.bind_some, v1, Option.bind_some]
  have b0 : Blk x 8 110 h h := (Blk.refl x h).up (by decide) (by decide)
  unfold f_X0_sell telP sellS
  simp only [f_X0_sell_16, f_X0_sell_77]
  rw [f_ce a1 (by decide), Option.bind_some, c_isDebt H hK hG hd, Option.bind_some]
  by_cases c1 : 0 ≤ d ∧ d ≤ s 2 71 - 1
  · rw [if_neg (by rw [b01_z]; simp [c1]), f_ce a1 (by decide), Option.bind_some, c_isPerson H hK hb, Option.bind_some]
    by_cases c2 : 0 ≤ b ∧ b ≤ s 2 152 - 1
    · obtain ⟨k1, k2, k3, k4, k5⟩ := hR.2.2.2 d (by omega) (by omega)
      have v1 := hR.2.2.1 b (by omega) (by omega)
      have v2 := hR.2.2.1 (s 2 (7 + 4 * d + 1)) (by omega) (by omega)
      have hs := sold_b (K := s 2) (d := d) (by omega)
      obtain ⟨g1, w1, w2⟩ := c_soldFor (E := E) (d := d) H hG hK hK (hG 2) (fun i _ => rfl) B H.tb (by omega)
      have H1 := H.keep w2.1
      have B1 := H1.bk
      have bg := (w2.blk H).up (c' := 8) (z' := 110) (by decide) (by decide)
      rw [if_neg (by rw [b01_z]; simp [c2]), if_neg (show ¬ ¬ ((0 ≤ d ∧ d ≤ s 2 71 - 1) ∧ (0 ≤ b ∧ b ≤ s 2 152 - 1)) from fun z => z ⟨c1, c2⟩)]
      dsimp only
      rw [f_ce a1 (by decide), Option.bind_some, c_books H, Option.bind_some]
      dsimp only
      rw [f_ce a1 (by decide), Option.bind_some, w1, Option.bind_some]
      dsimp only
      have q1 := (B1.2.2.2 d.toNat (by omega)).1
      have q2 := (B1.2.2.2 d.toNat (by omega)).2.1
      rw [Int.toNat_of_nonneg c1.1] at q1 q2
      obtain ⟨t0, ⟨r0, r1, r2, r3, r4⟩, ⟨t1, t2, t3, t4, t5⟩, l1, l2, l3, l4, l5⟩ := B1.1
      simp only [f_ce H1.2.1.1 (by decide : (0:Nat) ≠ 999), Option.bind_some, c_books H1, f_gR t0 (by decide : (2:Nat) ≠ 999), r2, r1]
      rw [f_ld t3 (by decide) c1.1 (by rw [l3]; omega) (by rw [l3]; decide), Option.bind_some, f_ld t2 (by decide) c1.1 (by rw [l2]; omega) (by rw [l2]; decide), Option.bind_some, q1, q2, hG, hG, hb]
      by_cases c3 : s 2 (7 + 4 * d) = b
      · rw [if_pos c3, if_pos (fun z => z.1 c3)]
        have := tell g1 (-3) H1 bg (Or.inr rfl)
        rw [f_ce H1.2.1.1 (by decide), Option.bind_some] at this
        exact this
      · rw [if_neg c3]
        by_cases c4 : s 2 (7 + 4 * d + 1) = b
        · rw [if_pos c4, if_pos (fun z => z.2.1 c4)]
          have := tell g1 (-3) H1 bg (Or.inr rfl)
          rw [f_ce H1.2.1.1 (by decide), Option.bind_some] at this
          exact this
        · rw [if_neg c4, f_ce t0 (by decide), Option.bind_some, c_canPay B1 (hG 2) hR (by omega) (by omega) (by omega), Option.bind_some]
          by_cases c5 : soldS (s 2) d ≤ s 2 b ∧ s 2 (s 2 (7 + 4 * d + 1)) + soldS (s 2) d ≤ 9999
          · rw [if_neg (by rw [b01_z]; exact fun z => z c5), if_neg (fun z => z ⟨c3, c4, c5⟩)]
            obtain ⟨du', g2, x1, x2, x3, x4, x5, x6, x7, x8⟩ := c_remember (E := E) (what := 3) H1 hE hU hG h71 (by have := w2.2.1; omega) (by have := w2.2.2.1; omega)
            have B2 := x2.bk
            rw [keeps_2] at B2
            obtain ⟨g3, p1, B3, O3⟩ := c_pay (E := E) (v := soldS (s 2) d) B2 (show 0 ≤ b ∧ b < 7 by omega) (show 0 ≤ s 2 (7 + 4 * d + 1) ∧ s 2 (7 + 4 * d + 1) < 7 by omega)
            have pu : ∀ i, 7 ≤ i → payS (s 2) b (s 2 (7 + 4 * d + 1)) (soldS (s 2) d) i = s 2 i := by
              intro i hi
              unfold payS
              rw [u1_ne _ (by omega), u1_ne _ (by omega)]
            obtain ⟨B4, O4⟩ := c_cred (d := d) (v := b) B3 c1.1 (by rw [pu 71 (by omega)]; omega) (by rw [pu 71 (by omega)]; omega)
            have H4 := x2.books (O3.trans O4) B4 (fun i hi => by rw [keeps_2, u1_ne _ (by omega), pu i (by omega)])
            have b4 := (((w2.blk H).trans (rem_blk H1 hE x3 x4 x5 x6 x7)).trans ((O3.trans O4).blk (by omega))).up (c' := 8) (z' := 110) (by decide) (by decide)
            obtain ⟨g5, y1, y2, y3⟩ := c_told (v := soldS (s 2) d) H4 b4 (by omega) (by omega)
            refine ⟨du', g5, ?_, y2, y3⟩
            obtain ⟨t0', ⟨r0', r1', r2', r3', r4'⟩, ⟨t1', t2', t3', t4', t5'⟩, l1', l2', l3', l4', l5'⟩ := B3.1
            have H3 := x2.books O3 B3 (fun i hi => by rw [keeps_2, pu i (by omega)])
            dsimp only
            rw [f_ce H1.2.1.1 (by decide), Option.bind_some, x1, Option.bind_some, f_ce x2.2.1.1 (by decide), Option.bind_some, c_books x2, Option.bind_some]
            dsimp only
            rw [f_ce B2.1.1 (by decide), Option.bind_some, p1, Option.bind_some, f_ce H3.2.1.1 (by decide), Option.bind_some, c_books H3, Option.bind_some]
            dsimp only
            rw [f_gR t0' (by decide), r2', Option.bind_some, f_sto t3' (by decide) c1.1 (by rw [l3']; omega) (by rw [l3']; decide), Option.bind_some, f_ce H4.2.1.1 (by decide), Option.bind_some, y1, Option.bind_some]
          · rw [if_pos (by rw [b01_z]; exact c5), if_pos (fun z => c5 z.2.2)]
            exact tell g1 (-3) H1 bg (Or.inr rfl)
    · rw [if_pos (by rw [b01_z]; exact c2), if_pos (show ¬ ((0 ≤ d ∧ d ≤ s 2 71 - 1) ∧ (0 ≤ b ∧ b ≤ s 2 152 - 1)) from fun z => c2 z.2)]
      exact tell h (-2) H b0 (Or.inl rfl)
  · rw [if_pos (by rw [b01_z]; exact c1), if_pos (show ¬ ((0 ≤ d ∧ d ≤ s 2 71 - 1) ∧ (0 ≤ b ∧ b ≤ s 2 152 - 1)) from fun z => c1 z.1)]
    exact tell h (-2) H b0 (Or.inl rfl)
end
