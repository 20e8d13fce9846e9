/-! What a person has -/
set_option maxRecDepth 100000
def ofP (s : Sg) (p w : Int) : Int := if (0 ≤ p ∧ p ≤ s 2 152 - 1) ∧ 0 ≤ w ∧ w ≤ 2 then s 2 (if w = 0 then p else 73 + 2 * p + w - 1) else -1
section
variable {E : ax_E} {m : Nat} {s : Sg} {h : ax_H}
theorem m_ofP {p w : Int} (hG : G32 s) (hK : KB (s 2)) (hp : i2 p = p) (hw : i2 w = w) : f_X5_of E (some m) p w (mdl m s h) = some (ofP s p w, mdl m s h) := by
  have hn := hK.1
  unfold f_X5_of f_X5_of_30 ofP
  rw [md_ce, Option.bind_some, m_isPerson hG hp hn.1, Option.bind_some]
  by_cases c : 0 ≤ p ∧ p ≤ s 2 152 - 1
  · rw [if_neg (by rw [b01_z]; simp [c]), m_lies hw (by decide) (by decide), Option.bind_some]
    by_cases c2 : 0 ≤ w ∧ w ≤ 2
    · rw [if_neg (by rw [b01_z]; simp [c2]), if_pos (show (0 ≤ p ∧ p ≤ s 2 152 - 1) ∧ 0 ≤ w ∧ w ≤ 2 from ⟨c, c2⟩), md_gR2, Option.bind_some, m_placeOf hw, Option.bind_some]
      dsimp only
      rw [md_ld2 (by split <;> omega) (by split <;> omega), Option.bind_some]
    · rw [if_pos (by rw [b01_z]; exact c2), if_neg (show ¬ ((0 ≤ p ∧ p ≤ s 2 152 - 1) ∧ 0 ≤ w ∧ w ≤ 2) from fun z => c2 z.2)]
  · rw [if_pos (by rw [b01_z]; exact c), if_neg (show ¬ ((0 ≤ p ∧ p ≤ s 2 152 - 1) ∧ 0 ≤ w ∧ w ≤ 2) from fun z => c z.1)]
end
section
variable {E : ax_E} {h : ax_H} {x t dl dv ds du : Nat} {s : Sg}
theorem c_ofP {p w : Int} (H : REP E h x t dl dv ds du s) (hG : G32 s) (hK : KB (s 2)) (hp : i2 p = p) (hw : i2 w = w) : f_X0_of E (some x) p w h = some (ofP s p w, h) := by
  have hn := hK.1
  obtain ⟨a1, a2, -⟩ := id H.2.1
  have B := H.bk
  obtain ⟨⟨b1, b2, b3, b4, b5, b6, b7⟩, -, -, ⟨m1, m2, m3⟩, ⟨n1, n2, n3⟩, -⟩ := H.2.2.2.2.1
  have hl := i2_lh hw
  unfold f_X0_of f_X0_of_30 f_X0_factsOf ofP
  rw [f_ce a1 (by decide), Option.bind_some, c_isPerson H hK hp, Option.bind_some]
  by_cases c : 0 ≤ p ∧ p ≤ s 2 152 - 1
  · rw [if_neg (by rw [b01_z]; simp [c]), hw, c_in (by omega) (by omega) (by omega), Option.bind_some]
    by_cases c2 : 0 ≤ w ∧ w ≤ 2
    · have ep : ((p.toNat : Nat) : Int) = p := by omega
      rw [if_neg (by rw [b01_z]; simp [c2]), if_pos (show (0 ≤ p ∧ p ≤ s 2 152 - 1) ∧ 0 ≤ w ∧ w ≤ 2 from ⟨c, c2⟩), f_ce a1 (by decide), Option.bind_some, show i2 1 = 1 by decide]
      by_cases w0 : w = 0
      · obtain ⟨t0, ⟨r0, -⟩, ⟨t1, -⟩, l1, -⟩ := B.1
        have q := B.2.2.1 p.toNat (by omega)
        rw [ep] at q
        dsimp only
        rw [if_pos w0, if_pos w0, Option.bind_some, c_books H, Option.bind_some]
        dsimp only
        rw [f_gR t0 (by decide), r0, Option.bind_some, Option.bind_some]
        dsimp only
        rw [f_ld t1 (by decide) c.1 (by rw [l1]; omega) (by rw [l1]; decide), Option.bind_some, q]
      · rw [if_neg w0, if_neg w0]
        by_cases w1 : w = 1
        · have q := m3 p.toNat (by omega)
          rw [ep] at q
          rw [if_pos w1, f_gR a1 (by decide), a2, Option.bind_some, f_gR b1 (by decide), b6, Option.bind_some, Option.bind_some]
          dsimp only
          rw [f_ld m1 (by decide) c.1 (by rw [m2]; omega) (by rw [m2]; decide), Option.bind_some, q, w1, show 73 + 2 * p + 1 - 1 = 73 + 2 * p by omega]
        · have q := n3 p.toNat (by omega)
          rw [ep] at q
          rw [if_neg w1, f_gR a1 (by decide), a2, Option.bind_some, f_gR b1 (by decide), b7, Option.bind_some, Option.bind_some]
          dsimp only
          rw [f_ld n1 (by decide) c.1 (by rw [n2]; omega) (by rw [n2]; decide), Option.bind_some, q, show w = 2 by omega, show 73 + 2 * p + 2 - 1 = 73 + 2 * p + 1 by omega]
    · rw [if_pos (by rw [b01_z]; exact c2), if_neg (show ¬ ((0 ≤ p ∧ p ≤ s 2 152 - 1) ∧ 0 ≤ w ∧ w ≤ 2) from fun z => c2 z.2)]
  · rw [if_pos (by rw [b01_z]; exact c), if_neg (show ¬ ((0 ≤ p ∧ p ≤ s 2 152 - 1) ∧ 0 ≤ w ∧ w ≤ 2) from fun z => c z.1)]
end
