/-! What a debt is -/
set_option maxRecDepth 100000
def atP (s : Sg) (d k : Int) : Int := if 0 ≤ d ∧ d ≤ s 2 71 - 1 then (if 0 ≤ k ∧ k ≤ 3 then s 2 (7 + 4 * d + k) else if k = 4 then soldS (s 2) d else if k = 5 then growsS (s 2) d else -1) else -1
section
variable {E : ax_E} {m : Nat} {s : Sg} {h : ax_H}
theorem m_atP {d k : Int} (hG : G32 s) (hK : KB (s 2)) (hL : LsV (s 2)) (hd : i2 d = d) (hk : i2 k = k) : ∃ s', f_X5_at E (some m) d k (mdl m s h) = some (atP s d k, mdl m s' h) ∧ Es s s' := by
  have h71 := hK.2.2.2.2.1
  unfold f_X5_at atP
  rw [md_ce, Option.bind_some, m_isDebt hG hd h71.1, Option.bind_some]
  by_cases c : 0 ≤ d ∧ d ≤ s 2 71 - 1
  · rw [if_neg (by rw [b01_z]; simp [c]), if_pos c, m_lies hk (by decide) (by decide), Option.bind_some]
    by_cases c2 : 0 ≤ k ∧ k ≤ 3
    · rw [if_neg (by rw [b01_z]; simp [c2]), if_pos c2, md_gR2, Option.bind_some, md_ld2 (by omega) (by omega), Option.bind_some]
      exact ⟨s, rfl, Es.refl s⟩
    · rw [if_pos (by rw [b01_z]; exact c2), if_neg c2, hk, show i2 4 = 4 by decide, show i2 5 = 5 by decide]
      by_cases c4 : k = 4
      · obtain ⟨s1, w1, w2⟩ := m_soldFor (E := E) (m := m) (h := h) (d := d) hG hK hL (by omega)
        rw [if_pos c4, if_pos c4, md_ce, Option.bind_some, w1, Option.bind_some]
        exact ⟨s1, rfl, w2⟩
      · rw [if_neg c4, if_neg c4]
        by_cases c5 : k = 5
        · obtain ⟨s1, w1, w2⟩ := m_growsBy (E := E) (m := m) (h := h) (d := d) hG hK hL (by omega)
          rw [if_pos c5, if_pos c5, md_ce, Option.bind_some, w1, Option.bind_some]
          exact ⟨s1, rfl, w2⟩
        · rw [if_neg c5, if_neg c5]
          exact ⟨s, rfl, Es.refl s⟩
  · rw [if_pos (by rw [b01_z]; exact c), if_neg c]
    exact ⟨s, rfl, Es.refl s⟩
end
section
variable {E : ax_E} {h : ax_H} {x t dl dv ds du : Nat} {s : Sg}
theorem c_atP {d k : Int} (H : REP E h x t dl dv ds du s) (hG : G32 s) (hK : KB (s 2)) (hd : i2 d = d) (hk : i2 k = k) : ∃ h', f_X0_at E (some x) d k h = some (atP s d k, h') ∧ REP E h' x t dl dv ds du s ∧ Blk x 8 110 h h' := by
  have a1 := H.2.1.1
  have h71 := hK.2.2.2.2.1
  have B := H.bk
  have b0 := (Blk.refl x h).up (c' := 8) (z' := 110) (by decide) (by decide)
  unfold f_X0_at atP
  rw [f_ce a1 (by decide), Option.bind_some, c_isDebt H hK hG hd, Option.bind_some]
  by_cases c : 0 ≤ d ∧ d ≤ s 2 71 - 1
  · rw [if_neg (by rw [b01_z]; simp [c]), if_pos c, f_ce a1 (by decide), Option.bind_some, c_books H, Option.bind_some, hk]
    dsimp only
    obtain ⟨q0, q1, q2, q3⟩ := B.2.2.2 d.toNat (by omega)
    rw [Int.toNat_of_nonneg c.1] at q0 q1 q2 q3
    obtain ⟨t0, ⟨r0, r1, r2, r3, r4⟩, ⟨t1, t2, t3, t4, t5⟩, l1, l2, l3, l4, l5⟩ := B.1
    by_cases k0 : k = 0
    · rw [if_pos k0, if_pos (show 0 ≤ k ∧ k ≤ 3 by omega), f_gR t0 (by decide), r1, Option.bind_some, f_ld t2 (by decide) c.1 (by rw [l2]; omega) (by rw [l2]; decide), Option.bind_some, q0, k0, Int.add_zero]
      exact ⟨h, rfl, H, b0⟩
    · rw [if_neg k0]
      by_cases k1 : k = 1
      · rw [if_pos k1, if_pos (show 0 ≤ k ∧ k ≤ 3 by omega), f_gR t0 (by decide), r2, Option.bind_some, f_ld t3 (by decide) c.1 (by rw [l3]; omega) (by rw [l3]; decide), Option.bind_some, q1, k1]
        exact ⟨h, rfl, H, b0⟩
      · rw [if_neg k1]
        by_cases k2 : k = 2
        · rw [if_pos k2, if_pos (show 0 ≤ k ∧ k ≤ 3 by omega), f_gR t0 (by decide), r3, Option.bind_some, f_ld t4 (by decide) c.1 (by rw [l4]; omega) (by rw [l4]; decide), Option.bind_some, q2, k2]
          exact ⟨h, rfl, H, b0⟩
        · rw [if_neg k2]
          by_cases k3 : k = 3
          · rw [if_pos k3, if_pos (show 0 ≤ k ∧ k ≤ 3 by omega), f_gR t0 (by decide), r4, Option.bind_some, f_ld t5 (by decide) c.1 (by rw [l5]; omega) (by rw [l5]; decide), Option.bind_some, q3, k3]
            exact ⟨h, rfl, H, b0⟩
          · rw [if_neg k3, if_neg (show ¬ (0 ≤ k ∧ k ≤ 3) by omega)]
            by_cases k4 : k = 4
            · obtain ⟨g, w1, w2⟩ := c_soldFor (E := E) (d := d) H hG hK hK (hG 2) (fun i _ => rfl) B H.tb (by omega)
              rw [if_pos k4, if_pos k4, f_ce a1 (by decide), Option.bind_some, w1, Option.bind_some]
              exact ⟨g, rfl, H.keep w2.1, (w2.blk H).up (by decide) (by decide)⟩
            · rw [if_neg k4, if_neg k4]
              by_cases k5 : k = 5
              · obtain ⟨g, w1, w2⟩ := c_growsBy (E := E) (d := d) H hG hK hK (hG 2) (fun i _ => rfl) B H.tb (by omega)
                rw [if_pos k5, if_pos k5, f_ce a1 (by decide), Option.bind_some, w1, Option.bind_some]
                exact ⟨g, rfl, H.keep w2.1, (w2.blk H).up (by decide) (by decide)⟩
              · rw [if_neg k5, if_neg k5]
                exact ⟨h, rfl, H, b0⟩
  · rw [if_pos (by rw [b01_z]; exact c), if_neg c]
    exact ⟨h, rfl, H, b0⟩
end
