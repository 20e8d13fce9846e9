/-! Balances, status, fault -/
set_option maxRecDepth 100000
def balP (s : Sg) (p : Int) : Int := if 0 ≤ p ∧ p ≤ s 2 152 - 1 then balanceS (s 2) p else -1000000
section
variable {E : ax_E} {m : Nat} {s : Sg} {h : ax_H}
theorem m_status : f_X5_status E (some m) (mdl m s h) = some (s 0 0, mdl m s h) := by
  unfold f_X5_status
  rw [md_gI0, Option.bind_some]
theorem m_fault : f_X5_fault E (some m) (mdl m s h) = some (s 0 12, mdl m s h) := by
  unfold f_X5_fault
  rw [md_gI12, Option.bind_some]
theorem m_balP {p : Int} (hG : G32 s) (hK : KB (s 2)) (hp : i2 p = p) : f_X5_balance E (some m) p (mdl m s h) = some (balP s p, mdl m s h) := by
  have hR := hK.2.2.2.2
  unfold f_X5_balance balP
  rw [md_ce, Option.bind_some, m_isPerson hG hp hK.1.1, Option.bind_some]
  by_cases c : 0 ≤ p ∧ p ≤ s 2 152 - 1
  · rw [if_neg (by rw [b01_z]; simp [c]), if_pos c, md_ce, Option.bind_some, m_balanceOf hG hR.1.1 hR.1.2 hp, Option.bind_some]
  · rw [if_pos (by rw [b01_z]; exact c), if_neg c]
end
section
variable {E : ax_E} {h : ax_H} {x t dl dv ds du : Nat} {s : Sg}
theorem c_status (H : REP E h x t dl dv ds du s) : f_X0_status E (some x) h = some (s 0 0, h) := by
  unfold f_X0_status
  rw [f_gI H.2.1.1 (by decide), Option.bind_some, H.2.2.1.1]
theorem c_fault (H : REP E h x t dl dv ds du s) : f_X0_fault E (some x) h = some (s 0 12, h) := by
  unfold f_X0_fault
  rw [f_gI H.2.1.1 (by decide), Option.bind_some, H.2.2.1.2.1]
theorem c_balP {p : Int} (H : REP E h x t dl dv ds du s) (hG : G32 s) (hK : KB (s 2)) (hp : i2 p = p) : f_X0_balance E (some x) p h = some (balP s p, h) := by
  have a1 := H.2.1.1
  have hR := hK.2.2.2.2
  have B := H.bk
  unfold f_X0_balance balP
  rw [f_ce a1 (by decide), Option.bind_some, c_isPerson H hK hp, Option.bind_some]
  by_cases c : 0 ≤ p ∧ p ≤ s 2 152 - 1
  · rw [if_neg (by rw [b01_z]; simp [c]), if_pos c, f_ce a1 (by decide), Option.bind_some, c_books H, Option.bind_some]
    dsimp only
    rw [f_ce B.1.1 (by decide), Option.bind_some, c_balance B (hG 2) hR.1.1 hR.1.2 hp, Option.bind_some]
  · rw [if_pos (by rw [b01_z]; exact c), if_neg c]
end
