/-! What one owes another -/
set_option maxRecDepth 100000
def owesP (s : Sg) (p q : Int) : Int := if ((0 ≤ p ∧ p ≤ s 2 152 - 1) ∧ (0 ≤ q ∧ q ≤ s 2 152 - 1) ∧ p ≠ q) then owed (s 2) p q else -1
section
variable {E : ax_E} {m : Nat} {s : Sg} {h : ax_H}
theorem m_owesP {p q : Int} (hG : G32 s) (hK : KB (s 2)) (hp : i2 p = p) (hq : i2 q = q) : f_X5_owes E (some m) p q (mdl m s h) = some (owesP s p q, mdl m s h) := by
  have h71 := hK.2.2.2.2.1
  unfold f_X5_owes f_X5_owes_30 owesP
  rw [md_ce, Option.bind_some, m_isPerson hG hp hK.1.1, Option.bind_some]
  by_cases e1 : 0 ≤ p ∧ p ≤ s 2 152 - 1
  · rw [if_neg (by rw [b01_z]; simp [e1]), md_ce, Option.bind_some, m_isPerson hG hq hK.1.1, Option.bind_some]
    by_cases e2 : 0 ≤ q ∧ q ≤ s 2 152 - 1
    · rw [if_neg (by rw [b01_z]; simp [e2]), hp, hq]
      by_cases e3 : p = q
      · rw [if_pos e3, if_neg (show ¬ ((0 ≤ p ∧ p ≤ s 2 152 - 1) ∧ (0 ≤ q ∧ q ≤ s 2 152 - 1) ∧ p ≠ q) from fun z => z.2.2 e3)]
      · rw [if_neg e3, if_pos (show ((0 ≤ p ∧ p ≤ s 2 152 - 1) ∧ (0 ≤ q ∧ q ≤ s 2 152 - 1) ∧ p ≠ q) from ⟨e1, e2, e3⟩), md_ce, Option.bind_some, m_owed hG h71.1 h71.2 hp hq, Option.bind_some]
    · rw [if_pos (by rw [b01_z]; exact e2), if_neg (show ¬ ((0 ≤ p ∧ p ≤ s 2 152 - 1) ∧ (0 ≤ q ∧ q ≤ s 2 152 - 1) ∧ p ≠ q) from fun z => e2 z.2.1)]
  · rw [if_pos (by rw [b01_z]; exact e1), if_neg (show ¬ ((0 ≤ p ∧ p ≤ s 2 152 - 1) ∧ (0 ≤ q ∧ q ≤ s 2 152 - 1) ∧ p ≠ q) from fun z => e1 z.1)]
end
section
variable {E : ax_E} {h : ax_H} {x t dl dv ds du : Nat} {s : Sg}
theorem c_owesP {p q : Int} (H : REP E h x t dl dv ds du s) (hG : G32 s) (hK : KB (s 2)) (hp : i2 p = p) (hq : i2 q = q) : f_X0_owes E (some x) p q h = some (owesP s p q, h) := by
  have a1 := H.2.1.1
  have h71 := hK.2.2.2.2.1
  have B := H.bk
  have two : f_X0_areTwo E (some x) p q h = some (b01 (((0 ≤ p ∧ p ≤ s 2 152 - 1) ∧ (0 ≤ q ∧ q ≤ s 2 152 - 1) ∧ p ≠ q)), h) := c_areTwo H hK hp hq
  unfold f_X0_owes owesP
  rw [f_ce a1 (by decide), Option.bind_some, two, Option.bind_some]
  by_cases c : ((0 ≤ p ∧ p ≤ s 2 152 - 1) ∧ (0 ≤ q ∧ q ≤ s 2 152 - 1) ∧ p ≠ q)
  · rw [if_neg (by rw [b01_z]; exact fun z => z c), if_pos c, f_ce a1 (by decide), Option.bind_some, c_books H, Option.bind_some]
    dsimp only
    rw [f_ce B.1.1 (by decide), Option.bind_some, c_owes B (hG 2) h71.1 h71.2 hp hq, Option.bind_some]
  · rw [if_pos (by rw [b01_z]; exact c), if_neg c]
end
