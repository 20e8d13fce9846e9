/-! A debt told: the model -/
set_option maxRecDepth 100000
def whyS (s : Sg) (p q a : Int) : Int := if ¬ (1 ≤ a ∧ a ≤ 9999) ∨ p = q then -1 else if ¬ ((0 ≤ p ∧ p ≤ s 2 152 - 1) ∧ (0 ≤ q ∧ q ≤ s 2 152 - 1)) then -2 else if s 2 71 = 16 then -5 else 0
def debtS (s : Sg) (p q a : Int) : Int × Sg := if whyS s p q a < 0 then (whyS s p q a, s) else (s 2 71, sw s 2 (addsS (s 2) p q a))
theorem adds_71 (K : Rw) (p q a : Int) : addsS K p q a 71 = K 71 + 1 := by
  unfold addsS
  rw [u1_eq]
theorem why_b (s : Sg) (p q a : Int) : -5 ≤ whyS s p q a ∧ whyS s p q a ≤ 0 := by
  unfold whyS
  split
  · decide
  · split
    · decide
    · split <;> decide
section
variable {E : ax_E} {m : Nat} {s : Sg} {h : ax_H}
theorem m_whyNot {p q a : Int} (hG : G32 s) (hK : KB (s 2)) (hp : i2 p = p) (hq : i2 q = q) (ha : i2 a = a) : f_X5_whyNot E (some m) p q a (mdl m s h) = some (whyS s p q a, mdl m s h) := by
  have h71 := hK.2.2.2.2.1
  unfold f_X5_whyNot f_X5_whyNot_12 f_X5_whyNot_30 f_X5_debts whyS
  rw [hp, hq]
  by_cases c0 : p = q
  · rw [if_pos c0, if_pos (show ¬ (1 ≤ a ∧ a ≤ 9999) ∨ p = q from Or.inr c0)]
  · rw [if_neg c0, m_isAmount ha, Option.bind_some]
    by_cases c1 : 1 ≤ a ∧ a ≤ 9999
    · rw [if_neg (by rw [b01_z]; simp [c1]), if_neg (show ¬ (¬ (1 ≤ a ∧ a ≤ 9999) ∨ p = q) from fun z => z.elim (fun y => y c1) c0), md_ce, Option.bind_some, m_isPerson hG hp hK.1.1, Option.bind_some]
      by_cases c2 : 0 ≤ p ∧ p ≤ s 2 152 - 1
      · rw [if_neg (by rw [b01_z]; simp [c2]), md_ce, Option.bind_some, m_isPerson hG hq hK.1.1, Option.bind_some]
        by_cases c3 : 0 ≤ q ∧ q ≤ s 2 152 - 1
        · rw [if_neg (by rw [b01_z]; simp [c3]), if_neg (show ¬ ¬ ((0 ≤ p ∧ p ≤ s 2 152 - 1) ∧ (0 ≤ q ∧ q ≤ s 2 152 - 1)) from fun z => z ⟨c2, c3⟩), md_ce, Option.bind_some, md_gR2, Option.bind_some, md_ld2 (by decide) (by decide), Option.bind_some, Option.bind_some]
          dsimp only
          rw [hG, show i2 16 = 16 by decide]
          by_cases c4 : s 2 71 = 16
          · rw [if_pos c4, if_pos c4]
          · rw [if_neg c4, if_neg c4]
        · rw [if_pos (by rw [b01_z]; exact c3), if_pos (show ¬ ((0 ≤ p ∧ p ≤ s 2 152 - 1) ∧ (0 ≤ q ∧ q ≤ s 2 152 - 1)) from fun z => c3 z.2)]
      · rw [if_pos (by rw [b01_z]; exact c2), if_pos (show ¬ ((0 ≤ p ∧ p ≤ s 2 152 - 1) ∧ (0 ≤ q ∧ q ≤ s 2 152 - 1)) from fun z => c2 z.1)]
    · rw [if_pos (by rw [b01_z]; exact c1), if_pos (show ¬ (1 ≤ a ∧ a ≤ 9999) ∨ p = q from Or.inl c1)]
end
