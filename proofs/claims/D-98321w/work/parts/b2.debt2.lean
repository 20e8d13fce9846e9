/-! A debt told: both sides -/
set_option maxRecDepth 100000
section
variable {E : ax_E} {m : Nat} {s : Sg} {h : ax_H}
theorem m_debtP {p q a : Int} (hG : G32 s) (hK : KB (s 2)) (hp : i2 p = p) (hq : i2 q = q) (ha : i2 a = a) : f_X5_debt E (some m) p q a (mdl m s h) = some ((setP (debtS s p q a)).1, mdl m (setP (debtS s p q a)).2 h) := by
  have h71 := hK.2.2.2.2.1
  have hb := why_b s p q a
  unfold f_X5_debt f_X5_debts setP setM debtS
  rw [md_ce, Option.bind_some, m_whyNot hG hK hp hq ha, Option.bind_some]
  dsimp only
  rw [i2_of (by omega) (by omega)]
  by_cases c : whyS s p q a < 0
  · simp only [if_pos c]
    rw [md_ce, Option.bind_some, m_refuses (by omega) (by omega), Option.bind_some]
  · have c16 : s 2 71 ≤ 15 := by
      unfold whyS at c
      split at c
      · exact absurd (by decide) c
      · split at c
        · exact absurd (by decide) c
        · split at c
          · exact absurd (by decide) c
          · omega
    simp only [if_neg c]
    rw [md_ce, Option.bind_some, m_adds h71.1 c16, Option.bind_some, md_ce, Option.bind_some, md_gR2, Option.bind_some, md_ld2 (by decide) (by decide), Option.bind_some, Option.bind_some]
    dsimp only
    rw [sw_eq, adds_71, md_ce, Option.bind_some, m_settled, Option.bind_some, if_neg (show ¬ s 2 71 < 0 by omega), show s 2 71 + 1 - 1 = s 2 71 by omega]
end
