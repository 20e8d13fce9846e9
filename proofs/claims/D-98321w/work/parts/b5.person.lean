/-! A person told: the model -/
set_option maxRecDepth 100000
def personR (K : Rw) (a b c : Int) : Rw := u1 (u1 (u1 (u1 K (K 152) a) (73 + 2 * K 152) b) (73 + 2 * K 152 + 1) c) 152 (K 152 + 1)
def personS (s : Sg) (a b c : Int) : Int × Sg := if ¬ ((0 ≤ a ∧ a ≤ 9999) ∧ (1 ≤ b ∧ b ≤ 3) ∧ (0 ≤ c ∧ c ≤ 99)) then (-1, s) else if s 2 152 = 7 then (-5, s) else (s 2 152, sw s 2 (personR (s 2) a b c))
section
variable {E : ax_E} {m : Nat} {s : Sg} {h : ax_H}
theorem m_isFact0 {v : Int} (hv : i2 v = v) : f_X5_isFact E 0 v h = some (b01 (0 ≤ v ∧ v ≤ 9999), h) := by
  rw [m_isFact (by decide) hv]
  simp only [if_pos (rfl : (0 : Int) = 0), if_true]
theorem m_isFact1 {v : Int} (hv : i2 v = v) : f_X5_isFact E 1 v h = some (b01 (1 ≤ v ∧ v ≤ 3), h) := by
  rw [m_isFact (by decide) hv]
  simp only [if_pos (rfl : (1 : Int) = 1), if_true, if_neg (show ¬ (1 : Int) = 0 by decide)]
theorem m_isFact2 {v : Int} (hv : i2 v = v) : f_X5_isFact E 2 v h = some (b01 (0 ≤ v ∧ v ≤ 99), h) := by
  rw [m_isFact (by decide) hv]
  simp only [if_neg (show ¬ (2 : Int) = 1 by decide), if_neg (show ¬ (2 : Int) = 0 by decide), true_and]
theorem m_personP {a b c : Int} (hG : G32 s) (hK : KB (s 2)) (ha : i2 a = a) (hb : i2 b = b) (hc : i2 c = c) : f_X5_person E (some m) a b c (mdl m s h) = some ((setP (personS s a b c)).1, mdl m (setP (personS s a b c)).2 h) := by
  have hn := hK.1
  unfold f_X5_person f_X5_person_24 f_X5_people setP setM personS
  rw [m_isFact0 ha, Option.bind_some]
  by_cases c1 : 0 ≤ a ∧ a ≤ 9999
  · rw [if_neg (by rw [b01_z]; simp [c1]), m_isFact1 hb, Option.bind_some]
    by_cases c2 : 1 ≤ b ∧ b ≤ 3
    · rw [if_neg (by rw [b01_z]; simp [c2]), m_isFact2 hc, Option.bind_some]
      by_cases c3 : 0 ≤ c ∧ c ≤ 99
      · rw [if_neg (by rw [b01_z]; simp [c3])]
        simp only [if_neg (show ¬ ¬ ((0 ≤ a ∧ a ≤ 9999) ∧ (1 ≤ b ∧ b ≤ 3) ∧ (0 ≤ c ∧ c ≤ 99)) from fun z => z ⟨c1, c2, c3⟩)]
        by_cases c4 : s 2 152 = 7
        · simp (disch := first | omega | assumption | exact hG _ _ | (refine i2_ofp ?_; omega)) only [f_X5_people, md_gR2, md_ld2, md_ce, m_refuses, Option.bind_some, Option.map_some, sw_eq, sw_ne, u1_eq, u1_ne, u1_u1, sw_sw, i2_of, if_pos, if_neg, true_or, or_true, if_true, if_false]
        · simp (disch := first | omega | assumption | exact hG _ _ | (refine i2_ofp ?_; omega)) only [f_X5_people, f_X5_person, f_X5_person_24, md_ce, md_gR2, md_ld2, md_sto2, m_placeOf, m_settled, Option.bind_some, Option.map_some, sw_eq, sw_ne, u1_eq, u1_ne, u1_u1, sw_sw, i2_of, if_pos, if_neg, true_or, or_true, if_true, if_false]
          unfold personR
          rw [show 73 + 2 * s 2 152 + 1 - 1 = 73 + 2 * s 2 152 by omega, show 73 + 2 * s 2 152 + 2 - 1 = 73 + 2 * s 2 152 + 1 by omega]
      · rw [if_pos (by rw [b01_z]; exact c3)]
        simp only [if_pos (show ¬ ((0 ≤ a ∧ a ≤ 9999) ∧ (1 ≤ b ∧ b ≤ 3) ∧ (0 ≤ c ∧ c ≤ 99)) from fun z => c3 z.2.2)]
        rw [md_ce, Option.bind_some, m_refuses (by decide) (by decide), Option.bind_some, if_pos (by decide)]
    · rw [if_pos (by rw [b01_z]; exact c2)]
      simp only [if_pos (show ¬ ((0 ≤ a ∧ a ≤ 9999) ∧ (1 ≤ b ∧ b ≤ 3) ∧ (0 ≤ c ∧ c ≤ 99)) from fun z => c2 z.2.1)]
      rw [md_ce, Option.bind_some, m_refuses (by decide) (by decide), Option.bind_some, if_pos (by decide)]
  · rw [if_pos (by rw [b01_z]; exact c1)]
    simp only [if_pos (show ¬ ((0 ≤ a ∧ a ≤ 9999) ∧ (1 ≤ b ∧ b ≤ 3) ∧ (0 ≤ c ∧ c ≤ 99)) from fun z => c1 z.1)]
    rw [md_ce, Option.bind_some, m_refuses (by decide) (by decide), Option.bind_some, if_pos (by decide)]
end
