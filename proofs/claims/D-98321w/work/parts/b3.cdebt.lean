/-! A debt told: the component -/
set_option maxRecDepth 100000
section
variable {E : ax_E} {h : ax_H} {x t dl dv ds du : Nat} {s : Sg}
theorem debtS_b (hK : KB (s 2)) (p q a : Int) : -7 < (debtS s p q a).1 ∧ (debtS s p q a).1 ≤ 16 := by
  have h71 := hK.2.2.2.2.1
  have hb := why_b s p q a
  unfold debtS
  split
  · dsimp only; omega
  · dsimp only; omega
theorem c_debtNow {p q a : Int} (H : REP E h x t dl dv ds du s) (hG : G32 s) (hK : KB (s 2)) (hp : i2 p = p) (hq : i2 q = q) (ha : i2 a = a) : ∃ h', f_X0_debtNow E (some x) p q a h = some ((debtS s p q a).1, h') ∧ REP E h' x t dl dv ds du (debtS s p q a).2 ∧ Blk x 8 110 h h' := by
  have h71 := hK.2.2.2.2.1
  have a1 := H.2.1.1
  have tl := H.1.1
  have B := H.bk
  have b0 := (Blk.refl x h).up (c' := 8) (z' := 110) (by decide) (by decide)
  have neg : ∀ v : Int, v < 0 → whyS s p q a = v → ∃ h', (some (v, h) : Option (Int × ax_H)) = some ((debtS s p q a).1, h') ∧ REP E h' x t dl dv ds du (debtS s p q a).2 ∧ Blk x 8 110 h h' := by
    intro v hv e
    unfold debtS
    rw [e, if_pos hv]
    exact ⟨h, rfl, H, b0⟩
  unfold f_X0_debtNow f_X0_debtNow_12 f_X0_debtNow_30
  rw [c_isAmount ha, Option.bind_some, hp, hq]
  by_cases c1 : 1 ≤ a ∧ a ≤ 9999
  · rw [if_neg (by rw [b01_z]; simp [c1])]
    by_cases c0 : p = q
    · rw [if_pos c0]
      exact neg _ (by decide) (by unfold whyS; rw [if_pos (Or.inr c0)])
    · have n1 : ¬ (¬ (1 ≤ a ∧ a ≤ 9999) ∨ p = q) := fun z => z.elim (fun y => y c1) c0
      rw [if_neg c0, f_ce a1 (by decide), Option.bind_some, c_isPerson H hK hp, Option.bind_some]
      by_cases c2 : 0 ≤ p ∧ p ≤ s 2 152 - 1
      · rw [if_neg (by rw [b01_z]; simp [c2]), f_ce a1 (by decide), Option.bind_some, c_isPerson H hK hq, Option.bind_some]
        by_cases c3 : 0 ≤ q ∧ q ≤ s 2 152 - 1
        · have n2 : ¬ ¬ ((0 ≤ p ∧ p ≤ s 2 152 - 1) ∧ (0 ≤ q ∧ q ≤ s 2 152 - 1)) := fun z => z ⟨c2, c3⟩
          rw [if_neg (by rw [b01_z]; simp [c3])]
          simp only [f_ce a1 (by decide : (0:Nat) ≠ 999), Option.bind_some, c_books H]
          rw [f_gI B.1.1 (by decide), Option.bind_some, B.2.1.1, hG, show i2 16 = 16 by decide]
          by_cases c4 : s 2 71 = 16
          · rw [if_pos c4]
            exact neg _ (by decide) (by unfold whyS; rw [if_neg n1, if_neg n2, if_pos c4])
          · rw [if_neg c4]
            obtain ⟨g, p1, B2, O2⟩ := c_add (E := E) (d := p) (c := q) (v := a) B h71.1 (by omega)
            have H2 := H.books O2 B2 (fun i hi => by unfold addsS; rw [u1_ne _ (by omega), u1_ne _ (by omega), u1_ne _ (by omega), u1_ne _ (by omega), u1_ne _ (by omega)])
            have w0 : whyS s p q a = 0 := by unfold whyS; rw [if_neg n1, if_neg n2, if_neg c4]
            unfold debtS
            rw [w0, if_neg (by decide), f_ce B.1.1 (by decide), Option.bind_some, p1, Option.bind_some, f_ce H2.2.1.1 (by decide), Option.bind_some, c_books H2, Option.bind_some]
            dsimp only
            rw [f_gI B2.1.1 (by decide), Option.bind_some, B2.2.1.1, adds_71, show s 2 71 + 1 - 1 = s 2 71 by omega]
            exact ⟨g, rfl, H2, (O2.blk (by omega)).up (by decide) (by decide)⟩
        · rw [if_pos (by rw [b01_z]; exact c3)]
          exact neg _ (by decide) (by unfold whyS; rw [if_neg n1, if_pos (fun z => c3 z.2)])
      · rw [if_pos (by rw [b01_z]; exact c2)]
        exact neg _ (by decide) (by unfold whyS; rw [if_neg n1, if_pos (fun z => c2 z.1)])
  · rw [if_pos (by rw [b01_z]; exact c1)]
    exact neg _ (by decide) (by unfold whyS; rw [if_pos (Or.inl c1)])
theorem c_debtP {p q a : Int} (H : REP E h x t dl dv ds du s) (hE : Ek E x) (hG : G32 s) (hK : KB (s 2)) (hp : i2 p = p) (hq : i2 q = q) (ha : i2 a = a) : ∃ h', f_X0_debt E (some x) p q a h = some ((setP (debtS s p q a)).1, h') ∧ REP E h' x t dl dv ds du (setP (debtS s p q a)).2 ∧ Blk x 8 110 h h' := by
  obtain ⟨g, w1, w2, w3⟩ := c_debtNow (E := E) H hG hK hp hq ha
  have hb := debtS_b hK p q a
  obtain ⟨g2, v1, v2, v3⟩ := c_settled (v := (debtS s p q a).1) w2 hE w3 hb.1 (by omega)
  refine ⟨g2, ?_, v2, v3⟩
  unfold f_X0_debt setP
  rw [f_ce H.2.1.1 (by decide), Option.bind_some, w1, Option.bind_some]
  dsimp only
  rw [f_ce w2.2.1.1 (by decide), Option.bind_some, v1, Option.bind_some]
end
