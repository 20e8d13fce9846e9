/-! What is asked and only read: how deep, which doors -/
set_option maxRecDepth 100000
def deepP (s : Sg) (p q : Int) : Int := if ((0 ≤ p ∧ p ≤ s 2 152 - 1) ∧ (0 ≤ q ∧ q ≤ s 2 152 - 1) ∧ p ≠ q) then deepS (s 2) p q else -1
def needP (s : Sg) (p q r : Int) : Int := if ((0 ≤ p ∧ p ≤ s 2 152 - 1) ∧ (0 ≤ q ∧ q ≤ s 2 152 - 1) ∧ p ≠ q) ∧ 1 ≤ r ∧ r ≤ 3 then needS (s 2) p q r else -1
def doorsP (s : Sg) (v : Int) : Int := if 0 ≤ v ∧ v ≤ s 2 152 - 1 then doorsB (s 2) v else -1
section
variable {E : ax_E} {m : Nat} {s : Sg} {h : ax_H}
theorem m_areTwo {p q : Int} (hG : G32 s) (hK : KB (s 2)) (hp : i2 p = p) (hq : i2 q = q) : f_X5_areTwo E (some m) p q (mdl m s h) = some (b01 (((0 ≤ p ∧ p ≤ s 2 152 - 1) ∧ (0 ≤ q ∧ q ≤ s 2 152 - 1) ∧ p ≠ q)), mdl m s h) := by
  unfold f_X5_areTwo f_X5_areTwo_25
  rw [md_ce, Option.bind_some, m_isPerson hG hp hK.1.1, Option.bind_some]
  by_cases e1 : 0 ≤ p ∧ p ≤ s 2 152 - 1
  · rw [if_neg (by rw [b01_z]; simp [e1]), md_ce, Option.bind_some, m_isPerson hG hq hK.1.1, Option.bind_some]
    by_cases e2 : 0 ≤ q ∧ q ≤ s 2 152 - 1
    · rw [if_neg (by rw [b01_z]; simp [e2]), hp, hq]
      by_cases e3 : p = q
      · rw [if_pos e3]
        exact congrArg (fun v => some (v, mdl m s h)) (b01_f (fun z => z.2.2 e3)).symm
      · rw [if_neg e3]
        exact congrArg (fun v => some (v, mdl m s h)) (b01_t ⟨e1, e2, e3⟩).symm
    · rw [if_pos (by rw [b01_z]; exact e2)]
      exact congrArg (fun v => some (v, mdl m s h)) (b01_f (fun z => e2 z.2.1)).symm
  · rw [if_pos (by rw [b01_z]; exact e1)]
    exact congrArg (fun v => some (v, mdl m s h)) (b01_f (fun z => e1 z.1)).symm
theorem m_deepP {p q : Int} (hG : G32 s) (hK : KB (s 2)) (hL : LsV (s 2)) (hp : i2 p = p) (hq : i2 q = q) : ∃ s', f_X5_deep E (some m) p q (mdl m s h) = some (deepP s p q, mdl m s' h) ∧ Es s s' := by
  unfold f_X5_deep deepP
  rw [md_ce, Option.bind_some, m_areTwo hG hK hp hq, Option.bind_some]
  by_cases c : ((0 ≤ p ∧ p ≤ s 2 152 - 1) ∧ (0 ≤ q ∧ q ≤ s 2 152 - 1) ∧ p ≠ q)
  · have c' := c
    obtain ⟨s1, w1, w2⟩ := m_deepNow (E := E) (m := m) (h := h) (ow := p) (vi := q) hG hK hL (by omega) (by omega)
    rw [if_neg (by rw [b01_z]; exact fun z => z c), if_pos c, md_ce, Option.bind_some, w1, Option.bind_some]
    exact ⟨s1, rfl, w2⟩
  · rw [if_pos (by rw [b01_z]; exact c), if_neg c]
    exact ⟨s, rfl, Es.refl s⟩
theorem m_doors {v : Int} (hG : G32 s) (hK : KB (s 2)) (hL : LsV (s 2)) (hv : i2 v = v) : ∃ s', f_X5_doors E (some m) v (mdl m s h) = some (doorsP s v, mdl m s' h) ∧ Es s s' := by
  unfold f_X5_doors doorsP
  rw [md_ce, Option.bind_some, m_isPerson hG hv hK.1.1, Option.bind_some]
  by_cases c : 0 ≤ v ∧ v ≤ s 2 152 - 1
  · obtain ⟨s1, w1, w2⟩ := m_doorsOf (E := E) (m := m) (h := h) (v := v) hG hK hL (by omega)
    rw [if_neg (by rw [b01_z]; simp [c]), if_pos c, md_ce, Option.bind_some, w1, Option.bind_some]
    exact ⟨s1, rfl, w2⟩
  · rw [if_pos (by rw [b01_z]; exact c), if_neg c]
    exact ⟨s, rfl, Es.refl s⟩
end
section
variable {E : ax_E} {h : ax_H} {x t dl dv ds du : Nat} {s : Sg}
theorem c_deepP {p q : Int} (H : REP E h x t dl dv ds du s) (hG : G32 s) (hK : KB (s 2)) (hp : i2 p = p) (hq : i2 q = q) : ∃ h', f_X0_deep E (some x) p q h = some (deepP s p q, h') ∧ REP E h' x t dl dv ds du s ∧ Blk x 8 110 h h' := by
  have a1 := H.2.1.1
  have two : f_X0_areTwo E (some x) p q h = some (b01 (((0 ≤ p ∧ p ≤ s 2 152 - 1) ∧ (0 ≤ q ∧ q ≤ s 2 152 - 1) ∧ p ≠ q)), h) := c_areTwo H hK hp hq
  unfold f_X0_deep deepP
  rw [f_ce a1 (by decide), Option.bind_some, two, Option.bind_some]
  by_cases c : ((0 ≤ p ∧ p ≤ s 2 152 - 1) ∧ (0 ≤ q ∧ q ≤ s 2 152 - 1) ∧ p ≠ q)
  · have c' := c
    obtain ⟨g, w1, w2⟩ := c_deep (E := E) (ow := p) (vi := q) H hG hK hK (hG 2) (fun i _ => rfl) H.bk (by omega) (by omega)
    rw [if_neg (by rw [b01_z]; exact fun z => z c), if_pos c, f_ce a1 (by decide), Option.bind_some, c_books H, Option.bind_some]
    dsimp only
    rw [f_ce a1 (by decide), Option.bind_some, w1, Option.bind_some]
    exact ⟨g, rfl, H.keep w2.1, (w2.blk H).up (by decide) (by decide)⟩
  · rw [if_pos (by rw [b01_z]; exact c), if_neg c]
    exact ⟨h, rfl, H, (Blk.refl x h).up (by decide) (by decide)⟩
theorem c_doors {v : Int} (H : REP E h x t dl dv ds du s) (hG : G32 s) (hK : KB (s 2)) (hv : i2 v = v) : ∃ h', f_X0_doors E (some x) v h = some (doorsP s v, h') ∧ REP E h' x t dl dv ds du s ∧ Blk x 8 110 h h' := by
  have a1 := H.2.1.1
  unfold f_X0_doors doorsP
  rw [f_ce a1 (by decide), Option.bind_some, c_isPerson H hK hv, Option.bind_some]
  by_cases c : 0 ≤ v ∧ v ≤ s 2 152 - 1
  · obtain ⟨g, w1, w2⟩ := c_doorsOf (E := E) (v := v) H hG hK hK (hG 2) (fun i _ => rfl) H.bk H.tb (by omega)
    rw [if_neg (by rw [b01_z]; simp [c]), if_pos c, f_ce a1 (by decide), Option.bind_some, c_books H, Option.bind_some]
    dsimp only
    rw [f_ce a1 (by decide), Option.bind_some, w1, Option.bind_some]
    exact ⟨g, rfl, H.keep w2.1, (w2.blk H).up (by decide) (by decide)⟩
  · rw [if_pos (by rw [b01_z]; exact c), if_neg c]
    exact ⟨h, rfl, H, (Blk.refl x h).up (by decide) (by decide)⟩
end
