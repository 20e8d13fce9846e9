/-! What is asked and only read: what is lacking to get in, what shuts -/
set_option maxRecDepth 100000
def shutP (s : Sg) (p q r : Int) : Int := if ((0 ≤ p ∧ p ≤ s 2 152 - 1) ∧ (0 ≤ q ∧ q ≤ s 2 152 - 1) ∧ p ≠ q) ∧ 1 ≤ r ∧ r ≤ 3 then shutS (s 2) p q r else -1
section
variable {E : ax_E} {m : Nat} {s : Sg} {h : ax_H}
theorem m_needP {p q r : Int} (hG : G32 s) (hK : KB (s 2)) (hL : LsV (s 2)) (hp : i2 p = p) (hq : i2 q = q) (hr : i2 r = r) : ∃ s', f_X5_need E (some m) p q r (mdl m s h) = some (needP s p q r, mdl m s' h) ∧ Es s s' := by
  unfold f_X5_need f_X5_need_26 needP
  rw [md_ce, Option.bind_some, m_areTwo hG hK hp hq, Option.bind_some]
  by_cases c : ((0 ≤ p ∧ p ≤ s 2 152 - 1) ∧ (0 ≤ q ∧ q ≤ s 2 152 - 1) ∧ p ≠ q)
  · rw [if_neg (by rw [b01_z]; exact fun z => z c), m_isRoom hr, Option.bind_some]
    by_cases c2 : 1 ≤ r ∧ r ≤ 3
    · obtain ⟨s1, w1, w2⟩ := m_needOf (E := E) (m := m) (h := h) (vi := p) (ho := q) (room := r) hG hK hL (by omega) (by omega) (by omega)
      rw [if_neg (by rw [b01_z]; exact fun z => z c2), if_pos (show ((0 ≤ p ∧ p ≤ s 2 152 - 1) ∧ (0 ≤ q ∧ q ≤ s 2 152 - 1) ∧ p ≠ q) ∧ 1 ≤ r ∧ r ≤ 3 from ⟨c, c2⟩), md_ce, Option.bind_some, w1, Option.bind_some]
      exact ⟨s1, rfl, w2⟩
    · rw [if_pos (by rw [b01_z]; exact c2), if_neg (show ¬ (((0 ≤ p ∧ p ≤ s 2 152 - 1) ∧ (0 ≤ q ∧ q ≤ s 2 152 - 1) ∧ p ≠ q) ∧ 1 ≤ r ∧ r ≤ 3) from fun z => c2 z.2)]
      exact ⟨s, rfl, Es.refl s⟩
  · rw [if_pos (by rw [b01_z]; exact c), if_neg (show ¬ (((0 ≤ p ∧ p ≤ s 2 152 - 1) ∧ (0 ≤ q ∧ q ≤ s 2 152 - 1) ∧ p ≠ q) ∧ 1 ≤ r ∧ r ≤ 3) from fun z => c z.1)]
    exact ⟨s, rfl, Es.refl s⟩
theorem m_shutP {p q r : Int} (hG : G32 s) (hK : KB (s 2)) (hL : LsV (s 2)) (hp : i2 p = p) (hq : i2 q = q) (hr : i2 r = r) : ∃ s', f_X5_shut E (some m) p q r (mdl m s h) = some (shutP s p q r, mdl m s' h) ∧ Es s s' := by
  unfold f_X5_shut f_X5_shut_26 shutP
  rw [md_ce, Option.bind_some, m_areTwo hG hK hp hq, Option.bind_some]
  by_cases c : ((0 ≤ p ∧ p ≤ s 2 152 - 1) ∧ (0 ≤ q ∧ q ≤ s 2 152 - 1) ∧ p ≠ q)
  · rw [if_neg (by rw [b01_z]; exact fun z => z c), m_isRoom hr, Option.bind_some]
    by_cases c2 : 1 ≤ r ∧ r ≤ 3
    · obtain ⟨s1, w1, w2⟩ := m_shutBy (E := E) (m := m) (h := h) (ow := p) (vi := q) (room := r) hG hK hL (by omega) (by omega) (by omega)
      rw [if_neg (by rw [b01_z]; exact fun z => z c2), if_pos (show ((0 ≤ p ∧ p ≤ s 2 152 - 1) ∧ (0 ≤ q ∧ q ≤ s 2 152 - 1) ∧ p ≠ q) ∧ 1 ≤ r ∧ r ≤ 3 from ⟨c, c2⟩), md_ce, Option.bind_some, w1, Option.bind_some]
      exact ⟨s1, rfl, w2⟩
    · rw [if_pos (by rw [b01_z]; exact c2), if_neg (show ¬ (((0 ≤ p ∧ p ≤ s 2 152 - 1) ∧ (0 ≤ q ∧ q ≤ s 2 152 - 1) ∧ p ≠ q) ∧ 1 ≤ r ∧ r ≤ 3) from fun z => c2 z.2)]
      exact ⟨s, rfl, Es.refl s⟩
  · rw [if_pos (by rw [b01_z]; exact c), if_neg (show ¬ (((0 ≤ p ∧ p ≤ s 2 152 - 1) ∧ (0 ≤ q ∧ q ≤ s 2 152 - 1) ∧ p ≠ q) ∧ 1 ≤ r ∧ r ≤ 3) from fun z => c z.1)]
    exact ⟨s, rfl, Es.refl s⟩
end
section
variable {E : ax_E} {h : ax_H} {x t dl dv ds du : Nat} {s : Sg}
theorem c_isRoom {v : Int} (hv : i2 v = v) : f_X0_isRoom E v h = some (b01 (1 ≤ v ∧ v ≤ 3), h) := by
  have hl := i2_lh hv
  unfold f_X0_isRoom
  rw [hv, c_in (by omega) (by omega) (by omega), Option.bind_some, if_pos (by rw [b01_or]; trivial)]
theorem c_needP {p q r : Int} (H : REP E h x t dl dv ds du s) (hG : G32 s) (hK : KB (s 2)) (hp : i2 p = p) (hq : i2 q = q) (hr : i2 r = r) : ∃ h', f_X0_need E (some x) p q r h = some (needP s p q r, h') ∧ REP E h' x t dl dv ds du s ∧ Blk x 8 110 h h' := by
  have a1 := H.2.1.1
  have b0 := (Blk.refl x h).up (c' := 8) (z' := 110) (by decide) (by decide)
  have two : f_X0_areTwo E (some x) p q h = some (b01 (((0 ≤ p ∧ p ≤ s 2 152 - 1) ∧ (0 ≤ q ∧ q ≤ s 2 152 - 1) ∧ p ≠ q)), h) := c_areTwo H hK hp hq
  unfold f_X0_need f_X0_need_26 needP
  rw [f_ce a1 (by decide), Option.bind_some, two, Option.bind_some]
  by_cases c : ((0 ≤ p ∧ p ≤ s 2 152 - 1) ∧ (0 ≤ q ∧ q ≤ s 2 152 - 1) ∧ p ≠ q)
  · rw [if_neg (by rw [b01_z]; exact fun z => z c), c_isRoom hr, Option.bind_some]
    by_cases c2 : 1 ≤ r ∧ r ≤ 3
    · obtain ⟨g, w1, w2⟩ := c_needOf (E := E) (vi := p) (ho := q) (room := r) H hG hK (by omega) (by omega) (by omega)
      rw [if_neg (by rw [b01_z]; exact fun z => z c2), if_pos (show ((0 ≤ p ∧ p ≤ s 2 152 - 1) ∧ (0 ≤ q ∧ q ≤ s 2 152 - 1) ∧ p ≠ q) ∧ 1 ≤ r ∧ r ≤ 3 from ⟨c, c2⟩), f_ce a1 (by decide), Option.bind_some, w1, Option.bind_some]
      exact ⟨g, rfl, H.keep w2.1, (w2.blk H).up (by decide) (by decide)⟩
    · rw [if_pos (by rw [b01_z]; exact c2), if_neg (show ¬ (((0 ≤ p ∧ p ≤ s 2 152 - 1) ∧ (0 ≤ q ∧ q ≤ s 2 152 - 1) ∧ p ≠ q) ∧ 1 ≤ r ∧ r ≤ 3) from fun z => c2 z.2)]
      exact ⟨h, rfl, H, b0⟩
  · rw [if_pos (by rw [b01_z]; exact c), if_neg (show ¬ (((0 ≤ p ∧ p ≤ s 2 152 - 1) ∧ (0 ≤ q ∧ q ≤ s 2 152 - 1) ∧ p ≠ q) ∧ 1 ≤ r ∧ r ≤ 3) from fun z => c z.1)]
    exact ⟨h, rfl, H, b0⟩
theorem c_shutP {p q r : Int} (H : REP E h x t dl dv ds du s) (hG : G32 s) (hK : KB (s 2)) (hp : i2 p = p) (hq : i2 q = q) (hr : i2 r = r) : ∃ h', f_X0_shut E (some x) p q r h = some (shutP s p q r, h') ∧ REP E h' x t dl dv ds du s ∧ Blk x 8 110 h h' := by
  have a1 := H.2.1.1
  have b0 := (Blk.refl x h).up (c' := 8) (z' := 110) (by decide) (by decide)
  have two : f_X0_areTwo E (some x) p q h = some (b01 (((0 ≤ p ∧ p ≤ s 2 152 - 1) ∧ (0 ≤ q ∧ q ≤ s 2 152 - 1) ∧ p ≠ q)), h) := c_areTwo H hK hp hq
  unfold f_X0_shut f_X0_shut_26 shutP
  rw [f_ce a1 (by decide), Option.bind_some, two, Option.bind_some]
  by_cases c : ((0 ≤ p ∧ p ≤ s 2 152 - 1) ∧ (0 ≤ q ∧ q ≤ s 2 152 - 1) ∧ p ≠ q)
  · rw [if_neg (by rw [b01_z]; exact fun z => z c), c_isRoom hr, Option.bind_some]
    by_cases c2 : 1 ≤ r ∧ r ≤ 3
    · obtain ⟨g, w1, w2⟩ := c_shutOf (E := E) (ow := p) (vi := q) (room := r) H hG hK (by omega) (by omega) (by omega)
      rw [if_neg (by rw [b01_z]; exact fun z => z c2), if_pos (show ((0 ≤ p ∧ p ≤ s 2 152 - 1) ∧ (0 ≤ q ∧ q ≤ s 2 152 - 1) ∧ p ≠ q) ∧ 1 ≤ r ∧ r ≤ 3 from ⟨c, c2⟩), f_ce a1 (by decide), Option.bind_some, w1, Option.bind_some]
      exact ⟨g, rfl, H.keep w2.1, (w2.blk H).up (by decide) (by decide)⟩
    · rw [if_pos (by rw [b01_z]; exact c2), if_neg (show ¬ (((0 ≤ p ∧ p ≤ s 2 152 - 1) ∧ (0 ≤ q ∧ q ≤ s 2 152 - 1) ∧ p ≠ q) ∧ 1 ≤ r ∧ r ≤ 3) from fun z => c2 z.2)]
      exact ⟨h, rfl, H, b0⟩
  · rw [if_pos (by rw [b01_z]; exact c), if_neg (show ¬ (((0 ≤ p ∧ p ≤ s 2 152 - 1) ∧ (0 ≤ q ∧ q ≤ s 2 152 - 1) ∧ p ≠ q) ∧ 1 ≤ r ∧ r ≤ 3) from fun z => c z.1)]
    exact ⟨h, rfl, H, b0⟩
end
