/-! Lendings, repayments, days: both sides -/
set_option maxRecDepth 100000
def repayO (s : Sg) (p q a : Int) : Int × Sg := if ¬ (1 ≤ a ∧ a ≤ 9999) then (-1, s) else if ¬ ((0 ≤ p ∧ p ≤ s 2 152 - 1) ∧ (0 ≤ q ∧ q ≤ s 2 152 - 1)) then (-2, s) else if canRepayS (s 2) p q a = 0 then (-3, s) else (canRepayS (s 2) p q a, sw (keepsS s 1) 2 (repaysS (s 2) p q (canRepayS (s 2) p q a)))
def waitO (s : Sg) : Int × Sg := if s 2 72 = 999 then (-3, s) else ((waitsS (s 2)).1, sw (keepsS s 4) 2 (waitsS (s 2)).2)
section
variable {E : ax_E} {m : Nat} {s : Sg} {h : ax_H}
theorem m_repaysKept {p q a : Int} (hG : G32 s) (hK : KB (s 2)) (hU : UnV s) (hp : i2 p = p) (hq : i2 q = q) (ha : i2 a = a) : f_X5_repaysKept E (some m) p q a (mdl m s h) = some ((repayO s p q a).1, mdl m (repayO s p q a).2 h) := by
  have hn := hK.1
  have hR := hK.2.2.2.2
  have h71 := hR.1
  have ho := owed_b hR p q
  unfold f_X5_repaysKept f_X5_repaysKept_25 repayO
  rw [m_isAmount ha, Option.bind_some]
  by_cases c1 : 1 ≤ a ∧ a ≤ 9999
  · rw [if_neg (by rw [b01_z]; simp [c1]), if_neg (by simp [c1]), md_ce, Option.bind_some, m_isPerson hG hp hn.1, Option.bind_some]
    by_cases c2 : 0 ≤ p ∧ p ≤ s 2 152 - 1
    · rw [if_neg (by rw [b01_z]; simp [c2]), md_ce, Option.bind_some, m_isPerson hG hq hn.1, Option.bind_some]
      by_cases c3 : 0 ≤ q ∧ q ≤ s 2 152 - 1
      · have v1 := hR.2.2.1 p (by omega) (by omega)
        have v2 := hR.2.2.1 q (by omega) (by omega)
        have hc : 0 ≤ canRepayS (s 2) p q a ∧ canRepayS (s 2) p q a ≤ 9999 ∧ (canRepayS (s 2) p q a ≠ 0 → p ≠ q ∧ canRepayS (s 2) p q a ≤ s 2 p ∧ s 2 q + canRepayS (s 2) p q a ≤ 9999) := by
          unfold canRepayS
          by_cases e : p = q
          · rw [if_pos e]
            exact ⟨by omega, by omega, fun z => absurd rfl z⟩
          · rw [if_neg e]
            exact ⟨by omega, by omega, fun _ => ⟨e, by omega, by omega⟩⟩
        rw [if_neg (by rw [b01_z]; simp [c3]), if_neg (show ¬ ¬ ((0 ≤ p ∧ p ≤ s 2 152 - 1) ∧ (0 ≤ q ∧ q ≤ s 2 152 - 1)) from fun z => z ⟨c2, c3⟩), md_ce, Option.bind_some, m_canRepay hG hR (by omega) (by omega) ha (i2_of (by omega) (by omega)), Option.bind_some, i2_of (by omega) (by omega)]
        by_cases c4 : canRepayS (s 2) p q a = 0
        · rw [if_pos c4, if_pos c4]
        · obtain ⟨w1, w2, w3⟩ := hc.2.2 c4
          rw [if_neg c4, if_neg c4, md_ce, Option.bind_some, m_keeps hG hU.1.1 hU.1.2, Option.bind_some, md_ce, Option.bind_some, m_repays (n := s 2 152) (keeps_32 hG (by decide) hU.1) (by rw [keeps_2]; exact hR) (by omega) (by omega) w1 hc.1 (by rw [keeps_2]; exact w2) (by rw [keeps_2]; exact w3), Option.bind_some, keeps_2]
      · rw [if_pos (by rw [b01_z]; exact c3), if_pos (show ¬ ((0 ≤ p ∧ p ≤ s 2 152 - 1) ∧ (0 ≤ q ∧ q ≤ s 2 152 - 1)) from fun z => c3 z.2)]
    · rw [if_pos (by rw [b01_z]; exact c2), if_pos (show ¬ ((0 ≤ p ∧ p ≤ s 2 152 - 1) ∧ (0 ≤ q ∧ q ≤ s 2 152 - 1)) from fun z => c2 z.1)]
  · rw [if_pos (by rw [b01_z]; exact c1), if_pos c1]
theorem m_waitsKept (hG : G32 s) (hK : KB (s 2)) (hL : LsV (s 2)) (hU : UnV s) : ∃ s', f_X5_waitsKept E (some m) (mdl m s h) = some ((waitO s).1, mdl m s' h) ∧ Es (waitO s).2 s' := by
  have hR := hK.2.2.2.2
  have hd := hR.2.1
  unfold f_X5_waitsKept waitO
  rw [md_gR2, Option.bind_some, md_ld2 (by omega) (by omega), Option.bind_some, hG, show i2 999 = 999 by decide]
  by_cases c : s 2 72 = 999
  · rw [if_pos c, if_pos c]
    exact ⟨s, rfl, Es.refl s⟩
  · rw [if_neg c, if_neg c, md_ce, Option.bind_some, m_keeps hG hU.1.1 hU.1.2, Option.bind_some, md_ce, Option.bind_some]
    obtain ⟨s', e1, g1⟩ := m_waits (E := E) (m := m) (h := h) (s := keepsS s 4) (keeps_32 hG (by decide) hU.1) (by rw [keeps_2]; exact hK) (by rw [keeps_2]; exact hL) (by rw [keeps_2]; omega)
    rw [keeps_2] at e1 g1
    refine ⟨s', ?_, g1⟩
    rw [e1]
    rfl
end
section
variable {E : ax_E} {h h' : ax_H} {x t dl dv ds du : Nat} {s : Sg}
/-- the block where the model lies is as it was; so many new cells and slots -/
def Blk (x c z : Nat) (h h' : ax_H) : Prop := h.1 ≤ h'.1 ∧ h'.1 ≤ h.1 + c ∧ h.2.1 ≤ h'.2.1 ∧ h'.2.1 ≤ h.2.1 + z ∧ ∀ b, x + 84 ≤ b → b < x + 116 → h'.2.2 b = h.2.2 b
theorem Blk.refl (x : Nat) (h : ax_H) : Blk x 0 0 h h := ⟨Nat.le_refl _, Nat.le_refl _, Nat.le_refl _, Nat.le_refl _, fun _ _ _ => rfl⟩
theorem Blk.trans {x c z c' z' : Nat} {h h1 h2 : ax_H} (p : Blk x c z h h1) (q : Blk x c' z' h1 h2) : Blk x (c + c') (z + z') h h2 := by
  obtain ⟨p1, p2, p3, p4, p5⟩ := p
  obtain ⟨q1, q2, q3, q4, q5⟩ := q
  exact ⟨by omega, by omega, by omega, by omega, fun b b1 b2 => (q5 b b1 b2).trans (p5 b b1 b2)⟩
theorem Blk.up {x c z c' z' : Nat} {h h1 : ax_H} (p : Blk x c z h h1) (hc : c ≤ c') (hz : z ≤ z') : Blk x c' z' h h1 := by
  obtain ⟨p1, p2, p3, p4, p5⟩ := p
  exact ⟨p1, by omega, p3, by omega, p5⟩
theorem EvS.blk (H : REP E h x t dl dv ds du s) (e : EvS x h h') : Blk x 0 0 h h' := ⟨by rw [e.2.1]; exact Nat.le_refl _, by rw [e.2.1]; exact Nat.le_refl _, by rw [e.2.2.1]; exact Nat.le_refl _, by rw [e.2.2.1]; exact Nat.le_refl _, fun b b1 b2 => e.1.2.2.2.2.2.2 b b1 b2⟩
theorem OnS.blk {b n : Nat} (e : OnS b n h h') (hb : b + n ≤ x + 84 ∨ x + 116 ≤ b) : Blk x 0 0 h h' := ⟨by rw [e.1.1]; exact Nat.le_refl _, by rw [e.1.1]; exact Nat.le_refl _, by rw [e.1.2.1]; exact Nat.le_refl _, by rw [e.1.2.1]; exact Nat.le_refl _, fun b b1 b2 => e.1.2.2 b (by omega)⟩
theorem c_isAmount {v : Int} (hv : i2 v = v) : f_X0_isAmount E v h = some (b01 (1 ≤ v ∧ v ≤ 9999), h) := by
  have hl := i2_lh hv
  unfold f_X0_isAmount
  rw [hv, c_in (by omega) (by omega) (by omega), Option.bind_some, if_pos (by rw [b01_or]; trivial)]
theorem rem_blk (H : REP E h x t dl dv ds du s) (hE : Ek E x) (w3 : h.1 ≤ h'.1) (w4 : h'.1 ≤ h.1 + 8) (w5 : h.2.1 ≤ h'.2.1) (w6 : h'.2.1 ≤ h.2.1 + 110) (w7 : ∀ b, b < h.1 → b ≠ x + 14 → b ≠ du → h'.2.2 b = h.2.2 b) : Blk x 8 110 h h' := by
  have h1 := H.1.1
  refine ⟨w3, w4, w5, w6, fun b b1 b2 => w7 b (by omega) (by omega) ?_⟩
  rcases H.1.2.1.2.2.2 with z | z
  · have := hE.1
    omega
  · omega
theorem c_lendNow {g r a : Int} (H : REP E h x t dl dv ds du s) (hE : Ek E x) (hG : G32 s) (hK : KB (s 2)) (hU : UnV s) (hg : i2 g = g) (ht : i2 r = r) (ha : i2 a = a) (e1 : h.1 + 8 ≤ E.1.1) (e2 : h.2.1 + 1700 ≤ E.1.2) : ∃ (du' : Nat) (h' : ax_H), f_X0_lendNow E (some x) g r a h = some ((lendS s g r a).1, h') ∧ REP E h' x t dl dv ds du' (lendS s g r a).2 ∧ Blk x 8 110 h h' := by
  have hn := hK.1
  have hR := hK.2.2.2.2
  have h71 := hR.1
  have a1 := H.2.1.1
  have B := H.bk
  have b0 : Blk x 8 110 h h := (Blk.refl x h).up (by decide) (by decide)
  unfold f_X0_lendNow f_X0_lendNow_25 f_X0_lendNow_46 lendS
  rw [c_isAmount ha, Option.bind_some]
  by_cases c1 : 1 ≤ a ∧ a ≤ 9999
  · rw [if_neg (by rw [b01_z]; simp [c1]), if_neg (by simp [c1]), f_ce a1 (by decide), Option.bind_some, c_isPerson H hK hg, Option.bind_some]
    by_cases c2 : 0 ≤ g ∧ g ≤ s 2 152 - 1
    · rw [if_neg (by rw [b01_z]; simp [c2]), f_ce a1 (by decide), Option.bind_some, c_isPerson H hK ht, Option.bind_some]
      by_cases c3 : 0 ≤ r ∧ r ≤ s 2 152 - 1
      · rw [if_neg (by rw [b01_z]; simp [c3]), if_neg (show ¬ ¬ ((0 ≤ g ∧ g ≤ s 2 152 - 1) ∧ (0 ≤ r ∧ r ≤ s 2 152 - 1)) from fun z => z ⟨c2, c3⟩), hg, ht]
        by_cases c4 : g = r
        · rw [if_pos c4, if_pos (fun z => z.1 c4)]
          exact ⟨du, h, rfl, H, b0⟩
        · rw [if_neg c4, f_ce a1 (by decide), Option.bind_some, c_books H, Option.bind_some]
          dsimp only
          rw [f_ce B.1.1 (by decide), Option.bind_some, c_canPay B (hG 2) hR (by omega) (by omega) (by omega), Option.bind_some]
          by_cases c5 : a ≤ s 2 g ∧ s 2 r + a ≤ 9999
          · rw [if_neg (by rw [b01_z]; exact fun z => z c5), if_neg (fun z => z ⟨c4, c5⟩)]
            simp only [f_ce a1 (by decide : (0:Nat) ≠ 999), Option.bind_some, c_books H]
            rw [f_gI B.1.1 (by decide), Option.bind_some, B.2.1.1, hG, show i2 16 = 16 by decide]
            by_cases c6 : s 2 71 = 16
            · rw [if_pos c6, if_pos c6]
              exact ⟨du, h, rfl, H, b0⟩
            · rw [if_neg c6, if_neg c6]
              obtain ⟨du', g1, w1, w2, w3, w4, w5, w6, w7, w8⟩ := c_remember (E := E) (what := 0) H hE hU hG h71 e1 e2
              have B1 := w2.bk
              rw [keeps_2] at B1
              obtain ⟨g2, p1, B2, O2⟩ := c_pay (E := E) (v := a) B1 (show 0 ≤ g ∧ g < 7 by omega) (show 0 ≤ r ∧ r < 7 by omega)
              have pu : ∀ i, 7 ≤ i → payS (s 2) g r a i = s 2 i := by
                intro i hi
                unfold payS
                rw [u1_ne _ (by omega), u1_ne _ (by omega)]
              obtain ⟨g3, p2, B3, O3⟩ := c_add (E := E) (d := r) (c := g) (v := a) B2 (by rw [pu 71 (by omega)]; omega) (by rw [pu 71 (by omega)]; omega)
              have hR3 : REP E g3 x t dl dv ds du' (sw (keepsS s 0) 2 (lendsS (s 2) g r a)) := by
                refine w2.books (O2.trans O3) B3 (fun i hi => ?_)
                rw [keeps_2]
                unfold lendsS addsS
                have := pu 71 (by omega)
                rw [this, u1_ne _ (by omega), u1_ne _ (by omega), u1_ne _ (by omega), u1_ne _ (by omega), u1_ne _ (by omega), pu i (by omega)]
              refine ⟨du', g3, ?_, hR3, ((rem_blk H hE w3 w4 w5 w6 w7).trans ((O2.trans O3).blk (by have := H.1.1; omega))).up (by decide) (by decide)⟩
              rw [w1, Option.bind_some, f_ce w2.2.1.1 (by decide), Option.bind_some, c_books w2, Option.bind_some]
              unfold f_X0_lendIn
              dsimp only
              rw [f_ce B1.1.1 (by decide), Option.bind_some, p1, Option.bind_some, f_ce B2.1.1 (by decide), Option.bind_some, p2, Option.bind_some, Option.bind_some]
          · rw [if_pos (by rw [b01_z]; exact c5), if_pos (fun z => c5 z.2)]
            exact ⟨du, h, rfl, H, b0⟩
      · rw [if_pos (by rw [b01_z]; exact c3), if_pos (show ¬ ((0 ≤ g ∧ g ≤ s 2 152 - 1) ∧ (0 ≤ r ∧ r ≤ s 2 152 - 1)) from fun z => c3 z.2)]
        exact ⟨du, h, rfl, H, b0⟩
    · rw [if_pos (by rw [b01_z]; exact c2), if_pos (show ¬ ((0 ≤ g ∧ g ≤ s 2 152 - 1) ∧ (0 ≤ r ∧ r ≤ s 2 152 - 1)) from fun z => c2 z.1)]
      exact ⟨du, h, rfl, H, b0⟩
  · rw [if_pos (by rw [b01_z]; exact c1), if_pos c1]
    exact ⟨du, h, rfl, H, b0⟩
end
