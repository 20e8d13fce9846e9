/-! The acts as they are called: what is told of them -/
set_option maxRecDepth 100000
def telP (r : Int × Sg) : Int × Sg := (r.1, telM r.2 r.1)
def forgS (s : Sg) (d : Int) : Int × Sg := if ¬ (0 ≤ d ∧ d ≤ s 2 71 - 1) then (-2, s) else (s 2 (7 + 4 * d + 2), sw (keepsS s 2) 2 (removesS (s 2) d))
theorem Es.tel {s s' : Sg} {v : Int} (e : Es s s') (hG : G32 s') : Es (telM s v) (telM s' v) := by
  obtain ⟨e1, e2, e3⟩ := e
  unfold telM
  split
  · unfold sRef
    refine ⟨fun o h0 h12 => ?_, fun k k0 k1 k2 k3 => ?_, fun g => ?_⟩
    · by_cases c : o = 1
      · subst c
        rw [sw_eq, sw_eq, e1 1 (by decide) (by decide)]
      · rw [sw_ne _ c, sw_ne _ c, sw_ne _ h0, sw_ne _ h0, e1 o h0 h12]
    · rw [sw_ne _ (by decide), sw_eq, sw_ne _ (by decide), sw_eq]
      unfold u1
      split
      · rfl
      · exact e2 k k0 k1 k2 k3
    · have g1 := g 1 (-v)
      have g0 := g 0 0
      rw [sw_eq, u1_eq] at g1
      rw [sw_ne _ (by decide), sw_eq, u1_eq] at g0
      exact G32_sw (G32_sw hG (u1_32 (hG 0) g0)) (u1_32 (hG 1) (by rw [e1 1 (by decide) (by decide)]; exact g1))
  · unfold sGood
    refine ⟨fun o h0 h12 => ?_, fun k k0 k1 k2 k3 => ?_, fun g => ?_⟩
    · rw [sw_ne _ h0, sw_ne _ h0, e1 o h0 h12]
    · rw [sw_eq, sw_eq]
      unfold u1
      split
      · rfl
      · exact e2 k k0 k1 k2 k3
    · exact G32_sw hG (u1_32 (hG 0) (by decide))
section
variable {E : ax_E} {m : Nat} {s : Sg} {h : ax_H}
theorem m_goodOr {v : Int} (h1 : -7 < v) (h2 : v ≤ 1000000000) : f_X5_goodOr E (some m) v (mdl m s h) = some (v, mdl m (telM s v) h) := by
  unfold f_X5_goodOr telM
  rw [i2_of (by omega) (by omega)]
  by_cases c : v < 0
  · rw [if_pos c, if_pos c, md_ce, Option.bind_some, m_refuses h1 (by omega), Option.bind_some]
  · rw [if_neg c, if_neg c, md_ce, Option.bind_some, m_good, Option.bind_some]
theorem lendS_b (s : Sg) (g r a : Int) : -7 < (lendS s g r a).1 ∧ (lendS s g r a).1 ≤ 9999 := by
  unfold lendS
  split
  · dsimp only; omega
  · split
    · dsimp only; omega
    · split
      · dsimp only; omega
      · split
        · dsimp only; omega
        · dsimp only; omega
theorem m_lend {g r a : Int} (hG : G32 s) (hK : KB (s 2)) (hU : UnV s) (hg : i2 g = g) (ht : i2 r = r) (ha : i2 a = a) : f_X5_lend E (some m) g r a (mdl m s h) = some ((telP (lendS s g r a)).1, mdl m (telP (lendS s g r a)).2 h) := by
  have hb := lendS_b s g r a
  unfold f_X5_lend telP
  dsimp only
  rw [md_ce, Option.bind_some, m_lendsKept hG hK hU hg ht ha, Option.bind_some, md_ce, Option.bind_some, m_goodOr hb.1 (by omega), Option.bind_some]
end
section
variable {E : ax_E} {h h' h1 : ax_H} {x t dl dv ds du : Nat} {s s1 : Sg}
theorem c_told {v : Int} {c z : Nat} (H : REP E h1 x t dl dv ds du s1) (b : Blk x c z h h1) (l1 : -7 < v) (l2 : v ≤ 1000000000) : ∃ h', f_X0_tell E (some x) v h1 = some (v, h') ∧ REP E h' x t dl dv ds du (telM s1 v) ∧ Blk x c z h h' := by
  obtain ⟨h', w1, w2, w3, w4, w5⟩ := c_tell (E := E) H l1 l2
  have b1 := b.1
  have b3 := b.2.2.1
  refine ⟨h', w1, w2, by omega, ?_, by omega, ?_, fun a a1 a2 => (w5 a (by omega) (by omega)).trans (b.2.2.2.2 a a1 a2)⟩
  · rw [w3]; exact b.2.1
  · rw [w4]; exact b.2.2.2.1
theorem c_lend {g r a : Int} (H : REP E h x t dl dv ds du s) (hE : Ek E x) (hG : G32 s) (hK : KB (s 2)) (hU : UnV s) (hg : i2 g = g) (ht : i2 r = r) (ha : i2 a = a) (e1 : h.1 + 8 ≤ E.1.1) (e2 : h.2.1 + 1700 ≤ E.1.2) : ∃ (du' : Nat) (h' : ax_H), f_X0_lend E (some x) g r a h = some ((telP (lendS s g r a)).1, h') ∧ REP E h' x t dl dv ds du' (telP (lendS s g r a)).2 ∧ Blk x 8 110 h h' := by
  obtain ⟨du', h1, w1, w2, w3⟩ := c_lendNow (E := E) H hE hG hK hU hg ht ha e1 e2
  have hb := lendS_b s g r a
  obtain ⟨h2, v1, v2, v3⟩ := c_told (v := (lendS s g r a).1) w2 w3 hb.1 (by omega)
  refine ⟨du', h2, ?_, v2, v3⟩
  unfold f_X0_lend telP
  dsimp only
  rw [f_ce H.2.1.1 (by decide), Option.bind_some, w1, Option.bind_some]
  dsimp only
  rw [f_ce w2.2.1.1 (by decide), Option.bind_some, v1, Option.bind_some]
end
