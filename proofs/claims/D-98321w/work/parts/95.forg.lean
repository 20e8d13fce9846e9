/-! Repayments, days, debts forgiven: as they are called -/
set_option maxRecDepth 100000
section
variable {E : ax_E} {m : Nat} {s : Sg} {h : ax_H}
theorem repayO_b {p q a : Int} (hK : KB (s 2)) (ha : i2 a = a) : -7 < (repayO s p q a).1 ∧ (repayO s p q a).1 ≤ 9999 := by
  have hn := hK.1
  unfold repayO
  split
  · dsimp only; omega
  · split
    · dsimp only; omega
    · split
      · dsimp only; omega
      · rename_i c1 c2 c3
        have hc := canRepay_b (a := a) (p := p) (q := q) hK.2.2.2.2 (by omega) (by omega) (by omega)
        dsimp only
        omega
theorem waitO_b (hK : KB (s 2)) : -7 < (waitO s).1 ∧ (waitO s).1 ≤ 1000000 := by
  have hR := hK.2.2.2.2
  have h71 := hR.1
  have h72 := hR.2.1
  unfold waitO
  split
  · dsimp only; omega
  · have := waitT_v hR (by omega) (s 2 71).toNat (by omega)
    unfold waitsS
    dsimp only
    omega
theorem m_repay {p q a : Int} (hG : G32 s) (hK : KB (s 2)) (hU : UnV s) (hg : i2 p = p) (ht : i2 q = q) (ha : i2 a = a) : f_X5_repay E (some m) p q a (mdl m s h) = some ((telP (repayO s p q a)).1, mdl m (telP (repayO s p q a)).2 h) := by
  have hb := repayO_b (p := p) (q := q) hK ha
  unfold f_X5_repay telP
  dsimp only
  rw [md_ce, Option.bind_some, m_repaysKept hG hK hU hg ht ha, Option.bind_some, md_ce, Option.bind_some, m_goodOr hb.1 (by omega), Option.bind_some]
theorem m_forgive {d : Int} (hG : G32 s) (hK : KB (s 2)) (hU : UnV s) (hd : i2 d = d) : f_X5_forgive E (some m) d (mdl m s h) = some ((telP (forgS s d)).1, mdl m (telP (forgS s d)).2 h) := by
  have hR := hK.2.2.2.2
  have h71 := hR.1
  unfold f_X5_forgive telP forgS
  rw [md_ce, Option.bind_some, m_isDebt hG hd h71.1, Option.bind_some]
  by_cases c : 0 ≤ d ∧ d ≤ s 2 71 - 1
  · have ha := hR.2.2.2 d (by omega) (by omega)
    rw [if_neg (by rw [b01_z]; simp [c]), if_neg (by simp [c]), md_gR2, Option.bind_some, md_ld2 (by omega) (by omega), Option.bind_some, md_ce, Option.bind_some, m_keeps hG hU.1.1 hU.1.2, Option.bind_some, md_ce, Option.bind_some, m_removes (keeps_32 hG (by decide) hU.1) (by omega) (by rw [keeps_2]; omega) (by rw [keeps_2]; omega), Option.bind_some, md_ce, Option.bind_some, m_good, Option.bind_some, keeps_2]
    dsimp only
    unfold telM
    rw [if_neg (by omega)]
  · rw [if_pos (by rw [b01_z]; exact c), if_pos c, md_ce, Option.bind_some, m_refuses (by decide) (by decide), Option.bind_some]
    rfl
end
section
variable {E : ax_E} {h h' h1 : ax_H} {x t dl dv ds du : Nat} {s s1 : Sg}
theorem c_isDebt {p : Int} (H : REP E h x t dl dv ds du s) (hK : KB (s 2)) (hG : G32 s) (hp : i2 p = p) : f_X0_isDebt E (some x) p h = some (b01 (0 ≤ p ∧ p ≤ s 2 71 - 1), h) := by
  have hl := i2_lh hp
  have B := H.bk
  have h71 := hK.2.2.2.2.1
  unfold f_X0_isDebt
  rw [f_ce H.2.1.1 (by decide), Option.bind_some, c_books H, Option.bind_some]
  dsimp only
  rw [f_gI B.1.1 (by decide), Option.bind_some, B.2.1.1, hp, i2_of (by omega) (by omega), c_in (by omega) (by omega) (by omega), Option.bind_some, if_pos (by rw [b01_or]; trivial)]
theorem c_repayP {p q a : Int} (H : REP E h x t dl dv ds du s) (hE : Ek E x) (hG : G32 s) (hK : KB (s 2)) (hU : UnV s) (hg : i2 p = p) (ht : i2 q = q) (ha : i2 a = a) (e1 : h.1 + 8 ≤ E.1.1) (e2 : h.2.1 + 1700 ≤ E.1.2) : ∃ (du' : Nat) (h' : ax_H), f_X0_repay E (some x) p q a h = some ((telP (repayO s p q a)).1, h') ∧ REP E h' x t dl dv ds du' (telP (repayO s p q a)).2 ∧ Blk x 8 110 h h' := by
  obtain ⟨du', h1, w1, w2, w3⟩ := c_repayNow (E := E) H hE hG hK hU hg ht ha e1 e2
  have hb := repayO_b (p := p) (q := q) hK ha
  obtain ⟨h2, v1, v2, v3⟩ := c_told (v := (repayO s p q a).1) w2 w3 hb.1 (by omega)
  refine ⟨du', h2, ?_, v2, v3⟩
  unfold f_X0_repay telP
  rw [f_ce H.2.1.1 (by decide), Option.bind_some, w1, Option.bind_some]
  dsimp only
  rw [f_ce w2.2.1.1 (by decide), Option.bind_some, v1, Option.bind_some]
theorem c_await (H : REP E h x t dl dv ds du s) (hE : Ek E x) (hG : G32 s) (hK : KB (s 2)) (hU : UnV s) (e1 : h.1 + 8 ≤ E.1.1) (e2 : h.2.1 + 1700 ≤ E.1.2) : ∃ (du' : Nat) (h' : ax_H), f_X0_await E (some x) h = some ((telP (waitO s)).1, h') ∧ REP E h' x t dl dv ds du' (telP (waitO s)).2 ∧ Blk x 8 110 h h' := by
  obtain ⟨du', h1, w1, w2, w3⟩ := c_waitNow (E := E) H hE hG hK hU e1 e2
  have hb := waitO_b hK
  obtain ⟨h2, v1, v2, v3⟩ := c_told (v := (waitO s).1) w2 w3 hb.1 (by omega)
  refine ⟨du', h2, ?_, v2, v3⟩
  unfold f_X0_await telP
  rw [f_ce H.2.1.1 (by decide), Option.bind_some, w1, Option.bind_some]
  dsimp only
  rw [f_ce w2.2.1.1 (by decide), Option.bind_some, v1, Option.bind_some]
theorem rem_u (s : Sg) (d : Int) (h0 : 0 ≤ d) (h2 : s 2 71 ≤ 16) (i : Int) (hi : 73 ≤ i) : removesS (s 2) d i = s 2 i := by
  unfold removesS
  rw [cpR_out (by omega), u1_ne _ (by omega)]
theorem c_forgive {d : Int} (H : REP E h x t dl dv ds du s) (hE : Ek E x) (hG : G32 s) (hK : KB (s 2)) (hU : UnV s) (hd : i2 d = d) (e1 : h.1 + 8 ≤ E.1.1) (e2 : h.2.1 + 1700 ≤ E.1.2) : ∃ (du' : Nat) (h' : ax_H), f_X0_forgive E (some x) d h = some ((telP (forgS s d)).1, h') ∧ REP E h' x t dl dv ds du' (telP (forgS s d)).2 ∧ Blk x 8 110 h h' := by
  have hR := hK.2.2.2.2
  have h71 := hR.1
  have a1 := H.2.1.1
  have tl := H.1.1
  unfold f_X0_forgive telP forgS
  rw [f_ce a1 (by decide), Option.bind_some, c_isDebt H hK hG hd, Option.bind_some]
  by_cases c : 0 ≤ d ∧ d ≤ s 2 71 - 1
  · have ha := hR.2.2.2 d (by omega) (by omega)
    rw [if_neg (by rw [b01_z]; simp [c]), if_neg (by simp [c])]
    obtain ⟨du', g1, w1, w2, w3, w4, w5, w6, w7, w8⟩ := c_remember (E := E) (what := 2) H hE hU hG h71 e1 e2
    have B1 := w2.bk
    rw [keeps_2] at B1
    obtain ⟨g2, p1, B2, O2⟩ := c_drop (E := E) (d := d) B1 c.1 (by omega) h71.2
    have H2 := w2.books O2 B2 (fun i hi => by rw [keeps_2]; exact rem_u s d c.1 h71.2 i hi)
    have b2 := ((rem_blk H hE w3 w4 w5 w6 w7).trans (O2.blk (by omega))).up (c' := 8) (z' := 110) (by decide) (by decide)
    obtain ⟨g3, v1, v2, v3⟩ := c_told (v := s 2 (7 + 4 * d + 2)) H2 b2 (by omega) (by omega)
    refine ⟨du', g3, ?_, v2, v3⟩
    have q1 := (B1.2.2.2 d.toNat (by omega)).2.2.1
    rw [Int.toNat_of_nonneg c.1] at q1
    obtain ⟨t0, ⟨r0, r1, r2, r3, r4⟩, ⟨t1, t2, t3, t4, t5⟩, l1, l2, l3, l4, l5⟩ := B1.1
    dsimp only
    rw [f_ce a1 (by decide), Option.bind_some, w1, Option.bind_some, f_ce w2.2.1.1 (by decide), Option.bind_some, c_books w2, Option.bind_some]
    dsimp only
    rw [f_gR t0 (by decide), r3, Option.bind_some, f_ld t4 (by decide) c.1 (by rw [l4]; omega) (by rw [l4]; decide), Option.bind_some, q1, f_ce w2.2.1.1 (by decide), Option.bind_some, c_books w2, Option.bind_some]
    dsimp only
    rw [f_ce t0 (by decide), Option.bind_some, p1, Option.bind_some, f_ce H2.2.1.1 (by decide), Option.bind_some, v1, Option.bind_some]
  · rw [if_pos (by rw [b01_z]; exact c), if_pos c]
    obtain ⟨g3, v1, v2, v3⟩ := c_told (v := -2) H ((Blk.refl x h).up (c' := 8) (z' := 110) (by decide) (by decide)) (by decide) (by decide)
    refine ⟨du, g3, ?_, v2, v3⟩
    dsimp only
    rw [f_ce a1 (by decide), Option.bind_some, v1, Option.bind_some]
end
