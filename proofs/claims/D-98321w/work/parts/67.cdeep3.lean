/-! THE COMPONENT: what is asked of books, on paper or not -/
set_option maxRecDepth 100000
/-- nothing has changed but what is asked of, and what clauses told -/
def EvS (x : Nat) (h h' : ax_H) : Prop := Kp x h h' ∧ h'.1 = h.1 ∧ h'.2.1 = h.2.1 ∧ ∀ b, b ≠ x + 15 → b ≠ x + 16 → hT h b ≠ 15 → h'.2.2 b = h.2.2 b
theorem EvS.refl (x : Nat) (h : ax_H) : EvS x h h := ⟨Kp.refl x h, rfl, rfl, fun _ _ _ _ => rfl⟩
theorem EvS.trans {x : Nat} {h h1 h2 : ax_H} (p : EvS x h h1) (q : EvS x h1 h2) : EvS x h h2 := by
  refine ⟨p.1.trans q.1, q.2.1.trans p.2.1, q.2.2.1.trans p.2.2.1, fun b b1 b2 b3 => ?_⟩
  have e := p.2.2.2 b b1 b2 b3
  rw [q.2.2.2 b b1 b2 (by unfold hT; rw [hC_eq e]; exact b3), e]
theorem BK.ev {x b : Nat} {h h' : ax_H} {K : Rw} (H : BK h b K) (e : EvS x h h') (hb : b + 6 ≤ x + 15 ∨ x + 17 ≤ b) : BK h' b K := by
  refine H.fr (fun a h1 h2 => e.2.2.2 a (by omega) (by omega) ?_)
  obtain ⟨⟨t0, -, ⟨t1, t2, t3, t4, t5⟩, -⟩, -⟩ := H
  have : a = b ∨ a = b + 1 ∨ a = b + 2 ∨ a = b + 3 ∨ a = b + 4 ∨ a = b + 5 := by omega
  rcases this with e | e | e | e | e | e <;> subst e <;> omega
section
variable {E : ax_E} {h h' : ax_H} {x t dl dv ds du b : Nat} {s : Sg} {K : Rw}
theorem c_deepIn {ow vi more : Int} (H : REP E h x t dl dv ds du s) (hG : G32 s) (hKB : KB (s 2)) (hKK : KB K) (hK3 : K32 K) (hu : ∀ i, 73 ≤ i → K i = s 2 i) (hB : BK h b K) (h1 : 0 ≤ ow ∧ ow < K 152) (h2 : 0 ≤ vi ∧ vi < K 152) (h3 : 0 ≤ owed K ow vi + more ∧ more ≤ 500000) : ∃ h', f_X0_deepIn E (some x) (some b) ow vi more h = some (deepByS K ow vi (owed K ow vi + more) (owed K vi ow), h') ∧ EvS x h h' := by
  have hn := hKK.1
  have b1 := owed_b hKK.2.2.2.2 ow vi
  have b2 := owed_b hKK.2.2.2.2 vi ow
  have d1 := hKK.2.2.2.2.1
  obtain ⟨h', e1, e2⟩ := c_deepBy (E := E) (oe := owed K ow vi + more) (ba := owed K vi ow) H hG hKB hKK hu h1 h2 (by omega) (by omega)
  refine ⟨h', ?_, e2⟩
  unfold f_X0_deepIn
  rw [f_ce hB.1.1 (by decide), Option.bind_some, c_owes hB hK3 d1.1 d1.2 (i2_of (by omega) (by omega)) (i2_of (by omega) (by omega)), Option.bind_some]
  simp only [f_ce hB.1.1 (by decide : (2:Nat) ≠ 999), Option.bind_some]
  rw [c_owes hB hK3 d1.1 d1.2 (i2_of (by omega) (by omega)) (i2_of (by omega) (by omega)), Option.bind_some]
  simp only [f_gI hB.1.1 (by decide : (2:Nat) ≠ 999), hB.2.1.2, Option.bind_some, f_ce H.2.1.1 (by decide : (0:Nat) ≠ 999), e1]
theorem c_deep {ow vi : Int} (H : REP E h x t dl dv ds du s) (hG : G32 s) (hKB : KB (s 2)) (hKK : KB K) (hK3 : K32 K) (hu : ∀ i, 73 ≤ i → K i = s 2 i) (hB : BK h b K) (h1 : 0 ≤ ow ∧ ow < K 152) (h2 : 0 ≤ vi ∧ vi < K 152) : ∃ h', f_X0_deepIn E (some x) (some b) ow vi 0 h = some (deepS K ow vi, h') ∧ EvS x h h' := by
  have b1 := owed_b hKK.2.2.2.2 ow vi
  have e := c_deepIn (E := E) (more := 0) H hG hKB hKK hK3 hu hB h1 h2 (by omega)
  rw [Int.add_zero] at e
  exact e
theorem c_tellsB {hd wo hi d : Int} (H : REP E h x t dl dv ds du s) (hG : G32 s) (hKB : KB (s 2)) (hKK : KB K) (hK3 : K32 K) (hu : ∀ i, 73 ≤ i → K i = s 2 i) (hB : BK h b K) (hb : b + 6 ≤ x + 15 ∨ x + 17 ≤ b) (h1 : 0 ≤ d ∧ d < K 71) (h2 : hd = 2 ∨ hd = 3) (h3 : 0 ≤ hi ∧ hi ≤ 9999) (h4 : 0 ≤ wo ∧ wo ≤ hi) : ∃ h', f_X0_tells E (some x) (hd - 1) (some b) d wo hi h = some (tellsS (lawNow K) (envD K d) hd hi wo, h') ∧ EvS x h h' := by
  have hn := hKK.1
  have hRV := hKK.2.2.2.2
  have d1 := hRV.1
  have d2 := hRV.2.1
  obtain ⟨q1, q2, q3, q4, q5⟩ := hRV.2.2.2 d h1.1 h1.2
  have b1 := owed_b hRV (K (7 + 4 * d)) (K (7 + 4 * d + 1))
  have b2 := owed_b hRV (K (7 + 4 * d + 1)) (K (7 + 4 * d))
  have hu152 := hu 152 (by omega)
  obtain ⟨kd, rfl⟩ : ∃ n : Nat, d = n := ⟨d.toNat, by omega⟩
  obtain ⟨v1, v2, v3, v4⟩ := hB.2.2.2 kd h1.2
  obtain ⟨⟨t0, ⟨r0, r1, r2, r3, r4⟩, ⟨t1, t2, t3, t4, t5⟩, l1, l2, l3, l4, l5⟩, ⟨c5, c6⟩, -⟩ := id hB
  have hEB : EB (envD K kd) := envL_b hKK q1 q2 (by omega) (by omega) (by omega) (by omega)
  have hL : lawNow K = lawNow (s 2) := lawNow_congr hu hKB.f
  obtain ⟨g1, e1, k1, o1, ax1⟩ := c_ask (E := E) (ow := K (7 + 4 * kd)) (vi := K (7 + 4 * kd + 1)) (oe := owed K (K (7 + 4 * kd)) (K (7 + 4 * kd + 1))) (ba := owed K (K (7 + 4 * kd + 1)) (K (7 + 4 * kd))) (da := K 72) H hG hKB (by omega) (i2_of (by omega) (by omega)) (i2_of (by omega) (by omega)) (i2_of (by omega) (by omega)) (i2_of (by omega) (by omega))
  have B1 : BK g1 b K := hB.fr (fun a a1 a2 => o1.1.2.2 a (by omega))
  have B2 : BK (wI g1 (x + 16) 6 (K (7 + 4 * kd + 2))) b K := B1.fr (fun a a1 a2 => hC_wI_ne (by omega))
  have H1 := H.keep k1
  have k3 : Kp x h (wI (wI g1 (x + 16) 6 (K (7 + 4 * kd + 2))) (x + 16) 7 (K 72 - K (7 + 4 * kd + 3))) := KpW (KpW k1)
  have k2 : Kp x h (wI g1 (x + 16) 6 (K (7 + 4 * kd + 2))) := KpW k1
  have H2 := H.keep k2
  have H3 := H.keep k3
  have ax3 : AskX (wI (wI g1 (x + 16) 6 (K (7 + 4 * kd + 2))) (x + 16) 7 (K 72 - K (7 + 4 * kd + 3))) x (envD K kd).1 := by
    obtain ⟨z1, z2, z3, z4, z5⟩ := ax1
    refine ⟨by rw [hT_wI, hT_wI]; exact z1, by rw [hR_wI, hR_wI]; exact z2, by rw [hT_wI, hT_wI]; exact z3, by rw [hL_wI, hL_wI]; exact z4, fun k hk => ?_⟩
    simp only [envD, envL]
    rw [hu (73 + 2 * K (7 + 4 * kd)) (by omega), hu (73 + 2 * K (7 + 4 * kd) + 1) (by omega), hu 151 (by omega)]
    by_cases a7 : k = 7
    · subst a7
      rw [hI_wI_eq]
      simp [numL]
    · rw [hI_wI_ne (Or.inr a7)]
      by_cases a6 : k = 6
      · subst a6
        rw [hI_wI_eq]
        simp [numL]
      · rw [hI_wI_ne (Or.inr a6), z5 k hk]
        rcases lt10 hk with e | e | e | e | e | e | e | e | e | e <;> subst e <;> first | rfl | exact absurd rfl a6 | exact absurd rfl a7
  obtain ⟨Fz, u, lw, T, qz⟩ := c_law1 H3 hKB
  obtain ⟨g4, e4, S4⟩ := c_tells (E := E) (hd := hd) (wo := wo) T ax3.n hEB qz (by omega) (by omega)
  have hcb := comT_b hEB (hd := hd) (lawNow (s 2)) wo T.fb.1 (by omega)
  refine ⟨g4, ?_, k3.trans (H3.scr S4), by rw [S4.1]; exact o1.1.1, by rw [S4.2.1]; exact o1.1.2.1, ?_⟩
  · have g3 := H.2.1.2.2.1.2.2.1
    have i16 : ax_gR E g1 (some x) 0 3 = some (some (x + 15)) := by rw [f_gR H1.2.1.1 (by decide), H1.2.1.2.2.1.2.2.1]
    have i16' : ax_gR E (wI g1 (x + 16) 6 (K (7 + 4 * kd + 2))) (some x) 0 3 = some (some (x + 15)) := by rw [f_gR H2.2.1.1 (by decide), H2.2.1.2.2.1.2.2.1]
    have i17 : ax_gR E (wI (wI g1 (x + 16) 6 (K (7 + 4 * kd + 2))) (x + 16) 7 (K 72 - K (7 + 4 * kd + 3))) (some x) 0 3 = some (some (x + 15)) := by rw [f_gR H3.2.1.1 (by decide), H3.2.1.2.2.1.2.2.1]
    obtain ⟨z1, z2, z3, z4, z5⟩ := ax1
    obtain ⟨⟨t0', ⟨r0', r1', r2', r3', r4'⟩, ⟨t1', t2', t3', t4', t5'⟩, l1', l2', l3', l4', l5'⟩, ⟨c5', c6'⟩, -, w'⟩ := B1
    obtain ⟨v1', v2', v3', v4'⟩ := w' kd h1.2
    obtain ⟨⟨t0'', ⟨r0'', r1'', r2'', r3'', r4''⟩, ⟨t1'', t2'', t3'', t4'', t5''⟩, l1'', l2'', l3'', l4'', l5''⟩, ⟨c5'', c6''⟩, -, w''⟩ := B2
    obtain ⟨v1'', v2'', v3'', v4''⟩ := w'' kd h1.2
    unfold f_X0_tells
    rw [f_gR t0 (by decide), r1, Option.bind_some, f_ld t2 (by decide) (by omega) (by omega) (by omega), Option.bind_some, Int.toNat_natCast, v1, f_gR t0 (by decide), r2, Option.bind_some, f_ld t3 (by decide) (by omega) (by omega) (by omega), Option.bind_some, Int.toNat_natCast, v2, f_ce t0 (by decide), Option.bind_some]
    rw [c_owes hB hK3 d1.1 d1.2 (hK3 _) (hK3 _), Option.bind_some]
    simp only [f_ce t0 (by decide : (2:Nat) ≠ 999), Option.bind_some]
    rw [c_owes hB hK3 d1.1 d1.2 (hK3 _) (hK3 _), Option.bind_some]
    simp only [f_gI t0 (by decide : (2:Nat) ≠ 999), c6, Option.bind_some, f_ce H.2.1.1 (by decide : (0:Nat) ≠ 999), e1, i16]
    rw [f_gR z1 (by decide), z2, Option.bind_some, f_gR t0' (by decide), r3', Option.bind_some, f_ld t4' (by decide) (by omega) (by omega) (by omega), Option.bind_some, Int.toNat_natCast, v3', hK3, f_sto z3 (by decide) (by omega) (by omega) (by omega), Option.bind_some]
    simp only [show (6 : Int).toNat = 6 from rfl, i16', Option.bind_some]
    rw [f_gR (by rw [hT_wI]; exact z1) (by decide), hR_wI, z2, Option.bind_some, f_gI t0'' (by decide), c6'', Option.bind_some, f_gR t0'' (by decide), r4'', Option.bind_some, f_ld t5'' (by decide) (by omega) (by omega) (by omega), Option.bind_some, Int.toNat_natCast, v4'', i2_of (by omega) (by omega), f_sto (by rw [hT_wI]; exact z3) (by decide) (by omega) (by rw [hL_wI]; omega) (by rw [hL_wI]; omega), Option.bind_some]
    simp only [show (7 : Int).toNat = 7 from rfl]
    rw [f_ce H3.2.1.1 (by decide), Option.bind_some, lw, Option.bind_some]
    simp only [i17, Option.bind_some, f_ce T.2.1 (by decide : (4:Nat) ≠ 999), e4]
    rw [i2_of (by omega) (by omega), c_min2 (by omega) (by omega) (by omega) (by omega), Option.bind_some, c_max (by omega) (by omega) (by omega) (by omega), Option.bind_some, clamp_fold (by omega), show max 0 (min hi wo) = wo by omega, ← hL]
    rfl
  · intro c c1 c2 c3
    have e5 : (wI (wI g1 (x + 16) 6 (K (7 + 4 * kd + 2))) (x + 16) 7 (K 72 - K (7 + 4 * kd + 3))).2.2 c = h.2.2 c := by
      rw [hC_wI_ne (by omega), hC_wI_ne (by omega), o1.1.2.2 c (by omega)]
    rw [(S4.2.2.1 c c1).2 (by unfold hT; rw [hC_eq e5]; exact c3), e5]
theorem c_growsBy {d : Int} (H : REP E h x t dl dv ds du s) (hG : G32 s) (hKB : KB (s 2)) (hKK : KB K) (hK3 : K32 K) (hu : ∀ i, 73 ≤ i → K i = s 2 i) (hB : BK h b K) (hb : b + 6 ≤ x + 15 ∨ x + 17 ≤ b) (h1 : 0 ≤ d ∧ d < K 71) : ∃ h', f_X0_growsBy E (some x) (some b) d h = some (growsS K d, h') ∧ EvS x h h' := by
  obtain ⟨h', e1, e2⟩ := c_tellsB (E := E) (hd := 2) (wo := 0) (hi := 99) H hG hKB hKK hK3 hu hB hb h1 (by omega) (by omega) (by omega)
  refine ⟨h', ?_, e2⟩
  unfold f_X0_growsBy
  rw [f_ce H.2.1.1 (by decide), Option.bind_some]
  rw [show (1 : Int) = 2 - 1 from rfl, e1]
  rfl
theorem c_soldFor {d : Int} (H : REP E h x t dl dv ds du s) (hG : G32 s) (hKB : KB (s 2)) (hKK : KB K) (hK3 : K32 K) (hu : ∀ i, 73 ≤ i → K i = s 2 i) (hB : BK h b K) (hb : b + 6 ≤ x + 15 ∨ x + 17 ≤ b) (h1 : 0 ≤ d ∧ d < K 71) : ∃ h', f_X0_soldFor E (some x) (some b) d h = some (soldS K d, h') ∧ EvS x h h' := by
  obtain ⟨-, -, -, q4, -⟩ := hKK.2.2.2.2.2.2.2 d h1.1 h1.2
  obtain ⟨h', e1, e2⟩ := c_tellsB (E := E) (hd := 3) (wo := K (7 + 4 * d + 2)) (hi := 9999) H hG hKB hKK hK3 hu hB hb h1 (by omega) (by omega) (by omega)
  refine ⟨h', ?_, e2⟩
  have d1 := hKK.2.2.2.2.1
  obtain ⟨kd, rfl⟩ : ∃ n : Nat, d = n := ⟨d.toNat, by omega⟩
  obtain ⟨v1, v2, v3, v4⟩ := hB.2.2.2 kd h1.2
  obtain ⟨⟨t0, ⟨r0, r1, r2, r3, r4⟩, ⟨t1, t2, t3, t4, t5⟩, l1, l2, l3, l4, l5⟩, -⟩ := hB
  unfold f_X0_soldFor
  rw [f_gR t0 (by decide), r3, Option.bind_some, f_ld t4 (by decide) (by omega) (by omega) (by omega), Option.bind_some, Int.toNat_natCast, v3, hK3, f_ce H.2.1.1 (by decide), Option.bind_some]
  rw [show (3 : Int) - 1 = 2 from rfl] at e1
  rw [e1]
  rfl
end
