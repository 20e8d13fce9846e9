/-! THE COMPONENT: one more in a list, the first one less -/
set_option maxRecDepth 100000
section
variable {E : ax_E} {h h' : ax_H} {a d u : Nat} {n : Int} {cap cap' : Nat}
theorem c_lsAdd (L : Ls0 E h a d n cap) (hc : cap ≤ cap') (hc10 : 10 ≤ cap') (hcn : n + max 1 (n / 2) ≤ cap') (hc2 : cap' ≤ 1000) (hE : Emp E h) (hlt : a < h.1) (hdl : d < h.1) (had : a ≠ d) (hel : ∀ k : Nat, (k : Int) < n → ∃ u, hR h d k = some u ∧ hT h u ≠ 999 ∧ oj_104 (hT h u) = true ∧ u < h.1) (hu : hT h u ≠ 999) (ho : oj_104 (hT h u) = true) (hul : u < h.1) (e1 : h.1 + 1 ≤ E.1.1) (e2 : h.2.1 + 1600 ≤ E.1.2) : ∃ (d' : Nat) (h' : ax_H), f_J2_add E (some a) (some u) h = some (1, h') ∧ (d' = d ∧ h'.1 = h.1 ∧ h'.2.1 = h.2.1 ∧ hT h d = 104 ∨ (d' = h.1 ∧ h'.1 = h.1 + 1 ∧ h.2.1 ≤ h'.2.1 ∧ h'.2.1 ≤ h.2.1 + cap')) ∧ Ls0 E h' a d' (n + 1) cap' ∧ (∀ b, b < h.1 → b ≠ a → (b ≠ d ∨ d' ≠ d) → h'.2.2 b = h.2.2 b) ∧ (∀ k : Nat, (k : Int) < n → hR h' d' k = hR h d k) ∧ hR h' d' n.toNat = some u := by
  obtain ⟨ta, ra, ia, n0, c⟩ := id L
  have hn1 : n ≤ 1000 := by rcases c with c | c <;> omega
  obtain ⟨g0, hg0⟩ : ∃ g0 : ax_H, g0 = wI h a 0 (hI h a 0 + 1) := ⟨_, rfl⟩
  have gT : ∀ b, hT g0 b = hT h b := fun b => by rw [hg0, hT_wI]
  have gL : ∀ b, hL g0 b = hL h b := fun b => by rw [hg0, hL_wI]
  have gR : ∀ b k, hR g0 b k = hR h b k := fun b k => by rw [hg0, hR_wI]
  have g1 : g0.1 = h.1 := by rw [hg0]; rfl
  have g2 : g0.2.1 = h.2.1 := by rw [hg0]; rfl
  have gn : ∀ b, b ≠ a → g0.2.2 b = h.2.2 b := fun b hb => by rw [hg0]; exact hC_wI_ne hb
  have L0 : Ls0 E g0 a d n cap := ⟨by rw [gT]; exact ta, by rw [gR]; exact ra, by rw [hg0, hI_wI_ne (by omega)]; exact ia, n0, by rw [gT, gL]; exact c⟩
  have hE0 : Emp E g0 := by
    refine ⟨?_, hE.2⟩
    rw [gn _ ?_]
    · exact hE.1
    · intro z
      have := hE.1
      rw [z] at this
      unfold hT hC at ta
      rw [this] at ta
      cases ta
  have pre : f_J2_add E (some a) (some u) h = (f_J2_add_2 E (some a) (some u) (some d) n g0).bind (fun h5 => some (1, h5)) := by
    unfold f_J2_add
    rw [f_gI ta (by decide), Option.bind_some, f_pI ta (by decide), Option.bind_some, ← hg0, f_gR L0.1 (by decide), L0.2.1, Option.bind_some, f_gI L0.1 (by decide), L0.2.2.1, Option.bind_some, f_ce L0.1 (by decide), Option.bind_some]
  rw [pre]
  -- whether it is full
  have hlen : ∃ ln : Nat, ax_len E g0 (some d) 104 = some (ln : Int) ∧ n ≤ ln ∧ ln ≤ 1000 ∧ (hT g0 d = 104 → hL g0 d = ln) ∧ (hT g0 d ≠ 104 → ln = 0) := by
    rcases c with ⟨c1, c2⟩ | ⟨c1, c2, c3⟩
    · obtain ⟨hno, cc, hce, hc1, hc2'⟩ := hE0
      have e9 : ax_ce E g0 (some d) 104 = some cc := by
        rw [c2]
        simp only [ax_ce, ax_rd, hno, hce]
        exact if_pos hc1
      refine ⟨0, by unfold ax_len; rw [e9]; simp [hc2'], by omega, by omega, fun z => ?_, fun _ => rfl⟩
      rw [c2] at z
      unfold hT hC at z
      rw [hno] at z
      cases z
    · exact ⟨hL g0 d, f_len (by rw [gT]; exact c1) (by decide), by rw [gL]; exact c2, by rw [gL]; omega, fun _ => rfl, fun z => absurd (by rw [gT]; exact c1) z⟩
  obtain ⟨ln, hl1, hl2, hl3, hl4, hl5⟩ := hlen
  unfold f_J2_add_2
  rw [hl1, Option.bind_some, i2_of (by omega) (by omega), i2_of (by omega) (by omega)]
  by_cases hf : n = ln
  · obtain ⟨m, g, q1, q2, q3, q4, q5, q6, q7, q8, q9, q10, q11⟩ := c_grow (E := E) L0 (by omega) hE0 (by omega) (by omega) (fun z => by rw [hl4 z]; omega) (fun k hk => by
      obtain ⟨v, v1, v2, v3, v4⟩ := hel k hk
      exact ⟨v, by rw [gR]; exact v1, by rw [gT]; exact v2, by rw [gT]; exact v3, by omega⟩) (by omega) (by omega)
    rw [g1] at q1 q5 q7 q9 q10 q11 q3
    have uT : hT g u = hT h u := by
      by_cases z : u = a
      · rw [z, q6, ta]
      · unfold hT
        rw [hC_eq (q5 u (by omega) z), hC_eq (gn u z)]
    rw [if_pos hf, f_ce L0.1 (by decide), Option.bind_some, q1, Option.bind_some]
    dsimp only
    rw [c_put (E := E) (h := g) (a := a) (d := h.1) (n := n) (cap := cap') ⟨q6, q7, q8, n0, Or.inr ⟨q9, by omega, by omega⟩⟩ (by omega) (by omega) q9 (by omega) (by rw [uT]; exact hu) (by rw [uT]; exact ho), Option.bind_some]
    refine ⟨h.1, _, rfl, Or.inr ⟨rfl, q3, ?_, ?_⟩, ⟨by rw [hT_wI, hT_wR]; exact q6, by rw [hR_wI, hR_wR_ne (by omega)]; exact q7, hI_wI_eq, by omega, Or.inr ⟨by rw [hT_wI, hT_wR]; exact q9, by rw [hL_wI, hL_wR]; omega, by rw [hL_wI, hL_wR]; omega⟩⟩, fun b b1 b2 b3 => ?_, fun k hk => ?_, ?_⟩
    · show h.2.1 ≤ g.2.1
      omega
    · show g.2.1 ≤ h.2.1 + cap'
      omega
    · rw [hC_wI_ne b2, hC_wR_ne (by omega), q5 b b1 b2, gn b b2]
    · rw [hR_wI, hR_wR_ne (by omega), q11 k hk, gR]
    · rw [hR_wI, hR_wR_eq]
  · have hd : hT g0 d = 104 := by
      by_cases z : hT g0 d = 104
      · exact z
      · have := hl5 z
        omega
    rw [if_neg hf, c_put (E := E) L0 (by rw [hl4 hd]; omega) (by rw [hl4 hd]; omega) hd had (by rw [gT]; exact hu) (by rw [gT]; exact ho), Option.bind_some]
    have c3 : hL h d ≤ cap := by
      rcases c with c | c
      · have z := hE0.1
        rw [← c.2] at z
        unfold hT hC at hd
        rw [z] at hd
        cases hd
      · exact c.2.2
    refine ⟨d, _, rfl, Or.inl ⟨rfl, g1, g2, by rw [← gT]; exact hd⟩, ⟨by rw [hT_wI, hT_wR, gT]; exact ta, by rw [hR_wI, hR_wR_ne (by omega), gR]; exact ra, hI_wI_eq, by omega, Or.inr ⟨by rw [hT_wI, hT_wR]; exact hd, by rw [hL_wI, hL_wR, hl4 hd]; omega, by rw [hL_wI, hL_wR, gL]; omega⟩⟩, fun b b1 b2 b3 => ?_, fun k hk => ?_, ?_⟩
    · rw [hC_wI_ne b2, hC_wR_ne (b3.resolve_right (fun z => z rfl)), gn b b2]
    · rw [hR_wI, hR_wR_ne (by omega), gR]
    · rw [hR_wI, hR_wR_eq]
/-- the first one is taken away -/
theorem c_lsRem (L : Ls0 E h a d n cap) (hc : cap ≤ 1000) (h1 : 1 ≤ n) (hd : hT h d = 104) (had : a ≠ d) (hel : ∀ k : Nat, (k : Int) < n → ∃ u, hR h d k = some u ∧ hT h u ≠ 999 ∧ oj_104 (hT h u) = true) : ∃ (r : Option Nat) (h' : ax_H), f_J2_remove E (some a) 0 h = some (r, h') ∧ Ls0 E h' a d (n - 1) cap ∧ h'.1 = h.1 ∧ h'.2.1 = h.2.1 ∧ (∀ b, b ≠ a → b ≠ d → h'.2.2 b = h.2.2 b) ∧ ∀ k : Nat, (k : Int) < n - 1 → hR h' d k = hR h d (k + 1) := by
  obtain ⟨ta, ra, ia, n0, c⟩ := id L
  have hld : n ≤ hL h d ∧ hL h d ≤ cap := by
    rcases c with c | c
    · omega
    · exact ⟨c.2.1, c.2.2⟩
  obtain ⟨g0, hg0⟩ : ∃ g0 : ax_H, g0 = wI h a 0 (hI h a 0 + 1) := ⟨_, rfl⟩
  have gT : ∀ b, hT g0 b = hT h b := fun b => by rw [hg0, hT_wI]
  have gL : ∀ b, hL g0 b = hL h b := fun b => by rw [hg0, hL_wI]
  have gR : ∀ b k, hR g0 b k = hR h b k := fun b k => by rw [hg0, hR_wI]
  have pre : f_J2_remove E (some a) 0 h = (if 0 < n - 1 then (ax_cp E g0 (ax_refP E g0 oj_104) (some d) 104 (0 + 1) (some d) 0 (n - 1 - 0)).bind (fun h4 => f_J2_fastRemove_34 E (some a) (some d) (n - 1) h4) else f_J2_fastRemove_34 E (some a) (some d) (n - 1) g0).bind (fun h5 => some (hR h d 0, h5)) := by
    unfold f_J2_remove f_J4_checkIndex f_J5_checkIndex f_J2_fastRemove
    rw [f_gI ta (by decide), Option.bind_some, ia, i2_0, if_neg (by omega), i2_of (by omega) (by omega), if_pos (by omega), Option.bind_some, Option.bind_some, f_gR ta (by decide), ra, Option.bind_some, f_ldR hd (by decide) (by omega) (by omega) (by omega), Option.bind_some, f_ce ta (by decide), Option.bind_some, f_gI ta (by decide), Option.bind_some, f_pI ta (by decide), Option.bind_some, ← hg0, f_gI (by rw [gT]; exact ta) (by decide), Option.bind_some]
    have : hI g0 a 2 = n := by rw [hg0, hI_wI_ne (by omega)]; exact ia
    rw [this, i2_of (a := n - 1) (by omega) (by omega)]
    rfl
  have fin : ∀ g : ax_H, (∀ b, hT g b = hT h b) → (∀ b, hL g b = hL h b) → f_J2_fastRemove_34 E (some a) (some d) (n - 1) g = some (wR (wI g a 2 (n - 1)) d (n - 1).toNat none) := by
    intro g q1 q2
    unfold f_J2_fastRemove_34
    rw [f_pI (by rw [q1]; exact ta) (by decide), Option.bind_some, f_stR0 (by rw [hT_wI, q1]; exact hd) (by decide) (by omega) (by rw [hL_wI, q2]; omega) (by rw [hL_wI, q2]; omega)]
    rfl
  rw [pre]
  by_cases h2 : 0 < n - 1
  · have hcp := f_cp (E := E) (h := g0) (a := d) (d := d) (t := 104) (P := ax_refP E g0 oj_104) (sp := 0 + 1) (dp := 0) (m := n - 1 - 0) (by rw [gT]; exact hd) (by rw [gT]; exact hd) (by decide) (by rw [gL]; omega) (by rw [gL]; omega) (by decide) (by decide) (by omega) (by rw [gL]; omega) (by rw [gL]; omega) (by
      intro i hi
      obtain ⟨v, v1, v2, v3⟩ := hel (i + 1) (by omega)
      have e3 : (hC g0 d).2.2.2 ((0 + 1 : Int).toNat + i) = some v := by
        show hR g0 d ((0 + 1 : Int).toNat + i) = some v
        rw [gR, show (0 + 1 : Int).toNat + i = i + 1 by omega, v1]
      show ax_okr E g0 oj_104 _ = true
      rw [e3]
      simp only [ax_okr, f_rd (show hT g0 v ≠ 999 by rw [gT]; exact v2)]
      show oj_104 (hT g0 v) = true
      rw [gT]
      exact v3)
    rw [if_pos h2, hcp, Option.bind_some, fin _ (fun b => by rw [hT_cp, gT]) (fun b => by rw [hL_cp, gL]), Option.bind_some]
    refine ⟨_, _, rfl, ⟨by rw [hT_wR, hT_wI, hT_cp, gT]; exact ta, by rw [hR_wR_ne (by omega), hR_wI, hR_cp_ne (by omega), gR]; exact ra, by rw [hI_wR]; exact hI_wI_eq, by omega, Or.inr ⟨by rw [hT_wR, hT_wI, hT_cp, gT]; exact hd, by rw [hL_wR, hL_wI, hL_cp, gL]; omega, by rw [hL_wR, hL_wI, hL_cp, gL]; omega⟩⟩, ?_, ?_, fun b b1 b2 => ?_, fun k hk => ?_⟩
    · rw [hg0]; rfl
    · rw [hg0]; rfl
    · rw [hC_wR_ne b2, hC_wI_ne b1, hC_cp_ne b2, hg0, hC_wI_ne b1]
    · rw [hR_wR_ne (by omega), hR_wI, hR_cp, if_pos (by omega), gR]
      congr 1
      omega
  · rw [if_neg h2, fin g0 gT gL, Option.bind_some]
    refine ⟨_, _, rfl, ⟨by rw [hT_wR, hT_wI, gT]; exact ta, by rw [hR_wR_ne (by omega), hR_wI, gR]; exact ra, by rw [hI_wR]; exact hI_wI_eq, by omega, Or.inr ⟨by rw [hT_wR, hT_wI, gT]; exact hd, by rw [hL_wR, hL_wI, gL]; omega, by rw [hL_wR, hL_wI, gL]; omega⟩⟩, ?_, ?_, fun b b1 b2 => ?_, fun k hk => by omega⟩
    · rw [hg0]; rfl
    · rw [hg0]; rfl
    · rw [hC_wR_ne b2, hC_wI_ne b1, hg0, hC_wI_ne b1]
end
