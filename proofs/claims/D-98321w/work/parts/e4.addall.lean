/-! Lists copied: toArray, addAll -/
set_option maxRecDepth 100000
section
variable {E : ax_E} {h h' : ax_H} {a b d u : Nat} {n : Int} {cap : Nat}
/-- what may lie in a list -/
def Els (h : ax_H) (d : Nat) (n : Int) : Prop := ∀ k : Nat, (k : Int) < n → ∃ u, hR h d k = some u ∧ hT h u ≠ 999 ∧ oj_104 (hT h u) = true ∧ u < h.1
theorem c_toArray (L : Ls0 E h a d n cap) (hc : cap ≤ 1000) (hE : Emp E h) (hdl : d < h.1) (hel : Els h d n) (e1 : h.1 + 1 ≤ E.1.1) (e2 : h.2.1 + 1000 ≤ E.1.2) : ∃ g, f_J2_toArray E (some a) h = some (some h.1, g) ∧ g.1 = h.1 + 1 ∧ g.2.1 = h.2.1 + n.toNat ∧ hT g h.1 = 104 ∧ (hL g h.1 : Int) = n ∧ (∀ k : Nat, (k : Int) < n → hR g h.1 k = hR h d k) ∧ ∀ c, c < h.1 → g.2.2 c = h.2.2 c := by
  obtain ⟨ta, ra, ia, n0, c⟩ := L
  have hn1 : n ≤ 1000 := by rcases c with c | c <;> omega
  unfold f_J2_toArray f_J15_copyOf f_J15_copyOf_2 ax_cst
  rw [f_gR ta (by decide), ra, Option.bind_some, f_gI ta (by decide), ia, Option.bind_some]
  rcases c with ⟨c1, c2⟩ | ⟨c1, c2, c3⟩
  · obtain ⟨hno, cc, hce, hc1, hc2⟩ := hE
    have e9 : ∀ g : ax_H, g.2.2 d = none → ax_ce E g (some d) 104 = some cc := by
      intro g hg
      rw [c2] at hg ⊢
      simp only [ax_ce, ax_rd, hg, hce]
      exact if_pos hc1
    have hnd : h.2.2 d = none := by rw [c2]; exact hno
    have hnd2 : (nwH h 104 0 0).2.2 d = none := (hC_nw_ne (by omega)).trans hnd
    have hlen : ax_len E (nwH h 104 0 0) (some d) 104 = some 0 := by
      unfold ax_len
      rw [e9 _ hnd2]
      simp [hc2]
    rw [e9 _ hnd, Option.bind_some, Option.bind_some, Option.bind_some, if_pos rfl, c1, f_na (i := 0) (by decide) (by decide) e1 (by show _ + 0 ≤ _; omega), Option.bind_some]
    show ∃ g, (Option.bind (Option.bind (ax_len E (nwH h 104 0 0) (some d) 104) _) _).bind _ = _ ∧ _
    rw [hlen, Option.bind_some, c_min (by decide) (by decide), Option.bind_some]
    have hcp : ax_cp E (nwH h 104 0 0) (ax_refP E (nwH h 104 0 0) oj_104) (some d) 104 0 (some h.1) 0 0 = some (ax_set (nwH h 104 0 0) h.1 ((hC (nwH h 104 0 0) h.1).1, (hC (nwH h 104 0 0) h.1).2.1, va_cpy cc.2.2.1 (hC (nwH h 104 0 0) h.1).2.2.1 0 0 0, va_cpy cc.2.2.2 (hC (nwH h 104 0 0) h.1).2.2.2 0 0 0)) := by
      unfold ax_cp
      rw [e9 _ hnd2, f_wc hT_nw_eq (by decide), Option.bind_some, Option.bind_some]
      have hcond : (0 ≤ (0 : Int) ∧ 0 ≤ (0 : Int) ∧ 0 ≤ (0 : Int) ∧ (0 : Int) + 0 ≤ ((cc.2.1 : Nat) : Int) ∧ (0 : Int) + 0 ≤ ((((h.1, hC (nwH h 104 0 0) h.1) : Nat × ax_C).2.2.1 : Nat) : Int)) ∧ ∀ i : Nat, i < (0 : Int).toNat → ax_refP E (nwH h 104 0 0) oj_104 cc ((0 : Int).toNat + i) := ⟨⟨by decide, by decide, by decide, by omega, by omega⟩, fun i hi => absurd hi (by omega)⟩
      have i0 : i2 0 = 0 := by decide
      split
      · rw [i0]
        rfl
      · rename_i hn _
        rw [i0] at hn
        exact absurd hcond hn
    rw [show min (0 : Int) 0 = 0 by decide]
    dsimp only
    rw [Int.toNat_zero, hcp]
    refine ⟨_, rfl, rfl, rfl, ?_, ?_, fun k hk => absurd hk (by omega), fun q hq => ?_⟩
    · unfold hT
      rw [hC_set, if_pos rfl]
      exact hT_nw_eq
    · unfold hL
      rw [hC_set, if_pos rfl]
      show ((hL (nwH h 104 0 0) h.1 : Nat) : Int) = 0
      rw [hL_nw_eq]
      rfl
    · show va_up (nwH h 104 0 0).2.2 h.1 _ q = _
      rw [va_up_ne _ _ (by omega)]
      exact hC_nw_ne (by omega)
  · obtain ⟨m, hm⟩ : ∃ m : Nat, n = m := ⟨n.toNat, by omega⟩
    subst hm
    rw [f_ce c1 (by decide), Option.bind_some, Option.bind_some, Option.bind_some, if_pos rfl, f_na (by omega) (by omega) e1 (by omega), Option.bind_some, Int.toNat_natCast]
    dsimp only
    rw [f_len (by rw [hT_nw_ne (by omega)]; exact c1) (by decide), Option.bind_some, hL_nw_ne (by omega), c_min (i2_of (by omega) (by omega)) (i2_of (by omega) (by omega)), Option.bind_some, show min ((hL h d : Nat) : Int) (m : Int) = m by omega]
    have hcp := f_cp (E := E) (h := nwH h 104 m m) (a := d) (d := h.1) (t := 104) (P := ax_refP E (nwH h 104 m m) oj_104) (sp := 0) (dp := 0) (m := (m : Int)) (by rw [hT_nw_ne (by omega)]; exact c1) hT_nw_eq (by decide) (by rw [hL_nw_ne (by omega)]; omega) (by rw [hL_nw_eq]; omega) (by decide) (by decide) (by omega) (by rw [hL_nw_ne (by omega)]; omega) (by rw [hL_nw_eq]; omega) (by
      intro i hi
      obtain ⟨v, v1, v2, v3, v4⟩ := hel i (by omega)
      have e3 : (hC (nwH h 104 m m) d).2.2.2 ((0 : Int).toNat + i) = some v := by
        show hR (nwH h 104 m m) d ((0 : Int).toNat + i) = some v
        rw [hR_nw_ne (by omega), show (0 : Int).toNat + i = i by omega, v1]
      show ax_okr E (nwH h 104 m m) oj_104 _ = true
      rw [e3]
      have hv : v ≠ h.1 := by omega
      simp only [ax_okr, f_rd (show hT (nwH h 104 m m) v ≠ 999 by rw [hT_nw_ne hv]; exact v2)]
      show oj_104 (hT (nwH h 104 m m) v) = true
      rw [hT_nw_ne hv]
      exact v3)
    dsimp only
    rw [hcp]
    refine ⟨_, rfl, rfl, rfl, by rw [hT_cp]; exact hT_nw_eq, by rw [hL_cp, hL_nw_eq], fun k hk => ?_, fun q hq => by rw [hC_cp_ne (by omega), hC_nw_ne (by omega)]⟩
    rw [hR_cp, if_pos (by omega), hR_nw_ne (by omega)]
    congr 1
    omega
/-- a new list filled from another -/
theorem c_addAll (L : Ls0 E h a d n cap) (hc : cap ≤ 1000) (hE : Emp E h) (hdl : d < h.1) (hel : Els h d n) (hn : n ≤ 10) (tb : hT h b = 42) (rb : hR h b 1 = some (E.2.2 0)) (ib : hI h b 2 = 0) (hbl : b < h.1) (hz : E.2.2 0 < h.1) (e1 : h.1 + 2 ≤ E.1.1) (e2 : h.2.1 + 1020 ≤ E.1.2) : ∃ (d' : Nat) (v : Int) (g : ax_H), f_J2_addAll E (some b) (some a) h = some (v, g) ∧ Ls0 E g b d' n 10 ∧ (h.1 ≤ g.1 ∧ g.1 ≤ h.1 + 2 ∧ h.2.1 ≤ g.2.1 ∧ g.2.1 ≤ h.2.1 + 20) ∧ (d' = E.2.2 0 ∨ (h.1 ≤ d' ∧ d' < g.1)) ∧ (∀ k : Nat, (k : Int) < n → hR g d' k = hR h d k) ∧ ∀ c, c < h.1 → c ≠ b → g.2.2 c = h.2.2 c := by
  have n0 := L.2.2.2.1
  obtain ⟨g1, p1, p2, p3, p4, p5, p6, p7⟩ := c_toArray L hc hE hdl hel (by omega) (by omega)
  have tb1 : hT g1 b = 42 := by unfold hT; rw [hC_eq (p7 b hbl)]; exact tb
  have rb1 : hR g1 b 1 = some (E.2.2 0) := by unfold hR; rw [hC_eq (p7 b hbl)]; exact rb
  have ib1 : hI g1 b 2 = 0 := by unfold hI; rw [hC_eq (p7 b hbl)]; exact ib
  obtain ⟨g2, eg2⟩ : ∃ g2, g2 = wI g1 b 0 (hI g1 b 0 + 1) := ⟨_, rfl⟩
  have q1 : g2.1 = h.1 + 1 := by rw [eg2]; exact p2
  have q2 : g2.2.1 = h.2.1 + n.toNat := by rw [eg2]; exact p3
  have tb2 : hT g2 b = 42 := by rw [eg2, hT_wI]; exact tb1
  have rb2 : hR g2 b 1 = some (E.2.2 0) := by rw [eg2, hR_wI]; exact rb1
  have ib2 : hI g2 b 2 = 0 := by rw [eg2, hI_wI_ne (by omega)]; exact ib1
  have t2 : hT g2 h.1 = 104 := by rw [eg2, hT_wI]; exact p4
  have l2 : (hL g2 h.1 : Int) = n := by rw [eg2, hL_wI]; exact p5
  have r2 : ∀ k : Nat, (k : Int) < n → hR g2 h.1 k = hR h d k := fun k hk => by rw [eg2, hR_wI]; exact p6 k hk
  have s2 : ∀ c, c < h.1 → c ≠ b → g2.2.2 c = h.2.2 c := fun c c1 c2 => by rw [eg2, hC_wI_ne c2]; exact p7 c c1
  obtain ⟨hno, cc, hce, hc1, hc2⟩ := hE
  have zb : E.2.2 0 ≠ b := by
    intro z
    rw [z] at hno
    unfold hT hC at tb
    rw [hno] at tb
    cases tb
  have hnz : g2.2.2 (E.2.2 0) = none := (s2 _ hz zb).trans hno
  have hlen : ax_len E g2 (some (E.2.2 0)) 104 = some 0 := by
    have e9 : ax_ce E g2 (some (E.2.2 0)) 104 = some cc := by
      simp only [ax_ce, ax_rd, hnz, hce]
      exact if_pos hc1
    unfold ax_len
    rw [e9]
    simp [hc2]
  unfold f_J2_addAll
  rw [f_ce L.1 (by decide), Option.bind_some, p1, Option.bind_some]
  dsimp only
  rw [f_gI tb1 (by decide), Option.bind_some, f_pI tb1 (by decide), Option.bind_some, ← eg2, f_len t2 (by decide), Option.bind_some, l2, i2_of (a := n) (by omega) (by omega)]
  by_cases c : n = 0
  · rw [if_pos c]
    exact ⟨E.2.2 0, 0, g2, rfl, ⟨tb2, rb2, by rw [ib2, c], n0, Or.inl ⟨c, rfl⟩⟩, by omega, Or.inl rfl, fun k hk => absurd hk (by omega), s2⟩
  · rw [if_neg c, f_gR tb2 (by decide), rb2, Option.bind_some, hlen, Option.bind_some, f_gI tb2 (by decide), ib2, Option.bind_some, show (0 : Int) - 0 = 0 by decide, show i2 0 = 0 by decide, if_pos (by omega), f_ce tb2 (by decide), Option.bind_some]
    unfold f_J2_grow_2 ax_cst
    rw [f_gR tb2 (by decide), rb2, Option.bind_some, hlen, Option.bind_some, show i2 0 = 0 by decide, if_neg (by decide), Option.bind_some, Option.bind_some, if_pos rfl, c_max2 (by decide) (i2_of (by omega) (by omega)), Option.bind_some, show max 10 (0 + n) = 10 by omega, f_na (i := 10) (by decide) (by decide) (by show g2.1 + 1 ≤ E.1.1; omega) (by show g2.2.1 + 10 ≤ E.1.2; omega), Option.bind_some]
    have tn : hT (nwH g2 104 10 10) b = 42 := by rw [hT_nw_ne (by omega)]; exact tb2
    show ∃ (d' : Nat) (v : Int) (g : ax_H), (Option.bind (Option.bind (ax_pR (nwH g2 104 10 10) (some b) 42 1 (some g2.1)) _) _) = some (v, g) ∧ _
    rw [f_pR tn (by decide), Option.bind_some, Option.bind_some]
    obtain ⟨g3, eg3⟩ : ∃ g3, g3 = wR (nwH g2 104 10 10) b 1 (some g2.1) := ⟨_, rfl⟩
    dsimp only
    rw [← eg3]
    have T3 : ∀ c, c ≠ g2.1 → hT g3 c = hT g2 c := fun c hc => by rw [eg3, hT_wR, hT_nw_ne hc]
    have L3 : ∀ c, c ≠ g2.1 → hL g3 c = hL g2 c := fun c hc => by rw [eg3, hL_wR, hL_nw_ne hc]
    have tN : hT g3 g2.1 = 104 := by rw [eg3, hT_wR]; exact hT_nw_eq
    have lN : hL g3 g2.1 = 10 := by rw [eg3, hL_wR]; exact hL_nw_eq
    have R3 : ∀ k, hR g3 h.1 k = hR g2 h.1 k := fun k => by rw [eg3, hR_wR_ne (by omega), hR_nw_ne (by omega)]
    have hcp := f_cp (E := E) (h := g3) (a := h.1) (d := g2.1) (t := 104) (P := ax_refP E g3 oj_104) (sp := 0) (dp := 0) (m := n) (by rw [T3 _ (by omega)]; exact t2) tN (by decide) (by rw [L3 _ (by omega)]; omega) (by rw [lN]; decide) (by decide) (by decide) n0 (by rw [L3 _ (by omega), l2]; omega) (by rw [lN]; omega) (by
      intro i hi
      obtain ⟨v, v1, v2, v3, v4⟩ := hel i (by omega)
      have e3 : (hC g3 h.1).2.2.2 ((0 : Int).toNat + i) = some v := by
        show hR g3 h.1 ((0 : Int).toNat + i) = some v
        rw [R3, show (0 : Int).toNat + i = i by omega, r2 i (by omega), v1]
      show ax_okr E g3 oj_104 _ = true
      rw [e3]
      have hTv : hT g3 v = hT h v := by
        rw [T3 v (by omega), eg2, hT_wI]
        unfold hT
        rw [hC_eq (p7 v v4)]
      simp only [ax_okr, f_rd (show hT g3 v ≠ 999 by rw [hTv]; exact v2)]
      show oj_104 (hT g3 v) = true
      rw [hTv]
      exact v3)
    unfold f_J2_addAll_56
    rw [hcp, Option.bind_some, f_pI (by rw [hT_cp, T3 b (by omega)]; exact tb2) (by decide), Option.bind_some]
    have w1 : g3.1 = g2.1 + 1 := by rw [eg3]; rfl
    have w2 : g3.2.1 = g2.2.1 + 10 := by rw [eg3]; rfl
    refine ⟨g2.1, 1, _, rfl, ⟨by rw [hT_wI, hT_cp, T3 b (by omega)]; exact tb2, by rw [hR_wI, hR_cp_ne (by omega), eg3, hR_wR_eq], by rw [hI_wI_eq]; omega, n0, Or.inr ⟨by rw [hT_wI, hT_cp]; exact tN, by rw [hL_wI, hL_cp, lN]; omega, by rw [hL_wI, hL_cp, lN]; exact Nat.le_refl _⟩⟩, ?_, Or.inr ⟨by omega, ?_⟩, fun k hk => ?_, fun q hq1 hq2 => ?_⟩
    · show h.1 ≤ g3.1 ∧ g3.1 ≤ h.1 + 2 ∧ h.2.1 ≤ g3.2.1 ∧ g3.2.1 ≤ h.2.1 + 20
      omega
    · show g2.1 < g3.1
      omega
    · rw [hR_wI, hR_cp, if_pos ⟨rfl, by omega, by omega⟩, R3, ← r2 k hk]
      congr 1
      omega
    · rw [hC_wI_ne hq2, hC_cp_ne (by omega), eg3, hC_wR_ne hq2, hC_nw_ne (by omega)]
      exact s2 q hq1 hq2
end
