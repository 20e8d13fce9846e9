/-! THE COMPONENT: lists that grow and shrink -/
set_option maxRecDepth 100000
/-- a list but for what is in it -/
def Ls0 (E : ax_E) (h : ax_H) (a d : Nat) (n : Int) (cap : Nat) : Prop := hT h a = 42 ∧ hR h a 1 = some d ∧ hI h a 2 = n ∧ 0 ≤ n ∧ ((n = 0 ∧ d = E.2.2 0) ∨ (hT h d = 104 ∧ n ≤ hL h d ∧ hL h d ≤ cap))
/-- the list's first array, which nobody writes -/
def Emp (E : ax_E) (h : ax_H) : Prop := h.2.2 (E.2.2 0) = none ∧ ∃ c : ax_C, E.2.1 (E.2.2 0) = some c ∧ c.1 = 104 ∧ c.2.1 = 0
theorem shr1 {n : Int} (h0 : 0 ≤ n) (h1 : n ≤ 1000) : ax_shr n 1 = n / 2 := by
  obtain ⟨k, rfl⟩ : ∃ k : Nat, n = k := ⟨n.toNat, by omega⟩
  have hk : k ≤ 1000 := by omega
  have : ∀ k : Fin 1001, ax_shr ((k.val : Nat) : Int) 1 = ((k.val : Nat) : Int) / 2 := by decide +kernel
  exact this ⟨k, by omega⟩
section
variable {E : ax_E} {h h' : ax_H} {a d u : Nat} {n : Int} {cap : Nat}
theorem c_max2 {p q : Int} (h1 : i2 p = p) (h2 : i2 q = q) : f_J3_max_2 E p q h = some (max p q, h) := by
  unfold f_J3_max_2
  rw [h1, h2]
  split
  · rw [show max p q = q by omega]
  · rw [show max p q = p by omega]
/-- one more, where there is room -/
theorem c_put (L : Ls0 E h a d n cap) (hl : hL h d ≤ 1000) (hn : n < hL h d) (hd : hT h d = 104) (had : a ≠ d) (hu : hT h u ≠ 999) (ho : oj_104 (hT h u) = true) : f_J2_add_2_11 E (some a) (some u) (some d) n h = some (wI (wR h d n.toNat (some u)) a 2 (n + 1)) := by
  obtain ⟨ta, ra, ia, n0, c⟩ := L
  unfold f_J2_add_2_11
  rw [f_stR hd (by decide) n0 hn (by omega) hu ho, Option.bind_some, f_pI (by rw [hT_wR]; exact ta) (by decide)]
  rfl
theorem c_grow (L : Ls0 E h a d n cap) (hc : cap ≤ 1000) (hE : Emp E h) (hlt : a < h.1) (hdl : d < h.1) (hfull : hT h d = 104 → (hL h d : Int) = n) (hel : ∀ k : Nat, (k : Int) < n → ∃ u, hR h d k = some u ∧ hT h u ≠ 999 ∧ oj_104 (hT h u) = true ∧ u < h.1) (e1 : h.1 + 1 ≤ E.1.1) (e2 : h.2.1 + 1600 ≤ E.1.2) : ∃ (m : Nat) (g : ax_H), f_J2_grow E (some a) h = some (some h.1, g) ∧ (n < m ∧ (m : Int) ≤ max 10 (n + max 1 (n / 2))) ∧ g.1 = h.1 + 1 ∧ g.2.1 = h.2.1 + m ∧ (∀ b, b < h.1 → b ≠ a → g.2.2 b = h.2.2 b) ∧ hT g a = 42 ∧ hR g a 1 = some h.1 ∧ hI g a 2 = n ∧ hT g h.1 = 104 ∧ hL g h.1 = m ∧ ∀ k : Nat, (k : Int) < n → hR g h.1 k = hR h d k := by
  obtain ⟨ta, ra, ia, n0, c⟩ := L
  have hn1 : n ≤ 1000 := by
    rcases c with c | c <;> omega
  unfold f_J2_grow f_J2_grow_2
  rw [f_gI ta (by decide), Option.bind_some, ia, f_ce ta (by decide), Option.bind_some, f_gR ta (by decide), ra, Option.bind_some]
  rcases c with ⟨c1, c2⟩ | ⟨c1, c2, c3⟩
  · -- the first array
    obtain ⟨hno, cc, hce, hc1, hc2⟩ := hE
    have hlen : ax_len E h (some d) 104 = some 0 := by
      have e9 : ax_ce E h (some d) 104 = some cc := by
        rw [c2]
        simp only [ax_ce, ax_rd, hno, hce]
        exact if_pos hc1
      unfold ax_len
      rw [e9]
      simp [hc2]
    rw [hlen, Option.bind_some, if_neg (by decide)]
    simp only [Option.bind_some]
    unfold ax_cst
    rw [Option.bind_some, if_pos (by rw [c2]), c_max2 (by decide) (i2_of (by omega) (by omega)), Option.bind_some, f_na (by omega) (by omega) e1 (by omega), Option.bind_some]
    have hm : (max 10 (n + 1)).toNat = 10 := by omega
    rw [hm, f_pR (by rw [hT_nw_ne (by omega)]; exact ta) (by decide)]
    refine ⟨10, wR (nwH h 104 10 10) a 1 (some h.1), rfl, by omega, rfl, rfl, fun b h1 h2 => by rw [hC_wR_ne h2, hC_nw_ne (by omega)], by rw [hT_wR, hT_nw_ne (by omega)]; exact ta, hR_wR_eq, by rw [hI_wR, hI_nw_ne (by omega)]; exact ia, by rw [hT_wR]; exact hT_nw_eq, by rw [hL_wR]; exact hL_nw_eq, fun k hk => by omega⟩
  · have hln := hfull c1
    rw [f_len c1 (by decide), Option.bind_some, hln, i2_of (by omega) (by omega)]
    have g20 : ∃ (m : Nat) (g : ax_H), f_J2_grow_2_20 E (some a) (n + 1) n h = some (some h.1, g) ∧ (n < m ∧ (m : Int) ≤ max 10 (n + max 1 (n / 2))) ∧ g.1 = h.1 + 1 ∧ g.2.1 = h.2.1 + m ∧ (∀ b, b < h.1 → b ≠ a → g.2.2 b = h.2.2 b) ∧ hT g a = 42 ∧ hR g a 1 = some h.1 ∧ hI g a 2 = n ∧ hT g h.1 = 104 ∧ hL g h.1 = m ∧ ∀ k : Nat, (k : Int) < n → hR g h.1 k = hR h d k := by
      unfold f_J2_grow_2_20 f_J14_newLength
      have hs := shr1 n0 hn1
      rw [hs, c_max2 (i2_of (by omega) (by omega)) (i2_of (by omega) (by omega)), Option.bind_some, show n + 1 - n = 1 by omega]
      have k0 : i2 0 = 0 := i2_0
      have kM : i2 2147483639 = 2147483639 := by decide
      rw [k0, kM, i2_of (by omega) (by omega), if_pos (by omega), if_neg (by omega), Option.bind_some, f_gR ta (by decide), ra, Option.bind_some]
      obtain ⟨m, hm⟩ : ∃ m : Nat, n + max 1 (n / 2) = m := ⟨(n + max 1 (n / 2)).toNat, by omega⟩
      unfold f_J15_copyOf f_J15_copyOf_2 ax_cst
      rw [hm, f_ce c1 (by decide), Option.bind_some, Option.bind_some, Option.bind_some, if_pos rfl, f_na (by omega) (by omega) e1 (by omega), Option.bind_some, Int.toNat_natCast, f_len (by rw [hT_nw_ne (by omega)]; exact c1) (by decide), Option.bind_some, hL_nw_ne (by omega), hln, c_min (i2_of (by omega) (by omega)) (i2_of (by omega) (by omega)), Option.bind_some, show min n (m : Int) = n by omega]
      have hcp := f_cp (E := E) (h := nwH h 104 m m) (a := d) (d := h.1) (t := 104) (P := ax_refP E (nwH h 104 m m) oj_104) (sp := 0) (dp := 0) (m := n) (by rw [hT_nw_ne (by omega)]; exact c1) hT_nw_eq (by decide) (by rw [hL_nw_ne (by omega)]; omega) (by rw [hL_nw_eq]; omega) (by decide) (by decide) n0 (by rw [hL_nw_ne (by omega)]; omega) (by rw [hL_nw_eq]; omega) (by
        intro i hi
        obtain ⟨v, v1, v2, v3, v4⟩ := hel i (by omega)
        have e3 : (hC (nwH h 104 m m) d).2.2.2 ((0 : Int).toNat + i) = some v := by
          show hR (nwH h 104 m m) d ((0 : Int).toNat + i) = some v
          rw [hR_nw_ne (by omega), show (0 : Int).toNat + i = i by omega, v1]
        show ax_okr E (nwH h 104 m m) oj_104 _ = true
        rw [e3]
        have hv : v ≠ h.1 := by omega
        simp only [ax_okr, f_rd (show hT (nwH h 104 m m) v ≠ 999 by rw [hT_nw_ne hv]; exact v2)]
        show oj_104 (hT (nwH h 104 m m) v) = true
        rw [hT_nw_ne hv]
        exact v3)
      rw [hcp, Option.bind_some, Option.bind_some, Option.bind_some, f_pR (by rw [hT_cp, hT_nw_ne (by omega)]; exact ta) (by decide)]
      refine ⟨m, _, rfl, by omega, rfl, rfl, fun b h1 h2 => by rw [hC_wR_ne h2, hC_cp_ne (by omega), hC_nw_ne (by omega)], by rw [hT_wR, hT_cp, hT_nw_ne (by omega)]; exact ta, hR_wR_eq, by rw [hI_wR, hI_cp_ne (by omega), hI_nw_ne (by omega)]; exact ia, by rw [hT_wR, hT_cp]; exact hT_nw_eq, by rw [hL_wR, hL_cp]; exact hL_nw_eq, fun k hk => ?_⟩
      rw [hR_wR_ne (by omega), hR_cp, if_pos (by omega), hR_nw_ne (by omega)]
      congr 1
      omega
    by_cases hz : 0 < n
    · rw [if_pos hz]
      obtain ⟨m, g, z1, z2⟩ := g20
      rw [z1]
      exact ⟨m, g, rfl, z2⟩
    · rw [if_neg hz, Option.bind_some]
      unfold ax_cst
      rw [Option.bind_some, if_neg (by
        intro z
        have z2 : d = E.2.2 0 := Option.some.inj z
        have := hE.1
        rw [← z2] at this
        unfold hT hC at c1
        rw [this] at c1
        cases c1)]
      obtain ⟨m, g, z1, z2⟩ := g20
      rw [z1]
      exact ⟨m, g, rfl, z2⟩
end
