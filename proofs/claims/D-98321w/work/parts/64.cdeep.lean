/-! THE COMPONENT: how deep one gets -/
set_option maxRecDepth 100000
/-- a row as a whole is as it must be, but for visits, scuffs and texts -/
def KB (K : Rw) : Prop := (0 ≤ K 152 ∧ K 152 ≤ 7) ∧ (0 ≤ K 151 ∧ K 151 ≤ 9) ∧ (-1 ≤ K 156 ∧ K 156 < K 155 ∧ 0 ≤ K 155 ∧ K 155 ≤ 6 ∨ K 156 = -1 ∧ 0 ≤ K 155 ∧ K 155 ≤ 6) ∧ (∀ p : Int, 0 ≤ p → p < K 152 → (1 ≤ K (73 + 2 * p) ∧ K (73 + 2 * p) ≤ 3) ∧ (0 ≤ K (73 + 2 * p + 1) ∧ K (73 + 2 * p + 1) ≤ 99)) ∧ RV (K 152) K
theorem owed_b {n : Int} {K : Rw} (H : RV n K) (p q : Int) : 0 ≤ owed K p q ∧ owed K p q ≤ 159984 := by
  obtain ⟨a, b, c, d⟩ := H
  have h1 : ∀ k, k < (K 71).toNat → 0 ≤ (fun k : Nat => if K (7 + 4 * (k : Int)) = p ∧ K (7 + 4 * (k : Int) + 1) = q then K (7 + 4 * (k : Int) + 2) else 0) k ∧ (fun k : Nat => if K (7 + 4 * (k : Int)) = p ∧ K (7 + 4 * (k : Int) + 1) = q then K (7 + 4 * (k : Int) + 2) else 0) k ≤ 9999 := by
    intro k hk
    obtain ⟨-, -, -, e, -⟩ := d k (by omega) (by omega)
    simp only
    split <;> omega
  have e1 := sm_ge (n := (K 71).toNat) (c := 0) (fun k hk => (h1 k hk).1)
  have e2 := sm_le (n := (K 71).toNat) (c := 9999) (fun k hk => (h1 k hk).2)
  unfold owed
  omega
theorem envL_b {K : Rw} {ow vi oe ba am ag : Int} (H : KB K) (h1 : 0 ≤ ow ∧ ow < K 152) (h2 : 0 ≤ vi ∧ vi < K 152) (h3 : -1000000 ≤ oe ∧ oe ≤ 1000000) (h4 : -1000000 ≤ ba ∧ ba ≤ 1000000) (h5 : -1000000 ≤ am ∧ am ≤ 1000000) (h6 : -1000000 ≤ ag ∧ ag ≤ 1000000) : EB (envL K ow vi oe ba am ag) := by
  obtain ⟨a1, a2, a3, a4, a5⟩ := H
  obtain ⟨r1, r2⟩ := a4 ow h1.1 h1.2
  refine ⟨fun k => ?_, fun p => ?_, fun p q => ?_⟩
  · have d := a5.2.1
    simp only [envL, numL]
    repeat' split
    all_goals omega
  · simp only [envL, purseS]
    split
    · rename_i hp
      have := a5.2.2.1 p (by omega) (by omega)
      omega
    · omega
  · have := owed_b a5 p q
    simp only [envL, owedS]
    split <;> omega
section
variable {E : ax_E} {h h' : ax_H} {x t dl dv ds du : Nat} {s : Sg}
theorem c_get {a d : Nat} {n i : Int} {cap : Nat} {P : Nat → Nat → Prop} (H : LsN E h a d n cap P) (hc : cap ≤ 1000) (h0 : 0 ≤ i) (h1 : i < n) : ∃ u, f_J2_get E (some a) i h = some (some u, h) ∧ P i.toNat u := by
  obtain ⟨ta, ra, ia, n0, c, e⟩ := H
  rcases c with ⟨c, -⟩ | ⟨c1, c2, c3⟩
  · omega
  · obtain ⟨u, r, hu⟩ := e i.toNat (by omega)
    refine ⟨u, ?_, hu⟩
    simp only [f_J2_get, f_J4_checkIndex, f_J5_checkIndex, f_J2_elementData]
    rw [f_gI ta (by decide), Option.bind_some, ia, i2_of (by omega) (by omega), if_neg (by omega), i2_of (by omega) (by omega), if_pos (by omega)]
    simp only [Option.bind_some]
    rw [f_ce ta (by decide), Option.bind_some, f_gR ta (by decide), Option.bind_some, ra, f_ldR c1 (by decide) h0 (by omega) (by omega), Option.bind_some, Option.bind_some, r]
theorem c_size {a d : Nat} {n : Int} {cap : Nat} {P : Nat → Nat → Prop} (H : LsN E h a d n cap P) : f_J2_size E (some a) h = some (n, h) := by
  simp only [f_J2_size]
  rw [f_gI H.1 (by decide), Option.bind_some, H.2.2.1]
theorem c_min2 {a b : Int} (h1 : -9223372036854775808 ≤ a) (h2 : a ≤ 9223372036854775807) (h3 : -9223372036854775808 ≤ b) (h4 : b ≤ 9223372036854775807) : f_J3_min_2 E a b h = some (min a b, h) := by
  unfold f_J3_min_2
  rw [cmp_of h1 h2 h3 h4]
  by_cases e1 : b < a
  · rw [if_pos e1, if_pos (by decide), show min a b = b by omega]
  · rw [if_neg e1, show min a b = a by omega]
    by_cases e2 : a = b
    · rw [if_pos e2, if_neg (by decide)]
    · rw [if_neg e2, if_neg (by decide)]
theorem c_max {a b : Int} (h1 : -9223372036854775808 ≤ a) (h2 : a ≤ 9223372036854775807) (h3 : -9223372036854775808 ≤ b) (h4 : b ≤ 9223372036854775807) : f_J3_max E a b h = some (max a b, h) := by
  unfold f_J3_max
  rw [cmp_of h1 h2 h3 h4]
  by_cases e1 : b < a
  · rw [if_pos e1, if_neg (by decide), show max a b = a by omega]
  · rw [if_neg e1, show max a b = b by omega]
    by_cases e2 : a = b
    · rw [if_pos e2, if_neg (by decide), e2]
    · rw [if_neg e2, if_pos (by decide)]
theorem c_min {a b : Int} (h1 : i2 a = a) (h2 : i2 b = b) : f_J3_min E a b h = some (min a b, h) := by
  unfold f_J3_min
  rw [h1, h2]
  split
  · rw [show min a b = b by omega]
  · rw [show min a b = a by omega]
theorem c_law1 (H : REP E h x t dl dv ds du s) (hK : KB (s 2)) : ∃ Fz u, f_X0_law1 E (some x) h = some (some u, h) ∧ TxN Fz h x u (lawNow (s 2)) ∧ ¬ Fz (x + 15) := by
  obtain ⟨pl, rt, ri, ra, st, un, im, dr⟩ := H
  obtain ⟨a1, a2, a3, -, -, -, a7, -⟩ := rt
  obtain ⟨⟨b1, b2, -⟩, ⟨-, -, b3⟩, -, -, -, l1, -⟩ := st
  have hm1 : i2 (-1) = -1 := by decide
  unfold f_X0_law1
  rw [f_gR a1 (by decide), a2, Option.bind_some, f_gI b1 (by decide), b3, Option.bind_some, hm1]
  by_cases hf : s 2 156 = -1
  · refine ⟨fun a => a = x + 19 ∨ a = x + 20, x + 19, ?_, ?_, by omega⟩
    · rw [hf, if_pos hm1, f_gR a1 (by decide), a3.2.2.2.2.1]
      rfl
    · unfold lawNow
      rw [if_pos hf]
      obtain ⟨c1, c2, c3, c4⟩ := a7
      exact ⟨Or.inl rfl, c1, x + 20, c2, Or.inr rfl, c3, c4, by decide, fun k u hu => by simp at hu⟩
  · have hb : 0 ≤ s 2 156 ∧ s 2 156 < s 2 155 := by
      rcases hK.2.2.1 with q | q
      · omega
      · exact absurd q.1 hf
    obtain ⟨u, g1, L, g2, g3⟩ := c_get l1 (by decide) hb.1 hb.2
    refine ⟨Frz h x t dl dv ds du, u, ?_, ?_, ?_⟩
    · have h6 := hK.2.2.1
      rw [if_neg (by rw [i2_of (by omega) (by omega)]; exact hf)]
      simp only [Option.bind_some, f_gR b1 (by decide), b2, f_gI b1 (by decide), b3, f_ce l1.1 (by decide), g1, ax_cc, f_ce g3.2.1 (by decide)]
      rfl
    · unfold lawNow
      rw [if_neg hf]
      rw [Int.toNat_of_nonneg hb.1] at g2
      rw [g2]
      exact g3
    · intro q
      have := q.2.2
      unfold Mut at this
      omega
theorem REP.low (H : REP E h x t dl dv ds du s) : ∀ a, a < x → h.2.2 a = none := H.1.2.2.2.1.1
theorem REP.scr (H : REP E h x t dl dv ds du s) (S : Scr (x + 15) h h') : Kp x h h' := Kp_scr H.1.2.2.2.1.1 H.1.2.2.2.1.2 S
end
