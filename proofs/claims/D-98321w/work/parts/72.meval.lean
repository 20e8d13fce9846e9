/-! THE MODEL: it goes along a text -/
set_option maxRecDepth 100000
/-- where it goes, whether it is broken -/
def gs (s : Sg) (g b : Int) : Sg := sw s 0 (u1 (u1 (s 0) 20 g) 22 b)
theorem gs_20 (s : Sg) (g b : Int) : gs s g b 0 20 = g := by unfold gs; rw [sw_eq, u1_ne _ (by decide), u1_eq]
theorem gs_22 (s : Sg) (g b : Int) : gs s g b 0 22 = b := by unfold gs; rw [sw_eq, u1_eq]
theorem gs_0 {s : Sg} {g b k : Int} (h1 : k ≠ 20) (h2 : k ≠ 22) : gs s g b 0 k = s 0 k := by unfold gs; rw [sw_eq, u1_ne _ h2, u1_ne _ h1]
theorem gs_21 (s : Sg) (g b : Int) : gs s g b 0 21 = s 0 21 := gs_0 (by decide) (by decide)
theorem gs_23 (s : Sg) (g b : Int) : gs s g b 0 23 = s 0 23 := gs_0 (by decide) (by decide)
theorem gs_o {s : Sg} {g b : Int} {o : Nat} (h : o ≠ 0) : gs s g b o = s o := by unfold gs; rw [sw_ne _ h]
theorem gs_2 (s : Sg) (g b : Int) : gs s g b 2 = s 2 := gs_o (by decide)
theorem gs_12 (s : Sg) (g b : Int) : gs s g b 12 = s 12 := gs_o (by decide)
theorem gs_13 (s : Sg) (g b : Int) : gs s g b 13 = s 13 := gs_o (by decide)
theorem gs_g (s : Sg) (g b v : Int) : sw (gs s g b) 0 (u1 (gs s g b 0) 20 v) = gs s v b := by
  unfold gs
  rw [sw_eq, sw_sw]
  congr 1
  rw [u1_comm (i := 20) (j := 22) v b (by decide), u1_u1]
theorem gs_b (s : Sg) (g b v : Int) : sw (gs s g b) 0 (u1 (gs s g b 0) 22 v) = gs s g v := by
  unfold gs
  rw [sw_eq, sw_sw, u1_u1]
theorem gs_self (s : Sg) : gs s (s 0 20) (s 0 22) = s := by
  unfold gs
  rw [u1_self, u1_self, sw_self]
theorem gs_gs (s : Sg) (g b g' b' : Int) : gs (gs s g b) g' b' = gs s g' b' := by
  unfold gs
  rw [sw_eq, sw_sw]
  congr 1
  rw [u1_comm (i := 20) (j := 22) g' b (by decide), u1_u1, u1_u1]
/-- the text at B, of N tokens: its codes, its values -/
def TxtM (s : Sg) (B N o : Int) (c w : Rw) : Prop := s 0 21 = B + N ∧ (0 ≤ B ∧ B ≤ 2400) ∧ (0 ≤ N ∧ N ≤ 400) ∧ c = cut N (fun k => s 2 (164 + B + k)) ∧ w = cut N (fun k => s 2 (2964 + B + k)) ∧ s 0 23 = o ∧ (o = 0 ∨ o = 1) ∧ ∀ k, 0 ≤ w k
def EnvM (s : Sg) (o : Int) (e : Ev) : Prop := (o = 0 → ∀ k : Int, 0 ≤ k → k < 10 → s 12 k = e.1 k) ∧ (o ≠ 0 → (∀ k : Int, 0 ≤ k → k < 4 → s 13 k = e.1 k) ∧ (∀ p : Int, 0 ≤ p → p ≤ 6 → (if 0 ≤ p ∧ p ≤ s 2 152 - 1 then s 2 p else -1) = e.2.1 p) ∧ ∀ p q : Int, 0 ≤ p → p ≤ 6 → 0 ≤ q → q ≤ 6 → owed (s 2) p q = e.2.2 p q)
def evP (live b : Int) (o : Option Int) : Int × Int := if live = 1 ∧ b = 0 then (match o with
  | some v => (v, 0)
  | none => (0, 1)) else (0, b)
section
variable {E : ax_E} {m : Nat} {s : Sg} {h : ax_H} {B N o : Int} {c w : Rw} {e : Ev}
theorem cut_ne {f : Rw} {k : Int} (h : cut N f k ≠ 0) : 0 ≤ k ∧ k < N := by
  unfold cut at h
  split at h
  · assumption
  · exact absurd rfl h
theorem m_codeAt {k g b : Int} (hG : G32 s) (T : TxtM s B N o c w) (h0 : 0 ≤ k) (h1 : k ≤ 10000) : f_X5_codeAt E (some m) (B + k) (mdl m (gs s g b) h) = some (c k, mdl m (gs s g b) h) := by
  obtain ⟨a1, a2, a3, a4, a5, a6, a7, a8⟩ := T
  unfold f_X5_codeAt
  rw [md_gI21, Option.bind_some, gs_21, a1, i2_of (by omega) (by omega), i2_of (by omega) (by omega), a4]
  unfold cut
  by_cases hk : k < N
  · rw [if_pos (by omega), if_pos ⟨h0, hk⟩, md_gR2, Option.bind_some, md_ld2 (by omega) (by omega), Option.bind_some, gs_2, show 164 + (B + k) = 164 + B + k by omega]
  · rw [if_neg (by omega), if_neg (by omega)]
theorem m_passes {v i b : Int} (hG : G32 s) (T : TxtM s B N o c w) (h0 : 0 ≤ i) (h1 : i ≤ 10000) (hv : i2 v = v) : f_X5_passes0 E (some m) v (mdl m (gs s (B + i) b) h) = some (b01 (c i = v), mdl m (gs s (if c i = v then B + i + 1 else B + i) b) h) := by
  have hc : i2 (c i) = c i := by
    rw [T.2.2.2.1]
    unfold cut
    split
    · exact hG _ _
    · decide
  unfold f_X5_passes0 f_X5_passes0_17 f_X5_passes0_32
  rw [md_gI20, Option.bind_some, gs_20, md_ce, Option.bind_some, m_codeAt hG T h0 h1, Option.bind_some, hc, hv]
  by_cases hi : c i = v
  · rw [if_pos hi, if_neg (by decide), md_gI20, Option.bind_some, gs_20, md_pI20, Option.bind_some, gs_g, if_pos (Or.inr rfl), b01_t hi, if_pos hi]
  · rw [if_neg hi, if_pos (by decide), if_pos (Or.inl rfl), b01_f hi, if_neg hi]
theorem m_bounded {v live g b : Int} (hl : live = 0 ∨ live = 1) (hb : b = 0 ∨ b = 1) (hv : -9223372036854775808 ≤ v ∧ v ≤ 9223372036854775807) : f_X5_bounded E (some m) v live (mdl m (gs s g b) h) = some (if b = 1 then 0 else if live = 1 then (bnd v).getD 0 else v, mdl m (gs s g (if live = 1 ∧ (bnd v).isNone then 1 else b)) h) := by
  have i1 : ¬ i2 1 = 0 := by decide
  have f25 : ∀ b', (b' = 0 ∨ b' = 1) → f_X5_bounded_25 E (some m) v (mdl m (gs s g b') h) = some (if b' = 1 then 0 else v, mdl m (gs s g b') h) := by
    intro b' hb'
    unfold f_X5_bounded_25
    rw [md_gI22, Option.bind_some, gs_22]
    rcases hb' with q | q
    · subst q
      rw [if_pos i2_0, if_neg (by decide)]
    · subst q
      rw [if_neg i1, if_pos rfl]
  have f20 : f_X5_bounded_20 E (some m) v (mdl m (gs s g b) h) = some (0, mdl m (gs s g 1) h) := by
    unfold f_X5_bounded_20
    rw [if_pos (Or.inr rfl), md_pI22, Option.bind_some, gs_b, f25 1 (Or.inr rfl), if_pos rfl]
  unfold f_X5_bounded
  rw [f25 b hb, f20, cmp_of hv.1 hv.2 (by decide) (by decide), cmp_of hv.1 hv.2 (by decide) (by decide)]
  rcases hl with q | q
  · subst q
    rw [if_pos i2_0]
    simp
  · subst q
    rw [if_neg i1]
    by_cases a : 1000000000 < v
    · have hn : bnd v = none := by unfold bnd; rw [if_pos (Or.inl a)]
      rw [hn, if_pos (by rw [if_pos a]; decide)]
      simp
    · rw [if_neg (by rw [if_neg a]; split <;> decide)]
      by_cases d : v < -1000000000
      · have hn : bnd v = none := by unfold bnd; rw [if_pos (Or.inr d)]
        rw [hn, if_pos (by rw [if_neg (by omega), if_neg (by omega)]; decide)]
        simp
      · have hn : bnd v = some v := by unfold bnd; rw [if_neg (by omega)]
        rw [hn, if_neg (by split; decide; rw [if_pos (by omega)]; decide)]
        simp
end
