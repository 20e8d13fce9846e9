/-! THE MODEL: what a law tells -/
set_option maxRecDepth 100000
section
variable {E : ax_E} {m : Nat} {s : Sg} {h : ax_H} {B N : Int} {c w : Rw} {e : Ev}
theorem m_clause {i lv j lv' hd hi : Int} {cl : Cl} (hG : G32 s) (T : TxtM s B N 0 c w) (hV : EnvM s 0 e) (hE : EB e) (hR : RV (s 2 152) (s 2)) (h152 : 0 ≤ s 2 152 ∧ s 2 152 ≤ 7) (hp : pClause c w i lv = .inr (j, lv', cl)) (h0 : 0 ≤ i) (hlv0 : 0 ≤ lv) (hlv : lv ≤ 50) (hhi : 0 ≤ hi ∧ hi ≤ 100000) (hhd : i2 hd = hd) : (i < j ∧ j ≤ N ∧ lv ≤ lv' ∧ lv' ≤ 50) ∧ ∀ told b : Int, ∃ b', (b' = 0 ∨ b' = 1) ∧ lb_X5_tells_65 E (some m) hd hi told (mdl m (gs s (B + i) b) h) = some (.inl (tellF e hd hi told cl, mdl m (gs s (B + (j + 1)) b') h)) := by
  have ci := txt_32 hG T
  have hN := T.2.2.1
  have hB := T.2.1
  have i1 : ¬ i2 1 = 0 := by decide
  have n4 : i2 4 = 4 := by decide
  have cN : ∀ k, c k ≠ 0 → 0 ≤ k ∧ k < N := by
    intro k hk
    rw [T.2.2.2.1] at hk
    exact cut_ne hk
  have hS := m_sums (E := E) (m := m) (h := h) hG T hV hE hR h152 8 64 (by omega)
  have hT := m_tests (E := E) (m := m) (h := h) hG T hV hE hR h152 8 64 (by omega) (by omega)
  -- the test, if there is one
  have tst : ∀ (k lv1 k' lv2 : Int) (G : Dt), pIf 0 c w k lv1 = .inr (k', lv2, G) → 0 ≤ k → k ≤ N → 0 ≤ lv1 → lv1 ≤ 50 → (k ≤ k' ∧ k' ≤ N ∧ lv1 ≤ lv2 ∧ lv2 ≤ 50) ∧ ∀ (told is sv b : Int) (o : Option Int), (o = none ∧ b = 1 ∨ b = 0 ∧ o = some sv ∧ -1000000000 ≤ sv ∧ sv ≤ 1000000000) → i2 is = is → ∃ b', (b' = 0 ∨ b' = 1) ∧ f_X5_tells_116 E (some m) hd hi told is sv (mdl m (gs s (B + k) b) h) = some (.inl (if is = hd then (match G e with
    | some true => (match o with
      | some v => clampS v hi
      | none => told)
    | _ => told) else told, mdl m (gs s (B + (k' + 1)) b') h)) := by
    intro k lv1 k' lv2 G hpi hk hkN hl0 hl1
    have f203 : ∀ (told g b : Int), f_X5_tells_203 E (some m) hd hi told (mdl m (gs s (B + g) b) h) = some (.inl (told, mdl m (gs s (B + (g + 1)) b) h)) := by
      intro told g b
      unfold f_X5_tells_203
      rw [md_gI20, Option.bind_some, gs_20, md_pI20, Option.bind_some, gs_g, show B + g + 1 = B + (g + 1) by omega]
    have f150 : ∀ (told is sv sb s0 g b : Int), i2 is = is → f_X5_tells_150 E (some m) hd hi told is sv sb s0 (mdl m (gs s (B + g) b) h) = if is = hd then (if i2 s0 = 0 then some (.inl (told, mdl m (gs s (B + (g + 1)) b) h)) else if i2 b = 0 then (if i2 sb = 0 then (if i2 (ax_cmp sv 0) < 0 then some (.inl (0, mdl m (gs s (B + (g + 1)) b) h)) else if 0 < i2 (ax_cmp sv hi) then some (.inl (hi, mdl m (gs s (B + (g + 1)) b) h)) else some (.inl (sv, mdl m (gs s (B + (g + 1)) b) h))) else some (.inl (told, mdl m (gs s (B + (g + 1)) b) h))) else some (.inl (told, mdl m (gs s (B + (g + 1)) b) h))) else some (.inl (told, mdl m (gs s (B + (g + 1)) b) h)) := by
      intro told is sv sb s0 g b his
      unfold f_X5_tells_150 f_X5_tells_201
      simp only [his, hhd, f203, md_gI22, Option.bind_some, gs_22, show i2 hi = hi from i2_of (by omega) (by omega)]
    -- with the sum as it is
    have done : ∀ (told is sv sb g : Int) (o : Option Int), (o = none ∧ sb = 1 ∨ sb = 0 ∧ o = some sv ∧ -1000000000 ≤ sv ∧ sv ≤ 1000000000) → i2 is = is → f_X5_tells_150 E (some m) hd hi told is sv sb 1 (mdl m (gs s (B + g) 0) h) = some (.inl (if is = hd then (match o with
        | some v => clampS v hi
        | none => told) else told, mdl m (gs s (B + (g + 1)) 0) h)) := by
      intro told is sv sb g o ho his
      rw [f150 _ _ _ _ _ _ _ his, if_neg i1, if_pos i2_0]
      by_cases hq : is = hd
      · rw [if_pos hq, if_pos hq]
        rcases ho with ⟨z, y⟩ | ⟨y, z, r1, r2⟩
        · rw [y, z, if_neg i1]
        · rw [y, z, if_pos i2_0, cmp_of (by omega) (by omega) (by decide) (by decide), cmp_of (by omega) (by omega) (by omega) (by omega)]
          simp only [clampS]
          by_cases k1 : sv < 0
          · rw [if_pos (by rw [if_neg (by omega), if_neg (by omega)]; decide), if_pos k1]
          · rw [if_neg (by split; decide; rw [if_pos (by omega)]; decide), if_neg k1]
            by_cases k2 : hi < sv
            · rw [if_pos (by rw [if_pos k2]; decide), if_pos k2]
            · rw [if_neg (by rw [if_neg k2]; split <;> decide), if_neg k2]
      · rw [if_neg hq, if_neg hq]
    unfold pIf at hpi
    by_cases h5 : c k = 5
    · rw [if_pos h5] at hpi
      have hkk := cN k (by omega)
      obtain ⟨go, q1, q2, q3, q4⟩ := hT (k + 1) lv1 k' lv2 G hpi (by omega) (by omega) hl0 hl1
      refine ⟨⟨by omega, by omega, by omega, q4⟩, ?_⟩
      intro told is sv b o ho his
      obtain ⟨v, e1, e2, e3⟩ := go 1 0 (Or.inr rfl) (Or.inl rfl)
      have pre : f_X5_tells_116 E (some m) hd hi told is sv (mdl m (gs s (B + k) b) h) = if i2 v = 0 then f_X5_tells_150 E (some m) hd hi told is sv b 0 (mdl m (gs s (B + k') (evB 1 0 (G e))) h) else f_X5_tells_150 E (some m) hd hi told is sv b 1 (mdl m (gs s (B + k') (evB 1 0 (G e))) h) := by
        unfold f_X5_tells_116 f_X5_tells_145 fn_X5_testOf
        rw [md_gI22, Option.bind_some, gs_22, if_pos (Or.inl rfl), md_pI22, Option.bind_some, gs_b, md_ce, Option.bind_some, m_passes hG T (by omega) (by omega) (by decide), Option.bind_some, if_neg (by rw [b01_z]; simp [h5]), if_pos h5, md_ce, Option.bind_some, show B + k + 1 = B + (k + 1) by omega, e1, Option.bind_some]
      rw [pre]
      cases hGe : G e with
      | none =>
        have : evB 1 0 (none : Option Bool) = 1 := rfl
        rw [this, f150 _ _ _ _ _ _ _ his, f150 _ _ _ _ _ _ _ his, if_neg i1, if_neg i1]
        refine ⟨1, Or.inr rfl, ?_⟩
        by_cases hq : is = hd
        · simp only [if_pos hq]
          split <;> (try split) <;> rfl
        · simp only [if_neg hq]
          split <;> rfl
      | some t =>
        have hev : evB 1 0 (some t) = 0 := rfl
        have hv := e3 rfl rfl t hGe
        rw [hev]
        cases t with
        | false =>
          rw [hv, if_pos (by decide), f150 _ _ _ _ _ _ _ his, if_pos i2_0]
          refine ⟨0, Or.inl rfl, ?_⟩
          by_cases hq : is = hd
          · simp only [if_pos hq]
          · simp only [if_neg hq]
        | true =>
          rw [hv, if_neg (by decide), done told is sv b k' o ho his]
          exact ⟨0, Or.inl rfl, rfl⟩
    · rw [if_neg h5] at hpi
      cases hpi
      refine ⟨⟨Int.le_refl _, hkN, Int.le_refl _, hl1⟩, ?_⟩
      intro told is sv b o ho his
      refine ⟨0, Or.inl rfl, ?_⟩
      unfold f_X5_tells_116 f_X5_tells_145
      rw [md_gI22, Option.bind_some, gs_22, if_pos (Or.inl rfl), md_pI22, Option.bind_some, gs_b, md_ce, Option.bind_some, m_passes hG T (by omega) (by omega) (by decide), Option.bind_some, if_pos (by rw [b01_z]; exact h5), if_neg h5, done told is sv b k o ho his]
  unfold pClause at hp
  by_cases hh : c i = 1 ∨ c i = 2 ∨ c i = 3
  · rw [if_pos hh] at hp
    have hi0 := cN i (by omega)
    cases hf : pS 0 c w 8 (i + 1) lv with
    | inl t => rw [hf] at hp; cases hp
    | inr q =>
      obtain ⟨j1, l1, F1⟩ := q
      rw [hf] at hp
      simp only at hp
      cases hf2 : pIf 0 c w j1 l1 with
      | inl t => rw [hf2] at hp; cases hp
      | inr q =>
        obtain ⟨j2, l2, G⟩ := q
        rw [hf2] at hp
        cases hp
        obtain ⟨go, fb, q1, q2, q3, q4⟩ := hS (i + 1) lv j1 l1 F1 hf (by omega) hlv0 hlv
        obtain ⟨⟨r1, r2, r3, r4⟩, run⟩ := tst j1 l1 j lv' G hf2 (by omega) q2 (by omega) q4
        refine ⟨⟨by omega, r2, by omega, r4⟩, ?_⟩
        intro told b
        have e1 := go 1 0 (Or.inr rfl) (Or.inl rfl)
        obtain ⟨b', hb', e2⟩ := run told (c i) (evP 1 0 (F1 e)).1 (evP 1 0 (F1 e)).2 (F1 e) (by
          cases hF : F1 e with
          | none => exact Or.inl ⟨rfl, rfl⟩
          | some v =>
            have := fb e hE v hF
            exact Or.inr ⟨rfl, rfl, this.1, this.2⟩) (ci i)
        refine ⟨b', hb', ?_⟩
        unfold lb_X5_tells_65 fn_X5_sumOf
        rw [md_gI20, Option.bind_some, gs_20, md_gI21, Option.bind_some, gs_21, T.1, i2_of (by omega) (by omega), i2_of (by omega) (by omega), if_pos (by omega), Option.bind_some, md_ce, Option.bind_some, m_codeAt hG T h0 (by omega), Option.bind_some, if_pos (Or.inl rfl), md_pI22, Option.bind_some, gs_b, md_gI20, Option.bind_some, gs_20, md_pI20, Option.bind_some, gs_g, n4]
        simp only [ci]
        rw [if_neg (by omega), md_ce, Option.bind_some, show B + i + 1 = B + (i + 1) by omega, e1, Option.bind_some, e2]
        rfl
  · rw [if_neg hh] at hp
    by_cases h4 : c i = 4
    · rw [if_pos h4] at hp
      have hi0 := cN i (by omega)
      cases hf2 : pIf 0 c w (i + 1) lv with
      | inl t => rw [hf2] at hp; cases hp
      | inr q =>
        obtain ⟨j2, l2, G⟩ := q
        rw [hf2] at hp
        cases hp
        obtain ⟨⟨r1, r2, r3, r4⟩, run⟩ := tst (i + 1) lv j lv' G hf2 (by omega) (by omega) hlv0 hlv
        refine ⟨⟨by omega, r2, by omega, r4⟩, ?_⟩
        intro told b
        obtain ⟨b', hb', e2⟩ := run told 4 1 0 (some 1) (Or.inr ⟨rfl, rfl, by decide, by decide⟩) n4
        refine ⟨b', hb', ?_⟩
        unfold lb_X5_tells_65
        rw [md_gI20, Option.bind_some, gs_20, md_gI21, Option.bind_some, gs_21, T.1, i2_of (by omega) (by omega), i2_of (by omega) (by omega), if_pos (by omega), Option.bind_some, md_ce, Option.bind_some, m_codeAt hG T h0 (by omega), Option.bind_some, if_pos (Or.inl rfl), md_pI22, Option.bind_some, gs_b, md_gI20, Option.bind_some, gs_20, md_pI20, Option.bind_some, gs_g, n4]
        simp only [ci]
        rw [if_pos h4, show B + i + 1 = B + (i + 1) by omega, h4, e2]
        rfl
    · rw [if_neg h4] at hp
      cases hp
end
