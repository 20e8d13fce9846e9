/-! THE MODEL: parts, terms, sums of a text -/
set_option maxRecDepth 100000
/-- it goes from i to j and tells F -/
def GoN (m : Nat) (s : Sg) (h : ax_H) (B : Int) (e : Ev) (g : Option Nat → Int → ax_H → Option (Int × ax_H)) (i j : Int) (F : Dn) : Prop := ∀ live b : Int, (live = 0 ∨ live = 1) → (b = 0 ∨ b = 1) → g (some m) live (mdl m (gs s (B + i) b) h) = some ((evP live b (F e)).1, mdl m (gs s (B + j) (evP live b (F e)).2) h)
/-- a reader of texts and what goes along them agree -/
def PkN (m : Nat) (s : Sg) (h : ax_H) (B N : Int) (e : Ev) (f : Int → Int → PR Dn) (g : Option Nat → Int → ax_H → Option (Int × ax_H)) : Prop := ∀ i lv j lv' F, f i lv = .inr (j, lv', F) → 0 ≤ i → 0 ≤ lv → lv ≤ 50 → GoN m s h B e g i j F ∧ FB F ∧ i < j ∧ j ≤ N ∧ lv < lv' ∧ lv' ≤ 50
theorem evP_b {live b : Int} (hb : b = 0 ∨ b = 1) (o : Option Int) : (evP live b o).2 = 0 ∨ (evP live b o).2 = 1 := by
  unfold evP
  split
  · cases o with
    | none => exact Or.inr rfl
    | some v => exact Or.inl rfl
  · exact hb
section
variable {E : ax_E} {m : Nat} {s : Sg} {h : ax_H} {B N o : Int} {c w : Rw} {e : Ev} {g0 g1 g2 : Option Nat → Int → ax_H → Option (Int × ax_H)}
theorem G32_gs {g b : Int} (hG : G32 s) (hg : i2 g = g) (hb : i2 b = b) : G32 (gs s g b) := G32_sw hG (u1_32 (u1_32 (hG 0) hg) hb)
theorem m_leaf {ps : Option (Int → Int → PR Dn)} (hG : G32 s) (T : TxtM s B N o c w) (hV : EnvM s o e) (hR : RV (s 2 152) (s 2)) (h152 : 0 ≤ s 2 152 ∧ s 2 152 ≤ 7) (hps : ∀ f, ps = some f → PkN m s h B N e f g2) : PkN m s h B N e (pPart o c w ps) (f_X5_partOf E g0 g1 g2) := by
  intro i lv j lv' F hp h0 hlv0 hlv
  have T0 := T
  obtain ⟨a1, a2, a3, a4, a5, a6, a7, a8⟩ := T
  have cN : ∀ k, c k ≠ 0 → 0 ≤ k ∧ k < N := by
    intro k hk
    rw [a4] at hk
    exact cut_ne hk
  have ci : ∀ k, i2 (c k) = c k := by
    intro k
    rw [a4]
    unfold cut
    split
    · exact hG _ _
    · decide
  have wv : ∀ k, 0 ≤ k → k < N → s 2 (2964 + B + k) = w k := by
    intro k k0 k1
    rw [a5]
    unfold cut
    rw [if_pos ⟨k0, k1⟩]
  have i1 : ¬ i2 1 = 0 := by decide
  have n50 : i2 50 = 50 := by decide
  have n22 : i2 22 = 22 := by decide
  have n23 : i2 23 = 23 := by decide
  have n17 : i2 17 = 17 := by decide
  unfold pPart at hp
  by_cases h191 : c i = 191
  · rw [if_pos h191] at hp
    have hiN := cN i (by omega)
    cases ps with
    | none => cases hp
    | some f =>
      simp only at hp
      cases hf : f (i + 1) lv with
      | inl t => rw [hf] at hp; cases hp
      | inr q =>
        obtain ⟨j1, l1, F1⟩ := q
        rw [hf] at hp
        simp only at hp
        split at hp
        · rename_i h193
          cases hp
          obtain ⟨G1, fb, p1, p2, p3, p4⟩ := hps f rfl (i + 1) lv j1 _ _ hf (by omega) hlv0 hlv
          have hj := cN j1 (by omega)
          refine ⟨?_, fb, by omega, by omega, p3, p4⟩
          intro live b hl hb
          unfold f_X5_partOf f_X5_sign
          rw [Option.bind_some, md_ce, Option.bind_some]
          dsimp only
          rw [show (100 : Int) + 91 = 191 from rfl, m_passes hG T0 h0 (by omega) (by decide), Option.bind_some, if_neg (by rw [b01_z]; simp [h191]), md_ce, Option.bind_some, if_pos (by omega), show B + i + 1 = B + (i + 1) by omega, G1 live b hl hb, Option.bind_some, md_gI20, Option.bind_some, gs_20, md_pI20, Option.bind_some, gs_g, show B + j1 + 1 = B + (j1 + 1) by omega]
        · cases hp
  · rw [if_neg h191] at hp
    by_cases hcond : c i = 50 ∧ w i ≤ 1000 ∨ isVal o (c i) = true
    · rw [if_pos hcond] at hp
      have hne : c i ≠ 0 := by
        rcases hcond with q | q
        · omega
        · intro z
          rw [z] at q
          unfold isVal at q
          split at q
          · have := of_decide_eq_true q
            omega
          · have := of_decide_eq_true q
            omega
      have hiN := cN i hne
      by_cases h50 : lv = 50
      · rw [if_pos h50] at hp; cases hp
      rw [if_neg h50] at hp
      -- what is there behind the code of a part
      have pre : ∀ live b, f_X5_partOf E g0 g1 g2 (some m) live (mdl m (gs s (B + i) b) h) = if i2 (s 0 23) = 0 then f_X5_partOf_97 E g0 g1 g2 (some m) live (c i) 0 0 (mdl m (gs s (B + i + 1) b) h) else if c i = 22 then f_X5_partOf_73 E g0 g1 g2 (some m) live (c i) 0 (mdl m (gs s (B + i + 1) b) h) else if c i = 23 then f_X5_partOf_73 E g0 g1 g2 (some m) live (c i) 0 (mdl m (gs s (B + i + 1) b) h) else f_X5_partOf_97 E g0 g1 g2 (some m) live (c i) 0 0 (mdl m (gs s (B + i + 1) b) h) := by
        intro live b
        unfold f_X5_partOf f_X5_sign
        rw [Option.bind_some, md_ce, Option.bind_some]
        dsimp only
        rw [show (100 : Int) + 91 = 191 from rfl, m_passes hG T0 h0 (by omega) (by decide), Option.bind_some, if_pos (by rw [b01_z]; exact h191), if_neg h191, md_gI20, Option.bind_some, gs_20, md_ce, Option.bind_some, m_codeAt hG T0 h0 (by omega), Option.bind_some, md_gI20, Option.bind_some, gs_20, md_pI20, Option.bind_some, gs_g, md_gI23, Option.bind_some, gs_23]
        dsimp only
        rw [ci, n22, n23]
      have off : ∀ live b k p q g, (live = 0 ∨ live = 1) → (b = 0 ∨ b = 1) → ¬ (live = 1 ∧ b = 0) → f_X5_partOf_135 E g0 g1 g2 (some m) live k p q (mdl m (gs s g b) h) = some (0, mdl m (gs s g b) h) := by
        intro live b k p q g hl hb hn
        unfold f_X5_partOf_135 f_X5_partOf_146
        rcases hl with z | z
        · rw [z, if_pos i2_0]
        · have hb1 : b = 1 := by omega
          rw [z, hb1, if_neg i1, md_gI22, Option.bind_some, gs_22, if_neg i1]
      have on : ∀ k p q g, f_X5_partOf_135 E g0 g1 g2 (some m) 1 k p q (mdl m (gs s g 0) h) = if i2 k = 50 then (ax_ld E (mdl m (gs s g 0) h) (some (m + 2)) 100 ((2964 + g) - 1)).bind fun v4 => some (i2 v4, mdl m (gs s g 0) h) else if i2 (s 0 23) = 0 then (ax_ld E (mdl m (gs s g 0) h) (some (m + 12)) 100 (k - 9)).bind fun v7 => some (i2 v7, mdl m (gs s g 0) h) else if i2 k = 22 then (f_X5_isPerson E (some m) p (mdl m (gs s g 0) h)).bind fun q8 => if i2 q8.1 = 0 then some (-1, q8.2) else (ax_gR E q8.2 (some m) 5 2).bind fun v9 => (ax_ld E q8.2 v9 100 (0 + p)).bind fun v10 => some (i2 v10, q8.2) else if i2 k = 23 then (f_X5_owed E (some m) p q (mdl m (gs s g 0) h)).bind fun q11 => some (i2 q11.1, q11.2) else if i2 k = 17 then f_X5_partOf_254 E g0 g1 g2 (some (m + 13)) 0 (mdl m (gs s g 0) h) else f_X5_partOf_254 E g0 g1 g2 (some (m + 13)) ((k - 19) + 1) (mdl m (gs s g 0) h) := by
        intro k p q g
        unfold f_X5_partOf_135
        rw [if_neg i1, md_gI22, Option.bind_some, gs_22, if_pos i2_0, md_gR2, Option.bind_some, md_gI20, Option.bind_some, gs_20, md_gI23, Option.bind_some, gs_23, md_gR24, Option.bind_some, md_ce, Option.bind_some, Option.bind_some, md_gR25, Option.bind_some, n50, n22, n23, n17]
      have fin : ∀ (V : Int) (jj : Int) (k p q : Int), (f_X5_partOf_135 E g0 g1 g2 (some m) 1 k p q (mdl m (gs s (B + jj) 0) h) = some (V, mdl m (gs s (B + jj) 0) h)) → ∀ live b, (live = 0 ∨ live = 1) → (b = 0 ∨ b = 1) → f_X5_partOf_135 E g0 g1 g2 (some m) live k p q (mdl m (gs s (B + jj) b) h) = some ((evP live b (some V)).1, mdl m (gs s (B + jj) (evP live b (some V)).2) h) := by
        intro V jj k p q hV1 live b hl hb
        unfold evP
        by_cases ha : live = 1 ∧ b = 0
        · rw [if_pos ha, ha.1, ha.2]
          exact hV1
        · rw [if_neg ha]
          exact off live b k p q _ hl hb ha
      have hs23 : i2 (s 0 23) = 0 ↔ o = 0 := by
        rw [a6]
        rcases a7 with z | z
        · rw [z]; simp [i2_0]
        · rw [z]; simp [i1]
      by_cases c50 : c i = 50
      · rw [if_pos c50] at hp
        cases hp
        have hw : w i ≤ 1000 := by
          rcases hcond with q | q
          · exact q.2
          · rw [c50] at q
            unfold isVal at q
            split at q
            · have := of_decide_eq_true q
              omega
            · have := of_decide_eq_true q
              omega
        refine ⟨?_, ?_, by omega, by omega, by omega, by omega⟩
        · intro live b hl hb
          have h97 : f_X5_partOf_97 E g0 g1 g2 (some m) live (c i) 0 0 (mdl m (gs s (B + i + 1) b) h) = f_X5_partOf_135 E g0 g1 g2 (some m) live (c i) 0 0 (mdl m (gs s (B + i + 1) b) h) := by
            unfold f_X5_partOf_97
            rw [md_gI23, Option.bind_some, gs_23, ci, n23]
            split
            · rfl
            · rw [if_neg (by omega)]
          rw [pre, h97, if_neg (show ¬ c i = 22 by omega), if_neg (show ¬ c i = 23 by omega), show B + i + 1 = B + (i + 1) by omega]
          have hon : f_X5_partOf_135 E g0 g1 g2 (some m) 1 (c i) 0 0 (mdl m (gs s (B + (i + 1)) 0) h) = some (w i, mdl m (gs s (B + (i + 1)) 0) h) := by
            rw [on, ci, if_pos c50, md_ld2 (by omega) (by omega), Option.bind_some, gs_2, show 2964 + (B + (i + 1)) - 1 = 2964 + B + i by omega, hG, wv i h0 hiN.2]
          have := fin (w i) (i + 1) (c i) 0 0 hon live b hl hb
          rw [this]
          split <;> rfl
        · intro e2 he2 v hv
          cases hv
          have := a8 i
          omega
      · rw [if_neg c50] at hp
        have hval : isVal o (c i) = true := by
          rcases hcond with q | q
          · omega
          · exact q
        rcases a7 with o0 | o1
        · -- a law's word
          have hr : 9 ≤ c i ∧ c i ≤ 18 := by
            unfold isVal at hval
            rw [if_pos o0] at hval
            exact of_decide_eq_true hval
          rw [if_neg (by omega), if_neg (by omega)] at hp
          cases hp
          have hdW : dW o (c i) = fun e => some (e.1 (c i - 9)) := by
            funext e
            unfold dW
            rw [if_pos o0]
          refine ⟨?_, ?_, by omega, by omega, by omega, by omega⟩
          · intro live b hl hb
            rw [pre, if_pos (hs23.mpr o0)]
            have h97 : f_X5_partOf_97 E g0 g1 g2 (some m) live (c i) 0 0 (mdl m (gs s (B + i + 1) b) h) = f_X5_partOf_135 E g0 g1 g2 (some m) live (c i) 0 0 (mdl m (gs s (B + i + 1) b) h) := by
              unfold f_X5_partOf_97
              rw [md_gI23, Option.bind_some, gs_23, if_pos (hs23.mpr o0)]
            rw [h97, show B + i + 1 = B + (i + 1) by omega, hdW]
            have hon : f_X5_partOf_135 E g0 g1 g2 (some m) 1 (c i) 0 0 (mdl m (gs s (B + (i + 1)) 0) h) = some (e.1 (c i - 9), mdl m (gs s (B + (i + 1)) 0) h) := by
              rw [on, ci, if_neg (by omega), if_pos (hs23.mpr o0), md_ld12 (by omega) (by omega), Option.bind_some, gs_12, hG, hV.1 o0 _ (by omega) (by omega)]
            exact fin _ (i + 1) (c i) 0 0 hon live b hl hb
          · intro e2 he2 v hv
            rw [hdW] at hv
            cases hv
            exact he2.1 _
        · have on0 : o ≠ 0 := by omega
          have hr : c i = 17 ∨ (19 ≤ c i ∧ c i ≤ 23) := by
            unfold isVal at hval
            rw [if_neg on0] at hval
            exact of_decide_eq_true hval
          have hs1 : ¬ i2 (s 0 23) = 0 := fun z => on0 (hs23.mp z)
          obtain ⟨v1, v2, v3⟩ := hV.2 on0
          by_cases c22 : c i = 22
          · rw [if_pos ⟨on0, c22⟩] at hp
            split at hp
            · rename_i hw
              cases hp
              have hiN1 := cN (i + 1) (by omega)
              refine ⟨?_, ?_, by omega, by omega, by omega, by omega⟩
              · intro live b hl hb
                rw [pre, if_neg hs1, if_pos c22]
                have h73 : f_X5_partOf_73 E g0 g1 g2 (some m) live (c i) 0 (mdl m (gs s (B + i + 1) b) h) = f_X5_partOf_135 E g0 g1 g2 (some m) live (c i) (w (i + 1)) 0 (mdl m (gs s (B + (i + 2)) b) h) := by
                  unfold f_X5_partOf_73 f_X5_partOf_97
                  rw [md_gR2, Option.bind_some, md_gI20, Option.bind_some, gs_20, md_ld2 (by omega) (by omega), Option.bind_some, gs_2, Option.bind_some, md_pI20, Option.bind_some, gs_g, md_gI23, Option.bind_some, gs_23, if_neg hs1, ci, n23, if_neg (by omega), show 2964 + (B + i + 1) = 2964 + B + (i + 1) by omega, wv (i + 1) (by omega) (by omega), show B + i + 1 + 1 = B + (i + 2) by omega]
                rw [h73]
                have hon : f_X5_partOf_135 E g0 g1 g2 (some m) 1 (c i) (w (i + 1)) 0 (mdl m (gs s (B + (i + 2)) 0) h) = some (e.2.1 (w (i + 1)), mdl m (gs s (B + (i + 2)) 0) h) := by
                  have hG2 : G32 (gs s (B + (i + 2)) 0) := G32_gs hG (i2_of (by omega) (by omega)) (by decide)
                  rw [on, ci, if_neg c50, if_neg hs1, if_pos c22, m_isPerson hG2 (i2_of (by omega) (by omega)) (by rw [gs_2]; exact h152.1), Option.bind_some, gs_2, ← v2 _ hw.2.1 hw.2.2]
                  by_cases hq : 0 ≤ w (i + 1) ∧ w (i + 1) ≤ s 2 152 - 1
                  · rw [if_neg (by rw [b01_z]; simp [hq]), md_gR2, Option.bind_some, md_ld2 (by omega) (by omega), Option.bind_some, gs_2, hG, Int.zero_add, if_pos hq]
                  · rw [if_pos (by rw [b01_z]; exact hq), if_neg hq]
                exact fin _ (i + 2) (c i) _ 0 hon live b hl hb
              · intro e2 he2 v hv
                cases hv
                exact he2.2.1 _
            · cases hp
          · rw [if_neg (fun z => c22 z.2)] at hp
            by_cases c23 : c i = 23
            · rw [if_pos ⟨on0, c23⟩] at hp
              split at hp
              · rename_i hw
                split at hp
                · rename_i hw2
                  cases hp
                  have hiN1 := cN (i + 1) (by omega)
                  have hiN2 := cN (i + 2) (by omega)
                  refine ⟨?_, ?_, by omega, by omega, by omega, by omega⟩
                  · intro live b hl hb
                    rw [pre, if_neg hs1, if_neg c22, if_pos c23]
                    have h73 : f_X5_partOf_73 E g0 g1 g2 (some m) live (c i) 0 (mdl m (gs s (B + i + 1) b) h) = f_X5_partOf_135 E g0 g1 g2 (some m) live (c i) (w (i + 1)) (w (i + 2)) (mdl m (gs s (B + (i + 3)) b) h) := by
                      unfold f_X5_partOf_73 f_X5_partOf_97
                      rw [md_gR2, Option.bind_some, md_gI20, Option.bind_some, gs_20, md_ld2 (by omega) (by omega), Option.bind_some, gs_2, Option.bind_some, md_pI20, Option.bind_some, gs_g, md_gI23, Option.bind_some, gs_23, if_neg hs1, ci, n23, if_pos c23, md_gR2, Option.bind_some, md_gI20, Option.bind_some, gs_20, md_ld2 (by omega) (by omega), Option.bind_some, gs_2, Option.bind_some, md_pI20, Option.bind_some, gs_g, show 2964 + (B + i + 1) = 2964 + B + (i + 1) by omega, wv (i + 1) (by omega) (by omega), show 2964 + (B + i + 1 + 1) = 2964 + B + (i + 2) by omega, wv (i + 2) (by omega) (by omega), show B + i + 1 + 1 + 1 = B + (i + 3) by omega]
                    rw [h73]
                    have hon : f_X5_partOf_135 E g0 g1 g2 (some m) 1 (c i) (w (i + 1)) (w (i + 2)) (mdl m (gs s (B + (i + 3)) 0) h) = some (e.2.2 (w (i + 1)) (w (i + 2)), mdl m (gs s (B + (i + 3)) 0) h) := by
                      have hG2 : G32 (gs s (B + (i + 3)) 0) := G32_gs hG (i2_of (by omega) (by omega)) (by decide)
                      have hob := owed_b hR (w (i + 1)) (w (i + 2))
                      rw [on, ci, if_neg c50, if_neg hs1, if_neg c22, if_pos c23, m_owed hG2 (by rw [gs_2]; exact hR.1.1) (by rw [gs_2]; exact hR.1.2) (i2_of (by omega) (by omega)) (i2_of (by omega) (by omega)), Option.bind_some, gs_2, i2_of (by omega) (by omega), v3 _ _ hw.2.1 hw.2.2 hw2.2.1 hw2.2.2]
                    exact fin _ (i + 3) (c i) _ _ hon live b hl hb
                  · intro e2 he2 v hv
                    cases hv
                    exact he2.2.2 _ _
                · cases hp
              · cases hp
            · rw [if_neg (fun z => c23 z.2)] at hp
              cases hp
              refine ⟨?_, ?_, by omega, by omega, by omega, by omega⟩
              · intro live b hl hb
                rw [pre, if_neg hs1, if_neg c22, if_neg c23]
                have h97 : f_X5_partOf_97 E g0 g1 g2 (some m) live (c i) 0 0 (mdl m (gs s (B + i + 1) b) h) = f_X5_partOf_135 E g0 g1 g2 (some m) live (c i) 0 0 (mdl m (gs s (B + (i + 1)) b) h) := by
                  unfold f_X5_partOf_97
                  rw [md_gI23, Option.bind_some, gs_23, if_neg hs1, ci, n23, if_neg c23, show B + i + 1 = B + (i + 1) by omega]
                rw [h97]
                have hdW : dW o (c i) = fun e => some (if c i = 17 then e.1 0 else e.1 (c i - 18)) := by
                  funext e
                  unfold dW
                  rw [if_neg on0]
                rw [hdW]
                have hon : f_X5_partOf_135 E g0 g1 g2 (some m) 1 (c i) 0 0 (mdl m (gs s (B + (i + 1)) 0) h) = some (if c i = 17 then e.1 0 else e.1 (c i - 18), mdl m (gs s (B + (i + 1)) 0) h) := by
                  rw [on, ci, if_neg c50, if_neg hs1, if_neg c22, if_neg c23]
                  unfold f_X5_partOf_254
                  by_cases c17 : c i = 17
                  · rw [if_pos c17, if_pos c17, md_ld13 (by omega) (by omega), Option.bind_some, gs_13, hG, v1 0 (by omega) (by omega)]
                  · rw [if_neg c17, if_neg c17, md_ld13 (by omega) (by omega), Option.bind_some, gs_13, hG, show c i - 19 + 1 = c i - 18 by omega, v1 _ (by omega) (by omega)]
                exact fin _ (i + 1) (c i) 0 0 hon live b hl hb
              · intro e2 he2 v hv
                unfold dW at hv
                rw [if_neg on0] at hv
                cases hv
                split
                · exact he2.1 _
                · exact he2.1 _
    · rw [if_neg hcond] at hp
      cases hp
end
