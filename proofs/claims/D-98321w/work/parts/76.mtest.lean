/-! THE MODEL: tests of a text -/
set_option maxRecDepth 100000
def evB (live b : Int) (o : Option Bool) : Int := if live = 1 ∧ b = 0 then (match o with
  | some _ => 0
  | none => 1) else b
def bI (b : Bool) : Int := if b then 1 else 0
/-- what a test tells: v, if it was asked for and is not broken -/
def VaT (live b v : Int) (o : Option Bool) : Prop := (v = 0 ∨ v = 1) ∧ (live = 1 → b = 0 → ∀ t, o = some t → v = bI t)
def GoT (m : Nat) (s : Sg) (h : ax_H) (B : Int) (e : Ev) (g : Option Nat → Int → ax_H → Option (Int × ax_H)) (i j : Int) (F : Dt) : Prop := ∀ live b : Int, (live = 0 ∨ live = 1) → (b = 0 ∨ b = 1) → ∃ v, g (some m) live (mdl m (gs s (B + i) b) h) = some (v, mdl m (gs s (B + j) (evB live b (F e))) h) ∧ VaT live b v (F e)
def PkT (m : Nat) (s : Sg) (h : ax_H) (B N : Int) (e : Ev) (f : Int → Int → PR Dt) (g : Option Nat → Int → ax_H → Option (Int × ax_H)) : Prop := ∀ i lv j lv' F, f i lv = .inr (j, lv', F) → 0 ≤ i → i ≤ N → 0 ≤ lv → lv ≤ 50 → GoT m s h B e g i j F ∧ i < j ∧ j ≤ N ∧ lv < lv' ∧ lv' ≤ 50
section
variable {E : ax_E} {m : Nat} {s : Sg} {h : ax_H} {B N o : Int} {c w : Rw} {e : Ev} {g0 g1 g2 g3 : Option Nat → Int → ax_H → Option (Int × ax_H)}
theorem bI_01 (b : Bool) : bI b = 0 ∨ bI b = 1 := by cases b <;> decide
theorem m_pos {r : Nat} {pt : Option (Int → Int → PR Dt)} (hr : r ≤ 8) (hG : G32 s) (T : TxtM s B N o c w) (hV : EnvM s o e) (hE : EB e) (hR : RV (s 2 152) (s 2)) (h152 : 0 ≤ s 2 152 ∧ s 2 152 ≤ 7) (hpt : ∀ f, pt = some f → PkT m s h B N e f g3) : PkT m s h B N e (pPos o c w r pt) (f_X5_positiveOf E g0 g1 g2 g3) := by
  intro i lv j lv' F hp h0 hiN hlv0 hlv
  have ci := txt_32 hG T
  have hN := T.2.2.1
  have i1 : ¬ i2 1 = 0 := by decide
  have cN : ∀ k, c k ≠ 0 → 0 ≤ k ∧ k < N := by
    intro k hk
    rw [T.2.2.2.1] at hk
    exact cut_ne hk
  have hS := m_sums (E := E) (m := m) (h := h) hG T hV hE hR h152 r 64 (by omega)
  unfold pPos at hp
  by_cases h140 : c i = 140
  · rw [if_pos h140] at hp
    have hi := cN i (by omega)
    cases pt with
    | none => cases hp
    | some f =>
      simp only at hp
      cases hf : f (i + 1) lv with
      | inl t => rw [hf] at hp; cases hp
      | inr q =>
        obtain ⟨j1, l1, F1⟩ := q
        rw [hf] at hp
        simp only at hp
        split at hp
        · rename_i h141
          cases hp
          obtain ⟨G1, p1, p2, p3, p4⟩ := hpt f rfl (i + 1) lv j1 _ _ hf (by omega) (by omega) hlv0 hlv
          have hj := cN j1 (by omega)
          refine ⟨?_, by omega, by omega, p3, p4⟩
          intro live b hl hb
          obtain ⟨v, e1, e2⟩ := G1 live b hl hb
          refine ⟨v, ?_, e2⟩
          unfold f_X5_positiveOf f_X5_sign
          rw [Option.bind_some, md_ce, Option.bind_some]
          dsimp only
          rw [show (100 : Int) + 40 = 140 from rfl, m_passes hG T h0 (by omega) (by decide), Option.bind_some, if_neg (by rw [b01_z]; simp [h140]), md_ce, Option.bind_some, if_pos h140, show B + i + 1 = B + (i + 1) by omega, e1, Option.bind_some, md_gI20, Option.bind_some, gs_20, md_pI20, Option.bind_some, gs_g, if_pos e2.1, show B + j1 + 1 = B + (j1 + 1) by omega]
        · cases hp
  · rw [if_neg h140] at hp
    cases hf : pS o c w r i lv with
    | inl t => rw [hf] at hp; cases hp
    | inr q =>
      obtain ⟨j1, l1, F1⟩ := q
      rw [hf] at hp
      simp only at hp
      split at hp
      · rename_i hcmp
        cases hf2 : pS o c w r (j1 + 1) l1 with
        | inl t => rw [hf2] at hp; cases hp
        | inr q =>
          obtain ⟨j2, l2, F2⟩ := q
          rw [hf2] at hp
          cases hp
          have hk := of_decide_eq_true hcmp
          have hj1 := cN j1 (by omega)
          obtain ⟨G1, fb1, p1, p2, p3, p4⟩ := hS i lv j1 l1 F1 hf h0 hlv0 hlv
          obtain ⟨G2, fb2, q1, q2, q3, q4⟩ := hS (j1 + 1) l1 j lv' F2 hf2 (by omega) (by omega) p4
          refine ⟨?_, by omega, by omega, by omega, by omega⟩
          intro live b hl hb
          have run1 := G1 live b hl hb
          have run2 := G2 live (evP live b (F1 e)).2 hl (evP_b hb _)
          have pre : f_X5_positiveOf E g0 g1 g2 g3 (some m) live (mdl m (gs s (B + i) b) h) = if i2 live = 0 then some (0, mdl m (gs s (B + j) (evP live (evP live b (F1 e)).2 (F2 e)).2) h) else if i2 (evP live (evP live b (F1 e)).2 (F2 e)).2 = 0 then (if c j1 = 160 then (if i2 (ax_cmp (evP live b (F1 e)).1 (evP live (evP live b (F1 e)).2 (F2 e)).1) < 0 then some (1, mdl m (gs s (B + j) (evP live (evP live b (F1 e)).2 (F2 e)).2) h) else some (0, mdl m (gs s (B + j) (evP live (evP live b (F1 e)).2 (F2 e)).2) h)) else if c j1 = 162 then (if 0 < i2 (ax_cmp (evP live b (F1 e)).1 (evP live (evP live b (F1 e)).2 (F2 e)).1) then some (1, mdl m (gs s (B + j) (evP live (evP live b (F1 e)).2 (F2 e)).2) h) else some (0, mdl m (gs s (B + j) (evP live (evP live b (F1 e)).2 (F2 e)).2) h)) else (if i2 (ax_cmp (evP live b (F1 e)).1 (evP live (evP live b (F1 e)).2 (F2 e)).1) = 0 then some (1, mdl m (gs s (B + j) (evP live (evP live b (F1 e)).2 (F2 e)).2) h) else some (0, mdl m (gs s (B + j) (evP live (evP live b (F1 e)).2 (F2 e)).2) h))) else some (0, mdl m (gs s (B + j) (evP live (evP live b (F1 e)).2 (F2 e)).2) h) := by
            unfold f_X5_positiveOf f_X5_sign f_X5_positiveOf_121 f_X5_positiveOf_125 fn_X5_sumOf
            rw [Option.bind_some, md_ce, Option.bind_some]
            dsimp only
            rw [show (100 : Int) + 40 = 140 from rfl, m_passes hG T h0 (by omega) (by decide), Option.bind_some, if_pos (by rw [b01_z]; exact h140), md_ce, Option.bind_some, if_neg h140, run1, Option.bind_some, md_gI20, Option.bind_some, gs_20, md_ce, Option.bind_some, m_codeAt hG T (by omega) (by omega), Option.bind_some, md_gI20, Option.bind_some, gs_20, md_pI20, Option.bind_some, gs_g, md_ce, Option.bind_some, show B + j1 + 1 = B + (j1 + 1) by omega, run2, Option.bind_some, md_gI22, Option.bind_some, gs_22, Option.bind_some, Option.bind_some]
            dsimp only
            rw [show (100 : Int) + 60 = 160 from rfl, show (100 : Int) + 62 = 162 from rfl, show i2 160 = 160 by decide, show i2 162 = 162 by decide, ci]
          rw [pre]
          by_cases ha : live = 1 ∧ b = 0
          · obtain ⟨rfl, rfl⟩ := ha
            rw [if_neg i1]
            cases hF1 : F1 e with
            | none =>
              have e1 : evP 1 0 (none : Option Int) = (0, 1) := rfl
              have e3 : evP 1 1 (F2 e) = (0, 1) := by unfold evP; rw [if_neg (by decide)]
              have e4 : dC (c j1 - 100) F1 F2 e = none := by unfold dC; rw [hF1]; rfl
              rw [e1, e3, e4, if_neg i1]
              exact ⟨0, rfl, Or.inl rfl, fun _ _ t ht => by cases ht⟩
            | some v1 =>
              have b1 := fb1 e hE v1 hF1
              have e1 : evP 1 0 (some v1) = (v1, 0) := rfl
              rw [e1]
              cases hF2 : F2 e with
              | none =>
                have e3 : evP 1 0 (none : Option Int) = (0, 1) := rfl
                have e4 : dC (c j1 - 100) F1 F2 e = none := by unfold dC; rw [hF1, hF2]; rfl
                rw [e3, e4, if_neg i1]
                exact ⟨0, rfl, Or.inl rfl, fun _ _ t ht => by cases ht⟩
              | some v2 =>
                have b2 := fb2 e hE v2 hF2
                have e3 : evP 1 0 (some v2) = (v2, 0) := rfl
                have e4 : dC (c j1 - 100) F1 F2 e = some (cmpS (c j1 - 100) v1 v2) := by unfold dC; rw [hF1, hF2]; rfl
                rw [e3, e4, if_pos i2_0, cmp_of (by omega) (by omega) (by omega) (by omega)]
                refine ⟨bI (cmpS (c j1 - 100) v1 v2), ?_, bI_01 _, fun _ _ t ht => by cases ht; rfl⟩
                by_cases k1 : c j1 = 160
                · have hc : cmpS (c j1 - 100) v1 v2 = decide (v1 < v2) := by
                    unfold cmpS
                    rw [if_pos (by omega)]
                  rw [hc, if_pos k1]
                  by_cases k2 : v1 < v2
                  · rw [if_pos (by rw [if_neg (by omega), if_neg (by omega)]; decide)]
                    simp [k2, bI, evB]
                  · rw [if_neg (by split; decide; rw [if_pos (by omega)]; decide)]
                    simp [k2, bI, evB]
                · rw [if_neg k1]
                  by_cases k3 : c j1 = 162
                  · have hc : cmpS (c j1 - 100) v1 v2 = decide (v2 < v1) := by
                      unfold cmpS
                      rw [if_neg (by omega), if_pos (by omega)]
                    rw [hc, if_pos k3]
                    by_cases k2 : v2 < v1
                    · rw [if_pos (by rw [if_pos k2]; decide)]
                      simp [k2, bI, evB]
                    · rw [if_neg (by rw [if_neg k2]; split <;> decide)]
                      simp [k2, bI, evB]
                  · have hc : cmpS (c j1 - 100) v1 v2 = decide (v1 = v2) := by
                      unfold cmpS
                      rw [if_neg (by omega), if_neg (by omega)]
                    rw [hc, if_neg k3]
                    by_cases k2 : v1 = v2
                    · rw [if_pos (by rw [if_neg (by omega), if_pos k2])]
                      simp [k2, bI, evB]
                    · rw [if_neg (by split; decide; decide)]
                      simp [k2, bI, evB]
          · have en : ∀ x : Option Int, evP live b x = (0, b) := fun x => by unfold evP; rw [if_neg ha]
            have en2 : evB live b (dC (c j1 - 100) F1 F2 e) = b := by unfold evB; rw [if_neg ha]
            rw [en, en, en2]
            refine ⟨0, ?_, Or.inl rfl, fun h1 h2 => absurd ⟨h1, h2⟩ ha⟩
            rcases hl with z | z
            · rw [z, if_pos i2_0]
            · have hb1 : b = 1 := by omega
              rw [z, hb1, if_neg i1, if_neg i1]
      · cases hp
theorem m_nots {live bb : Int} (hG : G32 s) (T : TxtM s B N o c w) : ∀ (n : Nat) (i : Int) (b : Bool), N - i < n → 0 ≤ i → i ≤ N → ax_iter (fun s : Int × ax_H => lb_X5_plainOf_2 E g0 g1 g2 g3 (some m) live s.1 s.2) (bI b, mdl m (gs s (B + i) bb) h) = (g0 (some m) live (mdl m (gs s (B + (pNots c n i b).1) bb) h)).bind (fun q => if i2 q.1 = i2 (bI (pNots c n i b).2) then some (0, q.2) else some (1, q.2)) ∧ i ≤ (pNots c n i b).1 ∧ (pNots c n i b).1 ≤ N := by
  have hN := T.2.2.1
  have i1 : ¬ i2 1 = 0 := by decide
  have cN : ∀ k, c k ≠ 0 → 0 ≤ k ∧ k < N := by
    intro k hk
    rw [T.2.2.2.1] at hk
    exact cut_ne hk
  intro n
  induction n with
  | zero => intro i b h1 h2 h3; omega
  | succ n ih =>
    intro i b h1 h2 h3
    unfold pNots
    by_cases h8 : c i = 8
    · rw [if_pos h8]
      have hi := cN i (by omega)
      obtain ⟨e1, e2, e3⟩ := ih (i + 1) (!b) (by omega) (by omega) (by omega)
      refine ⟨?_, by omega, e3⟩
      refine Eq.trans (it_step (s' := (bI (!b), mdl m (gs s (B + (i + 1)) bb) h)) ?_) e1
      simp only [lb_X5_plainOf_2]
      rw [md_ce, Option.bind_some, m_passes hG T h2 (by omega) (by decide), Option.bind_some, if_neg (by rw [b01_z]; simp [h8])]
      unfold f_X5_plainOf_20
      rw [if_pos h8, show B + i + 1 = B + (i + 1) by omega]
      cases b
      · rfl
      · rfl
    · rw [if_neg h8]
      refine ⟨?_, Int.le_refl _, h3⟩
      have body : lb_X5_plainOf_2 E g0 g1 g2 g3 (some m) live (bI b) (mdl m (gs s (B + i) bb) h) = ((g0 (some m) live (mdl m (gs s (B + i) bb) h)).bind (fun q => if i2 q.1 = i2 (bI b) then some (0, q.2) else some (1, q.2))).map Sum.inr := by
        unfold lb_X5_plainOf_2
        rw [md_ce, Option.bind_some, m_passes hG T h2 (by omega) (by decide), Option.bind_some, if_pos (by rw [b01_z]; exact h8), if_neg h8, md_ce, Option.bind_some]
      cases hg : (g0 (some m) live (mdl m (gs s (B + i) bb) h)).bind (fun q => if i2 q.1 = i2 (bI b) then some ((0 : Int), q.2) else some (1, q.2)) with
      | some r =>
        refine it_done ?_
        simp only
        rw [body, hg]
        rfl
      | none =>
        have : lb_X5_plainOf_2 E g0 g1 g2 g3 (some m) live (bI b) (mdl m (gs s (B + i) bb) h) = none := by rw [body, hg]; rfl
        cases hit : ax_iter (fun s : Int × ax_H => lb_X5_plainOf_2 E g0 g1 g2 g3 (some m) live s.1 s.2) (bI b, mdl m (gs s (B + i) bb) h) with
        | none => rfl
        | some r =>
          obtain ⟨k, hk⟩ := ax_iter_iff.mp hit
          cases k with
          | zero => cases hk
          | succ k =>
            unfold ax_itN at hk
            simp only [this] at hk
            cases hk
end
