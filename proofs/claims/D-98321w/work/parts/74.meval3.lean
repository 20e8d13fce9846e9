/-! THE MODEL: terms of a text -/
set_option maxRecDepth 100000
section
variable {E : ax_E} {m : Nat} {s : Sg} {h : ax_H} {B N o : Int} {c w : Rw} {e : Ev} {g0 g1 g2 : Option Nat → Int → ax_H → Option (Int × ax_H)}
theorem txt_32 (hG : G32 s) (T : TxtM s B N o c w) (k : Int) : i2 (c k) = c k := by
  rw [T.2.2.2.1]
  unfold cut
  split
  · exact hG _ _
  · decide
theorem m_160 {v live g b : Int} (hl : live = 0 ∨ live = 1) (hb : b = 0 ∨ b = 1) (hv : -9223372036854775808 ≤ v ∧ v ≤ 9223372036854775807) : f_X5_termOf_160 E g0 g1 g2 (some m) live (some m) v (mdl m (gs s g b) h) = some (.inl (if b = 1 then 0 else if live = 1 then (bnd v).getD 0 else v, mdl m (gs s g (if live = 1 ∧ (bnd v).isNone then 1 else b)) h)) := by
  unfold f_X5_termOf_160
  rw [md_ce, Option.bind_some, m_bounded hl hb hv]
  rfl
theorem m_121 {v u live g b k : Int} (hk : k = 142 ∨ k = 147 ∨ k = 137) (hv : -1000000000 ≤ v ∧ v ≤ 1000000000) (hu : -1000000000 ≤ u ∧ u ≤ 1000000000) (h0 : k ≠ 142 → u ≠ 0) : f_X5_termOf_121 E g0 g1 g2 (some m) live v k u (mdl m (gs s g b) h) = f_X5_termOf_160 E g0 g1 g2 (some m) live (some m) (if k = 142 then v * u else if k = 147 then v.tdiv u else v.tmod u) (mdl m (gs s g b) h) := by
  unfold f_X5_termOf_121 f_X5_sign
  rw [Option.bind_some, Option.bind_some]
  dsimp only
  rw [show (100 : Int) + 42 = 142 from rfl, show (100 : Int) + 47 = 147 from rfl, show i2 142 = 142 by decide, show i2 147 = 147 by decide, l2_of (a := u) (by omega) (by omega), l2_of (a := v) (by omega) (by omega)]
  rcases hk with q | q | q
  · subst q
    rw [if_pos (by decide), if_pos rfl]
  · subst q
    rw [if_neg (by decide), if_pos (by decide), if_neg (h0 (by decide)), if_neg (by decide), if_pos rfl]
  · subst q
    rw [if_neg (by decide), if_neg (by decide), if_neg (h0 (by decide)), if_neg (by decide), if_neg (by decide)]
theorem bnd_s {v : Int} (h : -1000000000 ≤ v ∧ v ≤ 1000000000) : bnd v = some v := by
  unfold bnd
  rw [if_neg (by omega)]
/-- a further part -/
theorem m_54 {i j : Int} {F G : Dn} (hG : G32 s) (T : TxtM s B N o c w) (hE : EB e) (h0 : 0 ≤ i) (h1 : i < N) (hk : c i = 142 ∨ c i = 147 ∨ c i = 137) (hF : FB F) (hGf : FB G) (go : GoN m s h B e g0 (i + 1) j G) : ∀ live b : Int, (live = 0 ∨ live = 1) → (b = 0 ∨ b = 1) → f_X5_termOf_54 E g0 g1 g2 (some m) live (evP live b (F e)).1 (mdl m (gs s (B + i) (evP live b (F e)).2) h) = some (.inl ((evP live b (jS (c i) F G e)).1, mdl m (gs s (B + j) (evP live b (jS (c i) F G e)).2) h)) := by
  intro live b hl hb
  have ci := txt_32 hG T
  have hN := T.2.2.1
  have i1 : ¬ i2 1 = 0 := by decide
  have c00 : ∀ u : Int, (-1000000000 ≤ u ∧ u ≤ 1000000000) → (i2 (ax_cmp u 0) = 0 ↔ u = 0) := by
    intro u hu
    rw [cmp_of (by omega) (by omega) (by decide) (by decide)]
    by_cases y : u = 0
    · rw [if_neg (by omega), if_pos y]
      simp [y]
    · rw [if_neg y]
      split <;> simp [y]
  -- what it does with what it has got
  have run : ∀ (v u b1 b2 : Int), (b1 = 0 ∨ b1 = 1) → (b2 = 0 ∨ b2 = 1) → (-1000000000 ≤ v ∧ v ≤ 1000000000) → (-1000000000 ≤ u ∧ u ≤ 1000000000) → g0 (some m) live (mdl m (gs s (B + (i + 1)) b1) h) = some (u, mdl m (gs s (B + j) b2) h) →
      f_X5_termOf_54 E g0 g1 g2 (some m) live v (mdl m (gs s (B + i) b1) h) = (if c i ≠ 142 ∧ u = 0 then f_X5_termOf_160 E g0 g1 g2 (some m) live (some m) (if c i = 147 then v.tdiv 1 else v.tmod 1) (mdl m (gs s (B + j) (if b2 = 0 ∧ live = 0 then 0 else 1)) h) else f_X5_termOf_160 E g0 g1 g2 (some m) live (some m) (if c i = 142 then v * u else if c i = 147 then v.tdiv u else v.tmod u) (mdl m (gs s (B + j) b2) h)) := by
    intro v u b1 b2 hb1 hb2 hv hu hg
    unfold f_X5_termOf_54 f_X5_sign
    rw [md_gI20, Option.bind_some, gs_20, md_ce, Option.bind_some, m_codeAt hG T h0 (by omega), Option.bind_some, md_gI20, Option.bind_some, gs_20, md_pI20, Option.bind_some, gs_g, md_ce, Option.bind_some, show B + i + 1 = B + (i + 1) by omega, hg, Option.bind_some, Option.bind_some]
    dsimp only
    rw [show (100 : Int) + 42 = 142 from rfl, show i2 142 = 142 by decide, ci]
    by_cases k1 : c i = 142
    · rw [if_pos k1, if_neg (show ¬ (c i ≠ 142 ∧ _) from fun z => z.1 k1), m_121 hk hv hu (fun z => absurd k1 z)]
    · rw [if_neg k1]
      by_cases u0 : u = 0
      · rw [if_pos ((c00 u hu).mpr u0), md_gI22, Option.bind_some, gs_22]
        have f115 : ∀ b3 : Int, (b3 = 0 ∨ b3 = 1) → f_X5_termOf_115 E g0 g1 g2 (some m) live v (c i) (some m) b3 (mdl m (gs s (B + j) b2) h) = f_X5_termOf_160 E g0 g1 g2 (some m) live (some m) (if c i = 147 then v.tdiv 1 else v.tmod 1) (mdl m (gs s (B + j) b3) h) := by
          intro b3 hb3
          unfold f_X5_termOf_115
          rw [if_pos hb3, md_pI22, Option.bind_some, gs_b, m_121 hk hv (by omega) (fun _ => by decide), if_neg k1]
        unfold f_X5_termOf_110
        rw [f115 0 (Or.inl rfl), f115 1 (Or.inr rfl)]
        rcases hb2 with z | z
        · rcases hl with y | y
          · simp [z, y, i2_0, i1, k1, u0]
          · simp [z, y, i2_0, i1, k1, u0]
        · simp [z, i2_0, i1, k1, u0]
      · rw [if_neg (fun z => u0 ((c00 u hu).mp z)), if_neg (show ¬ (c i ≠ 142 ∧ u = 0) from fun z => u0 z.2), m_121 hk hv hu (fun _ => u0)]
  have hq : c i - 100 = 42 ∨ c i - 100 = 47 ∨ c i - 100 = 37 := by omega
  by_cases ha : live = 1 ∧ b = 0
  · obtain ⟨rfl, rfl⟩ := ha
    cases hFe : F e with
    | none =>
      have e1 : evP 1 0 (none : Option Int) = (0, 1) := rfl
      have e2 : jS (c i) F G e = none := by unfold jS dJ; rw [hFe]; rfl
      rw [e2, e1]
      have hg := go 1 1 (Or.inr rfl) (Or.inr rfl)
      have e3 : evP 1 1 (G e) = (0, 1) := by unfold evP; rw [if_neg (by decide)]
      rw [e3] at hg
      rw [run 0 0 1 1 (Or.inr rfl) (Or.inr rfl) (by omega) (by omega) hg]
      rw [if_neg (show ¬ ((1 : Int) = 0 ∧ (1 : Int) = 0) by decide)]
      rw [m_160 (Or.inr rfl) (Or.inr rfl) (by split <;> decide), m_160 (Or.inr rfl) (Or.inr rfl) (by split; decide; split <;> decide)]
      simp
    | some v =>
      have hv := hF e hE v hFe
      have e1 : evP 1 0 (some v) = (v, 0) := rfl
      rw [e1]
      have hg := go 1 0 (Or.inr rfl) (Or.inl rfl)
      cases hGe : G e with
      | none =>
        have e3 : evP 1 0 (none : Option Int) = (0, 1) := rfl
        rw [hGe, e3] at hg
        have e2 : jS (c i) F G e = none := by unfold jS dJ; rw [hFe, hGe]; rfl
        rw [e2, e3, run v 0 0 1 (Or.inl rfl) (Or.inr rfl) hv (by omega) hg]
        rw [if_neg (show ¬ ((1 : Int) = 0 ∧ (1 : Int) = 0) by decide)]
        have q1 : -9223372036854775808 ≤ (if c i = 147 then v.tdiv 1 else v.tmod 1) ∧ (if c i = 147 then v.tdiv 1 else v.tmod 1) ≤ 9223372036854775807 := by
          rw [Int.tdiv_one, Int.tmod_one]
          split <;> omega
        by_cases k1 : c i = 142
        · rw [if_neg (show ¬ (c i ≠ 142 ∧ _) from fun z => z.1 k1), if_pos k1, Int.mul_zero, m_160 (Or.inr rfl) (Or.inr rfl) (by decide)]
          simp
        · rw [if_pos (show c i ≠ 142 ∧ (0 : Int) = 0 from ⟨k1, rfl⟩), m_160 (Or.inr rfl) (Or.inr rfl) q1]
          simp
      | some u =>
        have hu := hGf e hE u hGe
        have e3 : evP 1 0 (some u) = (u, 0) := rfl
        rw [hGe, e3] at hg
        have e2 : jS (c i) F G e = opS (c i - 100) v u := by unfold jS dJ; rw [hFe, hGe]; rfl
        rw [e2, run v u 0 0 (Or.inl rfl) (Or.inl rfl) hv hu hg]
        rw [if_neg (show ¬ ((0 : Int) = 0 ∧ (1 : Int) = 0) by decide)]
        have m1 : -1000000000000000000 ≤ v * u ∧ v * u ≤ 1000000000000000000 := by
          have q1 : (v * u).natAbs = v.natAbs * u.natAbs := Int.natAbs_mul v u
          have q2 : v.natAbs * u.natAbs ≤ 1000000000 * 1000000000 := Nat.mul_le_mul (by omega) (by omega)
          omega
        by_cases k1 : c i = 142
        · rw [if_neg (show ¬ (c i ≠ 142 ∧ _) from fun z => z.1 k1), if_pos k1, m_160 (Or.inr rfl) (Or.inl rfl) (by omega)]
          have e4 : opS (c i - 100) v u = bnd (v * u) := by
            unfold opS
            rw [if_neg (by omega), if_neg (by omega), if_neg (by omega), if_neg (by omega)]
          rw [e4]
          cases bnd (v * u) with
          | none => rfl
          | some z => rfl
        · by_cases u0 : u = 0
          · have q1 : -9223372036854775808 ≤ (if c i = 147 then v.tdiv 1 else v.tmod 1) ∧ (if c i = 147 then v.tdiv 1 else v.tmod 1) ≤ 9223372036854775807 := by
              rw [Int.tdiv_one, Int.tmod_one]
              split <;> omega
            rw [if_pos (show c i ≠ 142 ∧ u = 0 from ⟨k1, u0⟩), m_160 (Or.inr rfl) (Or.inr rfl) q1]
            have e4 : opS (c i - 100) v u = none := by
              unfold opS
              by_cases k2 : c i = 147
              · rw [if_pos (by omega), if_pos u0]
              · rw [if_neg (by omega), if_pos (by omega), if_pos u0]
            rw [e4]
            simp
            exact ⟨rfl, rfl⟩
          · rw [if_neg (show ¬ (c i ≠ 142 ∧ u = 0) from fun z => u0 z.2), if_neg k1]
            by_cases k2 : c i = 147
            · have e4 : opS (c i - 100) v u = some (v.tdiv u) := by
                unfold opS
                rw [if_pos (by omega), if_neg u0]
              have q3 := op_b hv hu e4
              rw [if_pos k2, m_160 (Or.inr rfl) (Or.inl rfl) (by omega), bnd_s q3, e4]
              rfl
            · have e4 : opS (c i - 100) v u = some (v.tmod u) := by
                unfold opS
                rw [if_neg (by omega), if_pos (by omega), if_neg u0]
              have q3 := op_b hv hu e4
              rw [if_neg k2, m_160 (Or.inr rfl) (Or.inl rfl) (by omega), bnd_s q3, e4]
              rfl
  · have en : ∀ x : Option Int, evP live b x = (0, b) := fun x => by unfold evP; rw [if_neg ha]
    rw [en, en]
    have hg := go live b hl hb
    rw [en] at hg
    rw [run 0 0 b b hb hb (by omega) (by omega) hg]
    rw [m_160 hl hb (by split; decide; split <;> decide)]
    have hbb : (if b = 0 ∧ live = 0 then (0 : Int) else 1) = b := by
      rcases hb with z | z
      · rcases hl with y | y
        · rw [z, y]; rfl
        · exact absurd ⟨y, z⟩ ha
      · rw [z]; rfl
    rw [hbb, m_160 hl hb (by split <;> decide)]
    have z1 : ∀ x : Int, (x = 0) → (if b = 1 then (0 : Int) else if live = 1 then (bnd x).getD 0 else x) = 0 := by
      intro x hx
      subst hx
      simp [bnd]
    have z2 : ∀ x : Int, x = 0 → (if live = 1 ∧ (bnd x).isNone then (1 : Int) else b) = b := by
      intro x hx
      subst hx
      simp [bnd]
    have y1 : (if c i = 147 then (0 : Int).tdiv 1 else (0 : Int).tmod 1) = 0 := by split <;> rfl
    have y2 : (if c i = 142 then (0 : Int) * 0 else if c i = 147 then (0 : Int).tdiv 0 else (0 : Int).tmod 0) = 0 := by
      split
      · rfl
      · split <;> rfl
    rw [z1 _ y1, z1 _ y2, z2 _ y1, z2 _ y2]
    split <;> rfl
end
