/-! The model reads: sums -/
set_option maxRecDepth 100000
def rdQ {α : Type} (m : Nat) (sb : Sg) (h : ax_H) (p : Rw) (N : Int) (r : PR α) (g' : ax_H) : Prop := match r with
  | .inl t => (0 ≤ t ∧ t ≤ N) ∧ ∃ i' lv', (0 ≤ i' ∧ i' ≤ 400) ∧ (0 ≤ lv' ∧ lv' ≤ 51) ∧ g' = mdl m (rds sb i' lv' (p t)) h
  | .inr (j, lv', _) => g' = mdl m (rds sb j lv' (-1)) h
def RdN {α : Type} (m : Nat) (sb : Sg) (h : ax_H) (p : Rw) (N : Int) (g : Option Nat → Int → ax_H → Option ax_H) (deep : Int) (f : Int → Int → PR α) : Prop := (∀ i lv, 0 ≤ i → i ≤ N → 0 ≤ lv → lv ≤ 50 → (∃ g', g (some m) deep (mdl m (rds sb i lv (-1)) h) = some g' ∧ rdQ m sb h p N (f i lv) g') ∧ ∀ j lv' F, f i lv = .inr (j, lv', F) → i < j ∧ j ≤ N ∧ lv < lv' ∧ lv' ≤ 50) ∧ ∀ i lv b, i2 b = b → b ≠ -1 → g (some m) deep (mdl m (rds sb i lv b) h) = some (mdl m (rds sb i lv b) h)
section
variable {E : ax_E} {m : Nat} {h : ax_H} {sb : Sg} {c w p : Rw} {N o deep : Int} {g0 g1 g2 : Option Nat → Int → ax_H → Option ax_H}
theorem c_lt (R : RdB sb c w p N o) {i : Int} (h : c i ≠ 0) : i < N := by
  apply Classical.byContradiction
  intro z
  exact h (R.2.2.2.2.2.1 i (by omega))
theorem m_r133B {i lv b x2 : Int} (R : RdB sb c w p N o) (hb : i2 b = b) (h1 : b ≠ -1) : f_X5_readPart_133 E g0 g1 g2 (some m) x2 (mdl m (rds sb i lv b) h) = some (mdl m (rds sb i lv b) h) := by
  obtain ⟨-, -, -, -, -, -, r8, ro, -⟩ := R
  unfold f_X5_readPart_133
  rw [md_gI8, Option.bind_some, rds_0 (by decide) (by decide) (by decide), r8]
  by_cases e : i2 o = 0
  · rw [if_pos e]
  · rw [if_neg e]
    by_cases e2 : i2 x2 = i2 23
    · rw [if_pos e2, md_ce, Option.bind_some, m_numB hb h1, Option.bind_some]
    · rw [if_neg e2]
theorem m_r103 {i lv : Int} (R : RdB sb c w p N o) (h0 : 0 ≤ i) (h1 : i < N) (l0 : 0 ≤ lv ∧ lv ≤ 50) (hv : c i = 50 ∨ isVal o (c i) = true) {ps : Option (Int → Int → PR Dn)} (hc : ¬ c i = 191) (hc2 : c i = 50 ∧ w i ≤ 1000 ∨ isVal o (c i) = true) : (∃ g', f_X5_readPart_103 E g0 g1 g2 (some m) (c i) (mdl m (rds sb i lv (-1)) h) = some g' ∧ rdQ m sb h p N (pPart o c w ps i lv) g') ∧ ∀ j lv' F, pPart o c w ps i lv = .inr (j, lv', F) → i < j ∧ j ≤ N ∧ lv < lv' ∧ lv' ≤ 50 := by
  have R' := R
  obtain ⟨r1, r2, r3, r4, r5, r6, r8, ro, r16⟩ := R
  have cb := r3 i
  obtain ⟨q1, q2⟩ := p_ok R' h0 (by omega)
  have g8 : ∀ i lv b, ax_gI E (mdl m (rds sb i lv b) h) (some m) 5 8 = some o := fun i lv b => by rw [md_gI8, rds_0 (by decide) (by decide) (by decide), r8]
  unfold pPart
  rw [if_neg hc, if_pos hc2]
  have hd : f_X5_readPart_103 E g0 g1 g2 (some m) (c i) (mdl m (rds sb i lv (-1)) h) = (some (if lv = 50 then mdl m (rds sb i (lv + 1) (p i)) h else mdl m (rds sb (i + 1) (lv + 1) (-1)) h)).bind fun h1 => (ax_gI E h1 (some m) 5 8).bind fun v2 => if i2 v2 = 0 then f_X5_readPart_133 E g0 g1 g2 (some m) (c i) h1 else if i2 (c i) = i2 22 then f_X5_readPart_126 E g0 g1 g2 (some m) (c i) h1 else if i2 (c i) = i2 23 then f_X5_readPart_126 E g0 g1 g2 (some m) (c i) h1 else f_X5_readPart_133 E g0 g1 g2 (some m) (c i) h1 := by
    unfold f_X5_readPart_103
    rw [md_ce, Option.bind_some, m_rleaf R' h0 (by omega) l0]
  rw [hd, Option.bind_some]
  have ic : i2 (c i) = c i := i2_of (by omega) (by omega)
  by_cases e50 : lv = 50
  · rw [if_pos e50, if_pos e50]
    refine ⟨⟨mdl m (rds sb i (lv + 1) (p i)) h, ?_, ⟨by omega, by omega⟩, i, lv + 1, by omega, by omega, rfl⟩, fun j lv' F z => by cases z⟩
    rw [g8, Option.bind_some]
    have b126 : f_X5_readPart_126 E g0 g1 g2 (some m) (c i) (mdl m (rds sb i (lv + 1) (p i)) h) = some (mdl m (rds sb i (lv + 1) (p i)) h) := by
      unfold f_X5_readPart_126
      rw [md_ce, Option.bind_some, m_numB q1 q2, Option.bind_some, m_r133B R' q1 q2]
    rw [b126, m_r133B R' q1 q2]
    by_cases z1 : i2 o = 0
    · rw [if_pos z1]
    · rw [if_neg z1]
      by_cases z2 : i2 (c i) = i2 22
      · rw [if_pos z2]
      · rw [if_neg z2]
        by_cases z3 : i2 (c i) = i2 23
        · rw [if_pos z3]
        · rw [if_neg z3]
  · rw [if_neg e50, if_neg e50, g8, Option.bind_some, ic, show i2 22 = 22 by decide, show i2 23 = 23 by decide]
    -- what follows a word of no person
    have p133 : ∀ i' lv', ¬ (o ≠ 0 ∧ c i = 23) → f_X5_readPart_133 E g0 g1 g2 (some m) (c i) (mdl m (rds sb i' lv' (-1)) h) = some (mdl m (rds sb i' lv' (-1)) h) := by
      intro i' lv' hz
      unfold f_X5_readPart_133
      rw [g8, Option.bind_some]
      rcases ro with e | e
      · rw [e, if_pos (by decide)]
      · rw [e, if_neg (by decide), ic, show i2 23 = 23 by decide, if_neg (fun z => hz ⟨by omega, z⟩)]
    by_cases e0 : o = 0
    · rw [e0, if_pos (by decide)]
      have n22 : ¬ ((0 : Int) ≠ 0 ∧ c i = 22) := fun z => z.1 rfl
      have n23 : ¬ ((0 : Int) ≠ 0 ∧ c i = 23) := fun z => z.1 rfl
      refine ⟨⟨_, p133 (i + 1) (lv + 1) (fun z => z.1 e0), ?_⟩, ?_⟩
      · by_cases c50 : c i = 50
        · rw [if_pos c50]; rfl
        · rw [if_neg c50, if_neg n22, if_neg n23]; rfl
      · intro j lv' F z
        by_cases c50 : c i = 50
        · rw [if_pos c50] at z; cases z; omega
        · rw [if_neg c50, if_neg n22, if_neg n23] at z; cases z; omega
    · have e1 : o = 1 := by omega
      rw [if_neg (by rw [e1]; decide)]
      have num := fun (i : Int) lv (h0 : 0 ≤ i) (h1 : i ≤ N) => m_num (E := E) (m := m) (h := h) (lv := lv) (lo := 0) (hi := 6) R' h0 h1 (by decide) (by decide)
      by_cases c50 : c i = 50
      · rw [if_pos c50, if_neg (by rw [c50]; decide), if_neg (by rw [c50]; decide)]
        exact ⟨⟨_, p133 (i + 1) (lv + 1) (fun z => by rw [c50] at z; exact absurd z.2 (by decide)), rfl⟩, fun j lv' F z => by cases z; omega⟩
      · rw [if_neg c50]
        by_cases c22 : c i = 22
        · rw [if_pos c22, if_pos ⟨e0, c22⟩]
          unfold f_X5_readPart_126
          rw [md_ce, Option.bind_some, num (i + 1) (lv + 1) (by omega) (by omega), Option.bind_some]
          obtain ⟨y1, y2⟩ := p_ok R' (i := i + 1) (by omega) (by omega)
          by_cases cn : c (i + 1) = 50 ∧ 0 ≤ w (i + 1) ∧ w (i + 1) ≤ 6
          · have l2 := c_lt R' (i := i + 1) (by omega)
            rw [if_pos cn, if_pos cn]
            refine ⟨⟨_, p133 (i + 1 + 1) (lv + 1) (fun z => by omega), by show _ = mdl m (rds sb (i + 2) (lv + 1) (-1)) h; rw [show i + 1 + 1 = i + 2 by omega]⟩, fun j lv' F z => by cases z; omega⟩
          · rw [if_neg cn, if_neg cn]
            exact ⟨⟨_, m_r133B R' y1 y2, ⟨by omega, by omega⟩, i + 1, lv + 1, by omega, by omega, rfl⟩, fun j lv' F z => by cases z⟩
        · rw [if_neg c22, if_neg (show ¬ (o ≠ 0 ∧ c i = 22) from fun z => c22 z.2)]
          by_cases c23 : c i = 23
          · rw [if_pos c23, if_pos ⟨e0, c23⟩]
            unfold f_X5_readPart_126
            rw [md_ce, Option.bind_some, num (i + 1) (lv + 1) (by omega) (by omega), Option.bind_some]
            obtain ⟨y1, y2⟩ := p_ok R' (i := i + 1) (by omega) (by omega)
            by_cases cn : c (i + 1) = 50 ∧ 0 ≤ w (i + 1) ∧ w (i + 1) ≤ 6
            · have l2 := c_lt R' (i := i + 1) (by omega)
              obtain ⟨x1, x2⟩ := p_ok R' (i := i + 1 + 1) (by omega) (by omega)
              rw [if_pos cn, if_pos cn]
              have f133 : f_X5_readPart_133 E g0 g1 g2 (some m) (c i) (mdl m (rds sb (i + 1 + 1) (lv + 1) (-1)) h) = some (if c (i + 1 + 1) = 50 ∧ 0 ≤ w (i + 1 + 1) ∧ w (i + 1 + 1) ≤ 6 then mdl m (rds sb (i + 1 + 1 + 1) (lv + 1) (-1)) h else mdl m (rds sb (i + 1 + 1) (lv + 1) (p (i + 1 + 1))) h) := by
                unfold f_X5_readPart_133
                rw [g8, Option.bind_some, e1, if_neg (by decide), ic, show i2 23 = 23 by decide, if_pos c23, md_ce, Option.bind_some, num (i + 1 + 1) (lv + 1) (by omega) (by omega), Option.bind_some]
              rw [f133]
              rw [show i + 1 + 1 = i + 2 by omega] at x1 x2 ⊢
              by_cases cn2 : c (i + 2) = 50 ∧ 0 ≤ w (i + 2) ∧ w (i + 2) ≤ 6
              · have l3 := c_lt R' (i := i + 2) (by omega)
                rw [if_pos cn2, if_pos cn2]
                exact ⟨⟨_, rfl, by show _ = mdl m (rds sb (i + 3) (lv + 1) (-1)) h; rw [show i + 2 + 1 = i + 3 by omega]⟩, fun j lv' F z => by cases z; omega⟩
              · rw [if_neg cn2, if_neg cn2]
                exact ⟨⟨_, rfl, ⟨by omega, by omega⟩, i + 2, lv + 1, by omega, by omega, rfl⟩, fun j lv' F z => by cases z⟩
            · rw [if_neg cn, if_neg cn]
              exact ⟨⟨_, m_r133B R' y1 y2, ⟨by omega, by omega⟩, i + 1, lv + 1, by omega, by omega, rfl⟩, fun j lv' F z => by cases z⟩
          · rw [if_neg c23, if_neg (show ¬ (o ≠ 0 ∧ c i = 23) from fun z => c23 z.2)]
            exact ⟨⟨_, p133 (i + 1) (lv + 1) (fun z => c23 z.2), rfl⟩, fun j lv' F z => by cases z; omega⟩
/-- brackets left for a part -/
def BrN (m : Nat) (sb : Sg) (h : ax_H) (p : Rw) (N : Int) (g2 : Option Nat → Int → ax_H → Option ax_H) (deep : Int) (ps : Option (Int → Int → PR Dn)) : Prop := match ps with
  | none => deep = 8
  | some f => (0 ≤ deep ∧ deep < 8) ∧ RdN m sb h p N g2 (deep + 1) f
theorem m_rPart (R : RdB sb c w p N o) {ps : Option (Int → Int → PR Dn)} (B : BrN m sb h p N g2 deep ps) : RdN m sb h p N (fun x0 x1 h => f_X5_readPart E g0 g1 g2 x0 x1 h) deep (pPart o c w ps) := by
  have R' := R
  obtain ⟨r1, r2, r3, r4, r5, r6, r8, ro, r16⟩ := R
  refine ⟨fun i lv h0 h1 l0 l1 => ?_, fun i lv b hb h1 => ?_⟩
  · have cb := r3 i
    have wb := r4 i
    obtain ⟨q1, q2⟩ := p_ok R' h0 h1
    have hd : f_X5_readPart E g0 g1 g2 (some m) deep (mdl m (rds sb i lv (-1)) h) = (if c i = 191 then (if i2 deep = i2 8 then (f_X5_faults E (some m) (mdl m (rds sb i lv (-1)) h)).bind fun h6 => f_X5_readPart_37 E g0 g1 g2 (some m) deep h6 else f_X5_readPart_37 E g0 g1 g2 (some m) deep (mdl m (rds sb i lv (-1)) h)) else if c i = 50 then (if 1000 < w i then f_X5_readPart_95 E g0 g1 g2 (some m) (c i) (mdl m (rds sb i lv (-1)) h) else f_X5_readPart_103 E g0 g1 g2 (some m) (c i) (mdl m (rds sb i lv (-1)) h)) else f_X5_readPart_95 E g0 g1 g2 (some m) (c i) (mdl m (rds sb i lv (-1)) h)) := by
      unfold f_X5_readPart f_X5_sign
      rw [md_ce, Option.bind_some, m_fine (by decide), Option.bind_some]
      dsimp only
      rw [if_neg (by rw [b01_z]; exact fun z => z rfl), md_gR13, Option.bind_some, md_gI17, Option.bind_some, rds_17, md_ld9 (by omega) (by omega), Option.bind_some, rds_o (by decide), (r2 i h0 h1).1, Option.bind_some]
      dsimp only
      rw [i2_of (a := c i) (by omega) (by omega), show i2 (100 + 91) = 191 by decide, show i2 50 = 50 by decide, md_ce, Option.bind_some, md_gR14, Option.bind_some, md_gI17, Option.bind_some, rds_17, md_ld10 (by omega) (by omega), Option.bind_some, rds_o (by decide), (r2 i h0 h1).2.1, show i2 1000 = 1000 by decide, i2_of (a := w i) (by omega) (by omega)]
    show (∃ g', f_X5_readPart E g0 g1 g2 (some m) deep (mdl m (rds sb i lv (-1)) h) = some g' ∧ _) ∧ _
    rw [hd]
    by_cases e : c i = 191
    · rw [if_pos e]
      have hl := c_lt R' (i := i) (by omega)
      unfold pPart
      rw [if_pos e]
      cases ps with
      | none =>
        have eD : deep = 8 := B
        rw [eD, if_pos rfl, m_faults R' h0 h1, Option.bind_some]
        refine ⟨⟨mdl m (rds sb i lv (p i)) h, ?_, ⟨h0, h1⟩, i, lv, by omega, by omega, rfl⟩, fun j lv' F z => by cases z⟩
        unfold f_X5_readPart_37
        rw [md_ce, Option.bind_some, m_fine q1, Option.bind_some]
        dsimp only
        rw [if_pos (by rw [b01_z]; exact q2)]
      | some f =>
        obtain ⟨dd, P⟩ := B
        rw [i2_of (a := deep) (by omega) (by omega), show i2 8 = 8 by decide, if_neg (by omega)]
        obtain ⟨⟨g', w1, w2⟩, w3⟩ := P.1 (i + 1) lv (by omega) (by omega) l0 l1
        have run : f_X5_readPart_37 E g0 g1 g2 (some m) deep (mdl m (rds sb i lv (-1)) h) = f_X5_must E (some m) 193 g' := by
          unfold f_X5_readPart_37 f_X5_sign
          rw [md_ce, Option.bind_some, m_fine (by decide), Option.bind_some]
          dsimp only
          have cg : ∃ y, ax_ce E g' (some m) 5 = some y := by
            unfold rdQ at w2
            cases hf : f (i + 1) lv with
            | inl t => rw [hf] at w2; obtain ⟨-, i', lv', -, -, e2⟩ := w2; rw [e2]; exact ⟨_, md_ce⟩
            | inr t => obtain ⟨j, lv', F⟩ := t; rw [hf] at w2; have e2 : g' = mdl m (rds sb j lv' (-1)) h := w2; rw [e2]; exact ⟨_, md_ce⟩
          obtain ⟨y, ey⟩ := cg
          rw [if_neg (by rw [b01_z]; exact fun z => z rfl), md_gI17, Option.bind_some, rds_17, m_p17, Option.bind_some, md_ce, Option.bind_some, w1, Option.bind_some, Option.bind_some]
          dsimp only
          rw [ey, Option.bind_some, show (100 + 93 : Int) = 193 by decide]
          cases f_X5_must E (some m) 193 g' with
          | none => rfl
          | some z => rfl
        rw [run]
        dsimp only
        cases hf : f (i + 1) lv with
        | inl t =>
          rw [hf] at w2
          obtain ⟨t0, i', lv', b1, b2, e2⟩ := w2
          obtain ⟨y1, y2⟩ := p_ok R' (i := t) t0.1 t0.2
          rw [e2, m_mustB y1 y2]
          exact ⟨⟨_, rfl, t0, i', lv', b1, b2, rfl⟩, fun j lv' F z => by cases z⟩
        | inr t =>
          obtain ⟨j, lv', F⟩ := t
          rw [hf] at w2
          have e2 : g' = mdl m (rds sb j lv' (-1)) h := w2
          obtain ⟨x1, x2, x3, x4⟩ := w3 j lv' F hf
          rw [e2, m_must R' (by omega) x2 (by decide)]
          dsimp only
          by_cases ec : c j = 193
          · have l2 := c_lt R' (i := j) (by omega)
            rw [if_pos ec, if_pos ec]
            exact ⟨⟨_, rfl, rfl⟩, fun j lv' F z => by cases z; omega⟩
          · rw [if_neg ec, if_neg ec]
            exact ⟨⟨_, rfl, ⟨by omega, x2⟩, j, lv', by omega, by omega, rfl⟩, fun j lv' F z => by cases z⟩
    · rw [if_neg e]
      -- a value, or none
      have p95 : ¬ (c i = 50 ∧ w i ≤ 1000) → (∃ g', f_X5_readPart_95 E g0 g1 g2 (some m) (c i) (mdl m (rds sb i lv (-1)) h) = some g' ∧ rdQ m sb h p N (pPart o c w ps i lv) g') ∧ ∀ j lv' F, pPart o c w ps i lv = .inr (j, lv', F) → i < j ∧ j ≤ N ∧ lv < lv' ∧ lv' ≤ 50 := by
        intro hn
        unfold f_X5_readPart_95
        rw [md_ce, Option.bind_some, m_isValue R' cb, Option.bind_some]
        dsimp only
        by_cases ev : isVal o (c i) = true
        · rw [if_neg (by rw [b01_z]; exact fun z => z ev)]
          have hl : i < N := c_lt R' (fun z => by rw [z] at ev; rcases ro with e1 | e1 <;> rw [e1] at ev <;> exact absurd ev (by decide))
          exact m_r103 R' h0 hl ⟨l0, l1⟩ (Or.inr ev) e (Or.inr ev)
        · rw [if_pos (by rw [b01_z]; exact ev), md_ce, Option.bind_some, m_faults R' h0 h1, Option.bind_some]
          unfold pPart
          rw [if_neg e, if_neg (fun z => z.elim hn ev)]
          exact ⟨⟨_, rfl, ⟨h0, h1⟩, i, lv, by omega, by omega, rfl⟩, fun j lv' F z => by cases z⟩
      by_cases e50 : c i = 50
      · rw [if_pos e50]
        by_cases ew : 1000 < w i
        · rw [if_pos ew]
          exact p95 (fun z => by omega)
        · rw [if_neg ew]
          exact m_r103 R' h0 (c_lt R' (by omega)) ⟨l0, l1⟩ (Or.inl e50) e (Or.inl ⟨e50, by omega⟩)
      · rw [if_neg e50]
        exact p95 (fun z => e50 z.1)
  · show f_X5_readPart E g0 g1 g2 (some m) deep (mdl m (rds sb i lv b) h) = _
    unfold f_X5_readPart
    rw [md_ce, Option.bind_some, m_fine hb, Option.bind_some]
    dsimp only
    rw [if_pos (by rw [b01_z]; exact h1)]
end
