/-! The model reads: rows of parts, sums whole -/
set_option maxRecDepth 100000
section
variable {E : ax_E} {m : Nat} {h : ax_H} {sb : Sg} {c w p : Rw} {N o deep : Int} {α : Type}
theorem m_rTl {B : ax_H → Option (ax_H ⊕ ax_H)} {g : Option Nat → Int → ax_H → Option ax_H} {f : Int → Int → PR α} {T : Int → Bool} {J : Int → α → α → α} (R : RdB sb c w p N o) (hT : T 0 = false) (P : RdN m sb h p N g deep f) (h1 : ∀ i lv, 0 ≤ i → i ≤ N → B (mdl m (rds sb i lv (-1)) h) = if T (c i) = true then (g (some m) deep (mdl m (rds sb (i + 1) lv (-1)) h)).bind (fun h1 => some (.inl h1)) else some (.inr (mdl m (rds sb i lv (-1)) h))) (h2 : ∀ i lv b, i2 b = b → b ≠ -1 → B (mdl m (rds sb i lv b) h) = some (.inr (mdl m (rds sb i lv b) h))) : ∀ (n : Nat) (i lv : Int) (F : α), 0 ≤ i → i ≤ N → 0 ≤ lv → lv ≤ 50 → 50 < n + lv → (∃ g', ax_iter B (mdl m (rds sb i lv (-1)) h) = some g' ∧ rdQ m sb h p N (pTl c T J f n i lv F) g') ∧ ∀ j lv' F', pTl c T J f n i lv F = .inr (j, lv', F') → i ≤ j ∧ j ≤ N ∧ lv ≤ lv' ∧ lv' ≤ 50 := by
  intro n
  induction n with
  | zero => intro i lv F _ _ _ _ h5; omega
  | succ n ih =>
    intro i lv F i0 i1 l0 l1 h5
    have b := h1 i lv i0 i1
    unfold pTl
    by_cases t : T (c i) = true
    · rw [if_pos t] at b ⊢
      have hl : i < N := c_lt R (fun z => by rw [z, hT] at t; cases t)
      obtain ⟨⟨g', w1, w2⟩, w3⟩ := P.1 (i + 1) lv (by omega) (by omega) l0 l1
      rw [w1, Option.bind_some] at b
      cases hf : f (i + 1) lv with
      | inl q =>
        rw [hf] at w2
        obtain ⟨t0, i', lv', b1, b2, e2⟩ := w2
        obtain ⟨y1, y2⟩ := p_ok R (i := q) t0.1 t0.2
        refine ⟨⟨g', (it_step b).trans (it_done (by rw [e2]; exact h2 _ _ _ y1 y2)), t0, i', lv', b1, b2, e2⟩, fun j lv' F' z => by cases z⟩
      | inr q =>
        obtain ⟨j, lv2, G⟩ := q
        rw [hf] at w2
        have e2 : g' = mdl m (rds sb j lv2 (-1)) h := w2
        obtain ⟨x1, x2, x3, x4⟩ := w3 j lv2 G hf
        obtain ⟨⟨g3, y1, y2⟩, y3⟩ := ih j lv2 (J (c i) F G) (by omega) x2 (by omega) x4 (by omega)
        refine ⟨⟨g3, (it_step b).trans (by rw [e2]; exact y1), y2⟩, fun j' lv' F' z => ?_⟩
        have := y3 j' lv' F' z
        omega
    · rw [if_neg t] at b ⊢
      exact ⟨⟨_, it_done b, rfl⟩, fun j lv' F' z => by cases z; omega⟩
theorem m_rRow {B : ax_H → Option (ax_H ⊕ ax_H)} {g G : Option Nat → Int → ax_H → Option ax_H} {f : Int → Int → PR α} {T : Int → Bool} {J : Int → α → α → α} (R : RdB sb c w p N o) (hT : T 0 = false) (P : RdN m sb h p N g deep f) (h1 : ∀ i lv, 0 ≤ i → i ≤ N → B (mdl m (rds sb i lv (-1)) h) = if T (c i) = true then (g (some m) deep (mdl m (rds sb (i + 1) lv (-1)) h)).bind (fun h1 => some (.inl h1)) else some (.inr (mdl m (rds sb i lv (-1)) h))) (h2 : ∀ i lv b, i2 b = b → b ≠ -1 → B (mdl m (rds sb i lv b) h) = some (.inr (mdl m (rds sb i lv b) h))) (hG : ∀ s1, G (some m) deep (mdl m s1 h) = (g (some m) deep (mdl m s1 h)).bind fun h1 => ax_iter B h1) : RdN m sb h p N G deep (pRow c T J f) := by
  refine ⟨fun i lv i0 i1 l0 l1 => ?_, fun i lv b hb hn => ?_⟩
  · obtain ⟨⟨g', w1, w2⟩, w3⟩ := P.1 i lv i0 i1 l0 l1
    rw [hG, w1, Option.bind_some]
    unfold pRow
    cases hf : f i lv with
    | inl q =>
      rw [hf] at w2
      obtain ⟨t0, i', lv', b1, b2, e2⟩ := w2
      obtain ⟨y1, y2⟩ := p_ok R (i := q) t0.1 t0.2
      exact ⟨⟨g', it_done (by rw [e2]; exact h2 _ _ _ y1 y2), t0, i', lv', b1, b2, e2⟩, fun j lv' F' z => by cases z⟩
    | inr q =>
      obtain ⟨j, lv2, F⟩ := q
      rw [hf] at w2
      have e2 : g' = mdl m (rds sb j lv2 (-1)) h := w2
      obtain ⟨x1, x2, x3, x4⟩ := w3 j lv2 F hf
      obtain ⟨⟨g3, y1, y2⟩, y3⟩ := m_rTl R hT P h1 h2 51 j lv2 F (by omega) x2 (by omega) x4 (by omega)
      refine ⟨⟨g3, by rw [e2]; exact y1, y2⟩, fun j' lv' F' z => ?_⟩
      have := y3 j' lv' F' z
      omega
  · rw [hG, P.2 i lv b hb hn, Option.bind_some]
    exact it_done (h2 i lv b hb hn)
theorem m_rTerm {g0 g1 g2 : Option Nat → Int → ax_H → Option ax_H} {f : Int → Int → PR Dn} (R : RdB sb c w p N o) (P : RdN m sb h p N g0 deep f) : RdN m sb h p N (fun x0 x1 h => f_X5_readTerm E g0 g1 g2 x0 x1 h) deep (pRow c isMul jS f) := by
  refine m_rRow (B := fun s => lb_X5_readTerm_5 E g0 g1 g2 (some m) deep s) R (by decide) P (fun i lv i0 i1 => ?_) (fun i lv b hb hn => ?_) (fun s1 => ?_)
  · have tk := fun k (hk : i2 k = k) => m_takes (E := E) (m := m) (h := h) (lv := lv) (k := k) R i0 i1 hk
    have e : (isMul (c i) = true) = (c i = 142 ∨ c i = 147 ∨ c i = 137) := by unfold isMul; rw [decide_eq_true_eq]
    unfold lb_X5_readTerm_5 f_X5_readTerm_41 f_X5_sign
    rw [Option.bind_some]
    dsimp only
    rw [show (100 + 42 : Int) = 142 by decide, md_ce, Option.bind_some, tk 142 (by decide), Option.bind_some]
    by_cases c1 : c i = 142
    · rw [if_pos c1, if_pos (show isMul (c i) = true by rw [e]; exact Or.inl c1)]
      dsimp only
      rw [if_neg (by decide), md_ce, Option.bind_some]
    · rw [if_neg c1]
      dsimp only
      rw [if_pos (by decide), Option.bind_some]
      dsimp only
      rw [show (100 + 47 : Int) = 147 by decide, md_ce, Option.bind_some, tk 147 (by decide), Option.bind_some]
      by_cases c2 : c i = 147
      · rw [if_pos c2, if_pos (show isMul (c i) = true by rw [e]; exact Or.inr (Or.inl c2))]
        dsimp only
        rw [if_neg (by decide), md_ce, Option.bind_some]
      · rw [if_neg c2]
        dsimp only
        rw [if_pos (by decide), Option.bind_some]
        dsimp only
        rw [show (100 + 37 : Int) = 137 by decide, md_ce, Option.bind_some, tk 137 (by decide), Option.bind_some]
        by_cases c3 : c i = 137
        · rw [if_pos c3, if_pos (show isMul (c i) = true by rw [e]; exact Or.inr (Or.inr c3))]
          dsimp only
          rw [if_neg (by decide), md_ce, Option.bind_some]
        · rw [if_neg c3, if_neg (show ¬ isMul (c i) = true by rw [e]; omega)]
          dsimp only
          rw [if_pos (by decide)]
          rfl
  · unfold lb_X5_readTerm_5 f_X5_sign
    rw [Option.bind_some]
    dsimp only
    rw [md_ce, Option.bind_some, m_takesB hb hn, Option.bind_some]
    dsimp only
    rw [if_pos (by decide), Option.bind_some]
    dsimp only
    rw [md_ce, Option.bind_some, m_takesB hb hn, Option.bind_some]
    dsimp only
    rw [if_pos (by decide), Option.bind_some]
    dsimp only
    rw [md_ce, Option.bind_some, m_takesB hb hn, Option.bind_some]
    dsimp only
    rw [if_pos (by decide)]
    rfl
  · unfold f_X5_readTerm f_X5_readTerm_5
    rw [md_ce, Option.bind_some]
theorem m_rSum1 {g0 g1 g2 : Option Nat → Int → ax_H → Option ax_H} {f : Int → Int → PR Dn} (R : RdB sb c w p N o) (P : RdN m sb h p N g1 deep f) : RdN m sb h p N (fun x0 x1 h => f_X5_readSum E g0 g1 g2 x0 x1 h) deep (pRow c isAdd jS f) := by
  refine m_rRow (B := fun s => lb_X5_readSum_5 E g0 g1 g2 (some m) deep s) R (by decide) P (fun i lv i0 i1 => ?_) (fun i lv b hb hn => ?_) (fun s1 => ?_)
  · have tk := fun k (hk : i2 k = k) => m_takes (E := E) (m := m) (h := h) (lv := lv) (k := k) R i0 i1 hk
    have e : (isAdd (c i) = true) = (c i = 143 ∨ c i = 145) := by unfold isAdd; rw [decide_eq_true_eq]
    unfold lb_X5_readSum_5 f_X5_readSum_29 f_X5_sign
    rw [Option.bind_some]
    dsimp only
    rw [show (100 + 43 : Int) = 143 by decide, md_ce, Option.bind_some, tk 143 (by decide), Option.bind_some]
    by_cases c1 : c i = 143
    · rw [if_pos c1, if_pos (show isAdd (c i) = true by rw [e]; exact Or.inl c1)]
      dsimp only
      rw [if_neg (by decide), md_ce, Option.bind_some]
    · rw [if_neg c1]
      dsimp only
      rw [if_pos (by decide), Option.bind_some]
      dsimp only
      rw [show (100 + 45 : Int) = 145 by decide, md_ce, Option.bind_some, tk 145 (by decide), Option.bind_some]
      by_cases c2 : c i = 145
      · rw [if_pos c2, if_pos (show isAdd (c i) = true by rw [e]; exact Or.inr c2)]
        dsimp only
        rw [if_neg (by decide), md_ce, Option.bind_some]
      · rw [if_neg c2, if_neg (show ¬ isAdd (c i) = true by rw [e]; omega)]
        dsimp only
        rw [if_pos (by decide)]
        rfl
  · unfold lb_X5_readSum_5 f_X5_sign
    rw [Option.bind_some]
    dsimp only
    rw [md_ce, Option.bind_some, m_takesB hb hn, Option.bind_some]
    dsimp only
    rw [if_pos (by decide), Option.bind_some]
    dsimp only
    rw [md_ce, Option.bind_some, m_takesB hb hn, Option.bind_some]
    dsimp only
    rw [if_pos (by decide)]
    rfl
  · unfold f_X5_readSum f_X5_readSum_5
    rw [md_ce, Option.bind_some]
/-- sums, with so many brackets left -/
theorem m_rSum (R : RdB sb c w p N o) : ∀ (r n : Nat), r ≤ 8 → 3 * r + 3 ≤ n → RdN m sb h p N (rg_X5_readPart E n).2.2 (8 - (r : Int)) (pS o c w r) := by
  intro r
  induction r with
  | zero =>
    intro n _ hn
    obtain ⟨k, rfl⟩ : ∃ k, n = k + 3 := ⟨n - 3, by omega⟩
    rw [pS_eq]
    exact m_rSum1 R (m_rTerm R (m_rPart R (show (8 - ((0 : Nat) : Int)) = 8 by omega)))
  | succ r ih =>
    intro n hr hn
    obtain ⟨k, rfl⟩ : ∃ k, n = k + 3 := ⟨n - 3, by omega⟩
    rw [pS_eq]
    have q := ih k (by omega) (by omega)
    have B : BrN m sb h p N (rg_X5_readPart E k).2.2 (8 - ((r + 1 : Nat) : Int)) (pBr o c w (r + 1)) := by
      refine ⟨by omega, ?_⟩
      rw [show 8 - ((r + 1 : Nat) : Int) + 1 = 8 - (r : Int) by omega]
      exact q
    exact m_rSum1 R (m_rTerm R (m_rPart R B))
end
