/-! The model reads: tests -/
set_option maxRecDepth 100000
section
variable {E : ax_E} {m : Nat} {h : ax_H} {sb : Sg} {c w p : Rw} {N o deep : Int} {g0 g1 g2 : Option Nat → Int → ax_H → Option ax_H}
def BrT (m : Nat) (sb : Sg) (h : ax_H) (p : Rw) (N : Int) (g2 : Option Nat → Int → ax_H → Option ax_H) (deep : Int) (pt : Option (Int → Int → PR Dt)) : Prop := match pt with
  | none => deep = 8
  | some f => (0 ≤ deep ∧ deep < 8) ∧ RdN m sb h p N g2 (deep + 1) f
theorem rdQ_ce {α : Type} {r : PR α} {g' : ax_H} (Q : rdQ m sb h p N r g') : ∃ y, ax_ce E g' (some m) 5 = some y := by
  unfold rdQ at Q
  cases r with
  | inl t => obtain ⟨-, i', lv', -, -, e2⟩ := Q; rw [e2]; exact ⟨_, md_ce⟩
  | inr t => obtain ⟨j, lv', F⟩ := t; have e2 : g' = mdl m (rds sb j lv' (-1)) h := Q; rw [e2]; exact ⟨_, md_ce⟩
/-- a test ahead of which no 'not' stands -/
theorem m_rPos (R : RdB sb c w p N o) {r : Nat} {pt : Option (Int → Int → PR Dt)} (hd : 0 ≤ deep ∧ deep ≤ 8) (S : RdN m sb h p N (fn_X5_readSum E 64) deep (pS o c w r)) (B : BrT m sb h p N g2 deep pt) {i lv : Int} (i0 : 0 ≤ i) (i1 : i ≤ N) (l0 : 0 ≤ lv) (l1 : lv ≤ 50) : (∃ g', lb_X5_readPlain_2 E g0 g1 g2 (some m) deep 0 (mdl m (rds sb i lv (-1)) h) = some (.inr g') ∧ rdQ m sb h p N (pPos o c w r pt i lv) g') ∧ ∀ j lv' F, pPos o c w r pt i lv = .inr (j, lv', F) → i < j ∧ j ≤ N ∧ lv < lv' ∧ lv' ≤ 50 := by
  have R' := R
  obtain ⟨r1, r2, r3, r4, r5, r6, r8, ro, r16⟩ := R
  have cb := r3 i
  obtain ⟨q1, q2⟩ := p_ok R' i0 i1
  have hd' : lb_X5_readPlain_2 E g0 g1 g2 (some m) deep 0 (mdl m (rds sb i lv (-1)) h) = (if c i = 140 then (if i2 deep = i2 8 then (f_X5_faults E (some m) (mdl m (rds sb i lv (-1)) h)).bind fun h6 => f_X5_readPlain_53 E g0 g1 g2 (some m) deep h6 else f_X5_readPlain_53 E g0 g1 g2 (some m) deep (mdl m (rds sb i lv (-1)) h)) else (fn_X5_readSum E 64 (some m) deep (mdl m (rds sb i lv (-1)) h)).bind fun h7 =>
        (f_X5_sign E 60 h7).bind fun q8 =>
        (ax_ce E q8.2 (some m) 5).bind fun _ => (f_X5_takes0 E (some m) q8.1 q8.2).bind fun q9 =>
        if i2 q9.1 = 0 then
          (f_X5_sign E 62 q9.2).bind fun q10 =>
          (ax_ce E q10.2 (some m) 5).bind fun _ => (f_X5_takes0 E (some m) q10.1 q10.2).bind fun q11 =>
          if i2 q11.1 = 0 then
            (f_X5_sign E 61 q11.2).bind fun q12 =>
            (ax_ce E q12.2 (some m) 5).bind fun _ => (f_X5_must E (some m) q12.1 q12.2).bind fun h13 =>
            f_X5_readPlain_128 E g0 g1 g2 (some m) deep h13
          else
            f_X5_readPlain_128 E g0 g1 g2 (some m) deep q11.2
        else
          f_X5_readPlain_128 E g0 g1 g2 (some m) deep q9.2).map Sum.inr := by
    unfold lb_X5_readPlain_2
    rw [if_pos (by decide), md_ce, Option.bind_some, m_fine (by decide), Option.bind_some]
    dsimp only
    rw [if_neg (by rw [b01_z]; exact fun z => z rfl), md_gR13, Option.bind_some, md_gI17, Option.bind_some, rds_17, md_ld9 (by omega) (by omega), Option.bind_some, rds_o (by decide), (r2 i i0 i1).1]
    have sg : f_X5_sign E 40 (mdl m (rds sb i lv (-1)) h) = some (140, mdl m (rds sb i lv (-1)) h) := rfl
    rw [sg, Option.bind_some]
    dsimp only
    rw [i2_of (a := c i) (by omega) (by omega), show i2 140 = 140 by decide, md_ce, Option.bind_some]
    rfl
  rw [hd']
  unfold pPos
  by_cases e : c i = 140
  · rw [if_pos e, if_pos e]
    have hl := c_lt R' (i := i) (by omega)
    cases pt with
    | none =>
      have eD : deep = 8 := B
      rw [eD, if_pos rfl, m_faults R' i0 i1, Option.bind_some]
      refine ⟨⟨mdl m (rds sb i lv (p i)) h, ?_, ⟨i0, i1⟩, i, lv, by omega, by omega, rfl⟩, fun j lv' F z => by cases z⟩
      unfold f_X5_readPlain_53
      rw [md_ce, Option.bind_some, m_fine q1, Option.bind_some]
      dsimp only
      rw [if_pos (by rw [b01_z]; exact q2)]
      rfl
    | some f =>
      obtain ⟨dd, P⟩ := B
      rw [i2_of (a := deep) (by omega) (by omega), show i2 8 = 8 by decide, if_neg (by omega)]
      obtain ⟨⟨g', w1, w2⟩, w3⟩ := P.1 (i + 1) lv (by omega) (by omega) l0 l1
      have run : f_X5_readPlain_53 E g0 g1 g2 (some m) deep (mdl m (rds sb i lv (-1)) h) = f_X5_must E (some m) 141 g' := by
        unfold f_X5_readPlain_53 f_X5_sign
        rw [md_ce, Option.bind_some, m_fine (by decide), Option.bind_some]
        dsimp only
        obtain ⟨y, ey⟩ := rdQ_ce (E := E) w2
        rw [if_neg (by rw [b01_z]; exact fun z => z rfl), md_gI17, Option.bind_some, rds_17, m_p17, Option.bind_some, md_ce, Option.bind_some, w1, Option.bind_some, Option.bind_some]
        dsimp only
        rw [ey, Option.bind_some, show (100 + 41 : Int) = 141 by decide]
        cases f_X5_must E (some m) 141 g' with
        | none => rfl
        | some z => rfl
      rw [run]
      dsimp only
      cases hf : f (i + 1) lv with
      | inl t =>
        rw [hf] at w2
        obtain ⟨t0, i', lv', b1, b2, e2⟩ := w2
        obtain ⟨y1, y2⟩ := p_ok R' (i := t) t0.1 t0.2
        rw [e2, m_mustB y1 y2]
        exact ⟨⟨_, rfl, t0, i', lv', b1, b2, rfl⟩, fun j lv' F z => by cases z⟩
      | inr t =>
        obtain ⟨j, lv', F⟩ := t
        rw [hf] at w2
        have e2 : g' = mdl m (rds sb j lv' (-1)) h := w2
        obtain ⟨x1, x2, x3, x4⟩ := w3 j lv' F hf
        rw [e2, m_must R' (by omega) x2 (by decide)]
        dsimp only
        by_cases ec : c j = 141
        · have l2 := c_lt R' (i := j) (by omega)
          rw [if_pos ec, if_pos ec]
          exact ⟨⟨_, rfl, rfl⟩, fun j lv' F z => by cases z; omega⟩
        · rw [if_neg ec, if_neg ec]
          exact ⟨⟨_, rfl, ⟨by omega, x2⟩, j, lv', by omega, by omega, rfl⟩, fun j lv' F z => by cases z⟩
  · rw [if_neg e, if_neg e]
    obtain ⟨⟨g', w1, w2⟩, w3⟩ := S.1 i lv i0 i1 l0 l1
    rw [w1, Option.bind_some]
    have sg : ∀ (k : Int) (g : ax_H), f_X5_sign E k g = some (100 + k, g) := fun k g => rfl
    have r128 : ∀ s1 : Sg, f_X5_readPlain_128 E g0 g1 g2 (some m) deep (mdl m s1 h) = fn_X5_readSum E 64 (some m) deep (mdl m s1 h) := by
      intro s1
      unfold f_X5_readPlain_128
      rw [md_ce, Option.bind_some]
      cases fn_X5_readSum E 64 (some m) deep (mdl m s1 h) with
      | none => rfl
      | some z => rfl
    cases hf : pS o c w r i lv with
    | inl t =>
      rw [hf] at w2
      obtain ⟨t0, i', lv', b1, b2, e2⟩ := w2
      obtain ⟨y1, y2⟩ := p_ok R' (i := t) t0.1 t0.2
      refine ⟨⟨g', ?_, t0, i', lv', b1, b2, e2⟩, fun j lv' F z => by cases z⟩
      rw [e2, sg, Option.bind_some]
      dsimp only
      rw [md_ce, Option.bind_some, m_takesB y1 y2, Option.bind_some]
      dsimp only
      rw [if_pos (by decide), sg, Option.bind_some]
      dsimp only
      rw [md_ce, Option.bind_some, m_takesB y1 y2, Option.bind_some]
      dsimp only
      rw [if_pos (by decide), sg, Option.bind_some]
      dsimp only
      rw [md_ce, Option.bind_some, m_mustB y1 y2, Option.bind_some, r128, S.2 i' lv' (p t) y1 y2]
      rfl
    | inr t =>
      obtain ⟨j, lv2, F⟩ := t
      rw [hf] at w2
      have e2 : g' = mdl m (rds sb j lv2 (-1)) h := w2
      obtain ⟨x1, x2, x3, x4⟩ := w3 j lv2 F hf
      have tk := fun k (hk : i2 k = k) => m_takes (E := E) (m := m) (h := h) (lv := lv2) (k := k) R' (show 0 ≤ j by omega) x2 hk
      have eC : (isCmp (c j) = true) = (c j = 160 ∨ c j = 162 ∨ c j = 161) := by unfold isCmp; rw [decide_eq_true_eq]
      dsimp only
      rw [e2, sg, Option.bind_some]
      dsimp only
      rw [show (100 + 60 : Int) = 160 by decide, md_ce, Option.bind_some, tk 160 (by decide), Option.bind_some]
      -- the other sum
      have snd : isCmp (c j) = true → (∃ g', (fn_X5_readSum E 64 (some m) deep (mdl m (rds sb (j + 1) lv2 (-1)) h)).map Sum.inr = some (.inr g' : (Int × ax_H) ⊕ ax_H) ∧ rdQ m sb h p N (match pS o c w r (j + 1) lv2 with | .inl t => .inl t | .inr (k, lv2, G) => .inr (k, lv2, dC (c j - 100) F G) : PR Dt) g') ∧ ∀ j' lv' F', (match pS o c w r (j + 1) lv2 with | .inl t => .inl t | .inr (k, lv2, G) => .inr (k, lv2, dC (c j - 100) F G) : PR Dt) = .inr (j', lv', F') → i < j' ∧ j' ≤ N ∧ lv < lv' ∧ lv' ≤ 50 := by
        intro hc
        have hl := c_lt R' (i := j) (fun z => by rw [z] at hc; exact absurd hc (by decide))
        obtain ⟨⟨g3, v1, v2⟩, v3⟩ := S.1 (j + 1) lv2 (by omega) (by omega) (by omega) x4
        rw [v1]
        cases hf2 : pS o c w r (j + 1) lv2 with
        | inl t => rw [hf2] at v2; exact ⟨⟨g3, rfl, v2⟩, fun j lv' F z => by cases z⟩
        | inr t =>
          obtain ⟨k, lv3, G⟩ := t
          rw [hf2] at v2
          obtain ⟨z1, z2, z3, z4⟩ := v3 k lv3 G hf2
          exact ⟨⟨g3, rfl, v2⟩, fun j lv' F z => by cases z; omega⟩
      by_cases c1 : c j = 160
      · have hc : isCmp (c j) = true := by rw [eC]; exact Or.inl c1
        rw [if_pos c1, if_pos hc]
        dsimp only
        rw [if_neg (by decide), r128]
        exact snd hc
      · rw [if_neg c1]
        dsimp only
        rw [if_pos (show i2 0 = 0 by decide), sg, Option.bind_some]
        dsimp only
        rw [show (100 + 62 : Int) = 162 by decide, md_ce, Option.bind_some, tk 162 (by decide), Option.bind_some]
        by_cases c2 : c j = 162
        · have hc : isCmp (c j) = true := by rw [eC]; exact Or.inr (Or.inl c2)
          rw [if_pos c2, if_pos hc]
          dsimp only
          rw [if_neg (by decide), r128]
          exact snd hc
        · rw [if_neg c2]
          dsimp only
          rw [if_pos (show i2 0 = 0 by decide), sg, Option.bind_some]
          dsimp only
          rw [show (100 + 61 : Int) = 161 by decide, md_ce, Option.bind_some, m_must R' (show 0 ≤ j by omega) x2 (by decide), Option.bind_some]
          by_cases c3 : c j = 161
          · have hc : isCmp (c j) = true := by rw [eC]; exact Or.inr (Or.inr c3)
            rw [if_pos c3, if_pos hc, r128]
            exact snd hc
          · have hc : ¬ isCmp (c j) = true := by rw [eC]; omega
            obtain ⟨y1, y2⟩ := p_ok R' (i := j) (by omega) x2
            rw [if_neg c3, if_neg hc, r128, S.2 j lv2 (p j) y1 y2]
            exact ⟨⟨_, rfl, ⟨by omega, x2⟩, j, lv2, by omega, by omega, rfl⟩, fun j lv' F z => by cases z⟩
theorem m_rNots (R : RdB sb c w p N o) {lv : Int} : ∀ (n : Nat) (i : Int) (b : Bool), 0 ≤ i → i ≤ N → N < n + i → (i ≤ (pNots c n i b).1 ∧ (pNots c n i b).1 ≤ N) ∧ ∀ y, ax_iter (fun s : Int × ax_H => lb_X5_readPlain_2 E g0 g1 g2 (some m) deep s.1 s.2) (0, mdl m (rds sb (pNots c n i b).1 lv (-1)) h) = some y → ax_iter (fun s : Int × ax_H => lb_X5_readPlain_2 E g0 g1 g2 (some m) deep s.1 s.2) (1, mdl m (rds sb i lv (-1)) h) = some y := by
  intro n
  induction n with
  | zero => intro i b i0 i1 h; omega
  | succ n ih =>
    intro i b i0 i1 hn
    have tk := m_takes (E := E) (m := m) (h := h) (lv := lv) (k := 8) R i0 i1 (by decide)
    have st : lb_X5_readPlain_2 E g0 g1 g2 (some m) deep 1 (mdl m (rds sb i lv (-1)) h) = some (.inl (if c i = 8 then (1, mdl m (rds sb (i + 1) lv (-1)) h) else (0, mdl m (rds sb i lv (-1)) h))) := by
      unfold lb_X5_readPlain_2
      rw [if_neg (by decide), md_ce, Option.bind_some, tk, Option.bind_some]
    unfold pNots
    by_cases c8 : c i = 8
    · have hl := c_lt R (i := i) (by omega)
      obtain ⟨a1, a2⟩ := ih (i + 1) (!b) (by omega) (by omega) (by omega)
      rw [if_pos c8] at st ⊢
      refine ⟨by omega, fun y hy => ?_⟩
      exact (it_step (body := fun s : Int × ax_H => lb_X5_readPlain_2 E g0 g1 g2 (some m) deep s.1 s.2) (s := (1, mdl m (rds sb i lv (-1)) h)) st).trans (a2 y hy)
    · rw [if_neg c8] at st ⊢
      refine ⟨by dsimp only; omega, fun y hy => ?_⟩
      exact (it_step (body := fun s : Int × ax_H => lb_X5_readPlain_2 E g0 g1 g2 (some m) deep s.1 s.2) (s := (1, mdl m (rds sb i lv (-1)) h)) st).trans hy
theorem m_rPlain (R : RdB sb c w p N o) {r : Nat} {pt : Option (Int → Int → PR Dt)} (hd : 0 ≤ deep ∧ deep ≤ 8) (S : RdN m sb h p N (fn_X5_readSum E 64) deep (pS o c w r)) (B : BrT m sb h p N g2 deep pt) : RdN m sb h p N (fun x0 x1 h => f_X5_readPlain E g0 g1 g2 x0 x1 h) deep (pPlain o c w r pt) := by
  refine ⟨fun i lv i0 i1 l0 l1 => ?_, fun i lv b hb hn => ?_⟩
  · have N4 := R.1.2
    obtain ⟨a1, a2⟩ := m_rNots (E := E) (m := m) (h := h) (g0 := g0) (g1 := g1) (g2 := g2) (deep := deep) R (lv := lv) 401 i false i0 i1 (by omega)
    unfold pPlain
    obtain ⟨k, ek⟩ : ∃ k, k = (pNots c 401 i false).1 := ⟨_, rfl⟩
    rw [← ek] at a1 a2 ⊢
    obtain ⟨⟨g', w1, w2⟩, w3⟩ := m_rPos (E := E) (g0 := g0) (g1 := g1) R hd S B (i := k) (lv := lv) (by omega) a1.2 l0 l1
    have run : f_X5_readPlain E g0 g1 g2 (some m) deep (mdl m (rds sb i lv (-1)) h) = some g' := by
      unfold f_X5_readPlain f_X5_readPlain_2
      exact a2 g' (it_done w1)
    show (∃ g', f_X5_readPlain E g0 g1 g2 (some m) deep (mdl m (rds sb i lv (-1)) h) = some g' ∧ _) ∧ _
    rw [run]
    cases hf : pPos o c w r pt k lv with
    | inl t => rw [hf] at w2; exact ⟨⟨g', rfl, w2⟩, fun j lv' F z => by cases z⟩
    | inr t =>
      obtain ⟨j, lv', F⟩ := t
      rw [hf] at w2
      obtain ⟨x1, x2, x3, x4⟩ := w3 j lv' F hf
      exact ⟨⟨g', rfl, w2⟩, fun j lv' F z => by cases z; omega⟩
  · show f_X5_readPlain E g0 g1 g2 (some m) deep (mdl m (rds sb i lv b) h) = _
    unfold f_X5_readPlain f_X5_readPlain_2
    have s1 : lb_X5_readPlain_2 E g0 g1 g2 (some m) deep 1 (mdl m (rds sb i lv b) h) = some (.inl (0, mdl m (rds sb i lv b) h)) := by
      unfold lb_X5_readPlain_2
      rw [if_neg (by decide), md_ce, Option.bind_some, m_takesB hb hn, Option.bind_some]
    have s2 : lb_X5_readPlain_2 E g0 g1 g2 (some m) deep 0 (mdl m (rds sb i lv b) h) = some (.inr (mdl m (rds sb i lv b) h)) := by
      unfold lb_X5_readPlain_2
      rw [if_pos (by decide), md_ce, Option.bind_some, m_fine hb, Option.bind_some]
      dsimp only
      rw [if_pos (by rw [b01_z]; exact hn)]
      rfl
    exact (it_step (body := fun s : Int × ax_H => lb_X5_readPlain_2 E g0 g1 g2 (some m) deep s.1 s.2) (s := (1, mdl m (rds sb i lv b) h)) s1).trans (it_done s2)
theorem m_rBoth {f : Int → Int → PR Dt} (R : RdB sb c w p N o) (P : RdN m sb h p N g0 deep f) : RdN m sb h p N (fun x0 x1 h => f_X5_readBoth E g0 g1 g2 x0 x1 h) deep (pRow c isAnd (fun _ => dA) f) := by
  refine m_rRow (B := fun s => lb_X5_readBoth_5 E g0 g1 g2 (some m) deep s) R (by decide) P (fun i lv i0 i1 => ?_) (fun i lv b hb hn => ?_) (fun s1 => ?_)
  · have e : (isAnd (c i) = true) = (c i = 7) := by unfold isAnd; rw [decide_eq_true_eq]
    unfold lb_X5_readBoth_5
    rw [md_ce, Option.bind_some, m_takes R i0 i1 (by decide), Option.bind_some]
    by_cases c1 : c i = 7
    · rw [if_pos c1, if_pos (show isAnd (c i) = true by rw [e]; exact c1)]
      dsimp only
      rw [if_neg (by decide), md_ce, Option.bind_some]
    · rw [if_neg c1, if_neg (show ¬ isAnd (c i) = true by rw [e]; exact c1)]
      dsimp only
      rw [if_pos (by decide)]
      rfl
  · unfold lb_X5_readBoth_5
    rw [md_ce, Option.bind_some, m_takesB hb hn, Option.bind_some]
    dsimp only
    rw [if_pos (by decide)]
    rfl
  · unfold f_X5_readBoth f_X5_readBoth_5
    rw [md_ce, Option.bind_some]
theorem m_rTest1 {f : Int → Int → PR Dt} (R : RdB sb c w p N o) (P : RdN m sb h p N g1 deep f) : RdN m sb h p N (fun x0 x1 h => f_X5_readTest E g0 g1 g2 x0 x1 h) deep (pRow c isOr (fun _ => dO) f) := by
  refine m_rRow (B := fun s => lb_X5_readTest_5 E g0 g1 g2 (some m) deep s) R (by decide) P (fun i lv i0 i1 => ?_) (fun i lv b hb hn => ?_) (fun s1 => ?_)
  · have e : (isOr (c i) = true) = (c i = 6) := by unfold isOr; rw [decide_eq_true_eq]
    unfold lb_X5_readTest_5
    rw [md_ce, Option.bind_some, m_takes R i0 i1 (by decide), Option.bind_some]
    by_cases c1 : c i = 6
    · rw [if_pos c1, if_pos (show isOr (c i) = true by rw [e]; exact c1)]
      dsimp only
      rw [if_neg (by decide), md_ce, Option.bind_some]
    · rw [if_neg c1, if_neg (show ¬ isOr (c i) = true by rw [e]; exact c1)]
      dsimp only
      rw [if_pos (by decide)]
      rfl
  · unfold lb_X5_readTest_5
    rw [md_ce, Option.bind_some, m_takesB hb hn, Option.bind_some]
    dsimp only
    rw [if_pos (by decide)]
    rfl
  · unfold f_X5_readTest f_X5_readTest_5
    rw [md_ce, Option.bind_some]
/-- tests, with so many brackets left -/
theorem m_rTest (R : RdB sb c w p N o) : ∀ (r n : Nat), r ≤ 8 → 3 * r + 3 ≤ n → RdN m sb h p N (rg_X5_readPlain E n).2.2 (8 - (r : Int)) (pT o c w r) := by
  intro r
  induction r with
  | zero =>
    intro n _ hn
    obtain ⟨k, rfl⟩ : ∃ k, n = k + 3 := ⟨n - 3, by omega⟩
    rw [pT_eq]
    exact m_rTest1 R (m_rBoth R (m_rPlain R (by omega) (m_rSum R 0 64 (by decide) (by decide)) (show (8 - ((0 : Nat) : Int)) = 8 by omega)))
  | succ r ih =>
    intro n hr hn
    obtain ⟨k, rfl⟩ : ∃ k, n = k + 3 := ⟨n - 3, by omega⟩
    rw [pT_eq]
    have q := ih k (by omega) (by omega)
    have B : BrT m sb h p N (rg_X5_readPlain E k).2.2 (8 - ((r + 1 : Nat) : Int)) (pTr o c w (r + 1)) := by
      refine ⟨by omega, ?_⟩
      rw [show 8 - ((r + 1 : Nat) : Int) + 1 = 8 - (r : Int) by omega]
      exact q
    exact m_rTest1 R (m_rBoth R (m_rPlain R (by omega) (m_rSum R (r + 1) 64 hr (by omega)) B))
end
