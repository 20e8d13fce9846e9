/-! THE MODEL: tests of a text, all of them -/
set_option maxRecDepth 100000
section
variable {E : ax_E} {m : Nat} {s : Sg} {h : ax_H} {B N o : Int} {c w : Rw} {e : Ev} {g0 g1 g2 g3 : Option Nat → Int → ax_H → Option (Int × ax_H)}
theorem m_plain {r : Nat} {pt : Option (Int → Int → PR Dt)} (hG : G32 s) (T : TxtM s B N o c w) (hpp : PkT m s h B N e (pPos o c w r pt) g0) : PkT m s h B N e (pPlain o c w r pt) (f_X5_plainOf E g0 g1 g2 g3) := by
  intro i lv j lv' F hp h0 hiN hlv0 hlv
  have hN := T.2.2.1
  obtain ⟨-, n1, n2⟩ := m_nots (E := E) (m := m) (h := h) (g0 := g0) (g1 := g1) (g2 := g2) (g3 := g3) (live := 0) (bb := 0) hG T 401 i false (by omega) h0 hiN
  unfold pPlain at hp
  cases hf : pPos o c w r pt (pNots c 401 i false).1 lv with
  | inl t => rw [hf] at hp; cases hp
  | inr q =>
    obtain ⟨j1, l1, G⟩ := q
    rw [hf] at hp
    cases hp
    obtain ⟨go, p1, p2, p3, p4⟩ := hpp _ lv j lv' G hf (by omega) n2 hlv0 hlv
    refine ⟨?_, by omega, p2, p3, p4⟩
    intro live b hl hb
    obtain ⟨e1, -, -⟩ := m_nots (E := E) (m := m) (h := h) (g0 := g0) (g1 := g1) (g2 := g2) (g3 := g3) (live := live) (bb := b) hG T 401 i false (by omega) h0 hiN
    obtain ⟨v, e2, e3, e4⟩ := go live b hl hb
    rw [e2, Option.bind_some] at e1
    have hev : evB live b (dNot (pNots c 401 i false).2 G e) = evB live b (G e) := by
      unfold dNot
      split
      · unfold evB dN
        cases G e <;> rfl
      · rfl
    refine ⟨if i2 v = i2 (bI (pNots c 401 i false).2) then 0 else 1, ?_, ?_, ?_⟩
    · unfold f_X5_plainOf f_X5_plainOf_2
      refine Eq.trans e1 ?_
      rw [hev]
      split <;> rfl
    · split
      · exact Or.inl rfl
      · exact Or.inr rfl
    · intro h1 h2 t ht
      unfold dNot at ht
      cases hn : (pNots c 401 i false).2 with
      | false =>
        rw [hn] at ht
        simp only [Bool.false_eq_true, if_false] at ht
        rw [e4 h1 h2 t ht]
        cases t <;> decide
      | true =>
        rw [hn] at ht
        simp only [if_true] at ht
        unfold dN at ht
        cases hg : G e with
        | none => rw [hg] at ht; cases ht
        | some u =>
          rw [hg] at ht
          cases ht
          rw [e4 h1 h2 u hg]
          cases u <;> decide
/-- further tests behind 'and' -/
theorem m_bothTail {part : Int → Int → PR Dt} (hG : G32 s) (T : TxtM s B N o c w) (hpk : PkT m s h B N e part g1) : ∀ (n : Nat) (i lv : Int) (F : Dt) (j lv' : Int) (F' : Dt), pTl c isAnd (fun _ => dA) part n i lv F = .inr (j, lv', F') → 51 - lv ≤ n → 0 ≤ lv → lv ≤ 50 → 0 ≤ i → i ≤ N → (∀ live b v : Int, (live = 0 ∨ live = 1) → (b = 0 ∨ b = 1) → VaT live b v (F e) → ∃ v', ax_iter (fun s : Int × ax_H => lb_X5_bothOf_6 E g0 g1 g2 g3 (some m) live s.1 s.2) (v, mdl m (gs s (B + i) (evB live b (F e))) h) = some (v', mdl m (gs s (B + j) (evB live b (F' e))) h) ∧ VaT live b v' (F' e)) ∧ i ≤ j ∧ j ≤ N ∧ lv ≤ lv' ∧ lv' ≤ 50 := by
  have hN := T.2.2.1
  have i1 : ¬ i2 1 = 0 := by decide
  intro n
  induction n with
  | zero => intro i lv F j lv' F' _ h1 h20 h2; omega
  | succ n ih =>
    intro i lv F j lv' F' hp h1 h20 h2 h3 h4
    have cN : ∀ k, c k ≠ 0 → 0 ≤ k ∧ k < N := by
      intro k hk
      rw [T.2.2.2.1] at hk
      exact cut_ne hk
    unfold pTl at hp
    by_cases hk : c i = 7
    · rw [if_pos (by unfold isAnd; exact decide_eq_true hk)] at hp
      have hi := cN i (by omega)
      cases hq : part (i + 1) lv with
      | inl t => rw [hq] at hp; cases hp
      | inr q =>
        obtain ⟨j1, l1, G⟩ := q
        rw [hq] at hp
        simp only at hp
        obtain ⟨go, p1, p2, p3, p4⟩ := hpk (i + 1) lv j1 l1 G hq (by omega) (by omega) h20 h2
        obtain ⟨run, q2, q3, q4, q5⟩ := ih j1 l1 _ j lv' F' hp (by omega) (by omega) p4 (by omega) p2
        refine ⟨?_, by omega, q3, by omega, q5⟩
        intro live b v hl hb hv
        -- what the further test is asked with
        have hbF : evB live b (F e) = 0 ∨ evB live b (F e) = 1 := by
          unfold evB
          split
          · cases F e
            · exact Or.inr rfl
            · exact Or.inl rfl
          · exact hb
        obtain ⟨u, eu, u1, u2⟩ := go (if live = 1 ∧ v = 1 then 1 else 0) (evB live b (F e)) (by split; exact Or.inr rfl; exact Or.inl rfl) hbF
        have hbG : evB (if live = 1 ∧ v = 1 then 1 else 0) (evB live b (F e)) (G e) = evB live b (dA F G e) := by
          unfold evB dA
          by_cases ha : live = 1 ∧ b = 0
          · rw [if_pos ha, if_pos ha]
            cases hF : F e with
            | none => simp
            | some t =>
              have := hv.2 ha.1 ha.2 t hF
              cases t with
              | false => simp [this, bI]
              | true => simp [this, bI, ha.1]
          · rw [if_neg ha, if_neg ha]
            by_cases hz : (if live = 1 ∧ v = 1 then (1 : Int) else 0) = 1 ∧ b = 0
            · exfalso
              apply ha
              refine ⟨?_, hz.2⟩
              by_cases hy : live = 1 ∧ v = 1
              · exact hy.1
              · rw [if_neg hy] at hz
                exact absurd hz.1 (by decide)
            · rw [if_neg hz]
        let v2 : Int := if v = 1 ∧ u = 1 then 1 else 0
        have hv2 : VaT live b v2 (dA F G e) := by
          refine ⟨?_, ?_⟩
          · show (if v = 1 ∧ u = 1 then (1 : Int) else 0) = 0 ∨ (if v = 1 ∧ u = 1 then (1 : Int) else 0) = 1
            split
            · exact Or.inr rfl
            · exact Or.inl rfl
          · intro h1 h2 t ht
            unfold dA at ht
            cases hF : F e with
            | none => rw [hF] at ht; cases ht
            | some tf =>
              rw [hF] at ht
              have hvf := hv.2 h1 h2 tf hF
              show (if v = 1 ∧ u = 1 then (1 : Int) else 0) = bI t
              cases tf with
              | false =>
                have ht2 : t = false := (Option.some.inj ht).symm
                rw [hvf, ht2]
                rfl
              | true =>
                have hGt : G e = some t := ht
                have he0 : evB live b (F e) = 0 := by
                  unfold evB
                  rw [if_pos ⟨h1, h2⟩, hF]
                have := u2 (by rw [if_pos ⟨h1, hvf⟩]) he0 t hGt
                rw [hvf, this]
                cases t <;> rfl
        obtain ⟨v', e5, e6⟩ := run live b v2 hl hb hv2
        refine ⟨v', ?_, e6⟩
        refine Eq.trans (it_step (s' := (v2, mdl m (gs s (B + j1) (evB live b (dA F G e))) h)) ?_) e5
        simp only [lb_X5_bothOf_6]
        rw [md_ce, Option.bind_some, m_passes hG T h3 (by omega) (by decide), Option.bind_some, if_neg (by rw [b01_z]; simp [hk]), if_pos hk, show B + i + 1 = B + (i + 1) by omega]
        have f29 : f_X5_bothOf_29 E g0 g1 g2 g3 (some m) live v (some m) (if live = 1 ∧ v = 1 then 1 else 0) (mdl m (gs s (B + (i + 1)) (evB live b (F e))) h) = some (.inl (v2, mdl m (gs s (B + j1) (evB live b (dA F G e))) h)) := by
          unfold f_X5_bothOf_29 f_X5_bothOf_45 f_X5_bothOf_46
          rw [md_ce, Option.bind_some, eu, Option.bind_some, hbG]
          show _ = some (Sum.inl ((if v = 1 ∧ u = 1 then (1 : Int) else 0), _))
          rcases hv.1 with z | z
          · rw [z, if_pos i2_0, if_neg (fun y => absurd y.1 (by decide))]
          · rw [z, if_neg i1]
            rcases u1 with y | y
            · rw [y, if_pos i2_0, if_neg (fun y => absurd y.2 (by decide))]
            · rw [y, if_neg i1, if_pos ⟨rfl, rfl⟩]
        unfold f_X5_bothOf_28
        rcases hl with z | z
        · rw [z, if_pos i2_0]
          rw [z, if_neg (fun y => absurd y.1 (by decide))] at f29
          exact f29
        · rcases hv.1 with y | y
          · rw [z, y, if_neg i1, if_pos i2_0]
            rw [z, y, if_neg (fun y => absurd y.2 (by decide))] at f29
            exact f29
          · rw [z, y, if_neg i1, if_neg i1]
            rw [z, y, if_pos ⟨rfl, rfl⟩] at f29
            exact f29
    · rw [if_neg (by unfold isAnd; intro z; exact hk (of_decide_eq_true z))] at hp
      cases hp
      refine ⟨?_, Int.le_refl _, h4, Int.le_refl _, h2⟩
      intro live b v hl hb hv
      refine ⟨v, it_done ?_, hv⟩
      simp only [lb_X5_bothOf_6]
      rw [md_ce, Option.bind_some, m_passes hG T h3 (by omega) (by decide), Option.bind_some, if_pos (by rw [b01_z]; exact hk), if_neg hk, if_pos hv.1]
      rfl
theorem m_both {part : Int → Int → PR Dt} (hG : G32 s) (T : TxtM s B N o c w) (hpk : PkT m s h B N e part g1) : PkT m s h B N e (pRow c isAnd (fun _ => dA) part) (f_X5_bothOf E g0 g1 g2 g3) := by
  intro i lv j lv' F hp h0 hiN hlv0 hlv
  unfold pRow at hp
  cases hq : part i lv with
  | inl t => rw [hq] at hp; cases hp
  | inr q =>
    obtain ⟨j1, l1, G⟩ := q
    rw [hq] at hp
    simp only at hp
    obtain ⟨go, p1, p2, p3, p4⟩ := hpk i lv j1 l1 G hq h0 hiN hlv0 hlv
    obtain ⟨run, q2, q3, q4, q5⟩ := m_bothTail (E := E) (g0 := g0) (g2 := g2) (g3 := g3) hG T hpk 51 j1 l1 G j lv' F hp (by omega) (by omega) p4 (by omega) p2
    refine ⟨?_, by omega, q3, by omega, q5⟩
    intro live b hl hb
    obtain ⟨v, e1, e2⟩ := go live b hl hb
    obtain ⟨v', e3, e4⟩ := run live b v hl hb e2
    refine ⟨v', ?_, e4⟩
    unfold f_X5_bothOf f_X5_bothOf_6
    rw [md_ce, Option.bind_some, e1, Option.bind_some]
    exact e3
end
