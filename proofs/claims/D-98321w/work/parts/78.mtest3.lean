/-! THE MODEL: tests of a text, joined by 'or', and all of them -/
set_option maxRecDepth 100000
section
variable {E : ax_E} {m : Nat} {s : Sg} {h : ax_H} {B N o : Int} {c w : Rw} {e : Ev} {g0 g1 g2 g3 : Option Nat → Int → ax_H → Option (Int × ax_H)}
/-- further tests behind 'or' -/
theorem m_testTail {part : Int → Int → PR Dt} (hG : G32 s) (T : TxtM s B N o c w) (hpk : PkT m s h B N e part g2) : ∀ (n : Nat) (i lv : Int) (F : Dt) (j lv' : Int) (F' : Dt), pTl c isOr (fun _ => dO) part n i lv F = .inr (j, lv', F') → 51 - lv ≤ n → 0 ≤ lv → lv ≤ 50 → 0 ≤ i → i ≤ N → (∀ live b v : Int, (live = 0 ∨ live = 1) → (b = 0 ∨ b = 1) → VaT live b v (F e) → ∃ v', ax_iter (fun s : Int × ax_H => lb_X5_testOf_6 E g0 g1 g2 g3 (some m) live s.1 s.2) (v, mdl m (gs s (B + i) (evB live b (F e))) h) = some (v', mdl m (gs s (B + j) (evB live b (F' e))) h) ∧ VaT live b v' (F' e)) ∧ i ≤ j ∧ j ≤ N ∧ lv ≤ lv' ∧ lv' ≤ 50 := by
  have hN := T.2.2.1
  have i1 : ¬ i2 1 = 0 := by decide
  intro n
  induction n with
  | zero => intro i lv F j lv' F' _ h1 h20 h2; omega
  | succ n ih =>
    intro i lv F j lv' F' hp h1 h20 h2 h3 h4
    have cN : ∀ k, c k ≠ 0 → 0 ≤ k ∧ k < N := by
      intro k hk
      rw [T.2.2.2.1] at hk
      exact cut_ne hk
    unfold pTl at hp
    by_cases hk : c i = 6
    · rw [if_pos (by unfold isOr; exact decide_eq_true hk)] at hp
      have hi := cN i (by omega)
      cases hq : part (i + 1) lv with
      | inl t => rw [hq] at hp; cases hp
      | inr q =>
        obtain ⟨j1, l1, G⟩ := q
        rw [hq] at hp
        simp only at hp
        obtain ⟨go, p1, p2, p3, p4⟩ := hpk (i + 1) lv j1 l1 G hq (by omega) (by omega) h20 h2
        obtain ⟨run, q2, q3, q4, q5⟩ := ih j1 l1 _ j lv' F' hp (by omega) (by omega) p4 (by omega) p2
        refine ⟨?_, by omega, q3, by omega, q5⟩
        intro live b v hl hb hv
        -- what the further test is asked with
        have hbF : evB live b (F e) = 0 ∨ evB live b (F e) = 1 := by
          unfold evB
          split
          · cases F e
            · exact Or.inr rfl
            · exact Or.inl rfl
          · exact hb
        obtain ⟨u, eu, u1, u2⟩ := go (if live = 1 ∧ v = 0 then 1 else 0) (evB live b (F e)) (by split; exact Or.inr rfl; exact Or.inl rfl) hbF
        have hbG : evB (if live = 1 ∧ v = 0 then 1 else 0) (evB live b (F e)) (G e) = evB live b (dO F G e) := by
          unfold evB dO
          by_cases ha : live = 1 ∧ b = 0
          · rw [if_pos ha, if_pos ha]
            cases hF : F e with
            | none => simp
            | some t =>
              have := hv.2 ha.1 ha.2 t hF
              cases t with
              | false => simp [this, bI, ha.1]
              | true => simp [this, bI]
          · rw [if_neg ha, if_neg ha]
            by_cases hz : (if live = 1 ∧ v = 0 then (1 : Int) else 0) = 1 ∧ b = 0
            · exfalso
              apply ha
              refine ⟨?_, hz.2⟩
              by_cases hy : live = 1 ∧ v = 0
              · exact hy.1
              · rw [if_neg hy] at hz
                exact absurd hz.1 (by decide)
            · rw [if_neg hz]
        let v2 : Int := if v = 1 ∨ u = 1 then 1 else 0
        have hv2 : VaT live b v2 (dO F G e) := by
          refine ⟨?_, ?_⟩
          · show (if v = 1 ∨ u = 1 then (1 : Int) else 0) = 0 ∨ (if v = 1 ∨ u = 1 then (1 : Int) else 0) = 1
            split
            · exact Or.inr rfl
            · exact Or.inl rfl
          · intro h1 h2 t ht
            unfold dO at ht
            cases hF : F e with
            | none => rw [hF] at ht; cases ht
            | some tf =>
              rw [hF] at ht
              have hvf := hv.2 h1 h2 tf hF
              show (if v = 1 ∨ u = 1 then (1 : Int) else 0) = bI t
              cases tf with
              | true =>
                have ht2 : t = true := (Option.some.inj ht).symm
                rw [hvf, ht2]
                rfl
              | false =>
                have hGt : G e = some t := ht
                have he0 : evB live b (F e) = 0 := by
                  unfold evB
                  rw [if_pos ⟨h1, h2⟩, hF]
                have := u2 (by rw [if_pos ⟨h1, hvf⟩]) he0 t hGt
                rw [hvf, this]
                cases t <;> rfl
        obtain ⟨v', e5, e6⟩ := run live b v2 hl hb hv2
        refine ⟨v', ?_, e6⟩
        refine Eq.trans (it_step (s' := (v2, mdl m (gs s (B + j1) (evB live b (dO F G e))) h)) ?_) e5
        simp only [lb_X5_testOf_6]
        rw [md_ce, Option.bind_some, m_passes hG T h3 (by omega) (by decide), Option.bind_some, if_neg (by rw [b01_z]; simp [hk]), if_pos hk, show B + i + 1 = B + (i + 1) by omega]
        have f29 : f_X5_testOf_29 E g0 g1 g2 g3 (some m) live v (some m) (if live = 1 ∧ v = 0 then 1 else 0) (mdl m (gs s (B + (i + 1)) (evB live b (F e))) h) = some (.inl (v2, mdl m (gs s (B + j1) (evB live b (dO F G e))) h)) := by
          unfold f_X5_testOf_29 f_X5_testOf_41 f_X5_testOf_46
          rw [md_ce, Option.bind_some, eu, Option.bind_some, hbG]
          show _ = some (Sum.inl ((if v = 1 ∨ u = 1 then (1 : Int) else 0), _))
          rcases hv.1 with z | z
          · rw [z, if_pos i2_0]
            rcases u1 with y | y
            · rw [y, if_pos i2_0, if_neg (by decide)]
            · rw [y, if_neg i1, if_pos (Or.inr rfl)]
          · rw [z, if_neg i1, if_pos (Or.inl rfl)]
        unfold f_X5_testOf_28
        rcases hl with z | z
        · rw [z, if_pos i2_0]
          rw [z, if_neg (fun y => absurd y.1 (by decide))] at f29
          exact f29
        · rcases hv.1 with y | y
          · rw [z, y, if_neg i1, if_pos i2_0]
            rw [z, y, if_pos ⟨rfl, rfl⟩] at f29
            exact f29
          · rw [z, y, if_neg i1, if_neg i1]
            rw [z, y, if_neg (fun y => absurd y.2 (by decide))] at f29
            exact f29
    · rw [if_neg (by unfold isOr; intro z; exact hk (of_decide_eq_true z))] at hp
      cases hp
      refine ⟨?_, Int.le_refl _, h4, Int.le_refl _, h2⟩
      intro live b v hl hb hv
      refine ⟨v, it_done ?_, hv⟩
      simp only [lb_X5_testOf_6]
      rw [md_ce, Option.bind_some, m_passes hG T h3 (by omega) (by decide), Option.bind_some, if_pos (by rw [b01_z]; exact hk), if_neg hk, if_pos hv.1]
      rfl
theorem m_testN {part : Int → Int → PR Dt} (hG : G32 s) (T : TxtM s B N o c w) (hpk : PkT m s h B N e part g2) : PkT m s h B N e (pRow c isOr (fun _ => dO) part) (f_X5_testOf E g0 g1 g2 g3) := by
  intro i lv j lv' F hp h0 hiN hlv0 hlv
  unfold pRow at hp
  cases hq : part i lv with
  | inl t => rw [hq] at hp; cases hp
  | inr q =>
    obtain ⟨j1, l1, G⟩ := q
    rw [hq] at hp
    simp only at hp
    obtain ⟨go, p1, p2, p3, p4⟩ := hpk i lv j1 l1 G hq h0 hiN hlv0 hlv
    obtain ⟨run, q2, q3, q4, q5⟩ := m_testTail (E := E) (g0 := g0) (g1 := g1) (g3 := g3) hG T hpk 51 j1 l1 G j lv' F hp (by omega) (by omega) p4 (by omega) p2
    refine ⟨?_, by omega, q3, by omega, q5⟩
    intro live b hl hb
    obtain ⟨v, e1, e2⟩ := go live b hl hb
    obtain ⟨v', e3, e4⟩ := run live b v hl hb e2
    refine ⟨v', ?_, e4⟩
    unfold f_X5_testOf f_X5_testOf_6
    rw [md_ce, Option.bind_some, e1, Option.bind_some]
    exact e3
end
/-- tests, with so many brackets left -/
theorem m_tests {E : ax_E} {m : Nat} {s : Sg} {h : ax_H} {B N o : Int} {c w : Rw} {e : Ev} (hG : G32 s) (T : TxtM s B N o c w) (hV : EnvM s o e) (hE : EB e) (hR : RV (s 2 152) (s 2)) (h152 : 0 ≤ s 2 152 ∧ s 2 152 ≤ 7) : ∀ (r n : Nat), r ≤ 8 → 4 * r + 4 ≤ n → PkT m s h B N e (pT o c w r) (rg_X5_positiveOf E n).2.2.2 := by
  have main : ∀ (pt : Option (Int → Int → PR Dt)) (r n : Nat), r ≤ 8 → (∀ f, pt = some f → PkT m s h B N e f (rg_X5_positiveOf E n).2.2.2) → PkT m s h B N e (pTestN o c w r pt) (rg_X5_positiveOf E (n + 4)).2.2.2 := by
    intro pt r n hr hpt
    have l1 : PkT m s h B N e (pPos o c w r pt) (rg_X5_positiveOf E (n + 1)).1 := m_pos hr hG T hV hE hR h152 hpt
    have l2 : PkT m s h B N e (pPlain o c w r pt) (rg_X5_positiveOf E (n + 2)).2.1 := m_plain hG T l1
    have l3 : PkT m s h B N e (pBoth o c w r pt) (rg_X5_positiveOf E (n + 3)).2.2.1 := m_both hG T l2
    exact m_testN hG T l3
  intro r
  induction r with
  | zero =>
    intro n hr hn
    obtain ⟨k, rfl⟩ : ∃ k, n = k + 4 := ⟨n - 4, by omega⟩
    rw [pT_eq]
    exact main none 0 k (by decide) (fun f hf => by cases hf)
  | succ r ih =>
    intro n hr hn
    obtain ⟨k, rfl⟩ : ∃ k, n = k + 4 := ⟨n - 4, by omega⟩
    rw [pT_eq]
    refine main _ (r + 1) k hr ?_
    intro f hf
    cases hf
    exact ih k (by omega) (by omega)
