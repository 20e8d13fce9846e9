/-! THE MODEL: terms and sums of a text, all of them -/
set_option maxRecDepth 100000
section
variable {E : ax_E} {m : Nat} {s : Sg} {h : ax_H} {B N o : Int} {c w : Rw} {e : Ev} {g0 g1 g2 : Option Nat → Int → ax_H → Option (Int × ax_H)}
theorem m_lbT {i live b v : Int} (hG : G32 s) (T : TxtM s B N o c w) (h0 : 0 ≤ i) (h1 : i ≤ N) : lb_X5_termOf_6 E g0 g1 g2 (some m) live v (mdl m (gs s (B + i) b) h) = if isMul (c i) = true then f_X5_termOf_54 E g0 g1 g2 (some m) live v (mdl m (gs s (B + i) b) h) else some (.inr (v, mdl m (gs s (B + i) b) h)) := by
  have ci := txt_32 hG T
  have hN := T.2.2.1
  unfold lb_X5_termOf_6 f_X5_sign isMul
  simp only [md_gI20, Option.bind_some, gs_20, md_ce, m_codeAt hG T h0 (show i ≤ 10000 by omega), show (100 : Int) + 42 = 142 from rfl, show (100 : Int) + 47 = 147 from rfl, show (100 : Int) + 37 = 137 from rfl, show i2 142 = 142 by decide, show i2 147 = 147 by decide, show i2 137 = 137 by decide, ci, Option.map_some]
  by_cases k1 : c i = 142
  · simp [k1]
  · by_cases k2 : c i = 147
    · simp [k2]
    · by_cases k3 : c i = 137
      · simp [k3]
      · simp [k1, k2, k3]
theorem m_termTail {part : Int → Int → PR Dn} (hG : G32 s) (T : TxtM s B N o c w) (hE : EB e) (hpk : PkN m s h B N e part g0) : ∀ (n : Nat) (i lv : Int) (F : Dn) (j lv' : Int) (F' : Dn), pTl c isMul jS part n i lv F = .inr (j, lv', F') → 51 - lv ≤ n → 0 ≤ lv → lv ≤ 50 → 0 ≤ i → i ≤ N → FB F → (∀ live b : Int, (live = 0 ∨ live = 1) → (b = 0 ∨ b = 1) → ax_iter (fun s : Int × ax_H => lb_X5_termOf_6 E g0 g1 g2 (some m) live s.1 s.2) ((evP live b (F e)).1, mdl m (gs s (B + i) (evP live b (F e)).2) h) = some ((evP live b (F' e)).1, mdl m (gs s (B + j) (evP live b (F' e)).2) h)) ∧ FB F' ∧ i ≤ j ∧ j ≤ N ∧ lv ≤ lv' ∧ lv' ≤ 50 := by
  intro n
  induction n with
  | zero => intro i lv F j lv' F' _ h1 h20 h2; omega
  | succ n ih =>
    intro i lv F j lv' F' hp h1 h20 h2 h3 h4 hF
    have ci : ∀ k, c k ≠ 0 → 0 ≤ k ∧ k < N := by
      intro k hk
      rw [T.2.2.2.1] at hk
      exact cut_ne hk
    unfold pTl at hp
    by_cases hk : isMul (c i) = true
    · rw [if_pos hk] at hp
      have hk3 := of_decide_eq_true hk
      have hiN := ci i (by omega)
      cases hq : part (i + 1) lv with
      | inl t => rw [hq] at hp; cases hp
      | inr q =>
        obtain ⟨j1, l1, G⟩ := q
        rw [hq] at hp
        simp only at hp
        obtain ⟨go, fb, p1, p2, p3, p4⟩ := hpk (i + 1) lv j1 l1 G hq (by omega) h20 h2
        obtain ⟨run, q1, q2, q3, q4, q5⟩ := ih j1 l1 _ j lv' F' hp (by omega) (by omega) p4 (by omega) p2 (hF.join _ fb)
        refine ⟨?_, q1, by omega, q3, by omega, q5⟩
        intro live b hl hb
        refine Eq.trans (it_step (s' := ((evP live b (jS (c i) F G e)).1, mdl m (gs s (B + j1) (evP live b (jS (c i) F G e)).2) h)) ?_) (run live b hl hb)
        simp only
        rw [m_lbT hG T h3 h4, if_pos hk]
        exact m_54 hG T hE h3 hiN.2 hk3 hF fb go live b hl hb
    · rw [if_neg hk] at hp
      cases hp
      refine ⟨?_, hF, Int.le_refl _, h4, Int.le_refl _, h2⟩
      intro live b hl hb
      refine it_done ?_
      simp only
      rw [m_lbT hG T h3 h4, if_neg hk]
theorem m_term {part : Int → Int → PR Dn} (hG : G32 s) (T : TxtM s B N o c w) (hE : EB e) (hpk : PkN m s h B N e part g0) : PkN m s h B N e (pRow c isMul jS part) (f_X5_termOf E g0 g1 g2) := by
  intro i lv j lv' F hp h0 hlv0 hlv
  unfold pRow at hp
  cases hq : part i lv with
  | inl t => rw [hq] at hp; cases hp
  | inr q =>
    obtain ⟨j1, l1, G⟩ := q
    rw [hq] at hp
    simp only at hp
    obtain ⟨go, fb, p1, p2, p3, p4⟩ := hpk i lv j1 l1 G hq h0 hlv0 hlv
    obtain ⟨run, q1, q2, q3, q4, q5⟩ := m_termTail (E := E) (g1 := g1) (g2 := g2) hG T hE hpk 51 j1 l1 G j lv' F hp (by omega) (by omega) p4 (by omega) p2 fb
    refine ⟨?_, q1, by omega, q3, by omega, q5⟩
    intro live b hl hb
    unfold f_X5_termOf f_X5_termOf_6
    rw [md_ce, Option.bind_some, go live b hl hb, Option.bind_some]
    exact run live b hl hb
theorem m_95 {v live g b : Int} (hl : live = 0 ∨ live = 1) (hb : b = 0 ∨ b = 1) (hv : -9223372036854775808 ≤ v ∧ v ≤ 9223372036854775807) : f_X5_sumOf_95 E g0 g1 g2 (some m) live (some m) v (mdl m (gs s g b) h) = some (.inl (if b = 1 then 0 else if live = 1 then (bnd v).getD 0 else v, mdl m (gs s g (if live = 1 ∧ (bnd v).isNone then 1 else b)) h)) := by
  unfold f_X5_sumOf_95
  rw [md_ce, Option.bind_some, m_bounded hl hb hv]
  rfl
theorem m_38 {i j : Int} {F G : Dn} (hG : G32 s) (T : TxtM s B N o c w) (hE : EB e) (h0 : 0 ≤ i) (h1 : i < N) (hk : c i = 143 ∨ c i = 145) (hF : FB F) (hGf : FB G) (go : GoN m s h B e g1 (i + 1) j G) : ∀ live b : Int, (live = 0 ∨ live = 1) → (b = 0 ∨ b = 1) → f_X5_sumOf_38 E g0 g1 g2 (some m) live (evP live b (F e)).1 (mdl m (gs s (B + i) (evP live b (F e)).2) h) = some (.inl ((evP live b (jS (c i) F G e)).1, mdl m (gs s (B + j) (evP live b (jS (c i) F G e)).2) h)) := by
  intro live b hl hb
  have ci := txt_32 hG T
  have hN := T.2.2.1
  have i1 : ¬ i2 1 = 0 := by decide
  have run : ∀ (v u b1 b2 : Int), g1 (some m) live (mdl m (gs s (B + (i + 1)) b1) h) = some (u, mdl m (gs s (B + j) b2) h) →
      f_X5_sumOf_38 E g0 g1 g2 (some m) live v (mdl m (gs s (B + i) b1) h) = f_X5_sumOf_95 E g0 g1 g2 (some m) live (some m) (if c i = 143 then v + u else v - u) (mdl m (gs s (B + j) b2) h) := by
    intro v u b1 b2 hg
    have f59 : ∀ s0 : Int, f_X5_sumOf_59 E g0 g1 g2 (some m) live v s0 (mdl m (gs s (B + i) b1) h) = if i2 s0 = 0 then f_X5_sumOf_95 E g0 g1 g2 (some m) live (some m) (v - u) (mdl m (gs s (B + j) b2) h) else f_X5_sumOf_95 E g0 g1 g2 (some m) live (some m) (v + u) (mdl m (gs s (B + j) b2) h) := by
      intro s0
      unfold f_X5_sumOf_59
      rw [md_gI20, Option.bind_some, gs_20, md_pI20, Option.bind_some, gs_g, md_ce, Option.bind_some, show B + i + 1 = B + (i + 1) by omega, hg, Option.bind_some]
    unfold f_X5_sumOf_38 f_X5_sign
    rw [md_gI20, Option.bind_some, gs_20, md_ce, Option.bind_some, m_codeAt hG T h0 (by omega), Option.bind_some, Option.bind_some]
    dsimp only
    rw [show (100 : Int) + 43 = 143 from rfl, show i2 143 = 143 by decide, ci, f59, f59]
    by_cases k1 : c i = 143
    · rw [if_pos k1, if_neg i1, if_pos k1]
    · rw [if_neg k1, if_pos i2_0, if_neg k1]
  by_cases ha : live = 1 ∧ b = 0
  · obtain ⟨rfl, rfl⟩ := ha
    cases hFe : F e with
    | none =>
      have e1 : evP 1 0 (none : Option Int) = (0, 1) := rfl
      have e2 : jS (c i) F G e = none := by unfold jS dJ; rw [hFe]; rfl
      rw [e2, e1]
      have hg := go 1 1 (Or.inr rfl) (Or.inr rfl)
      have e3 : evP 1 1 (G e) = (0, 1) := by unfold evP; rw [if_neg (by decide)]
      rw [e3] at hg
      rw [run 0 0 1 1 hg, m_95 (Or.inr rfl) (Or.inr rfl) (by split <;> decide)]
      simp
    | some v =>
      have hv := hF e hE v hFe
      have e1 : evP 1 0 (some v) = (v, 0) := rfl
      rw [e1]
      have hg := go 1 0 (Or.inr rfl) (Or.inl rfl)
      cases hGe : G e with
      | none =>
        have e3 : evP 1 0 (none : Option Int) = (0, 1) := rfl
        rw [hGe, e3] at hg
        have e2 : jS (c i) F G e = none := by unfold jS dJ; rw [hFe, hGe]; rfl
        rw [e2, e3, run v 0 0 1 hg, m_95 (Or.inr rfl) (Or.inr rfl) (by split <;> omega)]
        simp
      | some u =>
        have hu := hGf e hE u hGe
        have e3 : evP 1 0 (some u) = (u, 0) := rfl
        rw [hGe, e3] at hg
        have e2 : jS (c i) F G e = opS (c i - 100) v u := by unfold jS dJ; rw [hFe, hGe]; rfl
        have e4 : opS (c i - 100) v u = bnd (if c i = 143 then v + u else v - u) := by
          unfold opS
          rcases hk with z | z
          · rw [if_neg (by omega), if_neg (by omega), if_pos (by omega), if_pos z]
          · rw [if_neg (by omega), if_neg (by omega), if_neg (by omega), if_pos (by omega), if_neg (by omega)]
        rw [e2, e4, run v u 0 0 hg, m_95 (Or.inr rfl) (Or.inl rfl) (by split <;> omega)]
        cases bnd (if c i = 143 then v + u else v - u) with
        | none => rfl
        | some z => rfl
  · have en : ∀ x : Option Int, evP live b x = (0, b) := fun x => by unfold evP; rw [if_neg ha]
    rw [en, en]
    have hg := go live b hl hb
    rw [en] at hg
    rw [run 0 0 b b hg, m_95 hl hb (by split <;> decide)]
    have y1 : (if c i = 143 then (0 : Int) + 0 else 0 - 0) = 0 := by split <;> rfl
    rw [y1]
    simp [bnd]
theorem m_lbS {i live b v : Int} (hG : G32 s) (T : TxtM s B N o c w) (h0 : 0 ≤ i) (h1 : i ≤ N) : lb_X5_sumOf_6 E g0 g1 g2 (some m) live v (mdl m (gs s (B + i) b) h) = if isAdd (c i) = true then f_X5_sumOf_38 E g0 g1 g2 (some m) live v (mdl m (gs s (B + i) b) h) else some (.inr (v, mdl m (gs s (B + i) b) h)) := by
  have ci := txt_32 hG T
  have hN := T.2.2.1
  unfold lb_X5_sumOf_6 f_X5_sign isAdd
  simp only [md_gI20, Option.bind_some, gs_20, md_ce, m_codeAt hG T h0 (show i ≤ 10000 by omega), show (100 : Int) + 43 = 143 from rfl, show (100 : Int) + 45 = 145 from rfl, show i2 143 = 143 by decide, show i2 145 = 145 by decide, ci, Option.map_some]
  by_cases k1 : c i = 143
  · simp [k1]
  · by_cases k2 : c i = 145
    · simp [k2]
    · simp [k1, k2]
theorem m_sumTail {part : Int → Int → PR Dn} (hG : G32 s) (T : TxtM s B N o c w) (hE : EB e) (hpk : PkN m s h B N e part g1) : ∀ (n : Nat) (i lv : Int) (F : Dn) (j lv' : Int) (F' : Dn), pTl c isAdd jS part n i lv F = .inr (j, lv', F') → 51 - lv ≤ n → 0 ≤ lv → lv ≤ 50 → 0 ≤ i → i ≤ N → FB F → (∀ live b : Int, (live = 0 ∨ live = 1) → (b = 0 ∨ b = 1) → ax_iter (fun s : Int × ax_H => lb_X5_sumOf_6 E g0 g1 g2 (some m) live s.1 s.2) ((evP live b (F e)).1, mdl m (gs s (B + i) (evP live b (F e)).2) h) = some ((evP live b (F' e)).1, mdl m (gs s (B + j) (evP live b (F' e)).2) h)) ∧ FB F' ∧ i ≤ j ∧ j ≤ N ∧ lv ≤ lv' ∧ lv' ≤ 50 := by
  intro n
  induction n with
  | zero => intro i lv F j lv' F' _ h1 h20 h2; omega
  | succ n ih =>
    intro i lv F j lv' F' hp h1 h20 h2 h3 h4 hF
    have ci : ∀ k, c k ≠ 0 → 0 ≤ k ∧ k < N := by
      intro k hk
      rw [T.2.2.2.1] at hk
      exact cut_ne hk
    unfold pTl at hp
    by_cases hk : isAdd (c i) = true
    · rw [if_pos hk] at hp
      have hk3 := of_decide_eq_true hk
      have hiN := ci i (by omega)
      cases hq : part (i + 1) lv with
      | inl t => rw [hq] at hp; cases hp
      | inr q =>
        obtain ⟨j1, l1, G⟩ := q
        rw [hq] at hp
        simp only at hp
        obtain ⟨go, fb, p1, p2, p3, p4⟩ := hpk (i + 1) lv j1 l1 G hq (by omega) h20 h2
        obtain ⟨run, q1, q2, q3, q4, q5⟩ := ih j1 l1 _ j lv' F' hp (by omega) (by omega) p4 (by omega) p2 (hF.join _ fb)
        refine ⟨?_, q1, by omega, q3, by omega, q5⟩
        intro live b hl hb
        refine Eq.trans (it_step (s' := ((evP live b (jS (c i) F G e)).1, mdl m (gs s (B + j1) (evP live b (jS (c i) F G e)).2) h)) ?_) (run live b hl hb)
        simp only
        rw [m_lbS hG T h3 h4, if_pos hk]
        exact m_38 hG T hE h3 hiN.2 hk3 hF fb go live b hl hb
    · rw [if_neg hk] at hp
      cases hp
      refine ⟨?_, hF, Int.le_refl _, h4, Int.le_refl _, h2⟩
      intro live b hl hb
      refine it_done ?_
      simp only
      rw [m_lbS hG T h3 h4, if_neg hk]
theorem m_sum {part : Int → Int → PR Dn} (hG : G32 s) (T : TxtM s B N o c w) (hE : EB e) (hpk : PkN m s h B N e part g1) : PkN m s h B N e (pRow c isAdd jS part) (f_X5_sumOf E g0 g1 g2) := by
  intro i lv j lv' F hp h0 hlv0 hlv
  unfold pRow at hp
  cases hq : part i lv with
  | inl t => rw [hq] at hp; cases hp
  | inr q =>
    obtain ⟨j1, l1, G⟩ := q
    rw [hq] at hp
    simp only at hp
    obtain ⟨go, fb, p1, p2, p3, p4⟩ := hpk i lv j1 l1 G hq h0 hlv0 hlv
    obtain ⟨run, q1, q2, q3, q4, q5⟩ := m_sumTail (E := E) (g0 := g0) (g2 := g2) hG T hE hpk 51 j1 l1 G j lv' F hp (by omega) (by omega) p4 (by omega) p2 fb
    refine ⟨?_, q1, by omega, q3, by omega, q5⟩
    intro live b hl hb
    unfold f_X5_sumOf f_X5_sumOf_6
    rw [md_ce, Option.bind_some, go live b hl hb, Option.bind_some]
    exact run live b hl hb
end
/-- sums, with so many brackets left -/
theorem m_sums {E : ax_E} {m : Nat} {s : Sg} {h : ax_H} {B N o : Int} {c w : Rw} {e : Ev} (hG : G32 s) (T : TxtM s B N o c w) (hV : EnvM s o e) (hE : EB e) (hR : RV (s 2 152) (s 2)) (h152 : 0 ≤ s 2 152 ∧ s 2 152 ≤ 7) : ∀ (r n : Nat), 3 * r + 3 ≤ n → PkN m s h B N e (pS o c w r) (rg_X5_partOf E n).2.2 := by
  have main : ∀ (ps : Option (Int → Int → PR Dn)) (n : Nat), (∀ f, ps = some f → PkN m s h B N e f (rg_X5_partOf E n).2.2) → PkN m s h B N e (pSumN o c w ps) (rg_X5_partOf E (n + 3)).2.2 := by
    intro ps n hps
    have l1 : PkN m s h B N e (pPart o c w ps) (rg_X5_partOf E (n + 1)).1 := m_leaf hG T hV hR h152 hps
    have l2 : PkN m s h B N e (pTerm o c w ps) (rg_X5_partOf E (n + 2)).2.1 := m_term hG T hE l1
    exact m_sum hG T hE l2
  intro r
  induction r with
  | zero =>
    intro n hn
    obtain ⟨k, rfl⟩ : ∃ k, n = k + 3 := ⟨n - 3, by omega⟩
    rw [pS_eq]
    exact main none k (fun f hf => by cases hf)
  | succ r ih =>
    intro n hn
    obtain ⟨k, rfl⟩ : ∃ k, n = k + 3 := ⟨n - 3, by omega⟩
    rw [pS_eq]
    refine main _ k ?_
    intro f hf
    cases hf
    exact ih k (by omega)
