/-! THE MODEL: what is told, how deep one gets -/
set_option maxRecDepth 100000
/-- nothing has changed but where it goes in a text, and what is asked -/
def Es (s s' : Sg) : Prop := (∀ o : Nat, o ≠ 0 → o ≠ 12 → s' o = s o) ∧ (∀ k : Int, k ≠ 20 → k ≠ 21 → k ≠ 22 → k ≠ 23 → s' 0 k = s 0 k) ∧ (G32 s → G32 s')
theorem Es.refl (s : Sg) : Es s s := ⟨fun _ _ _ => rfl, fun _ _ _ _ _ => rfl, id⟩
theorem Es.trans {s s1 s2 : Sg} (p : Es s s1) (q : Es s1 s2) : Es s s2 := ⟨fun o h1 h2 => (q.1 o h1 h2).trans (p.1 o h1 h2), fun k h1 h2 h3 h4 => (q.2.1 k h1 h2 h3 h4).trans (p.2.1 k h1 h2 h3 h4), fun g => q.2.2 (p.2.2 g)⟩
theorem Es.k {s s' : Sg} (p : Es s s') : s' 2 = s 2 := p.1 2 (by decide) (by decide)
/-- a text as it must be -/
def LwV (K : Rw) (t : Int) : Prop := (0 ≤ K (157 + t) ∧ K (157 + t) ≤ 400) ∧ (∀ k, 0 ≤ valuesS K t k) ∧ ∃ L, lawAt K t = .inr L
/-- all texts that were told -/
def LsV (K : Rw) : Prop := ∀ t : Int, 0 ≤ t → t < K 155 → LwV K t
section
variable {E : ax_E} {m : Nat} {s : Sg} {h : ax_H} {B N : Int} {c w : Rw} {e : Ev}
theorem m_lawLoop {hd hi : Int} (hG : G32 s) (T : TxtM s B N 0 c w) (hV : EnvM s 0 e) (hE : EB e) (hR : RV (s 2 152) (s 2)) (h152 : 0 ≤ s 2 152 ∧ s 2 152 ≤ 7) (hhi : 0 ≤ hi ∧ hi ≤ 100000) (hhd : i2 hd = hd) : ∀ (n : Nat) (i lv : Int) (L : List Cl) (told b : Int), pAll c N (pClause c w) n i lv = .inr L → 0 ≤ i → i ≤ N → 0 ≤ lv → lv ≤ 50 → ∃ g b', (0 ≤ g ∧ g ≤ 10000) ∧ (b' = 0 ∨ b' = 1) ∧ ax_iter (fun s : Int × ax_H => lb_X5_tells_65 E (some m) hd hi s.1 s.2) (told, mdl m (gs s (B + i) b) h) = some (L.foldl (tellF e hd hi) told, mdl m (gs s g b') h) := by
  have hN := T.2.2.1
  have hB := T.2.1
  have cN : ∀ k, c k ≠ 0 → 0 ≤ k ∧ k < N := by
    intro k hk
    rw [T.2.2.2.1] at hk
    exact cut_ne hk
  intro n
  induction n with
  | zero => intro i lv L told b hp; cases hp
  | succ n ih =>
    intro i lv L told b hp h0 hiN hl0 hl1
    unfold pAll at hp
    cases hf : pClause c w i lv with
    | inl t => rw [hf] at hp; cases hp
    | inr q =>
      obtain ⟨j, lv', cl⟩ := q
      rw [hf] at hp
      simp only at hp
      obtain ⟨⟨q1, q2, q3, q4⟩, run⟩ := m_clause (E := E) (m := m) (h := h) (hd := hd) (hi := hi) hG T hV hE hR h152 hf h0 hl0 hl1 hhi hhd
      obtain ⟨b1, hb1, e1⟩ := run told b
      by_cases h159 : c j = 159
      · rw [if_pos h159] at hp
        have hj := cN j (by omega)
        cases hf2 : pAll c N (pClause c w) n (j + 1) lv' with
        | inl t => rw [hf2] at hp; cases hp
        | inr L2 =>
          rw [hf2] at hp
          cases hp
          obtain ⟨g, b', hg, hb', e2⟩ := ih (j + 1) lv' L2 (tellF e hd hi told cl) b1 hf2 (by omega) (by omega) (by omega) q4
          refine ⟨g, b', hg, hb', ?_⟩
          rw [List.foldl_cons]
          exact (it_step e1).trans e2
      · rw [if_neg h159] at hp
        by_cases hjN : j < N
        · rw [if_pos hjN] at hp; cases hp
        · rw [if_neg hjN] at hp
          cases hp
          refine ⟨B + (j + 1), b1, by omega, hb1, ?_⟩
          refine (it_step e1).trans (it_done ?_)
          simp only [lb_X5_tells_65]
          rw [md_gI20, Option.bind_some, gs_20, md_gI21, Option.bind_some, gs_21, T.1, i2_of (by omega) (by omega), i2_of (by omega) (by omega), if_neg (by omega)]
          rfl
theorem m_tells {hd hi wo : Int} (hG : G32 s) (hK : KB (s 2)) (hL : LsV (s 2)) (hV : ∀ k : Int, 0 ≤ k → k < 10 → s 12 k = e.1 k) (hE : EB e) (hhi : 0 ≤ hi ∧ hi ≤ 100000) (hhd : i2 hd = hd) (hwo : i2 wo = wo) : ∃ s', f_X5_tells E (some m) hd hi wo (mdl m s h) = some (tellsS (lawNow (s 2)) e hd hi wo, mdl m s' h) ∧ Es s s' ∧ s' 12 = s 12 := by
  have n1 : i2 (-1) = -1 := by decide
  unfold f_X5_tells
  rw [md_gR2, Option.bind_some, md_ld2 (by omega) (by omega), Option.bind_some, n1, hG]
  by_cases hf : s 2 156 = -1
  · refine ⟨s, ?_, Es.refl s, rfl⟩
    rw [if_pos hf]
    unfold lawNow
    rw [if_pos hf]
    rfl
  · rw [if_neg hf]
    have hb : 0 ≤ s 2 156 ∧ s 2 156 < s 2 155 ∧ s 2 155 ≤ 6 := by
      rcases hK.2.2.1 with q | q
      · omega
      · exact absurd q.1 hf
    have hln : lawNow (s 2) = okL (lawAt (s 2) (s 2 156)) := by
      unfold lawNow
      rw [if_neg hf]
    obtain ⟨t, ht⟩ : ∃ t : Int, s 2 156 = t := ⟨_, rfl⟩
    rw [ht] at hb hln
    obtain ⟨l1, l2, L, l3⟩ := hL t hb.1 hb.2.1
    rw [l3] at hln
    have hG1 : G32 (sw s 0 (u1 (u1 (u1 (s 0) 23 0) 20 (400 * t)) 21 (400 * t + s 2 (157 + t)))) := G32_sw hG (u1_32 (u1_32 (u1_32 (hG 0) (by decide)) (i2_of (by omega) (by omega))) (i2_of (by omega) (by omega)))
    obtain ⟨s1, hs1⟩ : ∃ s1 : Sg, s1 = sw s 0 (u1 (u1 (u1 (s 0) 23 0) 20 (400 * t)) 21 (400 * t + s 2 (157 + t))) := ⟨_, rfl⟩
    rw [← hs1] at hG1
    have r2 : s1 2 = s 2 := by rw [hs1]; exact sw_ne _ (by decide)
    have r12 : s1 12 = s 12 := by rw [hs1]; exact sw_ne _ (by decide)
    have T : TxtM s1 (400 * t) (s 2 (157 + t)) 0 (codesS (s 2) t) (valuesS (s 2) t) := by
      refine ⟨?_, by omega, l1, ?_, ?_, ?_, Or.inl rfl, l2⟩
      · rw [hs1, sw_eq, u1_eq]
      · rw [r2]; rfl
      · rw [r2]; rfl
      · rw [hs1, sw_eq, u1_ne _ (by decide), u1_ne _ (by decide), u1_eq]
    have e20 : s1 0 20 = 400 * t + 0 := by rw [hs1, sw_eq, u1_ne _ (by decide), u1_eq, Int.add_zero]
    have hgs : gs s1 (400 * t + 0) (s1 0 22) = s1 := by rw [← e20]; exact gs_self s1
    have hV1 : EnvM s1 0 e := ⟨fun _ k k0 k1 => by rw [r12]; exact hV k k0 k1, fun n => absurd rfl n⟩
    obtain ⟨g, b', hg, hb', run⟩ := m_lawLoop (E := E) (m := m) (h := h) (hd := hd) (hi := hi) hG1 T hV1 hE (by rw [r2]; exact hK.2.2.2.2) (by rw [r2]; exact hK.1) hhi hhd 12 0 0 L wo (s1 0 22) l3 (by omega) (by omega) (by omega) (by omega)
    rw [hgs] at run
    refine ⟨gs s1 g b', ?_, ⟨fun o h1 h2 => ?_, fun k h1 h2 h3 h4 => ?_, fun _ => G32_gs hG1 (i2_of (by omega) (by omega)) (by rcases hb' with z | z <;> rw [z] <;> decide)⟩, ?_⟩
    · rw [if_pos (Or.inl rfl), md_pI23, Option.bind_some, md_gR2, Option.bind_some, md_ld2 (by omega) (by omega), Option.bind_some, sw_ne _ (by decide), ht, md_pI20, Option.bind_some, sw_eq, sw_sw, md_gI20, Option.bind_some, sw_eq, u1_eq, md_gR2, Option.bind_some, Option.bind_some, md_ld2 (by omega) (by omega), Option.bind_some, sw_ne _ (by decide), ht, md_ld2 (by omega) (by omega), Option.bind_some, sw_ne _ (by decide), md_pI21, Option.bind_some, sw_eq, sw_sw, ← hs1, hwo]
      unfold f_X5_tells_65
      rw [run, hln]
      rfl
    · rw [gs_o h1, hs1, sw_ne _ h1]
    · rw [gs_0 h1 h3, hs1, sw_eq, u1_ne _ h2, u1_ne _ h1, u1_ne _ h4]
    · rw [gs_12, r12]
end
