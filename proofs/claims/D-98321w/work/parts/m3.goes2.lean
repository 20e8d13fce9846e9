/-! Orders: the model goes along one: its test, how often -/
set_option maxRecDepth 100000
section
variable {E : ax_E} {m : Nat} {s X : Sg} {h : ax_H} {N i j lv lv' live k v n x3 x4 d : Int} {c w : Rw} {e : Ev} {F : Dn} {G : Dt} {C : Od}
theorem TxO.ne (T : TxO (s 2) N c w) (hc : c i ≠ 0) : 0 ≤ i ∧ i < N := by
  rw [T.2.1] at hc
  exact cut_ne hc
/-- a test of an order -/
theorem m_go214 (A : GA s N e i X) (T : TxO (s 2) N c w) (h1 : e.2.1 = purseS (s 2)) (h2 : e.2.2 = owedS (s 2)) (hE : EB e) (hK : KB (s 2)) (hp : pIf 1 c w i lv = .inr (j, lv', G)) (h0 : 0 ≤ i) (hiN : i ≤ N) (l0 : 0 ≤ lv) (l1 : lv ≤ 50) (hl : live = 0 ∨ live = 1) : (i ≤ j ∧ j ≤ N ∧ lv ≤ lv' ∧ lv' ≤ 50) ∧ ∃ X', f_X5_goesAlong_214 E (some m) live (mdl m X h) = some (mdl m X' h) ∧ GA s N e (j + 1) X' ∧ X' 0 51 = X 0 51 ∧ X' 0 52 = X 0 52 ∧ X' 0 53 = X 0 53 ∧ X' 28 = X 28 ∧ (live = 1 → X' 0 54 = if G e = some true then 1 else 0) := by
  have hR := hK.2.2.2.2
  have hN := T.1
  obtain ⟨X1, e1⟩ : ∃ X1, X1 = sw X 0 (u1 (X 0) 22 0) := ⟨_, rfl⟩
  have A1 : GA s N e i X1 := by rw [e1]; exact A.w0 (Or.inl rfl) (by decide)
  have z22 : X1 0 22 = 0 := by rw [e1, sw_eq, u1_eq]
  have y1 : ∀ q : Int, q ≠ 22 → X1 0 q = X 0 q := fun q hq => by rw [e1, sw_eq, u1_ne _ hq]
  have y28 : X1 28 = X 28 := by rw [e1, sw_ne _ (by decide)]
  -- how it ends
  have f264 : ∀ (Y : Sg) (t : Int) (dd : Int), GA s N e t Y → 0 ≤ t → t ≤ N → (dd = 0 ∨ dd = 1) → ∃ Y', f_X5_goesAlong_264 E (some m) (some m) dd (mdl m Y h) = some (mdl m Y' h) ∧ GA s N e (t + 1) Y' ∧ Y' 0 51 = Y 0 51 ∧ Y' 0 52 = Y 0 52 ∧ Y' 0 53 = Y 0 53 ∧ Y' 28 = Y 28 ∧ Y' 0 54 = dd := by
    intro Y t dd AY t0 t1 hd
    obtain ⟨Z, eZ⟩ : ∃ Z, Z = sw Y 0 (u1 (Y 0) 54 dd) := ⟨_, rfl⟩
    have AZ : GA s N e t Z := by rw [eZ]; exact AY.w0 (by omega) (by rcases hd with z | z <;> rw [z] <;> decide)
    have g20 := AZ.2.1
    refine ⟨sw Z 0 (u1 (Z 0) 20 (2400 + (t + 1))), ?_, AZ.to (by omega), ?_, ?_, ?_, ?_, ?_⟩
    · unfold f_X5_goesAlong_264
      rw [if_pos hd, md_pI54, Option.bind_some, ← eZ, md_gI20, Option.bind_some, g20, md_pI20, Option.bind_some, show 2400 + t + 1 = 2400 + (t + 1) by omega]
    · rw [sw_eq, u1_ne _ (by decide), eZ, sw_eq, u1_ne _ (by decide)]
    · rw [sw_eq, u1_ne _ (by decide), eZ, sw_eq, u1_ne _ (by decide)]
    · rw [sw_eq, u1_ne _ (by decide), eZ, sw_eq, u1_ne _ (by decide)]
    · rw [sw_ne _ (by decide), eZ, sw_ne _ (by decide)]
    · rw [sw_eq, u1_ne _ (by decide), eZ, sw_eq, u1_eq]
  have f241 : ∀ (Y : Sg) (t : Int) (dd b : Int), GA s N e t Y → 0 ≤ t → t ≤ N → (dd = 0 ∨ dd = 1) → Y 0 22 = b → (b = 0 ∨ b = 1) → ∃ Y', f_X5_goesAlong_241 E (some m) (some m) dd (mdl m Y h) = some (mdl m Y' h) ∧ GA s N e (t + 1) Y' ∧ Y' 0 51 = Y 0 51 ∧ Y' 0 52 = Y 0 52 ∧ Y' 0 53 = Y 0 53 ∧ Y' 28 = Y 28 ∧ Y' 0 54 = if dd = 1 ∧ b = 0 then 1 else 0 := by
    intro Y t dd b AY t0 t1 hd hb hb2
    obtain ⟨Z, eZ⟩ : ∃ Z, Z = sw Y 0 (u1 (Y 0) 54 dd) := ⟨_, rfl⟩
    have AZ : GA s N e t Z := by rw [eZ]; exact AY.w0 (by omega) (by rcases hd with z | z <;> rw [z] <;> decide)
    have k54 : Z 0 54 = dd := by rw [eZ, sw_eq, u1_eq]
    have kk : ∀ q : Int, q ≠ 54 → Z 0 q = Y 0 q := fun q hq => by rw [eZ, sw_eq, u1_ne _ hq]
    have k28 : Z 28 = Y 28 := by rw [eZ, sw_ne _ (by decide)]
    have fin : ∀ dd' : Int, (dd' = 0 ∨ dd' = 1) → ∃ Y', f_X5_goesAlong_264 E (some m) (some m) dd' (mdl m Z h) = some (mdl m Y' h) ∧ GA s N e (t + 1) Y' ∧ Y' 0 51 = Y 0 51 ∧ Y' 0 52 = Y 0 52 ∧ Y' 0 53 = Y 0 53 ∧ Y' 28 = Y 28 ∧ Y' 0 54 = dd' := by
      intro dd' hd'
      obtain ⟨Y', p1, p2, p3, p4, p5, p6, p7⟩ := f264 Z t dd' AZ t0 t1 hd'
      exact ⟨Y', p1, p2, p3.trans (kk 51 (by decide)), p4.trans (kk 52 (by decide)), p5.trans (kk 53 (by decide)), p6.trans k28, p7⟩
    unfold f_X5_goesAlong_241 f_X5_goesAlong_263
    rw [if_pos hd, md_pI54, Option.bind_some, ← eZ, md_gI54, Option.bind_some, k54]
    rcases hd with z | z
    · obtain ⟨Y', p⟩ := fin 0 (Or.inl rfl)
      rw [if_pos (by rw [z]; decide), if_neg (show ¬ (dd = 1 ∧ b = 0) by omega)]
      exact ⟨Y', p⟩
    · rw [if_neg (by rw [z]; decide), md_gI22, Option.bind_some, kk 22 (by decide), hb]
      rcases hb2 with y | y
      · obtain ⟨Y', p⟩ := fin 1 (Or.inr rfl)
        rw [if_pos (by rw [y]; decide), if_pos (show dd = 1 ∧ b = 0 by omega)]
        exact ⟨Y', p⟩
      · obtain ⟨Y', p⟩ := fin 0 (Or.inl rfl)
        rw [if_neg (by rw [y]; decide), if_neg (show ¬ (dd = 1 ∧ b = 0) by omega)]
        exact ⟨Y', p⟩
  have ps := m_passes (E := E) (m := m) (h := h) (v := 5) (i := i) (b := 0) A1.1.2.2 (A1.txt T) h0 (by omega) (by decide)
  rw [A1.self z22] at ps
  unfold f_X5_goesAlong_214 f_X5_goesAlong_236
  unfold fn_X5_testOf
  rw [if_pos (Or.inl rfl), md_pI22, Option.bind_some, ← e1, md_ce, Option.bind_some, ps, Option.bind_some]
  unfold pIf at hp
  by_cases c5 : c i = 5
  · rw [if_pos c5] at hp
    have hi := T.ne (i := i) (by omega)
    obtain ⟨go, g1, g2, g3, g4⟩ := m_tests (E := E) (m := m) (h := h) A1.1.2.2 (A1.txt T) (A1.env h1 h2 hR) hE (by rw [A1.1.k2]; exact hR) (by rw [A1.1.k2]; exact hK.1) 8 64 (by omega) (by omega) (i + 1) lv j lv' G hp (by omega) (by omega) l0 l1
    obtain ⟨v, t1, t2, t3⟩ := go live 0 hl (Or.inl rfl)
    refine ⟨⟨by omega, g2, by omega, g4⟩, ?_⟩
    have hb : evB live 0 (G e) = 0 ∨ evB live 0 (G e) = 1 := by
      unfold evB
      split
      · cases G e with
        | none => exact Or.inr rfl
        | some t => exact Or.inl rfl
      · exact Or.inl rfl
    obtain ⟨X2, e2⟩ : ∃ X2, X2 = gs X1 (2400 + j) (evB live 0 (G e)) := ⟨_, rfl⟩
    have A2 : GA s N e j X2 := by rw [e2]; exact GA_gs A1 (by omega) hb
    have x22 : X2 0 22 = evB live 0 (G e) := by rw [e2, gs_22]
    have kk : ∀ q : Int, q ≠ 20 → q ≠ 22 → X2 0 q = X 0 q := fun q q1 q2 => by rw [e2, gs_0 q1 q2, y1 q q2]
    have k28 : X2 28 = X 28 := by rw [e2, gs_o (by decide)]; exact y28
    dsimp only
    rw [if_neg (by rw [b01_z]; simp [c5]), if_pos c5, md_ce, Option.bind_some, show 2400 + i + 1 = 2400 + (i + 1) by omega, t1, Option.bind_some]
    dsimp only
    rw [← e2]
    have last : ∀ dd : Int, v = dd → (dd = 0 ∨ dd = 1) → ∃ X', f_X5_goesAlong_241 E (some m) (some m) dd (mdl m X2 h) = some (mdl m X' h) ∧ GA s N e (j + 1) X' ∧ X' 0 51 = X 0 51 ∧ X' 0 52 = X 0 52 ∧ X' 0 53 = X 0 53 ∧ X' 28 = X 28 ∧ (live = 1 → X' 0 54 = if G e = some true then 1 else 0) := by
      intro dd hv hd
      obtain ⟨X', p1, p2, p3, p4, p5, p6, p7⟩ := f241 X2 j dd _ A2 (by omega) g2 hd x22 hb
      refine ⟨X', p1, p2, p3.trans (kk 51 (by decide) (by decide)), p4.trans (kk 52 (by decide) (by decide)), p5.trans (kk 53 (by decide) (by decide)), p6.trans k28, fun hl1 => ?_⟩
      rw [p7]
      cases hG : G e with
      | none =>
        have : evB live 0 (none : Option Bool) = 1 := by rw [hl1]; rfl
        rw [this, if_neg (by omega), if_neg (by decide)]
      | some t =>
        have q : evB live 0 (some t) = 0 := by rw [hl1]; rfl
        have r := t3 hl1 rfl t hG
        rw [q, ← hv, r]
        cases t <;> decide
    rcases t2 with z | z
    · rw [z, if_pos (by decide)]
      exact last 0 z (Or.inl rfl)
    · rw [z, if_neg (by decide)]
      exact last 1 z (Or.inr rfl)
  · rw [if_neg c5] at hp
    cases hp
    refine ⟨⟨Int.le_refl _, hiN, Int.le_refl _, l1⟩, ?_⟩
    dsimp only
    rw [if_pos (by rw [b01_z]; exact c5), if_neg c5, A1.self z22]
    obtain ⟨X', p1, p2, p3, p4, p5, p6, p7⟩ := f241 X1 i 1 0 A1 h0 hiN (Or.inr rfl) z22 (Or.inl rfl)
    exact ⟨X', p1, p2, p3.trans (y1 51 (by decide)), p4.trans (y1 52 (by decide)), p5.trans (y1 53 (by decide)), p6.trans y28, fun _ => p7⟩
/-- behind the sums -/
theorem m_goEnd (A : GA s N e i X) (T : TxO (s 2) N c w) (h1 : e.2.1 = purseS (s 2)) (h2 : e.2.2 = owedS (s 2)) (hE : EB e) (hK : KB (s 2)) (hp : pEnd c w i lv = .inr (j, lv', n, G)) (h0 : 0 ≤ i) (hiN : i ≤ N) (l0 : 0 ≤ lv) (l1 : lv ≤ 50) (hl : live = 0 ∨ live = 1) (hx : x4 = x3 ∧ 0 ≤ x3 ∧ x3 ≤ 3) : (i ≤ j ∧ j ≤ N ∧ lv ≤ lv' ∧ lv' ≤ 50) ∧ (1 ≤ n ∧ n ≤ 20) ∧ ∃ X', lb_X5_goesAlong_106 E (some m) live x3 x4 (mdl m X h) = some (.inr (mdl m X' h)) ∧ GA s N e (j + 1) X' ∧ X' 0 51 = n ∧ X' 0 52 = X 0 52 ∧ X' 0 53 = X 0 53 ∧ X' 28 = X 28 ∧ (live = 1 → X' 0 54 = if G e = some true then 1 else 0) := by
  have hN := T.1
  obtain ⟨X1, e1⟩ : ∃ X1, X1 = sw X 0 (u1 (X 0) 51 1) := ⟨_, rfl⟩
  have A1 : GA s N e i X1 := by rw [e1]; exact A.w0 (by omega) (by decide)
  have k51 : X1 0 51 = 1 := by rw [e1, sw_eq, u1_eq]
  have kk : ∀ q : Int, q ≠ 51 → X1 0 q = X 0 q := fun q hq => by rw [e1, sw_eq, u1_ne _ hq]
  have k28 : X1 28 = X 28 := by rw [e1, sw_ne _ (by decide)]
  have ps := m_passes (E := E) (m := m) (h := h) (v := 29) (i := i) (b := X1 0 22) A1.1.2.2 (A1.txt T) h0 (by omega) (by decide)
  rw [A1.self rfl] at ps
  have pre : lb_X5_goesAlong_106 E (some m) live x3 x4 (mdl m X h) = (if i2 (b01 (c i = 29)) = 0 then f_X5_goesAlong_214 E (some m) live (mdl m (gs X1 (if c i = 29 then 2400 + i + 1 else 2400 + i) (X1 0 22)) h) else
      (ax_gR E (mdl m (gs X1 (if c i = 29 then 2400 + i + 1 else 2400 + i) (X1 0 22)) h) (some m) 5 2).bind fun v5 =>
      (ax_gI E (mdl m (gs X1 (if c i = 29 then 2400 + i + 1 else 2400 + i) (X1 0 22)) h) (some m) 5 20).bind fun v6 =>
      (ax_ld E (mdl m (gs X1 (if c i = 29 then 2400 + i + 1 else 2400 + i) (X1 0 22)) h) v5 100 (2964 + v6)).bind fun v7 =>
      (ax_pI (mdl m (gs X1 (if c i = 29 then 2400 + i + 1 else 2400 + i) (X1 0 22)) h) (some m) 5 51 v7).bind fun h8 =>
      (ax_gI E h8 (some m) 5 20).bind fun v9 =>
      (ax_pI h8 (some m) 5 20 (v9 + 1)).bind fun h10 =>
      f_X5_goesAlong_214 E (some m) live h10).map Sum.inr := by
    unfold lb_X5_goesAlong_106
    rw [if_neg (by rw [hx.1]; exact Int.lt_irrefl _), md_pI51, Option.bind_some, ← e1, md_ce, Option.bind_some, ps, Option.bind_some]
  rw [pre]
  unfold pEnd pTimes at hp
  by_cases c29 : c i = 29
  · rw [if_pos c29] at hp
    have hi := T.ne (i := i) (by omega)
    by_cases c50 : c (i + 1) = 50 ∧ 1 ≤ w (i + 1) ∧ w (i + 1) ≤ 20
    · rw [if_pos c50] at hp
      have hi1 := T.ne (i := i + 1) (by omega)
      simp only at hp
      cases hI : pIf 1 c w (i + 2) lv with
      | inl t => rw [hI] at hp; cases hp
      | inr vv =>
        obtain ⟨k', lv2, G'⟩ := vv
        rw [hI] at hp
        cases hp
        obtain ⟨X2, e2⟩ : ∃ X2, X2 = gs X1 (2400 + (i + 1)) (X1 0 22) := ⟨_, rfl⟩
        have wv : s 2 (2964 + (2400 + (i + 1))) = w (i + 1) := by
          rw [T.2.2.1]
          unfold cut
          rw [if_pos ⟨by omega, by omega⟩]
          show s 2 _ = s 2 _
          congr 1
          omega
        have A2 : GA s N e (i + 1) X2 := by
          have q := A1.to (j := i + 1) (by omega)
          rw [e2]
          unfold gs
          rw [show u1 (u1 (X1 0) 20 (2400 + (i + 1))) 22 (X1 0 22) = u1 (X1 0) 20 (2400 + (i + 1)) by
            have := u1_self (u1 (X1 0) 20 (2400 + (i + 1))) 22
            rw [u1_ne _ (by decide)] at this
            exact this]
          exact q
        obtain ⟨X3, e3⟩ : ∃ X3, X3 = sw X2 0 (u1 (X2 0) 51 (w (i + 1))) := ⟨_, rfl⟩
        have A3 : GA s N e (i + 1) X3 := by rw [e3]; exact A2.w0 (by omega) (i2_of (by omega) (by omega))
        obtain ⟨X4, e4⟩ : ∃ X4, X4 = sw X3 0 (u1 (X3 0) 20 (2400 + (i + 2))) := ⟨_, rfl⟩
        have A4 : GA s N e (i + 2) X4 := by rw [e4]; exact A3.to (by omega)
        have j51 : X4 0 51 = w (i + 1) := by rw [e4, sw_eq, u1_ne _ (by decide), e3, sw_eq, u1_eq]
        have jj : ∀ q : Int, q ≠ 20 → q ≠ 22 → q ≠ 51 → X4 0 q = X 0 q := fun q q1 q2 q3 => by rw [e4, sw_eq, u1_ne _ q1, e3, sw_eq, u1_ne _ q3, e2, gs_0 q1 q2, kk q q3]
        have j28 : X4 28 = X 28 := by rw [e4, sw_ne _ (by decide), e3, sw_ne _ (by decide), e2, gs_o (by decide)]; exact k28
        obtain ⟨⟨r1, r2, r3, r4⟩, X', p1, p2, p3, p4, p5, p6, p7⟩ := m_go214 (E := E) (m := m) (h := h) A4 T h1 h2 hE hK hI (by omega) (by omega) l0 l1 hl
        refine ⟨⟨by omega, r2, r3, r4⟩, c50.2, X', ?_, p2, p3.trans j51, p4.trans (jj 52 (by decide) (by decide) (by decide)), p5.trans (jj 53 (by decide) (by decide) (by decide)), p6.trans j28, p7⟩
        rw [if_neg (by rw [b01_z]; simp [c29]), if_pos c29, show 2400 + i + 1 = 2400 + (i + 1) by omega, ← e2, md_gR2, Option.bind_some, md_gI20, Option.bind_some, A2.2.1, md_ld2 (by omega) (by omega), Option.bind_some, A2.1.k2, wv, md_pI51, Option.bind_some, ← e3, md_gI20, Option.bind_some, A3.2.1, md_pI20, Option.bind_some, show 2400 + (i + 1) + 1 = 2400 + (i + 2) by omega, ← e4, p1]
        rfl
    · rw [if_neg c50] at hp
      cases hp
  · rw [if_neg c29] at hp
    simp only at hp
    cases hI : pIf 1 c w i lv with
    | inl t => rw [hI] at hp; cases hp
    | inr vv =>
      obtain ⟨k', lv2, G'⟩ := vv
      rw [hI] at hp
      cases hp
      obtain ⟨r, X', p1, p2, p3, p4, p5, p6, p7⟩ := m_go214 (E := E) (m := m) (h := h) A1 T h1 h2 hE hK hI h0 hiN l0 l1 hl
      refine ⟨r, by decide, X', ?_, p2, p3.trans k51, p4.trans (kk 52 (by decide)), p5.trans (kk 53 (by decide)), p6.trans k28, p7⟩
      rw [if_pos (by rw [b01_z]; exact c29), if_neg c29, A1.self rfl, p1]
      rfl
end
