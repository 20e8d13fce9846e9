/-! A month: the model's day, whole, and the loop of days -/
set_option maxRecDepth 100000
section
variable {E : ax_E} {m : Nat} {h : ax_H}
theorem m_moStep {sB s1 : Sg} {n B x2 x5 : Int} {a : Int × Int × Int × Rw} (Q : MoA (sB 2) B a) (hB : B ≤ 100000) (H : MoS sB a.2.2.1 a.2.2.2 s1) (hn : n = sB 2 152) (h59 : sB 0 59 = n) (h1 : 1 ≤ n ∧ n ≤ 7) (h2 : i2 x2 = x2) (h5 : 0 ≤ x5 ∧ x5 ≤ 100) (c : x5 < x2) (on : ¬ a.2.1 = 0) : ∃ s2, lb_X5_month_67 E (some m) x2 a.1 a.2.1 x5 (mdl m s1 h) = some (.inl ((moStep n a).1, (moStep n a).2.1, x5 + 1, mdl m s2 h)) ∧ MoS sB (moStep n a).2.2.1 (moStep n a).2.2.2 s2 := by
  have ei : i2 a.2.1 = a.2.1 := by
    rcases Q.2 with z | z <;> rw [z] <;> decide
  have Q2 := moLend_Q Q.1 hn h1.1
  have eqS : moStep n a = moDay (moRep n (moLend n (a.1, a.2.2.1, a.2.2.2))) := rfl
  rw [eqS]
  obtain ⟨lent, on', L, K⟩ := a
  obtain ⟨⟨qa, b, V⟩, -⟩ := Q
  dsimp only at qa b V H on ei Q2 ⊢
  have e152 := V.2.2 152 (by decide)
  have hR := V.1.1.2.2.2.2
  have h71 := hR.1
  have b3 := mL_b (mL (mL L))
  have g0 := Int.emod_nonneg (mL L) (show n ≠ 0 by omega)
  have g1 := Int.emod_lt_of_pos (mL L) (show 0 < n by omega)
  have r0 := Int.emod_nonneg (mL (mL L)) (show n ≠ 0 by omega)
  have r1 := Int.emod_lt_of_pos (mL (mL L)) (show 0 < n by omega)
  obtain ⟨sa, pa, Ha⟩ := m_drawM (E := E) (m := m) (h := h) H b (n := n) (by omega)
  obtain ⟨sb, pb, Hb⟩ := m_drawM (E := E) (m := m) (h := h) Ha (mL_b L) (n := n) (by omega)
  obtain ⟨sc, pc, Hc⟩ := m_drawM (E := E) (m := m) (h := h) Hb (mL_b (mL L)) (n := 50) (by omega)
  obtain ⟨g, eg⟩ : ∃ g, g = mL L % n := ⟨_, rfl⟩
  obtain ⟨r, er⟩ : ∃ r, r = mL (mL L) % n := ⟨_, rfl⟩
  obtain ⟨am, ea⟩ : ∃ am, am = mL (mL (mL L)) % 50 + 1 := ⟨_, rfl⟩
  have ba : 1 ≤ am ∧ am ≤ 50 := by omega
  have pc' : f_X5_draws E (some m) 50 (mdl m sb h) = some (am - 1, mdl m sc h) := by rw [pc, ea, Int.add_sub_cancel]
  clear pc
  rw [← eg] at pa g0 g1
  rw [← er] at pb r0 r1
  have eM : moLend n (lent, L, K) = if g ≠ r ∧ am ≤ K g ∧ K r + am ≤ 9999 ∧ K 71 ≤ 15 then (lent + am, mL (mL (mL L)), lendsS K g r am) else (lent, mL (mL (mL L)), K) := by
    unfold moLend
    rw [eg, er, ea]
  have Hc2 := Hc.2.2.1
  have cL := m_canLend (E := E) (m := m) (h := h) (s := sc) (g := g) (t := r) (a := am) Hc.2.1 (by rw [Hc2]; exact hR) ⟨g0, by omega⟩ ⟨r0, by omega⟩ (by omega)
  rw [Hc2] at cL
  unfold lb_X5_month_67
  rw [h2, i2_of (a := x5) (by omega) (by omega), if_pos c, ei, if_neg on, md_gI59, Option.bind_some, H.2.2.2.2, h59, md_ce, Option.bind_some, pa, Option.bind_some]
  dsimp only
  rw [md_gI59, Option.bind_some, Ha.2.2.2.2, h59, md_ce, Option.bind_some, pb, Option.bind_some]
  dsimp only
  rw [md_ce, Option.bind_some, pc', Option.bind_some]
  dsimp only
  rw [Int.sub_add_cancel, md_ce, Option.bind_some, cL, Option.bind_some]
  dsimp only
  by_cases c1 : g ≠ r ∧ am ≤ K g ∧ K r + am ≤ 9999
  · rw [if_neg (by rw [b01_z]; exact fun z => z c1), md_ce, Option.bind_some, m_debts, Option.bind_some]
    dsimp only
    rw [Hc2, i2_of (a := K 71) (by omega) (by omega), show i2 16 = 16 by decide]
    by_cases c2 : K 71 < 16
    · have e1 : moLend n (lent, L, K) = (lent + am, mL (mL (mL L)), lendsS K g r am) := by rw [eM, if_pos ⟨c1.1, c1.2.1, c1.2.2, by omega⟩]
      rw [e1] at Q2 ⊢
      rw [if_pos c2, md_ce, Option.bind_some, m_lends (s := sc) (by rw [Hc2]; exact hR) ⟨g0, by omega⟩ ⟨r0, by omega⟩ (by rw [Hc2]; omega), Option.bind_some, Hc2]
      exact m_moRep (q := (lent + am, mL (mL (mL L)), lendsS K g r am)) (B := B + 50) Q2 (Hc.act Q2.2.2.2.1) hn h59 h1 h5
    · have e1 : moLend n (lent, L, K) = (lent, mL (mL (mL L)), K) := by rw [eM, if_neg (fun z => c2 (by omega))]
      rw [e1] at Q2 ⊢
      rw [if_neg c2]
      exact m_moRep (q := (lent, mL (mL (mL L)), K)) (B := B + 50) Q2 Hc hn h59 h1 h5
  · have e1 : moLend n (lent, L, K) = (lent, mL (mL (mL L)), K) := by rw [eM, if_neg (fun z => c1 ⟨z.1, z.2.1, z.2.2.1⟩)]
    rw [e1] at Q2 ⊢
    rw [if_pos (by rw [b01_z]; exact c1)]
    exact m_moRep (q := (lent, mL (mL (mL L)), K)) (B := B + 50) Q2 Hc hn h59 h1 h5
/-- the days, one after another -/
theorem m_moRun {sB : Sg} {n x2 : Int} (hn : n = sB 2 152) (h59 : sB 0 59 = n) (h1 : 1 ≤ n ∧ n ≤ 7) (h2 : 0 ≤ x2 ∧ x2 ≤ 30) : ∀ (j : Nat) (a : Int × Int × Int × Rw) (s1 : Sg) (x5 B : Int), x5 + j = x2 → 0 ≤ x5 → B ≤ 50 * x5 → MoA (sB 2) B a → MoS sB a.2.2.1 a.2.2.2 s1 → ∃ s2, MoS sB (moRun n j a).2.2.1 (moRun n j a).2.2.2 s2 ∧ ∀ r, f_X5_month_229 E (some m) (moRun n j a).1 (mdl m s2 h) = some r → ax_iter (fun s : Int × Int × Int × ax_H => lb_X5_month_67 E (some m) x2 s.1 s.2.1 s.2.2.1 s.2.2.2) (a.1, a.2.1, x5, mdl m s1 h) = some r := by
  intro j
  induction j with
  | zero =>
    intro a s1 x5 B e x0 hB Q H
    refine ⟨s1, H, fun r hr => ?_⟩
    have hr' : f_X5_month_229 E (some m) a.1 (mdl m s1 h) = some r := hr
    refine it_done ?_
    dsimp only
    unfold lb_X5_month_67
    rw [i2_of (a := x5) (by omega) (by omega), i2_of (a := x2) (by omega) (by omega), if_neg (by omega), hr']
    rfl
  | succ j ih =>
    intro a s1 x5 B e x0 hB Q H
    by_cases on : a.2.1 = 0
    · have e1 : moRun n (j + 1) a = a := by
        show (if a.2.1 = 0 then a else _) = a
        rw [if_pos on]
      rw [e1]
      refine ⟨s1, H, fun r hr => ?_⟩
      refine it_done ?_
      dsimp only
      unfold lb_X5_month_67
      rw [i2_of (a := x5) (by omega) (by omega), i2_of (a := x2) (by omega) (by omega), if_pos (by omega), on, if_pos (by decide), hr]
      rfl
    · have e1 : moRun n (j + 1) a = moRun n j (moStep n a) := by
        show (if a.2.1 = 0 then a else _) = _
        rw [if_neg on]
      rw [e1]
      obtain ⟨s2, p2, H2⟩ := m_moStep (E := E) (m := m) (h := h) Q (by omega) H hn h59 h1 (i2_of (by omega) (by omega)) (x5 := x5) (x2 := x2) (by omega) (by omega) on
      obtain ⟨s3, H3, k3⟩ := ih (moStep n a) s2 (x5 + 1) (B + 50) (by omega) (by omega) (by omega) (moStep_A Q hn h1.1) H2
      exact ⟨s3, H3, fun r hr => (it_step (body := fun s : Int × Int × Int × ax_H => lb_X5_month_67 E (some m) x2 s.1 s.2.1 s.2.2.1 s.2.2.2) (s := (a.1, a.2.1, x5, mdl m s1 h)) p2).trans (k3 r hr)⟩
end
