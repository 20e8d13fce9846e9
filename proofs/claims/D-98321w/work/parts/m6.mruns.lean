/-! Orders: the model runs one -/
set_option maxRecDepth 100000
theorem TxO.ac {s s' : Sg} {N : Int} {c w : Rw} (T : TxO (s 2) N c w) (A : Ac s s') : TxO (s' 2) N c w := by
  obtain ⟨t1, t2, t3, t4⟩ := T
  refine ⟨t1, ?_, ?_, t4⟩
  · rw [t2]
    exact cut_congr (fun k k0 k1 => (A.2.2 _ (by omega)).symm)
  · rw [t3]
    exact cut_congr (fun k k0 k1 => (A.2.2 _ (by omega)).symm)
section
variable {E : ax_E} {m : Nat} {s X Y : Sg} {h : ax_H} {N i j lv lv' k n d q r hd x1 x2 x3 : Int} {c w A B : Rw} {C : Od}
theorem m_141 (hr : -7 < r ∧ r ≤ 1000000) (e : Eo q A B s Y) (h52 : Y 0 52 = hd) (hh : hd = 24 ∨ hd = 25 ∨ hd = 26) (h48 : 0 ≤ s 0 48 ∧ s 0 48 ≤ 1000000) : ∃ X', f_X5_runs_141 E (some m) x1 x2 x3 k r (mdl m Y h) = (if r < 0 then some (.inr (r, mdl m X' h)) else some (.inl (k + 1, mdl m X' h))) ∧ Eo q A B (if r < 0 then s else doneS hd (r, s)) X' := by
  have e48 := e.k0 (k := 48) (Or.inl rfl)
  unfold f_X5_runs_141 f_X5_runs_166 f_X5_runs_176
  rw [i2_of (a := r) (by omega) (by omega)]
  by_cases c0 : r < 0
  · rw [if_pos c0, if_pos c0]
    exact ⟨Y, (if_pos c0).symm, e⟩
  · rw [if_neg c0, if_neg c0, md_gI52, Option.bind_some, h52, i2_of (a := hd) (by omega) (by omega), show i2 26 = 26 by decide]
    unfold doneS
    by_cases c26 : hd = 26
    · rw [if_pos c26, if_pos c26, md_gI48, Option.bind_some, md_pI48, Option.bind_some, e48]
      exact ⟨_, (if_neg c0).symm, Eo_u0 (v := s 0 48 + 1) e (by decide) (i2_of (by omega) (by omega))⟩
    · rw [if_neg c26, if_neg c26, md_pI49, Option.bind_some, md_gI48, Option.bind_some, md_pI48, Option.bind_some]
      have z := Eo_u0 (k := 48) (v := s 0 48 + 1) (Eo_u0 (k := 49) (v := r) e (by decide) (i2_of (by omega) (by omega))) (by decide) (i2_of (by omega) (by omega))
      rw [sw_eq, sw_sw, sw_eq, sw_sw] at z
      rw [sw_eq, u1_ne _ (by decide), e48, sw_sw]
      exact ⟨_, (if_neg c0).symm, z⟩
theorem ordC_0 {v : Int} : ordC v = 0 ↔ v = 0 := by
  unfold ordC
  constructor
  · intro h
    split at h
    · assumption
    · split at h <;> cases h
  · intro h
    rw [if_pos h]
theorem m_once (V : VW n s) (D : DoV d s) (hd' : d ≤ 100000) (T : TxO (s 2) N c w) (e : Eo (2400 + i) A B s X) (hp : pOrder c w i lv = .inr (j, lv', C)) (h0 : 0 ≤ i) (l0 : 0 ≤ lv) (l1 : lv ≤ 50) (hk : 0 ≤ k ∧ k < x2 ∧ x2 ≤ 20) : ∃ X' v, Eo (2400 + i) A B (onceS C s).2 X' ∧ ordC v = (onceS C s).1 ∧ (-7 < v ∧ v ≤ 0) ∧ lb_X5_runs_19 E (some m) (2400 + N) x2 x3 k (mdl m X h) = (if v = 0 then some (.inl (k + 1, mdl m X' h)) else some (.inr (v, mdl m X' h))) := by
  have hK := V.1.2.1
  have DX : DoV d X := by
    unfold DoV at *
    rw [e.k0 (k := 48) (Or.inl rfl), e.k0 (k := 49) (Or.inr (Or.inl rfl))]
    exact D
  obtain ⟨-, Bo, X1, p1, p2, p3, g51, g52, g⟩ := m_goesAlong (E := E) (m := m) (h := h) (live := 1) e.2.2.1 (by rw [e.k2]; exact T) (by rw [e.k2]; exact hK) DX hd' e.2.2.2.1 hp h0 l0 l1 (Or.inr rfl)
  obtain ⟨g54, gn, gq⟩ := g rfl
  rw [evO_Eo e] at g54 gn gq
  have e1 := e.er p2
  have V1 : VW n X1 := V.es e1.ew
  have hh : C.1 = 24 ∨ C.1 = 25 ∨ C.1 = 26 := Bo.2.2.2.2.1
  have ih : i2 C.1 = C.1 := i2_of (by omega) (by omega)
  unfold lb_X5_runs_19
  rw [i2_of (a := k) (by omega) (by omega), i2_of (a := x2) (by omega) (by omega), if_pos hk.2.1, md_ce, Option.bind_some, p1, Option.bind_some, md_gI54, Option.bind_some, g54]
  unfold onceS
  by_cases ct : C.2.2.2 (evO s) = some true
  · rw [if_pos ct, if_pos ct, if_neg (by decide), md_gI53, Option.bind_some]
    cases hS : sumO C (evO s) with
    | none =>
      rw [gn hS, if_pos (by decide)]
      exact ⟨X1, -3, e1, rfl, by decide, rfl⟩
    | some y =>
      obtain ⟨y53, y28⟩ := gq y hS
      have yb := sumO_b Bo (EB_evO hK D hd') hS
      have i3 : i2 y.2.2 = y.2.2 := i2_of (by omega) (by omega)
      rw [y53, if_neg (by decide), md_gI52, Option.bind_some, g52, ih, show i2 26 = 26 by decide]
      dsimp only
      obtain ⟨r, er⟩ : ∃ r, r = (actS s C.1 y.1 y.2.1 y.2.2).1 := ⟨_, rfl⟩
      have rb := actS_b (hd := C.1) (a := y.1) (b := y.2.1) (v := y.2.2) hK i3
      obtain ⟨q1, q2⟩ := actS_Eo (hd := C.1) (a := y.1) (b := y.2.1) e1 V i3
      have ks := actS_keep (hd := C.1) (a := y.1) (b := y.2.1) (v := y.2.2) hK
      have kx := actS_keep (s := X1) (hd := C.1) (a := y.1) (b := y.2.1) (v := y.2.2) V1.1.2.1
      have fin : ∀ Y : Sg, Eo (2400 + i) A B (actS s C.1 y.1 y.2.1 y.2.2).2 Y → Y 0 52 = C.1 → ∃ X' v, Eo (2400 + i) A B (if r < 0 then (ordC r, (actS s C.1 y.1 y.2.1 y.2.2).2) else (0, doneS C.1 (actS s C.1 y.1 y.2.1 y.2.2)) : Int × Sg).2 X' ∧ ordC v = (if r < 0 then (ordC r, (actS s C.1 y.1 y.2.1 y.2.2).2) else (0, doneS C.1 (actS s C.1 y.1 y.2.1 y.2.2)) : Int × Sg).1 ∧ (-7 < v ∧ v ≤ 0) ∧ f_X5_runs_141 E (some m) (2400 + N) x2 x3 k r (mdl m Y h) = (if v = 0 then some (.inl (k + 1, mdl m X' h)) else some (.inr (v, mdl m X' h))) := by
        intro Y hY hY52
        have h48 : 0 ≤ (actS s C.1 y.1 y.2.1 y.2.2).2 0 48 ∧ (actS s C.1 y.1 y.2.1 y.2.2).2 0 48 ≤ 1000000 := by
          rw [ks.2 48 (by decide)]
          have := D.1
          omega
        obtain ⟨X', z1, z2⟩ := m_141 (E := E) (m := m) (h := h) (x1 := 2400 + N) (x2 := x2) (x3 := x3) (k := k) (r := r) (by rw [er]; exact ⟨rb.1, rb.2.1⟩) hY hY52 hh h48
        rw [z1]
        by_cases c0 : r < 0
        · rw [if_pos c0] at z2
          rw [if_pos c0, if_pos c0]
          exact ⟨X', r, z2, rfl, ⟨by rw [er]; exact rb.1, by omega⟩, by rw [if_neg (by omega)]⟩
        · rw [if_neg c0] at z2
          rw [if_neg c0, if_neg c0]
          rw [er] at z2
          exact ⟨X', 0, z2, rfl, by decide, rfl⟩
      rw [← er]
      by_cases c26 : C.1 = 26
      · have ea : actS X1 C.1 y.1 y.2.1 y.2.2 = waitO X1 := if_pos c26
        rw [ea] at q1 q2 kx
        obtain ⟨Y, w1, w2⟩ := m_waitsKept (E := E) (m := m) (h := h) V1.1.1 V1.1.2.1 V1.1.2.2.1 V1.1.2.2.2.1
        rw [if_pos c26, md_ce, Option.bind_some, w1, Option.bind_some]
        dsimp only
        rw [q1, ← er]
        refine fin Y (q2.es w2) ?_
        rw [w2.2.1 52 (by decide) (by decide) (by decide) (by decide), kx.2 52 (by decide)]
        exact g52
      · obtain ⟨v0, v1, v2⟩ := y28 c26
        have i1 := sml_32 yb.1
        have i2' := sml_32 yb.2.1
        have i3' := sml_32 yb.2.2
        have h7 : X1 2 152 ≤ 7 := V1.1.2.1.1.2
        have ld : ∀ q : Int, 0 ≤ q → q < 3 → ax_ld E (mdl m X1 h) (some (m + 28)) 103 q = some (X1 28 q) := fun q q0 q1 => md_ld28 q0 q1
        rw [if_neg c26, Option.bind_some, ih, show i2 24 = 24 by decide]
        by_cases c24 : C.1 = 24
        · have ea : actS X1 C.1 y.1 y.2.1 y.2.2 = lendS X1 y.1 y.2.1 y.2.2 := by
            unfold actS
            rw [if_neg c26, if_pos c24]
          rw [ea] at q1 q2 kx
          rw [if_pos c24, md_gR55, Option.bind_some, ld 0 (by decide) (by decide), Option.bind_some, v0, m_small yb.1, Option.bind_some]
          dsimp only
          rw [md_gR55, Option.bind_some, ld 1 (by decide) (by decide), Option.bind_some, v1, m_small yb.2.1, Option.bind_some]
          dsimp only
          rw [md_gR55, Option.bind_some, ld 2 (by decide) (by decide), Option.bind_some, v2, m_small yb.2.2, Option.bind_some]
          dsimp only
          rw [md_ce, Option.bind_some, m_lendsKept V1.1.1 V1.1.2.1 V1.1.2.2.2.1 i1 i2' i3', Option.bind_some, lend_sml h7]
          dsimp only
          rw [q1, ← er]
          exact fin _ q2 ((kx.2 52 (by decide)).trans g52)
        · have ea : actS X1 C.1 y.1 y.2.1 y.2.2 = repayO X1 y.1 y.2.1 y.2.2 := by
            unfold actS
            rw [if_neg c26, if_neg c24]
          rw [ea] at q1 q2 kx
          rw [if_neg c24, md_gR55, Option.bind_some, ld 0 (by decide) (by decide), Option.bind_some, v0, m_small yb.1, Option.bind_some]
          dsimp only
          rw [md_gR55, Option.bind_some, ld 1 (by decide) (by decide), Option.bind_some, v1, m_small yb.2.1, Option.bind_some]
          dsimp only
          rw [md_gR55, Option.bind_some, ld 2 (by decide) (by decide), Option.bind_some, v2, m_small yb.2.2, Option.bind_some]
          dsimp only
          rw [md_ce, Option.bind_some, m_repaysKept V1.1.1 V1.1.2.1 V1.1.2.2.2.1 i1 i2' i3', Option.bind_some, repay_sml h7]
          dsimp only
          rw [q1, ← er]
          exact fin _ q2 ((kx.2 52 (by decide)).trans g52)
  · rw [if_neg ct, if_neg ct, if_pos (by decide)]
    unfold f_X5_runs_176
    exact ⟨X1, 0, e1, rfl, by decide, rfl⟩
theorem m_times (Bo : OdB C) (hp : pOrder c w i lv = .inr (j, lv', C)) (h0 : 0 ≤ i) (l0 : 0 ≤ lv) (l1 : lv ≤ 50) (hx : x2 ≤ 20) (hx3 : i2 x3 = x3) : ∀ (g : Nat) (k d : Int) (s X : Sg), 0 ≤ k → k + g = x2 → VW n s → DoV d s → d + g ≤ 100000 → TxO (s 2) N c w → Eo (2400 + i) A B s X → ∃ X' v, Eo (if v = 0 then x3 else 2400 + i) A B (timesS C g s).2 X' ∧ ordC v = (timesS C g s).1 ∧ (-7 < v ∧ v ≤ 0) ∧ ax_iter (fun y : Int × ax_H => lb_X5_runs_19 E (some m) (2400 + N) x2 x3 y.1 y.2) (k, mdl m X h) = some (v, mdl m X' h) := by
  intro g
  induction g with
  | zero =>
    intro k d s X k0 hk V D hd' T e
    obtain ⟨e1, e2, e3, e4, e5, e6⟩ := e
    refine ⟨sw X 0 (u1 (X 0) 50 x3), 0, ⟨fun o h => ?_, fun q h => ?_, G32_sw e3 (u1_32 (e3 0) hx3), by rw [sw_eq, u1_eq]; rfl, by rw [sw_ne _ (by decide)]; exact e5, by rw [sw_ne _ (by decide)]; exact e6⟩, rfl, by decide, it_done ?_⟩
    · have h' := h
      unfold RpO at h'
      rw [sw_ne _ (by omega)]
      exact e1 o h
    · have h' := h
      unfold RpK at h'
      rw [sw_eq, u1_ne _ (by omega)]
      exact e2 q h
    dsimp only
    unfold lb_X5_runs_19
    rw [show k = x2 by omega, if_neg (Int.lt_irrefl _), md_pI50, Option.bind_some]
    rfl
  | succ g ih =>
    intro k d s X k0 hk V D hd' T e
    obtain ⟨X', v, y1, y2, yb, y3⟩ := m_once (E := E) (m := m) (h := h) (x3 := x3) V D (by omega) T e hp h0 l0 l1 ⟨k0, by omega, hx⟩
    obtain ⟨z1, z2, z3⟩ := onceS_V Bo ⟨V, D⟩ (by omega)
    unfold timesS
    by_cases c0 : v = 0
    · rw [if_pos c0] at y3
      rw [if_pos (y2.symm.trans (ordC_0.mpr c0)), it_step (body := fun y : Int × ax_H => lb_X5_runs_19 E (some m) (2400 + N) x2 x3 y.1 y.2) (s := (k, mdl m X h)) y3]
      exact ih (k + 1) (d + 1) _ X' (by omega) (by omega) z1.1 z1.2 (by omega) (T.ac z2) y1
    · rw [if_neg c0] at y3
      rw [if_neg (fun h => c0 (ordC_0.mp (y2.trans h)))]
      exact ⟨X', v, by rw [if_neg c0]; exact y1, y2, yb, it_done y3⟩
theorem m_runs (V : VW n s) (D : DoV d s) (hd' : d ≤ 10000) (T : TxO (s 2) N c w) (e : Eo (2400 + i) A B s X) (hp : pOrder c w i lv = .inr (j, lv', C)) (h0 : 0 ≤ i) (l0 : 0 ≤ lv) (l1 : lv ≤ 50) : (i < j ∧ j ≤ N ∧ lv ≤ lv' ∧ lv' ≤ 50) ∧ OdB C ∧ ∃ X' v, Eo (if v = 0 then 2400 + (j + 1) else 2400 + i) A B (timesS C C.2.2.1.toNat s).2 X' ∧ ordC v = (timesS C C.2.2.1.toNat s).1 ∧ (-7 < v ∧ v ≤ 0) ∧ f_X5_runs E (some m) (2400 + N) (mdl m X h) = some (v, mdl m X' h) := by
  have hK := V.1.2.1
  have hN := T.1
  have DX : DoV d X := by
    unfold DoV at *
    rw [e.k0 (k := 48) (Or.inl rfl), e.k0 (k := 49) (Or.inr (Or.inl rfl))]
    exact D
  obtain ⟨jb, Bo, X1, p1, p2, p3, g51, g52, -⟩ := m_goesAlong (E := E) (m := m) (h := h) (live := 0) e.2.2.1 (by rw [e.k2]; exact T) (by rw [e.k2]; exact hK) DX (by omega) e.2.2.2.1 hp h0 l0 l1 (Or.inl rfl)
  have bt := Bo.2.2.2.1
  refine ⟨jb, Bo, ?_⟩
  obtain ⟨X', v, z1, z2, zb, z3⟩ := m_times (E := E) (m := m) (h := h) (N := N) (x2 := C.2.2.1) (x3 := 2400 + (j + 1)) (n := n) Bo hp h0 l0 l1 bt.2 (i2_of (by omega) (by omega)) C.2.2.1.toNat 0 d s X1 (Int.le_refl 0) (by omega) V D (by omega) T (e.er p2)
  refine ⟨X', v, z1, z2, zb, ?_⟩
  unfold f_X5_runs f_X5_runs_19
  rw [md_ce, Option.bind_some, p1, Option.bind_some, md_gI51, Option.bind_some, g51, md_gI20, Option.bind_some, p3]
  exact z3
end
