/-! The model reads: its small steps -/
set_option maxRecDepth 100000
/-- the model while it reads: token, leaves, where it is wrong -/
def rds (sb : Sg) (i lv b : Int) : Sg := sw sb 0 (u1 (u1 (u1 (sb 0) 17 i) 18 lv) 19 b)
def RdB (sb : Sg) (c w p : Rw) (N o : Int) : Prop := (0 ≤ N ∧ N ≤ 400) ∧ (∀ k, 0 ≤ k → k ≤ N → sb 9 k = c k ∧ sb 10 k = w k ∧ sb 11 k = p k) ∧ (∀ k, 0 ≤ c k ∧ c k ≤ 355) ∧ (∀ k, 0 ≤ w k ∧ w k ≤ 10000009) ∧ (∀ k, 0 ≤ k → k ≤ N → 0 ≤ p k ∧ p k ≤ 400) ∧ (∀ k, N ≤ k → c k = 0) ∧ sb 0 8 = o ∧ (o = 0 ∨ o = 1) ∧ sb 0 16 = N
section
variable {sb : Sg} {i lv b v : Int}
theorem rds_o {o : Nat} (h : o ≠ 0) : rds sb i lv b o = sb o := sw_ne _ h
theorem rds_0 {k : Int} (h1 : k ≠ 17) (h2 : k ≠ 18) (h3 : k ≠ 19) : rds sb i lv b 0 k = sb 0 k := by unfold rds; rw [sw_eq, u1_ne _ h3, u1_ne _ h2, u1_ne _ h1]
theorem rds_17 : rds sb i lv b 0 17 = i := by unfold rds; rw [sw_eq, u1_ne _ (by decide), u1_ne _ (by decide), u1_eq]
theorem rds_18 : rds sb i lv b 0 18 = lv := by unfold rds; rw [sw_eq, u1_ne _ (by decide), u1_eq]
theorem rds_19 : rds sb i lv b 0 19 = b := by unfold rds; rw [sw_eq, u1_eq]
theorem rds_w17 : sw (rds sb i lv b) 0 (u1 (rds sb i lv b 0) 17 v) = rds sb v lv b := by
  unfold rds
  rw [sw_sw, sw_eq, u1_comm _ _ (show (17 : Int) < 19 by decide), u1_comm _ _ (show (17 : Int) < 18 by decide), u1_u1]
theorem rds_w18 : sw (rds sb i lv b) 0 (u1 (rds sb i lv b 0) 18 v) = rds sb i v b := by
  unfold rds
  rw [sw_sw, sw_eq, u1_comm _ _ (show (18 : Int) < 19 by decide), u1_u1]
theorem rds_w19 : sw (rds sb i lv b) 0 (u1 (rds sb i lv b 0) 19 v) = rds sb i lv v := by
  unfold rds
  rw [sw_sw, sw_eq, u1_u1]
end
section
variable {E : ax_E} {m : Nat} {h : ax_H} {sb : Sg} {c w p : Rw} {N o i lv b : Int}
theorem m_p17 (v : Int) : ax_pI (mdl m (rds sb i lv b) h) (some m) 5 17 v = some (mdl m (rds sb v lv b) h) := by
  have e := md_pI17 (m := m) (s := rds sb i lv b) (h := h) (v := v)
  rw [rds_w17] at e
  exact e
theorem m_p18 (v : Int) : ax_pI (mdl m (rds sb i lv b) h) (some m) 5 18 v = some (mdl m (rds sb i v b) h) := by
  have e := md_pI18 (m := m) (s := rds sb i lv b) (h := h) (v := v)
  rw [rds_w18] at e
  exact e
theorem m_p19 (v : Int) : ax_pI (mdl m (rds sb i lv b) h) (some m) 5 19 v = some (mdl m (rds sb i lv v) h) := by
  have e := md_pI19 (m := m) (s := rds sb i lv b) (h := h) (v := v)
  rw [rds_w19] at e
  exact e
theorem m_fine (hb : i2 b = b) : f_X5_fine E (some m) (mdl m (rds sb i lv b) h) = some (b01 (b = -1), mdl m (rds sb i lv b) h) := by
  unfold f_X5_fine
  rw [md_gI19, Option.bind_some, rds_19, hb, show i2 (-1) = -1 by decide]
  by_cases e : b = -1
  · rw [if_pos e, b01_t e]
  · rw [if_neg e, b01_f e]
theorem m_faultsB (hb : i2 b = b) (h1 : b ≠ -1) : f_X5_faults E (some m) (mdl m (rds sb i lv b) h) = some (mdl m (rds sb i lv b) h) := by
  unfold f_X5_faults
  rw [md_ce, Option.bind_some, m_fine hb, Option.bind_some]
  dsimp only
  rw [if_pos (by rw [b01_z]; exact h1)]
theorem m_faults (R : RdB sb c w p N o) (h0 : 0 ≤ i) (h1 : i ≤ N) : f_X5_faults E (some m) (mdl m (rds sb i lv (-1)) h) = some (mdl m (rds sb i lv (p i)) h) := by
  obtain ⟨r1, r2, -⟩ := R
  have p19 : ax_pI (mdl m (rds sb i lv (-1)) h) (some m) 5 19 (p i) = some (mdl m (rds sb i lv (p i)) h) := m_p19 _
  unfold f_X5_faults
  rw [md_ce, Option.bind_some, m_fine (by decide), Option.bind_some]
  dsimp only
  rw [if_neg (by rw [b01_z]; exact fun z => z rfl), md_gR15, Option.bind_some, md_gI17, Option.bind_some, rds_17, md_ld11 (by omega) (by omega), Option.bind_some, rds_o (by decide), (r2 i h0 h1).2.2, p19, Option.bind_some]
theorem m_takesB {k : Int} (hb : i2 b = b) (h1 : b ≠ -1) : f_X5_takes0 E (some m) k (mdl m (rds sb i lv b) h) = some (0, mdl m (rds sb i lv b) h) := by
  unfold f_X5_takes0 f_X5_takes0_24 f_X5_takes0_25 f_X5_takes0_40
  rw [md_ce, Option.bind_some, m_fine hb, Option.bind_some]
  dsimp only
  rw [if_pos (by rw [b01_z]; exact h1), if_pos (by decide), if_pos (Or.inl rfl)]
theorem m_takes {k : Int} (R : RdB sb c w p N o) (h0 : 0 ≤ i) (h1 : i ≤ N) (hk : i2 k = k) : f_X5_takes0 E (some m) k (mdl m (rds sb i lv (-1)) h) = some (if c i = k then (1, mdl m (rds sb (i + 1) lv (-1)) h) else (0, mdl m (rds sb i lv (-1)) h)) := by
  obtain ⟨r1, r2, r3, -⟩ := R
  have cb := r3 i
  have p17 : ax_pI (mdl m (rds sb i lv (-1)) h) (some m) 5 17 (i + 1) = some (mdl m (rds sb (i + 1) lv (-1)) h) := m_p17 _
  unfold f_X5_takes0 f_X5_takes0_24 f_X5_takes0_25 f_X5_takes0_40
  rw [md_ce, Option.bind_some, m_fine (by decide), Option.bind_some]
  dsimp only
  rw [if_neg (by rw [b01_z]; exact fun z => z rfl), md_gR13, Option.bind_some, md_gI17, Option.bind_some, rds_17, md_ld9 (by omega) (by omega), Option.bind_some, rds_o (by decide), (r2 i h0 h1).1, hk, i2_of (a := c i) (by omega) (by omega)]
  by_cases e : c i = k
  · rw [if_pos e, if_pos e, if_neg (by decide), Option.bind_some, p17, Option.bind_some, if_pos (Or.inr rfl)]
  · rw [if_neg e, if_neg e, if_pos (by decide), if_pos (Or.inl rfl)]
theorem m_mustB {k : Int} (hb : i2 b = b) (h1 : b ≠ -1) : f_X5_must E (some m) k (mdl m (rds sb i lv b) h) = some (mdl m (rds sb i lv b) h) := by
  unfold f_X5_must
  rw [md_ce, Option.bind_some, m_takesB hb h1, Option.bind_some]
  dsimp only
  rw [if_pos (by decide), md_ce, Option.bind_some, m_faultsB hb h1, Option.bind_some]
theorem m_must {k : Int} (R : RdB sb c w p N o) (h0 : 0 ≤ i) (h1 : i ≤ N) (hk : i2 k = k) : f_X5_must E (some m) k (mdl m (rds sb i lv (-1)) h) = some (if c i = k then mdl m (rds sb (i + 1) lv (-1)) h else mdl m (rds sb i lv (p i)) h) := by
  unfold f_X5_must
  rw [md_ce, Option.bind_some, m_takes R h0 h1 hk, Option.bind_some]
  by_cases e : c i = k
  · rw [if_pos e, if_pos e]
    dsimp only
    rw [if_neg (by decide)]
  · rw [if_neg e, if_neg e]
    dsimp only
    rw [if_pos (by decide), md_ce, Option.bind_some, m_faults R h0 h1, Option.bind_some]
theorem p_ok (R : RdB sb c w p N o) (h0 : 0 ≤ i) (h1 : i ≤ N) : i2 (p i) = p i ∧ p i ≠ -1 := by
  have := R.2.2.2.2.1 i h0 h1
  exact ⟨i2_of (by omega) (by omega), by omega⟩
theorem m_rleaf (R : RdB sb c w p N o) (h0 : 0 ≤ i) (h1 : i ≤ N) (l0 : 0 ≤ lv ∧ lv ≤ 50) : f_X5_leaf E (some m) (mdl m (rds sb i lv (-1)) h) = some (if lv = 50 then mdl m (rds sb i (lv + 1) (p i)) h else mdl m (rds sb (i + 1) (lv + 1) (-1)) h) := by
  have r1 := R.1
  have p18 : ∀ b, ax_pI (mdl m (rds sb i lv b) h) (some m) 5 18 (lv + 1) = some (mdl m (rds sb i (lv + 1) b) h) := fun b => m_p18 _
  have p17 : ax_pI (mdl m (rds sb i (lv + 1) (-1)) h) (some m) 5 17 (i + 1) = some (mdl m (rds sb (i + 1) (lv + 1) (-1)) h) := m_p17 _
  obtain ⟨q1, q2⟩ := p_ok R h0 h1
  unfold f_X5_leaf f_X5_leaf_13
  rw [md_gI18, Option.bind_some, rds_18, i2_of (a := lv) (by omega) (by omega), show i2 50 = 50 by decide]
  by_cases e : lv = 50
  · rw [if_pos e, if_pos e, md_ce, Option.bind_some, m_faults R h0 h1, Option.bind_some, md_gI18, Option.bind_some, rds_18, p18, Option.bind_some, md_ce, Option.bind_some, m_fine q1, Option.bind_some]
    dsimp only
    rw [if_pos (by rw [b01_z]; exact q2)]
  · rw [if_neg e, if_neg e, Option.bind_some, p18, Option.bind_some, md_ce, Option.bind_some, m_fine (by decide), Option.bind_some]
    dsimp only
    rw [if_neg (by rw [b01_z]; exact fun z => z rfl), md_gI17, Option.bind_some, rds_17, p17, Option.bind_some]
theorem m_isValue {k : Int} (R : RdB sb c w p N o) (hk : 0 ≤ k ∧ k ≤ 355) : f_X5_isValue E (some m) k (mdl m (rds sb i lv b) h) = some (b01 (isVal o k = true), mdl m (rds sb i lv b) h) := by
  obtain ⟨-, -, -, -, -, -, r8, ro, -⟩ := R
  unfold f_X5_isValue f_X5_isValue_24
  rw [md_gI8, Option.bind_some, rds_0 (by decide) (by decide) (by decide), r8]
  rcases ro with e | e
  · subst e
    have eV : (isVal 0 k = true) = (9 ≤ k ∧ k ≤ 18) := by unfold isVal; rw [if_pos rfl, decide_eq_true_eq]
    rw [if_pos (by decide), m_lies (i2_of (by omega) (by omega)) (by decide) (by decide), Option.bind_some]
    dsimp only
    rw [if_pos (by rw [b01_or]; trivial)]
    congr 2
    unfold b01
    by_cases c : 9 ≤ k ∧ k ≤ 18
    · rw [if_pos c, if_pos (by rw [eV]; exact c)]
    · rw [if_neg c, if_neg (by rw [eV]; exact c)]
  · subst e
    have eV : (isVal 1 k = true) = (k = 17 ∨ (19 ≤ k ∧ k ≤ 23)) := by unfold isVal; rw [if_neg (by decide), decide_eq_true_eq]
    rw [if_neg (by decide), i2_of (a := k) (by omega) (by omega), show i2 17 = 17 by decide]
    by_cases c1 : k = 17
    · rw [if_pos c1, b01_t (by rw [eV]; exact Or.inl c1)]
    · rw [if_neg c1, m_lies (i2_of (by omega) (by omega)) (by decide) (by decide), Option.bind_some]
      dsimp only
      by_cases c2 : 19 ≤ k ∧ k ≤ 23
      · rw [if_neg (by rw [b01_z]; exact fun z => z c2), b01_t (by rw [eV]; exact Or.inr c2)]
      · rw [if_pos (by rw [b01_z]; exact c2), b01_f (by rw [eV]; omega)]
theorem m_numB {lo hi : Int} (hb : i2 b = b) (h1 : b ≠ -1) : f_X5_mustNumber E (some m) lo hi (mdl m (rds sb i lv b) h) = some (mdl m (rds sb i lv b) h) := by
  unfold f_X5_mustNumber f_X5_mustNumber_42
  rw [md_ce, Option.bind_some, m_fine hb, Option.bind_some]
  dsimp only
  rw [if_pos (by rw [b01_z]; exact h1), md_ce, Option.bind_some, m_fine hb, Option.bind_some]
  dsimp only
  rw [if_pos (by rw [b01_z]; exact h1)]
theorem m_num {lo hi : Int} (R : RdB sb c w p N o) (h0 : 0 ≤ i) (h1 : i ≤ N) (hlo : i2 lo = lo) (hhi : i2 hi = hi) : f_X5_mustNumber E (some m) lo hi (mdl m (rds sb i lv (-1)) h) = some (if c i = 50 ∧ lo ≤ w i ∧ w i ≤ hi then mdl m (rds sb (i + 1) lv (-1)) h else mdl m (rds sb i lv (p i)) h) := by
  have R' := R
  obtain ⟨r1, r2, r3, r4, -⟩ := R
  have cb := r3 i
  have wb := r4 i
  obtain ⟨q1, q2⟩ := p_ok R' h0 h1
  have p17 : ax_pI (mdl m (rds sb i lv (-1)) h) (some m) 5 17 (i + 1) = some (mdl m (rds sb (i + 1) lv (-1)) h) := m_p17 _
  have bad : f_X5_mustNumber_38 E (some m) (mdl m (rds sb i lv (-1)) h) = some (mdl m (rds sb i lv (p i)) h) := by
    unfold f_X5_mustNumber_38 f_X5_mustNumber_42
    rw [md_ce, Option.bind_some, m_faults R' h0 h1, Option.bind_some, md_ce, Option.bind_some, m_fine q1, Option.bind_some]
    dsimp only
    rw [if_pos (by rw [b01_z]; exact q2)]
  unfold f_X5_mustNumber
  rw [md_ce, Option.bind_some, m_fine (by decide), Option.bind_some]
  dsimp only
  rw [if_neg (by rw [b01_z]; exact fun z => z rfl), md_gR13, Option.bind_some, md_gI17, Option.bind_some, rds_17, md_ld9 (by omega) (by omega), Option.bind_some, rds_o (by decide), (r2 i h0 h1).1, i2_of (a := c i) (by omega) (by omega), show i2 50 = 50 by decide]
  by_cases e : c i = 50
  · rw [if_pos e, md_gR14, Option.bind_some, Option.bind_some, md_ld10 (by omega) (by omega), Option.bind_some, rds_o (by decide), (r2 i h0 h1).2.1, m_lies (i2_of (by omega) (by omega)) hlo hhi, Option.bind_some]
    dsimp only
    by_cases e2 : lo ≤ w i ∧ w i ≤ hi
    · rw [if_neg (by rw [b01_z]; exact fun z => z e2), if_pos ⟨e, e2⟩]
      unfold f_X5_mustNumber_42
      rw [md_ce, Option.bind_some, m_fine (by decide), Option.bind_some]
      dsimp only
      rw [if_neg (by rw [b01_z]; exact fun z => z rfl), md_gI17, Option.bind_some, rds_17, p17, Option.bind_some]
    · rw [if_pos (by rw [b01_z]; exact e2), if_neg (fun z => e2 z.2)]
      exact bad
  · rw [if_neg e, if_neg (fun z => e z.1)]
    exact bad
end
