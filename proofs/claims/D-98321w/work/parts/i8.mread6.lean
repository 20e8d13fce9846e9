/-! The model reads: all clauses -/
set_option maxRecDepth 100000
theorem ob_id (x : Option ax_H) : (x.bind fun h2 => some h2) = x := by cases x <;> rfl
/-- behind a clause -/
def ctS {α : Type} (c : Rw) (N : Int) (cl : Int → Int → PR α) (k : Nat) (x : α) (j lv : Int) : Int ⊕ List α := if c j = 159 then (match pAll c N cl k (j + 1) lv with
  | .inl t => .inl t
  | .inr L => .inr (x :: L)) else if j < N then .inl j else .inr [x]
theorem pAll_s {α : Type} (c : Rw) (N : Int) (cl : Int → Int → PR α) (k : Nat) (i lv : Int) : pAll c N cl (k + 1) i lv = match cl i lv with
  | .inl t => .inl t
  | .inr (j, lv', x) => ctS c N cl k x j lv' := by
  unfold ctS
  rfl
def r12 (sb : Sg) (i lv b : Int) : Sg := sw (rds sb i lv b) 0 (u1 (rds sb i lv b 0) 12 b)
def rdFa {α : Type} (m : Nat) (sb : Sg) (h : ax_H) (p : Rw) (N : Int) (r : Int ⊕ List α) (v : Int) (g' : ax_H) : Prop := match r with
  | .inl t => v = 0 ∧ (0 ≤ t ∧ t ≤ N) ∧ ∃ i' lv', (0 ≤ i' ∧ i' ≤ 400) ∧ (0 ≤ lv' ∧ lv' ≤ 51) ∧ g' = mdl m (r12 sb i' lv' (p t)) h
  | .inr _ => v = 1 ∧ ∃ i' lv', (0 ≤ i' ∧ i' ≤ 400) ∧ (0 ≤ lv' ∧ lv' ≤ 51) ∧ g' = mdl m (r12 sb i' lv' (-1)) h
section
variable {E : ax_E} {m : Nat} {h : ax_H} {sb : Sg} {c w p : Rw} {N o : Int} {α : Type}
theorem m_rOne0 (R : RdB sb c w p N 0) : RdS m sb h p N (fun x => f_X5_readOne E (some m) x) (pClause c w) := by
  have P := m_rClause (E := E) (m := m) (h := h) R
  have r8 := R.2.2.2.2.2.2.1
  have e : ∀ i lv b, f_X5_readOne E (some m) (mdl m (rds sb i lv b) h) = f_X5_readClause E (some m) (mdl m (rds sb i lv b) h) := by
    intro i lv b
    unfold f_X5_readOne
    rw [md_gI8, Option.bind_some, rds_0 (by decide) (by decide) (by decide), r8, if_pos (by decide), md_ce, Option.bind_some, ob_id]
  refine ⟨fun i lv i0 i1 l0 l1 => ?_, fun i lv b hb hn => ?_⟩
  · dsimp only; rw [e]; exact P.1 i lv i0 i1 l0 l1
  · dsimp only; rw [e]; exact P.2 i lv b hb hn
theorem m_rOne1 (R : RdB sb c w p N 1) : RdS m sb h p N (fun x => f_X5_readOne E (some m) x) (pOrder c w) := by
  have P := m_rOrder (E := E) (m := m) (h := h) R
  have r8 := R.2.2.2.2.2.2.1
  have e : ∀ i lv b, f_X5_readOne E (some m) (mdl m (rds sb i lv b) h) = f_X5_readOrder E (some m) (mdl m (rds sb i lv b) h) := by
    intro i lv b
    unfold f_X5_readOne
    rw [md_gI8, Option.bind_some, rds_0 (by decide) (by decide) (by decide), r8, if_neg (by decide), md_ce, Option.bind_some, ob_id]
  refine ⟨fun i lv i0 i1 l0 l1 => ?_, fun i lv b hb hn => ?_⟩
  · dsimp only; rw [e]; exact P.1 i lv i0 i1 l0 l1
  · dsimp only; rw [e]; exact P.2 i lv b hb hn
theorem m_r95 {i lv b : Int} (hb : i2 b = b) : f_X5_reads_95 E (some m) (mdl m (rds sb i lv b) h) = some (b01 (b = -1), mdl m (r12 sb i lv b) h) := by
  have p12 : ax_pI (mdl m (rds sb i lv b) h) (some m) 5 12 b = some (mdl m (r12 sb i lv b) h) := md_pI12
  have f : f_X5_fine E (some m) (mdl m (r12 sb i lv b) h) = some (b01 (b = -1), mdl m (r12 sb i lv b) h) := by
    have e19 : r12 sb i lv b 0 19 = b := by unfold r12; rw [sw_eq, u1_ne _ (by decide), rds_19]
    unfold f_X5_fine
    rw [md_gI19, Option.bind_some, e19, hb, show i2 (-1) = -1 by decide]
    by_cases e : b = -1
    · rw [if_pos e, b01_t e]
    · rw [if_neg e, b01_f e]
  unfold f_X5_reads_95
  rw [md_gI19, Option.bind_some, rds_19, p12, Option.bind_some, md_ce, Option.bind_some, f, Option.bind_some]
  dsimp only
  rw [if_pos (by rw [b01_or]; trivial)]
/-- what is wrong stays wrong -/
theorem m_rBad {i lv b n : Int} (hb : i2 b = b) (hn : b ≠ -1) : ax_iter (fun s : Int × ax_H => lb_X5_reads_34 E (some m) s.1 s.2) (n, mdl m (rds sb i lv b) h) = some (0, mdl m (r12 sb i lv b) h) := by
  refine it_done ?_
  dsimp only
  unfold lb_X5_reads_34 f_X5_sign
  rw [Option.bind_some]
  dsimp only
  rw [md_ce, Option.bind_some, m_takesB hb hn, Option.bind_some]
  dsimp only
  rw [if_pos (by decide), md_ce, Option.bind_some, m_fine hb, Option.bind_some]
  dsimp only
  rw [if_pos (by rw [b01_z]; exact hn), m_r95 hb, b01_f hn]
  rfl
theorem m_rAll {cl : Int → Int → PR α} (R : RdB sb c w p N o) (P : RdS m sb h p N (fun x => f_X5_readOne E (some m) x) cl) : ∀ (k : Nat) (n j lv : Int) (x : α), n + k = 12 → 1 ≤ n → 0 ≤ j → j ≤ N → 0 ≤ lv → lv ≤ 50 → ∃ v g', ax_iter (fun s : Int × ax_H => lb_X5_reads_34 E (some m) s.1 s.2) (n, mdl m (rds sb j lv (-1)) h) = some (v, g') ∧ rdFa m sb h p N (ctS c N cl k x j lv) v g' := by
  have r16 := R.2.2.2.2.2.2.2.2
  have rN := R.1
  -- no clause behind
  have stop : ∀ (n j lv : Int), 0 ≤ j → j ≤ N → 0 ≤ lv → lv ≤ 50 → ¬ c j = 159 → ∃ v g', ax_iter (fun s : Int × ax_H => lb_X5_reads_34 E (some m) s.1 s.2) (n, mdl m (rds sb j lv (-1)) h) = some (v, g') ∧ ∀ x : α, rdFa m sb h p N (if j < N then .inl j else .inr [x] : Int ⊕ List α) v g' := by
    intro n j lv j0 j1 l0 l1 hc
    obtain ⟨y1, y2⟩ := p_ok R j0 j1
    have hd : ∀ W, (if j < N then f_X5_reads_95 E (some m) (mdl m (rds sb j lv (p j)) h) else f_X5_reads_95 E (some m) (mdl m (rds sb j lv (-1)) h)) = some W → lb_X5_reads_34 E (some m) n (mdl m (rds sb j lv (-1)) h) = some (.inr W) := by
      intro W hW
      unfold lb_X5_reads_34 f_X5_sign
      rw [Option.bind_some]
      dsimp only
      rw [show (100 + 59 : Int) = 159 by decide, md_ce, Option.bind_some, m_takes R j0 j1 (by decide), Option.bind_some, if_neg hc]
      dsimp only
      rw [if_pos (show i2 0 = 0 by decide), md_ce, Option.bind_some, m_fine (by decide), Option.bind_some]
      dsimp only
      rw [if_neg (show ¬ i2 (b01 ((-1 : Int) = -1)) = 0 by rw [b01_z]; exact fun z => z rfl), md_gI17, Option.bind_some, rds_17, md_gI16, Option.bind_some, rds_0 (by decide) (by decide) (by decide), r16, i2_of (a := j) (by omega) (by omega), i2_of (a := N) (by omega) (by omega)]
      by_cases cj : j < N
      · rw [if_pos cj] at hW
        rw [if_pos cj, md_ce, Option.bind_some, m_faults R j0 j1, Option.bind_some, hW]
        rfl
      · rw [if_neg cj] at hW
        rw [if_neg cj, hW]
        rfl
    by_cases cj : j < N
    · refine ⟨0, mdl m (r12 sb j lv (p j)) h, it_done (hd (0, _) ?_), fun x => ?_⟩
      · rw [if_pos cj, m_r95 y1, b01_f y2]
      · rw [if_pos cj]
        exact ⟨rfl, ⟨j0, j1⟩, j, lv, by omega, by omega, rfl⟩
    · refine ⟨1, mdl m (r12 sb j lv (-1)) h, it_done (hd (1, _) ?_), fun x => ?_⟩
      · rw [if_neg cj, m_r95 (by decide), b01_t rfl]
      · rw [if_neg cj]
        exact ⟨rfl, j, lv, by omega, by omega, rfl⟩
  intro k
  induction k with
  | zero =>
    intro n j lv x e n1 j0 j1 l0 l1
    unfold ctS
    by_cases hc : c j = 159
    · have hl := c_lt R (i := j) (by omega)
      obtain ⟨y1, y2⟩ := p_ok R (i := j + 1) (by omega) (by omega)
      rw [if_pos hc]
      have st : lb_X5_reads_34 E (some m) n (mdl m (rds sb j lv (-1)) h) = some (.inl (n + 1, mdl m (rds sb (j + 1) lv (p (j + 1))) h)) := by
        unfold lb_X5_reads_34 f_X5_sign
        rw [Option.bind_some]
        dsimp only
        rw [show (100 + 59 : Int) = 159 by decide, md_ce, Option.bind_some, m_takes R j0 j1 (by decide), Option.bind_some, if_pos hc]
        dsimp only
        rw [if_neg (show ¬ i2 1 = 0 by decide), i2_of (a := n) (by omega) (by omega), show i2 12 = 12 by decide, if_pos (by omega), md_ce, Option.bind_some, m_faults R (show 0 ≤ j + 1 by omega) (by omega), Option.bind_some]
        unfold f_X5_reads_56 f_X5_reads_67
        rw [md_ce, Option.bind_some, m_fine y1, Option.bind_some]
        dsimp only
        rw [if_pos (by rw [b01_z]; exact y2)]
      refine ⟨0, mdl m (r12 sb (j + 1) lv (p (j + 1))) h, (it_step (body := fun s : Int × ax_H => lb_X5_reads_34 E (some m) s.1 s.2) (s := (n, mdl m (rds sb j lv (-1)) h)) st).trans (m_rBad y1 y2), ?_⟩
      exact ⟨rfl, ⟨by omega, by omega⟩, j + 1, lv, by omega, by omega, rfl⟩
    · rw [if_neg hc]
      obtain ⟨v, g', a, b⟩ := stop n j lv j0 j1 l0 l1 hc
      exact ⟨v, g', a, b x⟩
  | succ k ih =>
    intro n j lv x e n1 j0 j1 l0 l1
    unfold ctS
    by_cases hc : c j = 159
    · have hl := c_lt R (i := j) (by omega)
      rw [if_pos hc, pAll_s]
      obtain ⟨⟨g1, w1, w2⟩, w3⟩ := P.1 (j + 1) lv (by omega) (by omega) l0 l1
      have st : lb_X5_reads_34 E (some m) n (mdl m (rds sb j lv (-1)) h) = some (.inl (n + 1, g1)) := by
        unfold lb_X5_reads_34 f_X5_sign
        rw [Option.bind_some]
        dsimp only
        rw [show (100 + 59 : Int) = 159 by decide, md_ce, Option.bind_some, m_takes R j0 j1 (by decide), Option.bind_some, if_pos hc]
        dsimp only
        rw [if_neg (show ¬ i2 1 = 0 by decide), i2_of (a := n) (by omega) (by omega), show i2 12 = 12 by decide, if_neg (by omega)]
        unfold f_X5_reads_56 f_X5_reads_67
        rw [md_ce, Option.bind_some, m_fine (by decide), Option.bind_some]
        dsimp only
        rw [if_neg (show ¬ i2 (b01 ((-1 : Int) = -1)) = 0 by rw [b01_z]; exact fun z => z rfl), md_ce, Option.bind_some]
        have w1' : f_X5_readOne E (some m) (mdl m (rds sb (j + 1) lv (-1)) h) = some g1 := w1
        rw [w1', Option.bind_some]
      have go := it_step (body := fun s : Int × ax_H => lb_X5_reads_34 E (some m) s.1 s.2) (s := (n, mdl m (rds sb j lv (-1)) h)) st
      cases hf : cl (j + 1) lv with
      | inl t =>
        rw [hf] at w2
        obtain ⟨t0, i', lv', b1, b2, e2⟩ := w2
        obtain ⟨y1, y2⟩ := p_ok R (i := t) t0.1 t0.2
        refine ⟨0, mdl m (r12 sb i' lv' (p t)) h, go.trans (by rw [e2]; exact m_rBad y1 y2), ?_⟩
        exact ⟨rfl, t0, i', lv', b1, b2, rfl⟩
      | inr t =>
        obtain ⟨j', lv', y⟩ := t
        rw [hf] at w2
        have e2 : g1 = mdl m (rds sb j' lv' (-1)) h := w2
        obtain ⟨x1, x2, x3, x4⟩ := w3 j' lv' y hf
        obtain ⟨v, g', a, b⟩ := ih (n + 1) j' lv' y (by omega) (by omega) (by omega) x2 (by omega) x4
        refine ⟨v, g', go.trans (by rw [e2]; exact a), ?_⟩
        dsimp only
        cases hq : ctS c N cl k y j' lv' with
        | inl t => rw [hq] at b; exact b
        | inr L => rw [hq] at b; exact b
    · rw [if_neg hc]
      obtain ⟨v, g', a, b⟩ := stop n j lv j0 j1 l0 l1 hc
      exact ⟨v, g', a, b x⟩
end
/-! the tape's text, told -/
theorem tkV_b {T : Rw} {N i : Nat} (h : pos T N i < N) : 0 ≤ tkV T N i ∧ tkV T N i ≤ 10000009 := by
  unfold tkV
  by_cases cd : isDig (T (pos T N i)) = true
  · rw [if_pos cd]
    refine nu_b (T := T) (k := pos T N i) _ (fun q hq => ?_)
    by_cases cq : q = 0
    · subst cq; exact cd
    · have nl : ¬ isLet (T (pos T N i)) = true := by
        unfold isLet isDig at *
        rw [decide_eq_true_eq] at cd ⊢
        omega
      have et : tnd T N (pos T N i) = runP isDig T N 401 (pos T N i + 1) := by unfold tnd; rw [if_neg nl, if_pos cd]
      rw [et] at hq
      exact ((runP_ge isDig T N 401 (pos T N i + 1)).2.2 (pos T N i + q) (by omega) (by omega)).2
  · rw [if_neg cd]; decide
theorem cT_b {T : Rw} {N : Nat} (hT : ∀ k : Int, 0 ≤ k → k < 400 → -128 ≤ T k ∧ T k ≤ 127) (hN : N ≤ 400) (k : Int) : 0 ≤ cT T N k ∧ cT T N k ≤ 355 := by
  unfold cT cut
  split
  · rename_i c
    exact tkC_b hT hN ((pos_toks hN).mpr (by omega))
  · decide
theorem wT_b {T : Rw} {N : Nat} (hN : N ≤ 400) (k : Int) : 0 ≤ wT T N k ∧ wT T N k ≤ 10000009 := by
  unfold wT cut
  split
  · rename_i c
    exact tkV_b ((pos_toks hN).mpr (by omega))
  · decide
def pT' (T : Rw) (N : Nat) : Rw := fun k => (pos T N k.toNat : Int)
/-- a text read: nothing lies on the tape; where it is wrong -/
def rdE (s : Sg) (f : Int) : Sg := sw s 0 (u1 (u1 (s 0) 11 0) 12 f)
def rdV {α : Type} (T : Rw) (N : Nat) (r : Int ⊕ List α) : Int := match r with
  | .inl t => pos T N t.toNat
  | .inr _ => -1
def rdOk {α : Type} (r : Int ⊕ List α) : Int := match r with
  | .inl _ => 0
  | .inr _ => 1
section
variable {E : ax_E} {m : Nat} {s : Sg} {h : ax_H} {α : Type}
theorem m_reads {o : Int} {cl : Int → Int → PR α} {N : Nat} (hG : G32 s) (V : TpV s) (hN : (N : Int) = s 0 11) (hN4 : N ≤ 400) (h8 : s 0 8 = o) (ho : o = 0 ∨ o = 1) (P : ∀ sb : Sg, RdB sb (cT (s 7) N) (wT (s 7) N) (pT' (s 7) N) (toks (s 7) N) o → RdS m sb h (pT' (s 7) N) (toks (s 7) N) (fun x => f_X5_readOne E (some m) x) cl) : ∃ s', f_X5_reads E (some m) (mdl m s h) = some (rdOk (pAll (cT (s 7) N) (toks (s 7) N) cl 12 0 0), mdl m s' h) ∧ Ew (rdE s (rdV (s 7) N (pAll (cT (s 7) N) (toks (s 7) N) cl 12 0 0))) s' ∧ s' 0 16 = toks (s 7) N ∧ (∀ j : Nat, j ≤ toks (s 7) N → s' 9 j = cT (s 7) N j ∧ s' 10 j = wT (s 7) N j) := by
  obtain ⟨s2, p2, F1, F2, F3⟩ := m_splits (E := E) (m := m) (h := h) hG V rfl hN4
  obtain ⟨T, eT⟩ : ∃ T, T = s 7 := ⟨_, rfl⟩
  rw [← eT] at P F2 F3 ⊢
  obtain ⟨t1, t2, t3⟩ := toks_e (T := T) hN4
  obtain ⟨sb, esb⟩ : ∃ sb, sb = sw s2 0 (u1 (s2 0) 11 0) := ⟨_, rfl⟩
  have vt := V.1
  rw [← eT] at vt
  have R : RdB sb (cT T N) (wT T N) (pT' T N) (toks T N) o := by
    refine ⟨⟨by omega, by omega⟩, fun k k0 k1 => ?_, cT_b vt hN4, wT_b hN4, fun k k0 k1 => ?_, fun k hk => ?_, ?_, ho, ?_⟩
    · rw [esb, sw_ne _ (by decide), sw_ne _ (by decide), sw_ne _ (by decide)]
      have q := F3 k.toNat (by omega)
      rw [Int.toNat_of_nonneg k0] at q
      exact q
    · unfold pT'
      have := pos_le (T := T) (N := N) k.toNat
      omega
    · unfold cT cut
      rw [if_neg (by omega)]
    · rw [esb, sw_eq, u1_ne _ (by decide), F1.2.1 8 (by decide)]; exact h8
    · rw [esb, sw_eq, u1_ne _ (by decide)]; exact F2
  have PP := P sb R
  have p11 : ax_pI (mdl m s2 h) (some m) 5 11 0 = some (mdl m sb h) := by rw [esb]; exact md_pI11
  have p17 : ax_pI (mdl m sb h) (some m) 5 17 0 = some (mdl m (sw sb 0 (u1 (sb 0) 17 0)) h) := md_pI17
  have p18 : ax_pI (mdl m (sw sb 0 (u1 (sb 0) 17 0)) h) (some m) 5 18 0 = some (mdl m (sw sb 0 (u1 (u1 (sb 0) 17 0) 18 0)) h) := by
    have e := md_pI18 (m := m) (s := sw sb 0 (u1 (sb 0) 17 0)) (h := h) (v := 0)
    rw [sw_eq, sw_sw] at e
    exact e
  have p19 : ax_pI (mdl m (sw sb 0 (u1 (u1 (sb 0) 17 0) 18 0)) h) (some m) 5 19 (-1) = some (mdl m (rds sb 0 0 (-1)) h) := by
    have e := md_pI19 (m := m) (s := sw sb 0 (u1 (u1 (sb 0) 17 0) 18 0)) (h := h) (v := -1)
    rw [sw_eq, sw_sw] at e
    exact e
  obtain ⟨⟨g1, w1, w2⟩, w3⟩ := PP.1 0 0 (by decide) (by omega) (by decide) (by decide)
  have w1' : f_X5_readOne E (some m) (mdl m (rds sb 0 0 (-1)) h) = some g1 := w1
  have run : ∀ W, ax_iter (fun s : Int × ax_H => lb_X5_reads_34 E (some m) s.1 s.2) (1, g1) = some W → f_X5_reads E (some m) (mdl m s h) = some W := by
    intro W hW
    unfold f_X5_reads f_X5_reads_34
    rw [md_gI11, Option.bind_some, ← hN, md_ce, Option.bind_some, p2, Option.bind_some, p11, Option.bind_some, p17, Option.bind_some, p18, Option.bind_some, p19, Option.bind_some, md_ce, Option.bind_some, w1', Option.bind_some]
    exact hW
  have fin : ∀ i' lv' b : Int, (0 ≤ i' ∧ i' ≤ 400) → (0 ≤ lv' ∧ lv' ≤ 51) → i2 b = b → Ew (rdE s b) (r12 sb i' lv' b) ∧ r12 sb i' lv' b 0 16 = toks T N ∧ ∀ j : Nat, j ≤ toks T N → r12 sb i' lv' b 9 j = cT T N j ∧ r12 sb i' lv' b 10 j = wT T N j := by
    intro i' lv' b b1 b2 b3
    have so : ∀ q : Nat, q ≠ 0 → r12 sb i' lv' b q = s2 q := fun q hq => by unfold r12; rw [sw_ne _ hq, rds_o hq, esb, sw_ne _ hq]
    have s0 : ∀ k : Int, k ≠ 12 → k ≠ 17 → k ≠ 18 → k ≠ 19 → r12 sb i' lv' b 0 k = sb 0 k := fun k h1 h2 h3 h4 => by unfold r12; rw [sw_eq, u1_ne _ h1, rds_0 h2 h3 h4]
    refine ⟨⟨fun q hq => ?_, fun k hk => ?_, fun gE => ?_⟩, ?_, fun j hj => ?_⟩
    · unfold RpO at hq
      rw [so q (by omega), F1.1 q (by omega) (by omega) (by omega) (by omega)]
      unfold rdE
      rw [sw_ne _ (by omega)]
    · unfold RpK at hk
      unfold rdE
      rw [sw_eq]
      by_cases c12 : k = 12
      · subst c12
        unfold r12
        rw [sw_eq, u1_eq, u1_eq]
      · rw [s0 k c12 (by omega) (by omega) (by omega), u1_ne _ c12, esb, sw_eq]
        by_cases c11 : k = 11
        · subst c11; rw [u1_eq, u1_eq]
        · rw [u1_ne _ c11, u1_ne _ c11, F1.2.1 k (by omega)]
    · have g2 := F1.2.2 hG
      have gb : G32 sb := by rw [esb]; exact G32_sw g2 (u1_32 (g2 0) (by decide))
      have gr : G32 (rds sb i' lv' b) := G32_sw gb (u1_32 (u1_32 (u1_32 (gb 0) (i2_of (by omega) (by omega))) (i2_of (by omega) (by omega))) b3)
      exact G32_sw gr (u1_32 (gr 0) b3)
    · rw [s0 16 (by decide) (by decide) (by decide) (by decide), esb, sw_eq, u1_ne _ (by decide)]; exact F2
    · rw [so 9 (by decide), so 10 (by decide)]
      exact ⟨(F3 j hj).1, (F3 j hj).2.1⟩
  have key : ∃ v g', ax_iter (fun s : Int × ax_H => lb_X5_reads_34 E (some m) s.1 s.2) (1, g1) = some (v, g') ∧ rdFa m sb h (pT' T N) (toks T N) (pAll (cT T N) (toks T N) cl 12 0 0) v g' := by
    rw [pAll_s]
    cases hf : cl 0 0 with
    | inl t =>
      rw [hf] at w2
      obtain ⟨t0, i', lv', b1, b2, e2⟩ := w2
      obtain ⟨y1, y2⟩ := p_ok R (i := t) t0.1 t0.2
      refine ⟨0, mdl m (r12 sb i' lv' (pT' T N t)) h, by rw [e2]; exact m_rBad y1 y2, ?_⟩
      exact ⟨rfl, t0, i', lv', b1, b2, rfl⟩
    | inr t =>
      obtain ⟨j', lv', y⟩ := t
      rw [hf] at w2
      have e2 : g1 = mdl m (rds sb j' lv' (-1)) h := w2
      obtain ⟨x1, x2, x3, x4⟩ := w3 j' lv' y hf
      obtain ⟨v, g', a, b⟩ := m_rAll (E := E) R PP 11 1 j' lv' y (by decide) (by decide) (by omega) x2 (by omega) x4
      exact ⟨v, g', by rw [e2]; exact a, b⟩
  obtain ⟨v, g', k1, k2⟩ := key
  generalize pAll (cT T N) (toks T N) cl 12 0 0 = r at k2
  cases r with
  | inl t =>
    obtain ⟨ev, t0, i', lv', b1, b2, e2⟩ := k2
    obtain ⟨y1, y2⟩ := p_ok R (i := t) t0.1 t0.2
    refine ⟨r12 sb i' lv' (pT' T N t), ?_, fin i' lv' _ b1 b2 y1⟩
    rw [run _ k1, ev, e2]
    rfl
  | inr L =>
    obtain ⟨ev, i', lv', b1, b2, e2⟩ := k2
    refine ⟨r12 sb i' lv' (-1), ?_, fin i' lv' (-1) b1 b2 (by decide)⟩
    rw [run _ k1, ev, e2]
    rfl
end
