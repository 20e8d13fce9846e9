/-! Orders: the model runs all -/
set_option maxRecDepth 100000
section
variable {E : ax_E} {m : Nat} {s X Y : Sg} {h : ax_H} {N i j lv lv' k n d q r x1 x3 v : Int} {c w A B : Rw} {C : Od}
/-- what was ahead is laid back -/
def bakM (Y : Sg) (x1 x3 : Int) : Sg := sw (sw Y 14 (cpR (Y 14) 0 (Y 15) 1184)) 0 (u1 (u1 (Y 0) 28 x1) 47 x3)
theorem m_133 (hv : v ≠ 0) (hv2 : -7 < v ∧ v ≤ 0) : f_X5_orders_133 E (some m) x1 x3 v 0 (mdl m Y h) = some (ordC v, mdl m (sRef (bakM Y x1 x3) (ordC v)) h) := by
  have st : ∀ (Z : Sg) (q u : Int), 0 ≤ q → q < 1184 → ax_sto (mdl m Z h) (some (m + 14)) 100 q u = some (mdl m (sw Z 14 (u1 (Z 14) q u)) h) := fun Z q u q0 q1 => md_sto14 q0 q1
  have ld : ∀ (Z : Sg) (q : Int), 0 ≤ q → q < 1184 → ax_ld E (mdl m Z h) (some (m + 15)) 100 q = some (Z 15 q) := fun Z q q0 q1 => md_ld15 q0 q1
  have tr := it_traj (body := fun y : Int × ax_H => lb_X5_orders_133 E (some m) x1 x3 v y.1 y.2) (fun t => ((t : Int), mdl m (sw Y 14 (cpR (Y 14) 0 (Y 15) t)) h)) 1184 (r := (ordC v, mdl m (sRef (bakM Y x1 x3) (ordC v)) h)) (fun t ht => by
    dsimp only
    unfold lb_X5_orders_133
    rw [i2_of (a := (t : Int)) (by omega) (by omega), show i2 1184 = 1184 by decide, if_pos (by omega), md_gR26, Option.bind_some, md_gR27, Option.bind_some, ld _ _ (by omega) (by omega), Option.bind_some, sw_ne _ (by decide), st _ _ _ (by omega) (by omega), Option.bind_some, sw_sw, sw_eq, cpR_s (by omega) (by omega)]
    rfl) (by
    dsimp only
    unfold lb_X5_orders_133 f_X5_orders_186
    rw [show ((1184 : Nat) : Int) = 1184 from rfl, if_neg (Int.lt_irrefl _), md_pI28, Option.bind_some, md_pI47, Option.bind_some, sw_eq, sw_sw, sw_ne (p := 0) (o := 14) _ (by decide)]
    have eb : sw (sw Y 14 (cpR (Y 14) 0 (Y 15) 1184)) 0 (u1 (u1 (Y 0) 28 x1) 47 x3) = bakM Y x1 x3 := rfl
    rw [eb, i2_of (a := v) (by omega) (by omega), show i2 (-5) = -5 by decide]
    unfold ordC
    by_cases c5 : v = -5
    · rw [if_pos c5, if_neg hv, if_pos c5, md_ce, Option.bind_some, m_refuses (by decide) (by decide), Option.bind_some]
      rfl
    · rw [if_neg c5, if_neg hv, if_neg c5, md_ce, Option.bind_some, m_refuses (by decide) (by decide), Option.bind_some]
      rfl)
  unfold f_X5_orders_133
  have e0 : sw Y 14 (cpR (Y 14) 0 (Y 15) ((0 : Nat) : Int)) = Y := by
    rw [show ((0 : Nat) : Int) = 0 from rfl, cpR_0, sw_self]
  rw [e0] at tr
  exact tr
/-- all orders -/
theorem m_ordLoop : ∀ (g : Nat) (i lv k d : Int) (L : List Od) (s X : Sg), pAll c N (pOrder c w) g i lv = .inr L → VW n s → DoV d s → d + 20 * g ≤ 10000 → TxO (s 2) N c w → Eo (2400 + i) A B s X → 0 ≤ i → i ≤ N → 0 ≤ lv → lv ≤ 50 → (∀ C, C ∈ L → OdB C) ∧ L.length ≤ g ∧ ∃ q Y, Eo q A B (allS L k s).2.2 Y ∧ ax_iter (fun y : Int × ax_H => lb_X5_orders_101 E (some m) x1 (2400 + N) y.1 y.2) (k, mdl m X h) = (if (allS L k s).1 = 0 then some ((allS L k s).2.2 0 48, mdl m (sGood Y) h) else some ((allS L k s).1, mdl m (sRef (bakM (sw Y 2 (cpR (Y 2) 0 (fun i => Y 5 (73 * 10 + i)) 73)) x1 (allS L k s).2.1) (allS L k s).1) h)) := by
  intro g
  induction g with
  | zero => intro i lv k d L s X hp; cases hp
  | succ g ih =>
    intro i lv k d L s X hp V D hd' T e h0 hiN l0 l1
    have hN := T.1
    have cN : ∀ k, c k ≠ 0 → 0 ≤ k ∧ k < N := by
      intro k hk
      rw [T.2.1] at hk
      exact cut_ne hk
    unfold pAll at hp
    cases hf : pOrder c w i lv with
    | inl t => rw [hf] at hp; cases hp
    | inr vv =>
      obtain ⟨j, lv', C⟩ := vv
      rw [hf] at hp
      simp only at hp
      obtain ⟨⟨q1, q2, q3, q4⟩, Bo, X', v, y1, y2, yb, y3⟩ := m_runs (E := E) (m := m) (h := h) V D (by omega) T e hf h0 l0 l1
      have bt := Bo.2.2.2.1
      obtain ⟨z1, z2, z3⟩ := timesS_V (n := n) Bo C.2.2.1.toNat d s ⟨V, D⟩ (by omega)
      have e50 := e.2.2.2.1
      have hd0 : lb_X5_orders_101 E (some m) x1 (2400 + N) k (mdl m X h) = if v = 0 then some (.inl (k + 1, mdl m X' h)) else some (.inr (ordC v, mdl m (sRef (bakM (sw X' 2 (cpR (X' 2) 0 (fun i => X' 5 (73 * 10 + i)) 73)) x1 k) (ordC v)) h)) := by
        unfold lb_X5_orders_101
        rw [md_gI50, Option.bind_some, e50, i2_of (a := 2400 + i) (by omega) (by omega), i2_of (a := 2400 + N) (by omega) (by omega), if_pos (by omega), md_ce, Option.bind_some, y3, Option.bind_some]
        dsimp only
        rw [i2_of (a := v) (by omega) (by omega)]
        by_cases c0 : v = 0
        · rw [if_pos c0, if_pos c0]
        · rw [if_neg c0, if_neg c0, md_ce, Option.bind_some, m_takesBack (by decide) (by decide), Option.bind_some, m_133 c0 yb]
          rfl
      rw [y2] at hd0
      have upD : DoV (d + 20) (timesS C C.2.2.1.toNat s).2 := ⟨⟨z1.2.1.1, by have := z1.2.1.2; omega⟩, z1.2.2⟩
      -- one alone, the last one or refused
      have bad : v ≠ 0 → ∀ L' : List Od, ∃ q Y, Eo q A B (allS (C :: L') k s).2.2 Y ∧ ax_iter (fun y : Int × ax_H => lb_X5_orders_101 E (some m) x1 (2400 + N) y.1 y.2) (k, mdl m X h) = (if (allS (C :: L') k s).1 = 0 then some ((allS (C :: L') k s).2.2 0 48, mdl m (sGood Y) h) else some ((allS (C :: L') k s).1, mdl m (sRef (bakM (sw Y 2 (cpR (Y 2) 0 (fun i => Y 5 (73 * 10 + i)) 73)) x1 (allS (C :: L') k s).2.1) (allS (C :: L') k s).1) h)) := by
        intro c0 L'
        have cz : ¬ (timesS C C.2.2.1.toNat s).1 = 0 := fun z => c0 (ordC_0.mp (y2.trans z))
        have ea : allS (C :: L') k s = ((timesS C C.2.2.1.toNat s).1, k, (timesS C C.2.2.1.toNat s).2) := by
          show (if _ then _ else _) = _
          rw [if_neg cz]
        rw [ea]
        dsimp only
        rw [if_neg c0] at hd0 y1
        exact ⟨_, X', y1, (it_done hd0).trans (if_neg cz).symm⟩
      by_cases c159 : c j = 159
      · rw [if_pos c159] at hp
        have hj := cN j (by omega)
        cases hf2 : pAll c N (pOrder c w) g (j + 1) lv' with
        | inl t => rw [hf2] at hp; cases hp
        | inr L2 =>
          rw [hf2] at hp
          cases hp
          by_cases c0 : v = 0
          · rw [if_pos c0] at hd0 y1
            have cz : (timesS C C.2.2.1.toNat s).1 = 0 := y2.symm.trans (ordC_0.mpr c0)
            have ea : allS (C :: L2) k s = allS L2 (k + 1) (timesS C C.2.2.1.toNat s).2 := by
              show (if _ then _ else _) = _
              rw [if_pos cz]
            obtain ⟨a1, a2, a3⟩ := ih (j + 1) lv' (k + 1) (d + 20) L2 (timesS C C.2.2.1.toNat s).2 X' hf2 z1.1 upD (by omega) (T.ac z2) y1 (by omega) (by omega) (by omega) q4
            rw [ea, it_step (body := fun y : Int × ax_H => lb_X5_orders_101 E (some m) x1 (2400 + N) y.1 y.2) (s := (k, mdl m X h)) hd0]
            refine ⟨fun C' hC' => ?_, by rw [List.length_cons]; omega, a3⟩
            rcases List.mem_cons.mp hC' with z | z
            · rw [z]; exact Bo
            · exact a1 C' z
          · obtain ⟨a1, a2, -⟩ := ih (j + 1) lv' (k + 1) (d + 20) L2 (timesS C C.2.2.1.toNat s).2 (sw X' 0 (u1 (X' 0) 50 (2400 + (j + 1)))) hf2 z1.1 upD (by omega) (T.ac z2) (by
              obtain ⟨e1, e2, e3, e4, e5, e6⟩ := y1
              refine ⟨fun o h => ?_, fun q h => ?_, G32_sw e3 (u1_32 (e3 0) (i2_of (by omega) (by omega))), by rw [sw_eq, u1_eq], by rw [sw_ne _ (by decide)]; exact e5, by rw [sw_ne _ (by decide)]; exact e6⟩
              · have h' := h
                unfold RpO at h'
                rw [sw_ne _ (by omega)]
                exact e1 o h
              · have h' := h
                unfold RpK at h'
                rw [sw_eq, u1_ne _ (by omega)]
                exact e2 q h) (by omega) (by omega) (by omega) q4
            refine ⟨fun C' hC' => ?_, by rw [List.length_cons]; omega, bad c0 L2⟩
            rcases List.mem_cons.mp hC' with z | z
            · rw [z]; exact Bo
            · exact a1 C' z
      · rw [if_neg c159] at hp
        by_cases hjN : j < N
        · rw [if_pos hjN] at hp; cases hp
        · rw [if_neg hjN] at hp
          cases hp
          refine ⟨fun C' hC' => ?_, by show 1 ≤ g + 1; omega, ?_⟩
          · rcases List.mem_cons.mp hC' with z | z
            · rw [z]; exact Bo
            · cases z
          · by_cases c0 : v = 0
            · rw [if_pos c0] at hd0 y1
              have cz : (timesS C C.2.2.1.toNat s).1 = 0 := y2.symm.trans (ordC_0.mpr c0)
              have ea : allS [C] k s = (0, k + 1, (timesS C C.2.2.1.toNat s).2) := by
                show (if _ then _ else _) = _
                rw [if_pos cz]
                rfl
              rw [ea]
              dsimp only
              refine ⟨_, X', y1, Eq.trans ((it_step (body := fun y : Int × ax_H => lb_X5_orders_101 E (some m) x1 (2400 + N) y.1 y.2) (s := (k, mdl m X h)) hd0).trans (it_done ?_)) (if_pos rfl).symm⟩
              dsimp only
              unfold lb_X5_orders_101
              rw [md_gI50, Option.bind_some, y1.2.2.2.1, i2_of (a := 2400 + (j + 1)) (by omega) (by omega), i2_of (a := 2400 + N) (by omega) (by omega), if_neg (by omega), md_gI48, Option.bind_some, md_ce, Option.bind_some, m_good, Option.bind_some, y1.k0 (k := 48) (Or.inl rfl)]
              rfl
            · exact bad c0 []
end
