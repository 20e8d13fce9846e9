/-! THE MODEL: rows laid aside, debts -/
set_option maxRecDepth 100000
section
variable {E : ax_E} {m : Nat} {s : Sg} {h : ax_H}
theorem m_laysAside {k : Int} (h0 : 0 ≤ k) (h1 : k ≤ 10) : f_X5_laysAside E (some m) k (mdl m s h) = some (mdl m (sw s 5 (cpR (s 5) (73 * k) (s 2) 73)) h) := by
  have e := it_traj (body := fun x : Int × ax_H => lb_X5_laysAside_2 E (some m) k x.1 x.2) (fun n => ((n : Int), mdl m (sw s 5 (cpR (s 5) (73 * k) (s 2) n)) h)) 73 (r := mdl m (sw s 5 (cpR (s 5) (73 * k) (s 2) 73)) h) ?_ ?_
  · rw [← e]
    show ax_iter _ (0, mdl m s h) = ax_iter _ (((0 : Nat) : Int), _)
    rw [show ((0 : Nat) : Int) = 0 from rfl, cpR_0, sw_self]
  · intro n hn
    simp (disch := first | omega | assumption | exact hG _ _ | (refine i2_ofp ?_; omega)) only [lb_X5_laysAside_2, md_gR2, md_ld2, md_sto2, md_gR5, md_ld5, md_sto5, Option.bind_some, Option.map_some, sw_eq, sw_ne, u1_eq, u1_ne, u1_u1, sw_sw, i2_of, if_pos, if_neg, true_or, or_true, if_true, if_false]
    rw [cpR_s (by omega) rfl]
    rfl
  · simp (disch := first | omega | assumption | exact hG _ _ | (refine i2_ofp ?_; omega)) only [lb_X5_laysAside_2, md_gR2, md_ld2, md_sto2, md_gR5, md_ld5, md_sto5, Option.bind_some, Option.map_some, sw_eq, sw_ne, u1_eq, u1_ne, u1_u1, sw_sw, i2_of, if_pos, if_neg, true_or, or_true, if_true, if_false]
    rfl
theorem m_takesBack {k : Int} (h0 : 0 ≤ k) (h1 : k ≤ 10) : f_X5_takesBack E (some m) k (mdl m s h) = some (mdl m (sw s 2 (cpR (s 2) 0 (fun i => s 5 (73 * k + i)) 73)) h) := by
  have e := it_traj (body := fun x : Int × ax_H => lb_X5_takesBack_2 E (some m) k x.1 x.2) (fun n => ((n : Int), mdl m (sw s 2 (cpR (s 2) 0 (fun i => s 5 (73 * k + i)) n)) h)) 73 (r := mdl m (sw s 2 (cpR (s 2) 0 (fun i => s 5 (73 * k + i)) 73)) h) ?_ ?_
  · rw [← e]
    show ax_iter _ (0, mdl m s h) = ax_iter _ (((0 : Nat) : Int), _)
    rw [show ((0 : Nat) : Int) = 0 from rfl, cpR_0, sw_self]
  · intro n hn
    simp (disch := first | omega | assumption | exact hG _ _ | (refine i2_ofp ?_; omega)) only [lb_X5_takesBack_2, md_gR2, md_ld2, md_sto2, md_gR5, md_ld5, md_sto5, Option.bind_some, Option.map_some, sw_eq, sw_ne, u1_eq, u1_ne, u1_u1, sw_sw, i2_of, if_pos, if_neg, true_or, or_true, if_true, if_false]
    rw [cpR_s (g := fun i => s 5 (73 * k + i)) (by omega) (by omega)]
    rfl
  · simp (disch := first | omega | assumption | exact hG _ _ | (refine i2_ofp ?_; omega)) only [lb_X5_takesBack_2, md_gR2, md_ld2, md_sto2, md_gR5, md_ld5, md_sto5, Option.bind_some, Option.map_some, sw_eq, sw_ne, u1_eq, u1_ne, u1_u1, sw_sw, i2_of, if_pos, if_neg, true_or, or_true, if_true, if_false]
    rfl
theorem m_image {k : Int} (h0 : 0 ≤ k) (h1 : k ≤ 1) : f_X5_image E (some m) k (mdl m s h) = some (0, mdl m (sGood (sw (sw s 3 (cpR (s 3) (5764 * k) (s 2) 5764)) 4 (u1 (s 4) k 1))) h) := by
  have e := it_traj (body := fun x : Int × ax_H => lb_X5_image_17 E (some m) k x.1 x.2) (fun n => ((n : Int), mdl m (sw s 3 (cpR (s 3) (5764 * k) (s 2) n)) h)) 5764 (r := (0, mdl m (sGood (sw (sw s 3 (cpR (s 3) (5764 * k) (s 2) 5764)) 4 (u1 (s 4) k 1))) h)) ?_ ?_
  · simp (disch := first | omega | assumption | exact hG _ _ | (refine i2_ofp ?_; omega)) only [f_X5_image, m_lies, Option.bind_some, b01_z]
    rw [if_neg (by omega), ← e]
    show ax_iter _ (0, mdl m s h) = ax_iter _ (((0 : Nat) : Int), _)
    rw [show ((0 : Nat) : Int) = 0 from rfl, cpR_0, sw_self]
  · intro n hn
    simp (disch := first | omega | assumption | exact hG _ _ | (refine i2_ofp ?_; omega)) only [lb_X5_image_17, md_ce, md_gR2, md_ld2, md_sto2, md_gR3, md_ld3, md_sto3, md_gR4, md_ld4, md_sto4, Option.bind_some, Option.map_some, sw_eq, sw_ne, u1_eq, u1_ne, u1_u1, sw_sw, i2_of, if_pos, if_neg, true_or, or_true, if_true, if_false]
    rw [cpR_s (by omega) rfl]
    rfl
  · simp (disch := first | omega | assumption | exact hG _ _ | (refine i2_ofp ?_; omega)) only [lb_X5_image_17, md_ce, md_gR2, md_ld2, md_sto2, md_gR3, md_ld3, md_sto3, md_gR4, md_ld4, md_sto4, m_good, Option.bind_some, Option.map_some, sw_eq, sw_ne, u1_eq, u1_ne, u1_u1, sw_sw, i2_of, if_pos, if_neg, true_or, or_true, if_true, if_false]
    rfl
theorem m_back {k : Int} (h0 : 0 ≤ k) (h1 : k ≤ 1) (h2 : s 4 k = 1) : f_X5_back E (some m) k (mdl m s h) = some (0, mdl m (sSet (sw s 2 (cpR (s 2) 0 (fun i => s 3 (5764 * k + i)) 5764))) h) := by
  have e := it_traj (body := fun x : Int × ax_H => lb_X5_back_33 E (some m) k x.1 x.2) (fun n => ((n : Int), mdl m (sw s 2 (cpR (s 2) 0 (fun i => s 3 (5764 * k + i)) n)) h)) 5764 (r := (0, mdl m (sSet (sw s 2 (cpR (s 2) 0 (fun i => s 3 (5764 * k + i)) 5764))) h)) ?_ ?_
  · have i1 : ¬ i2 1 = 0 := by decide
    simp (disch := first | omega | assumption | exact hG _ _ | (refine i2_ofp ?_; omega)) only [f_X5_back, m_lies, Option.bind_some, b01_z, md_gR4, md_ld4, h2]
    rw [if_neg (by omega), if_neg i1, ← e]
    show ax_iter _ (0, mdl m s h) = ax_iter _ (((0 : Nat) : Int), _)
    rw [show ((0 : Nat) : Int) = 0 from rfl, cpR_0, sw_self]
  · intro n hn
    simp (disch := first | omega | assumption | exact hG _ _ | (refine i2_ofp ?_; omega)) only [lb_X5_back_33, md_ce, md_gR2, md_ld2, md_sto2, md_gR3, md_ld3, md_sto3, Option.bind_some, Option.map_some, sw_eq, sw_ne, u1_eq, u1_ne, u1_u1, sw_sw, i2_of, if_pos, if_neg, true_or, or_true, if_true, if_false]
    rw [cpR_s (g := fun i => s 3 (5764 * k + i)) (by omega) (by omega)]
    rfl
  · simp (disch := first | omega | assumption | exact hG _ _ | (refine i2_ofp ?_; omega)) only [lb_X5_back_33, md_ce, md_gR2, md_ld2, md_sto2, md_gR3, md_ld3, md_sto3, m_settled, Option.bind_some, Option.map_some, sw_eq, sw_ne, u1_eq, u1_ne, u1_u1, sw_sw, i2_of, if_pos, if_neg, true_or, or_true, if_true, if_false]
    rfl
theorem m_isOf {d p q : Int} (hG : G32 s) (h0 : 0 ≤ d) (h1 : d ≤ 100) (hp : i2 p = p) (hq : i2 q = q) : f_X5_isOf E (some m) d p q (mdl m s h) = some (b01 (s 2 (7 + 4 * d) = p ∧ s 2 (7 + 4 * d + 1) = q), mdl m s h) := by
  simp (disch := first | omega | assumption | exact hG _ _ | (refine i2_ofp ?_; omega)) only [f_X5_isOf, f_X5_isOf_36, md_gR2, md_ld2, Option.bind_some, hG _ _, hp, hq]
  by_cases a : s 2 (7 + 4 * d) = p
  · by_cases b : s 2 (7 + 4 * d + 1) = q
    · rw [if_pos a, if_pos b, b01_t ⟨a, b⟩]
    · rw [if_pos a, if_neg b, b01_f (fun x => b x.2)]
  · rw [if_neg a, b01_f (fun x => a x.1)]
theorem m_owed {p q : Int} (hG : G32 s) (h0 : 0 ≤ s 2 71) (h1 : s 2 71 ≤ 16) (hp : i2 p = p) (hq : i2 q = q) : f_X5_owed E (some m) p q (mdl m s h) = some (owed (s 2) p q, mdl m s h) := by
  have e := it_traj (body := fun x : Int × Int × ax_H => lb_X5_owed_5 E (some m) p q x.1 x.2.1 x.2.2) (fun n => (sm n (fun k => if s 2 (7 + 4 * (k : Int)) = p ∧ s 2 (7 + 4 * (k : Int) + 1) = q then s 2 (7 + 4 * (k : Int) + 2) else 0), (n : Int), mdl m s h)) (s 2 71).toNat (r := (owed (s 2) p q, mdl m s h)) ?_ ?_
  · exact e
  · intro k hk
    simp (disch := first | omega | assumption | exact hG _ _ | (refine i2_ofp ?_; omega)) only [lb_X5_owed_5, f_X5_owed_44, md_ce, md_gR2, md_ld2, m_debts, m_isOf hG, b01_z, Option.bind_some, i2_of, hG _ _]
    rw [if_pos (by omega)]
    by_cases a : s 2 (7 + 4 * (k : Int)) = p ∧ s 2 (7 + 4 * (k : Int) + 1) = q
    · rw [if_neg (by simp [a])]
      simp [sm, a]
    · rw [if_pos a]
      simp [sm, a]
  · simp (disch := first | omega | assumption | exact hG _ _ | (refine i2_ofp ?_; omega)) only [lb_X5_owed_5, md_ce, m_debts, Option.bind_some, Option.map_some, i2_of, hG _ _]
    rw [if_neg (by omega)]
    rfl
theorem m_balanceOf {p : Int} (hG : G32 s) (h0 : 0 ≤ s 2 71) (h1 : s 2 71 ≤ 16) (hp : i2 p = p) : f_X5_balanceOf E (some m) p (mdl m s h) = some (balanceS (s 2) p, mdl m s h) := by
  have e := it_traj (body := fun x : Int × Int × ax_H => lb_X5_balanceOf_4 E (some m) p x.1 x.2.1 x.2.2) (fun n => (sm n (fun k => if s 2 (7 + 4 * (k : Int) + 1) = p then s 2 (7 + 4 * (k : Int) + 2) else if s 2 (7 + 4 * (k : Int)) = p then - s 2 (7 + 4 * (k : Int) + 2) else 0), (n : Int), mdl m s h)) (s 2 71).toNat (r := (balanceS (s 2) p, mdl m s h)) ?_ ?_
  · exact e
  · intro k hk
    simp (disch := first | omega | assumption | exact hG _ _ | (refine i2_ofp ?_; omega)) only [lb_X5_balanceOf_4, f_X5_balanceOf_79, md_ce, md_gR2, md_ld2, m_debts, Option.bind_some, i2_of, hG _ _, hp]
    rw [if_pos (by omega)]
    by_cases a : s 2 (7 + 4 * (k : Int) + 1) = p
    · rw [if_pos a]
      simp [sm, a]
    · rw [if_neg a]
      by_cases b : s 2 (7 + 4 * (k : Int)) = p
      · rw [if_pos b]
        simp [sm, a, b]
      · rw [if_neg b]
        simp [sm, a, b]
  · simp (disch := first | omega | assumption | exact hG _ _ | (refine i2_ofp ?_; omega)) only [lb_X5_balanceOf_4, md_ce, m_debts, Option.bind_some, Option.map_some, i2_of, hG _ _]
    rw [if_neg (by omega)]
    rfl
theorem m_adds {d c a : Int} (h0 : 0 ≤ s 2 71) (h1 : s 2 71 ≤ 15) : f_X5_adds E (some m) d c a (mdl m s h) = some (mdl m (sw s 2 (addsS (s 2) d c a)) h) := by
  simp (disch := first | omega | assumption | exact hG _ _ | (refine i2_ofp ?_; omega)) only [f_X5_adds, md_ce, md_gR2, md_ld2, md_sto2, m_debts, Option.bind_some, Option.map_some, sw_eq, sw_ne, u1_eq, u1_ne, u1_u1, sw_sw, i2_of, if_pos, if_neg, true_or, or_true, if_true, if_false]
  rfl
theorem m_removes {d : Int} (hG : G32 s) (h0 : 0 ≤ d) (h1 : d < s 2 71) (h2 : s 2 71 ≤ 16) : f_X5_removes E (some m) d (mdl m s h) = some (mdl m (sw s 2 (removesS (s 2) d)) h) := by
  have e := it_traj (body := fun x : Int × ax_H => lb_X5_removes_15 E (some m) x.1 x.2) (fun n => (4 * d + (n : Int), mdl m (sw s 2 (cpR (u1 (s 2) 71 (s 2 71 - 1)) (7 + 4 * d) (fun i => s 2 (7 + 4 * d + i + 4)) n)) h)) (4 * (s 2 71 - 1 - d)).toNat (r := mdl m (sw s 2 (removesS (s 2) d)) h) ?_ ?_
  · simp (disch := first | omega | assumption | exact hG _ _ | (refine i2_ofp ?_; omega)) only [f_X5_removes, md_gR2, md_ld2, md_sto2, Option.bind_some]
    rw [← e]
    show ax_iter _ (4 * d, _) = ax_iter _ (4 * d + ((0 : Nat) : Int), _)
    rw [show ((0 : Nat) : Int) = 0 from rfl, cpR_0, Int.add_zero]
  · intro n hn
    have e1 : cpR (u1 (s 2) 71 (s 2 71 - 1)) (7 + 4 * d) (fun i => s 2 (7 + 4 * d + i + 4)) n 71 = s 2 71 - 1 := by rw [cpR_out (by omega), u1_eq]
    have e2 : cpR (u1 (s 2) 71 (s 2 71 - 1)) (7 + 4 * d) (fun i => s 2 (7 + 4 * d + i + 4)) n (7 + (4 * d + (n : Int)) + 4) = s 2 (7 + 4 * d + (n : Int) + 4) := by
      rw [cpR_out (by omega), u1_ne _ (by omega)]
      congr 1
      omega
    simp (disch := first | omega | assumption | exact hG _ _ | (refine i2_ofp ?_; omega)) only [lb_X5_removes_15, md_ce, md_gR2, md_ld2, md_sto2, m_debts, e1, e2, Option.bind_some, Option.map_some, sw_eq, sw_ne, u1_eq, u1_ne, u1_u1, sw_sw, i2_of, if_pos, if_neg, true_or, or_true, if_true, if_false]
    rw [cpR_s (g := fun i => s 2 (7 + 4 * d + i + 4)) (by omega) (by omega)]
    congr 3
    omega
  · have e1 : cpR (u1 (s 2) 71 (s 2 71 - 1)) (7 + 4 * d) (fun i => s 2 (7 + 4 * d + i + 4)) ((4 * (s 2 71 - 1 - d)).toNat : Int) 71 = s 2 71 - 1 := by rw [cpR_out (by omega), u1_eq]
    simp (disch := first | omega | assumption | exact hG _ _ | (refine i2_ofp ?_; omega)) only [lb_X5_removes_15, md_ce, md_gR2, md_ld2, md_sto2, m_debts, e1, Option.bind_some, Option.map_some, sw_eq, sw_ne, u1_eq, u1_ne, u1_u1, sw_sw, i2_of, if_pos, if_neg, true_or, or_true, if_true, if_false]
    rw [Int.toNat_of_nonneg (by omega)]
    rfl
end
