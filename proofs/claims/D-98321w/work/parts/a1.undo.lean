/-! An act undone: the model -/
set_option maxRecDepth 100000
/-- the row that was kept last -/
def lastU (s : Sg) : Rw := fun i => s 14 (74 * (s 0 28 - 1) + i)
def popU (s : Sg) : Sg := sw s 0 (u1 (s 0) 28 (s 0 28 - 1))
def undoS (s : Sg) : Int × Sg := if s 0 28 = 0 then (-3, s) else (lastU s 73, sw (popU s) 2 (cpR (s 2) 0 (lastU s) 73))
section
variable {E : ax_E} {m : Nat} {s : Sg} {h : ax_H}
theorem m_und34 {b : Int} (h0 : 0 ≤ b) (h1 : b + 74 ≤ 1184) (hv : 0 ≤ s 14 (b + 73)) : f_X5_undo_34 E (some m) b 0 (mdl m s h) = some (s 14 (b + 73), mdl m (telM (sw s 2 (cpR (s 2) 0 (fun i => s 14 (b + i)) 73)) (s 14 (b + 73))) h) := by
  have e := it_traj (body := fun x : Int × ax_H => lb_X5_undo_34 E (some m) b x.1 x.2) (fun n => ((n : Int), mdl m (sw s 2 (cpR (s 2) 0 (fun i => s 14 (b + i)) n)) h)) 73 (r := (s 14 (b + 73), mdl m (sGood (sw s 2 (cpR (s 2) 0 (fun i => s 14 (b + i)) 73))) h)) ?_ ?_
  · unfold f_X5_undo_34 telM
    rw [if_neg (by omega), ← e]
    show ax_iter _ (0, mdl m s h) = ax_iter _ (((0 : Nat) : Int), _)
    rw [show ((0 : Nat) : Int) = 0 from rfl, cpR_0, sw_self]
  · intro n hn
    simp (disch := first | omega | assumption | exact hG _ _ | (refine i2_ofp ?_; omega)) only [lb_X5_undo_34, md_gR2, md_ld2, md_sto2, md_gR26, md_ld14, Option.bind_some, Option.map_some, sw_eq, sw_ne, u1_eq, u1_ne, u1_u1, sw_sw, i2_of, if_pos, if_neg, true_or, or_true, if_true, if_false]
    rw [cpR_s (g := fun i => s 14 (b + i)) (by omega) (by omega)]
    rfl
  · simp (disch := first | omega | assumption | exact hG _ _ | (refine i2_ofp ?_; omega)) only [lb_X5_undo_34, md_ce, m_good, md_gR2, md_ld2, md_sto2, md_gR26, md_ld14, Option.bind_some, Option.map_some, sw_eq, sw_ne, u1_eq, u1_ne, u1_u1, sw_sw, i2_of, if_pos, if_neg, true_or, or_true, if_true, if_false]
    rfl
theorem m_undo (hG : G32 s) (hU : UnV s) : f_X5_undo E (some m) (mdl m s h) = some ((telP (undoS s)).1, mdl m (telP (undoS s)).2 h) := by
  obtain ⟨⟨h0, h16⟩, hu⟩ := hU
  unfold f_X5_undo telP undoS
  rw [md_gI28, Option.bind_some, hG]
  by_cases c : s 0 28 = 0
  · rw [if_pos c, if_pos c, md_ce, Option.bind_some, m_refuses (by decide) (by decide), Option.bind_some]
    rfl
  · obtain ⟨-, q⟩ := hu (s 0 28 - 1) (by omega) (by omega)
    have e0 : popU s 0 28 = s 0 28 - 1 := by unfold popU; rw [sw_eq, u1_eq]
    have e14 : popU s 14 = s 14 := sw_ne _ (by decide)
    have e2 : popU s 2 = s 2 := sw_ne _ (by decide)
    have pp : ax_pI (mdl m s h) (some m) 5 28 (s 0 28 - 1) = some (mdl m (popU s) h) := md_pI28
    rw [if_neg c, if_neg c, Option.bind_some, pp, Option.bind_some, md_gI28, Option.bind_some, e0, m_und34 (by omega) (by omega) (by rw [e14]; exact q.1), e14, e2]
    rfl
end
theorem popU_UnV {s : Sg} (hU : UnV s) (h : s 0 28 ≠ 0) : UnV (popU s) := by
  obtain ⟨⟨h0, h16⟩, hu⟩ := hU
  have e0 : popU s 0 28 = s 0 28 - 1 := by unfold popU; rw [sw_eq, u1_eq]
  have e14 : popU s 14 = s 14 := sw_ne _ (by decide)
  have e2 : popU s 2 = s 2 := sw_ne _ (by decide)
  refine ⟨by omega, fun k k0 k1 => ?_⟩
  rw [e14, e2]
  exact hu k k0 (by omega)
theorem undoS_VS {n : Int} {s : Sg} (H : VS n s) : VS n (undoS s).2 := by
  obtain ⟨a1, a2, a3, a4, a5⟩ := H
  unfold undoS
  split
  · exact ⟨a1, a2, a3, a4, a5⟩
  · rename_i c
    have hu := popU_UnV a4 c
    obtain ⟨r, q⟩ := a4.2 (s 0 28 - 1) (by have := a4.1; omega) (by omega)
    have hR : RV (s 2 152) (cpR (s 2) 0 (lastU s) 73) := RV_congr r (fun i i0 i1 => by rw [cpR_in (by omega)]; unfold lastU; congr 2; omega)
    have up : ∀ i, 73 ≤ i → cpR (s 2) 0 (lastU s) 73 i = s 2 i := fun i hi => cpR_out (by omega)
    have e2 : popU s 2 = s 2 := sw_ne _ (by decide)
    have b := a4.1
    show VS n (sw (popU s) 2 (cpR (s 2) 0 (lastU s) 73))
    refine ⟨G32_sw (G32_sw a1 (u1_32 (a1 0) (i2_of (by omega) (by omega)))) (cpR_32 (a1 2) (fun i => a1 14 _)), ?_, ?_, ?_, ?_⟩
    · rw [sw_eq]; exact a2.low up hR
    · rw [sw_eq]; exact a3.low up
    · refine ⟨?_, ?_⟩
      · rw [sw_ne _ (by decide)]; exact hu.1
      · rw [show sw (popU s) 2 (cpR (s 2) 0 (lastU s) 73) 0 = popU s 0 from sw_ne _ (by decide), show sw (popU s) 2 (cpR (s 2) 0 (lastU s) 73) 14 = popU s 14 from sw_ne _ (by decide), sw_eq, up 152 (by decide), ← e2]
        exact hu.2
    · rw [sw_ne _ (by decide)]
      unfold popU
      rw [sw_ne _ (by decide)]
      exact a5
