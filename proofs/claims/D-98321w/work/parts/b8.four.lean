/-! Visits, scuffs told: the model -/
set_option maxRecDepth 100000
def fourR (K : Rw) (a c v o r w : Int) : Rw := u1 (u1 (u1 (u1 (u1 K (a + 4 * K c) v) (a + 4 * K c + 1) o) (a + 4 * K c + 2) r) (a + 4 * K c + 3) w) c (K c + 1)
def fourS (s : Sg) (a c v o r w : Int) : Int × Sg := if ¬ ((0 ≤ v ∧ v ≤ s 2 152 - 1) ∧ (0 ≤ o ∧ o ≤ s 2 152 - 1)) then (-2, s) else if s 2 c = 8 then (-5, s) else (s 2 c + 1, sw s 2 (fourR (s 2) a c v o r w))
def visitS (s : Sg) (v o r w : Int) : Int × Sg := if ¬ ((1 ≤ r ∧ r ≤ 3) ∧ (0 ≤ w ∧ w ≤ 999) ∧ v ≠ o) then (-1, s) else fourS s 87 153 v o r w
def scuffS (s : Sg) (v o r w : Int) : Int × Sg := if ¬ ((1 ≤ r ∧ r ≤ 3) ∧ (0 ≤ w ∧ w ≤ 1) ∧ v ≠ o) then (-1, s) else fourS s 119 154 v o r w
def goS (s : Sg) (c : Int) : Int × Sg := (s 2 c, sw s 2 (u1 (s 2) c 0))
section
variable {E : ax_E} {m : Nat} {s : Sg} {h : ax_H}
theorem m_four {a c v o r w : Int} (hac : (a = 87 ∧ c = 153) ∨ (a = 119 ∧ c = 154)) (hG : G32 s) (hK : KB (s 2)) (hF : 0 ≤ s 2 c ∧ s 2 c ≤ 8) (hv : i2 v = v) (ho : i2 o = o) : f_X5_tellsFour E (some m) a c 8 v o r w (mdl m s h) = some ((telP (fourS s a c v o r w)).1, mdl m (telP (fourS s a c v o r w)).2 h) := by
  unfold f_X5_tellsFour f_X5_tellsFour_18 telP telM fourS
  rw [md_ce, Option.bind_some, m_isPerson hG hv hK.1.1, Option.bind_some]
  by_cases c1 : 0 ≤ v ∧ v ≤ s 2 152 - 1
  · rw [if_neg (by rw [b01_z]; simp [c1]), md_ce, Option.bind_some, m_isPerson hG ho hK.1.1, Option.bind_some]
    by_cases c2 : 0 ≤ o ∧ o ≤ s 2 152 - 1
    · rw [if_neg (by rw [b01_z]; simp [c2])]
      simp only [if_neg (show ¬ ¬ ((0 ≤ v ∧ v ≤ s 2 152 - 1) ∧ (0 ≤ o ∧ o ≤ s 2 152 - 1)) from fun z => z ⟨c1, c2⟩)]
      rcases hac with ⟨rfl, rfl⟩ | ⟨rfl, rfl⟩
      · by_cases c3 : s 2 153 = 8
        · simp (disch := first | omega | assumption | exact hG _ _ | (refine i2_ofp ?_; omega)) only [md_ce, md_gR2, md_ld2, m_refuses, Option.bind_some, Option.map_some, sw_eq, sw_ne, u1_eq, u1_ne, u1_u1, sw_sw, i2_of, if_pos, if_neg, true_or, or_true, if_true, if_false]
        · simp (disch := first | omega | assumption | exact hG _ _ | (refine i2_ofp ?_; omega)) only [f_X5_tellsFour, f_X5_tellsFour_18, md_ce, md_gR2, md_ld2, md_sto2, m_good, Option.bind_some, Option.map_some, sw_eq, sw_ne, u1_eq, u1_ne, u1_u1, sw_sw, i2_of, if_pos, if_neg, true_or, or_true, if_true, if_false]
          rfl
      · by_cases c3 : s 2 154 = 8
        · simp (disch := first | omega | assumption | exact hG _ _ | (refine i2_ofp ?_; omega)) only [md_ce, md_gR2, md_ld2, m_refuses, Option.bind_some, Option.map_some, sw_eq, sw_ne, u1_eq, u1_ne, u1_u1, sw_sw, i2_of, if_pos, if_neg, true_or, or_true, if_true, if_false]
        · simp (disch := first | omega | assumption | exact hG _ _ | (refine i2_ofp ?_; omega)) only [f_X5_tellsFour, f_X5_tellsFour_18, md_ce, md_gR2, md_ld2, md_sto2, m_good, Option.bind_some, Option.map_some, sw_eq, sw_ne, u1_eq, u1_ne, u1_u1, sw_sw, i2_of, if_pos, if_neg, true_or, or_true, if_true, if_false]
          rfl
    · rw [if_pos (by rw [b01_z]; exact c2)]
      simp only [if_pos (show ¬ ((0 ≤ v ∧ v ≤ s 2 152 - 1) ∧ (0 ≤ o ∧ o ≤ s 2 152 - 1)) from fun z => c2 z.2)]
      rw [md_ce, Option.bind_some, m_refuses (by decide) (by decide), Option.bind_some, if_pos (by decide)]
  · rw [if_pos (by rw [b01_z]; exact c1)]
    simp only [if_pos (show ¬ ((0 ≤ v ∧ v ≤ s 2 152 - 1) ∧ (0 ≤ o ∧ o ≤ s 2 152 - 1)) from fun z => c1 z.1)]
    rw [md_ce, Option.bind_some, m_refuses (by decide) (by decide), Option.bind_some, if_pos (by decide)]
theorem m_visit {v o r w : Int} (hG : G32 s) (hK : KB (s 2)) (hF : 0 ≤ s 2 153 ∧ s 2 153 ≤ 8) (hv : i2 v = v) (ho : i2 o = o) (hr : i2 r = r) (hw : i2 w = w) : f_X5_visit E (some m) v o r w (mdl m s h) = some ((telP (visitS s v o r w)).1, mdl m (telP (visitS s v o r w)).2 h) := by
  unfold f_X5_visit f_X5_visit_24
  rw [hv, ho]
  have no : ∀ (hc : ¬ ((1 ≤ r ∧ r ≤ 3) ∧ (0 ≤ w ∧ w ≤ 999) ∧ v ≠ o)), ((ax_ce E (mdl m s h) (some m) 5).bind fun _ => (f_X5_refuses E (some m) (-1) (mdl m s h)).bind fun q1 => some (q1.1, q1.2)) = some ((telP (visitS s v o r w)).1, mdl m (telP (visitS s v o r w)).2 h) := by
    intro hc
    unfold visitS telP telM
    simp only [if_pos hc]
    rw [md_ce, Option.bind_some, m_refuses (by decide) (by decide), Option.bind_some, if_pos (by decide)]
  by_cases c0 : v = o
  · rw [if_pos c0]
    exact no (fun z => z.2.2 c0)
  · rw [if_neg c0, m_isRoom hr, Option.bind_some]
    by_cases c1 : 1 ≤ r ∧ r ≤ 3
    · rw [if_neg (by rw [b01_z]; simp [c1]), m_lies hw (by decide) (by decide), Option.bind_some]
      by_cases c2 : 0 ≤ w ∧ w ≤ 999
      · rw [if_neg (by rw [b01_z]; simp [c2]), md_ce, Option.bind_some, m_four (Or.inl ⟨rfl, rfl⟩) hG hK hF hv ho, Option.bind_some]
        unfold visitS
        rw [if_neg (fun z => z ⟨c1, c2, c0⟩)]
      · rw [if_pos (by rw [b01_z]; exact c2)]
        exact no (fun z => c2 z.2.1)
    · rw [if_pos (by rw [b01_z]; exact c1)]
      exact no (fun z => c1 z.1)
theorem m_scuff {v o r w : Int} (hG : G32 s) (hK : KB (s 2)) (hF : 0 ≤ s 2 154 ∧ s 2 154 ≤ 8) (hv : i2 v = v) (ho : i2 o = o) (hr : i2 r = r) (hw : i2 w = w) : f_X5_scuff E (some m) v o r w (mdl m s h) = some ((telP (scuffS s v o r w)).1, mdl m (telP (scuffS s v o r w)).2 h) := by
  unfold f_X5_scuff f_X5_scuff_22
  rw [hv, ho]
  have no : ∀ (hc : ¬ ((1 ≤ r ∧ r ≤ 3) ∧ (0 ≤ w ∧ w ≤ 1) ∧ v ≠ o)), ((ax_ce E (mdl m s h) (some m) 5).bind fun _ => (f_X5_refuses E (some m) (-1) (mdl m s h)).bind fun q1 => some (q1.1, q1.2)) = some ((telP (scuffS s v o r w)).1, mdl m (telP (scuffS s v o r w)).2 h) := by
    intro hc
    unfold scuffS telP telM
    simp only [if_pos hc]
    rw [md_ce, Option.bind_some, m_refuses (by decide) (by decide), Option.bind_some, if_pos (by decide)]
  by_cases c0 : v = o
  · rw [if_pos c0]
    exact no (fun z => z.2.2 c0)
  · rw [if_neg c0, m_isRoom hr, Option.bind_some]
    by_cases c1 : 1 ≤ r ∧ r ≤ 3
    · rw [if_neg (by rw [b01_z]; simp [c1]), m_lies hw (by decide) (by decide), Option.bind_some]
      by_cases c2 : 0 ≤ w ∧ w ≤ 1
      · rw [if_neg (by rw [b01_z]; simp [c2]), md_ce, Option.bind_some, m_four (Or.inr ⟨rfl, rfl⟩) hG hK hF hv ho, Option.bind_some]
        unfold scuffS
        rw [if_neg (fun z => z ⟨c1, c2, c0⟩)]
      · rw [if_pos (by rw [b01_z]; exact c2)]
        exact no (fun z => c2 z.2.1)
    · rw [if_pos (by rw [b01_z]; exact c1)]
      exact no (fun z => c1 z.1)
theorem m_cancel : f_X5_cancel E (some m) (mdl m s h) = some ((goS s 153).1, mdl m (goS s 153).2 h) := by
  unfold goS
  simp (disch := first | omega | assumption | exact hG _ _ | (refine i2_ofp ?_; omega)) only [f_X5_cancel, f_X5_goAll, md_ce, md_gR2, md_ld2, md_sto2, Option.bind_some, Option.map_some, sw_eq, sw_ne, u1_eq, u1_ne, u1_u1, sw_sw, i2_of, if_pos, if_neg, true_or, or_true, if_true, if_false]
theorem m_sweep : f_X5_sweep E (some m) (mdl m s h) = some ((goS s 154).1, mdl m (goS s 154).2 h) := by
  unfold goS
  simp (disch := first | omega | assumption | exact hG _ _ | (refine i2_ofp ?_; omega)) only [f_X5_sweep, f_X5_goAll, md_ce, md_gR2, md_ld2, md_sto2, Option.bind_some, Option.map_some, sw_eq, sw_ne, u1_eq, u1_ne, u1_u1, sw_sw, i2_of, if_pos, if_neg, true_or, or_true, if_true, if_false]
end
/-! what holds then -/
theorem KW_four {K : Rw} {a c v o r w hi : Int} (H : KW K) (hac : (a = 87 ∧ c = 153 ∧ hi = 999) ∨ (a = 119 ∧ c = 154 ∧ hi = 1)) (hv : 0 ≤ v ∧ v < K 152) (ho : 0 ≤ o ∧ o < K 152) (hvo : v ≠ o) (hr : 1 ≤ r ∧ r ≤ 3) (hw : 0 ≤ w ∧ w ≤ hi) (h8 : K c ≠ 8) : KW (fourR K a c v o r w) := by
  obtain ⟨kb, lv, fv, fs⟩ := H
  have fc : FoV K a c hi := by
    rcases hac with ⟨rfl, rfl, rfl⟩ | ⟨rfl, rfl, rfl⟩
    · exact fv
    · exact fs
  have ne : ∀ i, (i < a + 4 * K c ∨ a + 4 * K c + 3 < i) → i ≠ c → fourR K a c v o r w i = K i := by
    intro i i1 i2
    unfold fourR
    rw [u1_ne _ i2, u1_ne _ (by omega), u1_ne _ (by omega), u1_ne _ (by omega), u1_ne _ (by omega)]
  have b := fc.1
  have new : FoV (fourR K a c v o r w) a c hi := by
    have ec : fourR K a c v o r w c = K c + 1 := u1_eq _ _ _
    refine ⟨by omega, fun k k0 k1 => ?_⟩
    rw [ne 152 (by omega) (by omega)]
    by_cases e : k = K c
    · have e0 : fourR K a c v o r w (a + 4 * k) = v := by
        unfold fourR
        rw [u1_ne _ (by omega), u1_ne _ (by omega), u1_ne _ (by omega), u1_ne _ (by omega), e, u1_eq]
      have e1 : fourR K a c v o r w (a + 4 * k + 1) = o := by
        unfold fourR
        rw [u1_ne _ (by omega), u1_ne _ (by omega), u1_ne _ (by omega), e, u1_eq]
      have e2 : fourR K a c v o r w (a + 4 * k + 2) = r := by
        unfold fourR
        rw [u1_ne _ (by omega), u1_ne _ (by omega), e, u1_eq]
      have e3 : fourR K a c v o r w (a + 4 * k + 3) = w := by
        unfold fourR
        rw [u1_ne _ (by omega), e, u1_eq]
      rw [e0, e1, e2, e3]
      exact ⟨hv, ho, hvo, hr, hw⟩
    · rw [ne _ (by omega) (by omega), ne _ (by omega) (by omega), ne _ (by omega) (by omega), ne _ (by omega) (by omega)]
      exact fc.2 k k0 (by omega)
  refine ⟨kb.congr (fun i hi => ne i (by omega) (by omega)), lv.congr (fun i hi => ne i (by omega) (by omega)), ?_, ?_⟩
  · rcases hac with ⟨rfl, rfl, rfl⟩ | ⟨rfl, rfl, rfl⟩
    · exact new
    · exact fv.congr (ne _ (by omega) (by omega)) (ne _ (by omega) (by omega)) (fun i i0 i1 => ne i (by omega) (by omega))
  · rcases hac with ⟨rfl, rfl, rfl⟩ | ⟨rfl, rfl, rfl⟩
    · exact fs.congr (ne _ (by omega) (by omega)) (ne _ (by omega) (by omega)) (fun i i0 i1 => ne i (by omega) (by omega))
    · exact new
theorem KW_go {K : Rw} {c : Int} (H : KW K) (hc : c = 153 ∨ c = 154) : KW (u1 K c 0) := by
  obtain ⟨kb, lv, fv, fs⟩ := H
  refine ⟨kb.congr (fun i hi => u1_ne _ (by omega)), lv.congr (fun i hi => u1_ne _ (by omega)), ?_, ?_⟩
  · rcases hc with rfl | rfl
    · refine ⟨by rw [u1_eq]; decide, fun k k0 k1 => ?_⟩
      rw [u1_eq] at k1
      omega
    · exact fv.congr (u1_ne _ (by decide)) (u1_ne _ (by decide)) (fun i i0 i1 => u1_ne _ (by omega))
  · rcases hc with rfl | rfl
    · exact fs.congr (u1_ne _ (by decide)) (u1_ne _ (by decide)) (fun i i0 i1 => u1_ne _ (by omega))
    · refine ⟨by rw [u1_eq]; decide, fun k k0 k1 => ?_⟩
      rw [u1_eq] at k1
      omega
theorem fourS_VW {n a c v o r w hi : Int} {s : Sg} (H : VW n s) (hac : (a = 87 ∧ c = 153 ∧ hi = 999) ∨ (a = 119 ∧ c = 154 ∧ hi = 1)) (hvo : v ≠ o) (hr : 1 ≤ r ∧ r ≤ 3) (hw : 0 ≤ w ∧ w ≤ hi) : VW n (fourS s a c v o r w).2 ∧ (-6 < (fourS s a c v o r w).1 ∧ (fourS s a c v o r w).1 ≤ 9) := by
  have hn := H.1.2.1.1
  have hg := H.1.1
  have f := H.2.1.2.2
  have fc : 0 ≤ s 2 c ∧ s 2 c ≤ 8 := by
    rcases hac with ⟨rfl, rfl, rfl⟩ | ⟨rfl, rfl, rfl⟩
    · exact f.1.1
    · exact f.2.1
  unfold fourS
  split
  · exact ⟨H, by dsimp only; omega⟩
  · split
    · exact ⟨H, by dsimp only; omega⟩
    · rename_i c1 c2
      have c1' : (0 ≤ v ∧ v ≤ s 2 152 - 1) ∧ (0 ≤ o ∧ o ≤ s 2 152 - 1) := Classical.not_not.mp c1
      have e152 : fourR (s 2) a c v o r w 152 = s 2 152 := by
        unfold fourR
        rw [u1_ne _ (by omega), u1_ne _ (by omega), u1_ne _ (by omega), u1_ne _ (by omega), u1_ne _ (by omega)]
      refine ⟨H.row (KW_four H.2.1 hac (by omega) (by omega) hvo hr hw c2) ?_ (H.1.2.2.2.1.sw2 (by rw [e152]; exact Int.le_refl _)), ?_⟩
      · unfold fourR
        exact u1_32' (u1_32' (u1_32' (u1_32' (u1_32' (hg 2) (i2_of (by omega) (by omega))) (i2_of (by omega) (by omega))) (i2_of (by omega) (by omega))) (i2_of (by rcases hac with z | z <;> omega) (by rcases hac with z | z <;> omega))) (i2_of (by omega) (by omega))
      · dsimp only
        omega
theorem visitS_VW {n v o r w : Int} {s : Sg} (H : VW n s) : VW n (visitS s v o r w).2 ∧ (-6 < (visitS s v o r w).1 ∧ (visitS s v o r w).1 ≤ 9) := by
  unfold visitS
  split
  · exact ⟨H, by dsimp only; omega⟩
  · rename_i c
    have c' : ((1 ≤ r ∧ r ≤ 3) ∧ (0 ≤ w ∧ w ≤ 999) ∧ v ≠ o) := Classical.not_not.mp c
    exact fourS_VW H (Or.inl ⟨rfl, rfl, rfl⟩) c'.2.2 c'.1 c'.2.1
theorem scuffS_VW {n v o r w : Int} {s : Sg} (H : VW n s) : VW n (scuffS s v o r w).2 ∧ (-6 < (scuffS s v o r w).1 ∧ (scuffS s v o r w).1 ≤ 9) := by
  unfold scuffS
  split
  · exact ⟨H, by dsimp only; omega⟩
  · rename_i c
    have c' : ((1 ≤ r ∧ r ≤ 3) ∧ (0 ≤ w ∧ w ≤ 1) ∧ v ≠ o) := Classical.not_not.mp c
    exact fourS_VW H (Or.inr ⟨rfl, rfl, rfl⟩) c'.2.2 c'.1 c'.2.1
theorem goS_VW {n c : Int} {s : Sg} (H : VW n s) (hc : c = 153 ∨ c = 154) : VW n (goS s c).2 := H.row (KW_go H.2.1 hc) (u1_32' (H.1.1 2) (by decide)) (H.1.2.2.2.1.sw2 (by rw [u1_ne _ (by omega)]; exact Int.le_refl _))
