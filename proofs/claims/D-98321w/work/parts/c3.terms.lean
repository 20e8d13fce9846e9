/-! Terms, the force: both sides -/
set_option maxRecDepth 100000
def termS (s : Sg) (w v : Int) : Int × Sg := if ¬ ((w = 0 ∧ 0 ≤ v ∧ v ≤ 999) ∨ (w = 1 ∧ 0 ≤ v ∧ v ≤ 9)) then (-1, s) else (s 2 (if w = 0 then 72 else 151), sw s 2 (u1 (s 2) (if w = 0 then 72 else 151) v))
def forceS (s : Sg) (v : Int) : Int × Sg := if ¬ (-1 ≤ v ∧ v ≤ s 2 155 - 1) then (-2, sRef s (-2)) else (s 2 156, sGood (sw s 2 (u1 (s 2) 156 v)))
section
variable {E : ax_E} {m : Nat} {s : Sg} {h : ax_H}
theorem m_terms {w v : Int} (hG : G32 s) (hK : KB (s 2)) (hw : i2 w = w) (hv : i2 v = v) : f_X5_terms E (some m) w v (mdl m s h) = some ((setP (termS s w v)).1, mdl m (setP (termS s w v)).2 h) := by
  have h72 := hK.2.2.2.2.2.1
  have h151 := hK.2.1
  have no : ¬ ((w = 0 ∧ 0 ≤ v ∧ v ≤ 999) ∨ (w = 1 ∧ 0 ≤ v ∧ v ≤ 9)) → f_X5_terms_29 E (some m) (mdl m s h) = some ((setP (termS s w v)).1, mdl m (setP (termS s w v)).2 h) := by
    intro c
    unfold f_X5_terms_29 setP setM termS
    simp only [if_pos c]
    rw [md_ce, Option.bind_some, m_refuses (by decide) (by decide), Option.bind_some, if_pos (by decide)]
  have yes : ∀ q : Int, q = (if w = 0 then 72 else 151) → ((w = 0 ∧ 0 ≤ v ∧ v ≤ 999) ∨ (w = 1 ∧ 0 ≤ v ∧ v ≤ 9)) → f_X5_terms_47 E (some m) v q (mdl m s h) = some ((setP (termS s w v)).1, mdl m (setP (termS s w v)).2 h) := by
    intro q hq c
    have hq2 : q = 72 ∨ q = 151 := by rw [hq]; split <;> omega
    have ho : 0 ≤ s 2 q ∧ s 2 q ≤ 999 := by rcases hq2 with e | e <;> rw [e] <;> omega
    unfold setP setM termS
    rw [← hq]
    simp only [if_neg (show ¬ ¬ _ from fun z => z c)]
    simp (disch := first | omega | assumption | exact hG _ _ | (refine i2_ofp ?_; omega)) only [f_X5_terms_47, md_ce, md_gR2, md_ld2, md_sto2, m_settled, Option.bind_some, Option.map_some, sw_eq, sw_ne, u1_eq, u1_ne, u1_u1, sw_sw, i2_of, if_pos, if_neg, true_or, or_true, if_true, if_false]
  unfold f_X5_terms
  rw [m_lies hw (by decide) (by decide), Option.bind_some, hw]
  by_cases c0 : 0 ≤ w ∧ w ≤ 1
  · rw [if_neg (by rw [b01_z]; simp [c0])]
    unfold f_X5_terms_23
    by_cases c1 : w = 0
    · rw [if_pos c1, m_lies hv (by decide) (by decide), Option.bind_some]
      by_cases c2 : 0 ≤ v ∧ v ≤ 999
      · rw [if_neg (by rw [b01_z]; simp [c2]), hw, if_pos c1]
        exact yes _ (by rw [if_pos c1]) (Or.inl ⟨c1, c2⟩)
      · rw [if_pos (by rw [b01_z]; exact c2)]
        exact no (by omega)
    · rw [if_neg c1, m_lies hv (by decide) (by decide), Option.bind_some]
      by_cases c2 : 0 ≤ v ∧ v ≤ 9
      · rw [if_neg (by rw [b01_z]; simp [c2]), hw, if_neg c1]
        exact yes _ (by rw [if_neg c1]) (Or.inr ⟨by omega, c2⟩)
      · rw [if_pos (by rw [b01_z]; exact c2)]
        exact no (by omega)
  · rw [if_pos (by rw [b01_z]; exact c0)]
    exact no (by omega)
theorem m_force {v : Int} (hG : G32 s) (hK : KB (s 2)) (hv : i2 v = v) : f_X5_force E (some m) v (mdl m s h) = some ((forceS s v).1, mdl m (forceS s v).2 h) := by
  have h155 : 0 ≤ s 2 155 ∧ s 2 155 ≤ 6 := by have := hK.2.2.1; omega
  unfold f_X5_force forceS
  rw [md_gR2, Option.bind_some, md_ld2 (by decide) (by decide), Option.bind_some, m_lies hv (by decide) (i2_of (by omega) (by omega)), Option.bind_some]
  by_cases c : -1 ≤ v ∧ v ≤ s 2 155 - 1
  · rw [if_neg (by rw [b01_z]; simp [c]), if_neg (fun z => z c)]
    simp (disch := first | omega | assumption | exact hG _ _ | (refine i2_ofp ?_; omega)) only [f_X5_force, md_ce, md_gR2, md_ld2, md_sto2, m_good, Option.bind_some, Option.map_some, sw_eq, sw_ne, u1_eq, u1_ne, u1_u1, sw_sw, i2_of, if_pos, if_neg, true_or, or_true, if_true, if_false]
  · rw [if_pos (by rw [b01_z]; exact c), if_pos c, md_ce, Option.bind_some, m_refuses (by decide) (by decide), Option.bind_some]
end
section
variable {E : ax_E} {h : ax_H} {x t dl dv ds du : Nat} {s : Sg}
theorem c_terms {w v : Int} (H : REP E h x t dl dv ds du s) (hE : Ek E x) (hG : G32 s) (hK : KB (s 2)) (h53 : s 2 153 ≤ 8 ∧ s 2 154 ≤ 8) (hw : i2 w = w) (hv : i2 v = v) : ∃ h', f_X0_terms E (some x) w v h = some ((setP (termS s w v)).1, h') ∧ REP E h' x t dl dv ds du (setP (termS s w v)).2 ∧ Blk x 8 110 h h' := by
  have a1 := H.2.1.1
  have rx := H.2.1.2.1
  have tl := H.1.1
  have hn := hK.1
  have h72 := hK.2.2.2.2.2.1
  have h151 := hK.2.1
  have b0 := (Blk.refl x h).up (c' := 8) (z' := 110) (by decide) (by decide)
  have B := H.bk
  obtain ⟨⟨t0, t1, t2, t3, t4, t5, t6⟩, ⟨i6, i7, i8⟩, -, ⟨e1, e2, e3⟩, ⟨f1, f2, f3⟩, -⟩ := id H.2.2.2.2.1
  have no : ¬ ((w = 0 ∧ 0 ≤ v ∧ v ≤ 999) ∨ (w = 1 ∧ 0 ≤ v ∧ v ≤ 9)) → ∃ (h' : ax_H), f_X0_terms_36 E (some x) h = some ((setP (termS s w v)).1, h') ∧ REP E h' x t dl dv ds du (setP (termS s w v)).2 ∧ Blk x 8 110 h h' := by
    intro c
    obtain ⟨g, v1, v2, v3⟩ := c_told (v := -1) H b0 (by decide) (by decide)
    have e : termS s w v = (-1, s) := by unfold termS; rw [if_pos c]
    refine ⟨g, ?_, ?_, v3⟩
    · unfold f_X0_terms_36
      rw [e, f_ce a1 (by decide), Option.bind_some, v1, Option.bind_some]
      rfl
    · rw [e]
      unfold setP setM
      unfold telM at v2
      rw [if_pos (show (-1 : Int) < 0 by decide)] at v2 ⊢
      exact v2
  have yes : ((w = 0 ∧ 0 ≤ v ∧ v ≤ 999) ∨ (w = 1 ∧ 0 ≤ v ∧ v ≤ 9)) → ∃ (h' : ax_H), f_X0_terms_42 E (some x) w v h = some ((setP (termS s w v)).1, h') ∧ REP E h' x t dl dv ds du (setP (termS s w v)).2 ∧ Blk x 8 110 h h' := by
    intro c
    have e : termS s w v = (s 2 (if w = 0 then 72 else 151), sw s 2 (u1 (s 2) (if w = 0 then 72 else 151) v)) := by unfold termS; rw [if_neg (fun z => z c)]
    unfold f_X0_terms_42 f_X0_terms_63 f_X0_terms_87
    rw [e, hw]
    by_cases c1 : w = 0
    · simp only [if_pos c1]
      obtain ⟨B0, ⟨B1, B2⟩, B3, B4⟩ := id B
      have O : OnS (t + 4) 6 h (wI h (t + 4) 6 v) := OnS_wI (OnS.refl _ _ _) (by omega)
      have h71 := hK.2.2.2.2.1
      have H2 : REP E (wI h (t + 4) 6 v) x t dl dv ds du (sw s 2 (u1 (s 2) 72 v)) := by
        refine H.books O ⟨B0.wI, ⟨?_, ?_⟩, fun k hk => ?_, fun k hk => ?_⟩ (fun i hi => u1_ne _ (by omega))
        · rw [hI_wI_ne (by omega), u1_ne _ (by decide)]; exact B1
        · rw [hI_wI_eq, u1_eq]
        · rw [hI_wI_ne (by omega), u1_ne _ (by omega)]; exact B3 k hk
        · rw [u1_ne _ (by decide)] at hk
          rw [hI_wI_ne (by omega), hI_wI_ne (by omega), hI_wI_ne (by omega), hI_wI_ne (by omega), u1_ne _ (by omega), u1_ne _ (by omega), u1_ne _ (by omega), u1_ne _ (by omega)]
          exact B4 k hk
      have b2 : Blk x 8 110 h (wI h (t + 4) 6 v) := (O.blk (by omega)).up (by decide) (by decide)
      obtain ⟨g3, y1, y2, y3⟩ := c_was (v := s 2 72) H2 hE b2
      refine ⟨g3, ?_, ?_, y3⟩
      · rw [f_ce a1 (by decide), Option.bind_some, c_books H, Option.bind_some]
        dsimp only
        rw [f_gI B.1.1 (by decide), Option.bind_some, f_ce a1 (by decide), Option.bind_some, c_books H, Option.bind_some]
        dsimp only
        rw [f_pI B.1.1 (by decide), Option.bind_some, f_ce H2.2.1.1 (by decide), Option.bind_some, B2, y1, Option.bind_some]
        rfl
      · unfold setP setM
        dsimp only
        rw [if_neg (by omega)]
        exact y2
    · simp only [if_neg c1]
      obtain ⟨B0, ⟨B1, B2⟩, B3, B4⟩ := id B
      have O : OnS t 12 h (wI h t 7 v) := OnS_wI (OnS.refl _ _ _) (by omega)
      have h71 := hK.2.2.2.2.1
      have H2 : REP E (wI h t 7 v) x t dl dv ds du (sw s 2 (u1 (s 2) 151 v)) := by
        refine H.st O ⟨B0.wI, ⟨?_, ?_⟩, fun k hk => ?_, fun k hk => ?_⟩ ⟨?_, ?_, ?_⟩ (fun k hk => ?_) (fun k hk => ?_) (fun a z1 z2 => hC_wI_ne (by omega)) h53 (fun i j1 j2 j3 j4 => u1_ne _ j2)
        · rw [hI_wI_ne (by omega), u1_ne _ (by decide)]; exact B1
        · rw [hI_wI_ne (by omega), u1_ne _ (by decide)]; exact B2
        · rw [hI_wI_ne (by omega), u1_ne _ (by omega)]; exact B3 k hk
        · rw [u1_ne _ (by decide)] at hk
          rw [hI_wI_ne (by omega), hI_wI_ne (by omega), hI_wI_ne (by omega), hI_wI_ne (by omega), u1_ne _ (by omega), u1_ne _ (by omega), u1_ne _ (by omega), u1_ne _ (by omega)]
          exact B4 k hk
        · rw [hI_wI_ne (by omega), u1_ne _ (by decide)]; exact i6
        · rw [hI_wI_eq, u1_eq]
        · rw [hI_wI_ne (by omega), u1_ne _ (by decide)]; exact i8
        · rw [u1_ne _ (by decide)] at hk
          rw [hI_wI_ne (by omega), u1_ne _ (by omega)]; exact e3 k hk
        · rw [u1_ne _ (by decide)] at hk
          rw [hI_wI_ne (by omega), u1_ne _ (by omega)]; exact f3 k hk
      have b2 : Blk x 8 110 h (wI h t 7 v) := (O.blk (by omega)).up (by decide) (by decide)
      obtain ⟨g3, y1, y2, y3⟩ := c_was (v := s 2 151) H2 hE b2
      refine ⟨g3, ?_, ?_, y3⟩
      · rw [f_gR a1 (by decide), rx, Option.bind_some, f_gI t0 (by decide), Option.bind_some, Option.bind_some, f_pI t0 (by decide), Option.bind_some, f_ce H2.2.1.1 (by decide), Option.bind_some, i7, y1, Option.bind_some]
        rfl
      · unfold setP setM
        dsimp only
        rw [if_neg (by omega)]
        exact y2
  unfold f_X0_terms
  have bv := i2_lh hv
  rw [hw, hv, show i2 1 = 1 by decide]
  by_cases c1 : w = 0
  · rw [if_pos c1, c_in (by omega) (by decide) (by decide), Option.bind_some]
    by_cases c2 : 0 ≤ v ∧ v ≤ 999
    · rw [if_neg (by rw [b01_z]; simp [c2])]
      exact yes (Or.inl ⟨c1, c2⟩)
    · rw [if_pos (by rw [b01_z]; exact c2)]
      exact no (by omega)
  · rw [if_neg c1]
    by_cases c3 : w = 1
    · rw [if_pos c3, c_in (by omega) (by decide) (by decide), Option.bind_some]
      by_cases c2 : 0 ≤ v ∧ v ≤ 9
      · rw [if_neg (by rw [b01_z]; simp [c2])]
        exact yes (Or.inr ⟨c3, c2⟩)
      · rw [if_pos (by rw [b01_z]; exact c2)]
        exact no (by omega)
    · rw [if_neg c3]
      exact no (by omega)
theorem c_force {v : Int} (H : REP E h x t dl dv ds du s) (hG : G32 s) (hK : KB (s 2)) (h53 : s 2 153 ≤ 8 ∧ s 2 154 ≤ 8) (hv : i2 v = v) : ∃ h', f_X0_force E (some x) v h = some ((forceS s v).1, h') ∧ REP E h' x t dl dv ds du (forceS s v).2 ∧ Blk x 8 110 h h' := by
  have a1 := H.2.1.1
  have rx := H.2.1.2.1
  have tl := H.1.1
  have hn := hK.1
  have h155 : 0 ≤ s 2 155 ∧ s 2 155 ≤ 6 := by have := hK.2.2.1; omega
  have h71 := hK.2.2.2.2.1
  have b0 := (Blk.refl x h).up (c' := 8) (z' := 110) (by decide) (by decide)
  have B := H.bk
  obtain ⟨⟨t0, t1, t2, t3, t4, t5, t6⟩, ⟨i6, i7, i8⟩, -, ⟨e1, e2, e3⟩, ⟨f1, f2, f3⟩, l1, -⟩ := id H.2.2.2.2.1
  have bv := i2_lh hv
  have yes : (-1 ≤ v ∧ v ≤ s 2 155 - 1) → ∃ (h' : ax_H), f_X0_force_34 E (some x) v h = some ((forceS s v).1, h') ∧ REP E h' x t dl dv ds du (forceS s v).2 ∧ Blk x 8 110 h h' := by
    intro c
    have e : forceS s v = (s 2 156, sGood (sw s 2 (u1 (s 2) 156 v))) := by unfold forceS; rw [if_neg (fun z => z c)]
    obtain ⟨B0, ⟨B1, B2⟩, B3, B4⟩ := id B
    have O : OnS t 12 h (wI h t 8 v) := OnS_wI (OnS.refl _ _ _) (by omega)
    have H2 : REP E (wI h t 8 v) x t dl dv ds du (sw s 2 (u1 (s 2) 156 v)) := by
      refine H.st O ⟨B0.wI, ⟨?_, ?_⟩, fun k hk => ?_, fun k hk => ?_⟩ ⟨?_, ?_, ?_⟩ (fun k hk => ?_) (fun k hk => ?_) (fun a z1 z2 => hC_wI_ne (by omega)) h53 (fun i j1 j2 j3 j4 => u1_ne _ j4)
      · rw [hI_wI_ne (by omega), u1_ne _ (by decide)]; exact B1
      · rw [hI_wI_ne (by omega), u1_ne _ (by decide)]; exact B2
      · rw [hI_wI_ne (by omega), u1_ne _ (by omega)]; exact B3 k hk
      · rw [u1_ne _ (by decide)] at hk
        rw [hI_wI_ne (by omega), hI_wI_ne (by omega), hI_wI_ne (by omega), hI_wI_ne (by omega), u1_ne _ (by omega), u1_ne _ (by omega), u1_ne _ (by omega), u1_ne _ (by omega)]
        exact B4 k hk
      · rw [hI_wI_ne (by omega), u1_ne _ (by decide)]; exact i6
      · rw [hI_wI_ne (by omega), u1_ne _ (by decide)]; exact i7
      · rw [hI_wI_eq, u1_eq]
      · rw [u1_ne _ (by decide)] at hk
        rw [hI_wI_ne (by omega), u1_ne _ (by omega)]; exact e3 k hk
      · rw [u1_ne _ (by decide)] at hk
        rw [hI_wI_ne (by omega), u1_ne _ (by omega)]; exact f3 k hk
    have b2 : Blk x 8 110 h (wI h t 8 v) := (O.blk (by omega)).up (by decide) (by decide)
    obtain ⟨H3, b3⟩ := c_stat (v := 0) H2 b2
    rw [e]
    refine ⟨_, ?_, H3, b3⟩
    unfold f_X0_force_34
    rw [f_gR a1 (by decide), rx, Option.bind_some, f_gI t0 (by decide), Option.bind_some, Option.bind_some, f_pI t0 (by decide), Option.bind_some, f_pI H2.2.1.1 (by decide), Option.bind_some, i8]
  unfold f_X0_force
  rw [hv, show i2 (-1) = -1 by decide]
  by_cases c1 : v = -1
  · rw [if_pos c1]
    exact yes (by omega)
  · rw [if_neg c1, f_gR a1 (by decide), rx, Option.bind_some, f_gR t0 (by decide), t1, Option.bind_some, f_ce l1.1 (by decide), Option.bind_some, c_size l1, Option.bind_some]
    dsimp only
    rw [i2_of (by omega) (by omega), c_in (by omega) (by decide) (by omega), Option.bind_some]
    by_cases c2 : 0 ≤ v ∧ v ≤ s 2 155 - 1
    · rw [if_neg (by rw [b01_z]; simp [c2])]
      exact yes (by omega)
    · rw [if_pos (by rw [b01_z]; exact c2)]
      obtain ⟨g, v1, v2, v3⟩ := c_told (v := -2) H b0 (by decide) (by decide)
      have e : forceS s v = (-2, sRef s (-2)) := by unfold forceS; rw [if_pos (by omega)]
      refine ⟨g, ?_, ?_, v3⟩
      · dsimp only
        rw [e, f_ce a1 (by decide), Option.bind_some, v1, Option.bind_some]
      · rw [e]
        unfold telM at v2
        rw [if_pos (by decide)] at v2
        exact v2
end
theorem termS_VW {n w v : Int} {s : Sg} (H : VW n s) (hv : i2 v = v) : VW n (termS s w v).2 ∧ (-6 < (termS s w v).1 ∧ (termS s w v).1 ≤ 9999) := by
  have h72 := H.1.2.1.2.2.2.2.2.1
  have h151 := H.1.2.1.2.1
  unfold termS
  split
  · exact ⟨H, by dsimp only; omega⟩
  · rename_i c
    have c' := Classical.not_not.mp c
    have hq : (w = 0 ∧ (if w = 0 then (72 : Int) else 151) = 72) ∨ (w = 1 ∧ (if w = 0 then (72 : Int) else 151) = 151) := by split <;> omega
    generalize (if w = 0 then (72 : Int) else 151) = q at *
    have ho : 0 ≤ s 2 q ∧ s 2 q ≤ 999 := by rcases hq with e | e <;> rw [e.2] <;> omega
    refine ⟨H.row ?_ (u1_32' (H.1.1 2) hv) (H.1.2.2.2.1.sw2 (by rw [u1_ne _ (by omega)]; exact Int.le_refl _)), by dsimp only; omega⟩
    obtain ⟨⟨k1, k2, k3, k4, a1, a2, a3, a4⟩, lv, fv, fs⟩ := H.2.1
    refine ⟨⟨?_, ?_, ?_, fun i i0 i1 => ?_, ⟨?_, ?_, fun i i0 i1 => ?_, fun d d0 d1 => ?_⟩⟩, lv.congr (fun i hi => u1_ne _ (by omega)), fv.congr (u1_ne _ (by omega)) (u1_ne _ (by omega)) (fun i _ _ => u1_ne _ (by omega)), fs.congr (u1_ne _ (by omega)) (u1_ne _ (by omega)) (fun i _ _ => u1_ne _ (by omega))⟩
    · rw [u1_ne _ (by omega)]; exact k1
    · unfold u1
      split <;> omega
    · rw [u1_ne _ (by omega), u1_ne _ (by omega)]; exact k3
    · rw [u1_ne _ (by omega)] at i1
      rw [u1_ne _ (by omega), u1_ne _ (by omega)]
      exact k4 i i0 i1
    · rw [u1_ne _ (by omega)]; exact a1
    · unfold u1
      split <;> omega
    · rw [u1_ne _ (by omega)]; exact a3 i i0 i1
    · rw [u1_ne _ (by omega)] at d1
      rw [u1_ne _ (by omega), u1_ne _ (by omega), u1_ne _ (by omega), u1_ne _ (by omega), u1_ne _ (by omega)]
      exact a4 d d0 d1
theorem VW.up {n n' : Int} {s : Sg} (H : VW n s) (h : n ≤ n') : VW n' s := ⟨VS_up H.1 h, H.2⟩
theorem VW.tel {n v : Int} {s : Sg} (H : VW n s) (h1 : -7 < v) (h2 : v ≤ 1000000000) (hn : n ≤ 1000000000) : VW (n + 1) (telM s v) := H.low (VS_tel H.1 h1 h2 hn) (Low_tel s v)
theorem VW.set {n v : Int} {s : Sg} (H : VW n s) (h1 : -7 < v) (h2 : v ≤ 1000000000) (hn : n ≤ 1000000000) : VW (n + 1) (setM s v) := H.low (setM_VS H.1 h1 h2 hn) (Low_set s v)
theorem forceS_VW {n v : Int} {s : Sg} (H : VW n s) (hv : i2 v = v) (hn : n ≤ 1000000000) : VW (n + 1) (forceS s v).2 := by
  unfold forceS
  split
  · have := H.tel (v := -2) (by decide) (by decide) hn
    unfold telM at this
    rw [if_pos (by decide)] at this
    exact this
  · rename_i c
    have c' := Classical.not_not.mp c
    have h155 : 0 ≤ s 2 155 ∧ s 2 155 ≤ 6 := by have := H.1.2.1.2.2.1; omega
    have V : VW n (sw s 2 (u1 (s 2) 156 v)) := by
      refine H.row ?_ (u1_32' (H.1.1 2) hv) (H.1.2.2.2.1.sw2 (by rw [u1_ne _ (by decide)]; exact Int.le_refl _))
      obtain ⟨⟨k1, k2, k3, k4, a1, a2, a3, a4⟩, lv, fv, fs⟩ := H.2.1
      refine ⟨⟨?_, ?_, ?_, fun i i0 i1 => ?_, ⟨?_, ?_, fun i i0 i1 => ?_, fun d d0 d1 => ?_⟩⟩, lv.congr (fun i hi => u1_ne _ (by omega)), fv.congr (u1_ne _ (by decide)) (u1_ne _ (by decide)) (fun i _ _ => u1_ne _ (by omega)), fs.congr (u1_ne _ (by decide)) (u1_ne _ (by decide)) (fun i _ _ => u1_ne _ (by omega))⟩
      · rw [u1_ne _ (by decide)]; exact k1
      · rw [u1_ne _ (by decide)]; exact k2
      · rw [u1_eq, u1_ne _ (by decide)]; omega
      · rw [u1_ne _ (by decide)] at i1
        rw [u1_ne _ (by omega), u1_ne _ (by omega)]
        exact k4 i i0 i1
      · rw [u1_ne _ (by decide)]; exact a1
      · rw [u1_ne _ (by decide)]; exact a2
      · rw [u1_ne _ (by omega)]; exact a3 i i0 i1
      · rw [u1_ne _ (by decide)] at d1
        rw [u1_ne _ (by omega), u1_ne _ (by omega), u1_ne _ (by omega), u1_ne _ (by omega), u1_ne _ (by omega)]
        exact a4 d d0 d1
    have := V.tel (v := 0) (by decide) (by decide) hn
    exact this
