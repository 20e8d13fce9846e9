/-! Orders: what holds between calls is kept -/
set_option maxRecDepth 100000
section
variable {s : Sg} {n : Int} {L : List Od}
theorem ordP_B (V : VW n s) (h : ordP s = .inr L) : ∀ C, C ∈ L → OdB C := by
  have V0 := z47_VW V
  have OV := begS_VW V0
  have hT := toks_4 V
  have T : TxO (begS (z47 s) 2) (toks (s 7) (tpN s)) (cT (s 7) (tpN s)) (wT (s 7) (tpN s)) := by
    rw [begS_2, z47_lay]
    exact lay6_T V
  obtain ⟨X, eX⟩ : ∃ X, X = sw (begS (z47 s)) 0 (u1 (begS (z47 s) 0) 50 2400) := ⟨_, rfl⟩
  have eo : Eo (2400 + 0) (X 5) (X 15) (begS (z47 s)) X := by
    refine ⟨fun o ho => ?_, fun k hk => ?_, ?_, by rw [eX, sw_eq, u1_eq]; rfl, rfl, rfl⟩
    · unfold RpO at ho
      rw [eX, sw_ne _ (by omega)]
    · unfold RpK at hk
      rw [eX, sw_eq, u1_ne _ (by omega)]
    · rw [eX]
      exact G32_sw OV.1.1.1 (u1_32 (OV.1.1.1 0) (by decide))
  exact (m_ordLoop (E := (((0, 0), (fun _ => none), (fun _ => 0)) : ax_E)) (m := 0) (h := ((0, 0, fun _ => none) : ax_H)) (x1 := 0) 12 0 0 0 0 L (begS (z47 s)) X h OV.1 OV.2 (by decide) T eo (Int.le_refl 0) (by have := T.1; omega) (Int.le_refl 0) (by decide)).1
theorem ordersS_VW (V : VW n s) (hn : n ≤ 1000000000) : VW (n + 1) (telP (ordersS s)).2 ∧ -7 < (ordersS s).1 ∧ (ordersS s).1 ≤ 1000000 := by
  have V0 := z47_VW V
  have OV := begS_VW V0
  unfold ordersS telP
  cases hL : ordP s with
  | inl t =>
    have := pos_le (T := s 7) (N := tpN s) t.toNat
    have h11 := V.2.2.2.1
    have hN : tpN s ≤ 400 := by unfold tpN; omega
    have V1 := V0.rd (f := (pos (s 7) (tpN s) t.toNat : Int)) (i2_of (by omega) (by omega))
    exact ⟨V1.tel (v := -6) (by decide) (by decide) hn, by show -7 < (-6 : Int) ∧ (-6 : Int) ≤ 1000000; decide⟩
  | inr L =>
    have B := ordP_B V hL
    have l12 := ordP_12 hL
    obtain ⟨b1, b2, b3, b4, b5⟩ := allS_V (n := n) L 0 0 (begS (z47 s)) B OV (by omega)
    have eR : allS L 0 (begS (z47 s)) = ordR s L := rfl
    rw [eR] at b1 b2 b3 b4 b5
    have h48 := b1.2.1
    dsimp only
    by_cases c0 : (ordR s L).1 = 0
    · rw [if_pos c0]
      exact ⟨b1.1.tel (by dsimp only; omega) (by dsimp only; omega) hn, by dsimp only; omega⟩
    · rw [if_neg c0]
      exact ⟨(bakO_VW OV.1 b1.1 b2 ⟨b4, by omega⟩).tel (by dsimp only; omega) (by dsimp only; omega) hn, by dsimp only; omega⟩
end
