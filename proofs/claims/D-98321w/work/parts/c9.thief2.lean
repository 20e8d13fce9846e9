/-! Thieves: the model, whole -/
set_option maxRecDepth 100000
theorem pow16 {n : Nat} (h : n ≤ 16) : 1 ≤ 2 ^ n ∧ 2 ^ n ≤ 65536 := ⟨Nat.one_le_two_pow, Nat.pow_le_pow_right (by decide) h⟩
section
variable {E : ax_E} {m : Nat} {s : Sg} {h : ax_H}
theorem m_findsThief {th ho room : Int} (hG : G32 s) (hK : KB (s 2)) (hL : LsV (s 2)) (h1 : 0 ≤ ho ∧ ho < s 2 152) (h2 : 0 ≤ th ∧ th < s 2 152) (hr : i2 room = room) : ∃ g', f_X5_findsThief E (some m) th ho room (mdl m s h) = some g' ∧ ThI m s h (s 2 71).toNat (thS (s 2) th ho room) g' := by
  have h71 := hK.2.2.2.2.1
  have hn := hK.1
  have pw := pow16 (n := (s 2 71).toNat) (by omega)
  unfold f_X5_findsThief f_X5_findsThief_6
  obtain ⟨g', q, e1⟩ := it_runI (body := fun st : Int × Int × ax_H => lb_X5_findsThief_6 E (some m) th ho room st.1 st.2.1 st.2.2) (fun a (k : Nat) g => (a, (k : Int), g)) (fun _ g => g) (I := fun k a g => a = foldN (thM (s 2) th ho) k 0 ∧ ∃ s', g = mdl m s' h ∧ Ew s s' ∧ ∀ j : Nat, j < k → s' 23 j = soldS (s 2) j) (P := fun _ g => ThI m s h (s 2 71).toNat (thS (s 2) th ho room) g) (f := fun a k => (.inl (thM (s 2) th ho a k) : Int ⊕ Int)) (fin := id) (s 2 71).toNat (by
      rintro k a _ hk ⟨ha, s1, rfl, q1, p1⟩
      have hk2 := q1.k
      have hG1 := q1.2.2 hG
      obtain ⟨s2, e2, q2⟩ := m_soldFor (E := E) (m := m) (h := h) (d := (k : Int)) hG1 (by rw [hk2]; exact hK) (by rw [hk2]; exact hL) (by rw [hk2]; omega)
      rw [hk2] at e2
      have sb := sold_b (K := s 2) (d := k) (by have := (hK.2.2.2.2.2.2.2 k (by omega) (by omega)).2.2.2.1; omega)
      have hk3 : s2 2 = s 2 := q2.k.trans hk2
      have st : ax_sto (mdl m s2 h) (some (m + 23)) 100 (k : Int) (soldS (s 2) k) = some (mdl m (sw s2 23 (u1 (s2 23) k (soldS (s 2) k))) h) := md_sto23 (by omega) (by omega)
      have rv := hK.2.2.2.2.2.2.2 k (by omega) (by omega)
      have n2 : sw s2 23 (u1 (s2 23) k (soldS (s 2) k)) 2 = s 2 := by rw [sw_ne _ (by decide)]; exact hk3
      refine ⟨_, Or.inl ⟨_, rfl, ⟨by rw [ha]; rfl, sw s2 23 (u1 (s2 23) k (soldS (s 2) k)), rfl, (q1.trans q2.ew).trans (Ew_u (by unfold RpO; omega) (by decide) (q2.2.2 hG1) (i2_of (by omega) (by omega))), fun j hj => ?_⟩, ?_⟩⟩
      · rw [sw_eq]
        by_cases c : j = k
        · subst c; rw [u1_eq]
        · rw [u1_ne _ (by omega), q2.1 23 (by decide) (by decide)]; exact p1 j (by omega)
      · simp only [lb_X5_findsThief_6, f_X5_findsThief_71, f_X5_findsThief_72]
        rw [md_ce, Option.bind_some, m_debts, Option.bind_some, hk2]
        dsimp only
        rw [i2_of (a := (k : Int)) (by omega) (by omega), i2_of (a := s 2 71) (by omega) (by omega), if_pos (by omega), md_gR40, Option.bind_some, md_ce, Option.bind_some, e2, Option.bind_some]
        dsimp only
        rw [st, Option.bind_some, md_gR2, Option.bind_some, md_ld2 (by omega) (by omega), Option.bind_some, n2, i2_of (a := s 2 (7 + 4 * (k : Int))) (by omega) (by omega), i2_of (a := ho) (by omega) (by omega)]
        unfold thM
        by_cases c1 : s 2 (7 + 4 * (k : Int)) = ho
        · rw [if_pos c1, Option.bind_some, md_ld2 (by omega) (by omega), Option.bind_some, n2, i2_of (a := s 2 (7 + 4 * (k : Int) + 1)) (by omega) (by omega), i2_of (a := th) (by omega) (by omega)]
          by_cases c2 : s 2 (7 + 4 * (k : Int) + 1) = th
          · rw [if_pos c2, if_neg (fun z => z.2 c2)]; simp
          · rw [if_neg c2, if_pos ⟨c1, c2⟩]; simp
        · rw [if_neg c1, if_neg (fun z => c1 z.1)]; simp) (by
      rintro a _ ⟨ha, s1, rfl, q1, p1⟩
      have hk2 := q1.k
      have hG1 := q1.2.2 hG
      have p39 : ax_pI (mdl m s1 h) (some m) 5 39 (-1) = some (mdl m (sw s1 0 (u1 (s1 0) 39 (-1))) h) := md_pI39
      obtain ⟨g', w1, w2⟩ := it_runI (body := fun st : Int × ax_H => lb_X5_findsThief_105 E (some m) th ho room (thMay (s 2) th ho) (owed (s 2) ho th) (owed (s 2) th ho) st.1 st.2) (fun (_ : Option (Int × Nat)) (k : Nat) g => ((k : Int), g)) (fun (_ : Option (Int × Nat)) g => g) (I := fun _ o g => ThI m s h (s 2 71).toNat o g) (P := fun r g => ThI m s h (s 2 71).toNat r g) (f := thF (s 2) th ho room) (fin := id) (2 ^ (s 2 71).toNat) (by
          rintro k o g hk hI
          obtain ⟨g2, v1, v2⟩ := m_thIn (E := E) (may := thMay (s 2) th ho) (st := k) hG hK hL h1 h2 hr (by omega) hI
          have hI' := hI
          obtain ⟨s3, rfl, y1, y2, y3⟩ := hI
          have hk4 := y1.k
          by_cases c : i2 (ax_and (k : Int) (ax_xor (thMay (s 2) th ho) (-1))) = 0
          · refine ⟨g2, Or.inl ⟨_, by unfold thF; rw [if_pos c], v2, ?_⟩⟩
            simp only [lb_X5_findsThief_105]
            rw [md_ce, Option.bind_some, m_debts, Option.bind_some, hk4]
            dsimp only
            rw [show s 2 71 = (((s 2 71).toNat : Nat) : Int) by omega, shl1 (by omega), i2_of (a := (k : Int)) (by omega) (by omega), i2_of (by omega) (by omega), if_pos (by omega), if_pos c, v1]
            simp
          · refine ⟨_, Or.inl ⟨_, by unfold thF; rw [if_neg c], hI', ?_⟩⟩
            simp only [lb_X5_findsThief_105, f_X5_findsThief_288]
            rw [md_ce, Option.bind_some, m_debts, Option.bind_some, hk4]
            dsimp only
            rw [show s 2 71 = (((s 2 71).toNat : Nat) : Int) by omega, shl1 (by omega), i2_of (a := (k : Int)) (by omega) (by omega), i2_of (by omega) (by omega), if_pos (by omega), if_neg c]
            simp) (by
          rintro o g hI
          have hI' := hI
          obtain ⟨s3, rfl, y1, y2, y3⟩ := hI
          have hk4 := y1.k
          refine ⟨_, hI', ?_⟩
          simp only [lb_X5_findsThief_105]
          rw [md_ce, Option.bind_some, m_debts, Option.bind_some, hk4]
          dsimp only
          rw [show s 2 71 = (((s 2 71).toNat : Nat) : Int) by omega, shl1 (by omega)]
          rw [show ((((s 2 71).toNat : Nat) : Int)).toNat = (s 2 71).toNat by omega]
          rw [if_neg (by omega)]
          rfl) (2 ^ (s 2 71).toNat) 0 none (mdl m (sw s1 0 (u1 (s1 0) 39 (-1))) h) (by omega) ⟨_, rfl, q1.trans (Ew_0 (by unfold RpK; omega) (by decide)), fun j hj => by rw [sw_ne _ (by decide)]; exact p1 j hj, by show sw s1 0 (u1 (s1 0) 39 (-1)) 0 39 = -1; rw [sw_eq, u1_eq]⟩
      refine ⟨g', w1, ?_⟩
      simp only [lb_X5_findsThief_6, f_X5_findsThief_105]
      rw [md_ce, Option.bind_some, m_debts, Option.bind_some, hk2]
      dsimp only
      rw [i2_of (a := (((s 2 71).toNat : Nat) : Int)) (by omega) (by omega), i2_of (a := s 2 71) (by omega) (by omega), if_neg (by omega), md_ce, Option.bind_some, m_owed hG1 (by rw [hk2]; omega) (by rw [hk2]; omega) (i2_of (by omega) (by omega)) (i2_of (by omega) (by omega)), Option.bind_some, hk2]
      dsimp only
      rw [md_ce, Option.bind_some, m_owed hG1 (by rw [hk2]; omega) (by rw [hk2]; omega) (i2_of (by omega) (by omega)) (i2_of (by omega) (by omega)), Option.bind_some, hk2]
      dsimp only
      rw [p39, Option.bind_some, ha]
      have w1' := congrArg (Option.map (Sum.inr (α := Int × Int × ax_H))) w2
      exact w1') (s 2 71).toNat 0 0 (mdl m s h) (by omega) ⟨rfl, s, rfl, Ew.refl s, fun j hj => absurd hj (by omega)⟩
  exact ⟨g', e1, q⟩
theorem m_thief {th ho room w : Int} (hG : G32 s) (hK : KB (s 2)) (hL : LsV (s 2)) (ht : i2 th = th) (hh : i2 ho = ho) (hr : i2 room = room) (hw : i2 w = w) : ∃ s', f_X5_thief E (some m) th ho room w (mdl m s h) = some (thiefP s th ho room w, mdl m s' h) ∧ Ew s s' := by
  have hn := hK.1
  unfold f_X5_thief f_X5_thief_26 thiefP
  rw [md_ce, Option.bind_some, m_areTwo hG hK ht hh, Option.bind_some]
  by_cases c1 : ((0 ≤ th ∧ th ≤ s 2 152 - 1) ∧ (0 ≤ ho ∧ ho ≤ s 2 152 - 1) ∧ th ≠ ho)
  · rw [if_neg (by rw [b01_z]; exact fun z => z c1), m_isRoom hr, Option.bind_some]
    by_cases c2 : 1 ≤ room ∧ room ≤ 3
    · rw [if_neg (by rw [b01_z]; exact fun z => z c2), m_lies hw (by decide) (by decide), Option.bind_some]
      by_cases c3 : 0 ≤ w ∧ w ≤ 1
      · rw [if_neg (by rw [b01_z]; exact fun z => z c3), if_pos ⟨c1, c2, c3⟩]
        obtain ⟨_, w1, s1, rfl, q1, -, r1⟩ := m_findsThief (E := E) (m := m) (h := h) (th := th) (ho := ho) (room := room) hG hK hL (by omega) (by omega) hr
        dsimp only
        rw [md_ce, Option.bind_some, w1, Option.bind_some, md_gI39, Option.bind_some, hw, show i2 (-1) = -1 by decide]
        refine ⟨s1, ?_, q1⟩
        unfold thR at r1
        unfold thE
        split at r1
        · rw [r1, show i2 (-1) = -1 by decide, if_pos rfl]
        · rename_i c st e
          rw [r1.2.1, i2_of (by omega) (by omega), if_neg (by omega)]
          by_cases c4 : w = 0
          · rw [if_pos c4, md_gI38, Option.bind_some, r1.1]; simp [c4]
          · rw [if_neg c4, Option.bind_some]; simp [c4]
      · rw [if_pos (by rw [b01_z]; exact c3), if_neg (fun z => c3 z.2.2)]
        exact ⟨s, rfl, Ew.refl s⟩
    · rw [if_pos (by rw [b01_z]; exact c2), if_neg (fun z => c2 z.2.1)]
      exact ⟨s, rfl, Ew.refl s⟩
  · rw [if_pos (by rw [b01_z]; exact c1), if_neg (fun z => c1 z.1)]
    exact ⟨s, rfl, Ew.refl s⟩
end
