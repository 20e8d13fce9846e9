/-! A month: the model, joined -/
set_option maxRecDepth 100000
section
variable {E : ax_E} {m : Nat} {h : ax_H} {s : Sg}
theorem m_month {L d N : Int} (V : VW N s) (hN : N ≤ 1000000000) (hL : i2 L = L) (hd : i2 d = d) : ∃ s', f_X5_month E (some m) L d (mdl m s h) = some ((monthS s L d).1, mdl m s' h) ∧ Ew (telM (monthS s L d).2 (monthS s L d).1) s' := by
  have hG := V.1.1
  have hK := V.1.2.1
  have h7 := hK.1
  unfold f_X5_month f_X5_month_20 monthS
  rw [m_lies hL (by decide) (by decide), Option.bind_some]
  by_cases c1 : 0 ≤ L ∧ L ≤ 1000000
  · rw [if_neg (by rw [b01_z]; exact fun z => z c1), m_lies hd (by decide) (by decide), Option.bind_some]
    by_cases c2 : 1 ≤ d ∧ d ≤ 30
    · rw [if_neg (by rw [b01_z]; exact fun z => z c2), if_neg (show ¬ ¬ ((0 ≤ L ∧ L ≤ 1000000) ∧ (1 ≤ d ∧ d ≤ 30)) from fun z => z ⟨c1, c2⟩), md_ce, Option.bind_some, m_people, Option.bind_some]
      dsimp only
      rw [i2_of (a := s 2 152) (by omega) (by omega)]
      by_cases c3 : s 2 152 = 0
      · rw [if_pos c3, if_pos c3, md_ce, Option.bind_some, m_refuses (by decide) (by decide), Option.bind_some]
        exact ⟨_, rfl, Ew.refl _⟩
      · rw [if_neg c3, if_neg c3]
        obtain ⟨n, en⟩ : ∃ n, n = s 2 152 := ⟨_, rfl⟩
        obtain ⟨s6, e6⟩ : ∃ s6, s6 = sw s 0 (u1 (s 0) 60 L) := ⟨_, rfl⟩
        obtain ⟨s5, e5⟩ : ∃ s5, s5 = sw s6 0 (u1 (s6 0) 59 n) := ⟨_, rfl⟩
        obtain ⟨sB, eB⟩ : ∃ sB, sB = sw s5 5 (cpR (s5 5) (73 * 9) (s5 2) 73) := ⟨_, rfl⟩
        have p60 : ax_pI (mdl m s h) (some m) 5 60 L = some (mdl m s6 h) := by rw [e6]; exact md_pI
        have p59 : ax_pI (mdl m s6 h) (some m) 5 59 n = some (mdl m s5 h) := by rw [e5]; exact md_pI
        have k6 : s6 2 = s 2 := by rw [e6, sw_ne _ (by decide)]
        have k5 : s5 2 = s 2 := by rw [e5, sw_ne _ (by decide), k6]
        have kB : sB 2 = s 2 := by rw [eB, sw_ne _ (by decide), k5]
        have g6 : G32 s6 := by rw [e6]; exact G32_sw hG (u1_32 (hG 0) hL)
        have g5 : G32 s5 := by rw [e5]; exact G32_sw g6 (u1_32 (g6 0) (i2_of (by omega) (by omega)))
        have gB : G32 sB := by rw [eB]; exact G32_sw g5 (cpR_32 (g5 5) (fun i => g5 2 i))
        have z59 : sB 0 59 = n := by rw [eB, sw_ne _ (by decide), e5, sw_eq, u1_eq]
        have z60 : sB 0 60 = L := by rw [eB, sw_ne _ (by decide), e5, sw_eq, u1_ne _ (by decide), e6, sw_eq, u1_eq]
        have zz : ∀ j, j ≠ 59 → j ≠ 60 → sB 0 j = s 0 j := fun j j1 j2 => by rw [eB, sw_ne _ (by decide), e5, sw_eq, u1_ne _ j1, e6, sw_eq, u1_ne _ j2]
        have zo : ∀ o : Nat, o ≠ 0 → o ≠ 5 → sB o = s o := fun o o1 o2 => by rw [eB, sw_ne _ o2, e5, sw_ne _ o1, e6, sw_ne _ o1]
        have z5 : ∀ i : Int, 0 ≤ i → i < 73 → sB 5 (73 * 9 + i) = s 2 i := fun i i0 i1 => by
          rw [eB, sw_eq, cpR_in (by omega), k5]
          congr 1
          omega
        have tB : moT sB L (s 2) = sB := by
          unfold moT
          have a2 := sw_self sB 2
          rw [kB] at a2
          have a0 := u1_self (sB 0) 60
          rw [z60] at a0
          rw [a2, a0, sw_self]
        have HB : MoS sB L (s 2) sB := MoS.of (by rw [tB]; exact Es.refl sB) gB
        have A0 : MoA (sB 2) 0 (0, 1, L, s 2) := ⟨⟨⟨Int.le_refl _, Int.le_refl _⟩, ⟨c1.1, by show L ≤ 1000002; omega⟩, ⟨V.2.1, hG 2, fun i _ => by rw [kB]⟩⟩, Or.inr rfl⟩
        obtain ⟨s2, H2, k2⟩ := m_moRun (E := E) (m := m) (h := h) (sB := sB) (n := n) (x2 := d) (by rw [kB]; exact en) z59 (by omega) (by omega) d.toNat (0, 1, L, s 2) sB 0 0 (by omega) (by decide) (by decide) A0 HB
        have A1 := moRun_A (n := n) (K0 := sB 2) (by rw [kB]; exact en) (by omega) d.toNat (0, 1, L, s 2) 0 A0
        have eF : moRun n d.toNat (0, 1, L, s 2) = moF s L d := by rw [en]; rfl
        rw [eF] at A1 H2 k2
        obtain ⟨⟨lent, on, L', K'⟩, eq⟩ : ∃ q, q = moF s L d := ⟨_, rfl⟩
        rw [← eq] at A1 H2 k2 ⊢
        dsimp only at H2 k2 ⊢
        obtain ⟨⟨A2, -, VK⟩, -⟩ := A1
        dsimp only at A2 VK
        have e152 : n = K' 152 := by rw [VK.2.2 152 (by decide), kB]; exact en
        obtain ⟨s3, q3, g3, p3⟩ := m_moLast (E := E) (m := m) (h := h) (sC := moT sB L' K') (s1 := s2) (K := K') (n := n) (x3 := lent) ⟨VK.1, VK.2.1⟩ e152 (by unfold moT; rw [sw_eq, u1_ne _ (by decide)]; exact z59) (moT_2 _ _ _) H2.2.1 H2.1
        have run := k2 _ p3
        have ee : ∀ (o : Nat) , o ≠ 29 → o ≠ 30 → o ≠ 31 → moEnd (moT sB L' K') K' n.toNat o = moT sB L' K' o := fun o o1 o2 o3 => by
          unfold moEnd
          rw [sw_ne _ o3, sw_ne _ o2, sw_ne _ o1]
        have f2 : s3 2 = K' := by rw [q3.k, ee 2 (by decide) (by decide) (by decide), moT_2]
        have f5 : s3 5 = sB 5 := by
          rw [q3.1 5 (by decide) (by decide), ee 5 (by decide) (by decide) (by decide)]
          unfold moT
          rw [sw_ne _ (by decide), sw_ne _ (by decide)]
        have back : cpR (s3 2) 0 (fun i => s3 5 (73 * 9 + i)) 73 = s 2 := by
          funext i
          by_cases ci : 0 ≤ i ∧ i < 73
          · rw [cpR_in (by omega), f5, Int.sub_zero]
            exact z5 i ci.1 ci.2
          · rw [cpR_out (by omega), f2, VK.2.2 i (by omega), kB]
        rw [back] at run
        refine ⟨sGood (sw s3 2 (s 2)), ?_, ?_⟩
        · rw [p60, Option.bind_some, md_ce, Option.bind_some, m_people, Option.bind_some]
          dsimp only
          rw [k6, ← en, p59, Option.bind_some, md_ce, Option.bind_some, m_laysAside (by decide) (by decide), Option.bind_some, ← eB]
          exact run
        · have g9 : G32 (sw s3 2 (s 2)) := G32_sw g3 (hG 2)
          unfold telM
          rw [if_neg (show ¬ lent < 0 by omega)]
          refine Ew_good ?_ g9
          have e0 : ∀ j, RpK j → s3 0 j = sB 0 j := fun j hj => by
            rw [q3.2.1 j (by unfold RpK at hj; omega) (by unfold RpK at hj; omega) (by unfold RpK at hj; omega) (by unfold RpK at hj; omega), ee 0 (by decide) (by decide) (by decide)]
            unfold moT
            rw [sw_eq, u1_ne _ (by unfold RpK at hj; omega)]
          have eo : ∀ o : Nat, RpO o → o ≠ 2 → s3 o = moEnd s K' n.toNat o := fun o ho o2 => by
            rw [q3.1 o (by unfold RpO at ho; omega) (by unfold RpO at ho; omega)]
            have t : ∀ o : Nat, o ≠ 0 → o ≠ 2 → o ≠ 5 → moT sB L' K' o = s o := fun o c0 c2 c5 => by
              unfold moT
              rw [sw_ne _ c0, sw_ne _ c2, zo o c0 c5]
            unfold moEnd
            rw [t 29 (by decide) (by decide) (by decide), t 30 (by decide) (by decide) (by decide), t 31 (by decide) (by decide) (by decide)]
            by_cases c31 : o = 31
            · subst c31; rw [sw_eq, sw_eq]
            · rw [sw_ne _ c31, sw_ne _ c31]
              by_cases c30 : o = 30
              · subst c30; rw [sw_eq, sw_eq]
              · rw [sw_ne _ c30, sw_ne _ c30]
                by_cases c29 : o = 29
                · subst c29; rw [sw_eq, sw_eq]
                · rw [sw_ne _ c29, sw_ne _ c29]
                  exact t o (by unfold RpO at ho; omega) o2 (by unfold RpO at ho; omega)
          refine ⟨fun o ho => ?_, fun j hj => ?_, fun _ => g9⟩
          · rw [sw_ne (o := 0) (p := o) _ (by unfold RpO at ho; omega)]
            by_cases c2 : o = 2
            · subst c2
              rw [sw_eq]
              unfold moEnd
              rw [sw_ne _ (by decide), sw_ne _ (by decide), sw_ne _ (by decide)]
            · rw [sw_ne _ c2, eo o ho c2, en]
          · rw [sw_eq, sw_ne _ (by decide), e0 j hj, ← en]
            by_cases cj : j = 59
            · subst cj; rw [u1_eq, z59]
            · rw [u1_ne _ cj, zz j cj (by unfold RpK at hj; omega)]
    · rw [if_pos (by rw [b01_z]; exact c2), if_pos (show ¬ ((0 ≤ L ∧ L ≤ 1000000) ∧ (1 ≤ d ∧ d ≤ 30)) from fun z => c2 z.2), md_ce, Option.bind_some, m_refuses (by decide) (by decide), Option.bind_some]
      exact ⟨_, rfl, Ew.refl _⟩
  · rw [if_pos (by rw [b01_z]; exact c1), if_pos (show ¬ ((0 ≤ L ∧ L ≤ 1000000) ∧ (1 ≤ d ∧ d ≤ 30)) from fun z => c1 z.1), md_ce, Option.bind_some, m_refuses (by decide) (by decide), Option.bind_some]
    exact ⟨_, rfl, Ew.refl _⟩
end
