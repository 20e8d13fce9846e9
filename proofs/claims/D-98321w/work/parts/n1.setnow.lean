/-! Orders: what they ask of, the component -/
set_option maxRecDepth 100000
/-- an order's link to the root -/
def OdX (h : ax_H) (x b tg : Nat) : Prop := (tg = 21 ∨ tg = 23 ∨ tg = 24) ∧ hT h b = tg ∧ hR h b (if tg = 21 then 3 else 7) = some x
section
variable {E : ax_E} {h h' : ax_H} {x t dl dv ds du b tg : Nat} {s : Sg}
theorem OdX.g (O : OdX h x b tg) : ax_gRs E h (some b) [(21, 3), (23, 7), (24, 7)] = some (some x) := by
  obtain ⟨o1, o2, o3⟩ := O
  rw [f_gRs o2 (by omega) (lk3 o1 3 7), o3]
theorem OdX.same (O : OdX h x b tg) (e : h'.2.2 b = h.2.2 b) : OdX h' x b tg := by
  obtain ⟨o1, o2, o3⟩ := O
  obtain ⟨a, b, c, d⟩ := ceq e
  exact ⟨o1, a.trans o2, (d _).trans o3⟩
theorem OdX.eqt (O : OdX h x b tg) (e : eqT (hC h b) (hC h' b)) : OdX h' x b tg := by
  obtain ⟨o1, o2, o3⟩ := O
  exact ⟨o1, e.hT.trans o2, (e.hR _).trans o3⟩
/-- how many were run, the latest: the root's fields -/
def DoC (h : ax_H) (x : Nat) (s : Sg) : Prop := hI h x 15 = s 0 48 ∧ hI h x 16 = s 0 49
theorem tc17 (H : REP E h x t dl dv ds du s) : hT h x = 0 ∧ hR h x 4 = some (x + 17) ∧ hT h (x + 17) = 3 ∧ hR h (x + 17) 0 = some (x + 18) ∧ hT h (x + 18) = 103 ∧ hL h (x + 18) = 10 := by
  obtain ⟨a1, -, ⟨-, -, -, a17, -⟩, -, -, ⟨t17, r17, t18, l18⟩, -⟩ := id H.2.1
  exact ⟨a1, a17, t17, r17, t18, l18⟩
theorem c_ask12 (H : REP E h x t dl dv ds du s) (hG : G32 s) (hK : KB (s 2)) {a q : Nat} (ta : hT h a = 12) (ra : hR h a 1 = some x) (ia : 0 ≤ hI h a 0 ∧ hI h a 0 ≤ 6) : f_X12_of E (some a) (some q) h = some (purseS (s 2) (hI h a 0), h) := by
  have B := H.bk
  have hn := hK.1
  obtain ⟨n, en⟩ : ∃ n, n = hI h a 0 := ⟨_, rfl⟩
  unfold f_X12_of
  rw [f_gR ta (by decide), Option.bind_some, ra, f_gI ta (by decide), Option.bind_some, f_ce H.2.1.1 (by decide), Option.bind_some, c_isPerson H hK (i2_of (by omega) (by omega)), Option.bind_some]
  dsimp only
  unfold purseS
  rw [← en] at ia ⊢
  by_cases c : 0 ≤ n ∧ n ≤ s 2 152 - 1
  · have v := B.2.2.1 n.toNat (by omega)
    rw [Int.toNat_of_nonneg ia.1] at v
    rw [if_neg (by rw [b01_z]; exact fun z => z c), if_pos c, f_gR ta (by decide), Option.bind_some, ra, f_ce H.2.1.1 (by decide), Option.bind_some, c_books H, Option.bind_some]
    dsimp only
    rw [f_gR B.1.1 (by decide), Option.bind_some, B.1.2.1.1, f_gI ta (by decide), Option.bind_some, ← en, f_ld B.1.2.2.1.1 (by decide) (by omega) (by rw [B.1.2.2.2.1]; omega) (by rw [B.1.2.2.2.1]; decide), Option.bind_some, v, hG]
  · rw [if_pos (by rw [b01_z]; exact c), if_neg c]
theorem c_ask13 (H : REP E h x t dl dv ds du s) (hG : G32 s) (hK : KB (s 2)) {a q : Nat} (ta : hT h a = 13) (ra : hR h a 2 = some x) (ia : 0 ≤ hI h a 0 ∧ hI h a 0 ≤ 6) (ja : 0 ≤ hI h a 1 ∧ hI h a 1 ≤ 6) : f_X13_of E (some a) (some q) h = some (owedS (s 2) (hI h a 0) (hI h a 1), h) := by
  have B := H.bk
  have hn := hK.1
  have hRV := hK.2.2.2.2
  have h71 := hRV.1
  obtain ⟨n, en⟩ : ∃ n, n = hI h a 0 := ⟨_, rfl⟩
  obtain ⟨m, em⟩ : ∃ m, m = hI h a 1 := ⟨_, rfl⟩
  rw [← en] at ia
  rw [← em] at ja
  have i1 : i2 n = n := i2_of (by omega) (by omega)
  have i2' : i2 m = m := i2_of (by omega) (by omega)
  unfold f_X13_of
  rw [f_gR ta (by decide), Option.bind_some, ra, f_gI ta (by decide), Option.bind_some, f_gI ta (by decide), Option.bind_some, f_ce H.2.1.1 (by decide), Option.bind_some, ← en, ← em, c_areTwo H hK i1 i2', Option.bind_some]
  dsimp only
  unfold owedS
  by_cases c : (0 ≤ n ∧ n ≤ s 2 152 - 1) ∧ (0 ≤ m ∧ m ≤ s 2 152 - 1) ∧ n ≠ m
  · have ob := owed_b hRV n m
    rw [if_neg (by rw [b01_z]; exact fun z => z c), if_pos c, f_gR ta (by decide), Option.bind_some, ra, f_ce H.2.1.1 (by decide), Option.bind_some, c_books H, Option.bind_some]
    dsimp only
    rw [f_gI ta (by decide), Option.bind_some, f_gI ta (by decide), Option.bind_some, ← en, ← em, f_ce B.1.1 (by decide), Option.bind_some, c_owes B (hG 2) h71.1 h71.2 i1 i2', Option.bind_some, i2_of (by omega) (by omega)]
  · rw [if_pos (by rw [b01_z]; exact c), if_neg c]
/-- what is asked of, as it is now -/
theorem c_setNow (H : REP E h x t dl dv ds du s) (hG : G32 s) (hK : KB (s 2)) (O : OdX h x b tg) (hb : x + 116 ≤ b) (D : DoC h x s) : ∃ h', f_X20_setNow E (some b) h = some h' ∧ REP E h' x t dl dv ds du s ∧ DoC h' x s ∧ (∀ a, a ≠ x + 17 → a ≠ x + 18 → h'.2.2 a = h.2.2 a) ∧ h'.1 = h.1 ∧ h'.2.1 = h.2.1 ∧ AskE 1 E h' x (x + 17) (evO s) := by
  have W : ∀ (g : ax_H) (a k : Nat) (v : Int), (a = x + 17 ∨ a = x + 18) → REP E g x t dl dv ds du s → OdX g x b tg → DoC g x s → REP E (wI g a k v) x t dl dv ds du s ∧ OdX (wI g a k v) x b tg ∧ DoC (wI g a k v) x s := by
    intro g a k v ha Hg Og Dg
    refine ⟨Hg.keep (Kp_wI (by unfold SZ; omega)), Og.same (hC_wI_ne (by omega)), ?_⟩
    unfold DoC
    rw [hI_wI_ne (by omega), hI_wI_ne (by omega)]
    exact Dg
  obtain ⟨g1, e1⟩ : ∃ g1, g1 = wI h (x + 18) 0 (s 2 72) := ⟨_, rfl⟩
  obtain ⟨H1, O1, D1⟩ := W h (x + 18) 0 (s 2 72) (Or.inr rfl) H O D
  rw [← e1] at H1 O1 D1
  obtain ⟨g2, e2⟩ : ∃ g2, g2 = wI g1 (x + 18) 1 (s 2 71) := ⟨_, rfl⟩
  obtain ⟨H2, O2, D2⟩ := W g1 (x + 18) 1 (s 2 71) (Or.inr rfl) H1 O1 D1
  rw [← e2] at H2 O2 D2
  obtain ⟨g3, e3⟩ : ∃ g3, g3 = wI g2 (x + 18) 2 (s 0 48) := ⟨_, rfl⟩
  obtain ⟨H3, O3, D3⟩ := W g2 (x + 18) 2 (s 0 48) (Or.inr rfl) H2 O2 D2
  rw [← e3] at H3 O3 D3
  obtain ⟨g4, e4⟩ : ∃ g4, g4 = wI g3 (x + 18) 3 (s 0 49) := ⟨_, rfl⟩
  obtain ⟨H4, O4, D4⟩ := W g3 (x + 18) 3 (s 0 49) (Or.inr rfl) H3 O3 D3
  rw [← e4] at H4 O4 D4
  obtain ⟨g5, e5⟩ : ∃ g5, g5 = wI g4 (x + 17) 1 0 := ⟨_, rfl⟩
  obtain ⟨H5, O5, D5⟩ := W g4 (x + 17) 1 0 (Or.inl rfl) H4 O4 D4
  rw [← e5] at H5 O5 D5
  have T0 := tc17 H
  have T1 := tc17 H1
  have T2 := tc17 H2
  have T3 := tc17 H3
  have T4 := tc17 H4
  have T5 := tc17 H5
  have st : ∀ (g : ax_H) (k : Int) (v : Int), hT g (x + 18) = 103 → hL g (x + 18) = 10 → 0 ≤ k → k < 10 → ax_sto g (some (x + 18)) 103 k v = some (wI g (x + 18) k.toNat v) := fun g k v q1 q2 q3 q4 => f_sto q1 (by decide) q3 (by rw [q2]; omega) (by rw [q2]; decide)
  refine ⟨g5, ?_, H5, D5, fun a a1 a2 => by rw [e5, hC_wI_ne a1, e4, hC_wI_ne a2, e3, hC_wI_ne a2, e2, hC_wI_ne a2, e1, hC_wI_ne a2], by rw [e5, e4, e3, e2, e1]; rfl, by rw [e5, e4, e3, e2, e1]; rfl, T5.2.2.1, by rw [e5]; exact hI_wI_eq, ⟨x + 18, T5.2.2.2.1, T5.2.2.2.2.1, T5.2.2.2.2.2, fun k hk k4 => ?_⟩, fun _ a ta ra ia => c_ask12 H5 hG hK ta ra ia, fun _ a ta ra ia ja => c_ask13 H5 hG hK ta ra ia ja⟩
  · unfold f_X20_setNow
    rw [O.g, Option.bind_some, f_gR T0.1 (by decide), Option.bind_some, T0.2.1, f_gR T0.2.2.1 (by decide), Option.bind_some, T0.2.2.2.1, Option.bind_some, f_ce T0.1 (by decide), Option.bind_some, c_books H, Option.bind_some]
    dsimp only
    rw [f_gI H.bk.1.1 (by decide), Option.bind_some, H.bk.2.1.2, hG, st h 0 _ T0.2.2.2.2.1 T0.2.2.2.2.2 (by decide) (by decide), Option.bind_some, show (0 : Int).toNat = 0 from rfl, ← e1, O1.g, Option.bind_some, f_gR T1.1 (by decide), Option.bind_some, T1.2.1, f_gR T1.2.2.1 (by decide), Option.bind_some, T1.2.2.2.1, Option.bind_some, f_ce T1.1 (by decide), Option.bind_some, c_books H1, Option.bind_some]
    dsimp only
    rw [f_gI H1.bk.1.1 (by decide), Option.bind_some, H1.bk.2.1.1, hG, st g1 1 _ T1.2.2.2.2.1 T1.2.2.2.2.2 (by decide) (by decide), Option.bind_some, show (1 : Int).toNat = 1 from rfl, ← e2, O2.g, Option.bind_some, f_gR T2.1 (by decide), Option.bind_some, T2.2.1, f_gR T2.2.2.1 (by decide), Option.bind_some, T2.2.2.2.1, Option.bind_some, f_gI T2.1 (by decide), Option.bind_some, D2.1, hG, st g2 2 _ T2.2.2.2.2.1 T2.2.2.2.2.2 (by decide) (by decide), Option.bind_some, show (2 : Int).toNat = 2 from rfl, ← e3, O3.g, Option.bind_some, f_gR T3.1 (by decide), Option.bind_some, T3.2.1, f_gR T3.2.2.1 (by decide), Option.bind_some, T3.2.2.2.1, Option.bind_some, f_gI T3.1 (by decide), Option.bind_some, D3.2, hG, st g3 3 _ T3.2.2.2.2.1 T3.2.2.2.2.2 (by decide) (by decide), Option.bind_some, show (3 : Int).toNat = 3 from rfl, ← e4, O4.g, Option.bind_some, f_gR T4.1 (by decide), Option.bind_some, T4.2.1, if_pos (Or.inl rfl), f_pI T4.2.2.1 (by decide), Option.bind_some, ← e5]
  · have k4' := k4 (by decide)
    have : k = 0 ∨ k = 1 ∨ k = 2 ∨ k = 3 := by omega
    rw [e5, hI_wI_ne (by omega), e4, e3, e2, e1]
    rcases this with z | z | z | z <;> subst z <;> simp [hI_wI, evO]
end
