/-! Orders: the model goes along one -/
set_option maxRecDepth 100000
/-- what is known when an order was gone along -/
def GoR (s X : Sg) (C : Od) (live : Int) : Prop := X 0 51 = C.2.2.1 ∧ X 0 52 = C.1 ∧ (live = 1 → (X 0 54 = if C.2.2.2 (evO s) = some true then 1 else 0) ∧ (sumO C (evO s) = none → X 0 53 = 0) ∧ ∀ q, sumO C (evO s) = some q → X 0 53 = 1 ∧ (C.1 ≠ 26 → X 28 0 = q.1 ∧ X 28 1 = q.2.1 ∧ X 28 2 = q.2.2))
section
variable {E : ax_E} {m : Nat} {s X : Sg} {h : ax_H} {N i j lv lv' live k n x3 x4 d : Int} {c w : Rw} {e : Ev} {C : Od}
theorem m_go106 (A : GA s N e i X) (hi : 0 ≤ i ∧ i ≤ 900) (hk : 0 ≤ k ∧ k < 3) : ∃ Y, lb_X5_goesAlong_106 E (some m) live 3 k (mdl m X h) = f_X5_goesAlong_127 E (some m) live 3 k (mdl m Y h) ∧ GA s N e (if k = 0 then i else i + 1) Y ∧ (∀ q : Int, q ≠ 20 → Y 0 q = X 0 q) ∧ Y 28 = X 28 := by
  unfold lb_X5_goesAlong_106
  rw [i2_of (a := k) (by omega) (by omega), show i2 3 = 3 by decide, if_pos hk.2]
  by_cases k0 : k = 0
  · rw [if_neg (by omega), if_pos k0]
    exact ⟨X, rfl, A, fun _ _ => rfl, rfl⟩
  · rw [if_pos (by omega), if_neg k0, md_gI20, Option.bind_some, A.2.1, md_pI20, Option.bind_some, show 2400 + i + 1 = 2400 + (i + 1) by omega]
    exact ⟨_, rfl, A.to (by omega), fun q hq => by rw [sw_eq, u1_ne _ hq], by rw [sw_ne _ (by decide)]⟩
theorem m_goesAlong (hG : G32 s) (T : TxO (s 2) N c w) (hK : KB (s 2)) (D : DoV d s) (hd : d ≤ 100000) (hi : s 0 50 = 2400 + i) (hp : pOrder c w i lv = .inr (j, lv', C)) (h0 : 0 ≤ i) (l0 : 0 ≤ lv) (l1 : lv ≤ 50) (hl : live = 0 ∨ live = 1) : (i < j ∧ j ≤ N ∧ lv ≤ lv' ∧ lv' ≤ 50) ∧ OdB C ∧ ∃ X, f_X5_goesAlong E (some m) (2400 + N) live (mdl m s h) = some (mdl m X h) ∧ Er s X ∧ X 0 20 = 2400 + (j + 1) ∧ GoR s X C live := by
  have hN := T.1
  have hE := EB_evO hK D hd
  have hb := hE.1
  have r71 := hK.2.2.2.2.1
  have r72 := hK.2.2.2.2.2.1
  obtain ⟨⟨d1, d2⟩, d3, d4⟩ := D
  rw [pOrder_eq, pAct_3] at hp
  have hci : c i = 24 ∨ c i = 25 ∨ c i = 26 := by
    by_cases q1 : c i = 24 ∨ c i = 25
    · omega
    · rw [if_neg q1] at hp
      by_cases q2 : c i = 26
      · omega
      · rw [if_neg q2] at hp
        cases hp
  have hiN := T.ne (i := i) (by omega)
  -- the beginning
  obtain ⟨F0, eF⟩ : ∃ F0, F0 = u1 (u1 (s 0) 23 1) 21 (2400 + N) := ⟨_, rfl⟩
  have f32 : ∀ q, i2 (F0 q) = F0 q := by rw [eF]; exact u1_32 (u1_32 (hG 0) (by decide)) (i2_of (by omega) (by omega))
  obtain ⟨Y0, eY0⟩ : ∃ Y0, Y0 = sw s 0 F0 := ⟨_, rfl⟩
  have E0 : Er s Y0 := by
    rw [eY0]
    refine ⟨fun o h1 h2 h3 h4 => sw_ne _ h1, fun q h1 h2 h3 h4 h5 h6 h7 h8 => ?_, G32_sw hG f32⟩
    rw [sw_eq, eF, u1_ne _ h2, u1_ne _ h4]
  have z0 : Y0 0 = F0 := by rw [eY0, sw_eq]
  have st : ∀ (Y : Sg) (q v : Int), 0 ≤ q → q < 4 → ax_sto (mdl m Y h) (some (m + 13)) 100 q v = some (mdl m (sw Y 13 (u1 (Y 13) q v)) h) := fun Y q v q0 q1 => md_sto13 q0 q1
  obtain ⟨Y1, eY1⟩ : ∃ Y1, Y1 = sw Y0 13 (u1 (Y0 13) 0 (s 2 72)) := ⟨_, rfl⟩
  have E1 : Er s Y1 := by rw [eY1]; exact E0.wo (Or.inl rfl) (u1_32 (E0.2.2 13) (hG 2 72))
  obtain ⟨Y2, eY2⟩ : ∃ Y2, Y2 = sw Y1 13 (u1 (Y1 13) 1 (s 2 71)) := ⟨_, rfl⟩
  have E2 : Er s Y2 := by rw [eY2]; exact E1.wo (Or.inl rfl) (u1_32 (E1.2.2 13) (hG 2 71))
  obtain ⟨Y3, eY3⟩ : ∃ Y3, Y3 = sw Y2 13 (u1 (Y2 13) 2 (s 0 48)) := ⟨_, rfl⟩
  have E3 : Er s Y3 := by rw [eY3]; exact E2.wo (Or.inl rfl) (u1_32 (E2.2.2 13) (hG 0 48))
  obtain ⟨X1, e1⟩ : ∃ X1, X1 = sw Y3 13 (u1 (Y3 13) 3 (s 0 49)) := ⟨_, rfl⟩
  have E4 : Er s X1 := by rw [e1]; exact E3.wo (Or.inl rfl) (u1_32 (E3.2.2 13) (hG 0 49))
  have x0 : X1 0 = F0 := by rw [e1, sw_ne _ (by decide), eY3, sw_ne _ (by decide), eY2, sw_ne _ (by decide), eY1, sw_ne _ (by decide)]; exact z0
  have x13 : ∀ q : Int, 0 ≤ q → q < 4 → X1 13 q = (evO s).1 q := by
    intro q q0 q1
    rw [e1, sw_eq, eY3, sw_eq, eY2, sw_eq, eY1, sw_eq]
    have : q = 0 ∨ q = 1 ∨ q = 2 ∨ q = 3 := by omega
    rcases this with z | z | z | z <;> subst z <;> simp [u1, evO]
  obtain ⟨X2, e2⟩ : ∃ X2, X2 = sw X1 0 (u1 (X1 0) 20 (2400 + i)) := ⟨_, rfl⟩
  have A2 : GA s N (evO s) i X2 := by
    rw [e2]
    exact ⟨E4.w0 (by unfold GoK; omega) (i2_of (by omega) (by omega)), by rw [sw_eq, u1_eq], by rw [sw_eq, u1_ne _ (by decide), x0, eF, u1_eq], by rw [sw_eq, u1_ne _ (by decide), x0, eF, u1_ne _ (by decide), u1_eq], fun q q0 q1 => by rw [sw_ne _ (by decide)]; exact x13 q q0 q1⟩
  have cA := m_codeAt (E := E) (m := m) (h := h) (g := 2400 + i) (b := X2 0 22) A2.1.2.2 (A2.txt T) h0 (by omega)
  rw [A2.self rfl] at cA
  have c32 := txt_32 A2.1.2.2 (A2.txt T) i
  obtain ⟨X3, e3⟩ : ∃ X3, X3 = sw X2 0 (u1 (X2 0) 52 (c i)) := ⟨_, rfl⟩
  have A3 : GA s N (evO s) i X3 := by rw [e3]; exact A2.w0 (by omega) c32
  obtain ⟨X4, e4⟩ : ∃ X4, X4 = sw X3 0 (u1 (X3 0) 20 (2400 + (i + 1))) := ⟨_, rfl⟩
  have A4 : GA s N (evO s) (i + 1) X4 := by rw [e4]; exact A3.to (by omega)
  obtain ⟨X5, e5⟩ : ∃ X5, X5 = sw X4 0 (u1 (X4 0) 53 1) := ⟨_, rfl⟩
  have A5 : GA s N (evO s) (i + 1) X5 := by rw [e5]; exact A4.w0 (by omega) (by decide)
  have y52 : X5 0 52 = c i := by rw [e5, sw_eq, u1_ne _ (by decide), e4, sw_eq, u1_ne _ (by decide), e3, sw_eq, u1_eq]
  have y53 : X5 0 53 = 1 := by rw [e5, sw_eq, u1_eq]
  have pre : f_X5_goesAlong E (some m) (2400 + N) live (mdl m s h) = ax_iter (fun y : Int × ax_H => lb_X5_goesAlong_106 E (some m) live (if c i = 26 then 0 else 3) y.1 y.2) (0, mdl m X5 h) := by
    unfold f_X5_goesAlong f_X5_goesAlong_102 f_X5_goesAlong_106
    rw [if_pos (Or.inr rfl), md_pI23, Option.bind_some, md_pI21, Option.bind_some, sw_eq, sw_sw, ← eF, ← eY0, md_gR25, Option.bind_some, md_gR2, Option.bind_some, md_ld2 (by decide) (by decide), Option.bind_some, E0.k2, st _ 0 _ (by decide) (by decide), Option.bind_some, ← eY1, md_gR25, Option.bind_some, md_ce, Option.bind_some, m_debts, Option.bind_some]
    dsimp only
    rw [E1.k2, st _ 1 _ (by decide) (by decide), Option.bind_some, ← eY2, md_gR25, Option.bind_some, md_gI48, Option.bind_some, E2.2.1 48 (by decide) (by decide) (by decide) (by decide) (by decide) (by decide) (by decide) (by decide), st _ 2 _ (by decide) (by decide), Option.bind_some, ← eY3, md_gR25, Option.bind_some, md_gI49, Option.bind_some, E3.2.1 49 (by decide) (by decide) (by decide) (by decide) (by decide) (by decide) (by decide) (by decide), st _ 3 _ (by decide) (by decide), Option.bind_some, ← e1, md_gI50, Option.bind_some, E4.2.1 50 (by decide) (by decide) (by decide) (by decide) (by decide) (by decide) (by decide) (by decide), hi, md_pI20, Option.bind_some, ← e2, md_gI20, Option.bind_some, A2.2.1, md_ce, Option.bind_some, cA, Option.bind_some]
    dsimp only
    rw [md_pI52, Option.bind_some, ← e3, md_gI20, Option.bind_some, A3.2.1, md_pI20, Option.bind_some, show 2400 + i + 1 = 2400 + (i + 1) by omega, ← e4, if_pos (Or.inr rfl), md_pI53, Option.bind_some, ← e5, md_gI52, Option.bind_some, y52, c32, show i2 26 = 26 by decide]
    by_cases c26 : c i = 26
    · rw [if_pos c26, if_pos c26]
    · rw [if_neg c26, if_neg c26]
  rw [pre]
  by_cases c26 : c i = 26
  · -- an order to wait
    rw [if_neg (by omega), if_pos c26] at hp
    simp only at hp
    cases hE2 : pEnd c w (i + 1) lv with
    | inl t => rw [hE2] at hp; cases hp
    | inr vv =>
      obtain ⟨j2, lv2, n, G⟩ := vv
      rw [hE2] at hp
      cases hp
      obtain ⟨⟨g1, g2, g3, g4⟩, gn, X', p1, p2, p3, p4, p5, p6, p7⟩ := m_goEnd (E := E) (m := m) (h := h) (x3 := 0) (x4 := 0) A5 T rfl rfl hE hK hE2 (by omega) (by omega) l0 l1 hl ⟨rfl, by decide, by decide⟩
      have fc : FB (fun _ => some 0) := fun e' _ v hv => by cases hv; exact ⟨by decide, by decide⟩
      refine ⟨⟨by omega, g2, g3, g4⟩, ⟨fc, fc, fc, gn, Or.inr (Or.inr c26), fun _ => rfl⟩, X', ?_, p2.1, p2.2.1, p3, p4.trans y52, fun hl1 => ⟨p7 hl1, fun hn => ?_, fun q _ => ⟨p5.trans y53, fun hq => absurd c26 hq⟩⟩⟩
      · rw [if_pos c26]
        exact it_done p1
      · exact absurd hn (by show ¬ ((some (0, 0, 0) : Option (Int × Int × Int)) = none); exact fun z => by cases z)
  · -- an order to lend or to repay
    have h245 : c i = 24 ∨ c i = 25 := by omega
    rw [if_pos h245] at hp
    unfold pAct3 at hp
    rw [if_neg c26]
    cases hS1 : pS 1 c w 8 (i + 1) lv with
    | inl t => rw [hS1] at hp; cases hp
    | inr vv =>
      obtain ⟨j1, lv1, F1⟩ := vv
      rw [hS1] at hp
      simp only at hp
      by_cases c27 : c j1 = 27
      · rw [if_pos c27] at hp
        have hj1 := T.ne (i := j1) (by omega)
        cases hS2 : pS 1 c w 8 (j1 + 1) lv1 with
        | inl t => rw [hS2] at hp; cases hp
        | inr vv =>
          obtain ⟨j2, lv2, F2⟩ := vv
          rw [hS2] at hp
          simp only at hp
          by_cases c28 : c j2 = 28
          · rw [if_pos c28] at hp
            have hj2 := T.ne (i := j2) (by omega)
            cases hS3 : pS 1 c w 8 (j2 + 1) lv2 with
            | inl t => rw [hS3] at hp; cases hp
            | inr vv =>
              obtain ⟨j3, lv3, F3⟩ := vv
              rw [hS3] at hp
              simp only at hp
              cases hE2 : pEnd c w j3 lv3 with
              | inl t => rw [hE2] at hp; cases hp
              | inr vv =>
                obtain ⟨j4, lv4, n, G⟩ := vv
                rw [hE2] at hp
                cases hp
                obtain ⟨Z1, a1, A6, a2, a3⟩ := m_go106 (E := E) (m := m) (h := h) (live := live) (k := 0) A5 ⟨by omega, by omega⟩ (by decide)
                rw [if_pos rfl] at A6
                obtain ⟨⟨b1, b2, b3, b4⟩, fb1, W1, b5, b6, b7, b8, b9, b10⟩ := m_go127 (E := E) (m := m) (h := h) (x3 := 3) (k := 0) A6 T rfl rfl hE hK hS1 (by omega) l0 l1 (by decide) hl (by rw [a2 53 (by decide), y53]; exact Or.inr rfl)
                obtain ⟨Z2, u1', B6, u2, u3⟩ := m_go106 (E := E) (m := m) (h := h) (live := live) (k := 1) b6 ⟨by omega, by omega⟩ (by decide)
                rw [if_neg (by decide)] at B6
                obtain ⟨⟨d1', d2', d3', d4'⟩, fb2, W2, d5, d6, d7, d8, d9, d10⟩ := m_go127 (E := E) (m := m) (h := h) (x3 := 3) (k := 1) B6 T rfl rfl hE hK hS2 (by omega) (by omega) b4 (by decide) hl (by rw [u2 53 (by decide)]; exact b8)
                obtain ⟨Z3, v1, C6, v2, v3⟩ := m_go106 (E := E) (m := m) (h := h) (live := live) (k := 2) d6 ⟨by omega, by omega⟩ (by decide)
                rw [if_neg (by decide)] at C6
                obtain ⟨⟨f1, f2, f3, f4⟩, fb3, W3, f5, f6, f7, f8, f9, f10⟩ := m_go127 (E := E) (m := m) (h := h) (x3 := 3) (k := 2) C6 T rfl rfl hE hK hS3 (by omega) (by omega) d4' (by decide) hl (by rw [v2 53 (by decide)]; exact d8)
                obtain ⟨⟨g1, g2, g3, g4⟩, gn, X', p1, p2, p3, p4, p5, p6, p7⟩ := m_goEnd (E := E) (m := m) (h := h) (x3 := 3) (x4 := 3) f6 T rfl rfl hE hK hE2 (by omega) f2 (by omega) f4 hl ⟨rfl, by decide, by decide⟩
                refine ⟨⟨by omega, g2, by omega, g4⟩, ⟨fb1, fb2, fb3, gn, by omega, fun z => absurd z c26⟩, X', ?_, p2.1, p2.2.1, p3, ?_, fun hl1 => ⟨p7 hl1, fun hn => ?_, fun q hq => ?_⟩⟩
                · exact (it_step (body := fun y : Int × ax_H => lb_X5_goesAlong_106 E (some m) live 3 y.1 y.2) (s := (0, mdl m X5 h)) (a1.trans b5)).trans ((it_step (body := fun y : Int × ax_H => lb_X5_goesAlong_106 E (some m) live 3 y.1 y.2) (s := (1, mdl m W1 h)) (u1'.trans d5)).trans ((it_step (body := fun y : Int × ax_H => lb_X5_goesAlong_106 E (some m) live 3 y.1 y.2) (s := (2, mdl m W2 h)) (v1.trans f5)).trans (it_done p1)))
                · rw [p4, f7, v2 52 (by decide), d7, u2 52 (by decide), b7, a2 52 (by decide), y52]
                · rw [p5]
                  have hn' : ((F1 (evO s)).bind fun a => (F2 (evO s)).bind fun b => (F3 (evO s)).map fun v => (a, b, v)) = none := hn
                  cases h1 : F1 (evO s) with
                  | none =>
                    have q1 := (b10 hl1).2 h1
                    cases h3 : F3 (evO s) with
                    | none => exact (f10 hl1).2 h3
                    | some v =>
                      rw [((f10 hl1).1 v h3).2, v2 53 (by decide)]
                      cases h2 : F2 (evO s) with
                      | none => exact (d10 hl1).2 h2
                      | some b => rw [((d10 hl1).1 b h2).2, u2 53 (by decide)]; exact q1
                  | some a =>
                    cases h3 : F3 (evO s) with
                    | none => exact (f10 hl1).2 h3
                    | some v =>
                      rw [((f10 hl1).1 v h3).2, v2 53 (by decide)]
                      cases h2 : F2 (evO s) with
                      | none => exact (d10 hl1).2 h2
                      | some b =>
                        rw [h1, h2, h3] at hn'
                        cases hn'
                · have hq' : ((F1 (evO s)).bind fun a => (F2 (evO s)).bind fun b => (F3 (evO s)).map fun v => (a, b, v)) = some q := hq
                  obtain ⟨a, h1, hq2⟩ := Option.bind_eq_some_iff.mp hq'
                  obtain ⟨b, h2, hq3⟩ := Option.bind_eq_some_iff.mp hq2
                  obtain ⟨v, h3, hq4⟩ := Option.map_eq_some_iff.mp hq3
                  obtain ⟨r1, r2⟩ := (b10 hl1).1 a h1
                  obtain ⟨r3, r4⟩ := (d10 hl1).1 b h2
                  obtain ⟨r5, r6⟩ := (f10 hl1).1 v h3
                  rw [← hq4]
                  refine ⟨?_, fun _ => ⟨?_, ?_, ?_⟩⟩
                  · rw [p5, r6, v2 53 (by decide), r4, u2 53 (by decide), r2, a2 53 (by decide), y53]
                  · rw [p6, f9 0 (by decide), v3, d9 0 (by decide), u3, r1]
                  · rw [p6, f9 1 (by decide), v3, r3]
                  · rw [p6, r5]
          · rw [if_neg c28] at hp
            cases hp
      · rw [if_neg c27] at hp
        cases hp
end
