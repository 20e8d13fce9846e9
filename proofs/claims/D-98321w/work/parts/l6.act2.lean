/-! The component's reader of orders: an order's act -/
set_option maxRecDepth 100000
/-- an order in the heap, its test not yet seen -/
def OdA (Fz : Nat → Prop) (g : ax_H) (x u : Nat) (hd : Int) (S : Dn × Dn × Dn) (n : Int) : Prop := (hd = 26 ∧ S = ((fun _ => some 0), (fun _ => some 0), (fun _ => some 0)) ∧ hT g u = 21 ∧ hR g u 3 = some x ∧ hR g u 4 = some x ∧ hI g u 1 = n) ∨ ((hd = 24 ∨ hd = 25) ∧ hT g u = (if hd = 24 then 23 else 24) ∧ hR g u 3 = some x ∧ hR g u 7 = some x ∧ hR g u 8 = some x ∧ hI g u 5 = n ∧ ∃ s1 s2 s3, hR g u 0 = some s1 ∧ hR g u 1 = some s2 ∧ hR g u 2 = some s3 ∧ SumN 1 Fz g x 50 s1 S.1 ∧ SumN 1 Fz g x 50 s2 S.2.1 ∧ SumN 1 Fz g x 50 s3 S.2.2)
theorem OdA.tag {Fz : Nat → Prop} {g : ax_H} {x u : Nat} {hd n : Int} {S : Dn × Dn × Dn} (A : OdA Fz g x u hd S n) : hT g u = 21 ∨ hT g u = 23 ∨ hT g u = 24 := by
  rcases A with ⟨-, -, t, -⟩ | ⟨-, t, -⟩
  · exact Or.inl t
  · rw [t]
    split
    · exact Or.inr (Or.inl rfl)
    · exact Or.inr (Or.inr rfl)
theorem OdA.fr {Fz Fz' : Nat → Prop} {g g' : ax_H} {x u : Nat} {hd n : Int} {S : Dn × Dn × Dn} (A : OdA Fz g x u hd S n) (hf : ∀ a, Fz a → Fz' a ∧ eqT (hC g a) (hC g' a)) (e : g'.2.2 u = g.2.2 u) : OdA Fz' g' x u hd S n := by
  obtain ⟨e1, e2, e3, e4⟩ := ceq e
  rcases A with ⟨h1, h0, h2, h3, h4, h5⟩ | ⟨h1, h2, h3, h4, h5, h6, s1, s2, s3, k1, k2, k3, k4, k5, k6⟩
  · exact Or.inl ⟨h1, h0, e1.trans h2, (e4 3).trans h3, (e4 4).trans h4, (e3 1).trans h5⟩
  · exact Or.inr ⟨h1, e1.trans h2, (e4 3).trans h3, (e4 7).trans h4, (e4 8).trans h5, (e3 5).trans h6, s1, s2, s3, (e4 0).trans k1, (e4 1).trans k2, (e4 2).trans k3, k4.fr hf, k5.fr hf, k6.fr hf⟩
def pAct3 (c w : Rw) (i lv : Int) : PR (Dn × Dn × Dn) := match pS 1 c w 8 i lv with
  | .inl t => .inl t
  | .inr (j, lv1, F1) => match (if c j = 27 then pS 1 c w 8 (j + 1) lv1 else .inl j) with
    | .inl t => .inl t
    | .inr (k, lv2, F2) => match (if c k = 28 then pS 1 c w 8 (k + 1) lv2 else .inl k) with
      | .inl t => .inl t
      | .inr (l, lv3, F3) => .inr (l, lv3, (F1, F2, F3))
theorem pAct_3 (c w : Rw) (i lv : Int) : pAct c w i lv = if c i = 24 ∨ c i = 25 then pAct3 c w (i + 1) lv else if c i = 26 then .inr (i + 1, lv, ((fun _ => some 0), (fun _ => some 0), (fun _ => some 0))) else .inl i := rfl
/-- an act read -/
def RsO (E : ax_E) (T : Rw) (N x i p w : Nat) (g : ax_H) (lv hd : Int) (res : Option ((Nat × ax_H) ⊕ (Option Nat × ax_H))) : PR (Dn × Dn × Dn) → Prop
  | .inl t => ∃ r, res = some (.inl r) ∧ RdW T N i p 0 g t (8 * (51 - lv)) (16 * (51 - lv)) r
  | .inr (j, lv', S) => ∃ u g', res = some (.inr (some u, g')) ∧ 0 ≤ j ∧ (lv ≤ lv' ∧ lv' ≤ 50) ∧ RdC E T N x i p w 25 j.toNat lv' 0 0 g' ∧ RdR i p 0 g g' ∧ (g.1 ≤ u ∧ u < g'.1) ∧ OdA (fun a => RnF g.1 g'.1 a ∧ a ≠ u) g' x u hd S 1 ∧ (g'.1 : Int) ≤ g.1 + 8 * (lv' - lv) + 1 ∧ (g'.2.1 : Int) ≤ g.2.1 + 8 * (lv' - lv) + 9
section
variable {E : ax_E} {T : Rw} {N x i p w k q tg : Nat} {lv v hd : Int} {g h : ax_H} {a b c : Option Nat}
theorem c_i23 (htg : tg = 23 ∨ tg = 24) (e : hT h q = tg) : ∃ h', (if tg = 23 then f_X23_init E (some q) (some x) a b c h else f_X24_init E (some q) (some x) a b c h) = some h' ∧ (hT h' q = tg ∧ hR h' q 0 = a ∧ hR h' q 1 = b ∧ hR h' q 2 = c ∧ hR h' q 3 = some x ∧ hR h' q 7 = some x ∧ hR h' q 8 = some x ∧ hI h' q 5 = 1) ∧ (∀ c, c ≠ q → h'.2.2 c = h.2.2 c) ∧ h'.1 = h.1 ∧ h'.2.1 = h.2.1 := by
  obtain ⟨h1, e1⟩ : ∃ h1, h1 = wR h q 8 (some x) := ⟨_, rfl⟩
  have t1 : hT h1 q = tg := by rw [e1, hT_wR]; exact e
  obtain ⟨h2, x1, ⟨x2, x3, x4, x5, x6, x7, x8, x9⟩, x10, x11, x12⟩ := c_i22 (E := E) (x := x) (a := a) (b := b) (c := c) htg t1
  refine ⟨h2, ?_, ⟨x2, x3, x4, x5, x6, x7, ?_, x8⟩, fun d hd => by rw [x10 d hd, e1, hC_wR_ne hd], by rw [x11, e1]; rfl, by rw [x12, e1]; rfl⟩
  · rcases htg with z | z
    · subst z
      rw [if_pos rfl]
      unfold f_X23_init
      rw [f_pR e (by decide), Option.bind_some, ← e1, Option.bind_some, x1, Option.bind_some]
    · subst z
      rw [if_neg (by decide)]
      unfold f_X24_init
      rw [f_pR e (by decide), Option.bind_some, ← e1, Option.bind_some, x1, Option.bind_some]
  · rw [x9 8 (Or.inr rfl), e1]
    exact hR_wR_eq
/-- the three sums of an order to lend or repay -/
theorem c_act47 (hv : (hd = 24 ∧ v = 1) ∨ (hd = 25 ∧ v = 0)) (G : RdC E T N x i p w 25 k lv 0 0 g) (l0 : 0 ≤ lv) (l1 : lv ≤ 50) (rm : RmR E g lv) : RsO E T N x i p w g lv hd (f_X25_act_47 E (some i) v (some i) 1 g) (pAct3 (cT T N) (wT T N) k lv) := by
  have iT := G.1.2.2.2.2.2.2.2.2.2
  have hp := G.1.2.1
  have rm' := rm
  unfold RmR at rm'
  have bs : RsS E T N x i p w 25 1 0 0 g lv (fn_X6_sum E 64 (some i) g) (pS 1 (cT T N) (wT T N) 8 k lv) := c_sumR (Or.inr ⟨rfl, rfl⟩) (Int.le_refl 0) 8 64 (by decide) (by decide) k lv g G l0 l1 rm
  unfold f_X25_act_47 pAct3
  rw [f_dp iT.1 (by decide), if_pos rfl, must_ok (by decide), tc_r, f_dp iT.1 (by decide), if_pos rfl]
  cases hP : pS 1 (cT T N) (wT T N) 8 k lv with
  | inl t =>
    rw [hP] at bs
    obtain ⟨r, b1, b2⟩ := bs
    rw [b1, tc_l]
    exact ⟨r, rfl, b2⟩
  | inr vv =>
    obtain ⟨j1, lv1, F1⟩ := vv
    rw [hP] at bs
    obtain ⟨s1, g1, b1, b2, b3, b4, b5, b6, b7, b8⟩ := bs
    have cs := c_behind (j := 24) (by decide) b4 (by omega) b3.2 (by unfold RmR; omega)
    rw [Int.toNat_of_nonneg b2, show tc 24 = 27 from rfl] at cs
    have iT1 := b4.1.2.2.2.2.2.2.2.2.2
    rw [b1, tc_r]
    unfold ax_cst
    dsimp only
    rw [Option.bind_some, f_dp iT1.1 (by decide), if_pos rfl]
    cases hQ : (if cT T N j1 = 27 then pS 1 (cT T N) (wT T N) 8 (j1 + 1) lv1 else (.inl j1 : PR Dn)) with
    | inl t =>
      rw [hQ] at cs
      obtain ⟨r, d1, d2⟩ := cs
      rw [d1, tc_l]
      exact ⟨r, rfl, d2.of b5 (Int.le_refl _) (by omega) (by omega)⟩
    | inr vv =>
      obtain ⟨j2, lv2, F2⟩ := vv
      rw [hQ] at cs
      obtain ⟨s2, g2, d1, d2, d3, d4, d5, d6, d7, d8⟩ := cs
      have ds := c_behind (j := 25) (by decide) d4 (by omega) d3.2 (by unfold RmR; omega)
      rw [Int.toNat_of_nonneg d2, show tc 25 = 28 from rfl] at ds
      have iT2 := d4.1.2.2.2.2.2.2.2.2.2
      have R2 : RdR i p 0 g g2 := b5.trans d5 (Int.le_refl _)
      rw [d1, tc_r]
      dsimp only
      rw [Option.bind_some, f_dp iT2.1 (by decide), if_pos rfl]
      cases hS : (if cT T N j2 = 28 then pS 1 (cT T N) (wT T N) 8 (j2 + 1) lv2 else (.inl j2 : PR Dn)) with
      | inl t =>
        rw [hS] at ds
        obtain ⟨r, f1, f2⟩ := ds
        rw [f1, tc_l]
        exact ⟨r, rfl, f2.of R2 (Int.le_refl _) (by omega) (by omega)⟩
      | inr vv =>
        obtain ⟨j3, lv3, F3⟩ := vv
        rw [hS] at ds
        obtain ⟨s3, g3, f1, f2, f3, f4, f5, f6, f7, f8⟩ := ds
        have R3 : RdR i p 0 g g3 := R2.trans f5 (Int.le_refl _)
        rw [f1, tc_r]
        dsimp only
        have y1 := b5.1
        have y2 := d5.1
        have y3 := f5.1
        have hp3 := f4.1.2.1
        have fin : ∀ tg : Nat, (tg = 23 ∨ tg = 24) → tg = (if hd = 24 then 23 else 24) → ∃ g', ((ax_nw E g3 tg 0 9).bind fun q11 => (ax_gR E q11.2 (some i) 25 9).bind fun v12 => (some q11.1).bind fun _ => (if tg = 23 then f_X23_init E (some q11.1) v12 (some s1) (some s2) (some s3) q11.2 else f_X24_init E (some q11.1) v12 (some s1) (some s2) (some s3) q11.2).bind fun h13 => some (Sum.inr ((some q11.1), h13) : (Nat × ax_H) ⊕ (Option Nat × ax_H))) = some (.inr (some g3.1, g')) ∧ RdC E T N x i p w 25 j3.toNat lv3 0 0 g' ∧ RdR i p 0 g g' ∧ (g.1 ≤ g3.1 ∧ g3.1 < g'.1) ∧ OdA (fun a => RnF g.1 g'.1 a ∧ a ≠ g3.1) g' x g3.1 hd (F1, F2, F3) 1 ∧ (g'.1 : Int) ≤ g.1 + 8 * (lv3 - lv) + 1 ∧ (g'.2.1 : Int) ≤ g.2.1 + 8 * (lv3 - lv) + 9 := by
          intro tg htg eg
          obtain ⟨ga, ea⟩ : ∃ ga, ga = nwH g3 tg 0 9 := ⟨_, rfl⟩
          have sa : ga.1 = g3.1 + 1 ∧ ga.2.1 = g3.2.1 + 9 := by rw [ea]; exact ⟨rfl, rfl⟩
          have ca : ∀ a, a ≠ g3.1 → ga.2.2 a = g3.2.2 a := fun a ha => by rw [ea]; exact hC_nw_ne ha
          have ta : hT ga g3.1 = tg := by rw [ea]; exact hT_nw_eq
          have Ga : RdC E T N x i p w 25 j3.toNat lv3 0 0 ga := RdG.oth f4 (by omega) (fun c hc => ca c (by omega))
          have iTa := Ga.1.2.2.2.2.2.2.2.2.2
          obtain ⟨gb, x1, ⟨x2, x3, x4, x5, x6, x7, x8, x9⟩, x10, x11, x12⟩ := c_i23 (E := E) (x := x) (a := some s1) (b := some s2) (c := some s3) htg ta
          have cb : ∀ a, a ≠ g3.1 → gb.2.2 a = g3.2.2 a := fun a ha => (x10 a ha).trans (ca a ha)
          refine ⟨gb, ?_, RdG.oth f4 (by omega) (fun c hc => cb c (by omega)), R3.oth (by omega) (by omega) (by omega) (fun c hc => cb c (by omega)), ⟨by omega, by omega⟩, Or.inr ⟨by rcases hv with z | z <;> omega, x2.trans eg, x6, x7, x8, x9, s1, s2, s3, x3, x4, x5, ?_, ?_, ?_⟩, by omega, by omega⟩
          · rw [f_nw (by omega) (by omega), Option.bind_some, ← ea]
            dsimp only
            rw [f_gR iTa.1 (by decide), Option.bind_some, iTa.2.2.2.2.1 rfl, Option.bind_some, x1, Option.bind_some]
          · refine SumN.up _ 50 _ _ (by omega) (SumN.fr (fun a ha => ⟨⟨⟨ha.1, by have := ha.2; omega⟩, by have := ha.2; omega⟩, eqT.of ?_⟩) _ _ _ b6)
            have a1 := ha.1
            have a2 := ha.2
            rw [cb a (by omega), f5.2.2.1 a (by omega) (by omega) (by omega), d5.2.2.1 a (by omega) (by omega) (by omega)]
          · refine SumN.up _ 50 _ _ (by omega) (SumN.fr (fun a ha => ⟨⟨⟨by have := ha.1; omega, by have := ha.2; omega⟩, by have := ha.2; omega⟩, eqT.of ?_⟩) _ _ _ d6)
            have a1 := ha.1
            have a2 := ha.2
            rw [cb a (by omega), f5.2.2.1 a (by omega) (by omega) (by omega)]
          · refine SumN.up _ 50 _ _ (by omega) (SumN.fr (fun a ha => ⟨⟨⟨by have := ha.1; omega, by have := ha.2; omega⟩, by have := ha.2; omega⟩, eqT.of ?_⟩) _ _ _ f6)
            have a1 := ha.1
            have a2 := ha.2
            rw [cb a (by omega)]
        rcases hv with ⟨v1, v2⟩ | ⟨v1, v2⟩
        · obtain ⟨g', z1, z2, z3, z4, z5, z6, z7⟩ := fin 23 (Or.inl rfl) (by rw [if_pos v1])
          rw [v2, if_neg (by decide)]
          exact ⟨g3.1, g', z1, f2, ⟨by omega, by omega⟩, z2, z3, z4, z5, z6, z7⟩
        · obtain ⟨g', z1, z2, z3, z4, z5, z6, z7⟩ := fin 24 (Or.inr rfl) (by rw [if_neg (by omega)])
          rw [v2, if_pos (by decide)]
          exact ⟨g3.1, g', z1, f2, ⟨by omega, by omega⟩, z2, z3, z4, z5, z6, z7⟩
/-- an act -/
theorem c_act (G : RdC E T N x i p w 25 k lv 0 0 g) (l0 : 0 ≤ lv) (l1 : lv ≤ 50) (rm : RmR E g lv) : RsO E T N x i p w g lv (cT T N k) (f_X25_act E (some i) g) (pAct (cT T N) (wT T N) k lv) := by
  have iT := G.1.2.2.2.2.2.2.2.2.2
  have hp := G.1.2.1
  have rm' := rm
  unfold RmR at rm'
  have ac : ∀ {X : Nat} {y : Int × ax_H}, f_X6_accept E (some i) (some (E.2.2 X)) g = some y → (ax_dp E g (some i) fun t => if t = 25 then f_X6_accept E (some i) (some (E.2.2 X)) g else none) = some y := fun e => by rw [f_dp iT.1 (by decide), if_pos rfl, e]
  unfold f_X25_act ax_cst
  rw [pAct_3, Option.bind_some]
  by_cases c26 : cT T N k = 26
  · obtain ⟨g1, x1, G1, N1⟩ := c_nxt G
    have q1 := N1.2.1
    have q2 := N1.2.2
    have hp1 := G1.1.2.1
    rw [ac (acc_yes (j := 21) G (by decide) c26 x1), Option.bind_some]
    dsimp only
    rw [if_neg (by decide), if_neg (by omega), if_pos c26]
    obtain ⟨ga, ea⟩ : ∃ ga, ga = nwH g1 21 0 5 := ⟨_, rfl⟩
    have sa : ga.1 = g1.1 + 1 ∧ ga.2.1 = g1.2.1 + 5 := by rw [ea]; exact ⟨rfl, rfl⟩
    have ca : ∀ a, a ≠ g1.1 → ga.2.2 a = g1.2.2 a := fun a ha => by rw [ea]; exact hC_nw_ne ha
    have ta : hT ga g1.1 = 21 := by rw [ea]; exact hT_nw_eq
    have Ga : RdC E T N x i p w 25 (k + 1) lv 0 0 ga := RdG.oth G1 (by omega) (fun c hc => ca c (by omega))
    have iTa := Ga.1.2.2.2.2.2.2.2.2.2
    obtain ⟨gb, y1, ⟨y2, y3, y4, y5⟩, y6, y7, y8⟩ := c_i21 (E := E) (x := x) ta
    have cb : ∀ a, a ≠ g1.1 → gb.2.2 a = g1.2.2 a := fun a ha => (y6 a ha).trans (ca a ha)
    refine ⟨g1.1, gb, ?_, by omega, ⟨Int.le_refl _, l1⟩, ?_, N1.1.oth (by omega) (by omega) (by omega) (fun c hc => cb c (by omega)), ⟨by omega, by omega⟩, Or.inl ⟨c26, rfl, y2, y3, y4, y5⟩, by omega, by omega⟩
    · rw [f_nw (by omega) (by omega), Option.bind_some, ← ea]
      dsimp only
      rw [f_gR iTa.1 (by decide), Option.bind_some, iTa.2.2.2.2.1 rfl, Option.bind_some, y1, Option.bind_some]
    · rw [show ((k : Int) + 1).toNat = k + 1 by omega]
      exact RdG.oth G1 (by omega) (fun c hc => cb c (by omega))
  · rw [ac (acc_no (j := 21) G (by decide) c26), Option.bind_some]
    dsimp only
    rw [if_pos (by decide), Option.bind_some]
    by_cases c24 : cT T N k = 24
    · obtain ⟨g1, x1, G1, N1⟩ := c_nxt G
      have q1 := N1.2.1
      have q2 := N1.2.2
      have z := c_act47 (hd := cT T N k) (v := 1) (Or.inl ⟨c24, rfl⟩) G1 l0 l1 (by unfold RmR; omega)
      rw [ac (acc_yes (j := 22) G (by decide) c24 x1), Option.bind_some]
      dsimp only
      rw [if_neg (by decide), if_pos (Or.inl c24)]
      unfold f_X25_act_42
      rw [show ((k + 1 : Nat) : Int) = (k : Int) + 1 by omega] at z
      cases hA : pAct3 (cT T N) (wT T N) ((k : Int) + 1) lv with
      | inl t =>
        rw [hA] at z
        obtain ⟨r, z1, z2⟩ := z
        exact ⟨r, z1, z2.of N1.1 (Int.le_refl _) (by omega) (by omega)⟩
      | inr vv =>
        obtain ⟨j, lv', S⟩ := vv
        rw [hA] at z
        obtain ⟨u, g', z1, z2, z3, z4, z5, z6, z7, z8, z9⟩ := z
        rw [q1] at z6 z7
        exact ⟨u, g', z1, z2, z3, z4, N1.1.trans z5 (Int.le_refl _), z6, z7, by omega, by omega⟩
    · rw [ac (acc_no (j := 22) G (by decide) c24), Option.bind_some]
      dsimp only
      rw [if_pos (by decide), Option.bind_some]
      by_cases c25 : cT T N k = 25
      · obtain ⟨g1, x1, G1, N1⟩ := c_nxt G
        have q1 := N1.2.1
        have q2 := N1.2.2
        have z := c_act47 (hd := cT T N k) (v := 0) (Or.inr ⟨c25, rfl⟩) G1 l0 l1 (by unfold RmR; omega)
        rw [ac (acc_yes (j := 23) G (by decide) c25 x1), Option.bind_some]
        dsimp only
        rw [if_neg (by decide), if_pos (Or.inr c25)]
        unfold f_X25_act_42
        rw [show ((k + 1 : Nat) : Int) = (k : Int) + 1 by omega] at z
        cases hA : pAct3 (cT T N) (wT T N) ((k : Int) + 1) lv with
        | inl t =>
          rw [hA] at z
          obtain ⟨r, z1, z2⟩ := z
          exact ⟨r, z1, z2.of N1.1 (Int.le_refl _) (by omega) (by omega)⟩
        | inr vv =>
          obtain ⟨j, lv', S⟩ := vv
          rw [hA] at z
          obtain ⟨u, g', z1, z2, z3, z4, z5, z6, z7, z8, z9⟩ := z
          rw [q1] at z6 z7
          exact ⟨u, g', z1, z2, z3, z4, N1.1.trans z5 (Int.le_refl _), z6, z7, by omega, by omega⟩
      · rw [ac (acc_no (j := 23) G (by decide) c25), Option.bind_some]
        dsimp only
        obtain ⟨r, m1, m2⟩ := must_no (v := 0) G (by decide) (by omega) (by omega)
        rw [if_pos (by decide), if_neg (by omega), if_neg c26]
        unfold f_X25_act_47
        rw [f_dp iT.1 (by decide), if_pos rfl, m1, tc_l]
        exact ⟨r, rfl, m2.of (RdR.refl _ _ _ _) (Int.le_refl _) (by omega) (by omega)⟩
end
