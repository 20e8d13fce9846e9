/-! The component's reader: a text's clauses -/
set_option maxRecDepth 100000
/-- Wrong, somewhere in a text -/
def RdX (T : Rw) (N i p : Nat) (g : ax_H) (t : Int) (c z : Int) (r : Nat × ax_H) : Prop := hT r.2 r.1 = 8 ∧ hI r.2 r.1 6 = pos T N t.toNat ∧ RdL i p g r.2 ∧ (r.2.1 : Int) ≤ g.1 + c ∧ (r.2.2.1 : Int) ≤ g.2.1 + z
section
variable {E : ax_E} {T : Rw} {N x i p w k c : Nat} {lv lv0 : Int} {g g0 : ax_H}
theorem RdW.toX {pl : Int} {g1 : ax_H} {t c z c2 z2 : Int} {r : Nat × ax_H} (W : RdW T N i p pl g1 t c2 z2 r) (R : RdL i p g g1) (h1 : (g1.1 : Int) + c2 ≤ g.1 + c) (h2 : (g1.2.1 : Int) + z2 ≤ g.2.1 + z) : RdX T N i p g t c z r := ⟨W.1, W.2.1, R.trans W.2.2.1.l, by have := W.2.2.2.1; omega, by have := W.2.2.2.2; omega⟩
theorem c_clause (G : RdC E T N x i p w 7 k lv 0 0 g) (K : RdK E i p w g) (hc : c < 12) (hl : 0 ≤ lv ∧ lv ≤ 50) (rm1 : (g.1 : Int) + 16 * (51 - lv) + 34 ≤ E.1.1) (rm2 : (g.2.1 : Int) + 32 * (51 - lv) + 70 ≤ E.1.2) : RsC E T N x i p w c g lv (f_X7_read_2 E (some i) c g) (pClause (cT T N) (wT T N) k lv) := by
  have iT := G.1.2.2.2.2.2.2.2.2.2
  have kk := K.1
  unfold f_X7_read_2 pClause
  rw [f_gR iT.1 (by decide), Option.bind_some, iT.2.2.2.2.2.2 rfl, f_dp iT.1 (by decide), if_pos rfl, c_which (B := 10) (n := 4) G K.2.2.1 K.2.2.2.1 K.2.2.2.2 (by decide), wh_head, Option.bind_some]
  dsimp only
  by_cases ch : 1 ≤ cT T N k ∧ cT T N k ≤ 4
  · obtain ⟨v, ev⟩ : ∃ v, v = cT T N k - 1 := ⟨_, rfl⟩
    obtain ⟨h1, x1, G1, N1⟩ := c_nxt G
    have q1 := N1.2.1
    have q2 := N1.2.2
    have iT1 := G1.1.2.2.2.2.2.2.2.2.2
    rw [if_pos ch, ← ev, if_neg (by rw [i2_of (a := v) (by omega) (by omega), show i2 (-1) = -1 by decide]; omega)]
    unfold f_X7_read_2_20
    rw [f_dp iT.1 (by decide), if_pos rfl, must_ok (by decide), tc_r, f_dp iT.1 (by decide), if_pos rfl, x1, Option.bind_some, i2_of (a := v) (by omega) (by omega), show i2 3 = 3 by decide]
    by_cases c4 : cT T N k = 4
    · rw [if_neg (show ¬ v < 3 by omega), if_neg (show ¬ (cT T N k = 1 ∨ cT T N k = 2 ∨ cT T N k = 3) by omega), if_pos c4]
      have z := c_cl40 (c := c) (lv0 := lv) (g := g) (s0 := none) (v := 3) (FS := fun _ => some 1) G1 N1.1 (K.r N1.1) kk.2.2 hc ⟨hl.1, Int.le_refl _, hl.2⟩ (by decide) (by omega) (by omega) rm1 rm2 (Or.inl ⟨rfl, rfl, rfl⟩)
      rw [show ((k + 1 : Nat) : Int) = (k : Int) + 1 by omega, show (3 : Int) + 1 = 4 from rfl] at z
      rw [show v = 3 by omega]
      exact z
    · rw [if_pos (show v < 3 by omega), if_pos (show cT T N k = 1 ∨ cT T N k = 2 ∨ cT T N k = 3 by omega), f_dp iT1.1 (by decide), if_pos rfl]
      have bs : RsS E T N x i p w 7 0 0 0 h1 lv (fn_X6_sum E 64 (some i) h1) (pS 0 (cT T N) (wT T N) 8 (k + 1 : Nat) lv) := c_sumR (Or.inl ⟨rfl, rfl⟩) (Int.le_refl 0) 8 64 (by decide) (by decide) (k + 1) lv h1 G1 hl.1 hl.2 (by unfold RmR; omega)
      rw [show ((k + 1 : Nat) : Int) = (k : Int) + 1 by omega] at bs
      cases hP : pS 0 (cT T N) (wT T N) 8 ((k : Int) + 1) lv with
      | inl t =>
        rw [hP] at bs
        obtain ⟨r, b1, b2⟩ := bs
        rw [b1, tc_l]
        exact ⟨r, rfl, b2.of N1.1 (Int.le_refl _) (by omega) (by omega)⟩
      | inr vv =>
        obtain ⟨j, lv', F'⟩ := vv
        rw [hP] at bs
        obtain ⟨u, h3, b1, b2, b3, b4, b5, b6, b7, b8⟩ := bs
        rw [b1, tc_r]
        dsimp only
        have z := c_cl40 (c := c) (lv0 := lv) (g := g) (s0 := some u) (v := v) (FS := F') b4 (N1.1.trans b5 (Int.le_refl _)) ((K.r N1.1).r b5) kk.2.2 hc ⟨hl.1, by omega, by omega⟩ ⟨by omega, by omega⟩ (by omega) (by omega) rm1 rm2 (Or.inr ⟨by omega, u, rfl, (b6.rd (by omega) (Nat.le_refl _) (fun _ _ _ => rfl)).up _ 50 _ _ (by omega)⟩)
        rw [Int.toNat_of_nonneg b2, show v + 1 = cT T N k by omega] at z
        exact z
  · obtain ⟨r, m1, m2⟩ := must_no (v := 0) G (by decide) (by omega) (by omega)
    rw [if_neg ch, if_pos rfl, if_neg (show ¬ (cT T N k = 1 ∨ cT T N k = 2 ∨ cT T N k = 3) by omega), if_neg (show ¬ cT T N k = 4 by omega)]
    unfold f_X7_read_2_20
    rw [f_dp iT.1 (by decide), if_pos rfl, m1, tc_l]
    exact ⟨r, rfl, m2.of (RdR.refl _ _ _ _) (Int.le_refl _) (by omega) (by omega)⟩
/-- the row so far -/
def RdRow (g0 g : ax_H) (x i : Nat) (L : List Cl) : Prop := ∀ (j : Nat) (C : Cl), L[j]? = some C → ∃ b, hR g (i + 3) j = some b ∧ ClN (RnF g0.1 g.1) g x b C
/-- all clauses -/
def RsA (E : ax_E) (T : Rw) (N x i p w : Nat) (g0 : ax_H) (L0 : List Cl) (res : Option ((Nat × ax_H) ⊕ (Int × ax_H))) : Int ⊕ List Cl → Prop
  | .inl t => ∃ r, res = some (.inl r) ∧ RdX T N i p g0 t 850 1800 r
  | .inr L => ∃ g', res = some (.inr (((L0 ++ L).length : Nat), g')) ∧ (L0 ++ L).length ≤ 12 ∧ RdL i p g0 g' ∧ RdF E T N x i p w 7 g' ∧ RdK E i p w g' ∧ RdRow g0 g' x i (L0 ++ L) ∧ (g'.1 : Int) ≤ g0.1 + 850 ∧ (g'.2.1 : Int) ≤ g0.2.1 + 1800
theorem c_rall (hb : i + 4 < g0.1) (rm1 : g0.1 + 900 ≤ E.1.1) (rm2 : g0.2.1 + 2000 ≤ E.1.2) : ∀ (n k : Nat) (lv : Int) (L0 : List Cl) (g : ax_H), n + L0.length = 12 → RdC E T N x i p w 7 k lv 0 0 g → RdL i p g0 g → RdK E i p w g → RdRow g0 g x i L0 → 0 ≤ lv → lv ≤ 50 → (g.1 : Int) ≤ g0.1 + 16 * lv + L0.length → (g.2.1 : Int) ≤ g0.2.1 + 32 * lv + 4 * L0.length → RsA E T N x i p w g0 L0 (ax_iter (fun s : Int × ax_H => lb_X6_readAll_6 E (some i) s.1 s.2) ((L0.length : Int), g)) (pAll (cT T N) (toks T N) (pClause (cT T N) (wT T N)) n k lv) := by
  intro n
  induction n with
  | zero =>
    intro k lv L0 g hn G R K Row l0 l1 s1 s2
    have iT := G.1.2.2.2.2.2.2.2.2.2
    obtain ⟨r, m1, m2⟩ := must_no (v := 0) G (by decide) (by omega) (by omega)
    refine ⟨r, it_done ?_, m2.toX R (by omega) (by omega)⟩
    dsimp only
    unfold lb_X6_readAll_6 f_X6_readAll_18
    rw [i2_of (a := (L0.length : Int)) (by omega) (by omega), show i2 12 = 12 by decide, if_neg (by omega), f_dp iT.1 (by decide), if_pos (Or.inr rfl), m1, tc_l]
  | succ n ih =>
    intro k lv L0 g hn G R K Row l0 l1 s1 s2
    have iT := G.1.2.2.2.2.2.2.2.2.2
    have n4 := G.1.2.2.2.2.2.1
    have bs := c_clause (c := L0.length) G K (by omega) ⟨l0, l1⟩ (by omega) (by omega)
    have hd : lb_X6_readAll_6 E (some i) (L0.length : Int) g = ax_tc (fun z4 => some (.inr (.inl z4))) (f_X7_read_2 E (some i) (L0.length : Int) g) fun h3 => (ax_cst E 38).bind fun v5 => (ax_dp E h3 (some i) fun t => if t = 25 ∨ t = 7 then f_X6_accept E (some i) v5 h3 else none).bind fun q6 => if i2 q6.1 = 0 then ((ax_gIs E q6.2 (some i) [(25, 0), (7, 0)]).bind fun v7 => (ax_gRs E q6.2 (some i) [(25, 7), (7, 7)]).bind fun v8 => (ax_gI E q6.2 v8 0 12).bind fun v9 => if i2 v7 = i2 v9 then f_X6_readAll_58 E ((L0.length : Int) + 1) (some i) 1 q6.2 else f_X6_readAll_58 E ((L0.length : Int) + 1) (some i) 0 q6.2).map Sum.inr else some (.inl (((L0.length : Int) + 1), q6.2)) := by
      unfold lb_X6_readAll_6 f_X6_readAll_18
      rw [i2_of (a := (L0.length : Int)) (by omega) (by omega), show i2 12 = 12 by decide, if_pos (by omega), f_dp iT.1 (by decide), if_pos (Or.inr rfl), must_ok (by decide), tc_r, f_dp iT.1 (by decide), if_neg (by decide), if_pos rfl]
    unfold pAll
    cases hP : pClause (cT T N) (wT T N) k lv with
    | inl t =>
      rw [hP] at bs
      obtain ⟨r, b1, b2⟩ := bs
      rw [b1, tc_l] at hd
      exact ⟨r, it_done hd, b2.toX R (by omega) (by omega)⟩
    | inr vv =>
      obtain ⟨j, lv', C⟩ := vv
      rw [hP] at bs
      obtain ⟨u, g1, b1, b2, b3, b4, b5, b6, ⟨b7, b8⟩, b9, b10, b11⟩ := bs
      have ej : ((j.toNat : Nat) : Int) = j := Int.toNat_of_nonneg b2
      have K1 := K.keep b5 b6
      have R1 := R.trans b5
      have hb5 := b5.1
      have hR1 := R.1
      have Row1 : RdRow g0 g1 x i (L0 ++ [C]) := by
        intro q D eq
        by_cases hq : q < L0.length
        · rw [List.getElem?_append_left hq] at eq
          obtain ⟨b, w1, w2⟩ := Row q D eq
          exact ⟨b, (b8 q (by omega)).trans w1, w2.fr (fun a ha => ⟨⟨ha.1, by have := ha.2; omega⟩, eqT.of (b5.2.2 a ha.2 (by have := ha.1; omega) (by have := ha.1; have := K.1; omega) (by have := ha.1; omega))⟩)⟩
        · have lq := (List.getElem?_eq_some_iff.mp eq).1
          have q0 : q = L0.length := by
            rw [List.length_append] at lq
            have : [C].length = 1 := rfl
            omega
          subst q0
          rw [List.getElem?_append_right (Nat.le_refl _), Nat.sub_self] at eq
          cases eq
          exact ⟨u, b7, b9.fr (fun a ha => ⟨⟨by have := ha.1; omega, ha.2⟩, eqT.refl _⟩)⟩
      have el : (L0 ++ [C]).length = L0.length + 1 := by rw [List.length_append]; rfl
      rw [b1, tc_r] at hd
      unfold ax_cst at hd
      rw [Option.bind_some, b4.1.dsp] at hd
      dsimp only
      by_cases c1 : cT T N j = 159
      · obtain ⟨g2, x1, G2, N2⟩ := c_nxt b4
        have A : f_X6_accept E (some i) (some (E.2.2 38)) g1 = some (1, g2) := acc_yes (j := 28) b4 (by decide) (by rw [ej]; exact c1) x1
        rw [A, Option.bind_some] at hd
        dsimp only at hd
        rw [if_neg (by decide)] at hd
        have q1 := N2.2.1
        have q2 := N2.2.2
        have Row2 : RdRow g0 g2 x i (L0 ++ [C]) := by
          intro q D eq
          obtain ⟨b, w1, w2⟩ := Row1 q D eq
          have kk := K1.1
          exact ⟨b, ((ceq (N2.1.2.2.1 (i + 3) (by omega) (by omega) (by omega))).2.2.2 q).trans w1, w2.fr (fun a ha => ⟨⟨ha.1, by have := ha.2; omega⟩, eqT.of (N2.1.2.2.1 a ha.2 (by have := ha.1; omega) (by have := ha.1; omega))⟩)⟩
        have z := ih (j.toNat + 1) lv' (L0 ++ [C]) g2 (by omega) G2 (R1.trans N2.1.l) (K1.r N2.1) Row2 (by omega) (by omega) (by omega) (by omega)
        rw [show ((j.toNat + 1 : Nat) : Int) = j + 1 by omega, el, show ((L0.length + 1 : Nat) : Int) = (L0.length : Int) + 1 by omega] at z
        rw [if_pos c1, it_step (body := fun s : Int × ax_H => lb_X6_readAll_6 E (some i) s.1 s.2) (s := ((L0.length : Int), g)) hd]
        cases hA : pAll (cT T N) (toks T N) (pClause (cT T N) (wT T N)) n (j + 1) lv' with
        | inl t =>
          rw [hA] at z
          exact z
        | inr L =>
          rw [hA] at z
          have eL : L0 ++ [C] ++ L = L0 ++ C :: L := by rw [List.append_assoc]; rfl
          obtain ⟨g', z1, z2, z3, z4, z5, z6, z7⟩ := z
          rw [eL] at z1 z2 z6
          exact ⟨g', z1, z2, z3, z4, z5, z6, z7⟩
      · have A : f_X6_accept E (some i) (some (E.2.2 38)) g1 = some (0, g1) := acc_no (j := 28) b4 (by decide) (by rw [ej]; exact c1)
        rw [A, Option.bind_some] at hd
        dsimp only at hd
        have iT1 := b4.1.2.2.2.2.2.2.2.2.2
        have pt := pos_toks (T := T) (i := j.toNat) n4.1
        have pl := pos_le (T := T) (N := N) j.toNat
        rw [if_pos (by decide), b4.1.gI, Option.bind_some, b4.1.gX, Option.bind_some, b4.1.gN, Option.bind_some, b4.2.1, i2_of (a := (pos T N j.toNat : Int)) (by omega) (by omega), i2_of (a := (N : Int)) (by omega) (by omega)] at hd
        unfold f_X6_readAll_58 at hd
        rw [if_neg c1]
        by_cases c2 : j < toks T N
        · obtain ⟨r, m1, m2⟩ := must_no (v := 0) b4 (by decide) (by omega) (by omega)
          rw [if_neg (by omega), f_dp iT1.1 (by decide), if_pos (Or.inr rfl), m1, tc_l] at hd
          rw [if_pos c2]
          rw [ej] at m2
          exact ⟨r, it_done hd, m2.toX R1 (by omega) (by omega)⟩
        · rw [if_pos (by omega), f_dp iT1.1 (by decide), if_pos (Or.inr rfl), must_ok (by decide), tc_r] at hd
          rw [if_neg c2]
          refine ⟨g1, ?_, by omega, R1, b4.1, K1, Row1, by omega, by omega⟩
          rw [el, show ((L0.length + 1 : Nat) : Int) = (L0.length : Int) + 1 by omega]
          exact it_done hd
end
