/-! The component's reader of orders: all orders -/
set_option maxRecDepth 100000
section
variable {E : ax_E} {T : Rw} {N x i p w k c : Nat} {lv lv0 : Int} {g g0 : ax_H}
/-- the row so far -/
def RdRo (g0 g : ax_H) (x i : Nat) (L : List Od) : Prop := ∀ (j : Nat) (C : Od), L[j]? = some C → ∃ b, hR g (i + 3) j = some b ∧ (g0.1 ≤ b ∧ b < g.1) ∧ OdN (fun a => RnF g0.1 g.1 a ∧ ∀ q, q < L.length → hR g (i + 3) q ≠ some a) g x b C
/-- all clauses -/
def RsAo (E : ax_E) (T : Rw) (N x i p w : Nat) (g0 : ax_H) (L0 : List Od) (res : Option ((Nat × ax_H) ⊕ (Int × ax_H))) : Int ⊕ List Od → Prop
  | .inl t => ∃ r, res = some (.inl r) ∧ RdX T N i p g0 t 850 1900 r
  | .inr L => ∃ g', res = some (.inr (((L0 ++ L).length : Nat), g')) ∧ (L0 ++ L).length ≤ 12 ∧ RdL i p g0 g' ∧ RdF E T N x i p w 25 g' ∧ RdKo i p w g' ∧ RdRo g0 g' x i (L0 ++ L) ∧ (g'.1 : Int) ≤ g0.1 + 850 ∧ (g'.2.1 : Int) ≤ g0.2.1 + 1900
theorem c_rallO (hb : i + 3 < g0.1) (rm1 : g0.1 + 900 ≤ E.1.1) (rm2 : g0.2.1 + 2000 ≤ E.1.2) : ∀ (n k : Nat) (lv : Int) (L0 : List Od) (g : ax_H), n + L0.length = 12 → RdC E T N x i p w 25 k lv 0 0 g → RdL i p g0 g → RdKo i p w g → RdRo g0 g x i L0 → 0 ≤ lv → lv ≤ 50 → (g.1 : Int) ≤ g0.1 + 16 * lv + L0.length → (g.2.1 : Int) ≤ g0.2.1 + 32 * lv + 9 * L0.length → RsAo E T N x i p w g0 L0 (ax_iter (fun s : Int × ax_H => lb_X6_readAll_6 E (some i) s.1 s.2) ((L0.length : Int), g)) (pAll (cT T N) (toks T N) (pOrder (cT T N) (wT T N)) n k lv) := by
  intro n
  induction n with
  | zero =>
    intro k lv L0 g hn G R K Row l0 l1 s1 s2
    have iT := G.1.2.2.2.2.2.2.2.2.2
    obtain ⟨r, m1, m2⟩ := must_no (v := 0) G (by decide) (by omega) (by omega)
    refine ⟨r, it_done ?_, m2.toX R (by omega) (by omega)⟩
    dsimp only
    unfold lb_X6_readAll_6 f_X6_readAll_18
    rw [i2_of (a := (L0.length : Int)) (by omega) (by omega), show i2 12 = 12 by decide, if_neg (by omega), f_dp iT.1 (by decide), if_pos (Or.inl rfl), m1, tc_l]
  | succ n ih =>
    intro k lv L0 g hn G R K Row l0 l1 s1 s2
    have iT := G.1.2.2.2.2.2.2.2.2.2
    have n4 := G.1.2.2.2.2.2.1
    have bs := c_order (c := L0.length) G K (by omega) ⟨l0, l1⟩ (by omega) (by omega)
    have hd : lb_X6_readAll_6 E (some i) (L0.length : Int) g = ax_tc (fun z4 => some (.inr (.inl z4))) (f_X25_read E (some i) (L0.length : Int) g) fun h3 => (ax_cst E 38).bind fun v5 => (ax_dp E h3 (some i) fun t => if t = 25 ∨ t = 7 then f_X6_accept E (some i) v5 h3 else none).bind fun q6 => if i2 q6.1 = 0 then ((ax_gIs E q6.2 (some i) [(25, 0), (7, 0)]).bind fun v7 => (ax_gRs E q6.2 (some i) [(25, 7), (7, 7)]).bind fun v8 => (ax_gI E q6.2 v8 0 12).bind fun v9 => if i2 v7 = i2 v9 then f_X6_readAll_58 E ((L0.length : Int) + 1) (some i) 1 q6.2 else f_X6_readAll_58 E ((L0.length : Int) + 1) (some i) 0 q6.2).map Sum.inr else some (.inl (((L0.length : Int) + 1), q6.2)) := by
      unfold lb_X6_readAll_6 f_X6_readAll_18
      rw [i2_of (a := (L0.length : Int)) (by omega) (by omega), show i2 12 = 12 by decide, if_pos (by omega), f_dp iT.1 (by decide), if_pos (Or.inl rfl), must_ok (by decide), tc_r, f_dp iT.1 (by decide), if_pos rfl]
    unfold pAll
    cases hP : pOrder (cT T N) (wT T N) k lv with
    | inl t =>
      rw [hP] at bs
      obtain ⟨r, b1, b2⟩ := bs
      rw [b1, tc_l] at hd
      exact ⟨r, it_done hd, b2.toX R (by omega) (by omega)⟩
    | inr vv =>
      obtain ⟨j, lv', C⟩ := vv
      rw [hP] at bs
      obtain ⟨u, g1, b1, b2, b3, b4, b5, b6, ⟨b7, b8⟩, bu, b9, b10, b11⟩ := bs
      have el : (L0 ++ [C]).length = L0.length + 1 := by rw [List.length_append]; rfl
      have kk0 := K.1
      have hpos := G.1.2.1
      have ej : ((j.toNat : Nat) : Int) = j := Int.toNat_of_nonneg b2
      have K1 := K.keep b5.1 b6
      have R1 := R.trans b5
      have hb5 := b5.1
      have hR1 := R.1
      have Row1 : RdRo g0 g1 x i (L0 ++ [C]) := by
        intro q D eq
        by_cases hq : q < L0.length
        · rw [List.getElem?_append_left hq] at eq
          obtain ⟨b, w1, w0, w2⟩ := Row q D eq
          have eb := ceq (b5.2.2 b (by omega) (by omega) (by omega) (by omega))
          refine ⟨b, (b8 q (by omega)).trans w1, ⟨by omega, by omega⟩, w2.fr (fun a ha => ?_) ⟨eb.1, eb.2.2.2, fun _ => eb.2.2.1 1, fun _ => eb.2.2.1 5⟩⟩
          obtain ⟨⟨a1, a2⟩, a3⟩ := ha
          refine ⟨⟨⟨a1, by omega⟩, fun k hk e => ?_⟩, eqT.of (b5.2.2 a a2 (by omega) (by omega) (by omega))⟩
          by_cases hk2 : k = L0.length
          · rw [hk2, b7] at e
            cases e
            omega
          · rw [b8 k hk2] at e
            exact a3 k (by omega) e
        · have lq := (List.getElem?_eq_some_iff.mp eq).1
          have q0 : q = L0.length := by
            rw [List.length_append] at lq
            have : [C].length = 1 := rfl
            omega
          subst q0
          rw [List.getElem?_append_right (Nat.le_refl _), Nat.sub_self] at eq
          cases eq
          refine ⟨u, b7, ⟨by omega, bu.2⟩, b9.fr (fun a ha => ?_) ⟨rfl, fun _ => rfl, fun _ => rfl, fun _ => rfl⟩⟩
          obtain ⟨⟨a1, a2⟩, a3⟩ := ha
          refine ⟨⟨⟨by omega, a2⟩, fun k hk e => ?_⟩, eqT.refl _⟩
          by_cases hk2 : k = L0.length
          · rw [hk2, b7] at e
            cases e
            exact a3 rfl
          · rw [b8 k hk2] at e
            obtain ⟨b, w1, w0, -⟩ := Row k L0[k] (List.getElem?_eq_getElem (by omega))
            rw [w1] at e
            cases e
            omega
      rw [b1, tc_r] at hd
      unfold ax_cst at hd
      rw [Option.bind_some, b4.1.dsp] at hd
      dsimp only
      by_cases c1 : cT T N j = 159
      · obtain ⟨g2, x1, G2, N2⟩ := c_nxt b4
        have A : f_X6_accept E (some i) (some (E.2.2 38)) g1 = some (1, g2) := acc_yes (j := 28) b4 (by decide) (by rw [ej]; exact c1) x1
        rw [A, Option.bind_some] at hd
        dsimp only at hd
        rw [if_neg (by decide)] at hd
        have q1 := N2.2.1
        have q2 := N2.2.2
        have Row2 : RdRo g0 g2 x i (L0 ++ [C]) := by
          intro q D eq
          obtain ⟨b, w1, w0, w2⟩ := Row1 q D eq
          have kk := K1.1
          have er := (ceq (N2.1.2.2.1 (i + 3) (by omega) (by omega) (by omega))).2.2.2
          have eb := ceq (N2.1.2.2.1 b (by omega) (by omega) (by omega))
          refine ⟨b, (er q).trans w1, ⟨w0.1, by omega⟩, w2.fr (fun a ha => ?_) ⟨eb.1, eb.2.2.2, fun _ => eb.2.2.1 1, fun _ => eb.2.2.1 5⟩⟩
          obtain ⟨⟨a1, a2⟩, a3⟩ := ha
          exact ⟨⟨⟨a1, by omega⟩, fun k hk e => a3 k hk ((er k).symm.trans e)⟩, eqT.of (N2.1.2.2.1 a a2 (by omega) (by omega))⟩
        have z := ih (j.toNat + 1) lv' (L0 ++ [C]) g2 (by omega) G2 (R1.trans N2.1.l) (K1.r N2.1) Row2 (by omega) (by omega) (by omega) (by omega)
        rw [show ((j.toNat + 1 : Nat) : Int) = j + 1 by omega, el, show ((L0.length + 1 : Nat) : Int) = (L0.length : Int) + 1 by omega] at z
        rw [if_pos c1, it_step (body := fun s : Int × ax_H => lb_X6_readAll_6 E (some i) s.1 s.2) (s := ((L0.length : Int), g)) hd]
        cases hA : pAll (cT T N) (toks T N) (pOrder (cT T N) (wT T N)) n (j + 1) lv' with
        | inl t =>
          rw [hA] at z
          exact z
        | inr L =>
          rw [hA] at z
          have eL : L0 ++ [C] ++ L = L0 ++ C :: L := by rw [List.append_assoc]; rfl
          obtain ⟨g', z1, z2, z3, z4, z5, z6, z7⟩ := z
          rw [eL] at z1 z2 z6
          exact ⟨g', z1, z2, z3, z4, z5, z6, z7⟩
      · have A : f_X6_accept E (some i) (some (E.2.2 38)) g1 = some (0, g1) := acc_no (j := 28) b4 (by decide) (by rw [ej]; exact c1)
        rw [A, Option.bind_some] at hd
        dsimp only at hd
        have iT1 := b4.1.2.2.2.2.2.2.2.2.2
        have pt := pos_toks (T := T) (i := j.toNat) n4.1
        have pl := pos_le (T := T) (N := N) j.toNat
        rw [if_pos (by decide), b4.1.gI, Option.bind_some, b4.1.gX, Option.bind_some, b4.1.gN, Option.bind_some, b4.2.1, i2_of (a := (pos T N j.toNat : Int)) (by omega) (by omega), i2_of (a := (N : Int)) (by omega) (by omega)] at hd
        unfold f_X6_readAll_58 at hd
        rw [if_neg c1]
        by_cases c2 : j < toks T N
        · obtain ⟨r, m1, m2⟩ := must_no (v := 0) b4 (by decide) (by omega) (by omega)
          rw [if_neg (by omega), f_dp iT1.1 (by decide), if_pos (Or.inl rfl), m1, tc_l] at hd
          rw [if_pos c2]
          rw [ej] at m2
          exact ⟨r, it_done hd, m2.toX R1 (by omega) (by omega)⟩
        · rw [if_pos (by omega), f_dp iT1.1 (by decide), if_pos (Or.inl rfl), must_ok (by decide), tc_r] at hd
          rw [if_neg c2]
          refine ⟨g1, ?_, by omega, R1, b4.1, K1, Row1, by omega, by omega⟩
          rw [el, show ((L0.length + 1 : Nat) : Int) = (L0.length : Int) + 1 by omega]
          exact it_done hd
end
