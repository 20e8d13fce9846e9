/-! The component's reader of orders: an order -/
set_option maxRecDepth 100000
/-- the row of a reader of orders -/
def RdKo (i p w : Nat) (g : ax_H) : Prop := (w = i + 1 ∧ p = i + 2 ∧ i + 3 < g.1) ∧ hT g (i + 3) = 110 ∧ hL g (i + 3) = 12
theorem RdKo.keep {i p w : Nat} {g g' : ax_H} (K : RdKo i p w g) (R : g.1 ≤ g'.1) (h : hT g' (i + 3) = hT g (i + 3) ∧ hL g' (i + 3) = hL g (i + 3)) : RdKo i p w g' := ⟨⟨K.1.1, K.1.2.1, by have := K.1.2.2; omega⟩, h.1.trans K.2.1, h.2.trans K.2.2⟩
theorem RdKo.r {i p w : Nat} {pl : Int} {g g' : ax_H} (K : RdKo i p w g) (R : RdR i p pl g g') : RdKo i p w g' := by
  have q := K.1
  obtain ⟨a, b, c, d⟩ := ceq (R.2.2.1 (i + 3) (by omega) (by omega) (by omega))
  exact K.keep R.1 ⟨a, b⟩
/-- an order read, into the row -/
def RsCo (E : ax_E) (T : Rw) (N x i p w : Nat) (c : Nat) (g : ax_H) (lv : Int) (res : Option ((Nat × ax_H) ⊕ ax_H)) : PR Od → Prop
  | .inl t => ∃ r, res = some (.inl r) ∧ RdW T N i p 0 g t (16 * (51 - lv) + 1) (32 * (51 - lv) + 9) r
  | .inr (j, lv', C) => ∃ u g', res = some (.inr g') ∧ 0 ≤ j ∧ (lv ≤ lv' ∧ lv' ≤ 50) ∧ RdC E T N x i p w 25 j.toNat lv' 0 0 g' ∧ RdL i p g g' ∧ (hT g' (i + 3) = hT g (i + 3) ∧ hL g' (i + 3) = hL g (i + 3)) ∧ (hR g' (i + 3) c = some u ∧ ∀ q, q ≠ c → hR g' (i + 3) q = hR g (i + 3) q) ∧ (g.1 ≤ u ∧ u < g'.1) ∧ OdN (fun a => RnF g.1 g'.1 a ∧ a ≠ u) g' x u C ∧ (g'.1 : Int) ≤ g.1 + 16 * (lv' - lv) + 1 ∧ (g'.2.1 : Int) ≤ g.2.1 + 32 * (lv' - lv) + 9
section
variable {E : ax_E} {T : Rw} {N x i p w k c u : Nat} {lv lv0 hd n : Int} {g gS : ax_H} {S : Dn × Dn × Dn} {FT : Dt}
/-- an order's test is told, and it is put into the row -/
theorem c_od58 {Fz : Nat → Prop} {t0 : Option Nat} (G : RdC E T N x i p w 25 k lv 0 0 g) (K : RdKo i p w g) (hc : c < 12) (hq : x + 116 ≤ u ∧ u ≠ i ∧ u ≠ p ∧ u ≠ w ∧ u ≠ i + 3 ∧ u < g.1) (A : OdA Fz g x u hd S n) (hF : ∀ a, Fz a → a ≠ u ∧ a ≠ i + 3) (hn : 1 ≤ n ∧ n ≤ 20) (ht : (t0 = none ∧ FT = fun _ => some true) ∨ ∃ t, t0 = some t ∧ TestN 1 Fz g x 28 t FT) : ∃ g', f_X25_read_58 E (some i) c (some u) (some u) t0 g = some (.inr g') ∧ RdC E T N x i p w 25 k lv 0 0 g' ∧ (∀ a, a ≠ u → a ≠ i + 3 → g'.2.2 a = g.2.2 a) ∧ (hT g' (i + 3) = hT g (i + 3) ∧ hL g' (i + 3) = hL g (i + 3)) ∧ (hR g' (i + 3) c = some u ∧ ∀ j, j ≠ c → hR g' (i + 3) j = hR g (i + 3) j) ∧ OdN Fz g' x u (hd, S, n, FT) ∧ g'.1 = g.1 ∧ g'.2.1 = g.2.1 := by
  obtain ⟨⟨k1, k2, k3⟩, k4, k5⟩ := K
  have tg := A.tag
  obtain ⟨tt, et⟩ : ∃ tt, tt = hT g u := ⟨_, rfl⟩
  have t21 : tt = 21 ∨ tt = 23 ∨ tt = 24 := by omega
  obtain ⟨kk, ek⟩ : ∃ kk, kk = (if tt = 21 then 0 else 4) := ⟨_, rfl⟩
  obtain ⟨h1, e1⟩ : ∃ h1, h1 = wR g u kk t0 := ⟨_, rfl⟩
  have c1 : ∀ a, a ≠ u → h1.2.2 a = g.2.2 a := fun a ha => by rw [e1]; exact hC_wR_ne ha
  have G1 : RdC E T N x i p w 25 k lv 0 0 h1 := RdG.oth G (by rw [e1]; exact Nat.le_refl _) (fun a ha => c1 a (by omega))
  have iT1 := G1.1.2.2.2.2.2.2.2.2.2
  have r3 := ceq (c1 (i + 3) (by omega))
  obtain ⟨h2, e2⟩ : ∃ h2, h2 = wR h1 (i + 3) c (some u) := ⟨_, rfl⟩
  have c2 : ∀ a, a ≠ u → a ≠ i + 3 → h2.2.2 a = g.2.2 a := fun a ha hb => by rw [e2, hC_wR_ne hb]; exact c1 a ha
  have u2 := ceq (show h2.2.2 u = h1.2.2 u by rw [e2]; exact hC_wR_ne (by omega))
  have s2 : h2.1 = g.1 ∧ h2.2.1 = g.2.1 := by rw [e2, e1]; exact ⟨rfl, rfl⟩
  have uT : hT h2 u = tt := by rw [u2.1, e1, hT_wR, et]
  have uI : ∀ j, hI h2 u j = hI g u j := fun j => by rw [u2.2.2.1, e1, hI_wR]
  have uR : ∀ j, j ≠ kk → hR h2 u j = hR g u j := fun j hj => by rw [u2.2.2.2, e1, hR_wR_ne (Or.inr hj)]
  have uK : hR h2 u kk = t0 := by rw [u2.2.2.2, e1]; exact hR_wR_eq
  have hp := G.1.2.1
  have fr : ∀ a, Fz a → Fz a ∧ eqT (hC g a) (hC h2 a) := fun a ha => ⟨ha, eqT.of (c2 a (hF a ha).1 (hF a ha).2)⟩
  have tst : (t0 = none ∧ FT = fun _ => some true) ∨ ∃ t, t0 = some t ∧ TestN 1 Fz h2 x 28 t FT := by
    rcases ht with z | ⟨t, z1, z2⟩
    · exact Or.inl z
    · exact Or.inr ⟨t, z1, z2.fr fr⟩
  refine ⟨h2, ?_, RdG.oth G (by omega) (fun a ha => c2 a (by omega) (by omega)), c2, ⟨by rw [e2, hT_wR, r3.1], by rw [e2, hL_wR, r3.2.1]⟩, ⟨by rw [e2]; exact hR_wR_eq, fun j hj => by rw [e2, hR_wR_ne (Or.inr hj), r3.2.2.2]⟩, ⟨hn, ?_⟩, s2.1, s2.2⟩
  · unfold f_X25_read_58
    rw [f_pRs et.symm (by omega) (lk3 t21 0 4), ← ek, Option.bind_some, ← e1, f_gR iT1.1 (by decide), Option.bind_some, iT1.2.2.2.2.2.1, f_stR (r3.1.trans k4) (by decide) (by omega) (by rw [r3.2.1, k5]; omega) (by rw [r3.2.1, k5]; decide) (by rw [e1, hT_wR]; omega) (by rw [e1, hT_wR, ← et]; rcases t21 with z | z | z <;> rw [z] <;> decide), Option.bind_some, Int.toNat_natCast, ← e2]
  · rcases A with ⟨a1, a0, a2, a3, a4, a5⟩ | ⟨a1, a2, a3, a4, a5, a6, s1, s2', s3, a7, a8, a9, b1, b2, b3⟩
    · have k0 : kk = 0 := by rw [ek, if_pos (by omega)]
      refine Or.inl ⟨a1, a0, by rw [uT]; omega, by rw [uR 3 (by omega)]; exact a3, by rw [uR 4 (by omega)]; exact a4, by rw [uI]; exact a5, ?_⟩
      rw [k0] at uK
      rw [uK]
      exact tst
    · have n21 : ¬ tt = 21 := by
        rw [et, a2]
        split <;> decide
      have k4 : kk = 4 := by rw [ek, if_neg n21]
      refine Or.inr ⟨a1, by rw [uT, et]; exact a2, by rw [uR 3 (by omega)]; exact a3, by rw [uR 7 (by omega)]; exact a4, by rw [uR 8 (by omega)]; exact a5, by rw [uI]; exact a6, ⟨s1, s2', s3, by rw [uR 0 (by omega)]; exact a7, by rw [uR 1 (by omega)]; exact a8, by rw [uR 2 (by omega)]; exact a9, b1.fr fr, b2.fr fr, b3.fr fr⟩, ?_⟩
      rw [k4] at uK
      rw [uK]
      exact tst
/-- behind how often -/
theorem c_od40 (G : RdC E T N x i p w 25 k lv 0 0 gS) (R : RdR i p 0 g gS) (K : RdKo i p w gS) (hb : i + 3 < g.1) (hc : c < 12) (hl : 0 ≤ lv0 ∧ lv0 ≤ lv ∧ lv ≤ 50) (hu : g.1 ≤ u ∧ u < gS.1) (A : OdA (fun a => RnF g.1 gS.1 a ∧ a ≠ u) gS x u hd S n) (hn : 1 ≤ n ∧ n ≤ 20) (g1 : (gS.1 : Int) ≤ g.1 + 16 * (lv - lv0) + 1) (g2 : (gS.2.1 : Int) ≤ g.2.1 + 32 * (lv - lv0) + 9) (rm1 : (g.1 : Int) + 16 * (51 - lv0) + 34 ≤ E.1.1) (rm2 : (g.2.1 : Int) + 32 * (51 - lv0) + 75 ≤ E.1.2) : RsCo E T N x i p w c g lv0 (f_X25_read_40 E (some i) c (some u) gS) (match pIf 1 (cT T N) (wT T N) k lv with | .inl t => .inl t | .inr (k2, lv2, FT) => .inr (k2, lv2, (hd, S, n, FT))) := by
  have hR1 := R.1
  have hR2 := R.2.1
  have hp := G.1.2.1
  have iT := G.1.2.2.2.2.2.2.2.2.2
  have kk := K.1
  have rS := ceq (R.2.2.1 (i + 3) (by omega) (by omega) (by omega))
  unfold f_X25_read_40 ax_cst pIf
  rw [Option.bind_some, f_dp iT.1 (by decide), if_pos rfl]
  by_cases c5 : cT T N k = 5
  · obtain ⟨h2, x1, G2, N2⟩ := c_nxt G
    have A5 : f_X6_accept E (some i) (some (E.2.2 37)) gS = some (1, h2) := acc_yes (j := 27) G (by decide) c5 x1
    have q1 := N2.2.1
    have q2 := N2.2.2
    have iT2 := G2.1.2.2.2.2.2.2.2.2.2
    have bs := c_testR (Or.inr ⟨rfl, rfl⟩) 8 64 (by decide) (by decide) (k + 1) lv 0 h2 G2 (by decide) (by omega) hl.2.2 (by unfold RmR; omega)
    rw [show ((k + 1 : Nat) : Int) = (k : Int) + 1 by omega] at bs
    rw [A5, Option.bind_some]
    dsimp only
    rw [if_neg (by decide), if_pos c5, f_dp iT2.1 (by decide), if_pos rfl]
    have bs : RsT E T N x i p w 25 1 0 0 h2 lv 28 8 (fn_X6_test E 64 (some i) h2) (pT 1 (cT T N) (wT T N) 8 ((k : Int) + 1) lv) := bs
    cases hP : pT 1 (cT T N) (wT T N) 8 ((k : Int) + 1) lv with
    | inl t =>
      rw [hP] at bs
      obtain ⟨r, b1, b2⟩ := bs
      rw [b1, tc_l]
      exact ⟨r, rfl, b2.of (R.trans N2.1 (Int.le_refl _)) (Int.le_refl _) (by omega) (by omega)⟩
    | inr vv =>
      obtain ⟨j, lv', FT⟩ := vv
      rw [hP] at bs
      obtain ⟨u2, h3, b1, b2, b3, b4, b5, b6, b7, b8⟩ := bs
      have hb5 := b5.1
      have hb6 := b5.2.1
      have c3 : ∀ a, a < gS.1 → a ≠ i → a ≠ p → h3.2.2 a = gS.2.2 a := fun a a1 a2 a3 => (b5.2.2.1 a (by omega) a2 a3).trans (N2.1.2.2.1 a a1 a2 a3)
      have K3 := (K.r N2.1).r b5
      obtain ⟨g', y1, y2, y3, y4, y5, y6, y7, y8⟩ := c_od58 (c := c) (u := u) (hd := hd) (n := n) (S := S) (FT := FT) (t0 := some u2) (Fz := fun a => RnF g.1 h3.1 a ∧ a ≠ u) b4 K3 hc ⟨by omega, by omega, by omega, by omega, by omega, by omega⟩ (A.fr (fun a ha => by
        obtain ⟨⟨a1, a2⟩, a3⟩ := ha
        exact ⟨⟨⟨a1, by omega⟩, a3⟩, eqT.of (c3 a a2 (by omega) (by omega))⟩) (c3 u hu.2 (by omega) (by omega))) (fun a ha => ⟨ha.2, by have := ha.1.1; omega⟩) hn (Or.inr ⟨u2, rfl, TestN.fr (fun a ha => by
        obtain ⟨a1, a2⟩ := ha
        exact ⟨⟨⟨by omega, a2⟩, by omega⟩, eqT.refl _⟩) _ _ _ b6⟩)
      rw [b1, tc_r]
      dsimp only
      rw [y1]
      have r3 := ceq (c3 (i + 3) (by omega) (by omega) (by omega))
      refine ⟨u, g', rfl, b2, by omega, y2, ⟨by omega, by omega, fun a a1 a2 a3 a4 => ?_⟩, ⟨y4.1.trans (r3.1.trans rS.1), y4.2.trans (r3.2.1.trans rS.2.1)⟩, ⟨y5.1, fun q hq => (y5.2 q hq).trans ((r3.2.2.2 q).trans (rS.2.2.2 q))⟩, ⟨hu.1, by omega⟩, ?_, by omega, by omega⟩
      · rw [y3 a (by omega) a4, c3 a (by omega) a2 a3]
        exact R.2.2.1 a a1 a2 a3
      · rw [y7]; exact y6
  · have A5 : f_X6_accept E (some i) (some (E.2.2 37)) gS = some (0, gS) := acc_no (j := 27) G (by decide) c5
    rw [A5, Option.bind_some]
    dsimp only
    rw [if_pos (by decide), if_neg c5]
    obtain ⟨g', y1, y2, y3, y4, y5, y6, y7, y8⟩ := c_od58 (c := c) (u := u) (hd := hd) (n := n) (S := S) (FT := fun _ => some true) (t0 := none) G K hc ⟨by omega, by omega, by omega, by omega, by omega, by omega⟩ A (fun a ha => ⟨ha.2, by have := ha.1.1; omega⟩) hn (Or.inl ⟨rfl, rfl⟩)
    rw [y1]
    refine ⟨u, g', rfl, by omega, by omega, by rw [Int.toNat_natCast]; exact y2, ⟨by omega, by omega, fun a a1 a2 a3 a4 => ?_⟩, ⟨y4.1.trans rS.1, y4.2.trans rS.2.1⟩, ⟨y5.1, fun q hq => (y5.2 q hq).trans (rS.2.2.2 q)⟩, ⟨hu.1, by omega⟩, ?_, by omega, by omega⟩
    · rw [y3 a (by omega) a4]
      exact R.2.2.1 a a1 a2 a3
    · rw [y7]; exact y6
/-- a number is nought -/
theorem nz_code (G : RdC E T N x i p w 25 k lv 0 0 g) : (decide (pos T N k < nd T N (pos T N k)) && nzB T (pos T N k) (nd T N (pos T N k) - pos T N k)) = true ↔ (cT T N k = 50 ∧ wT T N k = 0) := by
  have n4 := G.1.2.2.2.2.2.1
  have nc := num_code (k := k) n4.2 n4.1
  rw [Bool.and_eq_true, decide_eq_true_eq]
  constructor
  · rintro ⟨z1, z2⟩
    have c : pos T N k < N := by
      by_cases c : pos T N k < N
      · exact c
      · rw [show nd T N (pos T N k) = N from if_neg c] at z1
        omega
    have en : nd T N (pos T N k) = tnd T N (pos T N k) := if_pos c
    rw [en] at z1 z2
    have d0 : isDig (T (pos T N k)) = true := by
      obtain ⟨m, em⟩ : ∃ m, tnd T N (pos T N k) - pos T N k = m + 1 := ⟨tnd T N (pos T N k) - pos T N k - 1, by omega⟩
      rw [em] at z2
      have : ∀ m : Nat, nzB T (pos T N k) (m + 1) = true → T ((pos T N k : Nat) : Int) = 48 := by
        intro m
        induction m with
        | zero =>
          intro h
          unfold nzB at h
          rw [Bool.and_eq_true, decide_eq_true_eq] at h
          exact h.2
        | succ m ih =>
          intro h
          unfold nzB at h
          rw [Bool.and_eq_true] at h
          exact ih h.1
      rw [this m z2]
      decide
    obtain ⟨w1, w2⟩ := nc.2 c d0
    exact ⟨nc.1.mpr ⟨c, d0⟩, w1.trans ((nzB_v _ w2).mp z2)⟩
  · rintro ⟨z1, z2⟩
    obtain ⟨c, d0⟩ := nc.1.mp z1
    have en : nd T N (pos T N k) = tnd T N (pos T N k) := if_pos c
    have tb := tnd_b (T := T) c
    obtain ⟨w1, w2⟩ := nc.2 c d0
    rw [en]
    exact ⟨by omega, (nzB_v _ w2).mpr (w1.symm.trans z2)⟩
end
