/-! The component's reader: clauses -/
set_option maxRecDepth 100000
/-- what reading a text keeps: all but the reader, its pile and its row -/
def RdL (i p : Nat) (g g' : ax_H) : Prop := g.1 ≤ g'.1 ∧ g.2.1 ≤ g'.2.1 ∧ ∀ a, a < g.1 → a ≠ i → a ≠ p → a ≠ i + 3 → g'.2.2 a = g.2.2 a
theorem RdL.refl (i p : Nat) (g : ax_H) : RdL i p g g := ⟨Nat.le_refl _, Nat.le_refl _, fun _ _ _ _ _ => rfl⟩
theorem RdL.trans {i p : Nat} {g g1 g2 : ax_H} (a : RdL i p g g1) (b : RdL i p g1 g2) : RdL i p g g2 := ⟨Nat.le_trans a.1 b.1, Nat.le_trans a.2.1 b.2.1, fun c c1 c2 c3 c4 => (b.2.2 c (Nat.lt_of_lt_of_le c1 a.1) c2 c3 c4).trans (a.2.2 c c1 c2 c3 c4)⟩
theorem RdR.l {i p : Nat} {pl : Int} {g g1 : ax_H} (a : RdR i p pl g g1) : RdL i p g g1 := ⟨a.1, a.2.1, fun c c1 c2 c3 _ => a.2.2.1 c c1 c2 c3⟩
/-- the row and the heads of a reader of laws -/
def RdK (E : ax_E) (i p w : Nat) (g : ax_H) : Prop := (w = i + 1 ∧ p = i + 2 ∧ i + 4 < g.1) ∧ (hT g (i + 3) = 106 ∧ hL g (i + 3) = 12) ∧ hT g (i + 4) = 108 ∧ hL g (i + 4) = 4 ∧ ∀ k, k < 4 → hR g (i + 4) k = some (E.2.2 (10 + (10 + k)))
theorem RdK.keep {E : ax_E} {i p w : Nat} {g g' : ax_H} (K : RdK E i p w g) (R : RdL i p g g') (h : hT g' (i + 3) = hT g (i + 3) ∧ hL g' (i + 3) = hL g (i + 3)) : RdK E i p w g' := by
  obtain ⟨⟨k1, k2, k3⟩, ⟨k4, k5⟩, k6, k7, k8⟩ := K
  obtain ⟨a, b, c, d⟩ := ceq (R.2.2 (i + 4) k3 (by omega) (by omega) (by omega))
  exact ⟨⟨k1, k2, by have := R.1; omega⟩, ⟨h.1.trans k4, h.2.trans k5⟩, a.trans k6, b.trans k7, fun k hk => (d k).trans (k8 k hk)⟩
theorem RdK.r {E : ax_E} {i p w : Nat} {pl : Int} {g g' : ax_H} (K : RdK E i p w g) (R : RdR i p pl g g') : RdK E i p w g' := by
  have q := K.1
  obtain ⟨a, b, c, d⟩ := ceq (R.2.2.1 (i + 3) (by omega) (by omega) (by omega))
  exact K.keep R.l ⟨a, b⟩
/-- a clause read, into the row -/
def RsC (E : ax_E) (T : Rw) (N x i p w : Nat) (c : Nat) (g : ax_H) (lv : Int) (res : Option ((Nat × ax_H) ⊕ ax_H)) : PR Cl → Prop
  | .inl t => ∃ r, res = some (.inl r) ∧ RdW T N i p 0 g t (16 * (51 - lv) + 1) (32 * (51 - lv) + 4) r
  | .inr (j, lv', C) => ∃ u g', res = some (.inr g') ∧ 0 ≤ j ∧ (lv ≤ lv' ∧ lv' ≤ 50) ∧ RdC E T N x i p w 7 j.toNat lv' 0 0 g' ∧ RdL i p g g' ∧ (hT g' (i + 3) = hT g (i + 3) ∧ hL g' (i + 3) = hL g (i + 3)) ∧ (hR g' (i + 3) c = some u ∧ ∀ q, q ≠ c → hR g' (i + 3) q = hR g (i + 3) q) ∧ ClN (RnF g.1 g'.1) g' x u C ∧ (g'.1 : Int) ≤ g.1 + 16 * (lv' - lv) + 1 ∧ (g'.2.1 : Int) ≤ g.2.1 + 32 * (lv' - lv) + 4
section
variable {E : ax_E} {T : Rw} {N x i p w k c : Nat} {lv lv0 : Int} {g gS : ax_H}
/-- a clause's cell is filled -/
theorem c_cl69 {q : Nat} {s0 t0 : Option Nat} {v : Int} {FS : Dn} {FT : Dt} (G : RdC E T N x i p w 7 k lv 0 0 g) (K : RdK E i p w g) (hc : c < 12) (hq : x + 116 ≤ q ∧ q ≠ i ∧ q ≠ p ∧ q ≠ w ∧ q ≠ i + 3) (e : hT g q = 15) (hv : 0 ≤ v ∧ v ≤ 3) {lo : Nat} (hlo : lo ≤ q ∧ q < g.1 ∧ i + 3 < lo)
    (hs0 : (v = 3 ∧ s0 = none ∧ FS = fun _ => some 1) ∨ (v ≠ 3 ∧ ∃ s, s0 = some s ∧ SumN 0 (fun a => RnF lo g.1 a ∧ a ≠ q) g x 50 s FS))
    (ht0 : (t0 = none ∧ FT = fun _ => some true) ∨ ∃ t, t0 = some t ∧ TestN 0 (fun a => RnF lo g.1 a ∧ a ≠ q) g x 28 t FT) : ∃ g', f_X7_read_2_69 E (some (i + 3)) c (some q) (some q) v s0 t0 g = some (.inr g') ∧ RdC E T N x i p w 7 k lv 0 0 g' ∧ (∀ a, a ≠ q → a ≠ i + 3 → g'.2.2 a = g.2.2 a) ∧ (hT g' (i + 3) = hT g (i + 3) ∧ hL g' (i + 3) = hL g (i + 3)) ∧ (hR g' (i + 3) c = some q ∧ ∀ j, j ≠ c → hR g' (i + 3) j = hR g (i + 3) j) ∧ ClN (RnF lo g.1) g' x q (v + 1, FS, FT) ∧ g'.1 = g.1 ∧ g'.2.1 = g.2.1 := by
  obtain ⟨⟨k1, k2, k3⟩, ⟨k4, k5⟩, -⟩ := K
  obtain ⟨h1, e1⟩ : ∃ h1, h1 = wI g q 0 v := ⟨_, rfl⟩
  have t1 : hT h1 q = 15 := by rw [e1, hT_wI]; exact e
  obtain ⟨h2, e2⟩ : ∃ h2, h2 = wR h1 q 1 s0 := ⟨_, rfl⟩
  have t2 : hT h2 q = 15 := by rw [e2, hT_wR]; exact t1
  obtain ⟨h3, e3⟩ : ∃ h3, h3 = wR h2 q 2 t0 := ⟨_, rfl⟩
  have t3 : hT h3 q = 15 := by rw [e3, hT_wR]; exact t2
  have c3 : ∀ a, a ≠ q → h3.2.2 a = g.2.2 a := fun a ha => by rw [e3, hC_wR_ne ha, e2, hC_wR_ne ha, e1, hC_wI_ne ha]
  obtain ⟨h4, e4⟩ : ∃ h4, h4 = wR h3 (i + 3) c (some q) := ⟨_, rfl⟩
  have r3 := ceq (c3 (i + 3) (by omega))
  have c4 : ∀ a, a ≠ q → a ≠ i + 3 → h4.2.2 a = g.2.2 a := fun a ha hb => by rw [e4, hC_wR_ne hb]; exact c3 a ha
  have q4 := ceq (g := h4) (h := h3) (c := q) (by rw [e4, hC_wR_ne (by omega)])
  have s4 : h4.1 = g.1 ∧ h4.2.1 = g.2.1 := by rw [e4, e3, e2, e1]; exact ⟨rfl, rfl⟩
  have hp := G.1.2.1
  refine ⟨h4, ?_, G.oth (by omega) (fun a ha => c4 a (by omega) (by omega)), c4, ⟨by rw [e4, hT_wR, r3.1], by rw [e4, hL_wR, r3.2.1]⟩, ⟨by rw [e4]; exact hR_wR_eq, fun j hj => by rw [e4, hR_wR_ne (Or.inr hj), r3.2.2.2]⟩, ⟨⟨hlo.1, hlo.2.1⟩, q4.1.trans t3, ?_, by omega, ?_, ?_⟩, s4.1, s4.2⟩
  · unfold f_X7_read_2_69 f_X15_init
    rw [Option.bind_some, Option.bind_some, f_pI e (by decide), Option.bind_some, ← e1, f_pR t1 (by decide), Option.bind_some, ← e2, f_pR t2 (by decide), Option.bind_some, ← e3, Option.bind_some, f_stR (r3.1.trans k4) (by decide) (by omega) (by rw [r3.2.1, k5]; omega) (by rw [r3.2.1, k5]; decide) (by rw [t3]; decide) (by rw [t3]; decide), Option.bind_some, Int.toNat_natCast, ← e4]
  · rw [q4.2.2.1, e3, hI_wR, e2, hI_wR, e1, hI_wI_eq]
    show v = v + 1 - 1
    omega
  · have r1 : hR h4 q 1 = s0 := by rw [q4.2.2.2, e3, hR_wR_ne (by omega), e2]; exact hR_wR_eq
    rcases hs0 with ⟨a1, a2, a3⟩ | ⟨a1, s, a2, a3⟩
    · exact Or.inl ⟨by show v + 1 = 4; omega, by rw [r1, a2], a3⟩
    · refine Or.inr ⟨by show v + 1 ≠ 4; omega, s, by rw [r1, a2], SumN.fr (fun a ha => ⟨ha.1, eqT.of (c4 a ha.2 (by have := ha.1.1; omega))⟩) _ _ _ a3⟩
  · have r2 : hR h4 q 2 = t0 := by rw [q4.2.2.2, e3]; exact hR_wR_eq
    rcases ht0 with ⟨a2, a3⟩ | ⟨t, a2, a3⟩
    · exact Or.inl ⟨by rw [r2, a2], a3⟩
    · exact Or.inr ⟨t, by rw [r2, a2], TestN.fr (fun a ha => ⟨ha.1, eqT.of (c4 a ha.2 (by have := ha.1.1; omega))⟩) _ _ _ a3⟩
/-- behind a clause's sum -/
theorem c_cl40 {s0 : Option Nat} {v : Int} {FS : Dn} (G : RdC E T N x i p w 7 k lv 0 0 gS) (R : RdR i p 0 g gS) (K : RdK E i p w gS) (hb : i + 4 < g.1) (hc : c < 12) (hl : 0 ≤ lv0 ∧ lv0 ≤ lv ∧ lv ≤ 50) (hv : 0 ≤ v ∧ v ≤ 3) (g1 : (gS.1 : Int) ≤ g.1 + 16 * (lv - lv0)) (g2 : (gS.2.1 : Int) ≤ g.2.1 + 32 * (lv - lv0)) (rm1 : (g.1 : Int) + 16 * (51 - lv0) + 34 ≤ E.1.1) (rm2 : (g.2.1 : Int) + 32 * (51 - lv0) + 70 ≤ E.1.2)
    (hs0 : (v = 3 ∧ s0 = none ∧ FS = fun _ => some 1) ∨ (v ≠ 3 ∧ ∃ s, s0 = some s ∧ SumN 0 (RnF g.1 gS.1) gS x 50 s FS)) : RsC E T N x i p w c g lv0 (f_X7_read_2_40 E (some i) c v s0 gS) (match pIf 0 (cT T N) (wT T N) k lv with | .inl t => .inl t | .inr (k2, lv2, FT) => .inr (k2, lv2, (v + 1, FS, FT))) := by
  have hR1 := R.1
  have hR2 := R.2.1
  have hp := G.1.2.1
  have iT := G.1.2.2.2.2.2.2.2.2.2
  obtain ⟨h1, e1⟩ : ∃ h1, h1 = nwH gS 15 0 4 := ⟨_, rfl⟩
  have n1 : RdC E T N x i p w 7 k lv 0 0 h1 ∧ RdR i p 0 gS h1 := by rw [e1]; exact RdG.nw G
  have s1 : h1.1 = gS.1 + 1 ∧ h1.2.1 = gS.2.1 + 4 := by rw [e1]; exact ⟨rfl, rfl⟩
  have c1 : ∀ a, a ≠ gS.1 → h1.2.2 a = gS.2.2 a := fun a ha => by rw [e1]; exact hC_nw_ne ha
  have t1 : hT h1 gS.1 = 15 := by rw [e1]; exact hT_nw_eq
  have K1 := K.r n1.2
  have kk := K.1
  have iT1 := n1.1.1.2.2.2.2.2.2.2.2.2
  -- the sum, seen later
  have sm : ∀ h : ax_H, h1.1 ≤ h.1 → (∀ a, a < gS.1 → a ≠ i → a ≠ p → h.2.2 a = gS.2.2 a) → (v = 3 ∧ s0 = none ∧ FS = fun _ => some 1) ∨ (v ≠ 3 ∧ ∃ s, s0 = some s ∧ SumN 0 (fun a => RnF g.1 h.1 a ∧ a ≠ gS.1) h x 50 s FS) := by
    intro h hh hk
    rcases hs0 with a | ⟨a1, s, a2, a3⟩
    · exact Or.inl a
    · exact Or.inr ⟨a1, s, a2, SumN.fr (fun a ha => ⟨⟨⟨ha.1, by have := ha.2; omega⟩, by have := ha.2; omega⟩, eqT.of (hk a ha.2 (by have := ha.1; omega) (by have := ha.1; omega))⟩) _ _ _ a3⟩
  unfold f_X7_read_2_40 ax_cst pIf
  rw [f_gR iT.1 (by decide), Option.bind_some, iT.2.2.2.2.2.1, f_nw (by omega) (by omega), Option.bind_some, ← e1]
  dsimp only
  rw [Option.bind_some, f_dp iT1.1 (by decide), if_pos rfl]
  by_cases c5 : cT T N k = 5
  · obtain ⟨h2, x1, G2, N2⟩ := c_nxt n1.1
    have A : f_X6_accept E (some i) (some (E.2.2 24)) h1 = some (1, h2) := acc_yes (j := 14) n1.1 (by decide) c5 x1
    have q1 := N2.2.1
    have q2 := N2.2.2
    have iT2 := G2.1.2.2.2.2.2.2.2.2.2
    have bs := c_testR (Or.inl ⟨rfl, rfl⟩) 8 64 (by decide) (by decide) (k + 1) lv 0 h2 G2 (by decide) (by omega) hl.2.2 (by unfold RmR; omega)
    rw [show ((k + 1 : Nat) : Int) = (k : Int) + 1 by omega] at bs
    rw [A, Option.bind_some]
    dsimp only
    rw [if_neg (by decide), if_pos c5, f_dp iT2.1 (by decide), if_pos rfl]
    have bs : RsT E T N x i p w 7 0 0 0 h2 lv 28 8 (fn_X6_test E 64 (some i) h2) (pT 0 (cT T N) (wT T N) 8 ((k : Int) + 1) lv) := bs
    cases hP : pT 0 (cT T N) (wT T N) 8 ((k : Int) + 1) lv with
    | inl t =>
      rw [hP] at bs
      obtain ⟨r, b1, b2⟩ := bs
      rw [b1, tc_l]
      exact ⟨r, rfl, b2.of ((R.trans n1.2 (Int.le_refl _)).trans N2.1 (Int.le_refl _)) (Int.le_refl _) (by omega) (by omega)⟩
    | inr vv =>
      obtain ⟨j, lv', FT⟩ := vv
      rw [hP] at bs
      obtain ⟨u, h3, b1, b2, b3, b4, b5, b6, b7, b8⟩ := bs
      have hb5 := b5.1
      have hb6 := b5.2.1
      have c3 : ∀ a, a < h1.1 → a ≠ i → a ≠ p → h3.2.2 a = h1.2.2 a := fun a a1 a2 a3 => (b5.2.2.1 a (by omega) a2 a3).trans (N2.1.2.2.1 a a1 a2 a3)
      have K3 := (K1.r N2.1).r b5
      obtain ⟨g', y1, y2, y3, y4, y5, y6, y7, y8⟩ := c_cl69 (c := c) (q := gS.1) (s0 := s0) (t0 := some u) (v := v) (FS := FS) (FT := FT) (lo := g.1) b4 K3 hc ⟨by omega, by omega, by omega, by omega, by omega⟩ (by rw [(ceq (c3 gS.1 (by omega) (by omega) (by omega))).1]; exact t1) hv ⟨by omega, by omega, by omega⟩ (sm h3 (by omega) (fun a a1 a2 a3 => (c3 a (by omega) a2 a3).trans (c1 a (by omega)))) (Or.inr ⟨u, rfl, TestN.fr (fun a ha => ⟨⟨⟨by have := ha.1; omega, ha.2⟩, by have := ha.1; omega⟩, eqT.refl _⟩) _ _ _ b6⟩)
      rw [b1, tc_r]
      dsimp only
      rw [y1]
      have r3 := ceq ((c3 (i + 3) (by omega) (by omega) (by omega)).trans (c1 (i + 3) (by omega)))
      have rS := ceq (R.2.2.1 (i + 3) (by omega) (by omega) (by omega))
      refine ⟨gS.1, g', rfl, b2, by omega, y2, ⟨by omega, by omega, fun a a1 a2 a3 a4 => ?_⟩, ⟨y4.1.trans (r3.1.trans rS.1), y4.2.trans (r3.2.1.trans rS.2.1)⟩, ⟨y5.1, fun q hq => (y5.2 q hq).trans ((r3.2.2.2 q).trans (rS.2.2.2 q))⟩, ?_, by omega, by omega⟩
      · rw [y3 a (by omega) a4, c3 a (by omega) a2 a3, c1 a (by omega)]
        exact R.2.2.1 a a1 a2 a3
      · rw [y7]; exact y6
  · have A : f_X6_accept E (some i) (some (E.2.2 24)) h1 = some (0, h1) := acc_no (j := 14) n1.1 (by decide) c5
    rw [A, Option.bind_some]
    dsimp only
    rw [if_pos (by decide), if_neg c5]
    obtain ⟨g', y1, y2, y3, y4, y5, y6, y7, y8⟩ := c_cl69 (c := c) (q := gS.1) (s0 := s0) (t0 := none) (v := v) (FS := FS) (FT := fun _ => some true) (lo := g.1) n1.1 K1 hc ⟨by omega, by omega, by omega, by omega, by omega⟩ t1 hv ⟨by omega, by omega, by omega⟩ (sm h1 (Nat.le_refl _) (fun a a1 _ _ => c1 a (by omega))) (Or.inl ⟨rfl, rfl⟩)
    rw [y1]
    have r3 := ceq (c1 (i + 3) (by omega))
    have rS := ceq (R.2.2.1 (i + 3) (by omega) (by omega) (by omega))
    refine ⟨gS.1, g', rfl, by omega, by omega, by rw [Int.toNat_natCast]; exact y2, ⟨by omega, by omega, fun a a1 a2 a3 a4 => ?_⟩, ⟨y4.1.trans (r3.1.trans rS.1), y4.2.trans (r3.2.1.trans rS.2.1)⟩, ⟨y5.1, fun q hq => (y5.2 q hq).trans ((r3.2.2.2 q).trans (rS.2.2.2 q))⟩, ?_, by omega, by omega⟩
    · rw [y3 a (by omega) a4, c1 a (by omega)]
      exact R.2.2.1 a a1 a2 a3
    · rw [y7]; exact y6
end
