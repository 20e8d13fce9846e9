/-! The component's reader: a test ahead of 'and' and 'or' -/
set_option maxRecDepth 100000
/-- a test read, or where it is wrong -/
def RsT (E : ax_E) (T : Rw) (N x i p w tg : Nat) (o dp pl : Int) (g : ax_H) (lv : Int) (d : Nat) (rr : Int) (res : Option ((Nat × ax_H) ⊕ (Option Nat × ax_H))) : PR Dt → Prop
  | .inl t => ∃ r, res = some (.inl r) ∧ RdW T N i p pl g t (16 * (51 - lv)) (32 * (51 - lv)) r
  | .inr (j, lv', F) => ∃ u g', res = some (.inr (some u, g')) ∧ 0 ≤ j ∧ (lv + 2 ≤ lv' ∧ lv' ≤ 50) ∧ RdC E T N x i p w tg j.toNat lv' dp pl g' ∧ RdR i p pl g g' ∧ TestN o (RnF g.1 g'.1) g' x d u F ∧ (g'.1 : Int) + 22 ≤ g.1 + 16 * (lv' - lv) + rr ∧ (g'.2.1 : Int) + 45 ≤ g.2.1 + 32 * (lv' - lv) + rr
section
variable {E : ax_E} {T : Rw} {N x i p w tg k d u : Nat} {o lv dp pl v : Int} {g g' g0 g1 : ax_H} {F : Dt}
theorem TestN.rd {lo hi lo' hi' : Nat} (S : TestN o (RnF lo hi) g x d u F) (h1 : lo' ≤ lo) (h2 : hi ≤ hi') (h3 : ∀ c, lo ≤ c → c < hi → g'.2.2 c = g.2.2 c) : TestN o (RnF lo' hi') g' x d u F := TestN.fr (fun c hc => ⟨⟨Nat.le_trans h1 hc.1, Nat.lt_of_lt_of_le hc.2 h2⟩, eqT.of (h3 c hc.1 hc.2)⟩) d u F S
theorem acc_no {j : Nat} (G : RdC E T N x i p w tg k lv dp pl g) (hj : j < 44) (c : ¬ cT T N k = tc j) : f_X6_accept E (some i) (some (E.2.2 (10 + j))) g = some (0, g) := by
  unfold f_X6_accept f_X6_accept_14
  rw [G.1.dsp, c_isWord G hj, Option.bind_some]
  dsimp only
  rw [if_pos (by rw [b01_z]; exact c), if_pos (by rw [b01_or]; trivial), b01_f c]
theorem acc_yes {j : Nat} (G : RdC E T N x i p w tg k lv dp pl g) (hj : j < 44) (c : cT T N k = tc j) (e : f_X6_next E (some i) g = some g1) : f_X6_accept E (some i) (some (E.2.2 (10 + j))) g = some (1, g1) := by
  unfold f_X6_accept f_X6_accept_14
  rw [G.1.dsp, c_isWord G hj, Option.bind_some]
  dsimp only
  rw [if_neg (by rw [b01_z]; simp [c]), G.1.dsp, e, Option.bind_some, if_pos (by rw [b01_or]; trivial), b01_t c]
/-- 'not' -/
theorem c_pl125 {s0 s1 s2 : Option Nat → ax_H → Option ((Nat × ax_H) ⊕ (Option Nat × ax_H))} (b : Bool) (G : RdC E T N x i p w tg k lv dp pl g) (R : RdR i p pl g0 g) (hb : p < g0.1) (S : TestN o (RnF g0.1 g.1) g x d u F) (q1 : g.1 + 1 ≤ E.1.1) (q2 : g.2.1 + 1 ≤ E.1.2) : ∃ u' g', f_X6_plain_125 E s0 s1 s2 (b01 (b = true)) (some u) g = some (.inr (some u', g')) ∧ RdC E T N x i p w tg k lv dp pl g' ∧ RdR i p pl g0 g' ∧ TestN o (RnF g0.1 g'.1) g' x (d + 1) u' (dNot b F) ∧ g'.1 ≤ g.1 + 1 ∧ g'.2.1 ≤ g.2.1 + 1 := by
  unfold f_X6_plain_125 dNot
  cases b with
  | false =>
    rw [if_pos (by decide)]
    exact ⟨u, g, rfl, G, R, S.up _ _ _ _ (Nat.le_succ _), by omega, by omega⟩
  | true =>
    rw [if_neg (by decide)]
    have hp := G.1.2.1
    have hR1 := R.1
    obtain ⟨h1, e1⟩ : ∃ h1, h1 = nwH g 18 0 1 := ⟨_, rfl⟩
    have n1 : RdC E T N x i p w tg k lv dp pl h1 ∧ RdR i p pl g h1 := by rw [e1]; exact RdG.nw G
    have t1 : hT h1 g.1 = 18 := by rw [e1]; exact hT_nw_eq
    have s1 : h1.1 = g.1 + 1 ∧ h1.2.1 = g.2.1 + 1 := by rw [e1]; exact ⟨rfl, rfl⟩
    obtain ⟨h2, e2⟩ : ∃ h2, h2 = wR h1 g.1 0 (some u) := ⟨_, rfl⟩
    have c2 : ∀ c, c ≠ g.1 → h2.2.2 c = g.2.2 c := fun c hc => by rw [e2, hC_wR_ne hc, e1]; exact hC_nw_ne hc
    have s2 : h2.1 = g.1 + 1 ∧ h2.2.1 = g.2.1 + 1 := by rw [e2]; exact s1
    refine ⟨g.1, h2, ?_, G.oth (by omega) (fun c hc => c2 c (by omega)), R.oth hb (by omega) (by omega) (fun c hc => c2 c (by omega)), ⟨⟨by omega, by omega⟩, Or.inr (Or.inl ⟨by rw [e2, hT_wR]; exact t1, u, F, by rw [e2]; exact hR_wR_eq, S.rd (Nat.le_refl _) (by omega) (fun c _ h => c2 c (by omega)), rfl⟩)⟩, by omega, by omega⟩
    unfold f_X18_init f_X16_init
    rw [f_nw q1 q2, Option.bind_some]
    dsimp only
    rw [← e1, Option.bind_some, Option.bind_some, Option.bind_some, Option.bind_some, f_pR t1 (by decide), Option.bind_some, ← e2, Option.bind_some]
theorem c_i17 {q l r : Nat} {v : Int} (e : hT g q = 17) : ∃ h', f_X17_init E (some q) (some l) v (some r) g = some h' ∧ (hT h' q = 17 ∧ hR h' q 0 = some l ∧ hR h' q 1 = some r ∧ hI h' q 2 = v) ∧ (∀ c, c ≠ q → h'.2.2 c = g.2.2 c) ∧ h'.1 = g.1 ∧ h'.2.1 = g.2.1 := by
  obtain ⟨h1, e1⟩ : ∃ h1, h1 = wR g q 0 (some l) := ⟨_, rfl⟩
  have t1 : hT h1 q = 17 := by rw [e1, hT_wR]; exact e
  obtain ⟨h2, e2⟩ : ∃ h2, h2 = wI h1 q 2 v := ⟨_, rfl⟩
  have t2 : hT h2 q = 17 := by rw [e2, hT_wI]; exact t1
  obtain ⟨h3, e3⟩ : ∃ h3, h3 = wR h2 q 1 (some r) := ⟨_, rfl⟩
  refine ⟨h3, ?_, ⟨by rw [e3, hT_wR]; exact t2, ?_, by rw [e3]; exact hR_wR_eq, ?_⟩, fun c hc => ?_, by rw [e3, e2, e1]; rfl, by rw [e3, e2, e1]; rfl⟩
  · unfold f_X17_init f_X16_init
    rw [Option.bind_some, Option.bind_some, Option.bind_some, f_pR e (by decide), Option.bind_some, ← e1, f_pI t1 (by decide), Option.bind_some, ← e2, f_pR t2 (by decide), Option.bind_some, ← e3]
  · rw [e3, hR_wR_ne (by omega), e2, hR_wI, e1]
    exact hR_wR_eq
  · rw [e3, hI_wR, e2]
    exact hI_wI_eq
  · rw [e3, hC_wR_ne hc, e2, hC_wI_ne hc, e1, hC_wR_ne hc]
/-- what stands behind the nots -/
theorem c_plainP {s0 s1 s2 : Option Nat → ax_H → Option ((Nat × ax_H) ⊕ (Option Nat × ax_H))} {pt : Option (Int → Int → PR Dt)} {r : Nat} (hto : (tg = 7 ∧ o = 0) ∨ (tg = 25 ∧ o = 1)) (hr : r ≤ 8) (hdp : dp = 8 - r) (hN : pt = none → dp = 8) (hd : 1 ≤ d) (hpl : 0 ≤ pl)
    (hS : ∀ f, pt = some f → dp < 8 ∧ ∀ (k : Nat) (lv : Int) (g : ax_H), RdC E T N x i p w tg k lv (dp + 1) pl g → 2 * pl ≤ lv → lv ≤ 50 → RmR E g lv → RsT E T N x i p w tg o (dp + 1) pl g lv d (r - 1) (s2 (some i) g) (f k lv))
    (b : Bool) (G : RdC E T N x i p w tg k lv dp pl g) (l0 : 2 * pl ≤ lv) (l1 : lv ≤ 50) (rm : RmR E g lv) (c8 : ¬ cT T N k = 8) : ∃ y, lb_X6_plain_2 E s0 s1 s2 (some i) (b01 (b = true)) g = some (.inr y) ∧ RsT E T N x i p w tg o dp pl g lv (d + 1) r (some y) (match pPos o (cT T N) (wT T N) r pt k lv with | .inl t => .inl t | .inr (j, lv', F) => .inr (j, lv', dNot b F)) := by
  have FF := G.1
  have hp := FF.2.1
  have n4 := FF.2.2.2.2.2.1
  have rm' := rm
  unfold RmR at rm'
  have A1 : f_X6_accept E (some i) (some (E.2.2 41)) g = some (0, g) := acc_no (j := 31) G (by decide) c8
  have W : f_X6_isWord E (some i) (some (E.2.2 42)) g = some (b01 (cT T N k = 140), g) := c_isWord (j := 32) G (by decide)
  unfold lb_X6_plain_2 ax_cst pPos
  rw [Option.bind_some, FF.dsp, A1, Option.bind_some]
  dsimp only
  rw [if_pos (by decide), Option.bind_some, FF.dsp, W, Option.bind_some]
  dsimp only
  by_cases c : cT T N k = 140
  · rw [if_neg (by rw [b01_z]; simp [c]), if_pos c, FF.dsp]
    cases hp' : pt with
    | none =>
      obtain ⟨r', m1, m2⟩ := c_openN G (hN hp') (by omega) (by omega)
      rw [m1, tc_l]
      exact ⟨_, rfl, r', rfl, m2.of (RdR.refl _ _ _ _) (Int.le_refl _) (by omega) (by omega)⟩
    | some f =>
      obtain ⟨d8, hS'⟩ := hS f hp'
      obtain ⟨g1, x1, G1, N1⟩ := c_open G ⟨by omega, d8⟩
      have q1 := N1.2.1
      have q2 := N1.2.2
      have bs := hS' (k + 1) lv g1 G1 l0 l1 (by unfold RmR; omega)
      rw [show ((k + 1 : Nat) : Int) = (k : Int) + 1 by omega] at bs
      rw [x1, tc_r, G1.1.dsp]
      dsimp only
      cases hP : f ((k : Int) + 1) lv with
      | inl t =>
        rw [hP] at bs
        obtain ⟨r', b1, b2⟩ := bs
        rw [b1, tc_l]
        exact ⟨_, rfl, r', rfl, b2.of N1.1 (Int.le_refl _) (by omega) (by omega)⟩
      | inr vv =>
        obtain ⟨j, lv', F'⟩ := vv
        rw [hP] at bs
        obtain ⟨u, g3, b1, b2, b3, b4, b5, b6, b7, b8⟩ := bs
        rw [b1, tc_r]
        dsimp only
        rw [Option.bind_some, b4.1.dsp]
        have ej : ((j.toNat : Nat) : Int) = j := Int.toNat_of_nonneg b2
        by_cases c2 : cT T N j = 141
        · obtain ⟨g4, y1, y2, y3⟩ := c_close (j := 33) b4 (by decide) (by rw [ej]; exact c2)
          have y1' : f_X6_close E (some i) (some (E.2.2 43)) g3 = some (.inr g4) := y1
          have z1 := y3.2.1
          have z2 := y3.2.2
          rw [show dp + 1 - 1 = dp by omega] at y2
          have R4 := (N1.1.trans b5 (Int.le_refl _)).trans y3.1 (Int.le_refl _)
          obtain ⟨u', g5, w1, w2, w3, w4, w5, w6⟩ := c_pl125 (s0 := s0) (s1 := s1) (s2 := s2) b y2 R4 (by omega) (b6.rd (lo' := g.1) (hi' := g4.1) (by omega) (by omega) (fun a a1 a2 => y3.1.2.2.1 a a2 (by omega) (by omega))) (by omega) (by omega)
          rw [y1', tc_r, if_pos c2, w1]
          refine ⟨_, rfl, u', g5, rfl, by omega, b3, ?_, w3, w4, by omega, by omega⟩
          rw [show (j + 1).toNat = j.toNat + 1 by omega]
          exact w2
        · obtain ⟨r', m1, m2⟩ := c_closeN (j := 33) b4 (by decide) (by rw [ej]; exact c2) (by omega) (by omega)
          have m1' : f_X6_close E (some i) (some (E.2.2 43)) g3 = some (.inl r') := m1
          rw [m1', tc_l, if_neg c2]
          rw [ej] at m2
          exact ⟨_, rfl, r', rfl, m2.of (N1.1.trans b5 (Int.le_refl _)) (Int.le_refl _) (by omega) (by omega)⟩
  · rw [if_pos (by rw [b01_z]; exact c), if_neg c, FF.dsp]
    have sm : ∀ (k : Nat) (lv : Int) (g : ax_H), RdC E T N x i p w tg k lv dp pl g → 0 ≤ lv → lv ≤ 50 → RmR E g lv → RsS E T N x i p w tg o dp pl g lv (fn_X6_sum E 64 (some i) g) (pS o (cT T N) (wT T N) r k lv) := by
      rw [hdp]
      exact c_sumR hto hpl r 64 hr (by omega)
    have bs := sm k lv g G (by omega) l1 rm
    cases hP : pS o (cT T N) (wT T N) r k lv with
    | inl t =>
      rw [hP] at bs
      obtain ⟨r', b1, b2⟩ := bs
      rw [b1, tc_l]
      exact ⟨_, rfl, r', rfl, b2.of (RdR.refl _ _ _ _) (Int.le_refl _) (by omega) (by omega)⟩
    | inr vv =>
      obtain ⟨j, lv', F'⟩ := vv
      rw [hP] at bs
      obtain ⟨u, g3, b1, b2, b3, b4, b5, b6, b7, b8⟩ := bs
      have ej : ((j.toNat : Nat) : Int) = j := Int.toNat_of_nonneg b2
      rw [b1, tc_r]
      dsimp only
      have W1 : f_X6_isWord E (some i) (some (E.2.2 44)) g3 = some (b01 (cT T N j = 160), g3) := by have q := c_isWord (j := 34) b4 (by decide); rw [ej] at q; exact q
      have W2 : f_X6_isWord E (some i) (some (E.2.2 45)) g3 = some (b01 (cT T N j = 162), g3) := by have q := c_isWord (j := 35) b4 (by decide); rw [ej] at q; exact q
      have W3 : f_X6_isWord E (some i) (some (E.2.2 46)) g3 = some (b01 (cT T N j = 161), g3) := by have q := c_isWord (j := 36) b4 (by decide); rw [ej] at q; exact q
      rw [Option.bind_some, b4.1.dsp, W1, Option.bind_some]
      dsimp only
      have ic : (isCmp (cT T N j) = true) = (cT T N j = 160 ∨ cT T N j = 162 ∨ cT T N j = 161) := by unfold isCmp; rw [decide_eq_true_eq]
      have key : (if i2 (b01 (cT T N j = 160)) = 0 then (some (some (E.2.2 45))).bind fun v9 => (ax_dp E g3 (some i) fun t => if t = 25 ∨ t = 7 then f_X6_isWord E (some i) v9 g3 else none).bind fun q10 => if i2 q10.1 = 0 then (some (some (E.2.2 46))).bind fun v11 => (ax_dp E q10.2 (some i) fun t => if t = 25 ∨ t = 7 then f_X6_isWord E (some i) v11 q10.2 else none).bind fun q12 => if i2 q12.1 = 0 then f_X6_plain_89 E s0 s1 s2 (some i) (b01 (b = true)) (some u) (some i) 0 q12.2 else f_X6_plain_84 E s0 s1 s2 (some i) (b01 (b = true)) (some u) (some i) q12.2 else f_X6_plain_84 E s0 s1 s2 (some i) (b01 (b = true)) (some u) (some i) q10.2 else f_X6_plain_84 E s0 s1 s2 (some i) (b01 (b = true)) (some u) (some i) g3) = f_X6_plain_89 E s0 s1 s2 (some i) (b01 (b = true)) (some u) (some i) (b01 (isCmp (cT T N j) = true)) g3 := by
        unfold f_X6_plain_84
        by_cases c1 : cT T N j = 160
        · rw [if_neg (by rw [b01_z]; simp [c1]), b01_t (show isCmp (cT T N j) = true by rw [ic]; omega)]
        · rw [if_pos (by rw [b01_z]; exact c1), Option.bind_some, b4.1.dsp, W2, Option.bind_some]
          dsimp only
          by_cases c2 : cT T N j = 162
          · rw [if_neg (by rw [b01_z]; simp [c2]), b01_t (show isCmp (cT T N j) = true by rw [ic]; omega)]
          · rw [if_pos (by rw [b01_z]; exact c2), Option.bind_some, b4.1.dsp, W3, Option.bind_some]
            dsimp only
            by_cases c3 : cT T N j = 161
            · rw [if_neg (by rw [b01_z]; simp [c3]), b01_t (show isCmp (cT T N j) = true by rw [ic]; omega)]
            · rw [if_pos (by rw [b01_z]; exact c3), b01_f (show ¬ isCmp (cT T N j) = true by rw [ic]; omega)]
      rw [key]
      unfold f_X6_plain_89
      by_cases cc : isCmp (cT T N j) = true
      · have cc' := cc
        rw [ic] at cc'
        have sg := sgn n4.2 n4.1 (k := j.toNat) (c := cT T N j) (by rw [ej]) (by omega)
        obtain ⟨g4, x1, G4, N4⟩ := c_nxt b4
        obtain ⟨F3, y0, -⟩ := id b4
        have q1 := N4.2.1
        have q2 := N4.2.2
        obtain ⟨g5, e5⟩ : ∃ g5, g5 = nwH g4 17 0 3 := ⟨_, rfl⟩
        have n5 : RdC E T N x i p w tg (j.toNat + 1) lv' dp pl g5 ∧ RdR i p pl g4 g5 := by rw [e5]; exact RdG.nw G4
        have z1 : g5.1 = g4.1 + 1 ∧ g5.2.1 = g4.2.1 + 3 := by rw [e5]; exact ⟨rfl, rfl⟩
        have zc : ∀ c, c ≠ g4.1 → g5.2.2 c = g4.2.2 c := fun c hc => by rw [e5]; exact hC_nw_ne hc
        have bs2 := sm (j.toNat + 1) lv' g5 n5.1 (by omega) b3.2 (by unfold RmR; omega)
        rw [show ((j.toNat + 1 : Nat) : Int) = j + 1 by omega] at bs2
        have R5 := ((b5.trans N4.1 (Int.le_refl _)).trans n5.2 (Int.le_refl _))
        rw [b4.1.dsp, must_ok (by rw [b01_z]; simp [cc]), tc_r, F3.gX, Option.bind_some, F3.gT, Option.bind_some, F3.gI, Option.bind_some, y0, F3.ld sg.1, Option.bind_some, F3.dsp, x1, Option.bind_some, f_nw (by omega) (by omega), Option.bind_some, sg.2]
        dsimp only
        rw [← e5, n5.1.1.dsp, if_pos cc]
        cases hP2 : pS o (cT T N) (wT T N) r (j + 1) lv' with
        | inl t =>
          rw [hP2] at bs2
          obtain ⟨r', m1, m2⟩ := bs2
          rw [m1, tc_l]
          exact ⟨_, rfl, r', rfl, m2.of R5 (Int.le_refl _) (by omega) (by omega)⟩
        | inr v2 =>
          obtain ⟨j2, lv2, F2⟩ := v2
          rw [hP2] at bs2
          obtain ⟨u2, g6, a1, a2, a3, a4, a5, a6, a7, a8⟩ := bs2
          have hb3 := b5.1
          have hb5 := a5.1
          have t6 : hT g6 g4.1 = 17 := by
            rw [(ceq (a5.2.2.1 g4.1 (by omega) (by have := G4.1.2.1; omega) (by have := G4.1.2.1; omega))).1, e5]
            exact hT_nw_eq
          obtain ⟨g7, k1, ⟨k2, k3, k4, k5⟩, k6, k7, k8⟩ := c_i17 (E := E) (l := u) (r := u2) (v := cT T N j - 100) t6
          have G7 : RdC E T N x i p w tg j2.toNat lv2 dp pl g7 := RdG.oth a4 (by omega) (fun c hc => k6 c (by have := G4.1.2.1; omega))
          have R7 : RdR i p pl g g7 := (R5.trans a5 (Int.le_refl _)).oth (by omega) (by omega) (by omega) (fun c hc => k6 c (by omega))
          have SL : SumN o (RnF g.1 g7.1) g7 x (lv' - lv).toNat u F' := b6.rd (Nat.le_refl _) (by omega) (fun c c1 c2 => by
            rw [k6 c (by omega), a5.2.2.1 c (by omega) (by omega) (by omega), zc c (by omega)]
            exact N4.1.2.2.1 c c2 (by omega) (by omega))
          have SR : SumN o (RnF g.1 g7.1) g7 x (lv2 - lv').toNat u2 F2 := a6.rd (by omega) (by omega) (fun c c1 c2 => k6 c (by omega))
          obtain ⟨d', ed⟩ : ∃ d', d = d' + 1 := ⟨d - 1, by omega⟩
          have SC : TestN o (RnF g.1 g7.1) g7 x d g4.1 (dC (cT T N j - 100) F' F2) := by
            rw [ed]
            refine ⟨⟨by omega, by omega⟩, Or.inl ⟨k2, by rw [k5]; omega, u, u2, F', F2, k3, k4, SL.up _ 50 _ _ (by omega), SR.up _ 50 _ _ (by omega), ?_⟩⟩
            rw [k5]
          obtain ⟨u', g8, w1, w2, w3, w4, w5, w6⟩ := c_pl125 (s0 := s0) (s1 := s1) (s2 := s2) b G7 R7 (by omega) SC (by omega) (by omega)
          rw [a1, tc_r, Option.bind_some]
          dsimp only
          rw [k1, Option.bind_some, w1]
          exact ⟨_, rfl, u', g8, rfl, a2, by omega, w2, w3, w4, by omega, by omega⟩
      · obtain ⟨r', m1, m2⟩ := must_no (v := b01 (isCmp (cT T N j) = true)) b4 (by rw [b01_z]; exact cc) (by omega) (by omega)
        rw [b4.1.dsp, m1, tc_l, if_neg cc]
        rw [ej] at m2
        exact ⟨_, rfl, r', rfl, m2.of b5 (Int.le_refl _) (by omega) (by omega)⟩
end
