/-! Lendings: the component answers -/
set_option maxRecDepth 100000
section
variable {E : ax_E} {h h0 g : ax_H} {x t dl dv ds du r : Nat} {s : Sg} {a : LsE}
/-- so many lendings listed, in two arrays -/
def LcI (x : Nat) (h0 : ax_H) (a : LsE) (g : ax_H) : Prop := Kp x h0 g ∧ (g.1 = h0.1 + 2 ∧ g.2.1 = h0.2.1 + 16) ∧ (hT g h0.1 = 100 ∧ hL g h0.1 = 8) ∧ (hT g (h0.1 + 1) = 100 ∧ hL g (h0.1 + 1) = 8) ∧ ∀ j, j < a.1 → hI g h0.1 j = a.2.1 j ∧ hI g (h0.1 + 1) j = a.2.2 j
/-- a lending done -/
theorem c_lendD {fa ra N1 N2 : Nat} {RR : Nat → Option Nat} {II : Nat → Int} {zc : Nat → Option ax_C} {gz : ax_H} (H : REP E h0 x t dl dv ds du s) (H0 : KW (s 2)) (V : leV (s 2) (s 2 153).toNat a) (C : RwC x h0 r 30 fa ra a.1 RR (fun c => c = h0.1 ∨ c = h0.1 + 1) zc) (r5 : RR 5 = some h0.1) (r6 : RR 6 = some (h0.1 + 1)) (r8 : RR 8 = some x) (ez : zc = fun c => gz.2.2 c) (zt : (hT gz h0.1 = 100 ∧ hL gz h0.1 = 8) ∧ (hT gz (h0.1 + 1) = 100 ∧ hL gz (h0.1 + 1) = 8) ∧ ∀ j, j < a.1 → hI gz h0.1 j = a.2.1 j ∧ hI gz (h0.1 + 1) j = a.2.2 j) : RwD E x s h0 r 30 fa ra N1 N2 a.1 RR II (fun c => c = h0.1 ∨ c = h0.1 + 1) zc (lendD (s 2) a) := by
  intro g lev K w S hlev B V0 hw
  rw [if_pos rfl]
  have a8 := V.1
  have n8 := H0.2.2.1.1
  have h7 := H0.1.1
  obtain ⟨s1, s2, ⟨s3, s4, s5⟩, -, -, s10, -⟩ := id S
  have R := H.keep s1
  have e152 := V0.2.2 152 (by decide)
  obtain ⟨zt1, zt2, zt3⟩ := zt
  have q0 : g.2.2 h0.1 = gz.2.2 h0.1 := by have := s10 h0.1 (Or.inl rfl); rw [ez] at this; exact this
  have q1 : g.2.2 (h0.1 + 1) = gz.2.2 (h0.1 + 1) := by have := s10 (h0.1 + 1) (Or.inr rfl); rw [ez] at this; exact this
  obtain ⟨y1, y2, y3, -⟩ := ceq q0
  obtain ⟨x1, x2, x3, -⟩ := ceq q1
  obtain ⟨zz1, zz2⟩ := zt3 w hw
  obtain ⟨dd1, dd2⟩ := V.2 w hw
  obtain ⟨b1, b2, b3⟩ := lr_b H0 V hw
  obtain ⟨vi, evi⟩ : ∃ vi : Nat, (vi : Int) = a.2.2 w := ⟨(a.2.2 w).toNat, by omega⟩
  obtain ⟨u1', u2', u3', u4', u5'⟩ := c_vnav R
  obtain ⟨u, p1, cu, tu, ⟨i0, i1, -, -⟩, ux⟩ := c_vget (E := E) (w := vi) R (by omega)
  rw [evi] at p1 i0 i1
  have i0' : hI g u 0 = lrS (s 2) a w := i0
  have i1' : hI g u 1 = tkS (s 2) a w := i1
  have kl := V0.1.1.2.2.2.2.2.2.1 (lrS (s 2) a w) (by omega) (by omega)
  have kt := V0.1.1.2.2.2.2.2.2.1 (tkS (s 2) a w) (by omega) (by omega)
  have cp := c_canPay (E := E) (g := lrS (s 2) a w) (t := tkS (s 2) a w) (v := a.2.1 w) B V0.2.1 V0.1.1.2.2.2.2 (by omega) (by omega) (by omega)
  have ldv : ax_ld E g (some (h0.1 + 1)) 100 (w : Int) = some (a.2.2 w) := by
    rw [f_ld (x1.trans zt2.1) (by decide) (by omega) (by rw [x2, zt2.2]; omega) (by rw [x2, zt2.2]; decide), Int.toNat_natCast, x3, zz2]
  have ldn : ax_ld E g (some h0.1) 100 (w : Int) = some (a.2.1 w) := by
    rw [f_ld (y1.trans zt1.1) (by decide) (by omega) (by rw [y2, zt1.2]; omega) (by rw [y2, zt1.2]; decide), Int.toNat_natCast, y3, zz1]
  have pre : ∀ W, (if a.2.1 w ≤ K (lrS (s 2) a w) ∧ K (tkS (s 2) a w) + a.2.1 w ≤ 9999 then (f_X2_pay E (some (x + 30 + 6 * lev)) (lrS (s 2) a w) (tkS (s 2) a w) (a.2.1 w) g).bind fun h16 => some (1, h16) else some (0, g)) = W → f_X30_does E (some r) (some (x + 30 + 6 * lev)) w g = W := by
    intro W hW
    unfold f_X30_does
    rw [f_gR s3 (by decide), s5, r8, Option.bind_some, u1', Option.bind_some, u2', Option.bind_some, f_gR s3 (by decide), s5, r6, Option.bind_some, ldv, Option.bind_some, u3', Option.bind_some, p1, Option.bind_some]
    dsimp only
    rw [cu, Option.bind_some, f_gI tu (by decide), i0', Option.bind_some, f_gI tu (by decide), i1', Option.bind_some, f_gR s3 (by decide), s5, r5, Option.bind_some, ldn, Option.bind_some, f_ce B.1.1 (by decide), Option.bind_some, cp, Option.bind_some]
    dsimp only
    rw [← hW]
    by_cases c : a.2.1 w ≤ K (lrS (s 2) a w) ∧ K (tkS (s 2) a w) + a.2.1 w ≤ 9999
    · rw [if_neg (by rw [b01_z]; exact fun z => z c), if_pos c, f_gI tu (by decide), i0', Option.bind_some, f_gI tu (by decide), i1', Option.bind_some, f_gR s3 (by decide), s5, r5, Option.bind_some, ldn, Option.bind_some, f_ce B.1.1 (by decide), Option.bind_some]
    · rw [if_pos (by rw [b01_z]; exact c), if_neg c]
  unfold lendD
  by_cases c : a.2.1 w ≤ K (lrS (s 2) a w) ∧ K (tkS (s 2) a w) + a.2.1 w ≤ 9999
  · obtain ⟨g3, p3, B3, O3⟩ := c_pay (E := E) (g := lrS (s 2) a w) (t := tkS (s 2) a w) (v := a.2.1 w) B (by omega) (by omega)
    rw [if_pos c]
    refine ⟨g3, pre _ ?_, O3.rf ⟨lev, hlev, rfl⟩, fun K' z => ?_⟩
    · rw [if_pos c, p3, Option.bind_some, b01_t (by simp)]
    · rw [← Option.some.inj z]
      exact ⟨B3, pay_MoV V0 (by omega) (by omega) b3 (by omega) c.1 c.2⟩
  · rw [if_neg c]
    refine ⟨g, pre _ ?_, (OnS.refl _ _ _).rf ⟨lev, hlev, rfl⟩, fun K' z => by cases z⟩
    rw [if_neg c, b01_f (by simp)]
/-- all rows of lendings have been gone through -/
def LcF (x : Nat) (h0 : ax_H) (K0 : Rw) (a : LsE) (g : ax_H) : Prop := Kp x h0 g ∧ (g.1 = h0.1 + 5 ∧ g.2.1 = h0.2.1 + 25 + 2 * a.1) ∧ (hT g (h0.1 + 2) = 30 ∧ hI g (h0.1 + 2) 0 = a.1 ∧ hI g (h0.1 + 2) 7 = sm a.1 a.2.1 ∧ hI g (h0.1 + 2) 3 = (lendR K0 a).1) ∧ (hR g (h0.1 + 2) 6 = some (h0.1 + 1) ∧ hR g (h0.1 + 2) 1 = some (h0.1 + 4)) ∧ (hT g (h0.1 + 4) = 100 ∧ hL g (h0.1 + 4) = a.1 ∧ ((lendR K0 a).1 ≠ 0 → ∀ j, j < a.1 → hI g (h0.1 + 4) j = (lendR K0 a).2 j)) ∧ (hT g (h0.1 + 1) = 100 ∧ hL g (h0.1 + 1) = 8 ∧ ∀ j, j < a.1 → hI g (h0.1 + 1) j = a.2.2 j)
theorem c_lendEnd (H : REP E h0 x t dl dv ds du s) (hG : G32 s) (H0 : KW (s 2)) (V : leV (s 2) (s 2 153).toNat a) (e1 : h0.1 + 8 ≤ E.1.1) (e2 : h0.2.1 + 110 ≤ E.1.2) (I : LcI x h0 a g) : ∃ g', ((ax_nw E g 30 0 9).bind fun q16 =>
    (some q16.1).bind fun _ => (f_X30_init E (some q16.1) (some x) (some h0.1) (some (h0.1 + 1)) a.1 q16.2).bind fun h17 =>
    (ax_dp E h17 (some q16.1) fun t => if t = 30 then fn_X29_go E 64 (some q16.1) 0 0 h17 else none).bind fun h18 =>
    some ((some q16.1 : Option Nat), h18)) = some (some (h0.1 + 2), g') ∧ LcF x h0 (s 2) a g' := by
  obtain ⟨I1, ⟨I2, I3⟩, ⟨I4, I5⟩, ⟨I6, I7⟩, I8⟩ := I
  have hx := H.1.1.1
  have a8 := V.1
  have n8 := H0.2.2.1.1
  obtain ⟨g1, q1⟩ : ∃ g1, g1 = wR (nwH g 30 0 9) g.1 8 (some x) := ⟨_, rfl⟩
  have k1 : Kp x h0 g1 := by rw [q1]; exact Kp_wRn (Kp_nw I1 hx) hx (by omega)
  have t1 : hT g1 g.1 = 30 := by rw [q1, hT_wR]; exact hT_nw_eq
  have z1 : g1.1 = g.1 + 1 ∧ g1.2.1 = g.2.1 + 9 := by rw [q1]; exact ⟨rfl, rfl⟩
  have o1 : ∀ c, c ≠ g.1 → g1.2.2 c = g.2.2 c := fun c hc => by rw [q1]; exact (hC_wR_ne hc).trans (hC_nw_ne hc)
  obtain ⟨g2, p2, k2, z2, ⟨t2, i0, ij⟩, ⟨r1, r2, r4, rj⟩, ⟨ta, la⟩, ⟨tb, lb⟩, B2, old⟩ := c_rowsInit (E := E) (n := a.1) H H0.1 k1 t1 (Or.inl rfl) ⟨by omega, by omega⟩ (by omega) (by omega) (by omega)
  obtain ⟨g3, q3⟩ : ∃ g3, g3 = wR (wR g2 g.1 5 (some h0.1)) g.1 6 (some (h0.1 + 1)) := ⟨_, rfl⟩
  have t3' : hT (wR g2 g.1 5 (some h0.1)) g.1 = 30 := by rw [hT_wR]; exact t2
  have t3 : hT g3 g.1 = 30 := by rw [q3, hT_wR]; exact t3'
  have k3 : Kp x h0 g3 := by rw [q3]; exact Kp_wRn (Kp_wRn k2 hx (by omega)) hx (by omega)
  have o3 : ∀ c, c ≠ g.1 → g3.2.2 c = g2.2.2 c := fun c hc => by rw [q3]; exact (hC_wR_ne hc).trans (hC_wR_ne hc)
  obtain ⟨g4, q4⟩ : ∃ g4, g4 = wI g3 g.1 7 (sm a.1 a.2.1) := ⟨_, rfl⟩
  have t4 : hT g4 g.1 = 30 := by rw [q4, hT_wI]; exact t3
  have k4 : Kp x h0 g4 := by rw [q4]; exact Kp_wIn k3 hx (by omega)
  have o4 : ∀ c, c ≠ g.1 → g4.2.2 c = g2.2.2 c := fun c hc => by rw [q4]; exact (hC_wI_ne hc).trans (o3 c hc)
  have z4 : g4.1 = h0.1 + 5 ∧ g4.2.1 = h0.2.1 + 25 + 2 * a.1 := by
    have y1 : g4.1 = g2.1 := by rw [q4, q3]; rfl
    have y2 : g4.2.1 = g2.2.1 := by rw [q4, q3]; rfl
    omega
  have r4j : ∀ j, hR g4 g.1 j = if j = 6 then some (h0.1 + 1) else if j = 5 then some h0.1 else hR g2 g.1 j := by
    intro j
    rw [q4, hR_wI, q3, hR_wR, hR_wR]
    by_cases c6 : j = 6
    · rw [if_pos ⟨rfl, c6⟩, if_pos c6]
    · rw [if_neg (fun z => c6 z.2), if_neg c6]
      by_cases c5 : j = 5
      · rw [if_pos ⟨rfl, c5⟩, if_pos c5]
      · rw [if_neg (fun z => c5 z.2), if_neg c5]
  have i4j : ∀ j, j ≠ 7 → hI g4 g.1 j = hI g2 g.1 j := by
    intro j hj
    rw [q4, hI_wI_ne (Or.inr hj), q3, hI_wR, hI_wR]
  have er : g.1 = h0.1 + 2 := I2
  have ea : g1.1 = h0.1 + 3 := by omega
  have eb : g1.1 + 1 = h0.1 + 4 := by omega
  have c0 : g4.2.2 h0.1 = g.2.2 h0.1 := (o4 _ (by omega)).trans ((old h0.1 (Nat.le_refl _) (by omega) (by omega)).trans (o1 _ (by omega)))
  have c1 : g4.2.2 (h0.1 + 1) = g.2.2 (h0.1 + 1) := (o4 _ (by omega)).trans ((old (h0.1 + 1) (by omega) (by omega) (by omega)).trans (o1 _ (by omega)))
  obtain ⟨x1, x2, x3, -⟩ := ceq c0
  obtain ⟨y1, y2, y3, -⟩ := ceq c1
  obtain ⟨m1, m2, -, -⟩ := ceq (o4 g1.1 (by omega))
  obtain ⟨n1, n2, -, -⟩ := ceq (o4 (g1.1 + 1) (by omega))
  have C : RwC x h0 g.1 30 (g1.1 + 1) g1.1 a.1 (fun j => hR g4 g.1 j) (fun c => c = h0.1 ∨ c = h0.1 + 1) (fun c => g4.2.2 c) := by
    refine ⟨hx, ⟨by omega, by omega, by omega⟩, ⟨by omega, by omega, by omega⟩, ⟨?_, ?_, ?_⟩, Or.inl rfl, by omega, fun c hc => ⟨by omega, fun g' e => ?_⟩⟩
    · dsimp only; rw [r4j, if_neg (by decide), if_neg (by decide)]; exact r1
    · dsimp only; rw [r4j, if_neg (by decide), if_neg (by decide)]; exact r2
    · dsimp only; rw [r4j, if_neg (by decide), if_neg (by decide)]; exact r4
    · have tt := (ceq e).1
      rw [tt]
      rcases hc with hc | hc
      · rw [hc, x1, I4]; decide
      · rw [hc, y1, I6]; decide
  have S4 : RwS x h0 g.1 30 (g1.1 + 1) g1.1 g4.1 g4.2.1 a.1 (fun j => hR g4 g.1 j) (fun j => hI g4 g.1 j) (fun c => c = h0.1 ∨ c = h0.1 + 1) (fun c => g4.2.2 c) g4 := ⟨k4, ⟨rfl, rfl⟩, ⟨t4, by rw [i4j 0 (by decide)]; exact i0, fun j => rfl⟩, ⟨n1.trans tb, n2.trans lb⟩, ⟨m1.trans ta, m2.trans la⟩, fun c _ => rfl, fun _ _ => rfl⟩
  have D := c_lendD (E := E) (N1 := g4.1) (N2 := g4.2.1) (II := fun j => hI g4 g.1 j) (gz := g4) H H0 V C (by rw [r4j, if_neg (by decide), if_pos rfl]) (by rw [r4j, if_pos rfl]) (by rw [r4j, if_neg (by decide), if_neg (by decide), rj 8 (by decide) (by decide) (by decide), q1, hR_wR_eq]) rfl ⟨⟨x1.trans I4, x2.trans I5⟩, ⟨y1.trans I6, y2.trans I7⟩, fun j hj => ⟨(x3 j).trans (I8 j hj).1, (y3 j).trans (I8 j hj).2⟩⟩
  have I0 : PcI x h0 g.1 30 (g1.1 + 1) g1.1 g4.1 g4.2.1 a.1 (fun j => hR g4 g.1 j) (fun j => hI g4 g.1 j) (fun c => c = h0.1 ∨ c = h0.1 + 1) (fun c => g4.2.2 c) 0 (fun _ => 0) (fun _ => s 2) (0, fun _ => 0) g4 := by
    refine ⟨S4, ?_, fun z => absurd rfl z, fun j hj => absurd hj (Nat.not_lt_zero j), fun j hj => ?_⟩
    · rw [i4j 3 (by decide), ij 3 (by decide), q1, hI_wR]; exact hI_nw_eq
    · have : j = 0 := by omega
      subst this
      exact B2.fr (fun a a1 a2 => o4 a (by omega))
  have pw := pow_8 (n := a.1) (k := 0) (by omega)
  obtain ⟨g5, p5, S5, v3, v4, -, -⟩ := c_rows (E := E) H C D 64 0 0 (fun _ => 0) (fun _ => s 2) (0, fun _ => 0) g4 (by omega) (by omega) (by decide) (fun j _ => ⟨H0, hG 2, fun i _ => rfl⟩) (by decide) (by show (0 : Int) + _ ≤ _; omega) I0
  obtain ⟨w1, w2, ⟨w3, w4, w5⟩, ⟨w6, w7⟩, -, w10, w11⟩ := S5
  have i7 : hI g5 g.1 7 = sm a.1 a.2.1 := (w11 7 (by decide)).trans (by dsimp only; rw [q4]; exact hI_wI_eq)
  have c1' := w10 (h0.1 + 1) (Or.inr rfl)
  obtain ⟨yy1, yy2, yy3, -⟩ := ceq (c1'.trans c1)
  refine ⟨g5, ?_, w1, ⟨w2.1.trans z4.1, w2.2.trans z4.2⟩, ?_, ?_, ?_, ⟨yy1.trans I6, yy2.trans I7, fun j hj => (yy3 j).trans (I8 j hj).2⟩⟩
  · have sums := it_traj (body := fun y : Int × Int × ax_H => lb_X30_init_28 E (some g.1) (some h0.1) a.1 y.1 y.2.1 y.2.2) (fun k => (sm k a.2.1, (k : Int), g3)) a.1 (r := g4) (fun k hk => by
      have e3 : g3.2.2 h0.1 = g.2.2 h0.1 := (o3 _ (by omega)).trans ((old h0.1 (Nat.le_refl _) (by omega) (by omega)).trans (o1 _ (by omega)))
      obtain ⟨f1, f2, f3, -⟩ := ceq e3
      dsimp only
      unfold lb_X30_init_28
      rw [i2_of (a := (k : Int)) (by omega) (by omega), i2_of (a := (a.1 : Int)) (by omega) (by omega), if_pos (by omega), f_ld (f1.trans I4) (by decide) (by omega) (by rw [f2, I5]; omega) (by rw [f2, I5]; decide), Option.bind_some, Int.toNat_natCast, f3, (I8 k hk).1]
      rfl) (by
      dsimp only
      unfold lb_X30_init_28
      rw [if_neg (Int.lt_irrefl _), f_pI t3 (by decide), Option.bind_some, ← q4]
      rfl)
    have init : f_X30_init E (some g.1) (some x) (some h0.1) (some (h0.1 + 1)) a.1 (nwH g 30 0 9) = some g4 := by
      unfold f_X30_init f_X30_init_28
      rw [f_pR hT_nw_eq (by decide), Option.bind_some, ← q1, Option.bind_some, p2, Option.bind_some, f_pR t2 (by decide), Option.bind_some, f_pR t3' (by decide), Option.bind_some, ← q3]
      exact sums
    have p5' : fn_X29_go E 64 (some g.1) 0 0 g4 = some g5 := p5
    rw [f_nw (by omega) (by omega), Option.bind_some]
    dsimp only
    rw [Option.bind_some, init, Option.bind_some, f_dp t4 (by decide), if_pos rfl, p5', Option.bind_some, er]
  · rw [← er]; exact ⟨w3, w4, i7, v3⟩
  · rw [← er]
    refine ⟨(w5 6).trans ?_, (w5 1).trans ?_⟩
    · dsimp only; rw [r4j, if_pos rfl]
    · dsimp only; rw [r4j, if_neg (by decide), if_neg (by decide), r1, eb]
  · rw [← eb]; exact ⟨w6, w7, fun z j hj => v4 z j hj⟩
theorem c_llists (H : REP E h0 x t dl dv ds du s) (hG : G32 s) (H0 : KW (s 2)) (e1 : h0.1 + 8 ≤ E.1.1) (e2 : h0.2.1 + 110 ≤ E.1.2) : ∃ g', f_X0_lendings_2 E (some x) h0 = some ((match leS (s 2) with | none => none | some _ => some (h0.1 + 2)), g') ∧ (match leS (s 2) with | none => Kp x h0 g' ∧ (g'.1 = h0.1 + 2 ∧ g'.2.1 = h0.2.1 + 16) | some a => LcF x h0 (s 2) a g') := by
  have n8 := H0.2.2.1.1
  have h7 := H0.1.1
  have hx := H.1.1.1
  obtain ⟨n, hn⟩ : ∃ n : Nat, (n : Int) = s 2 153 := ⟨(s 2 153).toNat, by omega⟩
  obtain ⟨g1, q1⟩ : ∃ g1, g1 = nwH (nwH h0 100 8 8) 100 8 8 := ⟨_, rfl⟩
  have I0 : LcI x h0 (0, (fun _ => 0), (fun _ => 0)) g1 := by
    refine ⟨by rw [q1]; exact Kp_nw (Kp_nw (Kp.refl x h0) hx) hx, by rw [q1]; exact ⟨rfl, rfl⟩, ⟨?_, ?_⟩, ⟨?_, ?_⟩, fun j hj => absurd hj (Nat.not_lt_zero j)⟩
    · rw [q1, hT_nw_ne (by rw [nw_1]; omega)]; exact hT_nw_eq
    · rw [q1, hL_nw_ne (by rw [nw_1]; omega)]; exact hL_nw_eq
    · rw [q1]; exact hT_nw_eq (h := nwH h0 100 8 8)
    · rw [q1]; exact hL_nw_eq (h := nwH h0 100 8 8)
  obtain ⟨g', w1, w2⟩ := it_runI (body := fun y : Int × Int × ax_H => lb_X0_lendings_2_15 E (some x) (some h0.1) (some (h0.1 + 1)) y.1 y.2.1 y.2.2) (fun (a : LsE) (v : Nat) g => ((a.1 : Int), (v : Int), g)) (fun (r : Option LsE) g => ((match r with | none => none | some _ => some (h0.1 + 2) : Option Nat), g)) (I := fun v a g => LcI x h0 a g ∧ leV (s 2) v a) (P := fun r g => match r with | none => Kp x h0 g ∧ (g.1 = h0.1 + 2 ∧ g.2.1 = h0.2.1 + 16) | some a => LcF x h0 (s 2) a g) (f := lsF (s 2)) (fin := some) n (by
    rintro v a g hv ⟨hI, hV⟩
    have hI' := hI
    obtain ⟨I1, I2, ⟨I4, I5⟩, ⟨I6, I7⟩, I8⟩ := hI
    have R := H.keep I1
    have av := hV.1
    obtain ⟨u1', u2', u3', u4', u5'⟩ := c_vnav R
    obtain ⟨u, p1, cu, tu, ⟨i0, i1, -, -⟩, ux⟩ := c_vget (E := E) (w := v) R (by omega)
    obtain ⟨vb1, vb2, vb3, vb4⟩ := vis_b H0 (v := v) (by omega)
    obtain ⟨mb1, mb2, mb3⟩ := dpF_b H0 v n (by omega)
    have eM : foldN (dpF (s 2) v) n (1, 0) = dpS (s 2) v := by unfold dpS; rw [show (s 2 153).toNat = n by omega]
    rw [eM] at mb1 mb2 mb3
    have dp := c_deepest (E := E) R H0 (v := v) (by omega)
    by_cases c0 : (dpS (s 2) v).1 = 0
    · refine ⟨g, Or.inl ⟨a, by unfold lsF; rw [if_pos c0], ⟨hI', ⟨by omega, fun j hj => by have := hV.2 j hj; omega⟩⟩, ?_⟩⟩
      rw [if_pos c0] at dp
      dsimp only
      unfold lb_X0_lendings_2_15 f_X0_lendings_2_120
      rw [u1', Option.bind_some, u2', Option.bind_some, u3', Option.bind_some, u4', Option.bind_some]
      dsimp only
      rw [← hn, i2_of (a := (v : Int)) (by omega) (by omega), i2_of (a := (n : Int)) (by omega) (by omega), if_pos (by omega), u5', Option.bind_some, dp, Option.bind_some]
      dsimp only
      rw [if_pos rfl]
      rfl
    · rw [if_neg c0] at dp
      obtain ⟨g2, p2, e2'⟩ := c_needOf (E := E) (vi := s 2 (87 + 4 * (v : Int))) (ho := s 2 (87 + 4 * (v : Int) + 1)) (room := (dpS (s 2) v).2) R hG H0.1 vb2 vb1 (by omega)
      have eN : needS (s 2) (s 2 (87 + 4 * (v : Int))) (s 2 (87 + 4 * (v : Int) + 1)) (dpS (s 2) v).2 = needV (s 2) v := rfl
      have nb := need_b (s 2) (s 2 (87 + 4 * (v : Int))) (s 2 (87 + 4 * (v : Int) + 1)) (dpS (s 2) v).2
      rw [eN] at p2 nb
      have x2 : ∀ c, x + 116 ≤ c → hT g c ≠ 15 → g2.2.2 c = g.2.2 c := fun c hc ht => e2'.2.2.2 c (by omega) (by omega) ht
      obtain ⟨f1, f2, f3, -⟩ := ceq (x2 h0.1 hx (by rw [I4]; decide))
      obtain ⟨d1, d2, d3, -⟩ := ceq (x2 (h0.1 + 1) (by omega) (by rw [I6]; decide))
      have Ig2 : LcI x h0 a g2 := ⟨I1.trans e2'.1, ⟨e2'.2.1.trans I2.1, e2'.2.2.1.trans I2.2⟩, ⟨f1.trans I4, f2.trans I5⟩, ⟨d1.trans I6, d2.trans I7⟩, fun j hj => ⟨(f3 j).trans (I8 j hj).1, (d3 j).trans (I8 j hj).2⟩⟩
      have pre : ∀ W, (if needV (s 2) v = -1 then some (.inr (none, g2)) else if needV (s 2) v = 0 then some (.inl ((a.1 : Int), (v : Int) + 1, g2)) else
          (ax_sto g2 (some h0.1) 100 (a.1 : Int) (needV (s 2) v)).bind fun h14 =>
          (ax_sto h14 (some (h0.1 + 1)) 100 (a.1 : Int) (v : Int)).bind fun h15 =>
          some (.inl ((a.1 : Int) + 1, (v : Int) + 1, h15)) : Option ((Int × Int × ax_H) ⊕ (Option Nat × ax_H))) = W → lb_X0_lendings_2_15 E (some x) (some h0.1) (some (h0.1 + 1)) a.1 v g = W := by
        intro W hW
        unfold lb_X0_lendings_2_15 f_X0_lendings_2_120
        rw [u1', Option.bind_some, u2', Option.bind_some, u3', Option.bind_some, u4', Option.bind_some]
        dsimp only
        rw [← hn, i2_of (a := (v : Int)) (by omega) (by omega), i2_of (a := (n : Int)) (by omega) (by omega), if_pos (by omega), u5', Option.bind_some, dp, Option.bind_some]
        dsimp only
        rw [i2_of (a := (dpS (s 2) v).2) (by omega) (by omega), show i2 (-1) = -1 by decide, if_neg (by omega), u1', Option.bind_some, u2', Option.bind_some, u3', Option.bind_some, p1, Option.bind_some]
        dsimp only
        rw [cu, Option.bind_some, f_gI tu (by decide), i0, Option.bind_some, u1', Option.bind_some, u2', Option.bind_some, u3', Option.bind_some, p1, Option.bind_some]
        dsimp only
        rw [cu, Option.bind_some, f_gI tu (by decide), i1, Option.bind_some, u5', Option.bind_some, p2, Option.bind_some]
        dsimp only
        rw [i2_of (a := needV (s 2) v) (by omega) (by omega)]
        exact hW
      by_cases c1 : needV (s 2) v = -1
      · refine ⟨g2, Or.inr ⟨none, by unfold lsF; rw [if_neg c0, if_pos c1], ⟨Ig2.1, Ig2.2.1⟩, pre _ ?_⟩⟩
        rw [if_pos c1]
      · by_cases c2 : needV (s 2) v = 0
        · refine ⟨g2, Or.inl ⟨a, by unfold lsF; rw [if_neg c0, if_neg c1, if_pos c2], ⟨Ig2, ⟨by omega, fun j hj => by have := hV.2 j hj; omega⟩⟩, pre _ ?_⟩⟩
          rw [if_neg c1, if_pos c2]
          rfl
        · have es : lsF (s 2) a v = .inl (a.1 + 1, rbU a.2.1 a.1 (needV (s 2) v), rbU a.2.2 a.1 v) := by unfold lsF; rw [if_neg c0, if_neg c1, if_neg c2]
          have V2 := lsF_V hV es
          refine ⟨wI (wI g2 h0.1 a.1 (needV (s 2) v)) (h0.1 + 1) a.1 v, Or.inl ⟨_, es, ⟨⟨?_, Ig2.2.1, ⟨?_, ?_⟩, ⟨?_, ?_⟩, fun j hj => ?_⟩, V2⟩, pre _ ?_⟩⟩
          · exact Kp_wIn (Kp_wIn Ig2.1 hx (Nat.le_refl _)) hx (by omega)
          · rw [hT_wI, hT_wI]; exact Ig2.2.2.1.1
          · rw [hL_wI, hL_wI]; exact Ig2.2.2.1.2
          · rw [hT_wI, hT_wI]; exact Ig2.2.2.2.1.1
          · rw [hL_wI, hL_wI]; exact Ig2.2.2.2.1.2
          · dsimp only at hj ⊢
            unfold rbU
            by_cases cj : j = a.1
            · subst cj
              rw [if_pos rfl, if_pos rfl, hI_wI_eq, hI_wI_ne (by omega), hI_wI_eq]
              exact ⟨rfl, rfl⟩
            · rw [if_neg cj, if_neg cj, hI_wI_ne (by omega), hI_wI_ne (by omega), hI_wI_ne (by omega), hI_wI_ne (by omega)]
              exact Ig2.2.2.2.2 j (by omega)
          · rw [if_neg c1, if_neg c2, f_sto Ig2.2.2.1.1 (by decide) (by omega) (by rw [Ig2.2.2.1.2]; omega) (by rw [Ig2.2.2.1.2]; decide), Option.bind_some, Int.toNat_natCast, f_sto (by rw [hT_wI]; exact Ig2.2.2.2.1.1) (by decide) (by omega) (by rw [hL_wI, Ig2.2.2.2.1.2]; omega) (by rw [hL_wI, Ig2.2.2.2.1.2]; decide), Option.bind_some, Int.toNat_natCast]
            rfl) (by
    rintro a g ⟨hI, hV⟩
    have R := H.keep hI.1
    obtain ⟨u1', u2', u3', u4', u5'⟩ := c_vnav R
    obtain ⟨g', p1, F⟩ := c_lendEnd (E := E) H hG H0 (by rw [show (s 2 153).toNat = n by omega]; exact hV) e1 e2 hI
    refine ⟨g', F, ?_⟩
    dsimp only
    unfold lb_X0_lendings_2_15
    rw [u1', Option.bind_some, u2', Option.bind_some, u3', Option.bind_some, u4', Option.bind_some]
    dsimp only
    rw [← hn, if_neg (Int.lt_irrefl _), p1]
    rfl) n 0 (0, (fun _ => 0), (fun _ => 0)) g1 (by omega) ⟨I0, ⟨Nat.le_refl _, fun j hj => absurd hj (Nat.not_lt_zero j)⟩⟩
  have eL : runF (lsF (s 2)) some n 0 (0, (fun _ => 0), (fun _ => 0)) = leS (s 2) := by unfold leS; rw [show (s 2 153).toNat = n by omega]
  rw [eL] at w1 w2
  refine ⟨g', ?_, w1⟩
  unfold f_X0_lendings_2 f_X0_lendings_2_15
  rw [f_na (by decide) (by decide) (by omega) (by show h0.2.1 + 8 ≤ _; omega), Option.bind_some]
  dsimp only
  rw [f_na (by decide) (by decide) (by rw [nw_1]; omega) (by show h0.2.1 + 8 + 8 ≤ _; omega), Option.bind_some, show (8 : Int).toNat = 8 by rfl]
  dsimp only
  rw [← q1]
  exact w2
theorem c_lendP {i N : Int} (H : REP E h x t dl dv ds du s) (V : VW N s) (hi : i2 i = i) (e1 : h.1 + 8 ≤ E.1.1) (e2 : h.2.1 + 110 ≤ E.1.2) : ∃ h', f_X0_lendings E (some x) i h = some (lendP s i, h') ∧ REP E h' x t dl dv ds du s ∧ Blk x 8 110 h h' := by
  have hG := V.1.1
  have H0 := V.2.1
  have n8 := H0.2.2.1.1
  have bi := i2_lh hi
  obtain ⟨g, p1, F⟩ := c_llists (E := E) H hG H0 e1 e2
  unfold f_X0_lendings f_X0_lendings_25 lendP
  rw [f_ce H.2.1.1 (by decide), Option.bind_some, p1, Option.bind_some]
  cases eL : leS (s 2) with
  | none =>
    rw [eL] at F
    dsimp only
    rw [if_pos rfl]
    exact ⟨g, rfl, H.keep F.1, ⟨by omega, by omega, by omega, by omega, fun a z1 z2 => F.1.2.2.2.2.2.2 a z1 z2⟩⟩
  | some a =>
    rw [eL] at F
    have lv := leS_V n8.1 eL
    have a8 := lv.1
    obtain ⟨F1, ⟨F2, F3⟩, ⟨F4, F5, F6, F7⟩, ⟨F8, F9⟩, ⟨F10, F11, F12⟩, F13, F14, F15⟩ := F
    have hv : ∀ w, w < a.1 → (0 ≤ lrS (s 2) a w ∧ lrS (s 2) a w < 7) ∧ (0 ≤ tkS (s 2) a w ∧ tkS (s 2) a w < 7) ∧ lrS (s 2) a w ≠ tkS (s 2) a w := fun w hw => by
      obtain ⟨b1, b2, b3⟩ := lr_b H0 lv hw
      have h7 := H0.1.1
      exact ⟨by omega, by omega, b3⟩
    obtain ⟨D1, D2⟩ := lend_dp (K0 := s 2) (a := a) (by omega) hv
    have hm := fun st w (h : mayS (s 2) a st w = true) => mayS_b st w h
    have rb := rdS_b (n := a.1) (by omega) hm (st := 0) (Nat.two_pow_pos _)
    rw [D1] at F7 F12
    refine ⟨g, ?_, H.keep F1, ⟨by omega, by omega, by omega, by omega, fun b z1 z2 => F1.2.2.2.2.2.2 b z1 z2⟩⟩
    dsimp only
    rw [if_neg (by simp), f_gI F4 (by decide), F5, Option.bind_some, hi, i2_of (a := 2 + (a.1 : Int)) (by omega) (by omega), c_in (by omega) (by decide) (by omega), Option.bind_some]
    by_cases c : 0 ≤ i ∧ i ≤ 2 + (a.1 : Int)
    · rw [if_neg (by rw [b01_z]; exact fun z => z c), if_neg (show ¬ ¬ (0 ≤ i ∧ i ≤ 2 + (a.1 : Int)) from fun z => z c), show i2 3 = 3 by decide, show i2 1 = 1 by decide]
      dsimp only
      by_cases c3 : i < 3
      · rw [if_pos c3, if_pos c3]
        by_cases c0 : i = 0
        · rw [if_pos c0, if_pos c0, f_gI F4 (by decide), F5, Option.bind_some]
        · rw [if_neg c0, if_neg c0]
          by_cases c1 : i = 1
          · rw [if_pos c1, if_pos c1, f_gI F4 (by decide), F6, Option.bind_some]
          · rw [if_neg c1, if_neg c1, f_gI F4 (by decide), F7, Option.bind_some]
      · rw [if_neg c3, if_neg c3, f_gI F4 (by decide), F7, Option.bind_some, i2_of (a := rdS a.1 (mayS (s 2) a) 0) (by omega) (by omega)]
        by_cases cr : rdS a.1 (mayS (s 2) a) 0 = 0
        · rw [if_pos cr, if_pos cr]
        · have gb : gre a.1 (mayS (s 2) a) (i - 3).toNat 0 < a.1 := gre_lt (n := a.1) (by omega) hm _ 0 (by rw [show ones16 0 = 0 from rfl]; omega) (Nat.two_pow_pos _) cr
          rw [if_neg cr, if_neg cr, f_gR F4 (by decide), F8, Option.bind_some, f_gR F4 (by decide), F9, Option.bind_some, f_ld F10 (by decide) (by omega) (by rw [F11]; omega) (by rw [F11]; omega), Option.bind_some, F12 cr _ (by omega), D2 cr _ (by omega), f_ld F13 (by decide) (by omega) (by rw [F14]; omega) (by rw [F14]; decide), Option.bind_some, Int.toNat_natCast, F15 _ gb]
    · rw [if_pos (by rw [b01_z]; exact c), if_pos c]
end
