/-! Plans: the component -/
set_option maxRecDepth 100000
section
variable {E : ax_E} {h h0 g0 g : ax_H} {x t dl dv ds du r tg : Nat} {s : Sg}
theorem c_rowsInit {n : Nat} (H : REP E h0 x t dl dv ds du s) (hK : KB (s 2)) (kp : Kp x h0 g0) (tr : hT g0 r = tg) (htg : tg = 30 ∨ tg = 31) (hr : h0.1 ≤ r ∧ r < g0.1) (hn : n ≤ 8) (e1 : g0.1 + 2 ≤ E.1.1) (e2 : g0.2.1 + 2 * n ≤ E.1.2) : ∃ g', f_X29_init E (some r) (some x) n g0 = some g' ∧ Kp x h0 g' ∧ (g'.1 = g0.1 + 2 ∧ g'.2.1 = g0.2.1 + 2 * n) ∧ (hT g' r = tg ∧ hI g' r 0 = n ∧ ∀ j, j ≠ 0 → hI g' r j = hI g0 r j) ∧ (hR g' r 1 = some (g0.1 + 1) ∧ hR g' r 2 = some g0.1 ∧ hR g' r 4 = some x ∧ ∀ j, j ≠ 1 → j ≠ 2 → j ≠ 4 → hR g' r j = hR g0 r j) ∧ (hT g' g0.1 = 100 ∧ hL g' g0.1 = n) ∧ (hT g' (g0.1 + 1) = 100 ∧ hL g' (g0.1 + 1) = n) ∧ BK g' (x + 30) (s 2) ∧ ∀ c, h0.1 ≤ c → c < g0.1 → c ≠ r → g'.2.2 c = g0.2.2 c := by
  have hx := H.1.1.1
  have t9 : tg ≠ 999 := by omega
  have h71 := hK.2.2.2.2.1
  obtain ⟨g1, q1⟩ : ∃ g1, g1 = wR g0 r 4 (some x) := ⟨_, rfl⟩
  have k1 : Kp x h0 g1 := by rw [q1]; exact Kp_wRn kp hx hr.1
  have t1 : hT g1 r = tg := by rw [q1, hT_wR]; exact tr
  obtain ⟨g2, q2⟩ : ∃ g2, g2 = wI g1 r 0 (n : Int) := ⟨_, rfl⟩
  have k2 : Kp x h0 g2 := by rw [q2]; exact Kp_wIn k1 hx hr.1
  have t2 : hT g2 r = tg := by rw [q2, hT_wI]; exact t1
  have z2 : g2.1 = g0.1 ∧ g2.2.1 = g0.2.1 := by rw [q2, q1]; exact ⟨rfl, rfl⟩
  obtain ⟨g3, q3⟩ : ∃ g3, g3 = nwH g2 100 n n := ⟨_, rfl⟩
  have k3 : Kp x h0 g3 := by rw [q3]; exact Kp_nw k2 hx
  have t3 : hT g3 r = tg := by rw [q3, hT_nw_ne (by omega)]; exact t2
  have z3 : g3.1 = g0.1 + 1 ∧ g3.2.1 = g0.2.1 + n := by rw [q3, nw_1, nw_2, z2.1, z2.2]; exact ⟨rfl, rfl⟩
  obtain ⟨g4, q4⟩ : ∃ g4, g4 = wR g3 r 2 (some g0.1) := ⟨_, rfl⟩
  have k4 : Kp x h0 g4 := by rw [q4]; exact Kp_wRn k3 hx hr.1
  have t4 : hT g4 r = tg := by rw [q4, hT_wR]; exact t3
  have z4 : g4.1 = g0.1 + 1 ∧ g4.2.1 = g0.2.1 + n := by rw [q4]; exact z3
  obtain ⟨g5, q5⟩ : ∃ g5, g5 = nwH g4 100 n n := ⟨_, rfl⟩
  have k5 : Kp x h0 g5 := by rw [q5]; exact Kp_nw k4 hx
  have t5 : hT g5 r = tg := by rw [q5, hT_nw_ne (by omega)]; exact t4
  have z5 : g5.1 = g0.1 + 2 ∧ g5.2.1 = g0.2.1 + 2 * n := by rw [q5, nw_1, nw_2, z4.1, z4.2]; omega
  obtain ⟨g6, q6⟩ : ∃ g6, g6 = wR g5 r 1 (some (g0.1 + 1)) := ⟨_, rfl⟩
  have k6 : Kp x h0 g6 := by rw [q6]; exact Kp_wRn k5 hx hr.1
  have t6 : hT g6 r = tg := by rw [q6, hT_wR]; exact t5
  have z6 : g6.1 = g0.1 + 2 ∧ g6.2.1 = g0.2.1 + 2 * n := by rw [q6]; exact z5
  have R := H.keep k6
  have rt := R.2.1
  have tl := R.1.1
  obtain ⟨t29, l29⟩ := rt.2.2.2.2.2.2.2.2.2.2.1
  have st29 := rt.2.2.2.2.2.2.2.2.2.2.2
  have r14 := rt.2.2.1.2.2.2.2.2.2.2.2
  have tlh := H.1.1
  obtain ⟨g7, p7, B7, O7⟩ := c_as (E := E) (a := x + 30) (b := t + 4) (st29 0 (by decide)).2 R.bk (by omega) h71.1 h71.2
  have n7 : ∀ c, h0.1 ≤ c → g7.2.2 c = g6.2.2 c := fun c hc => O7.1.2.2 c (Or.inr (by omega))
  have o6 : ∀ c, c ≠ r → c < g0.1 → g6.2.2 c = g0.2.2 c := by
    intro c cr cl
    rw [q6, hC_wR_ne cr, q5, hC_nw_ne (by omega), q4, hC_wR_ne cr, q3, hC_nw_ne (by omega), q2, hC_wI_ne cr, q1, hC_wR_ne cr]
  obtain ⟨u1, u2, u3, u4⟩ := ceq (n7 r hr.1)
  obtain ⟨a1, a2, -, -⟩ := ceq (n7 g0.1 (by omega))
  obtain ⟨b1, b2, -, -⟩ := ceq (n7 (g0.1 + 1) (by omega))
  have ig : ∀ j, hI g6 r j = if j = 0 then (n : Int) else hI g0 r j := by
    intro j
    rw [q6, hI_wR, q5, hI_nw_ne (by omega), q4, hI_wR, q3, hI_nw_ne (by omega), q2, hI_wI, q1, hI_wR]
    by_cases c : j = 0
    · rw [if_pos ⟨rfl, c⟩, if_pos c]
    · rw [if_neg (fun z => c z.2), if_neg c]
  refine ⟨g7, ?_, k6.trans (Kp_on (Or.inr ⟨0, by decide, rfl⟩) O7), ⟨O7.1.1.trans z6.1, O7.1.2.1.trans z6.2⟩, ⟨u1.trans t6, ?_, fun j hj => ?_⟩, ⟨?_, ?_, ?_, fun j j1 j2 j4 => ?_⟩, ⟨a1.trans ?_, a2.trans ?_⟩, ⟨b1.trans ?_, b2.trans ?_⟩, B7, fun c c0 c1 c2 => (n7 c c0).trans (o6 c c2 c1)⟩
  · unfold f_X29_init
    rw [f_pRs tr t9 (lk30 htg 4), Option.bind_some, ← q1, Option.bind_some, f_pIs t1 t9 (lk30 htg 0), Option.bind_some, ← q2, f_na (by omega) (by omega) (by omega) (by omega), Option.bind_some, Int.toNat_natCast]
    dsimp only
    rw [← q3, z2.1, f_pRs t3 t9 (lk30 htg 2), Option.bind_some, ← q4, f_na (by omega) (by omega) (by omega) (by omega), Option.bind_some, Int.toNat_natCast]
    dsimp only
    rw [← q5, z4.1, f_pRs t5 t9 (lk30 htg 1), Option.bind_some, ← q6, f_gR rt.1 (by decide), r14, Option.bind_some, f_ldR t29 (by decide) (by decide) (by rw [l29]; decide) (by rw [l29]; decide), Option.bind_some, show (0 : Int).toNat = 0 from rfl, (st29 0 (by decide)).1, f_ce rt.1 (by decide), Option.bind_some, c_books R, Option.bind_some]
    dsimp only
    rw [f_ce (st29 0 (by decide)).2.1 (by decide), Option.bind_some, p7, Option.bind_some]
  · rw [u3, ig, if_pos rfl]
  · rw [u3, ig, if_neg hj]
  · rw [u4, q6, hR_wR_eq]
  · rw [u4, q6, hR_wR_ne (Or.inr (by decide)), q5, hR_nw_ne (by omega), q4, hR_wR_eq]
  · rw [u4, q6, hR_wR_ne (Or.inr (by decide)), q5, hR_nw_ne (by omega), q4, hR_wR_ne (Or.inr (by decide)), q3, hR_nw_ne (by omega), q2, hR_wI, q1, hR_wR_eq]
  · rw [u4, q6, hR_wR_ne (Or.inr j1), q5, hR_nw_ne (by omega), q4, hR_wR_ne (Or.inr j2), q3, hR_nw_ne (by omega), q2, hR_wI, q1, hR_wR_ne (Or.inr j4)]
  · rw [q6, hT_wR, q5, hT_nw_ne (by omega), q4, hT_wR, q3, ← z2.1]; exact hT_nw_eq
  · rw [q6, hL_wR, q5, hL_nw_ne (by omega), q4, hL_wR, q3, ← z2.1]; exact hL_nw_eq
  · rw [q6, hT_wR, q5, ← z4.1]; exact hT_nw_eq
  · rw [q6, hL_wR, q5, ← z4.1]; exact hL_nw_eq
/-- a visit gone on -/
theorem c_planD {fa ra N1 N2 n : Nat} {RR : Nat → Option Nat} {II : Nat → Int} {Zs : Nat → Prop} {zc : Nat → Option ax_C} (H : REP E h0 x t dl dv ds du s) (hG : G32 s) (H0 : KW (s 2)) (hn : (n : Int) = s 2 153) (C : RwC x h0 r 31 fa ra n RR Zs zc) (r5 : RR 5 = some x) : RwD E x s h0 r 31 fa ra N1 N2 n RR II Zs zc planD := by
  intro g lev K w S hlev B V hw
  rw [if_neg (by decide), if_pos rfl]
  have hK := H0.1
  have h7 := hK.1
  obtain ⟨s1, s2, ⟨s3, s4, s5⟩, -⟩ := id S
  have R := H.keep s1
  have st := R.2.2.2.2.1
  have hR := V.1.1.2.2.2.2
  have e152 := V.2.2 152 (by decide)
  have e153 := V.2.2 153 (by decide)
  have lv := st.2.2.2.2.2.2.1
  obtain ⟨u, p1, fz, tu, i0, i1, i2', i3⟩ := c_get (E := E) (i := (w : Int)) lv (by decide) (by omega) (by omega)
  rw [Int.toNat_natCast] at i0 i1 i2' i3
  obtain ⟨b1, b2, b3, b4, b5⟩ := H0.2.2.1.2 (w : Int) (by omega) (by omega)
  have ke : ∀ i : Int, 73 ≤ i → K i = s 2 i := fun i hi => V.2.2 i (Or.inr hi)
  rw [← ke _ (by omega)] at i0 i1 i2' i3
  rw [← ke _ (by omega), ← e152] at b1 b2
  rw [← ke (87 + 4 * (w : Int)) (by omega), ← ke (87 + 4 * (w : Int) + 1) (by omega)] at b3
  rw [← ke _ (by omega)] at b4 b5
  obtain ⟨ho, eho⟩ : ∃ ho, ho = K (87 + 4 * (w : Int) + 1) := ⟨_, rfl⟩
  obtain ⟨vi, evi⟩ : ∃ vi, vi = K (87 + 4 * (w : Int)) := ⟨_, rfl⟩
  obtain ⟨ro, ero⟩ : ∃ ro, ro = K (87 + 4 * (w : Int) + 2) := ⟨_, rfl⟩
  obtain ⟨se, ese⟩ : ∃ se, se = K (87 + 4 * (w : Int) + 3) := ⟨_, rfl⟩
  have eD : planD K w = if deepS K ho vi < ro then none else some (repS K ho vi se) := by unfold planD; rw [← eho, ← evi, ← ero, ← ese]
  rw [← evi] at b1 b3 i0
  rw [← eho] at b2 b3 i1
  rw [← ero] at b4 i2'
  rw [← ese] at b5 i3
  have ux : x + 116 ≤ u := by
    have z1 := fz.1
    have z2 := fz.2.2
    unfold Mut at z2
    omega
  obtain ⟨g2, p2, e2⟩ := c_deep (E := E) (ow := ho) (vi := vi) R hG hK V.1.1 V.2.1 ke B b2 b1
  have du' := e2.2.2.2 u (by omega) (by omega) (by rw [tu]; decide)
  obtain ⟨v1, v2, v3, v4⟩ := ceq du'
  have B2 := B.ev e2 (Or.inr (by omega))
  have db := deep_b V.1.1 (ow := ho) (vi := vi) (oe := owed K ho vi) (ba := owed K vi ho) b2 (owed_b hR ho vi).1
  have db' : 0 ≤ deepS K ho vi ∧ deepS K ho vi ≤ 3 := db
  have cc : ax_cc E g (some u) 28 = some () := by
    unfold ax_cc
    dsimp only
    rw [f_ce tu (by decide)]
    rfl
  have tt := st.1
  have pre : ∀ W, (if deepS K ho vi < ro then some (0, g2) else (f_X2_repay E (some (x + 30 + 6 * lev)) ho vi se g2).bind fun q13 => some (1, q13.2)) = W → f_X31_does E (some r) (some (x + 30 + 6 * lev)) w g = W := by
    intro W hW
    unfold f_X31_does
    rw [f_gR s3 (by decide), s5, r5, Option.bind_some, f_gR R.2.1.1 (by decide), R.2.1.2.1, Option.bind_some, f_gR tt.1 (by decide), tt.2.2.1, Option.bind_some, f_ce lv.1 (by decide), Option.bind_some, p1, Option.bind_some]
    dsimp only
    rw [cc, Option.bind_some, f_gR s3 (by decide), s5, r5, Option.bind_some, f_gI tu (by decide), i1, Option.bind_some, f_gI tu (by decide), i0, Option.bind_some, f_ce R.2.1.1 (by decide), Option.bind_some, p2, Option.bind_some]
    dsimp only
    rw [f_gI (v1.trans tu) (by decide), v3, i2', Option.bind_some, i2_of (a := deepS _ _ _) (by omega) (by omega), i2_of (a := ro) (by omega) (by omega)]
    rw [f_gI (v1.trans tu) (by decide), v3, i1, Option.bind_some, f_gI (v1.trans tu) (by decide), v3, i0, Option.bind_some, f_gI (v1.trans tu) (by decide), v3, i3, Option.bind_some, f_ce B2.1.1 (by decide), Option.bind_some]
    exact hW
  rw [eD]
  by_cases c : deepS K ho vi < ro
  · rw [if_pos c]
    refine ⟨g2, pre _ ?_, e2.rf, fun K' z => by cases z⟩
    rw [if_pos c, b01_f (by simp)]
  · rw [if_neg c]
    obtain ⟨g3, p3, B3, O3⟩ := c_repay (E := E) (p := ho) (q := vi) (v := se) B2 V.2.1 hR (by omega) (by omega) b5.1 (i2_of (by omega) (by omega))
    refine ⟨g3, pre _ ?_, e2.rf.trans (O3.rf ⟨lev, hlev, rfl⟩), fun K' z => ?_⟩
    · rw [if_neg c, p3, Option.bind_some, b01_t (by simp)]
    · rw [← Option.some.inj z]
      exact ⟨B3, rep_MoVa V b5.1 b2 b1⟩
theorem c_planP {i N : Int} (H : REP E h x t dl dv ds du s) (V : VW N s) (hi : i2 i = i) (e1 : h.1 + 8 ≤ E.1.1) (e2 : h.2.1 + 110 ≤ E.1.2) : ∃ h', f_X0_plan E (some x) i h = some (planP s i, h') ∧ REP E h' x t dl dv ds du s ∧ Blk x 8 110 h h' := by
  have hG := V.1.1
  have hK := V.1.2.1
  have H0 := V.2.1
  have n8 := H0.2.2.1.1
  have a1 := H.2.1.1
  have hx := H.1.1.1
  have st := H.2.2.2.2.1
  have lv := st.2.2.2.2.2.2.1
  obtain ⟨n, hn⟩ : ∃ n : Nat, (n : Int) = s 2 153 := ⟨(s 2 153).toNat, by omega⟩
  have bi := i2_lh hi
  have b0 := (Blk.refl x h).up (c' := 8) (z' := 110) (by decide) (by decide)
  unfold f_X0_plan planP planR
  rw [f_gR a1 (by decide), H.2.1.2.1, Option.bind_some, f_gR st.1.1 (by decide), st.1.2.2.1, Option.bind_some, f_ce lv.1 (by decide), Option.bind_some, c_size lv, Option.bind_some]
  dsimp only
  rw [hi, i2_of (a := s 2 153 - 1) (by omega) (by omega), c_in (by omega) (by decide) (by omega), Option.bind_some]
  by_cases c : -1 ≤ i ∧ i ≤ s 2 153 - 1
  · rw [if_neg (by rw [b01_z]; exact fun z => z c), if_neg (fun z => z c)]
    obtain ⟨g1, q1⟩ : ∃ g1, g1 = wR (nwH h 31 0 6) h.1 5 (some x) := ⟨_, rfl⟩
    have k1 : Kp x h g1 := by rw [q1]; exact Kp_wRn (Kp_nw (Kp.refl x h) hx) hx (Nat.le_refl _)
    have t1 : hT g1 h.1 = 31 := by rw [q1, hT_wR]; exact hT_nw_eq
    have z1 : g1.1 = h.1 + 1 ∧ g1.2.1 = h.2.1 + 6 := by rw [q1]; exact ⟨rfl, rfl⟩
    have R1 := H.keep k1
    have st1 := R1.2.2.2.2.1
    have lv1 := st1.2.2.2.2.2.2.1
    obtain ⟨g2, p2, k2, z2, ⟨t2, i0, ij⟩, ⟨r1, r2, r4, rj⟩, ⟨ta, la⟩, ⟨tb, lb⟩, B2, old⟩ := c_rowsInit (E := E) (n := n) H hK k1 t1 (Or.inr rfl) ⟨Nat.le_refl _, by omega⟩ (by omega) (by omega) (by omega)
    have C : RwC x h h.1 31 (g1.1 + 1) g1.1 n (fun j => hR g2 h.1 j) (fun _ => False) (fun _ => none) := ⟨hx, ⟨by omega, by omega, by omega⟩, ⟨by omega, by omega, by omega⟩, ⟨r1, r2, r4⟩, Or.inr rfl, by omega, fun c hc => hc.elim⟩
    have r5 : hR g2 h.1 5 = some x := by rw [rj 5 (by decide) (by decide) (by decide), q1, hR_wR_eq]
    have S2 : RwS x h h.1 31 (g1.1 + 1) g1.1 g2.1 g2.2.1 n (fun j => hR g2 h.1 j) (fun j => hI g2 h.1 j) (fun _ => False) (fun _ => none) g2 := ⟨k2, ⟨rfl, rfl⟩, ⟨t2, i0, fun j => rfl⟩, ⟨tb, lb⟩, ⟨ta, la⟩, fun c hc => hc.elim, fun _ _ => rfl⟩
    have D := c_planD (E := E) (N1 := g2.1) (N2 := g2.2.1) (II := fun j => hI g2 h.1 j) H hG H0 hn C r5
    have I2 : PcI x h h.1 31 (g1.1 + 1) g1.1 g2.1 g2.2.1 n (fun j => hR g2 h.1 j) (fun j => hI g2 h.1 j) (fun _ => False) (fun _ => none) 0 (fun _ => 0) (fun _ => s 2) (0, fun _ => 0) g2 := by
      refine ⟨S2, ?_, fun z => absurd rfl z, fun j hj => absurd hj (Nat.not_lt_zero j), fun j hj => ?_⟩
      · rw [ij 3 (by decide), q1, hI_wR]; exact hI_nw_eq
      · have : j = 0 := by omega
        subst this
        exact B2
    have pw := pow_8 (n := n) (k := 0) (by omega)
    obtain ⟨g3, p3, S3, v3, v4, -, -⟩ := c_rows (E := E) H C D 64 0 0 (fun _ => 0) (fun _ => s 2) (0, fun _ => 0) g2 (by omega) (by omega) (by decide) (fun j _ => ⟨H0, hG 2, fun i _ => rfl⟩) (by decide) (by show (0 : Int) + _ ≤ _; omega) I2
    have rb := rows_b n planD 64 0 0 (fun _ => 0) (s 2) (0, fun _ => 0) (by omega) (by decide)
    have en : (s 2 153).toNat = n := by omega
    rw [en]
    obtain ⟨Q, eQ⟩ : ∃ Q, Q = rowsT n planD 64 0 0 (fun _ => 0) (s 2) (0, fun _ => 0) := ⟨_, rfl⟩
    rw [← eQ] at v3 v4 rb ⊢
    have rb1 : 0 ≤ Q.1 ∧ Q.1 ≤ 20000000 := ⟨rb.1, by have z : Q.1 ≤ 0 + ((n ^ (n - 0) : Nat) : Int) := rb.2; omega⟩
    obtain ⟨y1, y2, ⟨y3, y4, y5⟩, ⟨y6, y7⟩, -⟩ := S3
    refine ⟨g3, ?_, H.keep y1, ⟨by omega, by omega, by omega, by omega, fun a z1 z2 => y1.2.2.2.2.2.2 a z1 z2⟩⟩
    dsimp only
    rw [f_nw (by omega) (by omega), Option.bind_some]
    dsimp only
    have init : f_X31_init E (some h.1) (some x) (nwH h 31 0 6) = some g2 := by
      unfold f_X31_init
      rw [f_pR hT_nw_eq (by decide), Option.bind_some, ← q1, f_gR R1.2.1.1 (by decide), R1.2.1.2.1, Option.bind_some, f_gR st1.1.1 (by decide), st1.1.2.2.1, Option.bind_some, f_ce lv1.1 (by decide), Option.bind_some, c_size lv1, Option.bind_some]
      dsimp only
      rw [Option.bind_some, ← hn, p2, Option.bind_some]
    have p3' : fn_X29_go E 64 (some h.1) 0 0 g2 = some g3 := p3
    rw [Option.bind_some, init, Option.bind_some, f_dp t2 (by decide), if_pos rfl, p3', Option.bind_some, show i2 (-1) = -1 by decide]
    by_cases c1 : i = -1
    · rw [if_pos c1, if_pos c1, f_gI y3 (by decide), v3, Option.bind_some]
    · rw [if_neg c1, if_neg c1, f_gI y3 (by decide), v3, Option.bind_some, i2_of (a := Q.1) (by omega) (by omega)]
      by_cases c2 : Q.1 = 0
      · rw [if_pos c2, if_pos c2]
      · rw [if_neg c2, if_neg c2, f_gR y3 (by decide), show hR g3 h.1 1 = some (g1.1 + 1) from (y5 1).trans r1, Option.bind_some, f_ld y6 (by decide) (by omega) (by rw [y7]; omega) (by rw [y7]; omega), Option.bind_some, v4 c2 i.toNat (by omega)]
  · rw [if_pos (by rw [b01_z]; exact c), if_pos c]
    exact ⟨h, rfl, H, b0⟩
end
