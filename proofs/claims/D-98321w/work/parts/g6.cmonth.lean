/-! A month: the component's days -/
set_option maxRecDepth 100000
/-- the component within a month: draws at h0.1, books behind them -/
def MoC (E : ax_E) (x t dl dv ds du : Nat) (s : Sg) (h0 : ax_H) (L : Int) (g : ax_H) (K : Rw) : Prop := REP E h0 x t dl dv ds du s ∧ G32 s ∧ KB (s 2) ∧ (∀ i, 73 ≤ i → K i = s 2 i) ∧ BK g (h0.1 + 1) K ∧ KB K ∧ K32 K ∧ (hT g h0.1 = 33 ∧ hI g h0.1 0 = L) ∧ Kp x h0 g ∧ (g.1 = h0.1 + 7 ∧ g.2.1 = h0.2.1 + 83)
section
variable {E : ax_E} {h0 g : ax_H} {x t dl dv ds du : Nat} {s : Sg} {L : Int} {K : Rw}
theorem MoC.ctx : Ctx E x t dl dv ds du (h0.1 + 1) (MoC E x t dl dv ds du s h0 L) := by
  refine ⟨?_, ?_, ?_⟩
  · rintro g K ⟨p1, p2, p3, p4, p5, p6, p7, p8, p9, p10⟩
    exact ⟨⟨s, p1.keep p9, p2, p3, p4⟩, p5, p6, p7⟩
  · rintro g g' K ⟨p1, p2, p3, p4, p5, p6, p7, p8, p9, p10⟩ e
    have hx := p1.1.1.1
    have n33 : g'.2.2 h0.1 = g.2.2 h0.1 := e.2.2.2 _ (by omega) (by omega) (by rw [p8.1]; decide)
    refine ⟨p1, p2, p3, p4, p5.ev e (Or.inr (by omega)), p6, p7, ⟨?_, ?_⟩, p9.trans e.1, ⟨e.2.1.trans p10.1, e.2.2.1.trans p10.2⟩⟩
    · unfold hT; rw [hC_eq n33]; exact p8.1
    · unfold hI; rw [hC_eq n33]; exact p8.2
  · rintro g g' K K' ⟨p1, p2, p3, p4, p5, p6, p7, p8, p9, p10⟩ O B hu hKB hK3
    have hx := p1.1.1.1
    have n33 : g'.2.2 h0.1 = g.2.2 h0.1 := O.1.2.2 _ (Or.inl (by omega))
    refine ⟨p1, p2, p3, fun i hi => (hu i hi).trans (p4 i hi), B, hKB, hK3, ⟨?_, ?_⟩, Kp_onn p9 hx (by omega) O.1, ⟨O.1.1.trans p10.1, O.1.2.1.trans p10.2⟩⟩
    · unfold hT; rw [hC_eq n33]; exact p8.1
    · unfold hI; rw [hC_eq n33]; exact p8.2
theorem MoC.ppl (P : MoC E x t dl dv ds du s h0 L g K) : ax_gR E g (some x) 0 0 = some (some t) ∧ ax_gI E g (some t) 1 6 = some (s 2 152) ∧ ax_ce E g (some x) 0 = some (hC g x) ∧ ax_ce E g (some h0.1) 33 = some (hC g h0.1) ∧ ax_ce E g (some (h0.1 + 1)) 2 = some (hC g (h0.1 + 1)) := by
  obtain ⟨p1, p2, p3, p4, p5, p6, p7, p8, p9, p10⟩ := P
  have R := p1.keep p9
  refine ⟨?_, ?_, f_ce R.2.1.1 (by decide), f_ce p8.1 (by decide), f_ce p5.1.1 (by decide)⟩
  · rw [f_gR R.2.1.1 (by decide), R.2.1.2.1]
  · rw [f_gI R.2.2.2.2.1.1.1 (by decide), R.2.2.2.2.1.2.1.1]
theorem c_draw {n : Int} (P : MoC E x t dl dv ds du s h0 L g K) (hL : 0 ≤ L ∧ L ≤ 1000002) (hn : 1 ≤ n ∧ n ≤ 50) : ∃ g', f_X33_of E (some h0.1) n g = some (mL L % n, g') ∧ MoC E x t dl dv ds du s h0 (mL L) g' K := by
  obtain ⟨p1, p2, p3, p4, p5, p6, p7, p8, p9, p10⟩ := P
  have hx := p1.1.1.1
  have b := mL_b L
  have z3 : l2 1000003 = 1000003 := by decide
  have e : (l2 (L * 1103 + 12345)).tmod 1000003 = mL L := by
    rw [l2_of (by omega) (by omega), Int.tmod_eq_emod_of_nonneg (by omega)]
    unfold mL
    rw [Int.mul_comm]
  refine ⟨wI g h0.1 0 (mL L), ?_, p1, p2, p3, p4, p5.fr (fun a a1 a2 => hC_wI_ne (by omega)), p6, p7, ⟨by rw [hT_wI]; exact p8.1, hI_wI_eq⟩, Kp_wIn p9 hx (Nat.le_refl _), p10⟩
  unfold f_X33_of
  rw [f_gI p8.1 (by decide), Option.bind_some, p8.2, z3, if_neg (by decide), e, f_pI p8.1 (by decide), Option.bind_some, f_gI (by rw [hT_wI]; exact p8.1) (by decide), Option.bind_some, hI_wI_eq, i2_of (a := n) (by omega) (by omega), l2_of (a := n) (by omega) (by omega), if_neg (by omega), l2_of (a := mL L) (by omega) (by omega), Int.tmod_eq_emod_of_nonneg (by omega)]
/-- the books change -/
theorem MoC.act {K' : Rw} {g' : ax_H} (P : MoC E x t dl dv ds du s h0 L g K) (V : MoV (s 2) K') (O : OnS (h0.1 + 1) 6 g g') (B : BK g' (h0.1 + 1) K') : MoC E x t dl dv ds du s h0 L g' K' := MoC.ctx.2.2 g g' K K' P O B (fun i hi => (V.2.2 i (Or.inr hi)).trans (P.2.2.2.1 i hi).symm) V.1.1 V.2.1
theorem c_moRep {n B x2 x7 : Int} {q : Int × Int × Rw} (Q : MoQ (s 2) B q) (P : MoC E x t dl dv ds du s h0 q.2.1 g q.2.2) (hn : n = s 2 152) (h1 : 1 ≤ n ∧ n ≤ 7) : ∃ g', f_X0_month_177 E (some x) x2 (some h0.1) (some (h0.1 + 1)) q.1 x7 g = some (.inl ((moDay (moRep n q)).1, (moDay (moRep n q)).2.1, x7 + 1, g')) ∧ MoC E x t dl dv ds du s h0 (moDay (moRep n q)).2.2.1 g' (moDay (moRep n q)).2.2.2 := by
  have Q2 := moRep_Q Q hn h1.1
  obtain ⟨lent, L, K⟩ := q
  obtain ⟨a, b, c⟩ := Q
  dsimp only at a b c P
  have e152 := c.2.2 152 (by decide)
  have hR := c.1.1.2.2.2.2
  have g0 := Int.emod_nonneg (mL L) (show n ≠ 0 by omega)
  have g1 := Int.emod_lt_of_pos (mL L) (show 0 < n by omega)
  have r0 := Int.emod_nonneg (mL (mL L)) (show n ≠ 0 by omega)
  have r1 := Int.emod_lt_of_pos (mL (mL L)) (show 0 < n by omega)
  obtain ⟨u1', u2', u3', u4', u5'⟩ := P.ppl
  obtain ⟨ga, pa, Pa⟩ := c_draw P b (n := n) (by omega)
  obtain ⟨va1, va2, va3, va4, va5⟩ := Pa.ppl
  obtain ⟨gb, pb, Pb⟩ := c_draw Pa (mL_b L) (n := n) (by omega)
  obtain ⟨vb1, vb2, vb3, vb4, vb5⟩ := Pb.ppl
  obtain ⟨d, ed⟩ : ∃ d, d = mL L % n := ⟨_, rfl⟩
  obtain ⟨cr, ec⟩ : ∃ cr, cr = mL (mL L) % n := ⟨_, rfl⟩
  rw [← ed] at pa g0 g1
  rw [← ec] at pb r0 r1
  have eR : moRep n (lent, L, K) = (lent, mL (mL L), repS K d cr 9999) := by unfold moRep; rw [ed, ec]
  rw [eR] at Q2 ⊢
  have V := Q2.2.2
  dsimp only at V
  have h72 := V.1.1.2.2.2.2.2.1
  obtain ⟨gc, pc, Bc, Oc⟩ := c_repay (E := E) (p := d) (q := cr) (v := 9999) Pb.2.2.2.2.1 Pb.2.2.2.2.2.2.1 hR ⟨g0, by omega⟩ ⟨r0, by omega⟩ (by decide) (by decide)
  have Pc := Pb.act V Oc Bc
  obtain ⟨vc1, vc2, vc3, vc4, vc5⟩ := Pc.ppl
  unfold f_X0_month_177
  rw [u1', Option.bind_some, u2', Option.bind_some, ← hn, u4', Option.bind_some, pa, Option.bind_some]
  dsimp only
  rw [va1, Option.bind_some, va2, Option.bind_some, ← hn, va4, Option.bind_some, pb, Option.bind_some]
  dsimp only
  rw [vb5, Option.bind_some, pc, Option.bind_some]
  dsimp only
  rw [f_gI Bc.1.1 (by decide), Bc.2.1.2, Option.bind_some, i2_of (by omega) (by omega), show i2 999 = 999 by decide]
  unfold moDay
  dsimp only
  by_cases c9 : repS K d cr 9999 72 < 999
  · rw [if_pos c9, if_pos c9]
    obtain ⟨gd, pd, Pd, -, -⟩ := c_waitIn (E := E) MoC.ctx Pc (Or.inr (by have := P.1.1.1.1; omega)) (by omega)
    refine ⟨gd, ?_, Pd⟩
    unfold f_X0_month_228 f_X0_month_242
    rw [show i2 1 = 1 by decide, if_neg (by decide), vc3, Option.bind_some, pd, Option.bind_some]
  · rw [if_neg c9, if_neg c9]
    refine ⟨gc, ?_, Pc⟩
    unfold f_X0_month_228 f_X0_month_242
    rw [show i2 0 = 0 by decide, if_pos rfl]
theorem c_lendIn {b : Nat} {p r a : Int} (B : BK g b K) (hp : 0 ≤ p ∧ p < 7) (hr : 0 ≤ r ∧ r < 7) (h0 : 0 ≤ K 71) (h1 : K 71 ≤ 15) : ∃ g', f_X0_lendIn E (some b) p r a g = some g' ∧ BK g' b (lendsS K p r a) ∧ OnS b 6 g g' := by
  obtain ⟨g1, q1, B1, O1⟩ := c_pay (E := E) (v := a) B hp hr
  have e71 : payS K p r a 71 = K 71 := pay_u (by omega) (by omega) (by omega)
  obtain ⟨g2, q2, B2, O2⟩ := c_add (E := E) (d := r) (c := p) (v := a) B1 (by rw [e71]; exact h0) (by rw [e71]; exact h1)
  refine ⟨g2, ?_, B2, O1.trans O2⟩
  unfold f_X0_lendIn
  rw [f_ce B.1.1 (by decide), Option.bind_some, q1, Option.bind_some, f_ce B1.1.1 (by decide), Option.bind_some, q2, Option.bind_some]
theorem c_moStep {n B x2 x7 : Int} {a : Int × Int × Int × Rw} (Q : MoA (s 2) B a) (P : MoC E x t dl dv ds du s h0 a.2.2.1 g a.2.2.2) (hn : n = s 2 152) (h1 : 1 ≤ n ∧ n ≤ 7) (h2 : i2 x2 = x2) (h7 : i2 x7 = x7) (c : x7 < x2) (on : ¬ a.2.1 = 0) : ∃ g', lb_X0_month_81 E (some x) x2 (some h0.1) (some (h0.1 + 1)) a.1 a.2.1 x7 g = some (.inl ((moStep n a).1, (moStep n a).2.1, x7 + 1, g')) ∧ MoC E x t dl dv ds du s h0 (moStep n a).2.2.1 g' (moStep n a).2.2.2 := by
  have ei : i2 a.2.1 = a.2.1 := by
    rcases Q.2 with z | z <;> rw [z] <;> decide
  have Q2 := moLend_Q Q.1 hn h1.1
  have eqS : moStep n a = moDay (moRep n (moLend n (a.1, a.2.2.1, a.2.2.2))) := rfl
  rw [eqS]
  obtain ⟨lent, on', L, K⟩ := a
  obtain ⟨⟨qa, b, V⟩, -⟩ := Q
  dsimp only at qa b V P on ei Q2 ⊢
  have e152 := V.2.2 152 (by decide)
  have hR := V.1.1.2.2.2.2
  have h71 := hR.1
  have b3 := mL_b (mL (mL L))
  have g0 := Int.emod_nonneg (mL L) (show n ≠ 0 by omega)
  have g1 := Int.emod_lt_of_pos (mL L) (show 0 < n by omega)
  have r0 := Int.emod_nonneg (mL (mL L)) (show n ≠ 0 by omega)
  have r1 := Int.emod_lt_of_pos (mL (mL L)) (show 0 < n by omega)
  obtain ⟨u1', u2', u3', u4', u5'⟩ := P.ppl
  obtain ⟨ga, pa, Pa⟩ := c_draw P b (n := n) (by omega)
  obtain ⟨va1, va2, va3, va4, va5⟩ := Pa.ppl
  obtain ⟨gb, pb, Pb⟩ := c_draw Pa (mL_b L) (n := n) (by omega)
  obtain ⟨vb1, vb2, vb3, vb4, vb5⟩ := Pb.ppl
  obtain ⟨gc, pc, Pc⟩ := c_draw Pb (mL_b (mL L)) (n := 50) (by omega)
  obtain ⟨vc1, vc2, vc3, vc4, vc5⟩ := Pc.ppl
  obtain ⟨p, eg⟩ : ∃ p, p = mL L % n := ⟨_, rfl⟩
  obtain ⟨r, er⟩ : ∃ r, r = mL (mL L) % n := ⟨_, rfl⟩
  obtain ⟨am, ea⟩ : ∃ am, am = mL (mL (mL L)) % 50 + 1 := ⟨_, rfl⟩
  have ba : 1 ≤ am ∧ am ≤ 50 := by omega
  have pc' : f_X33_of E (some h0.1) 50 gb = some (am - 1, gc) := by rw [pc, ea, Int.add_sub_cancel]
  clear pc
  rw [← eg] at pa g0 g1
  rw [← er] at pb r0 r1
  have eM : moLend n (lent, L, K) = if p ≠ r ∧ am ≤ K p ∧ K r + am ≤ 9999 ∧ K 71 ≤ 15 then (lent + am, mL (mL (mL L)), lendsS K p r am) else (lent, mL (mL (mL L)), K) := by
    unfold moLend
    rw [eg, er, ea]
  have Bc := Pc.2.2.2.2.1
  have cL := c_canPay (E := E) (g := p) (t := r) (v := am) Bc Pc.2.2.2.2.2.2.1 hR ⟨g0, by omega⟩ ⟨r0, by omega⟩ (by omega)
  unfold lb_X0_month_81
  rw [h2, h7, if_pos c, ei, if_neg on, u1', Option.bind_some, u2', Option.bind_some, ← hn, u4', Option.bind_some, pa, Option.bind_some]
  dsimp only
  rw [va1, Option.bind_some, va2, Option.bind_some, ← hn, va4, Option.bind_some, pb, Option.bind_some]
  dsimp only
  rw [vb4, Option.bind_some, pc', Option.bind_some]
  dsimp only
  rw [i2_of (a := p) (by omega) (by omega), i2_of (a := r) (by omega) (by omega), show 1 + (am - 1) = am by omega]
  by_cases c0 : p = r
  · have e1 : moLend n (lent, L, K) = (lent, mL (mL (mL L)), K) := by rw [eM, if_neg (fun z => z.1 c0)]
    rw [e1] at Q2 ⊢
    rw [if_pos c0]
    exact c_moRep (q := (lent, mL (mL (mL L)), K)) (B := B + 50) Q2 Pc hn h1
  · rw [if_neg c0, vc5, Option.bind_some, cL, Option.bind_some]
    dsimp only
    by_cases c1 : am ≤ K p ∧ K r + am ≤ 9999
    · rw [if_neg (by rw [b01_z]; exact fun z => z c1), f_gI Bc.1.1 (by decide), Bc.2.1.1, Option.bind_some, i2_of (a := K 71) (by omega) (by omega), show i2 16 = 16 by decide]
      by_cases c2 : K 71 < 16
      · have e1 : moLend n (lent, L, K) = (lent + am, mL (mL (mL L)), lendsS K p r am) := by rw [eM, if_pos ⟨c0, c1.1, c1.2, by omega⟩]
        rw [e1] at Q2 ⊢
        obtain ⟨gd, pd, Bd, Od⟩ := c_lendIn (E := E) (p := p) (r := r) (a := am) Bc ⟨g0, by omega⟩ ⟨r0, by omega⟩ h71.1 (by omega)
        rw [if_pos c2, pd, Option.bind_some]
        exact c_moRep (q := (lent + am, mL (mL (mL L)), lendsS K p r am)) (B := B + 50) Q2 (Pc.act Q2.2.2 Od Bd) hn h1
      · have e1 : moLend n (lent, L, K) = (lent, mL (mL (mL L)), K) := by rw [eM, if_neg (fun z => c2 (by omega))]
        rw [e1] at Q2 ⊢
        rw [if_neg c2]
        exact c_moRep (q := (lent, mL (mL (mL L)), K)) (B := B + 50) Q2 Pc hn h1
    · have e1 : moLend n (lent, L, K) = (lent, mL (mL (mL L)), K) := by rw [eM, if_neg (fun z => c1 ⟨z.2.1, z.2.2.1⟩)]
      rw [e1] at Q2 ⊢
      rw [if_pos (by rw [b01_z]; exact c1)]
      exact c_moRep (q := (lent, mL (mL (mL L)), K)) (B := B + 50) Q2 Pc hn h1
/-- the days, one after another -/
theorem c_moRun {n x2 : Int} (hn : n = s 2 152) (h1 : 1 ≤ n ∧ n ≤ 7) (h2 : 0 ≤ x2 ∧ x2 ≤ 30) : ∀ (j : Nat) (a : Int × Int × Int × Rw) (g : ax_H) (x7 B : Int), x7 + j = x2 → 0 ≤ x7 → MoA (s 2) B a → MoC E x t dl dv ds du s h0 a.2.2.1 g a.2.2.2 → ∃ g2, MoC E x t dl dv ds du s h0 (moRun n j a).2.2.1 g2 (moRun n j a).2.2.2 ∧ ∀ r, f_X0_month_248 E (some x) (some (h0.1 + 1)) (moRun n j a).1 g2 = some r → ax_iter (fun s : Int × Int × Int × ax_H => lb_X0_month_81 E (some x) x2 (some h0.1) (some (h0.1 + 1)) s.1 s.2.1 s.2.2.1 s.2.2.2) (a.1, a.2.1, x7, g) = some r := by
  intro j
  induction j with
  | zero =>
    intro a g x7 B e x0 Q P
    refine ⟨g, P, fun r hr => ?_⟩
    have hr' : f_X0_month_248 E (some x) (some (h0.1 + 1)) a.1 g = some r := hr
    refine it_done ?_
    dsimp only
    unfold lb_X0_month_81
    rw [i2_of (a := x7) (by omega) (by omega), i2_of (a := x2) (by omega) (by omega), if_neg (by omega), hr']
    rfl
  | succ j ih =>
    intro a g x7 B e x0 Q P
    by_cases on : a.2.1 = 0
    · have e1 : moRun n (j + 1) a = a := by
        show (if a.2.1 = 0 then a else _) = a
        rw [if_pos on]
      rw [e1]
      refine ⟨g, P, fun r hr => ?_⟩
      refine it_done ?_
      dsimp only
      unfold lb_X0_month_81
      rw [i2_of (a := x7) (by omega) (by omega), i2_of (a := x2) (by omega) (by omega), if_pos (by omega), on, if_pos (by decide), hr]
      rfl
    · have e1 : moRun n (j + 1) a = moRun n j (moStep n a) := by
        show (if a.2.1 = 0 then a else _) = _
        rw [if_neg on]
      rw [e1]
      obtain ⟨g2, p2, P2⟩ := c_moStep (E := E) Q P hn h1 (i2_of (a := x2) (by omega) (by omega)) (i2_of (a := x7) (by omega) (by omega)) (by omega) on
      obtain ⟨g3, P3, k3⟩ := ih (moStep n a) g2 (x7 + 1) (B + 50) (by omega) (by omega) (moStep_A Q hn h1.1) P2
      exact ⟨g3, P3, fun r hr => (it_step (body := fun s : Int × Int × Int × ax_H => lb_X0_month_81 E (some x) x2 (some h0.1) (some (h0.1 + 1)) s.1 s.2.1 s.2.2.1 s.2.2.2) (s := (a.1, a.2.1, x7, g)) p2).trans (k3 r hr)⟩
end
