/-! Orders: the component, from the tape to the answer -/
set_option maxRecDepth 100000
section
variable {E : ax_E} {h : ax_H} {x t dl dv ds du : Nat} {s : Sg} {n : Int}
theorem c_orders (H : REP E h x t dl dv ds du s) (hE : Ek E x) (hE1 : Ek1 E x) (hX : TxtE E x) (V : VW n s) (e1 : h.1 + 3200 ≤ E.1.1) (e2 : h.2.1 + 36000 ≤ E.1.2) : ∃ (du' : Nat) (h' : ax_H), f_X0_orders E (some x) h = some ((ordersS s).1, h') ∧ REP E h' x t dl dv ds du' (telP (ordersS s)).2 ∧ Blk x 3000 30000 h h' := by
  have V0 := z47_VW V
  have h11 := V.2.2.2.1
  have hN : ((tpN s : Nat) : Int) = s 0 11 := by unfold tpN; omega
  have hx : x + 116 ≤ h.1 := H.1.1.1
  obtain ⟨h1, eh1⟩ : ∃ h1, h1 = wI h x 10 (-1) := ⟨_, rfl⟩
  have H1 : REP E h1 x t dl dv ds du (z47 s) := by rw [eh1]; exact c_f10 H
  have s1 : h1.1 = h.1 ∧ h1.2.1 = h.2.1 := by rw [eh1]; exact ⟨rfl, rfl⟩
  have c1 : ∀ a, a ≠ x → h1.2.2 a = h.2.2 a := fun a ha => by rw [eh1]; exact hC_wI_ne ha
  obtain ⟨a1, a2, ⟨-, -, -, -, -, -, a11, -⟩, -, -, -, -, -, ⟨t22, l22⟩, -⟩ := id H1.2.1
  have i12 : hI h1 x 12 = s 0 11 := H1.2.2.1.2.2.2.2.trans (z47_0 (by decide))
  obtain ⟨g0, y1, y2, y3, y4, y5, y6⟩ := c_birth25 (E := E) (T := s 7) (N := tpN s) (x := x) (h := h1) (by omega) H1.low hX ⟨a1, a11, i12.trans hN.symm⟩ ⟨t22, l22, fun k hk => by
    have := H1.2.2.2.1.2 k (by omega)
    rw [z47_o (by decide)] at this
    exact this⟩ ⟨by omega, V.2.2.2.2.1⟩ (by omega) (by omega)
  have iT := y2.1.2.2.2.2.2.2.2.2.2
  have R := c_readO y2 ⟨⟨rfl, rfl, by omega⟩, y3.1, y3.2⟩ (by omega) (by omega)
  have low : ∀ g : ax_H, RdL h1.1 (h1.1 + 2) g0 g → ∀ b, b < h1.1 → g.2.2 b = h1.2.2 b := fun g q b hb => (q.2.2 b (by omega) (by omega) (by omega) (by omega)).trans (y4 b hb)
  have bl1 : Blk x 0 0 h h1 := ⟨by omega, by omega, by omega, by omega, fun b b1 b2 => c1 b (by omega)⟩
  unfold f_X0_orders
  rw [f_pI H.2.1.1 (by decide), Option.bind_some, ← eh1, f_nw (by omega) (by omega), Option.bind_some]
  dsimp only
  rw [Option.bind_some, y1, Option.bind_some, f_dp iT.1 (by decide), if_pos rfl]
  cases hL : ordP s with
  | inl f =>
    have eP : pOrds (cT (s 7) (tpN s)) (wT (s 7) (tpN s)) (toks (s 7) (tpN s)) = .inl f := hL
    rw [eP] at R
    obtain ⟨r, r1, r2, r3, r4, r5, r6⟩ := R
    have eS : ordersS s = (-6, rdE (z47 s) (pos (s 7) (tpN s) f.toNat)) := by unfold ordersS; rw [hL]
    have q1 := r4.1
    have q2 := r4.2.1
    have Hr : REP E r.2 x t dl dv ds du (z47 s) := H1.keep (Kp_ext (Kp.refl x h1) (by omega) (by omega) (by omega) (low _ r4))
    have br : Blk x 3000 30000 h r.2 := ⟨by omega, by omega, by omega, by omega, fun b z1 z2 => (low _ r4 b (by omega)).trans (c1 b (by omega))⟩
    obtain ⟨H2, b2'⟩ := c_f8 (v := (pos (s 7) (tpN s) f.toNat : Int)) Hr br
    obtain ⟨h3, w1, w2, w3⟩ := c_told (v := -6) H2 b2' (by decide) (by decide)
    obtain ⟨H4, b4⟩ := c_taped (v := 0) w2 w3
    rw [r1, tc_l, f_gI r2 (by decide), Option.bind_some, r3, f_pI Hr.2.1.1 (by decide), Option.bind_some, f_ce H2.2.1.1 (by decide), Option.bind_some, w1, Option.bind_some]
    dsimp only
    rw [f_pI w2.2.1.1 (by decide), Option.bind_some, eS]
    refine ⟨du, _, rfl, ?_, b4⟩
    rw [tel_11, ← rdE_eq] at H4
    exact H4
  | inr L =>
    have eP : pOrds (cT (s 7) (tpN s)) (wT (s 7) (tpN s)) (toks (s 7) (tpN s)) = .inr L := hL
    rw [eP] at R
    obtain ⟨u, g1, r1, r2, r3, r4, r5⟩ := R
    have q1 := r2.1
    have q2 := r2.2.1
    have Hg : REP E g1 x t dl dv ds du (z47 s) := H1.keep (Kp_ext (Kp.refl x h1) (by omega) (by omega) (by omega) (low _ r2))
    obtain ⟨⟨p1, p2, p3⟩, ⟨p4, p5, p6, p7⟩, -⟩ := id H1.1
    have dk : ∀ d, Dok E h1 x t d → d < g0.1 ∨ d = E.2.2 0 := by
      intro d hd
      rcases hd with z | z
      · exact Or.inr z
      · left; omega
    obtain ⟨du', h', v1, v2, v3⟩ := c_ordRun (E := E) (lo := g0.1) (u := u) Hg hE hE1 V hL ⟨by omega, q1⟩ ⟨by omega, dk _ p4, dk _ p5, dk _ p6, dk _ p7⟩ r3 (by omega) (by omega)
    rw [r1, tc_r]
    refine ⟨du', h', v1, v2, ?_⟩
    have bg : Blk x 860 2000 h g1 := ⟨by omega, by omega, by omega, by omega, fun b z1 z2 => (low _ r2 b (by omega)).trans (c1 b (by omega))⟩
    exact (bg.trans v3).up (by decide) (by decide)
end
/-- what holds between calls is kept -/
theorem bakO_VW {n : Int} {s1 r : Sg} {k : Int} (V1 : VW n s1) (V : VW n r) (A : Ac s1 r) (hk : 0 ≤ k ∧ k ≤ 1000) : VW n (bakO s1 r k) := by
  obtain ⟨A1, A2, A3⟩ := A
  have un1 := V1.1.2.2.2.1
  obtain ⟨K0, eK⟩ : ∃ K0, K0 = cpR (r 2) 0 (s1 2) 73 := ⟨_, rfl⟩
  have K0i : ∀ i, 0 ≤ i → i < 73 → K0 i = s1 2 i := fun i i0 i1 => by rw [eK, cpR_in (by omega), Int.sub_zero]
  have K0o : ∀ i, 73 ≤ i → K0 i = s1 2 i := fun i hi => by rw [eK, cpR_out (by omega)]; exact A3 i hi
  have e2 : ∀ i, 0 ≤ i → K0 i = s1 2 i := fun i hi => by
    by_cases c : i < 73
    · exact K0i i hi c
    · exact K0o i (by omega)
  have h11 := V.2.2.2.1
  have i28 := V1.1.1 0 28
  have g2 : ∀ i, i2 (K0 i) = K0 i := by rw [eK]; exact cpR_32 (V.1.1 2) (V1.1.1 2)
  have g14 : ∀ i, i2 (cpR (r 14) 0 (s1 14) 1184 i) = cpR (r 14) 0 (s1 14) 1184 i := cpR_32 (V.1.1 14) (V1.1.1 14)
  obtain ⟨kb, lv, f1, f2⟩ := V1.2.1
  have kB : KB K0 := by
    obtain ⟨a1, a2, a3, a4, a5⟩ := kb
    unfold KB
    rw [e2 152 (by decide), e2 151 (by decide), e2 156 (by decide), e2 155 (by decide)]
    refine ⟨a1, a2, a3, fun p p0 p1 => ?_, RV_congr a5 (fun i i0 i1 => e2 i i0)⟩
    rw [e2 _ (by omega), e2 _ (by omega)]
    exact a4 p p0 p1
  have lV : LsV K0 := by
    intro q q0 q1
    rw [e2 155 (by decide)] at q1
    obtain ⟨a, b, L', c⟩ := lv q q0 q1
    have la := lawAt_congr (K := s1 2) (K' := K0) (t := q) (e2 _ (by omega)) (fun k k0 k1 => e2 _ (by omega)) (fun k k0 k1 => e2 _ (by omega))
    refine ⟨by rw [e2 _ (by omega)]; exact a, ?_, L', la.trans c⟩
    unfold valuesS
    rw [e2 _ (by omega), cut_congr (g := fun k => s1 2 (2964 + 400 * q + k)) (fun k k0 k1 => e2 _ (by omega))]
    exact b
  have kW : KW K0 := ⟨kB, lV, f1.congr (e2 153 (by decide)) (e2 152 (by decide)) (fun i i0 i1 => e2 i (by omega)), f2.congr (e2 154 (by decide)) (e2 152 (by decide)) (fun i i0 i1 => e2 i (by omega))⟩
  have b0 : ∀ o : Nat, o ≠ 0 → o ≠ 2 → o ≠ 14 → bakO s1 r k o = r o := fun o o0 o2 o14 => by unfold bakO; rw [sw_ne _ o0, sw_ne _ o14, sw_ne _ o2]
  have bb2 : bakO s1 r k 2 = K0 := by unfold bakO; rw [sw_ne _ (by decide), sw_ne _ (by decide), sw_eq, eK]
  have bb14 : bakO s1 r k 14 = cpR (r 14) 0 (s1 14) 1184 := by unfold bakO; rw [sw_ne _ (by decide), sw_eq]
  have bb28 : bakO s1 r k 0 28 = s1 0 28 := by unfold bakO; rw [sw_eq, u1_ne _ (by decide), u1_eq]
  have bbk : ∀ q : Int, q ≠ 28 → q ≠ 47 → bakO s1 r k 0 q = r 0 q := fun q q1 q2 => by unfold bakO; rw [sw_eq, u1_ne _ q2, u1_ne _ q1]
  obtain ⟨⟨g, -, -, -, re⟩, -, im, tp, by_, wo, dr⟩ := V
  refine ⟨⟨?_, by rw [bb2]; exact kB, by rw [bb2]; exact lV, ?_, by rw [b0 1 (by decide) (by decide) (by decide)]; exact re⟩, by rw [bb2]; exact kW, fun q a b => ?_, by rw [bbk 11 (by decide) (by decide)]; exact tp, by rw [b0 7 (by decide) (by decide) (by decide)]; exact by_, by rw [b0 6 (by decide) (by decide) (by decide)]; exact wo, by rw [bbk 59 (by decide) (by decide)]; exact dr⟩
  · unfold bakO
    exact G32_sw (G32_sw (G32_sw g (by rw [eK] at g2; exact g2)) g14) (u1_32 (u1_32 (g 0) i28) (i2_of (by omega) (by omega)))
  · unfold UnV
    rw [bb28, bb2, bb14, e2 152 (by decide)]
    refine ⟨un1.1, fun q q0 q1 => ?_⟩
    have un := un1.2 q q0 q1
    have n16 := un1.1.2
    refine ⟨RV_congr un.1 (fun i i0 i1 => ?_), ?_⟩
    · show cpR (r 14) 0 (s1 14) 1184 (74 * q + i) = s1 14 (74 * q + i)
      rw [cpR_in (by omega), Int.sub_zero]
    · rw [cpR_in (by omega), Int.sub_zero]
      exact un.2
  · unfold imgK
    rw [b0 4 (by decide) (by decide) (by decide), b0 3 (by decide) (by decide) (by decide)]
    exact im q a b
