/-! Orders: the component whole -/
set_option maxRecDepth 100000
section
variable {E : ax_E} {h g g1 : ax_H} {x t dl dv ds du lo u : Nat} {s : Sg} {n : Int} {L : List Od}
/-- orders are read: they are run -/
theorem c_ordRun (H : REP E g1 x t dl dv ds du (z47 s)) (hE : Ek E x) (hE1 : Ek1 E x) (V : VW n s) (hL : ordP s = .inr L) (hlo : x + 116 ≤ lo ∧ lo ≤ g1.1) (hlt : (t + 12 ≤ lo ∧ (dl < lo ∨ dl = E.2.2 0) ∧ (dv < lo ∨ dv = E.2.2 0) ∧ (ds < lo ∨ ds = E.2.2 0) ∧ (du < lo ∨ du = E.2.2 0))) (O : OdL lo g1.1 g1 x u L) (e1 : g1.1 + 2200 ≤ E.1.1) (e2 : g1.2.1 + 33000 ≤ E.1.2) : ∃ (du' : Nat) (h' : ax_H), ((ax_pI g1 (some x) 0 8 (-1)).bind fun h10 =>
  (ax_pI h10 (some x) 0 12 0).bind fun h11 =>
  (ax_nw E h11 2 0 7).bind fun q12 =>
  (some q12.1).bind fun _ => (f_X2_init E (some q12.1) q12.2).bind fun h13 =>
  (ax_ce E h13 (some x) 0).bind fun _ => (f_X0_books E (some x) h13).bind fun q14 =>
  (ax_ce E q14.2 (some q12.1) 2).bind fun _ => (f_X2_as E (some q12.1) q14.1 q14.2).bind fun q15 =>
  (ax_nw E q15.2 42 0 3).bind fun q16 =>
  (ax_gR E q16.2 (some x) 0 2).bind fun v17 =>
  (some q16.1).bind fun _ => (f_J2_init_2 E (some q16.1) v17 q16.2).bind fun h18 =>
  (ax_pI h18 (some x) 0 15 0).bind fun h19 =>
  (ax_pI h19 (some x) 0 16 (-1)).bind fun h20 =>
  (ax_ce E h20 (some x) 0).bind fun _ => (f_X0_runAll E (some x) (some u) h20).bind fun q21 =>
  if i2 q21.1 < 0 then
    (ax_ce E q21.2 (some x) 0).bind fun _ => (f_X0_books E (some x) q21.2).bind fun q22 =>
    (ax_ce E q22.2 q22.1 2).bind fun _ => (f_X2_as E q22.1 q15.1 q22.2).bind fun q23 =>
    (ax_gR E q23.2 (some x) 0 2).bind fun v24 =>
    (ax_ce E q23.2 v24 42).bind fun _ => (f_J2_clear E v24 q23.2).bind fun h25 =>
    (ax_gR E h25 (some x) 0 2).bind fun v26 =>
    (ax_ce E h25 v26 42).bind fun _ => (f_J2_addAll E v26 (some q16.1) h25).bind fun q27 =>
    f_X0_orders_137 E (some x) q21.1 q27.2
  else
    f_X0_orders_137 E (some x) q21.1 q21.2) = some ((ordersS s).1, h') ∧ REP E h' x t dl dv ds du' (telP (ordersS s)).2 ∧ Blk x 2000 27000 g1 h' := by
  have V0 := z47_VW V
  have tl := H.1.1
  obtain ⟨d1, d2⟩ := H.du1 hE
  have e0x := hE.1
  -- read, the tape empty
  obtain ⟨Ha, Ba⟩ := c_f8 (v := -1) H ((Blk.refl x g1).up (c' := 0) (z' := 0) (by decide) (by decide))
  obtain ⟨Hb, Bb⟩ := c_taped (v := 0) Ha Ba
  rw [← rdE_eq] at Hb
  obtain ⟨g2, eg2⟩ : ∃ g2, g2 = wI (wI g1 x 8 (-1)) x 12 0 := ⟨_, rfl⟩
  have c2 : ∀ a, a ≠ x → g2.2.2 a = g1.2.2 a := fun a ha => by rw [eg2, hC_wI_ne ha, hC_wI_ne ha]
  have s2 : g2.1 = g1.1 ∧ g2.2.1 = g1.2.1 := by rw [eg2]; exact ⟨rfl, rfl⟩
  rw [← eg2] at Hb
  have r2 : rdE (z47 s) (-1) 2 = s 2 := by unfold rdE; rw [sw_ne _ (by decide)]; exact z47_o (by decide)
  -- books that were had
  obtain ⟨m1, m2⟩ := c_newB (E := E) (h := g2) (by omega) (by omega)
  obtain ⟨g3, eg3⟩ : ∃ g3, g3 = newB g2 := ⟨_, rfl⟩
  have X3 : Ext g2 g3 := by rw [eg3]; exact newB_ext
  have s3 : g3.1 = g2.1 + 6 ∧ g3.2.1 = g2.2.1 + 82 := by rw [eg3]; exact ⟨newB_1, newB_2⟩
  have bs3 : BS g3 g2.1 := by rw [eg3]; exact newB_BS
  rw [← eg3] at m2
  have H3 : REP E g3 x t dl dv ds du (rdE (z47 s) (-1)) := Hb.keep (Kp_ext (Kp.refl x g2) (by omega) X3.1 X3.2.1 X3.2.2)
  have r71 := V.1.2.1.2.2.2.2.1
  have B3 := H3.bk
  rw [r2] at B3
  obtain ⟨g4, w1, B4, O4⟩ := c_as (E := E) (a := g2.1) (b := t + 4) bs3 B3 (by omega) r71.1 r71.2
  have s4 := O4.1.1
  have s4' := O4.1.2.1
  have X4 : Ext g2 g4 := Ext_on X3 (Nat.le_refl _) O4.1
  -- the list that was
  obtain ⟨g5, eg5⟩ : ∃ g5, g5 = nwH g4 42 0 3 := ⟨_, rfl⟩
  have s5 : g5.1 = g4.1 + 1 ∧ g5.2.1 = g4.2.1 + 3 := by rw [eg5]; exact ⟨rfl, rfl⟩
  have X5 : Ext g2 g5 := by rw [eg5]; exact Ext_nw X4
  have t5 : hT g5 g4.1 = 42 := by rw [eg5]; exact hT_nw_eq
  have c5 : ∀ a, a ≠ g4.1 → g5.2.2 a = g4.2.2 a := fun a ha => by rw [eg5]; exact hC_nw_ne ha
  have H5 : REP E g5 x t dl dv ds du (rdE (z47 s) (-1)) := Hb.keep (Kp_ext (Kp.refl x g2) (by omega) X5.1 X5.2.1 X5.2.2)
  have un5 := H5.2.2.2.2.2.1
  have z28 : rdE (z47 s) (-1) 0 28 = s 0 28 := by unfold rdE; rw [sw_eq, u1_ne _ (by decide), u1_ne _ (by decide)]; exact z47_0 (by decide)
  have z14 : rdE (z47 s) (-1) 14 = s 14 := by unfold rdE; rw [sw_ne _ (by decide)]; exact z47_o (by decide)
  rw [z28, z14] at un5
  have dul : du < g5.1 := (H5.du1 hE).1
  have els5 : Els g5 du (s 0 28) := fun q hq => by
    obtain ⟨u', u1', u2⟩ := un5.2.2.2.2.2 q hq
    exact ⟨u', u1', by rw [u2.2.1]; decide, by rw [u2.2.1]; decide, u2.1.2.1⟩
  obtain ⟨bd, g6, p1, p2, p3, p4, p5, p6, p7⟩ := c_cpList (E := E) (b := g4.1) un5.l0 (Nat.le_refl _) (H5.emp hE) dul els5 t5 ⟨by omega, by omega, by omega⟩ (by omega) (by omega) (by omega)
  have n28 := V.1.2.2.2.1.1
  have X6 : Ext g2 g6 := ⟨by omega, by omega, fun a ha => (p5 a (by omega) (by omega)).trans (X5.2.2 a ha)⟩
  have H6 : REP E g6 x t dl dv ds du (rdE (z47 s) (-1)) := Hb.keep (Kp_ext (Kp.refl x g2) (by omega) X6.1 X6.2.1 X6.2.2)
  obtain ⟨g7, eg7⟩ : ∃ g7, g7 = wI (wI g6 x 15 0) x 16 (-1) := ⟨_, rfl⟩
  have c7 : ∀ a, a ≠ x → g7.2.2 a = g6.2.2 a := fun a ha => by rw [eg7, hC_wI_ne ha, hC_wI_ne ha]
  have s7 : g7.1 = g6.1 ∧ g7.2.1 = g6.2.1 := by rw [eg7]; exact ⟨rfl, rfl⟩
  have H7 : REP E g7 x t dl dv ds du (rdE (z47 s) (-1)) := by
    rw [eg7]
    exact (H6.keep (Kp_x (by decide))).keep (Kp_x (by decide))
  have HB := H7.beg V0
  have OV := begS_VW V0
  have D7 : DoC g7 x (begS (z47 s)) := by
    unfold DoC begS
    rw [eg7, hI_wI_ne (by omega), hI_wI_eq, hI_wI_eq, sw_eq, u1_ne _ (by decide), u1_eq, u1_eq]
    exact ⟨rfl, rfl⟩
  have low7 : ∀ a, a < g2.1 → a ≠ x → g7.2.2 a = g1.2.2 a := fun a h1 h2 => (c7 a h2).trans ((X6.2.2 a h1).trans (c2 a h2))
  have O7 : OdL lo g1.1 g7 x u L := by
    obtain ⟨⟨o1, o2, o3, o4, o5⟩, oL⟩ := O
    have uc := ceq (low7 u (by omega) (by omega))
    refine ⟨⟨uc.1.trans o1, uc.2.1.trans o2, o3, o4, o5⟩, fun j C hC => ?_⟩
    obtain ⟨b, y1, y2, y3⟩ := oL j C hC
    have bc := ceq (low7 b (by omega) (by omega))
    refine ⟨b, (uc.2.2.2 j).trans y1, y2, y3.fr (fun a ha => ?_) ⟨bc.1, bc.2.2.2, fun _ => bc.2.2.1 1, fun _ => bc.2.2.1 5⟩⟩
    obtain ⟨⟨z1, z2⟩, z3⟩ := ha
    exact ⟨⟨⟨z1, z2⟩, fun q hq => by rw [uc.2.2.2]; exact z3 q hq⟩, eqT.of (low7 a (by omega) (by omega))⟩
  have hz7 : ∀ a, lo ≤ a → a < g7.1 → Frz g7 x t dl dv ds du a := by
    intro a h1 h2
    refine ⟨by omega, h2, ?_⟩
    unfold Mut
    omega
  have mem : ∀ C, C ∈ L → OdB C := by
    intro C hC
    obtain ⟨j, hj⟩ := List.getElem?_of_mem hC
    obtain ⟨b, -, -, y3⟩ := O7.2 j C hj
    exact y3.B
  have l12 := O7.1.2.2.1
  obtain ⟨du', g', run, I⟩ := c_runAll (E := E) hE hlo.1 (fun a h1 h2 => hz7 a h1 (by omega)) O7 HB OV D7 (by omega) (by omega)
  have eR : allS L 0 (begS (z47 s)) = ordR s L := rfl
  rw [eR] at run I
  obtain ⟨b1, b2, b3, b4, b5⟩ := allS_V (n := n) L 0 0 (begS (z47 s)) mem OV (by omega)
  have b6 := allS_28 (n := n) L 0 0 (begS (z47 s)) mem OV (by omega)
  rw [eR] at b1 b2 b3 b4 b5 b6
  obtain ⟨I1, I2, I3, K, Bl⟩ := I
  have bl7 : Blk x 8 130 g1 g7 := ⟨by omega, by omega, by omega, by omega, fun b h1 h2 => low7 b (by omega) (by omega)⟩
  have Bl1 := Bl.1
  have Bl2 := Bl.2.1
  have Bl3 := Bl.2.2.1
  have Bl4 := Bl.2.2.2.1
  have h48 := b1.2.1
  have tx1 : hT (wI g1 x 8 (-1)) x = 0 := by rw [hT_wI]; exact H.2.1.1
  have tx6 : hT (wI g6 x 15 0) x = 0 := by rw [hT_wI]; exact H6.2.1.1
  rw [f_pI H.2.1.1 (by decide), Option.bind_some, f_pI tx1 (by decide), Option.bind_some, ← eg2, m1, Option.bind_some]
  dsimp only
  rw [Option.bind_some, m2, Option.bind_some, f_ce H3.2.1.1 (by decide), Option.bind_some, c_books H3, Option.bind_some]
  dsimp only
  rw [f_ce bs3.1 (by decide), Option.bind_some, w1, Option.bind_some]
  dsimp only
  rw [f_nw (by omega) (by omega), Option.bind_some, ← eg5]
  dsimp only
  rw [f_gR H5.2.1.1 (by decide), Option.bind_some, H5.2.1.2.2.1.2.1, Option.bind_some, p1, Option.bind_some, f_pI H6.2.1.1 (by decide), Option.bind_some, f_pI tx6 (by decide), Option.bind_some, ← eg7, f_ce H7.2.1.1 (by decide), Option.bind_some, run, Option.bind_some]
  dsimp only
  by_cases c0 : (ordR s L).1 = 0
  · have eS : ordersS s = ((ordR s L).2.2 0 48, (ordR s L).2.2) := by
      unfold ordersS
      rw [hL]
      dsimp only
      rw [if_pos c0]
    obtain ⟨h', v1, v2, v3⟩ := c_told (v := (ordR s L).2.2 0 48) I1 (bl7.trans Bl) (by omega) (by omega)
    rw [if_pos c0, if_pos c0, i2_of (by omega) (by omega), if_neg (by omega)]
    unfold f_X0_orders_137
    rw [f_ce I1.2.1.1 (by decide), Option.bind_some, v1, Option.bind_some, eS]
    exact ⟨du', h', rfl, v2, v3.up (by decide) (by decide)⟩
  · have eS : ordersS s = ((ordR s L).1, bakO (begS (z47 s)) (ordR s L).2.2 (ordR s L).2.1) := by
      unfold ordersS
      rw [hL]
      dsimp only
      rw [if_neg c0]
    have Hk := c_f10 (v := (ordR s L).2.1) I1
    obtain ⟨gk, egk⟩ : ∃ gk, gk = wI g' x 10 (ordR s L).2.1 := ⟨_, rfl⟩
    rw [← egk] at Hk
    have ck : ∀ a, a ≠ x → gk.2.2 a = g'.2.2 a := fun a ha => by rw [egk]; exact hC_wI_ne ha
    have sk : gk.1 = g'.1 ∧ gk.2.1 = g'.2.1 := by rw [egk]; exact ⟨rfl, rfl⟩
    have frk : ∀ a, Frz g7 x t dl dv ds du a → Frz gk x t dl dv ds du' a := fun a ha => ((K.frz Bl1 ha).1).up (by omega)
    have eqk : ∀ a, Frz g7 x t dl dv ds du a → NO g7 a → eqT (hC g7 a) (hC gk a) := fun a ha hn => (eqO_no (K.2 a ha) hn).trans (eqT.of (ck a (by have m := ha.2.2; unfold Mut at m; omega)))
    have b28 : begS (z47 s) 0 28 = s 0 28 := by rw [begS_0 (by decide) (by decide) (by decide) (by decide), z47_0 (by decide)]
    -- the books
    have c47 : ∀ a, a < g4.1 → a ≠ x → g7.2.2 a = g4.2.2 a := fun a h1 h2 => (c7 a h2).trans ((p5 a (by omega) (by omega)).trans (c5 a (by omega)))
    have B7 : BK g7 g2.1 (s 2) := B4.fr (fun a h1 h2 => c47 a (by omega) (by omega))
    have Bk : BK gk g2.1 (begS (z47 s) 2) := (B7.frT (fun a h1 h2 => eqk a (hz7 a (by omega) (by omega)) (B7.1.no h1 h2))).congr (by rw [begS_2, z47_lay]; exact lay6_o V (by decide)) (by rw [begS_2, z47_lay]; exact lay6_o V (by decide)) (fun p q0 q1 => by rw [begS_2, z47_lay]; exact lay6_o V (by omega)) (fun i i0 i1 => by rw [begS_2, z47_lay]; exact lay6_o V (by omega))
    -- the list
    have Lk : LsB E gk g4.1 bd (begS (z47 s) 0 28) ∧ (s 0 28 = 0 ∨ Frz gk x t dl dv ds du' bd) ∧ ∀ q : Nat, (q : Int) < s 0 28 → hR gk bd q = hR g6 bd q := by
      obtain ⟨y1, y2, y3, y4⟩ := p2
      have bc := ceq (c7 g4.1 (by omega))
      have be := eqk g4.1 (hz7 _ (by omega) (by omega)) (NO.of (bc.1.trans y1) (by decide))
      have bI : hI gk g4.1 2 = hI g7 g4.1 2 := be.2.2.2 2 (fun z => absurd (z.symm.trans (bc.1.trans y1)) (by decide))
      rw [b28]
      rcases y4 with ⟨z1, z2⟩ | ⟨z1, z2, z3, z4⟩
      · exact ⟨⟨be.hT.trans (bc.1.trans y1), (be.hR 1).trans ((bc.2.2.2 1).trans y2), bI.trans ((bc.2.2.1 2).trans y3), Or.inl ⟨z1, z2⟩⟩, Or.inl z1, fun q hq => by omega⟩
      · have eb := p3.resolve_left (by omega)
        have dc := ceq (c7 bd (by omega))
        have fz := hz7 bd (by omega) (by omega)
        have de := eqk bd fz (NO.of (dc.1.trans z3) (by decide))
        exact ⟨⟨be.hT.trans (bc.1.trans y1), (be.hR 1).trans ((bc.2.2.2 1).trans y2), bI.trans ((bc.2.2.1 2).trans y3), Or.inr ⟨z1, z2, de.hT.trans (dc.1.trans z3), by rw [de.hL, dc.2.1]; exact z4⟩⟩, Or.inr (frk bd fz), fun q hq => (de.hR q).trans (dc.2.2.2 q)⟩
    have H4 : REP E g4 x t dl dv ds du (rdE (z47 s) (-1)) := Hb.keep (Kp_ext (Kp.refl x g2) (by omega) X4.1 X4.2.1 X4.2.2)
    have un4 := H4.2.2.2.2.2.1
    rw [z28, z14] at un4
    have el : ∀ q : Nat, (q : Int) < begS (z47 s) 0 28 → ∃ u, hR gk bd q = some u ∧ DnN (Frz gk x t dl dv ds du') gk (begS (z47 s) 14) q u := by
      intro q hq
      rw [b28] at hq
      obtain ⟨u', y1, y2⟩ := un4.2.2.2.2.2 q hq
      refine ⟨u', (Lk.2.2 q hq).trans ((p4 q hq).trans (((ceq (c5 du (by omega))).2.2.2 q).trans y1)), ?_⟩
      rw [begS_o (by decide) (by decide), z47_o (by decide)]
      have y3 : DnN (Frz g7 x t dl dv ds du) g7 (s 14) q u' := y2.fr0 (fun a ha => ⟨ha.up (by omega), eqT.of (c47 a ha.2.1 (by have m := ha.2.2; unfold Mut at m; omega))⟩)
      exact y3.no.fr0 (fun a ha => ⟨frk a ha.1, eqk a ha.1 ha.2⟩)
    obtain ⟨h3, w3, w4, w5⟩ := c_ordBack (E := E) (β := Int × ax_H) Hk hE hE1 OV.1 b2 b6 Bk ⟨by omega, by omega⟩ Lk.1 (frk _ (hz7 _ (by omega) (by omega))) (by rw [b28]; exact Lk.2.1) el (by omega) (by omega)
    have blk : Blk x (8 + 1920 + 1) (130 + 26400 + 24) g1 h3 := ((bl7.trans Bl).trans ((by rw [egk]; exact Blk_x trivial : Blk x 0 0 g' gk).trans w5)).up (by decide) (by decide)
    obtain ⟨h', v1, v2, v3⟩ := c_told (v := (ordR s L).1) w4 blk (by omega) (by omega)
    rw [if_neg c0, if_neg c0, ← egk, i2_of (by omega) (by omega), if_pos (by omega)]
    refine ⟨du', h', (w3 (fun h => f_X0_orders_137 E (some x) (ordR s L).1 h)).trans ?_, ?_, v3.up (by decide) (by decide)⟩
    · unfold f_X0_orders_137
      rw [f_ce w4.2.1.1 (by decide), Option.bind_some, v1, Option.bind_some, eS]
    · rw [eS]
      exact v2
end
