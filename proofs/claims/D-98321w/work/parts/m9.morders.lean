/-! Orders: the model whole -/
set_option maxRecDepth 100000
section
variable {E : ax_E} {m : Nat} {s : Sg} {h : ax_H} {n : Int}
theorem m_orders (V : VW n s) (hn : n ≤ 1000000000) : ∃ s', f_X5_orders E (some m) (mdl m s h) = some ((ordersS s).1, mdl m s' h) ∧ Ew (telP (ordersS s)).2 s' := by
  have h11 := V.2.2.2.1
  have re := V.1.2.2.2.2
  have hN4 : tpN s ≤ 400 := by unfold tpN; omega
  have hN : ((tpN s : Nat) : Int) = s 0 11 := by unfold tpN; omega
  have hr : ∀ k : Int, 0 ≤ k → k < 7 → 0 ≤ s 1 k ∧ s 1 k ≤ 1000000000 := fun k k0 k1 => by have := re k k0 k1; omega
  have V0 := z47_VW V
  have G0 := V0.1.1
  unfold f_X5_orders
  have p47 : ax_pI (mdl m s h) (some m) 5 47 (-1) = some (mdl m (z47 s) h) := md_pI47
  rw [p47, Option.bind_some, if_pos (Or.inr rfl)]
  obtain ⟨s0, es0⟩ : ∃ s0, s0 = sw (z47 s) 0 (u1 (z47 s 0) 8 1) := ⟨_, rfl⟩
  have p8 : ax_pI (mdl m (z47 s) h) (some m) 5 8 1 = some (mdl m s0 h) := by rw [es0]; exact md_pI
  have q0 : Ew (z47 s) s0 := by rw [es0]; exact Ew_0 (by unfold RpK; decide) (by decide)
  have o0 : ∀ q : Nat, q ≠ 0 → s0 q = s q := fun q hq => by rw [es0, sw_ne _ hq]; exact z47_o hq
  have z11 : s0 0 11 = s 0 11 := by rw [es0, sw_eq, u1_ne _ (by decide)]; exact z47_0 (by decide)
  have g0 := q0.2.2 G0
  have V0' : TpV s0 := by
    have t := V.tpv
    unfold TpV at *
    rw [o0 7 (by decide), o0 6 (by decide)]
    exact t
  obtain ⟨s1, p1, e1, f16, ft⟩ := m_reads (E := E) (m := m) (h := h) (s := s0) (o := 1) (N := tpN s) (cl := pOrder (cT (s 7) (tpN s)) (wT (s 7) (tpN s))) g0 V0' (by rw [z11]; exact hN) hN4 (by rw [es0, sw_eq, u1_eq]) (Or.inr rfl) (fun sb R => by rw [o0 7 (by decide)] at R ⊢; exact m_rOne1 R)
  rw [o0 7 (by decide)] at p1 e1 f16 ft
  have eP : pAll (cT (s 7) (tpN s)) (toks (s 7) (tpN s)) (pOrder (cT (s 7) (tpN s)) (wT (s 7) (tpN s))) 12 0 0 = ordP s := rfl
  rw [eP] at p1 e1
  have qE : ∀ f : Int, i2 f = f → Ew (rdE (z47 s) f) (rdE s0 f) := fun f hf => by
    have a := Ew_u0 (k := 11) (v := 0) q0 g0 (by decide)
    have b := Ew_u0 (k := 12) (v := f) a (G32_sw g0 (u1_32 (g0 0) (by decide))) hf
    rw [sw_eq, sw_sw, sw_eq, sw_sw] at b
    exact b
  rw [p8, Option.bind_some, md_ce, Option.bind_some, p1, Option.bind_some]
  dsimp only
  unfold ordersS
  cases hL : ordP s with
  | inl t =>
    rw [hL] at p1 e1
    have pf : i2 (rdV (s 7) (tpN s) (.inl t : Int ⊕ List Od)) = rdV (s 7) (tpN s) (.inl t : Int ⊕ List Od) := by
      show i2 (pos (s 7) (tpN s) t.toNat : Int) = _
      have := pos_le (T := s 7) (N := tpN s) t.toNat
      exact i2_of (by omega) (by omega)
    have q1 := (qE _ pf).trans e1
    have g1 := q1.2.2 (rdE_32 V0 pf)
    have r0 : rdOk (.inl t : Int ⊕ List Od) = 0 := rfl
    rw [r0, if_pos (by decide), md_ce, Option.bind_some, m_refuses (by decide) (by decide), Option.bind_some]
    refine ⟨_, rfl, ?_⟩
    have e := Ew_tel (v := -6) q1 g1 (by decide) (fun k k0 k1 => by
      have : rdE (z47 s) (rdV (s 7) (tpN s) (.inl t : Int ⊕ List Od)) 1 = s 1 := by unfold rdE; rw [sw_ne _ (by decide)]; exact z47_o (by decide)
      rw [this]; exact hr k k0 k1)
    exact e
  | inr L =>
    rw [hL] at p1 e1
    have q1 := (qE (-1) (by decide)).trans e1
    have g1 := q1.2.2 (rdE_32 V0 (by decide))
    have k1 : s1 2 = s 2 := by rw [q1.k]; unfold rdE; rw [sw_ne _ (by decide)]; exact z47_o (by decide)
    have r1 : rdOk (.inr L : Int ⊕ List Od) = 1 := rfl
    have t4 := toks_4 V
    obtain ⟨tk, etk⟩ : ∃ tk, tk = toks (s 7) (tpN s) := ⟨_, rfl⟩
    rw [← etk] at t4 f16
    -- laid aside
    obtain ⟨s2, es2⟩ : ∃ s2, s2 = sw s1 5 (cpR (s1 5) (73 * 10) (s1 2) 73) := ⟨_, rfl⟩
    have la : f_X5_laysAside E (some m) 10 (mdl m s1 h) = some (mdl m s2 h) := by rw [m_laysAside (by decide) (by decide), es2]
    have st : ∀ (Z : Sg) (q u : Int), 0 ≤ q → q < 1184 → ax_sto (mdl m Z h) (some (m + 15)) 100 q u = some (mdl m (sw Z 15 (u1 (Z 15) q u)) h) := fun Z q u a b => md_sto15 a b
    have ld : ∀ (Z : Sg) (q : Int), 0 ≤ q → q < 1184 → ax_ld E (mdl m Z h) (some (m + 14)) 100 q = some (Z 14 q) := fun Z q a b => md_ld14 a b
    obtain ⟨s3, es3⟩ : ∃ s3, s3 = sw s2 15 (cpR (s2 15) 0 (s2 14) 1184) := ⟨_, rfl⟩
    have o3 : ∀ q : Nat, q ≠ 5 → q ≠ 15 → s3 q = s1 q := fun q a b => by rw [es3, sw_ne _ b, es2, sw_ne _ a]
    have g2 : G32 s2 := by rw [es2]; exact G32_sw g1 (cpR_32 (g1 5) (g1 2))
    have g3 : G32 s3 := by rw [es3]; exact G32_sw g2 (cpR_32 (g2 15) (g2 14))
    have r28 : s1 0 28 = s 0 28 := by
      rw [q1.2.1 28 (by unfold RpK; decide)]
      unfold rdE
      rw [sw_eq, u1_ne _ (by decide), u1_ne _ (by decide)]
      exact z47_0 (by decide)
    have lk : laysK (s3 2) 6 (s3 9) (s3 10) tk = layS s 6 := by
      unfold layS laysK
      rw [o3 2 (by decide) (by decide), o3 9 (by decide) (by decide), o3 10 (by decide) (by decide), k1, ← etk, cpR_cg (g := s1 9) (g' := cT (s 7) (tpN s)) (fun i i0 i1 => by
        have q := (ft i.toNat (by omega)).1
        rw [Int.toNat_of_nonneg i0] at q
        exact q), cpR_cg (g := s1 10) (g' := wT (s 7) (tpN s)) (fun i i0 i1 => by
        have q := (ft i.toNat (by omega)).2
        rw [Int.toNat_of_nonneg i0] at q
        exact q)]
    obtain ⟨s4, es4⟩ : ∃ s4, s4 = sw s3 2 (layS s 6) := ⟨_, rfl⟩
    have g4 : G32 s4 := by rw [es4]; exact G32_sw g3 (lay6_32 V)
    have ml : f_X5_lays E (some m) 6 (mdl m s3 h) = some (mdl m s4 h) := by
      rw [m_lays (n := tk) (by rw [o3 0 (by decide) (by decide)]; exact f16) t4 (by decide), lk, es4]
    obtain ⟨s7, es7⟩ : ∃ s7, s7 = sw s4 0 (u1 (u1 (u1 (s4 0) 48 0) 49 (-1)) 50 2400) := ⟨_, rfl⟩
    have g7 : G32 s7 := by rw [es7]; exact G32_sw g4 (u1_32 (u1_32 (u1_32 (g4 0) (by decide)) (by decide)) (by decide))
    have s40 : s4 0 = s1 0 := by rw [es4, sw_ne _ (by decide)]; exact o3 0 (by decide) (by decide)
    have s72 : s7 2 = layS s 6 := by rw [es7, sw_ne _ (by decide), es4, sw_eq]
    have OV := begS_VW V0
    have T : TxO (begS (z47 s) 2) (toks (s 7) (tpN s)) (cT (s 7) (tpN s)) (wT (s 7) (tpN s)) := by
      rw [begS_2, z47_lay]
      exact lay6_T V
    have eo : Eo (2400 + 0) (s7 5) (s7 15) (begS (z47 s)) s7 := by
      refine ⟨fun o ho => ?_, fun k hk => ?_, g7, by rw [es7, sw_eq, u1_eq]; rfl, rfl, rfl⟩
      · have ho' := ho
        unfold RpO at ho'
        by_cases c2 : o = 2
        · subst c2
          rw [s72, begS_2, z47_lay]
        · rw [begS_o (by omega) c2, es7, sw_ne _ (by omega), es4, sw_ne _ c2, o3 o (by omega) (by omega), q1.1 o ho]
          unfold rdE
          rw [sw_ne _ (by omega)]
      · rw [es7, sw_eq, s40]
        unfold RpK at hk
        by_cases c48 : k = 48
        · subst c48
          rw [u1_ne _ (by decide), u1_ne _ (by decide), u1_eq]
          unfold begS
          rw [sw_eq, u1_ne _ (by decide), u1_eq]
        · by_cases c49 : k = 49
          · subst c49
            rw [u1_ne _ (by decide), u1_eq]
            unfold begS
            rw [sw_eq, u1_eq]
          · rw [u1_ne _ (by omega), u1_ne _ c49, u1_ne _ c48, q1.2.1 k (by unfold RpK; omega)]
            unfold begS rdE
            rw [sw_eq, sw_eq, u1_ne _ c49, u1_ne _ c48]
    obtain ⟨a1, a2, q, Y, eY, run⟩ := m_ordLoop (E := E) (m := m) (h := h) (x1 := s 0 28) 12 0 0 0 0 L (begS (z47 s)) s7 hL OV.1 OV.2 (by decide) T eo (Int.le_refl 0) (by have := T.1; omega) (Int.le_refl 0) (by decide)
    obtain ⟨b1, b2, b3, b4, b5⟩ := allS_V (n := n) L 0 0 (begS (z47 s)) a1 OV (by omega)
    have y163 : layS s 6 163 = tk := by
      rw [etk]
      exact laysK_n (t := 6) (by decide)
    have fin : ∀ res : Int × ax_H, f_X5_orders_101 E (some m) (s 0 28) (2400 + tk) 0 (mdl m s7 h) = some res → f_X5_orders_32 E (some m) 0 (mdl m s2 h) = some res := by
      intro res hres
      have tr := it_traj (body := fun y : Int × ax_H => lb_X5_orders_32 E (some m) y.1 y.2) (fun t => ((t : Int), mdl m (sw s2 15 (cpR (s2 15) 0 (s2 14) t)) h)) 1184 (r := res) (fun t ht => by
        dsimp only
        unfold lb_X5_orders_32
        rw [i2_of (a := (t : Int)) (by omega) (by omega), show i2 1184 = 1184 by decide, if_pos (by omega), md_gR27, Option.bind_some, md_gR26, Option.bind_some, ld _ _ (by omega) (by omega), Option.bind_some, sw_ne _ (by decide), st _ _ _ (by omega) (by omega), Option.bind_some, sw_sw, sw_eq, cpR_s (by omega) (by omega)]
        rfl) (by
        have e3' : sw s2 15 (cpR (s2 15) 0 (s2 14) ((1184 : Nat) : Int)) = s3 := es3.symm
        have e7' : sw s4 0 (u1 (u1 (u1 (s4 0) 48 0) 49 (-1)) 50 2400) = s7 := es7.symm
        have z28 : s3 0 28 = s 0 28 := by rw [o3 0 (by decide) (by decide)]; exact r28
        have z50 : s7 0 50 = 2400 := by rw [es7, sw_eq, u1_eq]
        dsimp only
        unfold lb_X5_orders_32
        rw [e3', show ((1184 : Nat) : Int) = 1184 from rfl, if_neg (Int.lt_irrefl _), md_gI28, Option.bind_some, z28, md_ce, Option.bind_some, ml, Option.bind_some, md_pI48, Option.bind_some, md_pI49, Option.bind_some, sw_eq, sw_sw, md_pI50, Option.bind_some, sw_eq, sw_sw, e7', md_gI50, Option.bind_some, z50, md_gR2, Option.bind_some, md_ld2 (by decide) (by decide), Option.bind_some, s72, y163, hres]
        rfl)
      unfold f_X5_orders_32
      have e0 : sw s2 15 (cpR (s2 15) 0 (s2 14) ((0 : Nat) : Int)) = s2 := by
        rw [show ((0 : Nat) : Int) = 0 from rfl, cpR_0, sw_self]
      rw [e0] at tr
      exact tr
    have eR : allS L 0 (begS (z47 s)) = ordR s L := rfl
    rw [eR] at eY run b1 b2 b3 b4 b5
    rw [← etk] at run
    rw [r1, if_neg (by decide), md_ce, Option.bind_some, la, Option.bind_some]
    have gY := eY.2.2.1
    have h48 := b1.2.1
    have rb : ∀ k : Int, 0 ≤ k → k < 7 → 0 ≤ (ordR s L).2.2 1 k ∧ (ordR s L).2.2 1 k ≤ 1000000000 := fun k k0 k1 => by
      rw [b2.1 1 (by decide) (by decide) (by decide), begS_o (by decide) (by decide), z47_o (by decide)]
      exact hr k k0 k1
    dsimp only
    by_cases c0 : (ordR s L).1 = 0
    · rw [if_pos c0] at run
      rw [if_pos c0, fin _ run]
      refine ⟨_, rfl, ?_⟩
      show Ew (telM (ordR s L).2.2 ((ordR s L).2.2 0 48)) _
      unfold telM
      rw [if_neg (by omega)]
      exact Ew_good eY.ew gY
    · rw [if_neg c0] at run
      rw [if_neg c0, fin _ run]
      refine ⟨_, rfl, ?_⟩
      show Ew (telM (bakO (begS (z47 s)) (ordR s L).2.2 (ordR s L).2.1) (ordR s L).1) _
      have y2 : cpR (Y 2) 0 (fun i => Y 5 (73 * 10 + i)) 73 = cpR ((ordR s L).2.2 2) 0 (begS (z47 s) 2) 73 := by
        rw [eY.k2]
        refine cpR_cg (fun i i0 i1 => ?_)
        rw [eY.2.2.2.2.1, es7, sw_ne _ (by decide), es4, sw_ne _ (by decide), es3, sw_ne _ (by decide), es2, sw_eq, cpR_in (by omega), begS_2, z47_lay, lay6_o V (by omega), k1]
        congr 1
        omega
      have y14 : cpR (Y 14) 0 (Y 15) 1184 = cpR ((ordR s L).2.2 14) 0 (begS (z47 s) 14) 1184 := by
        rw [eY.1 14 (by unfold RpO; decide)]
        refine cpR_cg (fun i i0 i1 => ?_)
        rw [eY.2.2.2.2.2, es7, sw_ne _ (by decide), es4, sw_ne _ (by decide), es3, sw_eq, cpR_in (by omega), es2, sw_ne _ (by decide), begS_o (by decide) (by decide), z47_o (by decide), q1.1 14 (by unfold RpO; decide)]
        unfold rdE
        rw [sw_ne _ (by decide), z47_o (by decide), Int.sub_zero]
      have x28 : begS (z47 s) 0 28 = s 0 28 := by rw [begS_0 (by decide) (by decide) (by decide) (by decide), z47_0 (by decide)]
      have f2 : ∀ i, i2 (cpR ((ordR s L).2.2 2) 0 (begS (z47 s) 2) 73 i) = cpR ((ordR s L).2.2 2) 0 (begS (z47 s) 2) 73 i := cpR_32 (b1.1.1.1 2) (OV.1.1.1 2)
      have f14 : ∀ i, i2 (cpR ((ordR s L).2.2 14) 0 (begS (z47 s) 14) 1184 i) = cpR ((ordR s L).2.2 14) 0 (begS (z47 s) 14) 1184 i := cpR_32 (b1.1.1.1 14) (OV.1.1.1 14)
      have w1 := Ew_sw (o := 2) eY.ew (by decide) gY f2
      have w1g := G32_sw (o := 2) gY f2
      have w2 := Ew_sw (o := 14) w1 (by decide) w1g f14
      have w2g := G32_sw (o := 14) w1g f14
      have i28 : i2 (s 0 28) = s 0 28 := V.1.1 0 28
      have w3 := Ew_u0 (k := 28) (v := s 0 28) w2 w2g i28
      have w3g := G32_sw (o := 0) w2g (u1_32 (w2g 0) i28 (i := 28))
      have ik : i2 (ordR s L).2.1 = (ordR s L).2.1 := i2_of (by omega) (by omega)
      have w4 := Ew_u0 (k := 47) (v := (ordR s L).2.1) w3 w3g ik
      have w4g := G32_sw (o := 0) w3g (u1_32 (w3g 0) ik (i := 47))
      have eS : sw (sw (sw (sw (ordR s L).2.2 2 (cpR ((ordR s L).2.2 2) 0 (begS (z47 s) 2) 73)) 14 (cpR ((ordR s L).2.2 14) 0 (begS (z47 s) 14) 1184)) 0 (u1 (sw (sw (ordR s L).2.2 2 (cpR ((ordR s L).2.2 2) 0 (begS (z47 s) 2) 73)) 14 (cpR ((ordR s L).2.2 14) 0 (begS (z47 s) 14) 1184) 0) 28 (s 0 28))) 0 (u1 (sw (sw (sw (ordR s L).2.2 2 (cpR ((ordR s L).2.2 2) 0 (begS (z47 s) 2) 73)) 14 (cpR ((ordR s L).2.2 14) 0 (begS (z47 s) 14) 1184)) 0 (u1 (sw (sw (ordR s L).2.2 2 (cpR ((ordR s L).2.2 2) 0 (begS (z47 s) 2) 73)) 14 (cpR ((ordR s L).2.2 14) 0 (begS (z47 s) 14) 1184) 0) 28 (s 0 28)) 0) 47 (ordR s L).2.1) = bakO (begS (z47 s)) (ordR s L).2.2 (ordR s L).2.1 := by
        unfold bakO
        rw [sw_eq, sw_sw, sw_ne (p := 0) (o := 14) _ (by decide), sw_ne (p := 0) (o := 2) _ (by decide), x28]
      have eM : sw (sw (sw (sw Y 2 (cpR ((ordR s L).2.2 2) 0 (begS (z47 s) 2) 73)) 14 (cpR ((ordR s L).2.2 14) 0 (begS (z47 s) 14) 1184)) 0 (u1 (sw (sw Y 2 (cpR ((ordR s L).2.2 2) 0 (begS (z47 s) 2) 73)) 14 (cpR ((ordR s L).2.2 14) 0 (begS (z47 s) 14) 1184) 0) 28 (s 0 28))) 0 (u1 (sw (sw (sw Y 2 (cpR ((ordR s L).2.2 2) 0 (begS (z47 s) 2) 73)) 14 (cpR ((ordR s L).2.2 14) 0 (begS (z47 s) 14) 1184)) 0 (u1 (sw (sw Y 2 (cpR ((ordR s L).2.2 2) 0 (begS (z47 s) 2) 73)) 14 (cpR ((ordR s L).2.2 14) 0 (begS (z47 s) 14) 1184) 0) 28 (s 0 28)) 0) 47 (ordR s L).2.1) = bakM (sw Y 2 (cpR (Y 2) 0 (fun i => Y 5 (73 * 10 + i)) 73)) (s 0 28) (ordR s L).2.1 := by
        unfold bakM
        rw [y2, sw_eq, sw_sw, sw_ne (p := 0) (o := 14) _ (by decide), sw_ne (p := 0) (o := 2) _ (by decide), sw_ne (p := 14) (o := 2) _ (by decide), sw_ne (p := 15) (o := 2) _ (by decide), y14]
      rw [eS, eM] at w4
      rw [eM] at w4g
      have hc : (ordR s L).1 < 0 := by omega
      have e := Ew_tel (v := (ordR s L).1) w4 w4g (by omega) (fun k k0 k1 => by
        have : bakO (begS (z47 s)) (ordR s L).2.2 (ordR s L).2.1 1 = (ordR s L).2.2 1 := by
          unfold bakO
          rw [sw_ne _ (by decide), sw_ne _ (by decide), sw_ne _ (by decide)]
        rw [this]; exact rb k k0 k1)
      have em : telM (bakM (sw Y 2 (cpR (Y 2) 0 (fun i => Y 5 (73 * 10 + i)) 73)) (s 0 28) (ordR s L).2.1) (ordR s L).1 = sRef (bakM (sw Y 2 (cpR (Y 2) 0 (fun i => Y 5 (73 * 10 + i)) 73)) (s 0 28) (ordR s L).2.1) (ordR s L).1 := if_pos hc
      rw [em] at e
      exact e
end
