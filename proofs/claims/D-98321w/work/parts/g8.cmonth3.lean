/-! A month: the component answers -/
set_option maxRecDepth 100000
section
variable {E : ax_E} {h0 h g : ax_H} {x t dl dv ds du : Nat} {s s1 s' : Sg} {K : Rw} {L : Int}
theorem c_dwRun {n : Nat} {x5 : Int} (H : REP E h0 x t dl dv ds du s) (hG : G32 s) (hKB : KB (s 2)) (V : MoV (s 2) K) (hn : (n : Int) = s 2 152) (e1 : h0.1 + 20 ≤ E.1.1) (e2 : h0.2.1 + 120 ≤ E.1.2) : ∀ (j k : Nat) (g : ax_H), k + j = n → DwI x h0 n K k g → ∃ g2, DwI x h0 n K n g2 ∧ ∀ r, f_X0_tell E (some x) x5 g2 = some r → ax_iter (fun s : Int × ax_H => lb_X0_month_265 E (some x) (some (h0.1 + 1)) x5 s.1 s.2) ((k : Int), g) = some r := by
  intro j
  induction j with
  | zero =>
    intro k g ek D
    have : k = n := by omega
    subst this
    refine ⟨g, D, fun r hr => it_done ?_⟩
    have n7 := hKB.1
    have R := (H.r17 (r := some (h0.1 + 7))).keep D.1
    have i6 : hI g t 6 = s 2 152 := by have := R.2.2.2.2.1.2.1.1; rw [s59_o s 2 (by decide)] at this; exact this
    dsimp only
    unfold lb_X0_month_265
    rw [f_gR R.2.1.1 (by decide), R.2.1.2.1, Option.bind_some, f_gI R.2.2.2.2.1.1.1 (by decide), i6, Option.bind_some, ← hn, if_neg (by omega), f_ce R.2.1.1 (by decide), Option.bind_some, hr]
    rfl
  | succ j ih =>
    intro k g ek D
    obtain ⟨g2, p2, D2⟩ := c_dwStep (E := E) (x5 := x5) H hG hKB V hn e1 e2 D (by omega)
    obtain ⟨g3, D3, k3⟩ := ih (k + 1) g2 (by omega) D2
    refine ⟨g3, D3, fun r hr => ?_⟩
    have q := k3 r hr
    rw [show ((k + 1 : Nat) : Int) = (k : Int) + 1 by omega] at q
    exact (it_step (body := fun s : Int × ax_H => lb_X0_month_265 E (some x) (some (h0.1 + 1)) x5 s.1 s.2) (s := ((k : Int), g)) p2).trans q
/-- the month's last part: what was drawn is laid down -/
theorem c_dwEnd {x5 : Int} (P : MoC E x t dl dv ds du s h0 L g K) (V : MoV (s 2) K) (l1 : -7 < x5) (l2 : x5 ≤ 1000000000) (e1 : h0.1 + 20 ≤ E.1.1) (e2 : h0.2.1 + 120 ≤ E.1.2) : ∃ g', f_X0_month_248 E (some x) (some (h0.1 + 1)) x5 g = some (x5, g') ∧ REP E g' x t dl dv ds du (telM (sw (moEnd s K (s 2 152).toNat) 0 (u1 (s 0) 59 (s 2 152))) x5) ∧ Blk x 20 120 h0 g' := by
  obtain ⟨u1', u2', u3', -, -⟩ := P.ppl
  obtain ⟨H, hG, hKB, hu, B, -, -, hD, kp, ⟨z1, z2⟩⟩ := P
  have hx := H.1.1.1
  have n7 := hKB.1
  obtain ⟨n, en⟩ : ∃ n : Nat, n = (s 2 152).toNat := ⟨_, rfl⟩
  have hn : (n : Int) = s 2 152 := by omega
  have R := H.keep kp
  have c1 : ∀ c, c ≠ g.1 → (nwH g 111 n n).2.2 c = g.2.2 c := fun c hc => hC_nw_ne hc
  have kn : Kp x h0 (nwH g 111 n n) := Kp_nw kp hx
  have k17 : Kp x (wR h0 x 17 (some (h0.1 + 7))) (wR (nwH g 111 n n) x 17 (some (h0.1 + 7))) := Kp_17 kn hx
  have D0 : DwI x h0 n K 0 (wR (nwH g 111 n n) x 17 (some (h0.1 + 7))) := by
    refine ⟨k17, (B.fr (fun a y1 y2 => c1 a (by omega))).fr (fun a y1 y2 => hC_wR_ne (by omega)), ⟨by show g.1 + 1 = _; omega, by show g.2.1 + n = _; omega⟩, ⟨?_, ?_⟩, fun j hj => absurd hj (Nat.not_lt_zero j)⟩
    · rw [hT_wR, ← z1]; exact hT_nw_eq
    · rw [hL_wR, ← z1]; exact hL_nw_eq
  obtain ⟨g2, D, run⟩ := c_dwRun (E := E) (x5 := x5) H hG hKB V hn e1 e2 n 0 _ (by omega) D0
  obtain ⟨d1, d2, ⟨d3, d3'⟩, ⟨d4, d5⟩, d6⟩ := D
  have H17 := (H.r17 (r := some (h0.1 + 7))).keep d1
  have rx : hR g2 x 17 = some (h0.1 + 7) := ((d1.2.2.2.2.1 x (by omega) (by omega)).2.2 (by rw [hT_wR, H.2.1.1]; decide) 17).trans hR_wR_eq
  obtain ⟨⟨q1, q2, q3⟩, ⟨b1, b2, b3, b4⟩, -, -, ex⟩ := id H.1
  have fz : ∀ a, h0.1 ≤ a → a < g2.1 → Frz g2 x t dl dv ds du a := by
    intro a a0 a1
    refine ⟨by omega, a1, ?_⟩
    unfold Mut
    unfold Dok at b1 b2 b3 b4
    omega
  obtain ⟨s', es⟩ : ∃ s', s' = sw (moEnd s K n) 0 (u1 (s 0) 59 n) := ⟨_, rfl⟩
  have s0 : s' 0 = u1 (s 0) 59 n := by rw [es, sw_eq]
  have so : ∀ o : Nat, o ≠ 0 → s' o = moEnd s K n o := fun o ho => by rw [es, sw_ne _ ho]
  have me : ∀ o : Nat, o ≠ 29 → o ≠ 30 → o ≠ 31 → moEnd s K n o = s o := fun o o1 o2 o3 => by
    unfold moEnd
    rw [sw_ne _ o3, sw_ne _ o2, sw_ne _ o1]
  have H2 : REP E g2 x t dl dv ds du s' := by
    refine H17.dr (fun o ho => ?_) (fun k hk => ?_) (Or.inr (Or.inl ⟨h0.1 + 7, rx, fz _ (by omega) (by omega), d4, ?_, ?_, fun p hp => ?_⟩))
    · rw [so o (by omega), me o (by omega) (by omega) (by omega), s59_o s o (by omega)]
    · rw [s0, u1_ne _ (by omega)]
      unfold s59
      rw [sw_eq, u1_ne _ (by omega)]
    · rw [d5, s0, u1_eq]
    · rw [s0, u1_eq]; omega
    · rw [s0, u1_eq] at hp
      obtain ⟨y1, y2, y3, y4, y5, y6⟩ := d6 p (by omega)
      refine ⟨_, y1, fz _ (by omega) (by omega), y2, y3, y4.trans ?_, y5.trans ?_, y6.trans ?_⟩
      · rw [so 29 (by decide)]
        unfold moEnd
        rw [sw_ne _ (by decide), sw_ne _ (by decide), sw_eq, cpR_in (by omega), Int.sub_zero]
      · rw [so 30 (by decide)]
        unfold moEnd
        rw [sw_ne _ (by decide), sw_eq, cpR_in (by omega), Int.sub_zero]
      · rw [so 31 (by decide)]
        unfold moEnd
        rw [sw_eq, cpR_in (by omega), Int.sub_zero]
  have bl : Blk x 20 120 h0 g2 := ⟨by omega, by omega, by omega, by omega, fun a y1 y2 => (d1.2.2.2.2.2.2 a y1 y2).trans (hC_wR_ne (by omega))⟩
  obtain ⟨g3, v1, v2, v3⟩ := c_told (E := E) (v := x5) H2 bl l1 l2
  rw [es, hn, en] at v2
  refine ⟨g3, ?_, v2, v3⟩
  unfold f_X0_month_248 f_X0_month_265
  rw [u1', Option.bind_some, u2', Option.bind_some, f_na (by omega) (by omega) (by omega) (by omega), Option.bind_some, ← en, z1]
  dsimp only
  rw [f_pR (by rw [hT_nw_ne (by omega)]; exact R.2.1.1) (by decide), Option.bind_some]
  exact run _ v1
theorem c_month {L d N : Int} (H : REP E h x t dl dv ds du s) (V : VW N s) (hL : i2 L = L) (hd : i2 d = d) (e1 : h.1 + 20 ≤ E.1.1) (e2 : h.2.1 + 120 ≤ E.1.2) : ∃ h', f_X0_month E (some x) L d h = some ((monthS s L d).1, h') ∧ REP E h' x t dl dv ds du (telM (monthS s L d).2 (monthS s L d).1) ∧ Blk x 20 120 h h' := by
  have hG := V.1.1
  have hK := V.1.2.1
  have h7 := hK.1
  have bL := i2_lh hL
  have bd := i2_lh hd
  have a1 := H.2.1.1
  have hx := H.1.1.1
  have b0 := (Blk.refl x h).up (c' := 20) (z' := 120) (by decide) (by decide)
  unfold f_X0_month f_X0_month_24 monthS
  rw [hL, hd, c_in (by omega) (by decide) (by decide), Option.bind_some]
  by_cases c1 : 0 ≤ L ∧ L ≤ 1000000
  · rw [if_neg (by rw [b01_z]; exact fun z => z c1), c_in (by omega) (by decide) (by decide), Option.bind_some]
    by_cases c2 : 1 ≤ d ∧ d ≤ 30
    · rw [if_neg (by rw [b01_z]; exact fun z => z c2), if_neg (show ¬ ¬ ((0 ≤ L ∧ L ≤ 1000000) ∧ (1 ≤ d ∧ d ≤ 30)) from fun z => z ⟨c1, c2⟩)]
      dsimp only
      rw [f_gR a1 (by decide), H.2.1.2.1, Option.bind_some, f_gI H.2.2.2.2.1.1.1 (by decide), H.2.2.2.2.1.2.1.1, Option.bind_some, i2_of (a := s 2 152) (by omega) (by omega)]
      by_cases c3 : s 2 152 = 0
      · rw [if_pos c3, if_pos c3, f_ce a1 (by decide), Option.bind_some]
        obtain ⟨g, v1, v2, v3⟩ := c_told (E := E) (v := -3) H b0 (by decide) (by decide)
        exact ⟨g, by rw [v1, Option.bind_some], v2, v3⟩
      · rw [if_neg c3, if_neg c3]
        have hRV := hK.2.2.2.2
        have h71 := hRV.1
        -- draws, books
        obtain ⟨g1, q1⟩ : ∃ g1, g1 = wI (nwH h 33 0 1) h.1 0 L := ⟨_, rfl⟩
        have n1 : g1.1 = h.1 + 1 := by rw [q1]; rfl
        have n2 : g1.2.1 = h.2.1 + 1 := by rw [q1]; rfl
        have c1' : ∀ c, c ≠ h.1 → g1.2.2 c = h.2.2 c := fun c hc => by rw [q1]; exact (hC_wI_ne hc).trans (hC_nw_ne hc)
        have k1 : Kp x h g1 := by rw [q1]; exact Kp_wIn (Kp_nw (Kp.refl x h) hx) hx (Nat.le_refl _)
        have H1 := H.keep k1
        have nb := c_newB (E := E) (h := g1) (by omega) (by omega)
        have ext := newB_ext (h := g1)
        have k2 : Kp x h (newB g1) := Kp_ext k1 hx ext.1 ext.2.1 (fun b hb => ext.2.2 b (by omega))
        have H2 := H.keep k2
        have BS2 := newB_BS (h := g1)
        have tl := H.1.1
        obtain ⟨g3, p3, B3, O3⟩ := c_as (E := E) (a := g1.1) (b := t + 4) BS2 H2.bk (Or.inr (by omega)) h71.1 h71.2
        have k3 : Kp x h g3 := Kp_onn k2 hx (show h.1 ≤ g1.1 by omega) O3.1
        have x33 : g3.2.2 h.1 = g1.2.2 h.1 := (O3.1.2.2 _ (Or.inl (by omega))).trans (ext.2.2 _ (by omega))
        have P0 : MoC E x t dl dv ds du s h L g3 (s 2) := by
          refine ⟨H, hG, hK, fun i _ => rfl, by rw [← n1]; exact B3, hK, fun i => hG 2 i, ⟨?_, ?_⟩, k3, ⟨?_, ?_⟩⟩
          · unfold hT; rw [hC_eq x33]; show hT g1 h.1 = 33; rw [q1, hT_wI]; exact hT_nw_eq
          · unfold hI; rw [hC_eq x33]; show hI g1 h.1 0 = L; rw [q1]; exact hI_wI_eq
          · rw [O3.1.1, newB_1]; omega
          · rw [O3.1.2.1, newB_2]; omega
        have A0 : MoA (s 2) 0 (0, 1, L, s 2) := ⟨⟨⟨Int.le_refl _, Int.le_refl _⟩, ⟨c1.1, by show L ≤ 1000002; omega⟩, ⟨V.2.1, hG 2, fun i _ => rfl⟩⟩, Or.inr rfl⟩
        obtain ⟨g4, P4, run⟩ := c_moRun (E := E) (n := s 2 152) (x2 := d) rfl (by omega) (by omega) d.toNat (0, 1, L, s 2) g3 0 0 (by omega) (by decide) A0 P0
        have A1 := moRun_A (n := s 2 152) (K0 := s 2) rfl (by omega) d.toNat (0, 1, L, s 2) 0 A0
        have eF : moRun (s 2 152) d.toNat (0, 1, L, s 2) = moF s L d := rfl
        rw [eF] at A1 P4 run
        obtain ⟨⟨lent, on, L', K'⟩, eq⟩ : ∃ q, q = moF s L d := ⟨_, rfl⟩
        rw [← eq] at A1 P4 run ⊢
        dsimp only at P4 run ⊢
        obtain ⟨⟨A2, -, VK⟩, -⟩ := A1
        dsimp only at A2 VK
        obtain ⟨g5, p5, R5, b5⟩ := c_dwEnd (E := E) (x5 := lent) P4 VK (by omega) (by omega) e1 e2
        refine ⟨g5, ?_, R5, b5⟩
        unfold f_X0_month_81
        rw [f_nw (by omega) (by omega), Option.bind_some]
        dsimp only
        rw [Option.bind_some]
        unfold f_X33_init
        rw [Option.bind_some, hL, f_pI hT_nw_eq (by decide), Option.bind_some, ← q1, Option.bind_some, nb.1, Option.bind_some]
        dsimp only
        rw [Option.bind_some, nb.2, Option.bind_some, f_ce H2.2.1.1 (by decide), Option.bind_some, c_books H2, Option.bind_some]
        dsimp only
        rw [f_ce BS2.1 (by decide), Option.bind_some, p3, Option.bind_some, n1]
        exact run _ p5
    · rw [if_pos (by rw [b01_z]; exact c2), if_pos (show ¬ ((0 ≤ L ∧ L ≤ 1000000) ∧ (1 ≤ d ∧ d ≤ 30)) from fun z => c2 z.2), f_ce a1 (by decide), Option.bind_some]
      obtain ⟨g, v1, v2, v3⟩ := c_told (E := E) (v := -1) H b0 (by decide) (by decide)
      exact ⟨g, by rw [v1, Option.bind_some], v2, v3⟩
  · rw [if_pos (by rw [b01_z]; exact c1), if_pos (show ¬ ((0 ≤ L ∧ L ≤ 1000000) ∧ (1 ≤ d ∧ d ≤ 30)) from fun z => c1 z.1), f_ce a1 (by decide), Option.bind_some]
    obtain ⟨g, v1, v2, v3⟩ := c_told (E := E) (v := -1) H b0 (by decide) (by decide)
    exact ⟨g, by rw [v1, Option.bind_some], v2, v3⟩
end
/-- what holds behind a month -/
theorem VW.dr {n : Int} {s s' : Sg} (H : VW n s) (g : G32 s') (e : ∀ o : Nat, (o = 1 ∨ o = 2 ∨ o = 3 ∨ o = 4 ∨ o = 6 ∨ o = 7 ∨ o = 14) → s' o = s o) (e0 : ∀ k : Int, (k = 11 ∨ k = 28) → s' 0 k = s 0 k) (d : 0 ≤ s' 0 59 ∧ s' 0 59 ≤ 7) : VW n s' := by
  obtain ⟨⟨g', kb, lv, un, re⟩, kw, im, tp, by_, wo, dr⟩ := H
  refine ⟨⟨g, by rw [e 2 (by decide)]; exact kb, by rw [e 2 (by decide)]; exact lv, ?_, by rw [e 1 (by decide)]; exact re⟩, by rw [e 2 (by decide)]; exact kw, fun k a b => ?_, by rw [e0 11 (by decide)]; exact tp, by rw [e 7 (by decide)]; exact by_, by rw [e 6 (by decide)]; exact wo, d⟩
  · unfold UnV
    rw [e0 28 (by decide), e 2 (by decide), e 14 (by decide)]
    exact un
  · unfold imgK
    rw [e 4 (by decide), e 3 (by decide)]
    exact im k a b
theorem monthS_VW {n L d : Int} {s : Sg} (H : VW n s) : VW n (monthS s L d).2 := by
  have hG := H.1.1
  have h7 := H.1.2.1.1
  unfold monthS
  by_cases c : ¬ ((0 ≤ L ∧ L ≤ 1000000) ∧ (1 ≤ d ∧ d ≤ 30))
  · rw [if_pos c]; exact H
  · rw [if_neg c]
    by_cases c3 : s 2 152 = 0
    · rw [if_pos c3]; exact H
    · rw [if_neg c3]
      have c' := Classical.not_not.mp c
      have A0 : MoA (s 2) 0 (0, 1, L, s 2) := ⟨⟨⟨Int.le_refl _, Int.le_refl _⟩, ⟨c'.1.1, by show L ≤ 1000002; omega⟩, ⟨H.2.1, hG 2, fun i _ => rfl⟩⟩, Or.inr rfl⟩
      have A1 := moRun_A (n := s 2 152) (K0 := s 2) rfl (by omega) d.toNat (0, 1, L, s 2) 0 A0
      have eF : moRun (s 2 152) d.toNat (0, 1, L, s 2) = moF s L d := rfl
      rw [eF] at A1
      obtain ⟨⟨-, -, VK⟩, -⟩ := A1
      generalize (moF s L d).2.2.2 = K at VK ⊢
      have hR := VK.1.1.2.2.2.2
      have gE : G32 (moEnd s K (s 2 152).toNat) := by
        unfold moEnd
        refine G32_sw (G32_sw (G32_sw hG (cpR_32 (hG 29) (fun i => VK.2.1 i))) (cpR_32 (hG 30) (fun i => ?_))) (cpR_32 (hG 31) (fun i => ?_))
        · have := bal_b hR i
          exact i2_of (by omega) (by omega)
        · have := ones16_b (doorsB K i).toNat
          exact i2_of (by omega) (by omega)
      show VW n (sw (moEnd s K (s 2 152).toNat) 0 (u1 (s 0) 59 (s 2 152)))
      refine H.dr (G32_sw gE (u1_32 (hG 0) (i2_of (by omega) (by omega)))) (fun o ho => ?_) (fun k hk => ?_) ?_
      · rw [sw_ne _ (by omega)]
        unfold moEnd
        rw [sw_ne _ (by omega), sw_ne _ (by omega), sw_ne _ (by omega)]
      · rw [sw_eq, u1_ne _ (by omega)]
      · rw [sw_eq, u1_eq]; omega
