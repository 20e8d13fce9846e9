/-! A row of debts from the tape: the component, its loop -/
set_option maxRecDepth 100000
section
variable {E : ax_E} {h : ax_H} {x t dl dv ds du : Nat} {s : Sg}
theorem ByR.ons {g g' : ax_H} {a n b m : Nat} {F : Rw} (A : ByR g a n F) (O : OnS b m g g') (ha : b + m ≤ a) : ByR g' a n F := by
  have e : hC g' a = hC g a := hC_eq (O.1.2.2 a (by omega))
  unfold ByR hT hL hI
  rw [e]
  exact A
theorem ByR.wI {g : ax_H} {a n b k : Nat} {v : Int} {F : Rw} (A : ByR g a n F) (ha : b ≠ a) : ByR (wI g b k v) a n F := by
  obtain ⟨q1, q2, q3⟩ := A
  refine ⟨by rw [hT_wI]; exact q1, by rw [hL_wI]; exact q2, fun i hi => ?_⟩
  rw [hI_wI_ne (by omega)]
  exact q3 i hi
theorem c_rowStep {n : Int} (V0 : VW n s) {g : ax_H} {a N : Nat} (k : Nat) (hN : (N : Int) = s 0 11) (hk : 4 * k + 4 ≤ N) (H : REP E g x t dl dv ds du (rwT s k 0)) (A : ByR g a N (s 7)) (ha : x + 116 ≤ a) (hat : t + 12 ≤ a) : ∃ g', lb_X0_row_49 E (some x) (some a) (rwK (s 2) (s 7) k).1 (4 * (k : Int)) g = some (.inl ((rwK (s 2) (s 7) (k + 1)).1, 4 * (k : Int) + 4, g')) ∧ REP E g' x t dl dv ds du (rwT s (k + 1) 0) ∧ ByR g' a N (s 7) ∧ Blk x 0 0 g g' := by
  have h11 := V0.2.2.2.1
  have V := rwT_VW V0 k 0 (by omega) (by omega)
  have hG := V.1.1
  have hK := V.2.1.1
  have by_ := V0.2.2.2.2.1
  have tl := H.1.1
  have a1 := H.2.1.1
  have y0 := by_ (4 * (k : Int)) (by omega) (by omega)
  have y1 := by_ (4 * (k : Int) + 1) (by omega) (by omega)
  have y2 := by_ (4 * (k : Int) + 2) (by omega) (by omega)
  have y3 := by_ (4 * (k : Int) + 3) (by omega) (by omega)
  have z0 := and255 y0.1 y0.2
  have z1 := and255 y1.1 y1.2
  have z2 := and255 y2.1 y2.2
  have z3 := and255 y3.1 y3.2
  have eA : 256 * ax_and (s 7 (4 * (k : Int) + 2)) 255 + ax_and (s 7 (4 * (k : Int) + 3)) 255 = rwA (s 7) k := by
    show _ = ax_and (s 7 (4 * (k : Int) + 2)) 255 * 256 + ax_and (s 7 (4 * (k : Int) + 3)) 255
    omega
  have bA : 0 ≤ rwA (s 7) k ∧ rwA (s 7) k ≤ 65535 := by omega
  obtain ⟨g1, p1, H1, O1⟩ := c_debtO (E := E) (p := s 7 (4 * (k : Int)) % 256) (q := s 7 (4 * (k : Int) + 1) % 256) (a := rwA (s 7) k) H hG hK (i2_of (by omega) (by omega)) (i2_of (by omega) (by omega)) (i2_of (by omega) (by omega))
  rw [debtS_un hK.1 y0 y1] at p1 H1
  have db := debtS_b hK (s 7 (4 * (k : Int))) (s 7 (4 * (k : Int) + 1)) (rwA (s 7) k)
  obtain ⟨D, eD⟩ : ∃ D, D = debtS (rwT s k 0) (s 7 (4 * (k : Int))) (s 7 (4 * (k : Int) + 1)) (rwA (s 7) k) := ⟨_, rfl⟩
  have e0 : D.2 0 = rwT s k 0 0 := by
    rw [eD, dbK_eq]
    dsimp only
    rw [sw_ne _ (by decide)]
  rw [← eD] at p1 H1 db
  have b1 : Blk x 0 0 g g1 := O1.blk (by omega)
  obtain ⟨H2, b2⟩ := c_blotted (v := rwT s k 0 0 6 + (if D.1 < 0 then 1 else 0)) H1 b1
  refine ⟨wI g1 x 9 (rwT s k 0 0 6 + (if D.1 < 0 then 1 else 0)), ?_, ?_, ((A.ons O1 (by omega)).wI (by omega)), b2⟩
  · have i9 : hI g1 x 9 = rwT s k 0 0 6 := by
      rw [H1.2.2.1.2.2.1, e0]
    have a2 := H1.2.1.1
    unfold lb_X0_row_49
    rw [f_len A.1 (by decide), Option.bind_some, A.2.1, i2_of (a := 4 * (k : Int)) (by omega) (by omega), i2_of (a := (N : Int)) (by omega) (by omega), if_pos (by omega), c_byteX A (by omega) (by omega) (by omega)]
    unfold ax_tc
    rw [Option.bind_some]
    dsimp only [Sum.elim]
    rw [i2_of (a := ax_and (s 7 (4 * (k : Int) + 3)) 255) (by omega) (by omega), show i2 (-1) = -1 by decide, if_neg (show ¬ ax_and (s 7 (4 * (k : Int) + 3)) 255 = -1 by omega), c_byteAt A (by omega) (by omega) (by omega), Option.bind_some]
    dsimp only
    rw [c_byteAt A (by omega) (by omega) (by omega), Option.bind_some]
    dsimp only
    rw [c_byteAt A (by omega) (by omega) (by omega), Option.bind_some]
    dsimp only
    rw [f_ce a1 (by decide), Option.bind_some, eA, z0, z1, p1, Option.bind_some]
    dsimp only
    rw [i2_of (a := D.1) (by omega) (by omega), rwK_s1 s k 0, ← eD]
    by_cases c : D.1 < 0
    · rw [if_pos c, if_pos c, if_pos c]
      unfold f_X0_row_110 f_X0_row_111 f_X0_row_124 f_X0_row_141 f_X0_row_317
      rw [show i2 0 = 0 by decide, if_pos rfl, f_gI a2 (by decide), i9, Option.bind_some, if_pos rfl, f_pI a2 (by decide), Option.bind_some]
    · rw [if_neg c, if_neg c, if_neg c]
      unfold f_X0_row_111 f_X0_row_124 f_X0_row_141 f_X0_row_317
      rw [show i2 1 = 1 by decide, if_neg (by decide), f_gI a2 (by decide), i9, Option.bind_some, if_neg (by decide), f_pI a2 (by decide), Option.bind_some]
  · rw [e0] at H2
    rw [rwT_s, ← eD]
    exact H2
theorem c_rowGo {n : Int} (V0 : VW n s) {a N : Nat} (hN : (N : Int) = s 0 11) (ha : x + 116 ≤ a) (hat : t + 12 ≤ a) : ∀ (j k : Nat) (g : ax_H), k + j = N / 4 → REP E g x t dl dv ds du (rwT s k 0) → ByR g a N (s 7) → ∃ g', ax_iter (fun y : Int × Int × ax_H => lb_X0_row_49 E (some x) (some a) y.1 y.2.1 y.2.2) ((rwK (s 2) (s 7) k).1, 4 * (k : Int), g) = ax_iter (fun y : Int × Int × ax_H => lb_X0_row_49 E (some x) (some a) y.1 y.2.1 y.2.2) ((rwK (s 2) (s 7) (N / 4)).1, 4 * ((N / 4 : Nat) : Int), g') ∧ REP E g' x t dl dv ds du (rwT s (N / 4) 0) ∧ ByR g' a N (s 7) ∧ Blk x 0 0 g g' := by
  intro j
  induction j with
  | zero =>
    intro k g e H A
    have : k = N / 4 := by omega
    subst this
    exact ⟨g, rfl, H, A, Blk.refl x g⟩
  | succ j ih =>
    intro k g e H A
    obtain ⟨g1, p1, H1, A1, b1⟩ := c_rowStep (E := E) V0 k hN (by omega) H A ha hat
    obtain ⟨g2, p2, H2, A2, b2⟩ := ih (k + 1) g1 (by omega) H1 A1
    refine ⟨g2, ?_, H2, A2, b1.trans b2⟩
    rw [show 4 * ((k + 1 : Nat) : Int) = 4 * (k : Int) + 4 by omega] at p2
    exact (it_step (body := fun y : Int × Int × ax_H => lb_X0_row_49 E (some x) (some a) y.1 y.2.1 y.2.2) (s := ((rwK (s 2) (s 7) k).1, 4 * (k : Int), g)) p1).trans p2
theorem rwT_b (s : Sg) (k : Nat) : sw (rwT s k 0) 0 (u1 (rwT s k 0 0) 6 (rwT s k 0 0 6 + 1)) = rwT s k 1 := by
  unfold rwT
  rw [sw_eq, u1_eq, sw_sw, u1_u1, show 0 + (k : Int) - (rwK (s 2) (s 7) k).1 + 1 = 1 + k - (rwK (s 2) (s 7) k).1 by omega]
theorem c_row {n : Int} (H : REP E h x t dl dv ds du s) (hE : Ek E x) (V : VW n s) (x1 : h.1 + 4 ≤ E.1.1) (x2 : h.2.1 + 700 ≤ E.1.2) : ∃ h', f_X0_row E (some x) h = some ((setP (rowS s)).1, h') ∧ REP E h' x t dl dv ds du (setP (rowS s)).2 ∧ Blk x 8 700 h h' := by
  have h11 := V.2.2.2.1
  have hx := H.1.1.1
  have tl := H.1.1
  have a1 := H.2.1.1
  have b0 := (Blk.refl x h).up (c' := 8) (z' := 700) (by decide) (by decide)
  have i12 : hI h x 12 = s 0 11 := H.2.2.1.2.2.2.2
  obtain ⟨N, eN⟩ : ∃ N : Nat, (N : Int) = s 0 11 := ⟨(s 0 11).toNat, by omega⟩
  unfold f_X0_row
  rw [f_gI a1 (by decide), i12, Option.bind_some, i2_of (a := s 0 11) (by omega) (by omega)]
  by_cases c : s 0 11 = 0
  · have e : rowS s = (-6, s) := by unfold rowS; rw [if_pos c]
    obtain ⟨g, v1, v2, v3⟩ := c_told (E := E) (v := -6) H b0 (by decide) (by decide)
    refine ⟨g, ?_, ?_, v3⟩
    · rw [if_pos c, e, f_ce a1 (by decide), Option.bind_some, v1, Option.bind_some]
      rfl
    · rw [e]
      exact v2
  · rw [if_neg c, Option.bind_some, f_na (by omega) (by omega) (by omega) (by omega), Option.bind_some]
    dsimp only
    have en : (s 0 11).toNat = N := by omega
    rw [en]
    have kp1 : Kp x h (nwH h 101 N N) := Kp_nw (Kp.refl x h) hx
    have H1 := H.keep kp1
    have a2 := H1.2.1.1
    have r11 : hR (nwH h 101 N N) x 11 = some (x + 22) := H1.2.1.2.2.1.2.2.2.2.2.2.1
    have t22 := H1.2.1.2.2.2.2.2.2.2.2.1
    have j12 : hI (nwH h 101 N N) x 12 = s 0 11 := H1.2.2.1.2.2.2.2
    have ra := H1.2.2.2.1.2
    have by_ := V.2.2.2.2.1
    have cp : ax_cp E (nwH h 101 N N) ax_bytP (some (x + 22)) 101 0 (some h.1) 0 (s 0 11) = some (cpH (nwH h 101 N N) (x + 22) h.1 0 0 N) := by
      rw [f_cp (t := 101) t22.1 hT_nw_eq (by decide) (by rw [t22.2]; decide) (by rw [hL_nw_eq]; omega) (by decide) (by decide) (by omega) (by rw [t22.2]; omega) (by rw [hL_nw_eq]; omega) (fun i hi => by
        have q := ra i (by omega)
        have y := by_ (i : Int) (by omega) (by omega)
        show -128 ≤ hI (nwH h 101 N N) (x + 22) ((0 : Int).toNat + i) ∧ hI (nwH h 101 N N) (x + 22) ((0 : Int).toNat + i) < 128
        rw [show (0 : Int).toNat + i = i by rw [Int.toNat_zero]; omega, q]
        omega), en, Int.toNat_zero]
    obtain ⟨g1, hg1⟩ : ∃ g1, g1 = cpH (nwH h 101 N N) (x + 22) h.1 0 0 N := ⟨_, rfl⟩
    have kp2 : Kp x h g1 := by rw [hg1]; exact Kp_cpn kp1 hx (Nat.le_refl _)
    have H2 := H.keep kp2
    have A2 : ByR g1 h.1 N (s 7) := by
      rw [hg1]
      refine ⟨by rw [hT_cp]; exact hT_nw_eq, by rw [hL_cp]; exact hL_nw_eq, fun i hi => ?_⟩
      rw [hI_cp, if_pos ⟨rfl, by omega, by omega⟩, show 0 + (i - 0) = i by omega]
      exact ra i (by omega)
    have b1 : Blk x 1 400 h g1 := by
      rw [hg1]
      refine ⟨by show h.1 ≤ h.1 + 1; omega, Nat.le_refl _, by show h.2.1 ≤ h.2.1 + N; omega, by show h.2.1 + N ≤ _; omega, fun b z1 z2 => ?_⟩
      rw [hC_cp_ne (by omega), hC_nw_ne (by omega)]
    obtain ⟨H3, b3⟩ := c_taped (v := 0) H2 b1
    obtain ⟨H4, b4⟩ := c_blotted (v := 0) H3 b3
    obtain ⟨g3, hg3⟩ : ∃ g3, g3 = wI (wI g1 x 12 0) x 9 0 := ⟨_, rfl⟩
    rw [← hg3] at H4 b4
    have eT : sw (sw s 0 (u1 (s 0) 11 0)) 0 (u1 (sw s 0 (u1 (s 0) 11 0) 0) 6 0) = rwT s 0 0 := by
      unfold rwT
      rw [show (rwK (s 2) (s 7) 0).2 = s 2 from rfl, show (rwK (s 2) (s 7) 0).1 = 0 from rfl, sw_self, show (0 : Int) + ((0 : Nat) : Int) - 0 = 0 by omega, sw_sw, sw_eq]
    rw [eT] at H4
    have A4 : ByR g3 h.1 N (s 7) := by rw [hg3]; exact (A2.wI (by omega)).wI (by omega)
    obtain ⟨g5, p5, H5, A5, b5⟩ := c_rowGo (E := E) V eN hx (by omega) (N / 4) 0 g3 (by omega) H4 A4
    have b6 := b4.trans b5
    have pre : ax_iter (fun y : Int × Int × ax_H => lb_X0_row_49 E (some x) (some h.1) y.1 y.2.1 y.2.2) (0, 0, g3) = ax_iter (fun y : Int × Int × ax_H => lb_X0_row_49 E (some x) (some h.1) y.1 y.2.1 y.2.2) ((rwK (s 2) (s 7) (N / 4)).1, 4 * ((N / 4 : Nat) : Int), g5) := p5
    have qb := rwK_b (s 2) (s 7) (N / 4)
    have eN4 : (s 0 11 / 4).toNat = N / 4 := by omega
    have hd : f_X0_row_49 E (some x) (some h.1) 0 0 g3 = ax_iter (fun y : Int × Int × ax_H => lb_X0_row_49 E (some x) (some h.1) y.1 y.2.1 y.2.2) ((rwK (s 2) (s 7) (N / 4)).1, 4 * ((N / 4 : Nat) : Int), g5) := pre
    rw [f_gR a2 (by decide), r11, Option.bind_some, f_gI a2 (by decide), j12, Option.bind_some, cp, Option.bind_some, ← hg1, f_pI H2.2.1.1 (by decide), Option.bind_some, f_pI H3.2.1.1 (by decide), Option.bind_some, ← hg3, hd]
    -- the end
    have stop : ∀ (g : ax_H) (b : Int) (i : Int), REP E g x t dl dv ds du (rwT s (N / 4) b) → ByR g h.1 N (s 7) → (N : Int) ≤ i → i ≤ 1000 → Blk x 8 700 h g → ∃ h', lb_X0_row_49 E (some x) (some h.1) (rwK (s 2) (s 7) (N / 4)).1 i g = some (.inr ((rwK (s 2) (s 7) (N / 4)).1, h')) ∧ REP E h' x t dl dv ds du (setM (rwT s (N / 4) b) (rwK (s 2) (s 7) (N / 4)).1) ∧ Blk x 8 700 h h' := by
      intro g b i Hg Ag i0 i1 bg
      obtain ⟨g9, w1, w2, w3⟩ := c_settled (E := E) (v := (rwK (s 2) (s 7) (N / 4)).1) Hg hE bg (by omega) (by omega)
      refine ⟨g9, ?_, w2, w3⟩
      unfold lb_X0_row_49
      rw [f_len Ag.1 (by decide), Option.bind_some, Ag.2.1, i2_of (a := i) (by omega) (by omega), i2_of (a := (N : Int)) (by omega) (by omega), if_neg (by omega), f_ce Hg.2.1.1 (by decide), Option.bind_some, w1, Option.bind_some]
      rfl
    by_cases c4 : s 0 11 % 4 = 0
    · have eR : rowS s = ((rwK (s 2) (s 7) (N / 4)).1, rwT s (N / 4) 0) := by unfold rowS; rw [if_neg c, if_pos c4, eN4]
      obtain ⟨g9, w1, w2, w3⟩ := stop g5 0 (4 * ((N / 4 : Nat) : Int)) H5 A5 (by omega) (by omega) (b6.up (by decide) (by decide))
      refine ⟨g9, ?_, ?_, w3⟩
      · rw [eR]
        exact it_done (body := fun y : Int × Int × ax_H => lb_X0_row_49 E (some x) (some h.1) y.1 y.2.1 y.2.2) (s := ((rwK (s 2) (s 7) (N / 4)).1, 4 * ((N / 4 : Nat) : Int), g5)) w1
      · rw [eR]
        exact w2
    · have eR : rowS s = ((rwK (s 2) (s 7) (N / 4)).1, rwT s (N / 4) 1) := by unfold rowS; rw [if_neg c, if_neg c4, eN4]
      obtain ⟨y1, y2, y3, y4, y5⟩ := id b6
      have nb := nb_le (4 * ((N / 4 : Nat) : Int) + 3) (n := N) (by omega)
      obtain ⟨g6, hg6⟩ : ∃ g6 : ax_H, g6 = (g5.1 + 3, g5.2.1 + (ax_nb (4 * ((N / 4 : Nat) : Int) + 3) N + 10), g5.2.2) := ⟨_, rfl⟩
      have hx5 := H5.1.1.1
      have H6 : REP E g6 x t dl dv ds du (rwT s (N / 4) 0) := H5.keep (by rw [hg6]; exact Kp_ext (Kp.refl x g5) hx5 (Nat.le_add_right _ _) (Nat.le_add_right _ _) (fun b _ => rfl))
      have A6 : ByR g6 h.1 N (s 7) := by rw [hg6]; exact A5
      have b7 : Blk x 8 700 h g6 := by
        rw [hg6]
        refine ⟨?_, ?_, ?_, ?_, fun b z1 z2 => y5 b z1 z2⟩
        · show h.1 ≤ g5.1 + 3; omega
        · show g5.1 + 3 ≤ h.1 + 8; omega
        · show h.2.1 ≤ g5.2.1 + (ax_nb (4 * ((N / 4 : Nat) : Int) + 3) N + 10); omega
        · show g5.2.1 + (ax_nb (4 * ((N / 4 : Nat) : Int) + 3) N + 10) ≤ h.2.1 + 700; omega
      obtain ⟨H7, b8⟩ := c_blotted (v := rwT s (N / 4) 0 0 6 + 1) H6 b7
      rw [rwT_b] at H7
      obtain ⟨g9, w1, w2, w3⟩ := stop _ 1 (4 * ((N / 4 : Nat) : Int) + 4) H7 (A6.wI (by omega)) (by omega) (by omega) b8
      have i9 : hI g6 x 9 = rwT s (N / 4) 0 0 6 := H6.2.2.1.2.2.1
      have thr : lb_X0_row_49 E (some x) (some h.1) (rwK (s 2) (s 7) (N / 4)).1 (4 * ((N / 4 : Nat) : Int)) g5 = some (.inl ((rwK (s 2) (s 7) (N / 4)).1, 4 * ((N / 4 : Nat) : Int) + 4, wI g6 x 9 (rwT s (N / 4) 0 0 6 + 1))) := by
        unfold lb_X0_row_49
        rw [f_len A5.1 (by decide), Option.bind_some, A5.2.1, i2_of (a := 4 * ((N / 4 : Nat) : Int)) (by omega) (by omega), i2_of (a := (N : Int)) (by omega) (by omega), if_pos (by omega), c_byteT A5 (by omega) (by omega) (by omega) (by omega) (by omega), ← hg6]
        unfold ax_tc
        rw [Option.bind_some]
        dsimp only [Sum.elim]
        rw [if_pos rfl]
        unfold f_X0_row_196 f_X0_row_197 f_X0_row_210 f_X0_row_227 f_X0_row_317
        rw [show i2 0 = 0 by decide, if_pos rfl, f_gI H6.2.1.1 (by decide), i9, Option.bind_some, if_pos rfl, f_pI H6.2.1.1 (by decide), Option.bind_some, Int.add_zero]
      refine ⟨g9, ?_, ?_, w3⟩
      · rw [eR]
        exact (it_step (body := fun y : Int × Int × ax_H => lb_X0_row_49 E (some x) (some h.1) y.1 y.2.1 y.2.2) (s := ((rwK (s 2) (s 7) (N / 4)).1, 4 * ((N / 4 : Nat) : Int), g5)) thr).trans (it_done (body := fun y : Int × Int × ax_H => lb_X0_row_49 E (some x) (some h.1) y.1 y.2.1 y.2.2) (s := ((rwK (s 2) (s 7) (N / 4)).1, 4 * ((N / 4 : Nat) : Int) + 4, wI g6 x 9 (rwT s (N / 4) 0 0 6 + 1))) w1)
      · rw [eR]
        exact w2
end
