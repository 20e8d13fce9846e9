/-! The tape: the component -/
set_option maxRecDepth 100000
section
variable {E : ax_E} {h h1 : ax_H} {x t dl dv ds du : Nat} {s : Sg}
theorem Sam_7 (s : Sg) (F : Rw) : Sam s (sw s 7 F) := by
  refine ⟨?_, ?_, ?_, ?_, ?_, ?_, ?_, ?_, ?_⟩ <;> exact (by rw [sw_ne _ (by decide)])
theorem Sam_0 (s : Sg) {k v : Int} (h : k ≠ 28) (h2 : k ≠ 59) : Sam s (sw s 0 (u1 (s 0) k v)) := by
  refine ⟨sw_ne _ (by decide), sw_ne _ (by decide), sw_ne _ (by decide), sw_ne _ (by decide), sw_ne _ (by decide), sw_ne _ (by decide), sw_ne _ (by decide), ?_, ?_⟩
  · rw [sw_eq, u1_ne _ (Ne.symm h)]
  · rw [sw_eq, u1_ne _ (Ne.symm h2)]
/-- where the tape ends -/
theorem c_taped {v : Int} {c z : Nat} (H : REP E h1 x t dl dv ds du s) (b : Blk x c z h h1) : REP E (wI h1 x 12 v) x t dl dv ds du (sw s 0 (u1 (s 0) 11 v)) ∧ Blk x c z h (wI h1 x 12 v) := by
  refine ⟨H.root (Or.inl rfl) ?_ ?_ (Sam_0 s (by decide) (by decide)), ?_⟩
  · obtain ⟨r1, r2, r3, r4, r5⟩ := H.2.2.1
    refine ⟨?_, ?_, ?_, ?_, ?_⟩
    · rw [hI_wI_ne (by omega), sw_eq, u1_ne _ (by decide)]; exact r1
    · rw [hI_wI_ne (by omega), sw_eq, u1_ne _ (by decide)]; exact r2
    · rw [hI_wI_ne (by omega), sw_eq, u1_ne _ (by decide)]; exact r3
    · rw [hI_wI_ne (by omega), sw_eq, u1_ne _ (by decide)]; exact r4
    · rw [hI_wI_eq, sw_eq, u1_eq]
  · obtain ⟨r1, r2⟩ := H.2.2.2.1
    refine ⟨fun k hk => ?_, fun k hk => ?_⟩
    · rw [hI_wI_ne (by omega), sw_ne _ (by decide)]; exact r1 k hk
    · rw [hI_wI_ne (by omega), sw_ne _ (by decide)]; exact r2 k hk
  · obtain ⟨y1, y2, y3, y4, y5⟩ := b
    exact ⟨y1, y2, y3, y4, fun a z1 z2 => (hC_wI_ne (by omega)).trans (y5 a z1 z2)⟩
/-- a byte of the tape -/
theorem c_tapeB {n : Nat} {v : Int} {c z : Nat} (H : REP E h1 x t dl dv ds du s) (b : Blk x c z h h1) : REP E (wI h1 (x + 22) n v) x t dl dv ds du (sw s 7 (u1 (s 7) n v)) ∧ Blk x c z h (wI h1 (x + 22) n v) := by
  refine ⟨H.root (Or.inr (Or.inr rfl)) ?_ ?_ (Sam_7 s _), ?_⟩
  · obtain ⟨r1, r2, r3, r4, r5⟩ := H.2.2.1
    refine ⟨?_, ?_, ?_, ?_, ?_⟩ <;> rw [hI_wI_ne (by omega), sw_ne _ (by decide)] <;> assumption
  · obtain ⟨r1, r2⟩ := H.2.2.2.1
    refine ⟨fun k hk => ?_, fun k hk => ?_⟩
    · rw [hI_wI_ne (by omega), sw_ne _ (by decide)]; exact r1 k hk
    · rw [sw_eq]
      by_cases c : k = n
      · subst c; rw [hI_wI_eq, u1_eq]
      · rw [hI_wI_ne (by omega), u1_ne _ (by omega)]; exact r2 k hk
  · obtain ⟨y1, y2, y3, y4, y5⟩ := b
    exact ⟨y1, y2, y3, y4, fun a z1 z2 => (hC_wI_ne (by omega)).trans (y5 a z1 z2)⟩
theorem c_four1 {v sh : Int} {c z : Nat} (H : REP E h1 x t dl dv ds du s) (b : Blk x c z h h1) (h0 : 0 ≤ s 0 11 ∧ s 0 11 ≤ 399) (hs : 0 ≤ sh ∧ sh ≤ 24) : ∃ g, lb_X0_four_3 E (some x) v sh h1 = some (.inl (sh + (-8), g)) ∧ REP E g x t dl dv ds du (byS s (b2 (ax_shr v sh))) ∧ Blk x c z h g := by
  obtain ⟨H1, b1⟩ := c_tapeB (n := (s 0 11).toNat) (v := b2 (ax_shr v sh)) H b
  obtain ⟨H2, b2'⟩ := c_taped (v := s 0 11 + 1) H1 b1
  have en : (((s 0 11).toNat : Nat) : Int) = s 0 11 := by omega
  rw [en] at H2
  have a1 := H.2.1.1
  have r11 : hR h1 x 11 = some (x + 22) := H.2.1.2.2.1.2.2.2.2.2.2.1
  have t22 := H.2.1.2.2.2.2.2.2.2.2.1
  have i12 : hI h1 x 12 = s 0 11 := H.2.2.1.2.2.2.2
  refine ⟨_, ?_, ?_, b2'⟩
  · unfold lb_X0_four_3
    rw [i2_of (a := sh) (by omega) (by omega), if_neg (by omega), f_gR a1 (by decide), r11, Option.bind_some, f_gI a1 (by decide), i12, Option.bind_some, b2_b2, f_sto t22.1 (by decide) h0.1 (by rw [t22.2]; omega) (by rw [t22.2]; decide), Option.bind_some, f_gI (by rw [hT_wI]; exact a1) (by decide), hI_wI_ne (by omega), i12, Option.bind_some, f_pI (by rw [hT_wI]; exact a1) (by decide), Option.bind_some]
  · unfold byS
    rw [sw_ne _ (by decide)] at H2
    exact H2
theorem c_four4 {v : Int} {c z : Nat} (H : REP E h1 x t dl dv ds du s) (b : Blk x c z h h1) (h0 : 0 ≤ s 0 11 ∧ s 0 11 ≤ 396) : ∃ g, f_X0_four E (some x) v h1 = some g ∧ REP E g x t dl dv ds du (byS (byS (byS (byS s (b2 (ax_shr v 24))) (b2 (ax_shr v 16))) (b2 (ax_shr v 8))) (b2 (ax_shr v 0))) ∧ Blk x c z h g := by
  have e11 : ∀ (s : Sg) (v : Int), byS s v 0 11 = s 0 11 + 1 := fun s v => by unfold byS; rw [sw_eq, u1_eq]
  obtain ⟨g1, p1, H1, b1⟩ := c_four1 (v := v) (sh := 24) H b (by omega) (by decide)
  obtain ⟨g2, p2, H2, b2'⟩ := c_four1 (v := v) (sh := 16) H1 b1 (by rw [e11]; omega) (by decide)
  obtain ⟨g3, p3, H3, b3⟩ := c_four1 (v := v) (sh := 8) H2 b2' (by rw [e11, e11]; omega) (by decide)
  obtain ⟨g4, p4, H4, b4⟩ := c_four1 (v := v) (sh := 0) H3 b3 (by rw [e11, e11, e11]; omega) (by decide)
  refine ⟨g4, ?_, H4, b4⟩
  unfold f_X0_four f_X0_four_3
  have q1 := it_step (body := fun y : Int × ax_H => lb_X0_four_3 E (some x) v y.1 y.2) (s := (24, h1)) p1
  have q2 := it_step (body := fun y : Int × ax_H => lb_X0_four_3 E (some x) v y.1 y.2) (s := (16, g1)) p2
  have q3 := it_step (body := fun y : Int × ax_H => lb_X0_four_3 E (some x) v y.1 y.2) (s := (8, g2)) p3
  have q4 := it_step (body := fun y : Int × ax_H => lb_X0_four_3 E (some x) v y.1 y.2) (s := (0, g3)) p4
  have q5 : lb_X0_four_3 E (some x) v (0 + (-8)) g4 = some (.inr g4) := by
    unfold lb_X0_four_3
    rw [if_pos (by decide)]
    rfl
  have q6 := it_done (body := fun y : Int × ax_H => lb_X0_four_3 E (some x) v y.1 y.2) (s := (0 + (-8), g4)) q5
  exact q1.trans (q2.trans (q3.trans (q4.trans q6)))
theorem c_feed {a b c d e : Int} (H : REP E h x t dl dv ds du s) (h0 : 0 ≤ s 0 11 ∧ s 0 11 ≤ 400) : ∃ h', f_X0_feed E (some x) a b c d e h = some ((feedS s a b c d e).1, h') ∧ REP E h' x t dl dv ds du (feedS s a b c d e).2 ∧ Blk x 8 110 h h' := by
  have a1 := H.2.1.1
  have b0 := (Blk.refl x h).up (c' := 8) (z' := 110) (by decide) (by decide)
  have i12 : hI h x 12 = s 0 11 := H.2.2.1.2.2.2.2
  unfold f_X0_feed feedS
  rw [f_gI a1 (by decide), i12, Option.bind_some, show i2 400 = 400 by decide, i2_of (a := s 0 11 + 20) (by omega) (by omega)]
  by_cases c0 : 400 < s 0 11 + 20
  · rw [if_pos c0, if_pos c0]
    exact ⟨h, rfl, H, b0⟩
  · rw [if_neg c0, if_neg c0]
    have st : ∀ j : Nat, j < 5 → byS (byS (byS (byS (fdS s (fdB a b c d e) (4 * j)) (b2 (ax_shr (fiv a b c d e j) 24))) (b2 (ax_shr (fiv a b c d e j) 16))) (b2 (ax_shr (fiv a b c d e j) 8))) (b2 (ax_shr (fiv a b c d e j) 0)) = fdS s (fdB a b c d e) (4 * (j + 1)) := by
      intro j hj
      have w : ∀ i : Nat, i < 4 → fdB a b c d e (4 * j + i) = b2 (ax_shr (fiv a b c d e j) (24 - 8 * (i : Int))) := by
        intro i hi
        unfold fdB
        rw [show (4 * j + i) / 4 = j by omega, show ((4 * j + i : Nat) : Int) % 4 = i by omega]
      show _ = byS (byS (byS (byS (fdS s (fdB a b c d e) (4 * j)) (fdB a b c d e (4 * j + 0))) (fdB a b c d e (4 * j + 1))) (fdB a b c d e (4 * j + 2))) (fdB a b c d e (4 * j + 3))
      rw [w 0 (by decide), w 1 (by decide), w 2 (by decide), w 3 (by decide)]
      rfl
    have n11 := fdS_11 s (fdB a b c d e)
    obtain ⟨g1, p1, H1, b1⟩ := c_four4 (v := a) H b0 (by omega)
    have H1' : REP E g1 x t dl dv ds du (fdS s (fdB a b c d e) 4) := by rw [← st 0 (by decide)]; exact H1
    obtain ⟨g2, p2, H2, b2'⟩ := c_four4 (v := b) H1' b1 (by rw [n11]; omega)
    have H2' : REP E g2 x t dl dv ds du (fdS s (fdB a b c d e) 8) := by rw [← st 1 (by decide)]; exact H2
    obtain ⟨g3, p3, H3, b3⟩ := c_four4 (v := c) H2' b2' (by rw [n11]; omega)
    have H3' : REP E g3 x t dl dv ds du (fdS s (fdB a b c d e) 12) := by rw [← st 2 (by decide)]; exact H3
    obtain ⟨g4, p4, H4, b4⟩ := c_four4 (v := d) H3' b3 (by rw [n11]; omega)
    have H4' : REP E g4 x t dl dv ds du (fdS s (fdB a b c d e) 16) := by rw [← st 3 (by decide)]; exact H4
    obtain ⟨g5, p5, H5, b5⟩ := c_four4 (v := e) H4' b4 (by rw [n11]; omega)
    have H5' : REP E g5 x t dl dv ds du (fdS s (fdB a b c d e) 20) := by rw [← st 4 (by decide)]; exact H5
    refine ⟨g5, ?_, H5', b5⟩
    have j12 : hI g5 x 12 = s 0 11 + 20 := by
      rw [H5'.2.2.1.2.2.2.2, n11]
      rfl
    rw [f_ce a1 (by decide), Option.bind_some, p1, Option.bind_some, f_ce H1.2.1.1 (by decide), Option.bind_some, p2, Option.bind_some, f_ce H2.2.1.1 (by decide), Option.bind_some, p3, Option.bind_some, f_ce H3.2.1.1 (by decide), Option.bind_some, p4, Option.bind_some, f_ce H4.2.1.1 (by decide), Option.bind_some, p5, Option.bind_some, f_gI H5.2.1.1 (by decide), j12, Option.bind_some]
theorem c_end {n : Int} (H : REP E h x t dl dv ds du s) (hn : i2 n = n) (h0 : 0 ≤ s 0 11 ∧ s 0 11 ≤ 400) : ∃ h', f_X0_end E (some x) n h = some ((endS s n).1, h') ∧ REP E h' x t dl dv ds du (endS s n).2 ∧ Blk x 8 110 h h' := by
  have a1 := H.2.1.1
  have bn := i2_lh hn
  have b0 := (Blk.refl x h).up (c' := 8) (z' := 110) (by decide) (by decide)
  have i12 : hI h x 12 = s 0 11 := H.2.2.1.2.2.2.2
  unfold f_X0_end endS
  rw [f_gI a1 (by decide), i12, Option.bind_some, hn, i2_of (a := s 0 11) (by omega) (by omega), c_in (by omega) (by decide) (by omega), Option.bind_some]
  by_cases c : 0 ≤ n ∧ n ≤ s 0 11
  · rw [if_neg (by rw [b01_z]; exact fun z => z c), if_pos c]
    obtain ⟨H2, b2'⟩ := c_taped (v := n) H b0
    dsimp only
    rw [f_pI a1 (by decide), Option.bind_some]
    exact ⟨_, rfl, H2, b2'⟩
  · rw [if_pos (by rw [b01_z]; exact c), if_neg c]
    exact ⟨h, rfl, H, b0⟩
end
/-! what holds then -/
theorem VW.z11 {n v : Int} {s : Sg} (H : VW n s) (hv : 0 ≤ v ∧ v ≤ 400) : VW n (sw s 0 (u1 (s 0) 11 v)) := by
  obtain ⟨⟨g, kb, lv, un, re⟩, kw, im, tp, by_, wo, dr⟩ := H
  have eo : ∀ o : Nat, o ≠ 0 → sw s 0 (u1 (s 0) 11 v) o = s o := fun o o0 => sw_ne _ o0
  refine ⟨⟨G32_sw g (u1_32 (g 0) (i2_of (by omega) (by omega))), by rw [eo 2 (by decide)]; exact kb, by rw [eo 2 (by decide)]; exact lv, ?_, by rw [eo 1 (by decide)]; exact re⟩, by rw [eo 2 (by decide)]; exact kw, fun k a b => ?_, by rw [sw_eq, u1_eq]; exact hv, by rw [eo 7 (by decide)]; exact by_, by rw [eo 6 (by decide)]; exact wo, by rw [sw_eq, u1_ne _ (by decide)]; exact dr⟩
  · unfold UnV
    rw [sw_eq, u1_ne _ (by decide), eo 2 (by decide), eo 14 (by decide)]
    exact un
  · unfold imgK
    rw [eo 4 (by decide), eo 3 (by decide)]
    exact im k a b
theorem VW.z7 {n : Int} {F : Rw} {s : Sg} (H : VW n s) (hF : ∀ i, i2 (F i) = F i) (hv : ∀ k : Int, 0 ≤ k → k < 400 → -128 ≤ F k ∧ F k ≤ 127) : VW n (sw s 7 F) := by
  obtain ⟨⟨g, kb, lv, un, re⟩, kw, im, tp, by_, wo, dr⟩ := H
  have eo : ∀ o : Nat, o ≠ 7 → sw s 7 F o = s o := fun o o0 => sw_ne _ o0
  refine ⟨⟨G32_sw g hF, by rw [eo 2 (by decide)]; exact kb, by rw [eo 2 (by decide)]; exact lv, ?_, by rw [eo 1 (by decide)]; exact re⟩, by rw [eo 2 (by decide)]; exact kw, fun k a b => ?_, by rw [eo 0 (by decide)]; exact tp, by rw [sw_eq]; exact hv, by rw [eo 6 (by decide)]; exact wo, by rw [eo 0 (by decide)]; exact dr⟩
  · unfold UnV
    rw [eo 0 (by decide), eo 2 (by decide), eo 14 (by decide)]
    exact un
  · unfold imgK
    rw [eo 4 (by decide), eo 3 (by decide)]
    exact im k a b
theorem endS_VW {n v : Int} {s : Sg} (H : VW n s) : VW n (endS s v).2 := by
  unfold endS
  split
  · rename_i c
    exact H.z11 (by have := H.2.2.2.1; omega)
  · exact H
theorem feedS_VW {n a b c d e : Int} {s : Sg} (H : VW n s) : VW n (feedS s a b c d e).2 := by
  unfold feedS
  split
  · exact H
  · rename_i c0
    have h11 := H.2.2.2.1
    show VW n (fdS s (fdB a b c d e) 20)
    rw [fdS_eq]
    have bb : ∀ i : Int, -128 ≤ fdB a b c d e i.toNat ∧ fdB a b c d e i.toNat ≤ 127 := fun i => ⟨b2_lo _, b2_hi _⟩
    have V7 : VW n (sw s 7 (cpR (s 7) (s 0 11) (fun i => fdB a b c d e i.toNat) ((20 : Nat) : Int))) := by
      refine H.z7 (cpR_32 (H.1.1 7) (fun i => by have := bb i; exact i2_of (by omega) (by omega))) (fun k k0 k1 => ?_)
      unfold cpR
      split
      · exact bb _
      · exact H.2.2.2.2.1 k k0 k1
    have := V7.z11 (v := s 0 11 + ((20 : Nat) : Int)) (by omega)
    rw [sw_ne _ (by decide)] at this
    exact this
