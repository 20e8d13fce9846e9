/-! The component's reader: a part of a sum -/
set_option maxRecDepth 100000
def wv (o c : Int) : Int := if o = 0 then c - 9 else if c = 17 then 0 else c - 18
section
variable {E : ax_E} {T : Rw} {N x i p w tg k : Nat} {o lv dp pl v : Int} {g g' g0 : ax_H}
theorem rs_leaf {u k' : Nat} {j : Int} {F : Dn} (R : RdR i p pl g g') (G : RdC E T N x i p w tg k' (lv + 1) dp pl g') (S : SumN o (RnF g.1 g'.1) g' x 1 u F) (h1 : g'.1 = g.1 + 1) (h2 : g'.2.1 ≤ g.2.1 + 3) (hl : 0 ≤ lv ∧ lv < 50) (ej : j = (k' : Int)) : RsS E T N x i p w tg o dp pl g lv (some (.inr (some u, g'))) (.inr (j, lv + 1, F)) := by
  subst ej
  refine ⟨u, g', rfl, by omega, by omega, ?_, R, ?_, by omega, by omega⟩
  · rw [Int.toNat_natCast]; exact G
  · rw [show (lv + 1 - lv).toNat = 1 by omega]; exact S
theorem rs_bad {r : Nat × ax_H} {t c z : Int} (W : RdW T N i p pl g t c z r) (hc : c ≤ 8 ∧ z ≤ 16) (hl : lv ≤ 50) : RsS E T N x i p w tg o dp pl g lv (some (.inl r)) (.inl t) := ⟨r, rfl, W.1, W.2.1, W.2.2.1, by have := W.2.2.2.1; omega, by have := W.2.2.2.2; omega⟩
theorem c_whichP (hto : (tg = 7 ∧ o = 0) ∨ (tg = 25 ∧ o = 1)) (G : RdC E T N x i p w tg k lv dp pl g) : f_X6_which E (some i) (some w) g = some (if isVal o (cT T N k) = true then wv o (cT T N k) else -1, g) := by
  have wF := G.1.2.2.2.2.2.2.2.2.1
  rcases hto with ⟨e1, e2⟩ | ⟨e1, e2⟩
  · subst e1 e2
    rw [c_which (B := 0) (n := 10) G wF.1 wF.2.1 wF.2.2 (by decide), wh_law]
    congr 2
    unfold isVal wv
    rw [if_pos rfl, if_pos rfl]
    by_cases h : 9 ≤ cT T N k ∧ cT T N k ≤ 18
    · rw [if_pos h, if_pos (decide_eq_true h)]
    · rw [if_neg h, if_neg (by rw [decide_eq_true_eq]; exact h)]
  · subst e1 e2
    rw [c_which (B := 15) (n := 6) G wF.1 wF.2.1 wF.2.2 (by decide), wh_ord]
    congr 2
    unfold isVal wv
    rw [if_neg (show ¬ (1 : Int) = 0 by decide), if_neg (show ¬ (1 : Int) = 0 by decide)]
    by_cases h : cT T N k = 17
    · rw [if_pos h, if_pos (decide_eq_true (Or.inl h)), if_pos h]
    · rw [if_neg h, if_neg h]
      by_cases h2 : 19 ≤ cT T N k ∧ cT T N k ≤ 23
      · rw [if_pos h2, if_pos (decide_eq_true (Or.inr h2))]
      · rw [if_neg h2, if_neg (by rw [decide_eq_true_eq]; omega)]
theorem isVal_b (ho : o = 0 ∨ o = 1) {c : Int} (h : isVal o c = true) : 0 ≤ wv o c ∧ wv o c < 10 ∧ c ≠ 50 ∧ c ≠ 191 ∧ (o = 1 → wv o c ≤ 5 ∧ (wv o c = 4 ↔ c = 22) ∧ (wv o c = 5 ↔ c = 23)) := by
  unfold isVal at h
  unfold wv
  rcases ho with e | e
  · subst e
    rw [if_pos rfl, decide_eq_true_eq] at h
    rw [if_pos rfl]
    omega
  · subst e
    rw [if_neg (by decide), decide_eq_true_eq] at h
    rw [if_neg (by decide)]
    split <;> omega
theorem c_part {s0 s1 s2 : Option Nat → ax_H → Option ((Nat × ax_H) ⊕ (Option Nat × ax_H))} {ps : Option (Int → Int → PR Dn)} (hto : (tg = 7 ∧ o = 0) ∨ (tg = 25 ∧ o = 1)) (hdp : 0 ≤ dp) (hN : ps = none → dp = 8)
    (hS : ∀ f, ps = some f → dp < 8 ∧ ∀ (k : Nat) (lv : Int) (g : ax_H), RdC E T N x i p w tg k lv (dp + 1) pl g → 0 ≤ lv → lv ≤ 50 → RmR E g lv → RsS E T N x i p w tg o (dp + 1) pl g lv (s2 (some i) g) (f k lv))
    (G : RdC E T N x i p w tg k lv dp pl g) (hl : 0 ≤ lv ∧ lv ≤ 50) (rm : RmR E g lv) : RsS E T N x i p w tg o dp pl g lv (f_X6_part E s0 s1 s2 (some i) g) (pPart o (cT T N) (wT T N) ps k lv) := by
  have F := G.1
  have hp := F.2.1
  have n4 := F.2.2.2.2.2.1
  have nc := num_code (k := k) n4.2 n4.1
  have W : f_X6_isWord E (some i) (some (E.2.2 52)) g = some (b01 (cT T N k = 191), g) := c_isWord (j := 42) G (by decide)
  have rm' := rm
  unfold RmR at rm'
  unfold f_X6_part ax_cst pPart
  rw [Option.bind_some, F.dsp, W, Option.bind_some]
  dsimp only
  by_cases c : cT T N k = 191
  · rw [if_neg (by rw [b01_z]; simp [c]), if_pos c, F.dsp]
    cases hp' : ps with
    | none =>
      obtain ⟨r, m1, m2⟩ := c_openN G (hN hp') (by omega) (by omega)
      rw [m1, tc_l]
      exact rs_bad m2 (by decide) hl.2
    | some f =>
      obtain ⟨d8, hS'⟩ := hS f hp'
      obtain ⟨g1, x1, G1, N1⟩ := c_open G ⟨hdp, d8⟩
      have q1 := N1.2.1
      have q2 := N1.2.2
      have bs := hS' (k + 1) lv g1 G1 hl.1 hl.2 (by unfold RmR; omega)
      rw [show ((k + 1 : Nat) : Int) = (k : Int) + 1 by omega] at bs
      rw [x1, tc_r, G1.1.dsp]
      dsimp only
      cases hP : f ((k : Int) + 1) lv with
      | inl t =>
        rw [hP] at bs
        obtain ⟨r, b1, b2⟩ := bs
        rw [b1, tc_l]
        exact ⟨r, rfl, b2.of N1.1 (Int.le_refl _) (by omega) (by omega)⟩
      | inr vv =>
        obtain ⟨j, lv', F'⟩ := vv
        rw [hP] at bs
        obtain ⟨u, g3, b1, b2, b3, b4, b5, b6, b7, b8⟩ := bs
        rw [b1, tc_r]
        dsimp only
        rw [Option.bind_some, b4.1.dsp]
        have ej : ((j.toNat : Nat) : Int) = j := Int.toNat_of_nonneg b2
        by_cases c2 : cT T N j = 193
        · obtain ⟨g4, y1, y2, y3⟩ := c_close (j := 43) b4 (by decide) (by rw [ej]; exact c2)
          have y1' : f_X6_close E (some i) (some (E.2.2 53)) g3 = some (.inr g4) := y1
          rw [y1', tc_r, if_pos c2]
          have z1 := y3.2.1
          have z2 := y3.2.2
          refine ⟨u, g4, rfl, by omega, b3, ?_, (N1.1.trans b5 (Int.le_refl _)).trans y3.1 (Int.le_refl _), b6.rd (by omega) (by omega) (fun a a1 a2 => y3.1.2.2.1 a a2 (by omega) (by omega)), by omega, by omega⟩
          rw [show (j + 1).toNat = j.toNat + 1 by omega]
          rw [show dp + 1 - 1 = dp by omega] at y2
          exact y2
        · obtain ⟨r, m1, m2⟩ := c_closeN (j := 43) b4 (by decide) (by rw [ej]; exact c2) (by omega) (by omega)
          have m1' : f_X6_close E (some i) (some (E.2.2 53)) g3 = some (.inl r) := m1
          rw [m1', tc_l, if_neg c2]
          rw [ej] at m2
          exact ⟨r, rfl, m2.of (N1.1.trans b5 (Int.le_refl _)) (Int.le_refl _) (by omega) (by omega)⟩
  · rw [if_pos (by rw [b01_z]; exact c), if_neg c, F.gR, Option.bind_some, F.2.2.2.2.2.2.2.2.2.2.2.1, F.dsp, c_whichP hto G, Option.bind_some]
    dsimp only
    have ho : o = 0 ∨ o = 1 := by rcases hto with h | h <;> omega
    by_cases cv : isVal o (cT T N k) = true
    · obtain ⟨v1, v2, v3, v4, v5⟩ := isVal_b ho cv
      obtain ⟨vv, evv⟩ : ∃ vv, vv = wv o (cT T N k) := ⟨_, rfl⟩
      rw [← evv] at v1 v2 v5
      have ne : ¬ i2 vv = i2 (-1) := by rw [i2_of (a := vv) (by omega) (by omega), show i2 (-1) = -1 by decide]; omega
      rw [if_pos cv, ← evv, if_neg ne, if_pos (Or.inr cv)]
      unfold f_X6_part_73 f_X6_part_78
      rw [F.dsp, must_ok (by decide), tc_r, if_neg ne, F.dsp]
      by_cases l5 : lv = 50
      · obtain ⟨r, m1, m2⟩ := c_rleafN G l5 (by omega) (by omega)
        rw [m1, tc_l, if_pos l5]
        exact rs_bad m2 (by decide) hl.2
      · have kl : 0 ≤ lv ∧ lv < 50 := ⟨hl.1, by omega⟩
        obtain ⟨g1, x1, G1, N1⟩ := c_rleaf G kl
        obtain ⟨g2, x2, G2, N2⟩ := c_nxt G1
        have q1 := N1.2.1
        have q2 := N1.2.2
        have q3 := N2.2.1
        have q4 := N2.2.2
        have R2 := N1.1.trans N2.1 (Int.le_refl _)
        have iT := G2.1.2.2.2.2.2.2.2.2.2.1
        rw [x1, tc_r, G1.1.dsp, x2, Option.bind_some, if_neg l5, if_neg v3, f_dp iT G2.1.t9]
        have p11 : (o ≠ 0 → vv < 4) → ∀ F' : Dn, F' = (fun e => some (e.1 vv)) → RsS E T N x i p w tg o dp pl g lv (ax_tc (fun z13 => some (.inl z13)) (f_X6_behindWord E (some i) vv g2) fun q12 => some (.inr (q12.1, q12.2))) (.inr ((k : Int) + 1, lv + 1, F')) := by
          intro hv4 F' eF
          obtain ⟨g3, m1, m2, m3, m4, m5, m6⟩ := c_part11 (v := vv) G2 (by omega) (by omega)
          rw [m1, tc_r]
          dsimp only
          refine rs_leaf (R2.trans m3 (Int.le_refl _)) m2 ⟨⟨by omega, by omega⟩, Or.inr (Or.inl ⟨m4.1, ⟨by omega, by omega, fun z => by rw [m4.2]; exact hv4 z⟩, ?_⟩)⟩ (by omega) (by omega) kl (by omega)
          rw [eF, m4.2]
        rcases hto with ⟨e1, e2⟩ | ⟨e1, e2⟩
        · subst e1 e2
          rw [if_neg (by decide), if_pos rfl, if_neg (fun h => absurd rfl h.1), if_neg (fun h => absurd rfl h.1)]
          refine p11 (fun z => absurd rfl z) _ ?_
          unfold dW
          rw [evv]
          unfold wv
          rw [if_pos rfl]
          simp
        · subst e1 e2
          have wb : ∀ j : Int, 0 ≤ wT T N j := fun j => (wT_b (T := T) n4.1 j).1
          obtain ⟨v6, v7, v8⟩ := v5 rfl
          rw [if_pos rfl]
          by_cases c22 : cT T N k = 22
          · have e4 : vv = 4 := v7.mpr c22
            have pp := c_part12 G2 (by omega) (by omega)
            rw [show ((k + 1 : Nat) : Int) = (k : Int) + 1 by omega] at pp
            rw [if_pos ⟨by decide, c22⟩, e4]
            by_cases d : cT T N ((k : Int) + 1) = 50 ∧ wT T N ((k : Int) + 1) ≤ 6
            · obtain ⟨g3, m1, m2, m3, m4, m5, m6⟩ := pp.1 d
              rw [if_pos ⟨d.1, wb _, d.2⟩, m1, tc_r]
              dsimp only
              refine rs_leaf (R2.trans m3 (Int.le_refl _)) m2 ⟨⟨by omega, by omega⟩, Or.inr (Or.inr (Or.inl ⟨m4.1, by decide, m4.2.2, by rw [m4.2.1]; exact ⟨wb _, d.2⟩, ?_⟩))⟩ (by omega) (by omega) kl (by omega)
              rw [m4.2.1]
            · obtain ⟨r, m1, m2⟩ := pp.2 d
              rw [if_neg (fun h => d ⟨h.1, h.2.2⟩), m1, tc_l]
              exact rs_bad (m2.of (c := 2) (z := 9) R2 (Int.le_refl _) (by omega) (by omega)) (by decide) hl.2
          · rw [if_neg (fun h => c22 h.2)]
            by_cases c23 : cT T N k = 23
            · have e5 : vv = 5 := v8.mpr c23
              have pp := c_part13 G2 (by omega) (by omega)
              rw [show ((k + 1 : Nat) : Int) = (k : Int) + 1 by omega, show ((k + 1 + 1 : Nat) : Int) = (k : Int) + 2 by omega] at pp
              rw [if_pos ⟨by decide, c23⟩, e5]
              by_cases d : cT T N ((k : Int) + 1) = 50 ∧ wT T N ((k : Int) + 1) ≤ 6
              · rw [if_pos ⟨d.1, wb _, d.2⟩]
                by_cases d2 : cT T N ((k : Int) + 2) = 50 ∧ wT T N ((k : Int) + 2) ≤ 6
                · obtain ⟨g3, m1, m2, m3, m4, m5, m6⟩ := pp.2.2 d d2
                  rw [if_pos ⟨d2.1, wb _, d2.2⟩, m1, tc_r]
                  dsimp only
                  refine rs_leaf (R2.trans m3 (Int.le_refl _)) m2 ⟨⟨by omega, by omega⟩, Or.inr (Or.inr (Or.inr (Or.inl ⟨m4.1, by decide, m4.2.2.2, by rw [m4.2.1]; exact ⟨wb _, d.2⟩, by rw [m4.2.2.1]; exact ⟨wb _, d2.2⟩, ?_⟩)))⟩ (by omega) (by omega) kl (by omega)
                  rw [m4.2.1, m4.2.2.1]
                · obtain ⟨r, m1, m2⟩ := pp.2.1 d d2
                  rw [if_neg (fun h => d2 ⟨h.1, h.2.2⟩), m1, tc_l]
                  exact rs_bad (m2.of (c := 2) (z := 10) R2 (Int.le_refl _) (by omega) (by omega)) (by decide) hl.2
              · obtain ⟨r, m1, m2⟩ := pp.1 d
                rw [if_neg (fun h => d ⟨h.1, h.2.2⟩), m1, tc_l]
                exact rs_bad (m2.of (c := 2) (z := 10) R2 (Int.le_refl _) (by omega) (by omega)) (by decide) hl.2
            · have e25 : f_X25_behindWord E (some i) vv g2 = f_X6_behindWord E (some i) vv g2 := by
                unfold f_X25_behindWord f_X6_behindWord
                rw [if_neg (by rw [i2_of (a := vv) (by omega) (by omega), show i2 4 = 4 by decide]; omega), if_neg (by rw [i2_of (a := vv) (by omega) (by omega), show i2 5 = 5 by decide]; omega)]
              rw [if_neg (fun h => c23 h.2), e25]
              refine p11 (fun _ => by omega) _ ?_
              unfold dW
              rw [evv]
              unfold wv
              rw [if_neg (by decide)]
              funext e
              rw [if_neg (by decide)]
              split <;> rfl
    · rw [if_neg cv, if_pos rfl, F.gI, Option.bind_some, F.gX, Option.bind_some, F.gN, Option.bind_some, G.2.1, i2_of (a := (pos T N k : Int)) (by have := pos_le (T := T) (N := N) k; omega) (by have := pos_le (T := T) (N := N) k; omega), i2_of (a := (N : Int)) (by omega) (by omega)]
      have n77 : (¬ cT T N k = 50) → RsS E T N x i p w tg o dp pl g lv (f_X6_part_77 E s0 s1 s2 (some i) (-1) (some i) g) (.inl (k : Int)) := by
        intro h
        obtain ⟨r, m1, m2⟩ := must_no (v := 0) G (by decide) (by omega) (by omega)
        unfold f_X6_part_77 f_X6_part_78
        rw [F.dsp, m1, tc_l]
        exact rs_bad m2 (by decide) hl.2
      by_cases cN : pos T N k < N
      · have ta := F.tb cN
        have ti : i2 (T (pos T N k : Int)) = T (pos T N k) := i2_of (by omega) (by omega)
        rw [if_pos (by omega), Option.bind_some, F.gT, Option.bind_some, Option.bind_some, F.ld cN, Option.bind_some, f_digit ti, Option.bind_some]
        dsimp only
        by_cases cd : isDig (T (pos T N k)) = true
        · have c50 : cT T N k = 50 := nc.1.mpr ⟨cN, cd⟩
          rw [if_neg (by rw [b01_z]; simp [cd])]
          unfold f_X6_part_73 f_X6_part_78
          rw [F.dsp, must_ok (by decide), tc_r, if_pos rfl, F.dsp]
          by_cases l5 : lv = 50
          · obtain ⟨r, m1, m2⟩ := c_rleafN G l5 (by omega) (by omega)
            rw [m1, tc_l]
            have : (if cT T N k = 50 ∧ wT T N k ≤ 1000 ∨ isVal o (cT T N k) = true then (if lv = 50 then (.inl (k : Int) : PR Dn) else if cT T N k = 50 then .inr ((k : Int) + 1, lv + 1, fun _ => some (wT T N k)) else if o ≠ 0 ∧ cT T N k = 22 then (if cT T N ((k : Int) + 1) = 50 ∧ 0 ≤ wT T N ((k : Int) + 1) ∧ wT T N ((k : Int) + 1) ≤ 6 then .inr ((k : Int) + 2, lv + 1, fun e => some (e.2.1 (wT T N ((k : Int) + 1)))) else .inl ((k : Int) + 1)) else if o ≠ 0 ∧ cT T N k = 23 then (if cT T N ((k : Int) + 1) = 50 ∧ 0 ≤ wT T N ((k : Int) + 1) ∧ wT T N ((k : Int) + 1) ≤ 6 then (if cT T N ((k : Int) + 2) = 50 ∧ 0 ≤ wT T N ((k : Int) + 2) ∧ wT T N ((k : Int) + 2) ≤ 6 then .inr ((k : Int) + 3, lv + 1, fun e => some (e.2.2 (wT T N ((k : Int) + 1)) (wT T N ((k : Int) + 2)))) else .inl ((k : Int) + 2)) else .inl ((k : Int) + 1)) else .inr ((k : Int) + 1, lv + 1, dW o (cT T N k))) else .inl (k : Int)) = .inl (k : Int) := by
              rw [if_pos l5]
              split <;> rfl
            rw [this]
            exact rs_bad m2 (by decide) hl.2
          · have kl : 0 ≤ lv ∧ lv < 50 := ⟨hl.1, by omega⟩
            obtain ⟨g1, x1, G1, N1⟩ := c_rleaf G kl
            have q1 := N1.2.1
            have q2 := N1.2.2
            have pp := c_part10 G1 (by omega) (by omega)
            rw [x1, tc_r]
            by_cases cw : wT T N k ≤ 1000
            · obtain ⟨g3, m1, m2, m3, m4, m5, m6⟩ := pp.1 ⟨c50, cw⟩
              rw [m1, if_pos (Or.inl ⟨c50, cw⟩), if_neg l5, if_pos c50]
              have wb := (wT_b (T := T) n4.1 (k : Int)).1
              refine rs_leaf (N1.1.trans m3 (Int.le_refl _)) m2 ⟨⟨by omega, by omega⟩, Or.inl ⟨m4.1, by rw [m4.2]; exact ⟨wb, cw⟩, ?_⟩⟩ (by omega) (by omega) kl (by omega)
              rw [m4.2]
            · obtain ⟨r, m1, m2⟩ := pp.2 (fun h => cw h.2)
              rw [m1, if_neg (fun h => h.elim (fun z => cw z.2) cv)]
              exact rs_bad (m2.of (c := 2) (z := 8) N1.1 (Int.le_refl _) (by omega) (by omega)) (by decide) hl.2
        · have h50 : ¬ cT T N k = 50 := fun z => cd (nc.1.mp z).2
          rw [if_pos (by rw [b01_z]; exact cd), if_neg (fun h => h.elim (fun z => h50 z.1) cv)]
          exact n77 h50
      · have h50 : ¬ cT T N k = 50 := fun z => cN (nc.1.mp z).1
        rw [if_neg (by omega), if_neg (fun h => h.elim (fun z => h50 z.1) cv)]
        exact n77 h50
end
