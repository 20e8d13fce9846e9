/-! The component's reader: tests -/
set_option maxRecDepth 100000
section
variable {E : ax_E} {T : Rw} {N x i p w tg k d u : Nat} {o lv dp pl pl0 v rr all : Int} {g g' g0 g1 : ax_H} {F : Dt}
theorem c_tlT {Tt : Int → Bool} {part : Int → Int → PR Dt} {sub : Option Nat → ax_H → Option ((Nat × ax_H) ⊕ (Option Nat × ax_H))} {B : ax_H → Option (ax_H ⊕ ((Nat × ax_H) ⊕ (Option Nat × ax_H)))} (hall : all = 0 ∨ all = 1) (hrr : 0 ≤ rr ∧ rr ≤ 8) (hpl : 0 ≤ pl0)
    (hs : ∀ (k : Nat) (lv pl : Int) (g : ax_H), RdC E T N x i p w tg k lv dp pl g → 0 ≤ pl → 2 * pl ≤ lv → lv ≤ 50 → RmR E g lv → RsT E T N x i p w tg o dp pl g lv d rr (sub (some i) g) (part k lv))
    (hstop : ∀ (k : Nat) (lv pl : Int) (g : ax_H) (y : Option Nat × ax_H), RdC E T N x i p w tg k lv dp pl g → ¬ Tt (cT T N k) = true → f_X6_row E (some i) all pl0 g = some y → B g = some (.inr (.inr y)))
    (hgo : ∀ (k : Nat) (lv pl : Int) (g g1 : ax_H), RdC E T N x i p w tg k lv dp pl g → Tt (cT T N k) = true → f_X6_next E (some i) g = some g1 → RdF E T N x i p w tg g1 → (∀ r, sub (some i) g1 = some (.inl r) → B g = some (.inr (.inl r))) ∧ ∀ u g2 g3, sub (some i) g1 = some (.inr (some u, g2)) → RdF E T N x i p w tg g2 → f_X6_add E (some i) (some u) g2 = some g3 → B g = some (.inl g3)) :
    ∀ (n k : Nat) (lv lv0 : Int) (L : List Dt) (gA g0 : ax_H), RdC E T N x i p w tg k lv dp (pl0 + L.length) gA → RdR i p pl0 g0 gA → (i < g0.1 ∧ p < g0.1 ∧ w < g0.1 ∧ x + 116 ≤ g0.1) → 1 ≤ L.length → (∀ (j : Nat) (F : Dt), L[j]? = some F → ∃ b, hR gA p (pl0.toNat + j) = some b ∧ TestN o (RnF g0.1 gA.1) gA x d b F) → 2 * pl0 ≤ lv0 → lv0 + 2 * L.length ≤ lv → lv ≤ 50 → (L.length = 1 → (gA.1 : Int) + 22 ≤ g0.1 + 16 * (lv - lv0) + rr ∧ (gA.2.1 : Int) + 45 ≤ g0.2.1 + 32 * (lv - lv0) + rr) → (gA.1 : Int) + 14 * L.length ≤ g0.1 + 16 * (lv - lv0) → (gA.2.1 : Int) + 37 * L.length ≤ g0.2.1 + 32 * (lv - lv0) → RmR E g0 lv0 → 51 ≤ n + lv → RsT E T N x i p w tg o dp pl0 g0 lv0 (d + 1) rr (ax_iter B gA) (pTl (cT T N) Tt (fun _ => if all = 0 then dO else dA) part n k lv (rowF all L)) := by
  intro n
  induction n with
  | zero => intro k lv lv0 L gA g0 _ _ _ _ _ _ _ h1 _ _ _ _ h; exfalso; omega
  | succ n ih =>
    intro k lv lv0 L gA g0 G R hb h1 hL2 l0 ll l5 r1 r2 r3 rm hn
    have rm' := rm
    unfold RmR at rm'
    unfold pTl
    by_cases c : Tt (cT T N k) = true
    · rw [if_pos c]
      obtain ⟨g1, x1, G1, N1⟩ := c_nxt G
      obtain ⟨s1, s2⟩ := hgo k lv _ gA g1 G c x1 G1.1
      have q1 := N1.2.1
      have q2 := N1.2.2
      have hR1 := R.1
      have bs := hs (k + 1) lv (pl0 + L.length) g1 G1 (by omega) (by omega) l5 (by unfold RmR; omega)
      rw [show ((k + 1 : Nat) : Int) = (k : Int) + 1 by omega] at bs
      cases hP : part ((k : Int) + 1) lv with
      | inl t =>
        rw [hP] at bs
        obtain ⟨r, b1, b2⟩ := bs
        exact ⟨r, it_done (s1 r b1), b2.of (R.trans N1.1 (by omega)) (by omega) (by omega) (by omega)⟩
      | inr vv =>
        obtain ⟨j, lv', F'⟩ := vv
        rw [hP] at bs
        obtain ⟨u, g3, b1, b2, b3, b4, b5, b6, b7, b8⟩ := bs
        obtain ⟨t1, t2⟩ := b6.tag
        obtain ⟨g4, a1, a2, a3, a4⟩ := c_radd b4 ⟨by omega, by omega⟩ t1
        have st := s2 u g3 g4 b1 b4.1 a1
        have z1 := a3.2.1
        have z2 := a3.2.2
        have hb5 := b5.1
        have R4 : RdR i p pl0 g0 g4 := ((R.trans N1.1 (by omega)).trans b5 (by omega)).trans a3.1 (by omega)
        have el : (L ++ [F']).length = L.length + 1 := by rw [List.length_append]; rfl
        have cc : ∀ c, g0.1 ≤ c → c < gA.1 → g4.2.2 c = gA.2.2 c := fun c c1 c2 => by
          rw [a3.1.2.2.1 c (by omega) (by omega) (by omega), b5.2.2.1 c (by omega) (by omega) (by omega)]
          exact N1.1.2.2.1 c c2 (by omega) (by omega)
        have z := ih j.toNat lv' lv0 (L ++ [F']) g4 g0 (by rw [el, show pl0 + ((L.length + 1 : Nat) : Int) = pl0 + L.length + 1 by omega]; exact a2) R4 hb (by omega) (fun q Fq eq => ?_) l0 (by omega) b3.2 (fun h => by omega) (by omega) (by omega) rm (by omega)
        · rw [Int.toNat_of_nonneg b2, rowF_app h1] at z
          rw [it_step st]
          exact z
        · by_cases hq : q < L.length
          · rw [List.getElem?_append_left hq] at eq
            obtain ⟨b, w1, w2⟩ := hL2 q Fq eq
            refine ⟨b, ?_, w2.rd (Nat.le_refl _) (by omega) cc⟩
            rw [a3.1.2.2.2 _ (by omega), b5.2.2.2 _ (by omega), N1.1.2.2.2 _ (by omega)]
            exact w1
          · have lq := (List.getElem?_eq_some_iff.mp eq).1
            have q0 : q = L.length := by omega
            subst q0
            rw [List.getElem?_append_right (Nat.le_refl _), Nat.sub_self] at eq
            cases eq
            refine ⟨u, ?_, b6.rd (by omega) (by omega) (fun c c1 c2 => a3.1.2.2.1 c c2 (by omega) (by omega))⟩
            rw [show pl0.toNat + L.length = (pl0 + L.length).toNat by omega]
            exact a4
    · rw [if_neg c]
      obtain ⟨u, g', y1, y2, y3, y4, y5, y6, y7⟩ := c_rrow hall hpl (by omega) G R hb h1 hL2 (by omega) (by omega)
      refine ⟨u, g', it_done (hstop k lv _ gA _ G c y1), by omega, by omega, ?_, y3, y4, ?_, ?_⟩
      · rw [Int.toNat_natCast]; exact y2
      · by_cases hl : L.length = 1
        · have a := y5 hl
          have b := r1 hl
          omega
        · omega
      · by_cases hl : L.length = 1
        · have a := y5 hl
          have b := r1 hl
          omega
        · omega
theorem c_rowT {Tt : Int → Bool} {part : Int → Int → PR Dt} {sub : Option Nat → ax_H → Option ((Nat × ax_H) ⊕ (Option Nat × ax_H))} {B : Int → ax_H → Option (ax_H ⊕ ((Nat × ax_H) ⊕ (Option Nat × ax_H)))} (hall : all = 0 ∨ all = 1) (hrr : 0 ≤ rr ∧ rr ≤ 8)
    (hs : ∀ (k : Nat) (lv pl : Int) (g : ax_H), RdC E T N x i p w tg k lv dp pl g → 0 ≤ pl → 2 * pl ≤ lv → lv ≤ 50 → RmR E g lv → RsT E T N x i p w tg o dp pl g lv d rr (sub (some i) g) (part k lv))
    (hstop : ∀ (k : Nat) (lv pl pl0 : Int) (g : ax_H) (y : Option Nat × ax_H), RdC E T N x i p w tg k lv dp pl g → ¬ Tt (cT T N k) = true → f_X6_row E (some i) all pl0 g = some y → B pl0 g = some (.inr (.inr y)))
    (hgo : ∀ (k : Nat) (lv pl pl0 : Int) (g g1 : ax_H), RdC E T N x i p w tg k lv dp pl g → Tt (cT T N k) = true → f_X6_next E (some i) g = some g1 → RdF E T N x i p w tg g1 → (∀ r, sub (some i) g1 = some (.inl r) → B pl0 g = some (.inr (.inl r))) ∧ ∀ u g2 g3, sub (some i) g1 = some (.inr (some u, g2)) → RdF E T N x i p w tg g2 → f_X6_add E (some i) (some u) g2 = some g3 → B pl0 g = some (.inl g3))
    (G : RdC E T N x i p w tg k lv dp pl g) (hpl : 0 ≤ pl) (l0 : 2 * pl ≤ lv) (l1 : lv ≤ 50) (rm : RmR E g lv) : RsT E T N x i p w tg o dp pl g lv (d + 1) rr ((ax_gIs E g (some i) [(25, 4), (7, 4)]).bind fun v1 => ax_tc (fun z3 => some (.inl z3)) (ax_dp E g (some i) fun t => if t = 25 ∨ t = 7 then sub (some i) g else none) fun q2 => (ax_dp E q2.2 (some i) fun t => if t = 25 ∨ t = 7 then f_X6_add E (some i) q2.1 q2.2 else none).bind fun h4 => ax_iter (B v1) h4) (pRow (cT T N) Tt (fun _ => if all = 0 then dO else dA) part k lv) := by
  have bs := hs k lv pl g G hpl l0 l1 rm
  have hp := G.1.2.1
  unfold pRow
  rw [G.1.gI, Option.bind_some, G.2.2.2.2.2, G.1.dsp]
  cases hP : part (k : Int) lv with
  | inl t =>
    rw [hP] at bs
    obtain ⟨r, b1, b2⟩ := bs
    rw [b1, tc_l]
    exact ⟨r, rfl, b2⟩
  | inr vv =>
    obtain ⟨j, lv', F'⟩ := vv
    rw [hP] at bs
    obtain ⟨u, g3, b1, b2, b3, b4, b5, b6, b7, b8⟩ := bs
    obtain ⟨t1, t2⟩ := b6.tag
    obtain ⟨g4, a1, a2, a3, a4⟩ := c_radd b4 ⟨by omega, by omega⟩ t1
    have z1 := a3.2.1
    have z2 := a3.2.2
    rw [b1, tc_r]
    dsimp only
    rw [b4.1.dsp, a1, Option.bind_some]
    have z := c_tlT (B := B pl) hall hrr hpl hs (fun k lv pl' g y => hstop k lv pl' pl g y) (fun k lv pl' g g1 => hgo k lv pl' pl g g1) 51 j.toNat lv' lv [F'] g4 g a2 (b5.trans a3.1 (Int.le_refl _)) ⟨by omega, by omega, by omega, by omega⟩ (Nat.le_refl 1) (fun q Fq eq => ?_) l0 (by show lv + 2 * ((1 : Nat) : Int) ≤ lv'; omega) b3.2 (fun _ => ⟨by omega, by omega⟩) (by show (g4.1 : Int) + 14 * ((1 : Nat) : Int) ≤ _; omega) (by show (g4.2.1 : Int) + 37 * ((1 : Nat) : Int) ≤ _; omega) rm (by omega)
    · rw [Int.toNat_of_nonneg b2] at z
      exact z
    · have lq := (List.getElem?_eq_some_iff.mp eq).1
      have q0 : q = 0 := by
        have : [F'].length = 1 := rfl
        omega
      subst q0
      cases eq
      exact ⟨u, a4, b6.rd (Nat.le_refl _) (by omega) (fun c c1 c2 => a3.1.2.2.1 c c2 (by omega) (by omega))⟩
theorem c_both {s0 s1 s2 : Option Nat → ax_H → Option ((Nat × ax_H) ⊕ (Option Nat × ax_H))} {part : Int → Int → PR Dt} (hrr : 0 ≤ rr ∧ rr ≤ 8)
    (hs : ∀ (k : Nat) (lv pl : Int) (g : ax_H), RdC E T N x i p w tg k lv dp pl g → 0 ≤ pl → 2 * pl ≤ lv → lv ≤ 50 → RmR E g lv → RsT E T N x i p w tg o dp pl g lv d rr (s0 (some i) g) (part k lv))
    (G : RdC E T N x i p w tg k lv dp pl g) (hpl : 0 ≤ pl) (l0 : 2 * pl ≤ lv) (l1 : lv ≤ 50) (rm : RmR E g lv) : RsT E T N x i p w tg o dp pl g lv (d + 1) rr (f_X6_both E s0 s1 s2 (some i) g) (pRow (cT T N) isAnd (fun _ => dA) part k lv) := by
  have e : ∀ c, (isAnd c = true) = (c = 7) := fun c => by unfold isAnd; rw [decide_eq_true_eq]
  refine c_rowT (all := 1) (Tt := isAnd) (B := fun v1 s => lb_X6_both_13 E s0 s1 s2 (some i) v1 s) (sub := s0) (Or.inr rfl) hrr hs ?_ ?_ G hpl l0 l1 rm
  · intro k lv pl pl0 g y G h hr
    rw [e] at h
    have A : f_X6_accept E (some i) (some (E.2.2 40)) g = some (0, g) := acc_no (j := 30) G (by decide) h
    unfold lb_X6_both_13 ax_cst
    rw [Option.bind_some, G.1.dsp, A, Option.bind_some]
    dsimp only
    rw [if_pos (by decide), G.1.dsp, hr]
    rfl
  · intro k lv pl pl0 g g1 G h hn F1
    rw [e] at h
    have A : f_X6_accept E (some i) (some (E.2.2 40)) g = some (1, g1) := acc_yes (j := 30) G (by decide) h hn
    refine ⟨fun r hr => ?_, fun u g2 g3 hr F2 ha => ?_⟩
    · unfold lb_X6_both_13 ax_cst
      rw [Option.bind_some, G.1.dsp, A, Option.bind_some]
      dsimp only
      rw [if_neg (by decide), F1.dsp, hr, tc_l]
    · unfold lb_X6_both_13 ax_cst
      rw [Option.bind_some, G.1.dsp, A, Option.bind_some]
      dsimp only
      rw [if_neg (by decide), F1.dsp, hr, tc_r]
      dsimp only
      rw [F2.dsp, ha, Option.bind_some]
theorem c_rtest {s0 s1 s2 : Option Nat → ax_H → Option ((Nat × ax_H) ⊕ (Option Nat × ax_H))} {part : Int → Int → PR Dt} (hrr : 0 ≤ rr ∧ rr ≤ 8)
    (hs : ∀ (k : Nat) (lv pl : Int) (g : ax_H), RdC E T N x i p w tg k lv dp pl g → 0 ≤ pl → 2 * pl ≤ lv → lv ≤ 50 → RmR E g lv → RsT E T N x i p w tg o dp pl g lv d rr (s1 (some i) g) (part k lv))
    (G : RdC E T N x i p w tg k lv dp pl g) (hpl : 0 ≤ pl) (l0 : 2 * pl ≤ lv) (l1 : lv ≤ 50) (rm : RmR E g lv) : RsT E T N x i p w tg o dp pl g lv (d + 1) rr (f_X6_test E s0 s1 s2 (some i) g) (pRow (cT T N) isOr (fun _ => dO) part k lv) := by
  have e : ∀ c, (isOr c = true) = (c = 6) := fun c => by unfold isOr; rw [decide_eq_true_eq]
  refine c_rowT (all := 0) (Tt := isOr) (B := fun v1 s => lb_X6_test_13 E s0 s1 s2 (some i) v1 s) (sub := s1) (Or.inl rfl) hrr hs ?_ ?_ G hpl l0 l1 rm
  · intro k lv pl pl0 g y G h hr
    rw [e] at h
    have A : f_X6_accept E (some i) (some (E.2.2 39)) g = some (0, g) := acc_no (j := 29) G (by decide) h
    unfold lb_X6_test_13 ax_cst
    rw [Option.bind_some, G.1.dsp, A, Option.bind_some]
    dsimp only
    rw [if_pos (by decide), G.1.dsp, hr]
    rfl
  · intro k lv pl pl0 g g1 G h hn F1
    rw [e] at h
    have A : f_X6_accept E (some i) (some (E.2.2 39)) g = some (1, g1) := acc_yes (j := 29) G (by decide) h hn
    refine ⟨fun r hr => ?_, fun u g2 g3 hr F2 ha => ?_⟩
    · unfold lb_X6_test_13 ax_cst
      rw [Option.bind_some, G.1.dsp, A, Option.bind_some]
      dsimp only
      rw [if_neg (by decide), F1.dsp, hr, tc_l]
    · unfold lb_X6_test_13 ax_cst
      rw [Option.bind_some, G.1.dsp, A, Option.bind_some]
      dsimp only
      rw [if_neg (by decide), F1.dsp, hr, tc_r]
      dsimp only
      rw [F2.dsp, ha, Option.bind_some]
/-- a test, with so many brackets left -/
theorem c_testR (hto : (tg = 7 ∧ o = 0) ∨ (tg = 25 ∧ o = 1)) : ∀ (r n : Nat), r ≤ 8 → 3 * r + 3 ≤ n → ∀ (k : Nat) (lv pl : Int) (g : ax_H), RdC E T N x i p w tg k lv (8 - r) pl g → 0 ≤ pl → 2 * pl ≤ lv → lv ≤ 50 → RmR E g lv → RsT E T N x i p w tg o (8 - r) pl g lv (3 * r + 4) r ((rg_X6_plain E n).2.2 (some i) g) (pT o (cT T N) (wT T N) r k lv) := by
  intro r
  induction r with
  | zero =>
    intro n hr hn k lv pl g G hpl l0 l1 rm
    obtain ⟨m, rfl⟩ : ∃ m, n = m + 3 := ⟨n - 3, by omega⟩
    rw [pT_eq]
    refine c_rtest (d := 3) (by omega) (fun k lv pl g G hpl l0 l1 rm => c_both (d := 2) (by omega) (fun k lv pl g G hpl l0 l1 rm => c_rplain (d := 1) hto hr (by omega) (fun _ => by omega) (by omega) hpl (fun f hf => ?_) G l0 l1 rm) G hpl l0 l1 rm) G hpl l0 l1 rm
    cases hf
  | succ r ih =>
    intro n hr hn k lv pl g G hpl l0 l1 rm
    obtain ⟨m, rfl⟩ : ∃ m, n = m + 3 := ⟨n - 3, by omega⟩
    rw [pT_eq]
    refine c_rtest (d := 3 * r + 6) (by omega) (fun k lv pl g G hpl l0 l1 rm => c_both (d := 3 * r + 5) (by omega) (fun k lv pl g G hpl l0 l1 rm => c_rplain (d := 3 * r + 4) hto hr (by omega) (fun h => ?_) (by omega) hpl (fun f hf => ⟨by omega, fun k lv g G l0 l1 rm => ?_⟩) G l0 l1 rm) G hpl l0 l1 rm) G hpl l0 l1 rm
    · cases h
    · have e : f = pT o (cT T N) (wT T N) r := by cases hf; rfl
      subst e
      rw [show (8 : Int) - ((r + 1 : Nat) : Int) + 1 = 8 - (r : Int) by omega] at G ⊢
      rw [show (((r + 1 : Nat) : Int) - 1) = (r : Int) by omega]
      exact ih m (by omega) (by omega) k lv pl g G hpl l0 l1 rm
end
