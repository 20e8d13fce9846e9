/-! The component's reader: numbers, the pile -/
set_option maxRecDepth 100000
theorem nu_mono {T : Rw} {k n : Nat} (h : ∀ q, q < n → isDig (T ((k + q : Nat) : Int)) = true) : ∀ q, q ≤ n → foldN (nuS T k) q 0 ≤ foldN (nuS T k) n 0 := by
  have st : ∀ q, q < n → foldN (nuS T k) q 0 ≤ foldN (nuS T k) (q + 1) 0 := by
    intro q hq
    have b := nu_b (T := T) (k := k) q (fun j hj => h j (by omega))
    have d := h q hq
    unfold isDig at d
    rw [decide_eq_true_eq] at d
    have es : foldN (nuS T k) (q + 1) 0 = nuS T k (foldN (nuS T k) q 0) q := rfl
    rw [es]
    generalize foldN (nuS T k) q 0 = v at b
    show v ≤ (if 1000000 < v then v else 10 * v + T ((k + q : Nat) : Int) - 48)
    split <;> omega
  have up : ∀ j q, q + j = n → foldN (nuS T k) q 0 ≤ foldN (nuS T k) n 0 := by
    intro j
    induction j with
    | zero => intro q e; rw [show q = n by omega]; exact Int.le_refl _
    | succ j ih => intro q e; exact Int.le_trans (st q (by omega)) (ih (q + 1) (by omega))
  intro q hq
  exact up (n - q) q (by omega)
/-- a number's code and its digits -/
theorem num_code {T : Rw} {N k : Nat} (hT : ∀ k : Int, 0 ≤ k → k < 400 → -128 ≤ T k ∧ T k ≤ 127) (hN : N ≤ 400) : (cT T N k = 50 ↔ pos T N k < N ∧ isDig (T (pos T N k)) = true) ∧ (pos T N k < N → isDig (T (pos T N k)) = true → wT T N k = foldN (nuS T (pos T N k)) (tnd T N (pos T N k) - pos T N k) 0 ∧ ∀ q, q < tnd T N (pos T N k) - pos T N k → isDig (T ((pos T N k + q : Nat) : Int)) = true) := by
  have pt := pos_toks (T := T) (i := k) hN
  constructor
  · unfold cT cut
    by_cases c : pos T N k < N
    · rw [if_pos (by have := pt.mp c; omega)]
      show tkC T N k = 50 ↔ _
      have hb := hT (pos T N k : Int) (by omega) (by omega)
      unfold tkC
      by_cases c1 : isLet (T (pos T N k)) = true
      · rw [if_pos c1]
        have wb := wdF_b (tkL T (pos T N k) (tnd T N (pos T N k))) wdL 1 (by decide)
        rw [show wdL.length = 29 by decide] at wb
        have nd' : ¬ isDig (T (pos T N k)) = true := by
          unfold isLet isDig at *
          rw [decide_eq_true_eq] at c1 ⊢
          omega
        exact ⟨fun e => by omega, fun e => absurd e.2 nd'⟩
      · rw [if_neg c1]
        by_cases c2 : isDig (T (pos T N k)) = true
        · rw [if_pos c2]
          exact ⟨fun _ => ⟨c, c2⟩, fun _ => rfl⟩
        · rw [if_neg c2]
          have := and255_b hb
          exact ⟨fun e => by omega, fun e => absurd e.2 c2⟩
    · rw [if_neg (by omega)]
      exact ⟨fun e => by omega, fun e => absurd e.1 c⟩
  · intro c cd
    have nl : ¬ isLet (T (pos T N k)) = true := by
      unfold isLet isDig at *
      rw [decide_eq_true_eq] at cd ⊢
      omega
    have et : tnd T N (pos T N k) = runP isDig T N 401 (pos T N k + 1) := by unfold tnd; rw [if_neg nl, if_pos cd]
    refine ⟨?_, fun q hq => ?_⟩
    · unfold wT cut
      rw [if_pos (by have := pt.mp c; omega)]
      show tkV T N k = _
      unfold tkV
      rw [if_pos cd]
    · by_cases cq : q = 0
      · subst cq; exact cd
      · rw [et] at hq
        exact ((runP_ge isDig T N 401 (pos T N k + 1)).2.2 (pos T N k + q) (by omega) (by omega)).2
section
variable {E : ax_E} {T : Rw} {N x i p w tg k : Nat} {lv dp pl : Int} {g g' : ax_H}
theorem c_rnum {most : Int} (G : RdC E T N x i p w tg k lv dp pl g) (hm : 0 ≤ most ∧ most ≤ 1000) (r1 : g.1 + 1 ≤ E.1.1) (r2 : g.2.1 + 7 ≤ E.1.2) : (cT T N k = 50 ∧ wT T N k ≤ most → ∃ g', f_X6_number E (some i) most g = some (.inr (wT T N k, g')) ∧ RdC E T N x i p w tg (k + 1) lv dp pl g' ∧ RdN' i p pl g g') ∧ (¬ (cT T N k = 50 ∧ wT T N k ≤ most) → ∃ r, f_X6_number E (some i) most g = some (.inl r) ∧ RdW T N i p pl g k 1 7 r) := by
  obtain ⟨F, g0, g1, -⟩ := id G
  have n4 := F.2.2.2.2.2.1
  have nc := num_code (k := k) n4.2 n4.1
  obtain ⟨r0, m1, m2⟩ := must_no (v := 0) G (by decide) r1 r2
  have n37 : f_X6_number_37 E (some i) most (some i) g = some (.inl r0) := by
    unfold f_X6_number_37 f_X6_number_38
    rw [F.dsp, m1, tc_l]
  unfold f_X6_number
  rw [F.gI, Option.bind_some, F.gX, Option.bind_some, F.gN, Option.bind_some, g0, i2_of (a := (pos T N k : Int)) (by have := pos_le (T := T) (N := N) k; omega) (by have := pos_le (T := T) (N := N) k; omega), i2_of (a := (N : Int)) (by omega) (by omega)]
  by_cases c : pos T N k < N
  · have ta := F.tb c
    have ti : i2 (T (pos T N k : Int)) = T (pos T N k) := i2_of (by omega) (by omega)
    rw [if_pos (by omega), Option.bind_some, F.gT, Option.bind_some, Option.bind_some, F.ld c, Option.bind_some, f_digit ti, Option.bind_some]
    dsimp only
    by_cases cd : isDig (T (pos T N k)) = true
    · rw [if_neg (by rw [b01_z]; simp [cd])]
      obtain ⟨w1, w2⟩ := nc.2 c cd
      obtain ⟨a, ea⟩ : ∃ a, a = pos T N k := ⟨_, rfl⟩
      have tb := tnd_b (T := T) c
      rw [← ea] at tb
      obtain ⟨n, en⟩ : ∃ n, n = tnd T N a - a := ⟨_, rfl⟩
      have e1 : hI g i 1 = ((a + n : Nat) : Int) := by rw [g1, show nd T N (pos T N k) = tnd T N (pos T N k) from if_pos c, ← ea]; omega
      rw [← ea, ← en] at w1 w2
      rw [← ea] at g0 c
      obtain ⟨g2, x1, x2, x3⟩ := c_nxt G
      have n85a : ∀ V, most < V → V ≤ 10000009 → f_X6_number_85 E (some i) most V g = some (.inl r0) := by
        intro V h1 h2
        unfold f_X6_number_85 f_X6_number_96
        rw [i2_of (a := most) (by omega) (by omega), i2_of (a := V) (by omega) (by omega), if_pos h1, F.dsp, m1, tc_l]
      have n85b : ∀ V, 0 ≤ V → V ≤ most → f_X6_number_85 E (some i) most V g = some (.inr (V, g2)) := by
        intro V h1 h2
        unfold f_X6_number_85 f_X6_number_96
        rw [i2_of (a := most) (by omega) (by omega), i2_of (a := V) (by omega) (by omega), if_neg (by omega), F.dsp, must_ok (by decide), tc_r, F.dsp, x1, Option.bind_some]
      have lp : ∀ (j q : Nat), q + j = n → ax_iter (fun s : Int × Int × ax_H => lb_X6_number_48 E (some i) most s.1 s.2.1 s.2.2) (foldN (nuS T a) q 0, ((a + q : Nat) : Int), g) = some (if wT T N k ≤ most then .inr (wT T N k, g2) else .inl r0) := by
        intro j
        induction j with
        | zero =>
          intro q e
          have eq : q = n := by omega
          subst eq
          have b := nu_b (T := T) (k := a) q (fun j hj => w2 j hj)
          rw [← w1] at b ⊢
          refine it_done ?_
          dsimp only
          unfold lb_X6_number_48
          rw [F.gI, Option.bind_some, e1, if_neg (Int.lt_irrefl _)]
          by_cases cm : wT T N k ≤ most
          · rw [if_pos cm, n85b _ b.1 cm]
            rfl
          · rw [if_neg cm, n85a _ (by omega) b.2]
            rfl
        | succ j ih =>
          intro q e
          have b := nu_b (T := T) (k := a) q (fun j hj => w2 j (by omega))
          have mo := nu_mono (T := T) (k := a) w2 q (by omega)
          rw [← w1] at mo
          by_cases cv : most < foldN (nuS T a) q 0
          · rw [if_neg (by omega)]
            refine it_done ?_
            dsimp only
            unfold lb_X6_number_48
            rw [F.gI, Option.bind_some, e1, i2_of (a := ((a + q : Nat) : Int)) (by omega) (by omega), i2_of (a := ((a + n : Nat) : Int)) (by omega) (by omega), if_pos (by omega), i2_of (a := most) (by omega) (by omega), i2_of (a := foldN (nuS T a) q 0) (by omega) (by omega), if_pos cv, n85a _ cv b.2]
            rfl
          · refine (it_step (s' := (foldN (nuS T a) (q + 1) 0, ((a + (q + 1) : Nat) : Int), g)) ?_).trans (ih (q + 1) (by omega))
            have es : foldN (nuS T a) (q + 1) 0 = 10 * foldN (nuS T a) q 0 + T ((a + q : Nat) : Int) - 48 := by
              show (if 1000000 < foldN (nuS T a) q 0 then _ else _) = _
              rw [if_neg (by omega)]
            unfold lb_X6_number_48
            rw [F.gI, Option.bind_some, e1, i2_of (a := ((a + q : Nat) : Int)) (by omega) (by omega), i2_of (a := ((a + n : Nat) : Int)) (by omega) (by omega), if_pos (by omega), i2_of (a := most) (by omega) (by omega), i2_of (a := foldN (nuS T a) q 0) (by omega) (by omega), if_neg cv, F.gX, Option.bind_some, F.gT, Option.bind_some, F.ld (by omega), Option.bind_some, es]
            rfl
      have q := lp n 0 (by omega)
      have fin : f_X6_number_38 E (some i) most (some i) 1 g = some (if wT T N k ≤ most then .inr (wT T N k, g2) else .inl r0) := by
        unfold f_X6_number_38 f_X6_number_48
        rw [F.dsp, must_ok (by decide), tc_r, F.gI, Option.bind_some, g0]
        exact q
      have c50 : cT T N k = 50 := nc.1.mpr ⟨by rw [← ea]; exact c, cd⟩
      constructor
      · intro h
        rw [if_pos h.2] at fin
        exact ⟨g2, fin, x2, x3⟩
      · intro h
        rw [if_neg (fun z => h ⟨c50, z⟩)] at fin
        exact ⟨r0, fin, m2⟩
    · rw [if_pos (by rw [b01_z]; exact cd)]
      exact ⟨fun h => absurd (nc.1.mp h.1).2 cd, fun _ => ⟨r0, n37, m2⟩⟩
  · rw [if_neg (by omega)]
    exact ⟨fun h => absurd (nc.1.mp h.1).1 c, fun _ => ⟨r0, n37, m2⟩⟩
/-- onto the pile -/
theorem c_radd {u : Nat} (G : RdC E T N x i p w tg k lv dp pl g) (hp : 0 ≤ pl ∧ pl < 50) (hu : hT g u = 17 ∨ hT g u = 18 ∨ hT g u = 19) : ∃ g', f_X6_add E (some i) (some u) g = some g' ∧ RdC E T N x i p w tg k lv dp (pl + 1) g' ∧ RdN' i p pl g g' ∧ hR g' p pl.toNat = some u := by
  obtain ⟨F, g0, g1, g2, g3, g4⟩ := id G
  obtain ⟨h1, e1⟩ : ∃ h1, h1 = wR g p pl.toNat (some u) := ⟨_, rfl⟩
  have hpos := F.2.1
  have hpT := F.2.2.2.2.2.2.2.1
  have R1 : RdN' i p pl g h1 := ⟨⟨by rw [e1]; exact Nat.le_refl _, by rw [e1]; exact Nat.le_refl _, fun c _ _ c3 => by rw [e1]; exact hC_wR_ne c3, fun j hj => by rw [e1]; exact hR_wR_ne (Or.inr (by omega))⟩, by rw [e1]; rfl, by rw [e1]; rfl⟩
  have F1 : RdF E T N x i p w tg h1 := F.keep R1.1 ⟨by rw [e1, hT_wR], fun j => by rw [e1]; exact hR_wR_ne (Or.inl hpos.2.2.2.1)⟩ ⟨by rw [e1, hT_wR], by rw [e1, hL_wR]⟩
  have II : ∀ j, hI h1 i j = hI g i j := fun j => by rw [e1, hI_wR]
  have G1 : RdC E T N x i p w tg k lv dp pl h1 := ⟨F1, (II 0).trans g0, (II 1).trans g1, (II 2).trans g2, (II 3).trans g3, (II 4).trans g4⟩
  refine ⟨wI h1 i 4 (pl + 1), ?_, RdG.w4 G1, R1.trans RdN'_w, ?_⟩
  · unfold f_X6_add
    rw [F.gR, Option.bind_some, F.2.2.2.2.2.2.2.2.2.2.1, F.gI, Option.bind_some, g4, f_stR hpT.1 (by decide) hp.1 (by rw [hpT.2]; omega) (by rw [hpT.2]; decide) (by omega) (by rcases hu with z | z | z <;> rw [z] <;> decide), Option.bind_some, ← e1, F1.gI, Option.bind_some, II, g4, F1.pI, Option.bind_some]
  · rw [hR_wI, e1]
    exact hR_wR_eq
end
