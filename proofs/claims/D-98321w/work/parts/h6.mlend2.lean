/-! Lendings: the model answers -/
set_option maxRecDepth 100000
theorem lr_b {K : Rw} {a : LsE} (H0 : KW K) (V : leV K (K 153).toNat a) {w : Nat} (hw : w < a.1) : (0 ≤ lrS K a w ∧ lrS K a w < K 152) ∧ (0 ≤ tkS K a w ∧ tkS K a w < K 152) ∧ lrS K a w ≠ tkS K a w := by
  obtain ⟨-, b⟩ := V.2 w hw
  obtain ⟨x1, x2, x3, -⟩ := vis_b H0 (v := (a.2.2 w).toNat) (by omega)
  rw [Int.toNat_of_nonneg b.1] at x1 x2 x3
  exact ⟨x1, x2, x3⟩
theorem prS_b {K : Rw} {a : LsE} (V : ∀ j, j < a.1 → 1 ≤ a.2.1 j ∧ a.2.1 j ≤ 999) (h8 : a.1 ≤ 8) (p : Int) (st : Nat) (k : Nat) (hk : k ≤ a.1) : -7992 ≤ sm k (prF K a p st) ∧ sm k (prF K a p st) ≤ 7992 := by
  have h1 := sm_ge (n := k) (f := prF K a p st) (c := -999) (fun j hj => by
    have := V j (by omega)
    unfold prF
    split
    · split
      · omega
      · split <;> omega
    · omega)
  have h2 := sm_le (n := k) (f := prF K a p st) (c := 999) (fun j hj => by
    have := V j (by omega)
    unfold prF
    split
    · split
      · omega
      · split <;> omega
    · omega)
  omega
/-- the model's rows of lendings, as they are listed -/
def LmR (K : Rw) (a : LsE) (s1 : Sg) : Prop := s1 2 = K ∧ s1 0 34 = a.1 ∧ ∀ j : Nat, j < a.1 → s1 16 j = lrS K a j ∧ s1 17 j = tkS K a j ∧ s1 18 j = a.2.1 j ∧ s1 19 j = a.2.2 j
section
variable {E : ax_E} {m : Nat} {s s1 : Sg} {h : ax_H} {K : Rw} {a : LsE}
theorem m_purse (H0 : KW K) (V : leV K (K 153).toNat a) (R : LmR K a s1) {p : Int} (hp : 0 ≤ p ∧ p < 7) {st : Nat} (hs : st < 256) : f_X5_purseBehind E (some m) p st (mdl m s1 h) = some (prS K a p st, mdl m s1 h) := by
  obtain ⟨k1, r34, rr⟩ := R
  have n8 := H0.2.2.1.1
  have a8 := V.1
  have h7 := H0.1.1
  have kp := H0.1.2.2.2.2.2.2.1 p hp.1 hp.2
  have e := it_traj (body := fun y : Int × Int × ax_H => lb_X5_purseBehind_12 E (some m) p st y.1 y.2.1 y.2.2) (fun k => (K p + sm k (prF K a p st), (k : Int), mdl m s1 h)) a.1 (r := (prS K a p st, mdl m s1 h)) (fun k hk => by
    obtain ⟨x1, x2, x3, x4⟩ := rr k hk
    obtain ⟨b1, b2, b3⟩ := lr_b H0 V hk
    dsimp only
    unfold lb_X5_purseBehind_12 f_X5_purseBehind_79
    rw [md_gI34, Option.bind_some, r34, i2_of (a := (k : Int)) (by omega) (by omega), i2_of (a := (a.1 : Int)) (by omega) (by omega), if_pos (by omega), m_isIn (by omega) (by omega), Option.bind_some]
    dsimp only
    have es : sm (k + 1) (prF K a p st) = sm k (prF K a p st) + prF K a p st k := rfl
    rw [es, ← Int.add_assoc]
    by_cases c : st >>> k % 2 = 1
    · rw [if_neg (by rw [b01_z]; exact fun z => z c), md_gR30, Option.bind_some, md_ld17 (by omega) (by omega), Option.bind_some, x2, i2_of (a := tkS K a k) (by omega) (by omega), i2_of (a := p) (by omega) (by omega)]
      by_cases c1 : tkS K a k = p
      · have ef : prF K a p st k = a.2.1 k := by unfold prF; rw [if_pos c, if_pos c1]
        rw [if_pos c1, md_gR31, Option.bind_some, md_ld18 (by omega) (by omega), Option.bind_some, x3, ef]
        rfl
      · rw [if_neg c1, md_gR29, Option.bind_some, md_ld16 (by omega) (by omega), Option.bind_some, x1, i2_of (a := lrS K a k) (by omega) (by omega)]
        by_cases c2 : lrS K a k = p
        · have ef : prF K a p st k = - a.2.1 k := by unfold prF; rw [if_pos c, if_neg c1, if_pos c2]
          rw [if_pos c2, md_gR31, Option.bind_some, md_ld18 (by omega) (by omega), Option.bind_some, x3, ef]
          rfl
        · have ef : prF K a p st k = 0 := by unfold prF; rw [if_pos c, if_neg c1, if_neg c2]
          rw [if_neg c2, ef]
          rfl
    · have ef : prF K a p st k = 0 := by unfold prF; rw [if_neg c]
      rw [if_pos (by rw [b01_z]; exact c), ef]
      rfl) (by
    dsimp only
    unfold lb_X5_purseBehind_12
    rw [md_gI34, Option.bind_some, r34, if_neg (Int.lt_irrefl _)]
    rfl)
  unfold f_X5_purseBehind f_X5_purseBehind_12
  rw [md_gR2, Option.bind_some, Int.zero_add, md_ld2 (by omega) (by omega), Option.bind_some, k1]
  have e0 : K p + sm 0 (prF K a p st) = K p := by show K p + 0 = K p; omega
  rw [e0] at e
  exact e
theorem m_may (H0 : KW K) (V : leV K (K 153).toNat a) (R : LmR K a s1) {st w : Nat} (hs : st < 256) (hw : w < a.1) : f_X5_mayLend E (some m) st w (mdl m s1 h) = some (b01 (mayS K a st w = true), mdl m s1 h) := by
  have R' := R
  obtain ⟨k1, r34, rr⟩ := R
  have n8 := H0.2.2.1.1
  have a8 := V.1
  have h7 := H0.1.1
  obtain ⟨x1, x2, x3, x4⟩ := rr w hw
  obtain ⟨b1, b2, b3⟩ := lr_b H0 V hw
  obtain ⟨d1, d2⟩ := V.2 w hw
  have kl := H0.1.2.2.2.2.2.2.1 (lrS K a w) (by omega) (by omega)
  have kt := H0.1.2.2.2.2.2.2.1 (tkS K a w) (by omega) (by omega)
  have p1 := prS_b (K := K) (fun j hj => (V.2 j hj).1) (by omega) (lrS K a w) st a.1 (Nat.le_refl _)
  have p2 := prS_b (K := K) (fun j hj => (V.2 j hj).1) (by omega) (tkS K a w) st a.1 (Nat.le_refl _)
  have eM : (mayS K a st w = true) = (¬ st >>> w % 2 = 1 ∧ a.2.1 w ≤ prS K a (lrS K a w) st ∧ prS K a (tkS K a w) st + a.2.1 w ≤ 9999) := by unfold mayS; rw [decide_eq_true_eq]
  have q1 : prS K a (lrS K a w) st = K (lrS K a w) + sm a.1 (prF K a (lrS K a w) st) := rfl
  have q2 : prS K a (tkS K a w) st = K (tkS K a w) + sm a.1 (prF K a (tkS K a w) st) := rfl
  unfold f_X5_mayLend f_X5_mayLend_56
  rw [m_isIn (by omega) (by omega), Option.bind_some]
  dsimp only
  by_cases c : st >>> w % 2 = 1
  · rw [if_neg (by rw [b01_z]; exact fun z => z c), b01_f (by rw [eM]; exact fun z => z.1 c)]
  · rw [if_pos (by rw [b01_z]; exact c), md_gR29, Option.bind_some, md_ld16 (by omega) (by omega), Option.bind_some, x1, md_ce, Option.bind_some, m_purse H0 V R' (by omega) hs, Option.bind_some, md_gR31, Option.bind_some, md_ld18 (by omega) (by omega), Option.bind_some, x3, i2_of (a := prS K a (lrS K a w) st) (by omega) (by omega), i2_of (a := a.2.1 w) (by omega) (by omega)]
    by_cases c1 : prS K a (lrS K a w) st < a.2.1 w
    · rw [if_pos c1, b01_f (by rw [eM]; exact fun z => by omega)]
    · rw [if_neg c1, md_gR30, Option.bind_some, md_ld17 (by omega) (by omega), Option.bind_some, x2, md_ce, Option.bind_some, m_purse H0 V R' (by omega) hs, Option.bind_some]
      dsimp only
      rw [md_gR31, Option.bind_some, md_ld18 (by omega) (by omega), Option.bind_some, x3, show i2 9999 = 9999 by decide, i2_of (a := prS K a (tkS K a w) st + a.2.1 w) (by omega) (by omega)]
      by_cases c2 : 9999 < prS K a (tkS K a w) st + a.2.1 w
      · rw [if_pos c2, b01_f (by rw [eM]; exact fun z => by omega)]
      · rw [if_neg c2, b01_t (by rw [eM]; exact ⟨c, by omega, by omega⟩)]
/-- the first that can be, and behind which there is a row -/
theorem lwF_ex {p : Nat → Bool} : ∀ (j w : Nat), (∃ i, w ≤ i ∧ i < w + j ∧ p i = true) → w ≤ lwF p j w ∧ lwF p j w < w + j ∧ p (lwF p j w) = true ∧ ∀ i, w ≤ i → i < lwF p j w → p i = false := by
  intro j
  induction j with
  | zero => rintro w ⟨i, h1, h2, -⟩; omega
  | succ j ih =>
    rintro w ⟨i, h1, h2, h3⟩
    unfold lwF
    by_cases c : p w = true
    · rw [if_pos c]
      exact ⟨Nat.le_refl _, by omega, c, fun i a b => by omega⟩
    · rw [if_neg c]
      have hi : i ≠ w := fun e => c (e ▸ h3)
      obtain ⟨a1, a2, a3, a4⟩ := ih (w + 1) ⟨i, by omega, by omega, h3⟩
      refine ⟨by omega, by omega, a3, fun q q1 q2 => ?_⟩
      by_cases cq : q = w
      · subst cq; exact Bool.eq_false_iff.mpr c
      · exact a4 q (by omega) q2
theorem rd_ex {n : Nat} {may : Nat → Nat → Bool} (hn : n ≤ 8) (hm : ∀ st w, may st w = true → ¬ st >>> w % 2 = 1) {st : Nat} (h : st < 2 ^ n) (hne : st ≠ 2 ^ n - 1) (hR : rdS n may st ≠ 0) : ∃ i, 0 ≤ i ∧ i < 0 + n ∧ grG n may st i = true := by
  apply Classical.byContradiction
  intro no
  refine hR ?_
  rw [rdS_eq hn hm h, if_neg hne, sm_zero (fun w hw => ?_)]
  · rfl
  · by_cases c : may st w = true
    · rw [if_pos c]
      apply Classical.byContradiction
      intro z
      exact no ⟨w, by omega, by omega, by unfold grG; rw [c, decide_eq_true z]; rfl⟩
    · rw [if_neg c]
/-- the rows by sets lie in the model's row 20 -/
def LmT (K : Rw) (a : LsE) (s1 : Sg) (c : Nat) : Prop := ∀ st : Nat, c ≤ st → st < 2 ^ a.1 → s1 20 st = rdS a.1 (mayS K a) st
theorem m_greedy (H0 : KW K) (V : leV K (K 153).toNat a) (R : LmR K a s1) (T : LmT K a s1 0) {i : Int} (hi : i ≤ 100) : ∀ (j st : Nat) (x5 x6 : Int), x6 + j = i + 1 → 3 ≤ x6 → ones16 st + j ≤ a.1 → st < 2 ^ a.1 → rdS a.1 (mayS K a) st ≠ 0 → (j = 0 → 0 ≤ x5 ∧ x5 < 8) → ax_iter (fun y : Int × Int × Int × ax_H => lb_X5_lendings_201 E (some m) i y.1 y.2.1 y.2.2.1 y.2.2.2) (st, x5, x6, mdl m s1 h) = some (s1 19 (match j with | 0 => x5 | j + 1 => (gre a.1 (mayS K a) j st : Int)), mdl m s1 h) := by
  have n8 := H0.2.2.1.1
  have a8 := V.1
  have p8 : 2 ^ a.1 ≤ 256 := Nat.pow_le_pow_right (show 0 < 2 by decide) (show a.1 ≤ 8 by omega)
  have hm := fun st w (h : mayS K a st w = true) => mayS_b st w h
  intro j
  induction j with
  | zero =>
    intro st x5 x6 e x3 ho hs hR h0
    obtain ⟨y1, y2⟩ := h0 rfl
    refine it_done ?_
    dsimp only
    unfold lb_X5_lendings_201
    rw [i2_of (a := i) (by omega) (by omega), i2_of (a := x6) (by omega) (by omega), if_pos (by omega), md_gR32, Option.bind_some, md_ld19 y1 y2, Option.bind_some]
    rfl
  | succ j ih =>
    intro st x5 x6 e x3 ho hs hR _
    have hne : st ≠ 2 ^ a.1 - 1 := fun z => by
      have := (on_all (n := a.1) (by omega) hs).mpr z
      omega
    obtain ⟨w1, w2, w3, w4⟩ := lwF_ex a.1 0 (rd_ex (n := a.1) (by omega) hm hs hne hR)
    obtain ⟨w, ew⟩ : ∃ w, w = lwF (grG a.1 (mayS K a) st) a.1 0 := ⟨_, rfl⟩
    rw [← ew] at w2 w3 w4
    have w3' : mayS K a st w = true ∧ rdS a.1 (mayS K a) (st ||| 2 ^ w) ≠ 0 := by
      unfold grG at w3
      rw [Bool.and_eq_true, decide_eq_true_eq] at w3
      exact w3
    have hb := hm st w w3'.1
    have hl := or_lt hs (show w < a.1 by omega)
    have eo : ∀ q, q < a.1 → ax_or (st : Int) (ax_shl 1 (q : Int)) = ((st ||| 2 ^ q : Nat) : Int) := by
      intro q hq
      have := pow_256 (w := q) (by omega)
      rw [shl1 (by omega), or_nat (by omega) (by omega)]
    have inn := it_traj (body := fun y : Int × ax_H => lb_X5_lendings_210 E (some m) i st y.1 x6 y.2) (fun k => ((k : Int), mdl m s1 h)) w (r := .inl (((st ||| 2 ^ w : Nat) : Int), (w : Int), x6 + 1, mdl m s1 h)) (fun k hk => by
      have nk := w4 k (by omega) hk
      dsimp only
      unfold lb_X5_lendings_210 f_X5_lendings_236
      rw [md_ce, Option.bind_some, m_may H0 V R (by omega) (by omega), Option.bind_some]
      dsimp only
      by_cases c : mayS K a st k = true
      · rw [if_neg (by rw [b01_z]; exact fun z => z c), md_gR33, Option.bind_some, eo k (by omega)]
        have hk2 := or_lt hs (show k < a.1 by omega)
        rw [md_ld20 (by omega) (by omega), Option.bind_some, T _ (by omega) hk2]
        have z : rdS a.1 (mayS K a) (st ||| 2 ^ k) = 0 := by
          unfold grG at nk
          rw [c, Bool.true_and] at nk
          have := of_decide_eq_false nk
          exact Classical.not_not.mp this
        rw [z, if_pos (by decide)]
        rfl
      · rw [if_pos (by rw [b01_z]; exact c)]
        rfl) (by
      dsimp only
      unfold lb_X5_lendings_210
      rw [md_ce, Option.bind_some, m_may H0 V R (by omega) (by omega), Option.bind_some]
      dsimp only
      rw [if_neg (by rw [b01_z]; exact fun z => z w3'.1), md_gR33, Option.bind_some, eo w (by omega), md_ld20 (by omega) (by omega), Option.bind_some, T _ (by omega) hl]
      have rb := rdS_b (n := a.1) (by omega) hm hl
      rw [i2_of (a := rdS a.1 (mayS K a) (st ||| 2 ^ w)) (by omega) (by omega), if_neg w3'.2]
      rfl)
    have step : lb_X5_lendings_201 E (some m) i st x5 x6 (mdl m s1 h) = some (.inl (((st ||| 2 ^ w : Nat) : Int), (w : Int), x6 + 1, mdl m s1 h)) := by
      unfold lb_X5_lendings_201
      rw [i2_of (a := i) (by omega) (by omega), i2_of (a := x6) (by omega) (by omega), if_neg (by omega)]
      unfold f_X5_lendings_210
      exact inn
    have nx := ih (st ||| 2 ^ w) (w : Int) (x6 + 1) (by omega) (by omega) (by rw [on_or (by omega) (by omega) hb]; omega) hl w3'.2 (fun _ => by omega)
    have fin := (it_step (body := fun y : Int × Int × Int × ax_H => lb_X5_lendings_201 E (some m) i y.1 y.2.1 y.2.2.1 y.2.2.2) (s := ((st : Int), x5, x6, mdl m s1 h)) step).trans nx
    rw [fin]
    cases j with
    | zero => show some (s1 19 (w : Int), _) = some (s1 19 ((lwF (grG a.1 (mayS K a) st) a.1 0 : Nat) : Int), _); rw [← ew]
    | succ j =>
      show some (s1 19 ((gre a.1 (mayS K a) j (st ||| 2 ^ w) : Nat) : Int), _) = some (s1 19 ((gre a.1 (mayS K a) j (st ||| 2 ^ lwF (grG a.1 (mayS K a) st) a.1 0) : Nat) : Int), _)
      rw [← ew]
end
