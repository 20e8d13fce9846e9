/-! Tokens: the model -/
set_option maxRecDepth 100000
def wdO (i : Nat) : Nat := (wdL.take i).foldl (fun a y => a + (y.length + 1)) 0
def wdW (i : Nat) : List Int := wdL.getD i []
theorem wd_f1 : al7 (fun i => al7 (fun t => decide ((wdW i).length ≤ t) || (decide (wrd.getD (wdO i + t) 0 = (wdW i).getD t 0) && decide ((wdW i).getD t 0 ≠ 32))) 11) 29 = true := by decide +kernel
theorem wd_f2 : al7 (fun i => decide (wrd.getD (wdO i + (wdW i).length) 0 = 32) && decide (wdO (i + 1) = wdO i + (wdW i).length + 1) && decide ((wdW i).length ≤ 10) && decide (wdO i + (wdW i).length < 147)) 29 = true := by decide +kernel
theorem wd_f3 : al7 (fun i => decide (wdL.drop i = wdW i :: wdL.drop (i + 1))) 29 = true := by decide +kernel
theorem wd_f4 : wdO 29 = 147 ∧ wdL.drop 29 = [] ∧ wdO 0 = 0 := by decide +kernel
theorem wd_1 {i t : Nat} (hi : i < 29) (ht : t < (wdW i).length) : wrd.getD (wdO i + t) 0 = (wdW i).getD t 0 ∧ (wdW i).getD t 0 ≠ 32 := by
  have h2 := al7_e _ wd_f2 i hi
  simp only [Bool.and_eq_true, decide_eq_true_eq] at h2
  have h := al7_e _ (al7_e _ wd_f1 i hi) t (by omega)
  have z : decide ((wdW i).length ≤ t) = false := decide_eq_false (by omega)
  rw [z, Bool.false_or, Bool.and_eq_true, decide_eq_true_eq, decide_eq_true_eq] at h
  exact h
theorem wd_2 {i : Nat} (hi : i < 29) : wrd.getD (wdO i + (wdW i).length) 0 = 32 ∧ wdO (i + 1) = wdO i + (wdW i).length + 1 ∧ (wdW i).length ≤ 10 ∧ wdO i + (wdW i).length < 147 := by
  have h2 := al7_e _ wd_f2 i hi
  simp only [Bool.and_eq_true, decide_eq_true_eq] at h2
  exact ⟨h2.1.1.1, h2.1.1.2, h2.1.2, h2.2⟩
theorem wd_3 {i : Nat} (hi : i < 29) : wdL.drop i = wdW i :: wdL.drop (i + 1) := by
  have h := al7_e _ wd_f3 i hi
  exact of_decide_eq_true h
theorem tkL_len (T : Rw) (a b : Nat) : (tkL T a b).length = b - a := by unfold tkL; rw [List.length_map, List.length_range]
theorem tkL_at {T : Rw} {a b t : Nat} (h : t < b - a) : (tkL T a b).getD t 0 = T ((a + t : Nat) : Int) := by
  unfold tkL
  rw [List.getD_eq_getElem?_getD, List.getElem?_map, List.getElem?_range h]
  rfl
theorem list_eq {X Y : List Int} (hl : X.length = Y.length) (h : ∀ t, t < X.length → X.getD t 0 = Y.getD t 0) : X = Y := by
  refine List.ext_getElem hl (fun i h1 h2 => ?_)
  have q := h i h1
  rw [List.getD_eq_getElem?_getD, List.getD_eq_getElem?_getD, List.getElem?_eq_getElem h1, List.getElem?_eq_getElem h2] at q
  exact q
/-- what is known of tape and words -/
def TpV (s : Sg) : Prop := (∀ k : Int, 0 ≤ k → k < 400 → -128 ≤ s 7 k ∧ s 7 k ≤ 127) ∧ ∀ k : Nat, k < 147 → s 6 k = wrd.getD k 0
section
variable {E : ax_E} {m : Nat} {s s1 : Sg} {h : ax_H}
theorem md_gR9t : ax_gR E (mdl m s h) (some m) 5 9 = some (some (m + 7)) := md_gR
theorem wrd_b : ∀ k, k < 147 → -128 ≤ wrd.getD k 0 ∧ wrd.getD k 0 ≤ 127 := by
  intro k hk
  have f : al7 (fun k => decide (-128 ≤ wrd.getD k 0 ∧ wrd.getD k 0 ≤ 127)) 147 = true := by decide +kernel
  exact of_decide_eq_true (al7_e _ f k hk)
theorem m_wordOf (V : TpV s1) {a b : Nat} (hab : a < b) (hb : b ≤ 400) : f_X5_wordOf E (some m) a b (mdl m s1 h) = some (wdF (tkL (s1 7) a b) wdL 1, mdl m s1 h) := by
  obtain ⟨vt, vw⟩ := V
  have X := tkL_len (s1 7) a b
  have len6 : ax_len E (mdl m s1 h) (some (m + 6)) 101 = some 147 := by
    unfold ax_len
    rw [md_cc (o := 6) (t := 101) (by decide) rfl]
    rfl
  -- a word is compared
  have cmp : ∀ (i : Nat), i < 29 → (wdW i).length = b - a → ∀ (j t : Nat), t + j = (wdW i).length → (∀ q, q < t → (wdW i).getD q 0 = (tkL (s1 7) a b).getD q 0) → ax_iter (fun y : Int × Int × ax_H => lb_X5_wordOf_57 E (some m) a b ((i : Int) + 1) (wdO i) ((wdW i).length : Int) y.1 y.2.1 y.2.2) (1, (t : Int), mdl m s1 h) = some (if wdW i = tkL (s1 7) a b then .inr ((i : Int) + 1, mdl m s1 h) else .inl ((i : Int) + 1 + 1, (wdO i : Int) + (((wdW i).length : Int) + 1), mdl m s1 h)) := by
    intro i hi hl
    obtain ⟨w1, w2, w3, w4⟩ := wd_2 hi
    intro j
    induction j with
    | zero =>
      intro t e hq
      have et : t = (wdW i).length := by omega
      have eq : wdW i = tkL (s1 7) a b := list_eq (by omega) (fun q hq' => hq q (by omega))
      rw [if_pos eq]
      refine it_done ?_
      dsimp only
      unfold lb_X5_wordOf_57 f_X5_wordOf_104
      rw [et, if_neg (Int.lt_irrefl _), if_neg (by decide)]
      rfl
    | succ j ih =>
      intro t e hq
      obtain ⟨x1, -⟩ := wd_1 hi (t := t) (by omega)
      have tb := wrd_b (wdO i + t) (by omega)
      have ta := vt ((a + t : Nat) : Int) (by omega) (by omega)
      have ld6 : ax_ld E (mdl m s1 h) (some (m + 6)) 101 ((wdO i : Int) + (t : Int)) = some ((wdW i).getD t 0) := by
        rw [md_ld6 (by omega) (by omega), show (wdO i : Int) + (t : Int) = ((wdO i + t : Nat) : Int) by omega, vw _ (by omega), x1]
      have ld7 : ax_ld E (mdl m s1 h) (some (m + 7)) 101 ((a : Int) + (t : Int)) = some ((tkL (s1 7) a b).getD t 0) := by
        rw [md_ld7 (by omega) (by omega), tkL_at (by omega), show (a : Int) + (t : Int) = ((a + t : Nat) : Int) by omega]
      rw [x1] at tb
      rw [← tkL_at (T := s1 7) (a := a) (b := b) (t := t) (by omega)] at ta
      have step : ∀ v, (if (wdW i).getD t 0 = (tkL (s1 7) a b).getD t 0 then v = (1 : Int) else v = 0) → lb_X5_wordOf_57 E (some m) a b ((i : Int) + 1) (wdO i) ((wdW i).length : Int) 1 t (mdl m s1 h) = some (.inl (v, ((t + 1 : Nat) : Int), mdl m s1 h)) := by
        intro v hv
        unfold lb_X5_wordOf_57 f_X5_wordOf_96
        rw [i2_of (a := (t : Int)) (by omega) (by omega), i2_of (a := ((wdW i).length : Int)) (by omega) (by omega), if_pos (by omega), if_neg (by decide), md_gR7, Option.bind_some, ld6, Option.bind_some, md_gR9t, Option.bind_some, ld7, Option.bind_some, i2_of (a := (wdW i).getD t 0) (by omega) (by omega), i2_of (a := (tkL (s1 7) a b).getD t 0) (by omega) (by omega)]
        by_cases c : (wdW i).getD t 0 = (tkL (s1 7) a b).getD t 0
        · rw [if_pos c] at hv
          rw [if_pos c, hv]
          rfl
        · rw [if_neg c] at hv
          rw [if_neg c, hv]
          rfl
      by_cases c : (wdW i).getD t 0 = (tkL (s1 7) a b).getD t 0
      · refine (it_step (body := fun y : Int × Int × ax_H => lb_X5_wordOf_57 E (some m) a b ((i : Int) + 1) (wdO i) ((wdW i).length : Int) y.1 y.2.1 y.2.2) (s := (1, (t : Int), mdl m s1 h)) (step 1 (by rw [if_pos c]))).trans (ih (t + 1) (by omega) (fun q hq' => ?_))
        by_cases cq : q = t
        · subst cq; exact c
        · exact hq q (by omega)
      · have ne : ¬ wdW i = tkL (s1 7) a b := fun z => c (by rw [z])
        rw [if_neg ne]
        refine (it_step (body := fun y : Int × Int × ax_H => lb_X5_wordOf_57 E (some m) a b ((i : Int) + 1) (wdO i) ((wdW i).length : Int) y.1 y.2.1 y.2.2) (s := (1, (t : Int), mdl m s1 h)) (step 0 (by rw [if_neg c]))).trans (it_done ?_)
        dsimp only
        unfold lb_X5_wordOf_57 f_X5_wordOf_104
        by_cases c2 : t + 1 < (wdW i).length
        · rw [i2_of (a := ((t + 1 : Nat) : Int)) (by omega) (by omega), i2_of (a := ((wdW i).length : Int)) (by omega) (by omega), if_pos (by omega), if_pos (by decide), if_pos (by decide)]
          rfl
        · rw [i2_of (a := ((t + 1 : Nat) : Int)) (by omega) (by omega), i2_of (a := ((wdW i).length : Int)) (by omega) (by omega), if_neg (by omega), if_pos (by decide)]
          rfl
  -- a word's length is found
  have word : ∀ i : Nat, i < 29 → lb_X5_wordOf_5 E (some m) a b ((i : Int) + 1) (wdO i) (mdl m s1 h) = some (if wdW i = tkL (s1 7) a b then .inr ((i : Int) + 1, mdl m s1 h) else .inl (((i + 1 : Nat) : Int) + 1, (wdO (i + 1) : Int), mdl m s1 h)) := by
    intro i hi
    obtain ⟨w1, w2, w3, w4⟩ := wd_2 hi
    have len := it_traj (body := fun y : Int × ax_H => lb_X5_wordOf_18 E (some m) a b ((i : Int) + 1) (wdO i) y.1 y.2) (fun t => ((t : Int), mdl m s1 h)) (wdW i).length (r := if wdW i = tkL (s1 7) a b then .inr ((i : Int) + 1, mdl m s1 h) else .inl ((i : Int) + 1 + 1, (wdO i : Int) + (((wdW i).length : Int) + 1), mdl m s1 h)) (fun t ht => by
      obtain ⟨x1, x2⟩ := wd_1 hi (t := t) ht
      have tb := wrd_b (wdO i + t) (by omega)
      dsimp only
      unfold lb_X5_wordOf_18
      rw [md_gR7, Option.bind_some, md_ld6 (by omega) (by omega), Option.bind_some, show (wdO i : Int) + (t : Int) = ((wdO i + t : Nat) : Int) by omega, vw _ (by omega), i2_of (a := wrd.getD (wdO i + t) 0) (by omega) (by omega), show i2 32 = 32 by decide, if_neg (by rw [x1]; exact x2)]
      rfl) (by
      dsimp only
      unfold lb_X5_wordOf_18 f_X5_wordOf_52 f_X5_wordOf_57
      rw [md_gR7, Option.bind_some, md_ld6 (by omega) (by omega), Option.bind_some, show (wdO i : Int) + (((wdW i).length : Nat) : Int) = ((wdO i + (wdW i).length : Nat) : Int) by omega, vw _ (by omega), w1, if_pos rfl, i2_of (a := (((wdW i).length : Nat) : Int)) (by omega) (by omega), i2_of (a := (b : Int) - (a : Int)) (by omega) (by omega)]
      by_cases c : (((wdW i).length : Nat) : Int) = (b : Int) - (a : Int)
      · have q := cmp i hi (by omega) (wdW i).length 0 (by omega) (fun q hq => absurd hq (Nat.not_lt_zero q))
        rw [if_pos c]
        have q' : ax_iter (fun y : Int × Int × ax_H => lb_X5_wordOf_57 E (some m) a b ((i : Int) + 1) (wdO i) ((wdW i).length : Int) y.1 y.2.1 y.2.2) (1, 0, mdl m s1 h) = _ := q
        rw [q']
        rfl
      · have ne : ¬ wdW i = tkL (s1 7) a b := fun z => c (by rw [z, X]; omega)
        rw [if_neg c, if_neg ne]
        have q : ax_iter (fun y : Int × Int × ax_H => lb_X5_wordOf_57 E (some m) a b ((i : Int) + 1) (wdO i) ((wdW i).length : Int) y.1 y.2.1 y.2.2) (0, 0, mdl m s1 h) = some (.inl ((i : Int) + 1 + 1, (wdO i : Int) + (((wdW i).length : Int) + 1), mdl m s1 h)) := by
          refine it_done ?_
          dsimp only
          unfold lb_X5_wordOf_57 f_X5_wordOf_104
          by_cases c2 : 0 < (wdW i).length
          · rw [i2_of (a := (0 : Int)) (by decide) (by decide), i2_of (a := ((wdW i).length : Int)) (by omega) (by omega), if_pos (by omega), if_pos rfl]
            rfl
          · rw [i2_of (a := (0 : Int)) (by decide) (by decide), i2_of (a := ((wdW i).length : Int)) (by omega) (by omega), if_neg (by omega)]
            rfl
        rw [q]
        rfl)
    have wo : wdO i ≤ 147 := by omega
    unfold lb_X5_wordOf_5 f_X5_wordOf_18
    rw [md_gR7, Option.bind_some, len6, Option.bind_some, i2_of (a := (wdO i : Int)) (by omega) (by omega), show i2 147 = 147 by decide, if_pos (by omega)]
    have len' : ax_iter (fun y : Int × ax_H => lb_X5_wordOf_18 E (some m) a b ((i : Int) + 1) (wdO i) y.1 y.2) (0, mdl m s1 h) = _ := len
    rw [len', w2]
    by_cases c : wdW i = tkL (s1 7) a b
    · rw [if_pos c, if_pos c]
    · rw [if_neg c, if_neg c]
      rw [show (i : Int) + 1 + 1 = ((i + 1 : Nat) : Int) + 1 by omega, show (wdO i : Int) + (((wdW i).length : Int) + 1) = ((wdO i + (wdW i).length + 1 : Nat) : Int) by omega]
  have key : ∀ (j i : Nat), i + j = 29 → ax_iter (fun y : Int × Int × ax_H => lb_X5_wordOf_5 E (some m) a b y.1 y.2.1 y.2.2) ((i : Int) + 1, (wdO i : Int), mdl m s1 h) = some (wdF (tkL (s1 7) a b) (wdL.drop i) ((i : Int) + 1), mdl m s1 h) := by
    intro j
    induction j with
    | zero =>
      intro i e
      have : i = 29 := by omega
      subst this
      rw [wd_f4.2.1]
      refine it_done ?_
      dsimp only
      unfold lb_X5_wordOf_5
      rw [md_gR7, Option.bind_some, len6, Option.bind_some, wd_f4.1, if_neg (by decide)]
      rfl
    | succ j ih =>
      intro i e
      have w := word i (by omega)
      rw [wd_3 (by omega)]
      by_cases c : wdW i = tkL (s1 7) a b
      · rw [if_pos c] at w
        have e2 : wdF (tkL (s1 7) a b) (wdW i :: wdL.drop (i + 1)) ((i : Int) + 1) = (i : Int) + 1 := if_pos c
        rw [e2]
        exact it_done w
      · rw [if_neg c] at w
        have e2 : wdF (tkL (s1 7) a b) (wdW i :: wdL.drop (i + 1)) ((i : Int) + 1) = wdF (tkL (s1 7) a b) (wdL.drop (i + 1)) ((i : Int) + 1 + 1) := if_neg c
        rw [e2]
        refine (it_step (body := fun y : Int × Int × ax_H => lb_X5_wordOf_5 E (some m) a b y.1 y.2.1 y.2.2) (s := ((i : Int) + 1, (wdO i : Int), mdl m s1 h)) w).trans ?_
        have q := ih (i + 1) (by omega)
        rw [show ((i + 1 : Nat) : Int) + 1 = (i : Int) + 1 + 1 by omega] at q ⊢
        exact q
  have q := key 29 0 (by omega)
  unfold f_X5_wordOf f_X5_wordOf_5
  exact q
end
