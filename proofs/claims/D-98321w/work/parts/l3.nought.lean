/-! The component's reader of orders: a number that is nought -/
set_option maxRecDepth 100000
def nzB (T : Rw) (a : Nat) : Nat → Bool
  | 0 => true
  | q + 1 => nzB T a q && decide (T ((a + q : Nat) : Int) = 48)
theorem nzB_v {T : Rw} {a : Nat} : ∀ n : Nat, (∀ q, q < n → isDig (T ((a + q : Nat) : Int)) = true) → (nzB T a n = true ↔ foldN (nuS T a) n 0 = 0) := by
  intro n
  induction n with
  | zero => intro _; exact ⟨fun _ => rfl, fun _ => rfl⟩
  | succ n ih =>
    intro h
    have q := ih (fun q hq => h q (by omega))
    have b := nu_b (T := T) (k := a) n (fun q hq => h q (by omega))
    have d := h n (by omega)
    unfold isDig at d
    rw [decide_eq_true_eq] at d
    have es : foldN (nuS T a) (n + 1) 0 = nuS T a (foldN (nuS T a) n 0) n := rfl
    rw [es]
    show (nzB T a n && decide (T ((a + n : Nat) : Int) = 48)) = true ↔ _
    rw [Bool.and_eq_true, q, decide_eq_true_eq]
    generalize foldN (nuS T a) n 0 = v at b
    show _ ↔ (if 1000000 < v then v else 10 * v + T ((a + n : Nat) : Int) - 48) = 0
    split <;> omega
theorem and01 (P Q : Bool) : ax_and (b01 (P = true)) (b01 (Q = true)) = b01 ((P && Q) = true) := by
  cases P <;> cases Q <;> decide +kernel
section
variable {E : ax_E} {T : Rw} {N x i p w k : Nat} {lv dp pl : Int} {g : ax_H}
theorem c_isNought (G : RdC E T N x i p w 25 k lv dp pl g) : f_X25_isNought E (some i) g = some (b01 ((decide (pos T N k < nd T N (pos T N k)) && nzB T (pos T N k) (nd T N (pos T N k) - pos T N k)) = true), g) := by
  obtain ⟨F, g0, g1, -⟩ := id G
  have iT := F.2.2.2.2.2.2.2.2.2
  have n4 := F.2.2.2.2.2.1.1
  have xF := F.2.2.2.1
  obtain ⟨a, ea⟩ : ∃ a, a = pos T N k := ⟨_, rfl⟩
  obtain ⟨b, eb⟩ : ∃ b, b = nd T N a := ⟨_, rfl⟩
  have ha : a ≤ N := by rw [ea]; exact pos_le k
  have nb := nd_b (T := T) (N := N) a ha
  rw [← eb] at nb
  rw [← ea] at g0 g1 ⊢
  rw [← eb] at g1 ⊢
  have lp : ∀ (c : Bool) (j q : Nat), q + j = b - a → ax_iter (fun s : Int × Int × ax_H => lb_X25_isNought_22 E (some i) s.1 s.2.1 s.2.2) (b01 ((c && nzB T a q) = true), ((a + q : Nat) : Int), g) = some (b01 ((c && nzB T a (b - a)) = true), g) := by
    intro c j
    induction j with
    | zero =>
      intro q e
      have eq : q = b - a := by omega
      subst eq
      refine it_done ?_
      dsimp only
      unfold lb_X25_isNought_22
      rw [f_gI iT.1 (by decide), Option.bind_some, g1, i2_of (a := ((a + (b - a) : Nat) : Int)) (by omega) (by omega), i2_of (a := (b : Int)) (by omega) (by omega), if_neg (by omega), if_pos (by rw [b01_or]; trivial)]
      rfl
    | succ j ih =>
      intro q e
      have ta := F.tb (q := a + q) (by omega)
      refine (it_step (s' := (b01 ((c && nzB T a (q + 1)) = true), ((a + (q + 1) : Nat) : Int), g)) ?_).trans (ih (q + 1) (by omega))
      have en : (c && nzB T a (q + 1)) = ((c && nzB T a q) && decide (T ((a + q : Nat) : Int) = 48)) := by
        show (c && (nzB T a q && _)) = _
        rw [Bool.and_assoc]
      rw [en, ← and01 (c && nzB T a q) (decide (T ((a + q : Nat) : Int) = 48))]
      dsimp only
      unfold lb_X25_isNought_22 f_X25_isNought_50
      rw [f_gI iT.1 (by decide), Option.bind_some, g1, i2_of (a := ((a + q : Nat) : Int)) (by omega) (by omega), i2_of (a := (b : Int)) (by omega) (by omega), if_pos (by omega), f_gR iT.1 (by decide), Option.bind_some, iT.2.2.2.2.1 rfl, f_gR xF.1 (by decide), Option.bind_some, xF.2.1, F.ld (by omega), Option.bind_some, i2_of (a := T ((a + q : Nat) : Int)) (by omega) (by omega), show i2 48 = 48 by decide]
      by_cases c48 : T ((a + q : Nat) : Int) = 48
      · rw [if_pos c48, b01_t (C := decide (T ((a + q : Nat) : Int) = 48) = true) (decide_eq_true c48)]
        rfl
      · rw [if_neg c48, b01_f (C := decide (T ((a + q : Nat) : Int) = 48) = true) (by rw [decide_eq_true_eq]; exact c48)]
        rfl
  have fin : ∀ c : Bool, f_X25_isNought_16 E (some i) (b01 (c = true)) g = some (b01 ((c && nzB T a (b - a)) = true), g) := by
    intro c
    have z := lp c (b - a) 0 (by omega)
    unfold f_X25_isNought_16 f_X25_isNought_22
    rw [f_gI iT.1 (by decide), Option.bind_some, g0]
    rw [show (c && nzB T a 0) = c by show (c && true) = c; rw [Bool.and_true]] at z
    exact z
  unfold f_X25_isNought
  rw [f_gI iT.1 (by decide), Option.bind_some, f_gI iT.1 (by decide), Option.bind_some, g0, g1, i2_of (a := (a : Int)) (by omega) (by omega), i2_of (a := (b : Int)) (by omega) (by omega)]
  by_cases c : a < b
  · rw [if_pos (by omega), show decide (a < b) = true from decide_eq_true c]
    exact fin true
  · rw [if_neg (by omega), show decide (a < b) = false from decide_eq_false c]
    exact fin false
end
