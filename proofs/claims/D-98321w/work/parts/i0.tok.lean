/-! Tokens: what is meant -/
set_option maxRecDepth 100000
def isLet (v : Int) : Bool := decide (97 ≤ v ∧ v ≤ 122)
def isDig (v : Int) : Bool := decide (48 ≤ v ∧ v ≤ 57)
/-- so far as p holds, from k on, ahead of N -/
def runP (p : Int → Bool) (T : Rw) (N : Nat) : Nat → Nat → Nat
  | 0, k => k
  | f + 1, k => if k < N ∧ p (T k) = true then runP p T N f (k + 1) else k
def skp (T : Rw) (N k : Nat) : Nat := runP (fun v => decide (v = 32)) T N 401 k
/-- where a token ends -/
def tnd (T : Rw) (N k : Nat) : Nat := if isLet (T k) = true then runP isLet T N 401 (k + 1) else if isDig (T k) = true then runP isDig T N 401 (k + 1) else k + 1
/-- where tokens begin -/
def pos (T : Rw) (N : Nat) : Nat → Nat
  | 0 => skp T N 0
  | i + 1 => if pos T N i < N then skp T N (tnd T N (pos T N i)) else N
theorem runP_ge (p : Int → Bool) (T : Rw) (N : Nat) : ∀ f k, k ≤ runP p T N f k ∧ (k ≤ N → runP p T N f k ≤ N) ∧ ∀ j, k ≤ j → j < runP p T N f k → j < N ∧ p (T j) = true := by
  intro f
  induction f with
  | zero => intro k; exact ⟨Nat.le_refl _, id, fun j a b => by have b' : j < k := b; omega⟩
  | succ f ih =>
    intro k
    unfold runP
    split
    · rename_i c
      obtain ⟨a1, a2, a3⟩ := ih (k + 1)
      refine ⟨by omega, fun h => a2 (by omega), fun j h1 h2 => ?_⟩
      by_cases cj : j = k
      · subst cj; exact c
      · exact a3 j (by omega) h2
    · exact ⟨Nat.le_refl _, id, fun j a b => by omega⟩
theorem runP_end (p : Int → Bool) (T : Rw) (N : Nat) : ∀ f k, N ≤ f + k → ¬ (runP p T N f k < N ∧ p (T (runP p T N f k)) = true) := by
  intro f
  induction f with
  | zero => intro k h; show ¬ (k < N ∧ _); omega
  | succ f ih =>
    intro k h
    unfold runP
    split
    · exact ih (k + 1) (by omega)
    · rename_i c; exact c
theorem runP_st {p : Int → Bool} {T : Rw} {N k f : Nat} (h : N ≤ f + 1 + k) (c : k < N ∧ p (T k) = true) : runP p T N (f + 1) k = runP p T N (f + 1) (k + 1) := by
  have e : ∀ f k, N ≤ f + k → runP p T N f k = runP p T N (f + 1) k := by
    intro f
    induction f with
    | zero =>
      intro k h
      show k = (if k < N ∧ p (T k) = true then _ else k)
      rw [if_neg (by omega)]
    | succ f ih =>
      intro k h
      unfold runP
      split
      · exact ih (k + 1) (by omega)
      · rfl
  have : runP p T N (f + 1) k = runP p T N f (k + 1) := by
    show (if k < N ∧ p (T k) = true then runP p T N f (k + 1) else k) = _
    rw [if_pos c]
  rw [this, e f (k + 1) (by omega)]
theorem runP_stop {p : Int → Bool} {T : Rw} {N k f : Nat} (c : ¬ (k < N ∧ p (T k) = true)) : runP p T N f k = k := by
  cases f with
  | zero => rfl
  | succ f => exact if_neg c
section
variable {T : Rw} {N : Nat}
theorem skp_le {k : Nat} (h : k ≤ N) : k ≤ skp T N k ∧ skp T N k ≤ N := ⟨(runP_ge _ T N 401 k).1, (runP_ge _ T N 401 k).2.1 h⟩
theorem skp_end {k : Nat} (hN : N ≤ 400) (h : skp T N k < N) : T (skp T N k) ≠ 32 := by
  intro e
  exact runP_end (fun v => decide (v = 32)) T N 401 k (by omega) ⟨h, decide_eq_true e⟩
theorem tnd_b {k : Nat} (h : k < N) : k < tnd T N k ∧ tnd T N k ≤ N := by
  unfold tnd
  split
  · have := runP_ge isLet T N 401 (k + 1)
    exact ⟨by omega, this.2.1 (by omega)⟩
  · split
    · have := runP_ge isDig T N 401 (k + 1)
      exact ⟨by omega, this.2.1 (by omega)⟩
    · omega
theorem pos_le : ∀ i, pos T N i ≤ N := by
  intro i
  cases i with
  | zero => exact (skp_le (Nat.zero_le _)).2
  | succ i =>
    unfold pos
    split
    · rename_i c; exact (skp_le (tnd_b c).2).2
    · exact Nat.le_refl _
theorem pos_s {i : Nat} (h : pos T N i < N) : pos T N (i + 1) = skp T N (tnd T N (pos T N i)) := if_pos h
theorem pos_e {i : Nat} (h : ¬ pos T N i < N) : pos T N (i + 1) = N := if_neg h
theorem pos_lt {i : Nat} (h : pos T N i < N) : pos T N i < pos T N (i + 1) := by
  rw [pos_s h]
  have a := tnd_b (T := T) h
  have b := skp_le (T := T) a.2
  omega
theorem pos_ge : ∀ i, i ≤ pos T N i ∨ pos T N i = N := by
  intro i
  induction i with
  | zero => exact Or.inl (Nat.zero_le _)
  | succ i ih =>
    by_cases c : pos T N i < N
    · have := pos_lt c
      rcases ih with z | z
      · exact Or.inl (by omega)
      · omega
    · exact Or.inr (pos_e c)
theorem pos_sp {i : Nat} (hN : N ≤ 400) (h : pos T N i < N) : T (pos T N i) ≠ 32 := by
  cases i with
  | zero => exact skp_end hN h
  | succ i =>
    by_cases c : pos T N i < N
    · rw [pos_s c] at h ⊢
      exact skp_end hN h
    · rw [pos_e c] at h
      omega
theorem pos_m {i : Nat} : ∀ j, pos T N i = N → pos T N (i + j) = N := by
  intro j
  induction j with
  | zero => exact id
  | succ j ih =>
    intro h
    exact pos_e (i := i + j) (by rw [ih h]; omega)
end
/-- how many tokens -/
def tkN (T : Rw) (N : Nat) : Nat → Nat → Nat
  | 0, i => i
  | f + 1, i => if pos T N i < N then tkN T N f (i + 1) else i
def toks (T : Rw) (N : Nat) : Nat := tkN T N 401 0
theorem tkN_e {T : Rw} {N : Nat} (hN : N ≤ 400) : ∀ f i, 401 ≤ f + i → (∀ j, j < i → pos T N j < N) → pos T N (tkN T N f i) = N ∧ (∀ j, j < tkN T N f i → pos T N j < N) ∧ (i ≤ N ∨ pos T N i = N → tkN T N f i ≤ N) := by
  intro f
  induction f with
  | zero =>
    intro i h1 h2
    have e : tkN T N 0 i = i := rfl
    rw [e]
    have q := pos_ge (T := T) (N := N) i
    have z := pos_le (T := T) (N := N) i
    refine ⟨by omega, h2, fun _ => ?_⟩
    have q2 := pos_ge (T := T) (N := N) (i - 1)
    have z2 := h2 (i - 1) (by omega)
    omega
  | succ f ih =>
    intro i h1 h2
    unfold tkN
    split
    · rename_i c
      obtain ⟨a, b, d⟩ := ih (i + 1) (by omega) (fun j hj => by
        by_cases cj : j = i
        · subst cj; exact c
        · exact h2 j (by omega))
      refine ⟨a, b, fun _ => d ?_⟩
      have q := pos_ge (T := T) (N := N) (i + 1)
      have z := pos_le (T := T) (N := N) (i + 1)
      rcases q with q | q
      · exact Or.inl (by omega)
      · exact Or.inr q
    · rename_i c
      have z := pos_le (T := T) (N := N) i
      refine ⟨by omega, h2, fun h => ?_⟩
      rcases h with h | h
      · exact h
      · by_cases ci : i = 0
        · omega
        · have q2 := pos_ge (T := T) (N := N) (i - 1)
          have z2 := h2 (i - 1) (by omega)
          omega
theorem toks_e {T : Rw} {N : Nat} (hN : N ≤ 400) : pos T N (toks T N) = N ∧ (∀ j, j < toks T N → pos T N j < N) ∧ toks T N ≤ N := by
  obtain ⟨a, b, d⟩ := tkN_e (T := T) hN 401 0 (by omega) (fun j hj => absurd hj (Nat.not_lt_zero j))
  exact ⟨a, b, d (Or.inl (Nat.zero_le _))⟩
theorem pos_toks {T : Rw} {N i : Nat} (hN : N ≤ 400) : pos T N i < N ↔ i < toks T N := by
  obtain ⟨a, b, -⟩ := toks_e (T := T) hN
  constructor
  · intro h
    apply Classical.byContradiction
    intro c
    have := pos_m (T := T) (N := N) (i := toks T N) (i - toks T N) a
    rw [show toks T N + (i - toks T N) = i by omega] at this
    omega
  · exact b i
/-- the words of both languages -/
def wdL : List (List Int) := [[100, 101, 112, 116, 104], [103, 114, 111, 119, 115], [115, 101, 108, 108, 115], [98, 97, 114, 115], [105, 102], [111, 114], [97, 110, 100], [110, 111, 116], [111, 119, 110, 101, 114], [118, 105, 115, 105, 116, 111, 114], [111, 119, 101, 115], [98, 97, 99, 107], [114, 111, 111, 109, 115], [119, 97, 114, 121], [97, 109, 111, 117, 110, 116], [97, 103, 101], [100, 97, 121], [109, 111, 111, 100], [100, 101, 98, 116, 115], [100, 111, 110, 101], [108, 97, 115, 116], [112, 117, 114, 115, 101], [111, 119, 101, 100], [108, 101, 110, 100], [114, 101, 112, 97, 121], [119, 97, 105, 116], [116, 111], [111, 102], [116, 105, 109, 101, 115]]
/-- what stands on the tape from a to b -/
def tkL (T : Rw) (a b : Nat) : List Int := (List.range (b - a)).map (fun k : Nat => T ((a + k : Nat) : Int))
/-- which word of a row it is, from number w on; 0: none -/
def wdF (X : List Int) : List (List Int) → Int → Int
  | [], _ => 0
  | y :: L, w => if y = X then w else wdF X L (w + 1)
def nuS (T : Rw) (k : Nat) (v : Int) (q : Nat) : Int := if 1000000 < v then v else 10 * v + T ((k + q : Nat) : Int) - 48
def tkC (T : Rw) (N : Nat) (i : Nat) : Int := if isLet (T (pos T N i)) = true then wdF (tkL T (pos T N i) (tnd T N (pos T N i))) wdL 1 else if isDig (T (pos T N i)) = true then 50 else 100 + ax_and (T (pos T N i)) 255
def tkV (T : Rw) (N : Nat) (i : Nat) : Int := if isDig (T (pos T N i)) = true then foldN (nuS T (pos T N i)) (tnd T N (pos T N i) - pos T N i) 0 else 0
def cT (T : Rw) (N : Nat) : Rw := cut (toks T N) (fun i => tkC T N i.toNat)
def wT (T : Rw) (N : Nat) : Rw := cut (toks T N) (fun i => tkV T N i.toNat)
