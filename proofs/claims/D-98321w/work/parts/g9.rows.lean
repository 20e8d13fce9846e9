/-! Rows of some things, each of which can be or not as those ahead left all: what is meant -/
set_option maxRecDepth 100000
/-- how many rows, the first -/
abbrev PA : Type := Int × (Nat → Int)
def rwEnd (row : Nat → Int) (A : PA) : PA := (A.1 + 1, if A.1 = 0 then row else A.2)
def rwF (d : Rw → Nat → Option Rw) (go : Nat → Nat → (Nat → Int) → Rw → PA → PA) (k used : Nat) (row : Nat → Int) (K : Rw) (A : PA) (w : Nat) : PA ⊕ PA := .inl (if used >>> w % 2 = 1 then A else match d K w with
  | none => A
  | some K' => go (k + 1) (used ||| 2 ^ w) (rbU row k w) K' A)
def rowsT (n : Nat) (d : Rw → Nat → Option Rw) : Nat → Nat → Nat → (Nat → Int) → Rw → PA → PA
  | 0, _, _, _, _, A => A
  | f + 1, k, used, row, K, A => if k = n then rwEnd row A else runF (rwF d (rowsT n d f) k used row K) id n 0 A
theorem rows_lo {d : Rw → Nat → Option Rw} {go : Nat → Nat → (Nat → Int) → Rw → PA → PA} {k used : Nat} {row : Nat → Int} {K : Rw} {P : Int} (hP : 0 ≤ P) (hg : ∀ used row K (A : PA), 0 ≤ A.1 → A.1 ≤ (go (k + 1) used row K A).1 ∧ (go (k + 1) used row K A).1 ≤ A.1 + P) : ∀ (j w : Nat) (A : PA), 0 ≤ A.1 → A.1 ≤ (runF (rwF d go k used row K) id j w A).1 ∧ (runF (rwF d go k used row K) id j w A).1 ≤ A.1 + j * P := by
  intro j
  induction j with
  | zero =>
    intro w A h
    show A.1 ≤ A.1 ∧ A.1 ≤ A.1 + ((0 : Nat) : Int) * P
    rw [show ((0 : Nat) : Int) = 0 from rfl, Int.zero_mul]
    omega
  | succ j ih =>
    intro w A h
    obtain ⟨A', e⟩ : ∃ A', rwF d go k used row K A w = .inl A' := ⟨_, rfl⟩
    have b : A.1 ≤ A'.1 ∧ A'.1 ≤ A.1 + P := by
      unfold rwF at e
      have e' := Sum.inl.inj e
      rw [← e']
      split
      · omega
      · cases d K w with
        | none => exact ⟨Int.le_refl _, by dsimp only; omega⟩
        | some K' => exact hg _ _ _ _ h
    rw [runF_l e]
    have q := ih (w + 1) A' (by omega)
    rw [Int.natCast_add, Int.add_mul]
    omega
theorem rows_b (n : Nat) (d : Rw → Nat → Option Rw) : ∀ (f k used : Nat) (row : Nat → Int) (K : Rw) (A : PA), k ≤ n → 0 ≤ A.1 → A.1 ≤ (rowsT n d f k used row K A).1 ∧ (rowsT n d f k used row K A).1 ≤ A.1 + ((n ^ (n - k) : Nat) : Int) := by
  intro f
  induction f with
  | zero => intro k used row K A _ _; exact ⟨Int.le_refl _, by show A.1 ≤ A.1 + _; omega⟩
  | succ f ih =>
    intro k used row K A hk hA
    unfold rowsT
    by_cases c : k = n
    · rw [if_pos c, c, Nat.sub_self, Nat.pow_zero]
      unfold rwEnd
      dsimp only
      omega
    · rw [if_neg c]
      have q := rows_lo (d := d) (go := rowsT n d f) (k := k) (used := used) (row := row) (K := K) (P := ((n ^ (n - (k + 1)) : Nat) : Int)) (by omega) (fun used row K A h => ih (k + 1) used row K A (by omega) h) n 0 A hA
      rw [← Int.natCast_mul, Nat.mul_comm, ← Nat.pow_succ, show (n - (k + 1)).succ = n - k by omega] at q
      exact q
theorem pow_8 {n k : Nat} (h : n ≤ 8) : n ^ (n - k) ≤ 16777216 := by
  have h1 : n ^ (n - k) ≤ 8 ^ (n - k) := Nat.pow_le_pow_left h _
  have h2 : 8 ^ (n - k) ≤ 8 ^ 8 := Nat.pow_le_pow_right (by decide) (by omega)
  exact Nat.le_trans h1 (Nat.le_trans h2 (by decide))
/-- a step of the rows' sums, for what may still come -/
theorem pow_st {n k w : Nat} (hk : k < n) (hw : w < n) : ((w : Int) + 1) * ((n ^ (n - (k + 1)) : Nat) : Int) ≤ ((n ^ (n - k) : Nat) : Int) := by
  have e : n ^ (n - k) = n ^ (n - (k + 1)) * n := by rw [← Nat.pow_succ, show (n - (k + 1)).succ = n - k by omega]
  rw [e, Nat.mul_comm, show (w : Int) + 1 = ((w + 1 : Nat) : Int) by omega, ← Int.natCast_mul]
  exact Int.ofNat_le.mpr (Nat.mul_le_mul_right _ hw)
/-- a visit that is gone on -/
def planD (K : Rw) (w : Nat) : Option Rw := if deepS K (K (87 + 4 * (w : Int) + 1)) (K (87 + 4 * (w : Int))) < K (87 + 4 * (w : Int) + 2) then none else some (repS K (K (87 + 4 * (w : Int) + 1)) (K (87 + 4 * (w : Int))) (K (87 + 4 * (w : Int) + 3)))
def planR (K : Rw) : PA := rowsT (K 153).toNat planD 64 0 0 (fun _ => 0) K (0, fun _ => 0)
def planP (s : Sg) (i : Int) : Int := if ¬ (-1 ≤ i ∧ i ≤ s 2 153 - 1) then -1 else if i = -1 then (planR (s 2)).1 else if (planR (s 2)).1 = 0 then -1 else (planR (s 2)).2 i.toNat
theorem or_256 {a b : Nat} (ha : a < 256) (hb : b < 256) : a ||| b < 256 := Nat.or_lt_two_pow (n := 8) ha hb
theorem pow_256 {w : Nat} (h : w < 8) : 2 ^ w < 256 := Nat.pow_lt_pow_right (by decide) (show w < 8 from h)
theorem planD_V {K0 K K' : Rw} {w : Nat} (V : MoV K0 K) (hw : (w : Int) < K 153) (e : planD K w = some K') : MoV K0 K' := by
  obtain ⟨b1, b2, b3, b4, b5⟩ := V.1.2.2.1.2 (w : Int) (by omega) hw
  unfold planD at e
  split at e
  · cases e
  · rw [← Option.some.inj e]
    exact rep_MoVa V b5.1 b2 b1
