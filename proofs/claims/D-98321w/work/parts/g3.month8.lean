/-! A month: the model, whole -/
set_option maxRecDepth 100000
def moF (s : Sg) (L d : Int) : Int × Int × Int × Rw := moRun (s 2 152) d.toNat (0, 1, L, s 2)
def monthS (s : Sg) (L d : Int) : Int × Sg := if ¬ ((0 ≤ L ∧ L ≤ 1000000) ∧ (1 ≤ d ∧ d ≤ 30)) then (-1, s) else if s 2 152 = 0 then (-3, s) else ((moF s L d).1, sw (moEnd s (moF s L d).2.2.2 (s 2 152).toNat) 0 (u1 (s 0) 59 (s 2 152)))
theorem moRun_A {n : Int} {K0 : Rw} (hn : n = K0 152) (h1 : 1 ≤ n) : ∀ (j : Nat) (a : Int × Int × Int × Rw) (B : Int), MoA K0 B a → MoA K0 (B + 50 * j) (moRun n j a) := by
  intro j
  induction j with
  | zero => intro a B H; rw [show B + 50 * ((0 : Nat) : Int) = B by omega]; exact H
  | succ j ih =>
    intro a B H
    show MoA K0 _ (if a.2.1 = 0 then a else moRun n j (moStep n a))
    by_cases c : a.2.1 = 0
    · rw [if_pos c]
      obtain ⟨⟨x, y⟩, z⟩ := H
      exact ⟨⟨⟨x.1, by omega⟩, y⟩, z⟩
    · rw [if_neg c]
      have := ih (moStep n a) (B + 50) (moStep_A H hn h1)
      rw [show B + 50 + 50 * (j : Int) = B + 50 * ((j + 1 : Nat) : Int) by omega] at this
      exact this
