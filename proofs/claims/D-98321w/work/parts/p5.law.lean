/-! The law, run -/
set_option maxRecDepth 100000
section
variable {E : ax_E} {x a0 len : Nat} {g : ax_H} {sc : Int → Int}
theorem law_loop (Sc : ScE E x a0 len sc) (hE : Ek E x) (hE1 : Ek1 E x) (hX : TxtE E x) (I : INV E x 0 sF g) (r1 : g.1 + 200000 ≤ E.1.1) (r2 : g.2.1 + 2000000 ≤ E.1.2) : ∃ h', f_L_law_18 E (some a0) (some x) (some (x + 84)) 0 g = some (1, h') := by
  have l3 := Sc.2.1
  have q := it_up (body := fun s : Int × ax_H => lb_L_law_18 E (some a0) (some x) (some (x + 84)) s.1 s.2) 64 (fun k s => s.1 = 6 * (k : Int) ∧ ∃ w, INV E x (k : Int) w s.2 ∧ s.2.1 ≤ g.1 + 3000 * k ∧ s.2.2.1 ≤ g.2.1 + 30000 * k) (fun r => r.1 = 1) ?_ ?_ (s := (0, g)) ⟨rfl, sF, I, Nat.le_refl _, Nat.le_refl _⟩
  · obtain ⟨⟨v, h'⟩, q1, q2⟩ := q
    subst q2
    exact ⟨h', q1⟩
  · rintro k ⟨i, g1⟩ hk ⟨e1, w, J, b1, b2⟩
    dsimp only at e1 J b1 b2 ⊢
    by_cases c : i + 6 ≤ len
    · obtain ⟨g2, s2, d1, d2, d3, d4⟩ := lc_step Sc J ⟨hE, hE1, hX, by omega, by omega, by omega⟩ (i := i) (by omega) c
      exact ⟨_, d1, by show i + 6 = _; omega, s2, d2, by show g2.1 ≤ _; omega, by show g2.2.1 ≤ _; omega⟩
    · obtain ⟨t, dl, dv, ds, du, H⟩ := J.1
      refine ⟨.inr (1, g1), ?_, rfl⟩
      unfold lb_L_law_18
      rw [sc_len Sc H.low, Option.bind_some, i2_of (a := (len : Int) - 6) (by omega) (by omega), i2_of (a := i) (by omega) (by omega), if_pos (by omega)]
      rfl
  · rintro ⟨i, g1⟩ ⟨e1, w, J, b1, b2⟩
    dsimp only at e1 J b1 b2 ⊢
    obtain ⟨t, dl, dv, ds, du, H⟩ := J.1
    refine ⟨(1, g1), ?_, rfl⟩
    unfold lb_L_law_18
    rw [sc_len Sc H.low, Option.bind_some, i2_of (a := (len : Int) - 6) (by omega) (by omega), i2_of (a := i) (by omega) (by omega), if_pos (by omega)]
    rfl
theorem law_one (Sc : ScE E g.1 a0 len sc) (hE : Ek E g.1) (hE1 : Ek1 E g.1) (hX : TxtE E g.1) (lo : ∀ a, a < g.1 → g.2.2 a = none) (r1 : g.1 + 201000 ≤ E.1.1) (r2 : g.2.1 + 2100000 ≤ E.1.2) : ∃ h', f_L_law E (some a0) g = some (1, h') := by
  obtain ⟨g1, e1, n1, m1, f1, R⟩ := c_root (E := E) (h := g) (by omega) (by omega)
  have low : ∀ a, a < g.1 → g1.2.2 a = none := fun a ha => (f1 a ha).trans (lo a ha)
  have e2 := c_minit (E := E) (h := g1) n1 (by omega) (by omega)
  have J := born (h := g) (c := g1.2.1 + 22965) hE low R
  obtain ⟨h', e3⟩ := law_loop Sc hE hE1 hX J (by show g.1 + 84 + 32 + 200000 ≤ _; omega) (by show g1.2.1 + 22965 + 2000000 ≤ _; omega)
  refine ⟨h', ?_⟩
  unfold f_L_law
  rw [f_nw (by omega) (by omega), Option.bind_some]
  dsimp only
  rw [Option.bind_some, e1, Option.bind_some, f_nw (by omega) (by omega), Option.bind_some]
  dsimp only
  rw [Option.bind_some, n1, e2, Option.bind_some]
  exact e3
end
