/-! The law: its cases, together -/
set_option maxRecDepth 100000

section
variable {E : ax_E} {x a0 len : Nat} {g : ax_H} {s : Sg} {n i : Int} {sc : Int → Int}

theorem lc_step (Sc : ScE E x a0 len sc) (I : INV E x n s g) (C : LwC E x n g) (i0 : 0 ≤ i) (i1 : i + 6 ≤ len) : ∃ g2 s2, lb_L_law_18 E (some a0) (some x) (some (x + 84)) i g = some (.inl (i + 6, g2)) ∧ INV E x (n + 1) s2 g2 ∧ (g2.1 ≤ g.1 + 3000 ∧ g2.2.1 ≤ g.2.1 + 30000) := by
  obtain ⟨t, dl, dv, ds, du, H⟩ := I.1
  have lo := H.low
  have l3 := Sc.2.1
  unfold lb_L_law_18
  rw [sc_len Sc lo, Option.bind_some, i2_of (a := (len : Int) - 6) (by omega) (by omega), i2_of (a := i) (by omega) (by omega), if_neg (by omega), sc_ld Sc lo (by omega) (by omega), Option.bind_some]
  generalize i2 (ax_and (sc i) 63) = w
  by_cases c0 : w = 0
  · rw [if_pos c0]
    exact lc_person Sc I C i0 i1
  rw [if_neg c0]
  by_cases c1 : w = 1
  · rw [if_pos c1]
    exact lc_put Sc I C i0 i1
  rw [if_neg c1]
  by_cases c2 : w = 2
  · rw [if_pos c2]
    exact lc_of Sc I C i0 i1
  rw [if_neg c2]
  by_cases c3 : w = 3
  · rw [if_pos c3]
    exact lc_debt Sc I C i0 i1
  rw [if_neg c3]
  by_cases c4 : w = 4
  · rw [if_pos c4]
    exact lc_at Sc I C i0 i1
  rw [if_neg c4]
  by_cases c5 : w = 5
  · rw [if_pos c5]
    exact lc_owes Sc I C i0 i1
  rw [if_neg c5]
  by_cases c6 : w = 6
  · rw [if_pos c6]
    exact lc_terms Sc I C i0 i1
  rw [if_neg c6]
  by_cases c7 : w = 7
  · rw [if_pos c7]
    exact lc_feed Sc I C i0 i1
  rw [if_neg c7]
  by_cases c8 : w = 8
  · rw [if_pos c8]
    exact lc_end Sc I C i0 i1
  rw [if_neg c8]
  by_cases c9 : w = 9
  · rw [if_pos c9]
    exact lc_row Sc I C i0 i1
  rw [if_neg c9]
  by_cases c10 : w = 10
  · rw [if_pos c10]
    exact lc_blots Sc I C i0 i1
  rw [if_neg c10]
  by_cases c11 : w = 11
  · rw [if_pos c11]
    exact lc_law Sc I C i0 i1
  rw [if_neg c11]
  by_cases c12 : w = 12
  · rw [if_pos c12]
    exact lc_orders Sc I C i0 i1
  rw [if_neg c12]
  by_cases c13 : w = 13
  · rw [if_pos c13]
    exact lc_fault Sc I C i0 i1
  rw [if_neg c13]
  by_cases c14 : w = 14
  · rw [if_pos c14]
    exact lc_stopped Sc I C i0 i1
  rw [if_neg c14]
  by_cases c15 : w = 15
  · rw [if_pos c15]
    exact lc_force Sc I C i0 i1
  rw [if_neg c15]
  by_cases c16 : w = 16
  · rw [if_pos c16]
    exact lc_deep Sc I C i0 i1
  rw [if_neg c16]
  by_cases c17 : w = 17
  · rw [if_pos c17]
    exact lc_doors Sc I C i0 i1
  rw [if_neg c17]
  by_cases c18 : w = 18
  · rw [if_pos c18]
    exact lc_lend Sc I C i0 i1
  rw [if_neg c18]
  by_cases c19 : w = 19
  · rw [if_pos c19]
    exact lc_repay Sc I C i0 i1
  rw [if_neg c19]
  by_cases c20 : w = 20
  · rw [if_pos c20]
    exact lc_forgive Sc I C i0 i1
  rw [if_neg c20]
  by_cases c21 : w = 21
  · rw [if_pos c21]
    exact lc_sell Sc I C i0 i1
  rw [if_neg c21]
  by_cases c22 : w = 22
  · rw [if_pos c22]
    exact lc_await Sc I C i0 i1
  rw [if_neg c22]
  by_cases c23 : w = 23
  · rw [if_pos c23]
    exact lc_clear Sc I C i0 i1
  rw [if_neg c23]
  by_cases c24 : w = 24
  · rw [if_pos c24]
    exact lc_undo Sc I C i0 i1
  rw [if_neg c24]
  by_cases c25 : w = 25
  · rw [if_pos c25]
    exact lc_need Sc I C i0 i1
  rw [if_neg c25]
  by_cases c26 : w = 26
  · rw [if_pos c26]
    exact lc_visit Sc I C i0 i1
  rw [if_neg c26]
  by_cases c27 : w = 27
  · rw [if_pos c27]
    exact lc_cancel Sc I C i0 i1
  rw [if_neg c27]
  by_cases c28 : w = 28
  · rw [if_pos c28]
    exact lc_lendings Sc I C i0 i1
  rw [if_neg c28]
  by_cases c29 : w = 29
  · rw [if_pos c29]
    exact lc_plan Sc I C i0 i1
  rw [if_neg c29]
  by_cases c30 : w = 30
  · rw [if_pos c30]
    exact lc_thief Sc I C i0 i1
  rw [if_neg c30]
  by_cases c31 : w = 31
  · rw [if_pos c31]
    exact lc_shut Sc I C i0 i1
  rw [if_neg c31]
  by_cases c32 : w = 32
  · rw [if_pos c32]
    exact lc_ban Sc I C i0 i1
  rw [if_neg c32]
  by_cases c33 : w = 33
  · rw [if_pos c33]
    exact lc_party Sc I C i0 i1
  rw [if_neg c33]
  by_cases c34 : w = 34
  · rw [if_pos c34]
    exact lc_ring Sc I C i0 i1
  rw [if_neg c34]
  by_cases c35 : w = 35
  · rw [if_pos c35]
    exact lc_cleared Sc I C i0 i1
  rw [if_neg c35]
  by_cases c36 : w = 36
  · rw [if_pos c36]
    exact lc_balance Sc I C i0 i1
  rw [if_neg c36]
  by_cases c37 : w = 37
  · rw [if_pos c37]
    exact lc_payments Sc I C i0 i1
  rw [if_neg c37]
  by_cases c38 : w = 38
  · rw [if_pos c38]
    exact lc_scuff Sc I C i0 i1
  rw [if_neg c38]
  by_cases c39 : w = 39
  · rw [if_pos c39]
    exact lc_sweep Sc I C i0 i1
  rw [if_neg c39]
  by_cases c40 : w = 40
  · rw [if_pos c40]
    exact lc_secret Sc I C i0 i1
  rw [if_neg c40]
  by_cases c41 : w = 41
  · rw [if_pos c41]
    exact lc_denied Sc I C i0 i1
  rw [if_neg c41]
  by_cases c42 : w = 42
  · rw [if_pos c42]
    exact lc_month Sc I C i0 i1
  rw [if_neg c42]
  by_cases c43 : w = 43
  · rw [if_pos c43]
    exact lc_drawn Sc I C i0 i1
  rw [if_neg c43]
  by_cases c44 : w = 44
  · rw [if_pos c44]
    exact lc_image Sc I C i0 i1
  rw [if_neg c44]
  by_cases c45 : w = 45
  · rw [if_pos c45]
    exact lc_back Sc I C i0 i1
  rw [if_neg c45]
  by_cases c46 : w = 46
  · rw [if_pos c46]
    exact lc_count Sc I C i0 i1
  rw [if_neg c46]
  by_cases c47 : w = 47
  · rw [if_pos c47]
    exact lc_status Sc I C i0 i1
  rw [if_neg c47]
  exact ⟨g, s, rfl, ⟨I.1, I.2.1.up (by omega), I.2.2⟩, by omega, by omega⟩
end
