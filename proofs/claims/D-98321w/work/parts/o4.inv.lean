/-! The law: what holds between its calls -/
set_option maxRecDepth 100000
/-- both sides stand for the same rows -/
def INV (E : ax_E) (x : Nat) (n : Int) (s : Sg) (g : ax_H) : Prop := (∃ t dl dv ds du, REP E g x t dl dv ds du s) ∧ VW n s ∧ mdl (x + 84) s g = g
/-- the script -/
def ScE (E : ax_E) (x a : Nat) (len : Nat) (sc : Int → Int) : Prop := a < x ∧ len ≤ 384 ∧ (∃ c : ax_C, E.2.1 a = some c ∧ c.1 = 100 ∧ c.2.1 = len ∧ ∀ k : Nat, k < len → c.2.2.1 k = sc k) ∧ ∀ k, i2 (sc k) = sc k
theorem sc_len {E : ax_E} {x a len : Nat} {sc : Int → Int} {h : ax_H} (S : ScE E x a len sc) (lo : ∀ q, q < x → h.2.2 q = none) : ax_len E h (some a) 100 = some (len : Int) := by
  obtain ⟨s1, s2, ⟨c, c1, c2, c3, c4⟩, s3⟩ := S
  unfold ax_len
  rw [lo_ce (lo a s1) c1 c2]
  show some ((c.2.1 : Nat) : Int) = _
  rw [c3]
theorem sc_ld {E : ax_E} {x a len : Nat} {sc : Int → Int} {h : ax_H} {k : Int} (S : ScE E x a len sc) (lo : ∀ q, q < x → h.2.2 q = none) (h0 : 0 ≤ k) (h1 : k < len) : ax_ld E h (some a) 100 k = some (sc k) := by
  obtain ⟨s1, s2, ⟨c, c1, c2, c3, c4⟩, s3⟩ := S
  unfold ax_ld
  rw [lo_ce (lo a s1) c1 c2, Option.bind_some, i2_of (by omega) (by omega), c3, if_pos ⟨h0, h1⟩, c4 k.toNat (by omega), Int.toNat_of_nonneg h0]
section
variable {E : ax_E} {x t dl dv ds du : Nat} {g : ax_H} {s s' : Sg} {n v : Int} {f0 f5 : ax_H → Option (Int × ax_H)}
/-- one call on both sides -/
theorem call_step (I : mdl (x + 84) s g = g) (hx : x + 116 ≤ g.1) (hc : ∃ t dl dv ds du h', f0 g = some (v, h') ∧ REP E h' x t dl dv ds du s' ∧ Blk x 3000 30000 g h') (hm : ∀ h', ∃ s'', f5 (mdl (x + 84) s h') = some (v, mdl (x + 84) s'' h') ∧ Ew s' s'') (hV : VW (n + 1) s') : ∃ g1 g2 s'', f0 g = some (v, g1) ∧ f5 g1 = some (v, g2) ∧ (∀ q, q < x → g1.2.2 q = none) ∧ (∃ c, ax_ce E g1 (some (x + 84)) 5 = some c) ∧ INV E x (n + 1) s'' g2 ∧ (g2.1 ≤ g.1 + 3000 ∧ g2.2.1 ≤ g.2.1 + 30000) := by
  obtain ⟨t, dl, dv, ds, du, h', p1, p2, p3⟩ := hc
  have e1 : mdl (x + 84) s h' = h' := by
    refine bk_same (fun o ho => ?_)
    rw [p3.2.2.2.2 (x + 84 + o) (by omega) (by omega), ← I]
    exact bk_at ho
  obtain ⟨s'', q1, q2⟩ := hm h'
  rw [e1] at q1
  refine ⟨h', _, s'', p1, q1, p2.low, ⟨_, by rw [← e1]; exact md_ce⟩, ⟨⟨t, dl, dv, ds, du, (p2.ew q2).bl0⟩, hV.es q2, ?_⟩, ?_⟩
  · unfold mdl
    rw [bk_bk]
  · exact ⟨p3.2.1, p3.2.2.2.1⟩
theorem forgS_b (V : VW n s) (d : Int) : -7 < (forgS s d).1 ∧ (forgS s d).1 ≤ 9999 := by
  have hR := V.1.2.1.2.2.2.2
  unfold forgS
  split
  · show -7 < (-2 : Int) ∧ (-2 : Int) ≤ 9999
    decide
  · have k := (hR.2.2.2 d (by omega) (by omega)).2.2.2.1
    show -7 < s 2 (7 + 4 * d + 2) ∧ s 2 (7 + 4 * d + 2) ≤ 9999
    omega
theorem sellS_b (V : VW n s) (d b : Int) : -7 < (sellS s d b).1 ∧ (sellS s d b).1 ≤ 9999 := by
  have hR := V.1.2.1.2.2.2.2
  unfold sellS
  split
  · show -7 < (-2 : Int) ∧ (-2 : Int) ≤ 9999
    decide
  · split
    · show -7 < (-3 : Int) ∧ (-3 : Int) ≤ 9999
      decide
    · rename_i c0 c1
      have k := (hR.2.2.2 d (by omega) (by omega)).2.2.2.1
      have := sold_b (K := s 2) (d := d) (by omega)
      show -7 < soldS (s 2) d ∧ soldS (s 2) d ≤ 9999
      omega
theorem undoS_b (V : VW n s) : -7 < (undoS s).1 ∧ (undoS s).1 ≤ 9999 := by
  have un := V.1.2.2.2.1
  unfold undoS
  split
  · show -7 < (-3 : Int) ∧ (-3 : Int) ≤ 9999
    decide
  · have q := (un.2 (s 0 28 - 1) (by have := un.1; omega) (by omega)).2
    show -7 < s 14 (74 * (s 0 28 - 1) + 73) ∧ s 14 (74 * (s 0 28 - 1) + 73) ≤ 9999
    omega
theorem monthS_b (H : VW n s) (L d : Int) : -7 < (monthS s L d).1 ∧ (monthS s L d).1 ≤ 9999 := by
  have h7 := H.1.2.1.1
  unfold monthS
  by_cases c : ¬ ((0 ≤ L ∧ L ≤ 1000000) ∧ (1 ≤ d ∧ d ≤ 30))
  · rw [if_pos c]
    show -7 < (-1 : Int) ∧ (-1 : Int) ≤ 9999
    decide
  · rw [if_neg c]
    by_cases c3 : s 2 152 = 0
    · rw [if_pos c3]
      show -7 < (-3 : Int) ∧ (-3 : Int) ≤ 9999
      decide
    · rw [if_neg c3]
      have c' := Classical.not_not.mp c
      have A0 : MoA (s 2) 0 (0, 1, L, s 2) := ⟨⟨⟨Int.le_refl _, Int.le_refl _⟩, ⟨c'.1.1, by show L ≤ 1000002; omega⟩, ⟨H.2.1, H.1.1 2, fun i _ => rfl⟩⟩, Or.inr rfl⟩
      have A1 := moRun_A (n := s 2 152) (K0 := s 2) rfl (by omega) d.toNat (0, 1, L, s 2) 0 A0
      have eF : moRun (s 2 152) d.toNat (0, 1, L, s 2) = moF s L d := rfl
      rw [eF] at A1
      have b := A1.1.1
      show -7 < (moF s L d).1 ∧ (moF s L d).1 ≤ 9999
      omega
end
