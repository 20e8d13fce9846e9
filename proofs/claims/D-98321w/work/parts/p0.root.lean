/-! The component is born: its root -/
set_option maxRecDepth 100000
/-- what stays, but for x -/
def BFr (x : Nat) (g g' : ax_H) : Prop := g.1 ≤ g'.1 ∧ ∀ c, c < g.1 → c ≠ x → g'.2.2 c = g.2.2 c
theorem BFr.trans {x : Nat} {g g1 g2 : ax_H} (p : BFr x g g1) (q : BFr x g1 g2) : BFr x g g2 := ⟨Nat.le_trans p.1 q.1, fun c c1 c2 => (q.2 c (Nat.lt_of_lt_of_le c1 p.1) c2).trans (p.2 c c1 c2)⟩
/-- a field of x is set to what was made behind g -/
theorem b_fld {g g1 : ax_H} {x k : Nat} (e : Ext g g1) (hx : x < g.1) : BFr x g (wR g1 x k (some g.1)) ∧ hT (wR g1 x k (some g.1)) x = hT g x ∧ (∀ j, hI (wR g1 x k (some g.1)) x j = hI g x j) ∧ (∀ j, hR (wR g1 x k (some g.1)) x j = if j = k then some g.1 else hR g x j) ∧ ∀ c, c ≠ x → (wR g1 x k (some g.1)).2.2 c = g1.2.2 c := by
  have c := hC_eq (e.2.2 x hx)
  refine ⟨⟨e.1, fun q q1 q2 => (hC_wR_ne q2).trans (e.2.2 q q1)⟩, ?_, fun j => ?_, fun j => ?_, fun q hq => hC_wR_ne hq⟩
  · rw [hT_wR]; unfold hT; rw [c]
  · rw [hI_wR]; unfold hI; rw [c]
  · rw [hR_wR]
    by_cases d : j = k
    · rw [if_pos ⟨rfl, d⟩, if_pos d]
    · rw [if_neg (fun z => d z.2), if_neg d]
      unfold hR
      rw [c]
theorem b_pR {g g1 : ax_H} {x k : Nat} (e : Ext g g1) (hx : x < g.1) (t : hT g x = 0) : ax_pR g1 (some x) 0 k (some g.1) = some (wR g1 x k (some g.1)) := by
  refine f_pR ?_ (by decide)
  unfold hT
  rw [hC_eq (e.2.2 x hx)]
  exact t
/-- the nine books -/
def lpB (y : Nat) (g : ax_H) : Nat → ax_H
  | 0 => g
  | n + 1 => wR (newB (lpB y g n)) y n (some (lpB y g n).1)
section
variable {E : ax_E} {g h : ax_H} {x y n : Nat}
theorem lpB_1 : (lpB y g n).1 = g.1 + 6 * n := by
  induction n with
  | zero => rfl
  | succ n ih => show (lpB y g n).1 + 6 = _; omega
theorem lpB_2 : (lpB y g n).2.1 = g.2.1 + 82 * n := by
  induction n with
  | zero => rfl
  | succ n ih => show (newB (lpB y g n)).2.1 = _; rw [newB_2]; omega
theorem lpB_s {c : Nat} (h1 : c < (lpB y g n).1) (h2 : c ≠ y) : (lpB y g (n + 1)).2.2 c = (lpB y g n).2.2 c := by
  show (wR (newB (lpB y g n)) y n (some (lpB y g n).1)).2.2 c = _
  rw [hC_wR_ne h2, newB_ext.2.2 c h1]
theorem lpB_ne {c : Nat} (h1 : c < g.1) (h2 : c ≠ y) : (lpB y g n).2.2 c = g.2.2 c := by
  induction n with
  | zero => rfl
  | succ n ih => rw [lpB_s (by rw [lpB_1]; omega) h2, ih]
theorem lpB_y (h1 : y < g.1) : hT (lpB y g n) y = hT g y ∧ hL (lpB y g n) y = hL g y ∧ ∀ j, hR (lpB y g n) y j = if j < n then some (g.1 + 6 * j) else hR g y j := by
  induction n with
  | zero => exact ⟨rfl, rfl, fun j => rfl⟩
  | succ n ih =>
    have e := hC_eq ((newB_ext (h := lpB y g n)).2.2 y (by rw [lpB_1]; omega))
    obtain ⟨i1, i2', i3⟩ := ih
    refine ⟨?_, ?_, fun j => ?_⟩
    · show hT (wR (newB (lpB y g n)) y n (some (lpB y g n).1)) y = _
      rw [hT_wR, ← i1]; unfold hT; rw [e]
    · show hL (wR (newB (lpB y g n)) y n (some (lpB y g n).1)) y = _
      rw [hL_wR, ← i2']; unfold hL; rw [e]
    · show hR (wR (newB (lpB y g n)) y n (some (lpB y g n).1)) y j = _
      rw [hR_wR]
      by_cases c : j = n
      · rw [if_pos ⟨rfl, c⟩, if_pos (by omega), lpB_1, c]
      · rw [if_neg (fun z => c z.2)]
        have : hR (newB (lpB y g n)) y j = hR (lpB y g n) y j := by unfold hR; rw [e]
        rw [this, i3]
        by_cases d : j < n
        · rw [if_pos d, if_pos (by omega)]
        · rw [if_neg d, if_neg (by omega)]
theorem lpB_BK (h1 : y < g.1) {i : Nat} (hi : i < n) : BK (lpB y g n) (g.1 + 6 * i) (fun _ => 0) := by
  induction n with
  | zero => omega
  | succ n ih =>
    by_cases c : i = n
    · subst c
      have := newB_BK (h := lpB y g i)
      rw [lpB_1] at this
      exact this.fr (fun a a1 a2 => hC_wR_ne (by omega))
    · exact (ih (by omega)).fr (fun a a1 a2 => lpB_s (by rw [lpB_1]; omega) (by omega))
theorem c_lpB (t : hT g x = 0) (r : hR g x 14 = some y) (hx : x < g.1) (hy : y < g.1) (xy : x ≠ y) (ty : hT g y = 107) (ly : hL g y = 9) (r1 : g.1 + 54 ≤ E.1.1) (r2 : g.2.1 + 738 ≤ E.1.2) : f_X0_init_120 E (some x) 0 g = some (lpB y g 9) := by
  refine it_traj (body := fun s : Int × ax_H => lb_X0_init_120 E (some x) s.1 s.2) (fun n => ((n : Int), lpB y g n)) 9 ?_ ?_
  · intro k hk
    obtain ⟨y1, y2, y3⟩ := lpB_y (g := g) (n := k) hy
    have tx : hT (lpB y g k) x = 0 := by unfold hT; rw [hC_eq (lpB_ne hx xy)]; exact t
    have rx : hR (lpB y g k) x 14 = some y := by unfold hR; rw [hC_eq (lpB_ne hx xy)]; exact r
    have l1 := lpB_1 (y := y) (g := g) (n := k)
    have l2 := lpB_2 (y := y) (g := g) (n := k)
    obtain ⟨b1, b2⟩ := c_newB (E := E) (h := lpB y g k) (by omega) (by omega)
    have ey := hC_eq ((newB_ext (h := lpB y g k)).2.2 y (by omega))
    show lb_X0_init_120 E (some x) (k : Int) (lpB y g k) = _
    unfold lb_X0_init_120
    rw [f_gR tx (by decide), rx, Option.bind_some, f_len (y1.trans ty) (by decide), Option.bind_some, y2, ly, i2_of (by omega) (by omega), i2_of (by omega) (by omega), if_pos (by omega), Option.bind_some, b1, Option.bind_some]
    dsimp only
    rw [Option.bind_some, b2, Option.bind_some, f_stR (by unfold hT; rw [ey]; exact y1.trans ty) (by decide) (by omega) (by unfold hL; rw [ey]; show (k : Int) < (hL (lpB y g k) y : Nat); rw [y2, ly]; omega) (by unfold hL; rw [ey]; show hL (lpB y g k) y ≤ _; rw [y2, ly]; decide) (by rw [newB_BS.1]; decide) (by rw [newB_BS.1]; decide), Option.bind_some, Int.toNat_natCast]
    rfl
  · obtain ⟨y1, y2, y3⟩ := lpB_y (g := g) (n := 9) hy
    have tx : hT (lpB y g 9) x = 0 := by unfold hT; rw [hC_eq (lpB_ne hx xy)]; exact t
    have rx : hR (lpB y g 9) x 14 = some y := by unfold hR; rw [hC_eq (lpB_ne hx xy)]; exact r
    show lb_X0_init_120 E (some x) ((9 : Nat) : Int) (lpB y g 9) = _
    unfold lb_X0_init_120
    rw [f_gR tx (by decide), rx, Option.bind_some, f_len (y1.trans ty) (by decide), Option.bind_some, y2, ly, if_neg (by decide)]
    rfl
end
