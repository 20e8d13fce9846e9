/-! Rings: the component's answers -/
set_option maxRecDepth 100000
/-- a ring that was found, as it lies in the heap -/
def RdI (r : Nat) (K : Rw) (n : Int) (sz : Nat) (fr : Nat → Int) (g : ax_H) : Prop := (hT g r = 27 ∧ hR g r 0 = some (r + 1) ∧ hR g r 2 = some (r + 10)) ∧ (hT g (r + 1) = 111 ∧ hL g (r + 1) = 7) ∧ (∀ j, j < 7 → hR g (r + 1) j = some (r + 2 + j) ∧ hT g (r + 2 + j) = 100 ∧ hL g (r + 2 + j) = 7) ∧ (hT g (r + 10) = 100 ∧ hL g (r + 10) = 7) ∧ (∀ p q : Nat, p < 7 → q < 7 → hI g (r + 2 + p) q = owed K p q) ∧ hI g r 3 = sz ∧ (∀ j : Nat, j < sz → hI g (r + 10) j = fr j) ∧ (2 ≤ sz ∧ sz ≤ 7) ∧ ∀ j, j < sz → 0 ≤ fr j ∧ fr j < n
theorem RdI.fr {r : Nat} {K : Rw} {n : Int} {sz : Nat} {fr : Nat → Int} {g g' : ax_H} (H : RdI r K n sz fr g) (e : ∀ a, r ≤ a → a < r + 11 → g'.2.2 a = g.2.2 a) : RdI r K n sz fr g' := by
  have c : ∀ a, r ≤ a → a < r + 11 → hC g' a = hC g a := fun a h1 h2 => hC_eq (e a h1 h2)
  obtain ⟨⟨a1, a2, a3⟩, ⟨b1, b2⟩, d, ⟨f1, f2⟩, m, i3, bf, v1, v2⟩ := H
  have T : ∀ a, r ≤ a → a < r + 11 → hT g' a = hT g a := fun a h1 h2 => by unfold hT; rw [c a h1 h2]
  have L : ∀ a, r ≤ a → a < r + 11 → hL g' a = hL g a := fun a h1 h2 => by unfold hL; rw [c a h1 h2]
  have R : ∀ a k, r ≤ a → a < r + 11 → hR g' a k = hR g a k := fun a k h1 h2 => by unfold hR; rw [c a h1 h2]
  have I : ∀ a k, r ≤ a → a < r + 11 → hI g' a k = hI g a k := fun a k h1 h2 => by unfold hI; rw [c a h1 h2]
  refine ⟨⟨by rw [T _ (by omega) (by omega)]; exact a1, by rw [R _ _ (by omega) (by omega)]; exact a2, by rw [R _ _ (by omega) (by omega)]; exact a3⟩, ⟨by rw [T _ (by omega) (by omega)]; exact b1, by rw [L _ (by omega) (by omega)]; exact b2⟩, fun j hj => ?_, ⟨by rw [T _ (by omega) (by omega)]; exact f1, by rw [L _ (by omega) (by omega)]; exact f2⟩, fun p q hp hq => by rw [I _ _ (by omega) (by omega)]; exact m p q hp hq, by rw [I _ _ (by omega) (by omega)]; exact i3, fun j hj => by rw [I _ _ (by omega) (by omega)]; exact bf j hj, v1, v2⟩
  rw [R _ _ (by omega) (by omega), T _ (by omega) (by omega), L _ (by omega) (by omega)]
  exact d j hj
section
variable {E : ax_E} {h : ax_H} {x t dl dv ds du : Nat} {s : Sg}
theorem RcI.rd {g : ax_H} {k : Nat} {row : Nat → Int} {sz bits : Nat} {fr : Nat → Int} (J : RcI x s h k row (some (sz, bits, fr)) g) : RdI h.1 (s 2) (s 2 152) sz fr g := by
  obtain ⟨⟨-, -, ⟨a1, a2, -, a4, -⟩, b, d, -, f⟩, M, -, ⟨b3, -, bf⟩, v1, -, v2⟩ := J
  exact ⟨⟨a1, a2, a4⟩, b, d, f, M, b3, bf, v1, v2⟩
theorem c_is27 {g : ax_H} {R : RB} (J : RcI x s h 0 (fun _ => 0) R g) : f_X27_is E (some h.1) g = some (if R = none then 0 else 1, g) := by
  obtain ⟨S, M, -, b1, v1⟩ := J
  obtain ⟨-, -, ⟨t27, -⟩, -⟩ := S
  unfold f_X27_is
  rw [f_gI t27 (by decide), Option.bind_some, show i2 100000000 = 100000000 by decide]
  cases R with
  | none =>
    have b1' : hI g h.1 3 = 100000000 := b1
    rw [b1', show i2 100000000 = 100000000 by decide, if_neg (by decide), if_pos rfl]
  | some tt =>
    obtain ⟨sz, bits, fr⟩ := tt
    obtain ⟨b3, -⟩ := b1
    obtain ⟨v2, -⟩ := v1
    rw [b3, i2_of (a := (sz : Int)) (by omega) (by omega), if_pos (by omega), if_neg (fun z => by cases z)]
theorem c_next {g : ax_H} {r sz k : Nat} {K : Rw} {n : Int} {fr : Nat → Int} (D : RdI r K n sz fr g) (hk : k < sz) : f_X27_next E (some r) k g = some (fr ((k + 1) % sz), g) := by
  obtain ⟨⟨a1, a2, a3⟩, -, -, ⟨f1, f2⟩, -, i3', bf, v1, -⟩ := D
  have i3 : Hid (hI g r 3 = sz) := i3'
  clear i3'
  have hm : (k + 1) % sz < sz := Nat.mod_lt _ (by omega)
  have hq : 0 ≤ (((k + 1) % sz : Nat) : Int) ∧ (((k + 1) % sz : Nat) : Int) < 7 := ⟨Int.natCast_nonneg _, Int.ofNat_lt.mpr (Nat.lt_of_lt_of_le hm v1.2)⟩
  unfold f_X27_next
  rw [f_gR a1 (by decide), a3, Option.bind_some, f_gI a1 (by decide), i3.out, Option.bind_some, nxt hk v1.2, i2_of (a := (sz : Int)) (by omega) (by omega), if_neg (by omega), f_ld f1 (by decide) hq.1 (by rw [f2]; exact hq.2) (by rw [f2]; decide), Option.bind_some, Int.toNat_natCast, bf _ hm]
theorem c_least {g : ax_H} {r sz : Nat} {K : Rw} {n : Int} {fr : Nat → Int} (hR : RV n K) (hn : n ≤ 7) (D : RdI r K n sz fr g) : f_X27_least E (some r) g = some (rlS K fr sz, g) := by
  have D' := D
  obtain ⟨⟨a1, a2, a3⟩, ⟨b1, b2⟩, d, ⟨f1, f2⟩, M, i3', bf, v1, v2⟩ := D
  have i3 : Hid (hI g r 3 = sz) := i3'
  clear i3'
  have e := it_traj (body := fun y : Int × Int × ax_H => lb_X27_least_5 E (some r) y.1 y.2.1 y.2.2) (fun k => (rlN K fr sz 100000000 k, (k : Int), g)) sz (r := (rlS K fr sz, g)) ?_ ?_
  · exact e
  · intro k hk
    have r1 := rl_b hR fr sz (c := 100000000) (by decide) k
    have g1 := v2 k hk
    have hm : (k + 1) % sz < sz := Nat.mod_lt _ (by omega)
    have g2 := v2 _ hm
    have ob := owed_b hR (fr k) (fr ((k + 1) % sz))
    obtain ⟨d1, d2, d3⟩ := d (fr k).toNat (by omega)
    have m2 := M (fr k).toNat (fr ((k + 1) % sz)).toNat (by omega) (by omega)
    rw [Int.toNat_of_nonneg g1.1, Int.toNat_of_nonneg g2.1] at m2
    simp only [lb_X27_least_5]
    rw [f_gI a1 (by decide), i3.out, Option.bind_some, i2_of (a := (k : Int)) (by omega) (by omega), i2_of (a := (sz : Int)) (by omega) (by omega), if_pos (by omega), f_gR a1 (by decide), a2, Option.bind_some, f_gR a1 (by decide), a3, Option.bind_some, f_ld f1 (by decide) (by omega) (by rw [f2]; omega) (by rw [f2]; decide), Option.bind_some, Int.toNat_natCast, bf k hk, f_ldR b1 (by decide) g1.1 (by rw [b2]; omega) (by rw [b2]; decide), d1, Option.bind_some, f_ce a1 (by decide), Option.bind_some, c_next D' hk, Option.bind_some]
    dsimp only
    rw [f_ld d2 (by decide) g2.1 (by rw [d3]; omega) (by rw [d3]; decide), Option.bind_some, m2, c_min (i2_of (by omega) (by omega)) (i2_of (by omega) (by omega)), Option.bind_some]
    rfl
  · simp only [lb_X27_least_5]
    rw [f_gI a1 (by decide), i3.out, Option.bind_some, if_neg (Int.lt_irrefl _)]
    rfl
/-- the books lessened along a ring -/
theorem c_clrB {g : ax_H} {r sz b : Nat} {K K0 : Rw} {n : Int} {fr : Nat → Int} (hR : RV n K0) (hn : n ≤ 7) (D : RdI r K0 n sz fr g) (hR1 : RV n K) (h32 : K32 K) (B : BK g b K) (hb : b + 6 ≤ r) : ∃ g', f_X27_clear E (some r) (some b) g = some g' ∧ BK g' b (clN fr sz (rlS K0 fr sz) sz K) ∧ OnS b 6 g g' := by
  have v1 := D.2.2.2.2.2.2.2.1
  have v2 := D.2.2.2.2.2.2.2.2
  have rb := rlS_b hR fr v1.1
  have hrl : i2 (rlS K0 fr sz) = rlS K0 fr sz := i2_of (by omega) (by omega)
  unfold f_X27_clear f_X27_clear_7
  rw [f_ce D.1.1 (by decide), Option.bind_some, c_least hR hn D, Option.bind_some]
  dsimp only
  obtain ⟨g', ⟨w1, w3⟩, w2⟩ := it_runI (body := fun y : Int × ax_H => lb_X27_clear_7 E (some r) (some b) (rlS K0 fr sz) y.1 y.2) (fun (_ : Unit) (p : Nat) g => ((p : Int), g)) (fun (_ : Unit) g => g) (I := fun k _ g1 => BK g1 b (clN fr sz (rlS K0 fr sz) k K) ∧ OnS b 6 g g1) (P := fun _ g1 => BK g1 b (clN fr sz (rlS K0 fr sz) sz K) ∧ OnS b 6 g g1) (f := fun _ _ => (.inl () : Unit ⊕ Unit)) (fin := id) sz (by
      rintro k _ g1 hk ⟨B1, O1⟩
      have D1 := D.fr (g' := g1) (fun a h1 h2 => O1.1.2.2 a (Or.inr (by omega)))
      obtain ⟨⟨a1, a2, a3⟩, -, -, ⟨f1, f2⟩, -, i3', bf, -, -⟩ := id D1
      have i3 : Hid (hI g1 r 3 = sz) := i3'
      clear i3'
      have g1' := v2 k hk
      have hm : (k + 1) % sz < sz := Nat.mod_lt _ (by omega)
      have g2' := v2 _ hm
      obtain ⟨c1, c2, c3⟩ := cl_all (fr := fr) (sz := sz) (v := rlS K0 fr sz) hR1 h32 rb.1 k
      obtain ⟨g2, x1, x2, x3⟩ := c_lessen (E := E) (p := fr k) (q := fr ((k + 1) % sz)) (v := rlS K0 fr sz) B1 c2 c1 (i2_of (by omega) (by omega)) (i2_of (by omega) (by omega)) rb.1 hrl
      rw [← clN_s] at x2
      refine ⟨g2, Or.inl ⟨(), rfl, ⟨x2, O1.trans x3⟩, ?_⟩⟩
      simp only [lb_X27_clear_7]
      rw [f_gI a1 (by decide), i3.out, Option.bind_some, i2_of (a := (k : Int)) (by omega) (by omega), i2_of (a := (sz : Int)) (by omega) (by omega), if_pos (by omega), f_gR a1 (by decide), a3, Option.bind_some, f_ld f1 (by decide) (by omega) (by rw [f2]; omega) (by rw [f2]; decide), Option.bind_some, Int.toNat_natCast, bf k hk, f_ce a1 (by decide), Option.bind_some, c_next D1 hk, Option.bind_some]
      dsimp only
      rw [f_ce B1.1.1 (by decide), Option.bind_some, x1, Option.bind_some]
      rfl) (by
      rintro _ g1 ⟨B1, O1⟩
      have D1 := D.fr (g' := g1) (fun a h1 h2 => O1.1.2.2 a (Or.inr (by omega)))
      obtain ⟨⟨a1, a2, a3⟩, -, -, ⟨f1, f2⟩, -, i3', bf, -, -⟩ := id D1
      refine ⟨g1, ⟨B1, O1⟩, ?_⟩
      simp only [lb_X27_clear_7]
      rw [f_gI a1 (by decide), i3', Option.bind_some, if_neg (Int.lt_irrefl _)]
      rfl) sz 0 () g (by omega) ⟨B, OnS.refl _ _ _⟩
  exact ⟨g', w2, w1, w3⟩
theorem c_ring {i : Int} (H : REP E h x t dl dv ds du s) (hG : G32 s) (hK : KB (s 2)) (hi : i2 i = i) (e1 : h.1 + 11 ≤ E.1.1) (e2 : h.2.1 + 76 ≤ E.1.2) : ∃ h', f_X0_ring E (some x) i h = some (ringP s i, h') ∧ REP E h' x t dl dv ds du s ∧ Blk x 30 300 h h' := by
  obtain ⟨p1, p2, p3, g, p4, J⟩ := c_newRing H hG hK e1 e2
  have bi := i2_lh hi
  have kp := J.1.1
  obtain ⟨z1, z2⟩ := J.1.2.1
  refine ⟨g, ?_, H.keep kp, ⟨by omega, by omega, by omega, by omega, fun b b1 b2 => kp.2.2.2.2.2.2 b b1 b2⟩⟩
  have t27 := J.1.2.2.1.1
  unfold f_X0_ring ringP
  rw [p1, Option.bind_some]
  dsimp only
  rw [p2, Option.bind_some, p3, Option.bind_some]
  dsimp only
  rw [Option.bind_some, p4, Option.bind_some, f_ce t27 (by decide), Option.bind_some, c_is27 J, Option.bind_some]
  dsimp only
  cases hr : ringS (s 2) with
  | none =>
    rw [if_pos rfl, if_pos (by decide)]
  | some tt =>
    obtain ⟨sz, bits, fr⟩ := tt
    rw [hr] at J
    obtain ⟨⟨a1, a2, a3⟩, -, -, ⟨f1, f2⟩, -, i3', bf, v1, v2⟩ := J.rd
    rw [if_neg (show ¬ (some (sz, bits, fr) : RB) = none from fun z => by cases z), if_neg (show ¬ i2 1 = 0 by decide), hi, show i2 (-1) = -1 by decide, f_gI t27 (by decide), i3', Option.bind_some]
    show _ = some (if i = -1 then (sz : Int) else if 0 ≤ i ∧ i ≤ (sz : Int) - 1 then fr i.toNat else -1, g)
    by_cases c1 : i = -1
    · rw [if_pos c1, if_pos c1]
    · rw [if_neg c1, if_neg c1, Option.bind_some, i2_of (a := (sz : Int) - 1) (by omega) (by omega), c_in (by omega) (by decide) (by omega), Option.bind_some]
      by_cases c2 : 0 ≤ i ∧ i ≤ (sz : Int) - 1
      · rw [if_neg (by rw [b01_z]; exact fun z => z c2), if_pos c2]
        dsimp only
        rw [f_gR a1 (by decide), a3, Option.bind_some, f_ld f1 (by decide) c2.1 (by rw [f2]; omega) (by rw [f2]; decide), Option.bind_some, bf i.toNat (by omega)]
      · rw [if_pos (by rw [b01_z]; exact c2), if_neg c2]
theorem c_clear0 (H : REP E h x t dl dv ds du s) (hE : Ek E x) (hG : G32 s) (hK : KB (s 2)) (hU : UnV s) (e1 : h.1 + 30 ≤ E.1.1) (e2 : h.2.1 + 1900 ≤ E.1.2) : ∃ (du' : Nat) (h' : ax_H), f_X0_clear E (some x) h = some ((telP (clearS s)).1, h') ∧ REP E h' x t dl dv ds du' (telP (clearS s)).2 ∧ Blk x 30 300 h h' := by
  obtain ⟨p1, p2, p3, g, p4, J⟩ := c_newRing H hG hK (by omega) (by omega)
  have kp := J.1.1
  obtain ⟨z1, z2⟩ := J.1.2.1
  have H1 := H.keep kp
  have hx := H.1.1.1
  have hn := hK.1
  have t27 := J.1.2.2.1.1
  have b1 : Blk x 11 76 h g := ⟨by omega, by omega, by omega, by omega, fun b b1 b2 => kp.2.2.2.2.2.2 b b1 b2⟩
  unfold f_X0_clear telP clearS
  rw [p1, Option.bind_some]
  dsimp only
  rw [p2, Option.bind_some, p3, Option.bind_some]
  dsimp only
  rw [Option.bind_some, p4, Option.bind_some, f_ce t27 (by decide), Option.bind_some, c_is27 J, Option.bind_some]
  dsimp only
  cases hr : ringS (s 2) with
  | none =>
    obtain ⟨g3, v1, v2, v3⟩ := c_told (v := -3) H1 b1 (by decide) (by decide)
    rw [if_pos rfl, if_pos (by decide), f_ce H1.2.1.1 (by decide), Option.bind_some, v1, Option.bind_some]
    exact ⟨du, g3, rfl, v2, v3.up (by decide) (by decide)⟩
  | some tt =>
    obtain ⟨sz, bits, fr⟩ := tt
    rw [hr] at J
    have D := J.rd
    have v1 := D.2.2.2.2.2.2.2.1
    have rb := rlS_b hK.2.2.2.2 fr v1.1
    obtain ⟨du', g1, q1, H2, q3, q4, q5, q6, q7, q8⟩ := c_remember (what := 5) H1 hE hU hG hK.2.2.2.2.1 (by omega) (by omega)
    have dlt : du < h.1 := (H.du1 hE).1
    have D1 : RdI h.1 (s 2) (s 2 152) sz fr g1 := D.fr (fun a h1 h2 => q7 a (by omega) (by omega) (by omega))
    have b2 : Blk x 8 110 g g1 := rem_blk H1 hE q3 q4 q5 q6 q7
    have B2 := H2.bk
    have ek2 : keepsS s 5 2 = s 2 := keeps_2 s 5
    rw [ek2] at B2
    have tt1 : t + 4 + 6 ≤ h.1 := by have := H.1.1.2.2; omega
    obtain ⟨g2, x1, x2, x3⟩ := c_clrB (E := E) (b := t + 4) hK.2.2.2.2 hn.2 D1 hK.2.2.2.2 (hG 2) B2 tt1
    obtain ⟨cl1, cl2, cl3⟩ := cl_all (fr := fr) (sz := sz) (v := rlS (s 2) fr sz) hK.2.2.2.2 (hG 2) rb.1 sz
    have H3 := H2.books x3 x2 (fun i hi => by rw [ek2]; exact cl3 i (Or.inr hi))
    have tb : t + 4 + 6 ≤ x + 84 ∨ x + 116 ≤ t + 4 := by have := H.1.1.2.1; omega
    have b3 := ((b1.trans b2).trans (x3.blk (x := x) tb)).up (c' := 30) (z' := 300) (by decide) (by decide)
    obtain ⟨g3, y1, y2, y3⟩ := c_told (v := rlS (s 2) fr sz) H3 b3 (by omega) (by omega)
    refine ⟨du', g3, ?_, y2, y3⟩
    rw [if_neg (show ¬ (some (sz, bits, fr) : RB) = none from fun z => by cases z), if_neg (show ¬ i2 1 = 0 by decide), f_ce H1.2.1.1 (by decide), Option.bind_some, q1, Option.bind_some, f_ce D1.1.1 (by decide), Option.bind_some, c_least hK.2.2.2.2 hn.2 D1, Option.bind_some]
    dsimp only
    rw [f_ce H2.2.1.1 (by decide), Option.bind_some, c_books H2, Option.bind_some]
    dsimp only
    rw [f_ce D1.1.1 (by decide), Option.bind_some, x1, Option.bind_some, f_ce H3.2.1.1 (by decide), Option.bind_some, y1, Option.bind_some]
end
