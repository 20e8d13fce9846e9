/-! Orders: the component lays all back -/
set_option maxRecDepth 100000
theorem bakO_eq (s1 r : Sg) (k : Int) : sw (sw (sw (sw r 0 (u1 (r 0) 47 k)) 2 (cpR (r 2) 0 (s1 2) 73)) 14 (cpR (r 14) 0 (s1 14) 1184)) 0 (u1 (sw (sw (sw r 0 (u1 (r 0) 47 k)) 2 (cpR (r 2) 0 (s1 2) 73)) 14 (cpR (r 14) 0 (s1 14) 1184) 0) 28 (s1 0 28)) = bakO s1 r k := by
  have z : sw (sw (sw r 0 (u1 (r 0) 47 k)) 2 (cpR (r 2) 0 (s1 2) 73)) 14 (cpR (r 14) 0 (s1 14) 1184) 0 = u1 (r 0) 47 k := by
    rw [sw_ne _ (by decide), sw_ne _ (by decide), sw_eq]
  rw [z]
  funext o
  have c : u1 (u1 (r 0) 47 k) 28 (s1 0 28) = u1 (u1 (r 0) 28 (s1 0 28)) 47 k := u1_comm _ _ (by decide)
  unfold bakO
  by_cases o0 : o = 0
  · subst o0
    rw [sw_eq, sw_eq, c]
  · rw [sw_ne _ o0, sw_ne _ o0]
    by_cases o14 : o = 14
    · subst o14
      rw [sw_eq, sw_eq]
    · rw [sw_ne _ o14, sw_ne _ o14]
      by_cases o2 : o = 2
      · subst o2
        rw [sw_eq, sw_eq]
      · rw [sw_ne _ o2, sw_ne _ o2, sw_ne _ o0]
section
variable {E : ax_E} {g : ax_H} {x t dl dv ds du hb bl bd : Nat} {r s1 : Sg} {n k : Int}
/-- had and before, laid back -/
theorem c_ordBack {β : Type} (H : REP E g x t dl dv ds du (sw r 0 (u1 (r 0) 47 k))) (hE : Ek E x) (hE1 : Ek1 E x) (V1 : VW n s1) (A : Ac s1 r) (h28 : s1 0 28 ≤ r 0 28) (B : BK g hb (s1 2)) (hbp : x + 116 ≤ hb ∧ (hb + 6 ≤ t ∨ t + 12 ≤ hb)) (L : LsB E g bl bd (s1 0 28)) (blz : Frz g x t dl dv ds du bl) (bdz : s1 0 28 = 0 ∨ Frz g x t dl dv ds du bd) (el : ∀ q : Nat, (q : Int) < s1 0 28 → ∃ u, hR g bd q = some u ∧ DnN (Frz g x t dl dv ds du) g (s1 14) q u) (e1 : g.1 + 1 ≤ E.1.1) (e2 : g.2.1 + 1000 ≤ E.1.2) : ∃ h', (∀ F : ax_H → Option β, ((ax_ce E g (some x) 0).bind fun _ => (f_X0_books E (some x) g).bind fun q22 => (ax_ce E q22.2 q22.1 2).bind fun _ => (f_X2_as E q22.1 (some hb) q22.2).bind fun q23 => (ax_gR E q23.2 (some x) 0 2).bind fun v24 => (ax_ce E q23.2 v24 42).bind fun _ => (f_J2_clear E v24 q23.2).bind fun h25 => (ax_gR E h25 (some x) 0 2).bind fun v26 => (ax_ce E h25 v26 42).bind fun _ => (f_J2_addAll E v26 (some bl) h25).bind fun q27 => F q27.2) = F h') ∧ REP E h' x t dl dv ds du (bakO s1 r k) ∧ Blk x 1 24 g h' := by
  obtain ⟨A1, A2, A3⟩ := A
  have hK1 := V1.1.2.1
  have un1 := V1.1.2.2.2.1
  have r71 := hK1.2.2.2.2.1
  obtain ⟨n0, en⟩ : ∃ n0, n0 = s1 0 28 := ⟨_, rfl⟩
  have nb : 0 ≤ n0 ∧ n0 ≤ 16 := by rw [en]; exact un1.1
  rw [← en] at L h28 bdz
  have tl := H.1.1
  have a1 := H.2.1.1
  have a14 : hR g x 2 = some (x + 14) := H.2.1.2.2.1.2.1
  obtain ⟨d1, d2⟩ := H.du1 hE
  have dux : x ≠ du := H.xdu hE
  have duk : du = E.2.2 0 ∨ (x + 116 ≤ du ∧ (du < t ∨ t + 12 ≤ du)) := by
    rcases H.1.2.1.2.2.2 with z | z
    · exact Or.inl z
    · exact Or.inr ⟨z.1, z.2.2⟩
  have e0x := hE.1
  have e1x := hE1.1
  -- the books
  obtain ⟨g1, w1, B1, O1⟩ := c_as (E := E) (a := t + 4) (b := hb) H.bk.1 B (by omega) r71.1 r71.2
  obtain ⟨K0, eK⟩ : ∃ K0, K0 = cpR (r 2) 0 (s1 2) 73 := ⟨_, rfl⟩
  have K0i : ∀ i, 0 ≤ i → i < 73 → K0 i = s1 2 i := fun i i0 i1 => by rw [eK, cpR_in (by omega), Int.sub_zero]
  have B1' : BK g1 (t + 4) K0 := B1.congr (K0i 71 (by decide) (by decide)) (K0i 72 (by decide) (by decide)) (fun p p0 p1 => K0i p p0 (by omega)) (fun i i0 i1 => K0i i (by omega) (by omega))
  have H1 : REP E g1 x t dl dv ds du (sw (sw r 0 (u1 (r 0) 47 k)) 2 K0) := H.books O1 B1' (fun i hi => by rw [sw_ne _ (by decide), eK]; exact cpR_out (by omega))
  have s1' := O1.1.1
  have s1'' := O1.1.2.1
  have c1 : ∀ a, (a < t + 4 ∨ t + 4 + 6 ≤ a) → g1.2.2 a = g.2.2 a := fun a ha => O1.1.2.2 a ha
  have un := H1.2.2.2.2.2.1
  have z28 : sw (sw r 0 (u1 (r 0) 47 k)) 2 K0 0 28 = r 0 28 := by rw [sw_ne _ (by decide), sw_eq, u1_ne _ (by decide)]
  have z14 : sw (sw r 0 (u1 (r 0) 47 k)) 2 K0 14 = r 14 := by rw [sw_ne _ (by decide), sw_ne _ (by decide)]
  rw [z28, z14] at un
  -- the list
  obtain ⟨g2, p1, p2, p3, p4, p5, p6, p7⟩ := c_clearL (E := E) (P' := fun _ _ => False) un (by decide) (Ne.symm d2)
  have dz : ∀ a, a < x → a ≠ du ∨ r 0 28 = 0 := by
    intro a ha
    rcases un.2.2.2.2.1 with z | z
    · exact Or.inr z.1
    · left
      have := H1.1.k0 z.1
      omega
  have c2 : ∀ a, a ≠ x + 14 → a ≠ du → g2.2.2 a = g1.2.2 a := fun a h1 h2 => p5 a h1 (Or.inl h2)
  have low2 : ∀ a, a < x → g2.2.2 a = g1.2.2 a := fun a ha => p5 a (by omega) (dz a ha)
  have frz2 : ∀ a, Frz g x t dl dv ds du a → g2.2.2 a = g.2.2 a := by
    intro a ha
    obtain ⟨y1, y2, y3⟩ := ha
    unfold Mut at y3
    exact (c2 a (by omega) (by omega)).trans (c1 a (by omega))
  have xg2 := ceq ((c2 x (by omega) dux).trans (c1 x (by omega)))
  have blc := ceq (frz2 bl blz)
  have L2 : LsB E g2 bl bd n0 := by
    obtain ⟨y1, y2, y3, y4⟩ := L
    refine ⟨blc.1.trans y1, (blc.2.2.2 1).trans y2, (blc.2.2.1 2).trans y3, ?_⟩
    rcases y4 with z | ⟨z1, z2, z3, z4⟩
    · exact Or.inl z
    · have bdc := ceq (frz2 bd (bdz.resolve_left (by omega)))
      exact Or.inr ⟨z1, z2, bdc.1.trans z3, by rw [bdc.2.1]; exact z4⟩
  have bdR : ∀ q : Nat, (q : Int) < n0 → hR g2 bd q = hR g bd q := fun q hq => (ceq (frz2 bd (bdz.resolve_left (by omega)))).2.2.2 q
  have bdl : bd < g2.1 := by
    rcases bdz with z | z
    · rcases L.2.2.2 with y | y
      · omega
      · omega
    · have := z.2.1
      omega
  have els : Els g2 bd n0 := by
    intro q hq
    obtain ⟨u, u1', u2⟩ := el q (by rw [← en]; exact hq)
    have uc := ceq (frz2 u u2.1)
    exact ⟨u, (bdR q hq).trans u1', by rw [uc.1, u2.2.1]; decide, by rw [uc.1, u2.2.1]; decide, by have := u2.1.2.1; omega⟩
  have cap2 : n0 = 0 ∨ (hT g2 du = 104 ∧ n0 ≤ hL g2 du ∧ hL g2 du ≤ 24) := by
    rcases un.2.2.2.2.1 with z | ⟨z1, z2, z3⟩
    · left; omega
    · right
      rw [(p6 du).1, (p6 du).2]
      exact ⟨z1, by omega, z3⟩
  have hE1' : g2.2.2 (E.2.2 1) = none ∧ ∃ c : ax_C, E.2.1 (E.2.2 1) = some c ∧ c.1 = 104 ∧ c.2.1 = 0 := ⟨(low2 _ e1x).trans ((c1 _ (by omega)).trans (H.low _ e1x)), hE1.2⟩
  obtain ⟨v, g3, q1, ⟨q2, q3, q4⟩, q5, q6, q7, q8⟩ := c_addAll2 (E := E) (b := x + 14) (db := du) L2 nb.1 hE1' bdl els p2.1 p2.2.1 p2.2.2.1 ⟨by omega, d2, by omega⟩ cap2 (by omega) (by omega)
  have c3 : ∀ a, a < g1.1 → a ≠ x + 14 → a ≠ du → g3.2.2 a = g1.2.2 a := fun a h1 h2 h3 => (q7 a (by omega) h2 (Or.inl h3)).trans (c2 a h2 h3)
  have low3 : ∀ a, a < x → g3.2.2 a = g1.2.2 a := fun a ha => (q7 a (by omega) (by omega) (by have := dz a ha; omega)).trans (low2 a ha)
  have frz3 : ∀ a, Frz g x t dl dv ds du a → g3.2.2 a = g.2.2 a := fun a ha => by
    have y := ha.2.1
    have m := ha.2.2
    unfold Mut at m
    exact (q7 a (by omega) (by omega) (Or.inl (by omega))).trans (frz2 a ha)
  have hf : ∀ a, Frz g x t dl dv ds du a → Frz g3 x t dl dv ds du a ∧ eqT (hC g a) (hC g3 a) := fun a ha => ⟨ha.up (by omega), eqT.of (frz3 a ha)⟩
  have hL : LsN E g3 (x + 14) du n0 24 (DnN (Frz g3 x t dl dv ds du) g3 (cpR (r 14) 0 (s1 14) 1184)) := by
    refine ⟨q2, q3, q4, nb.1, ?_, fun q hq => ?_⟩
    · by_cases c0 : n0 = 0
      · have dc := ceq (q7 du (by omega) d2 (Or.inr c0))
        rcases p2.2.2.2.2.1 with z | z
        · exact Or.inl ⟨c0, z.2⟩
        · exact Or.inr ⟨dc.1.trans z.1, by omega, by rw [dc.2.1]; exact z.2.2⟩
      · obtain ⟨z1, z2, z3⟩ := cap2.resolve_left c0
        obtain ⟨y1, y2⟩ := q5 c0
        exact Or.inr ⟨y1.trans z1, by rw [y2]; exact z2, by rw [y2]; exact z3⟩
    · obtain ⟨u, u1', u2⟩ := el q (by rw [← en]; exact hq)
      refine ⟨u, (q6 q hq).trans ((bdR q hq).trans u1'), u2.fr hf (fun i i0 i1 => ?_) ?_⟩
      · rw [cpR_in (by omega), Int.sub_zero]
      · exact (un1.2 q (by omega) (by omega)).1.1.2
  have H3 := H1.und (h' := g3) (du' := du) (s' := sw (sw (sw (sw r 0 (u1 (r 0) 47 k)) 2 K0) 14 (cpR (r 14) 0 (s1 14) 1184)) 0 (u1 (sw (sw (sw r 0 (u1 (r 0) 47 k)) 2 K0) 14 (cpR (r 14) 0 (s1 14) 1184) 0) 28 (s1 0 28))) (by omega) low3 (fun a _ h2 h3 h4 => c3 a h2 h3 h4) (by rw [q2]; decide) (Or.inl rfl) (by
    rw [sw_eq, u1_eq, sw_ne (p := 14) (o := 0) _ (by decide), sw_eq, ← en]
    exact hL) (by
    refine ⟨?_, ?_, ?_, ?_, ?_, ?_, ?_, ?_, ?_, ?_, ?_, ?_, ?_, ?_⟩
    · rw [sw_ne _ (by decide), sw_ne _ (by decide)]
    · rw [sw_ne _ (by decide), sw_ne _ (by decide)]
    · rw [sw_ne _ (by decide), sw_ne _ (by decide)]
    · rw [sw_ne _ (by decide), sw_ne _ (by decide)]
    · rw [sw_ne _ (by decide), sw_ne _ (by decide)]
    · rw [sw_ne _ (by decide), sw_ne _ (by decide)]
    · rw [sw_ne _ (by decide), sw_ne _ (by decide)]
    · rw [sw_ne _ (by decide), sw_ne _ (by decide)]
    · rw [sw_eq, u1_ne _ (by decide), sw_ne _ (by decide)]
    · rw [sw_eq, u1_ne _ (by decide), sw_ne _ (by decide)]
    · rw [sw_eq, u1_ne _ (by decide), sw_ne _ (by decide)]
    · rw [sw_eq, u1_ne _ (by decide), sw_ne _ (by decide)]
    · rw [sw_eq, u1_ne _ (by decide), sw_ne _ (by decide)]
    · rw [sw_eq, u1_ne _ (by decide), sw_ne _ (by decide)])
  rw [eK, bakO_eq] at H3
  refine ⟨g3, fun F => ?_, H3, ⟨by omega, by omega, by omega, by omega, fun b b1 b2 => (c3 b (by omega) (by omega) (by omega)).trans (c1 b (by omega))⟩⟩
  have a1' : hT g1 x = 0 := H1.2.1.1
  rw [f_ce a1 (by decide), Option.bind_some, c_books H, Option.bind_some]
  dsimp only
  rw [f_ce H.bk.1.1 (by decide), Option.bind_some, w1, Option.bind_some]
  dsimp only
  rw [f_gR a1' (by decide), Option.bind_some, H1.2.1.2.2.1.2.1, f_ce un.1 (by decide), Option.bind_some, p1, Option.bind_some, f_gR (xg2.1.trans a1) (by decide), Option.bind_some, xg2.2.2.2, a14, f_ce p2.1 (by decide), Option.bind_some, q1, Option.bind_some]
end
