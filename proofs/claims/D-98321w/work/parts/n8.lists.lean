/-! Orders: what can be undone, laid aside and back -/
set_option maxRecDepth 100000
/-- the other empty array -/
def Ek1 (E : ax_E) (x : Nat) : Prop := E.2.2 1 < x ∧ ∃ c : ax_C, E.2.1 (E.2.2 1) = some c ∧ c.1 = 104 ∧ c.2.1 = 0
section
variable {E : ax_E} {h h' : ax_H} {a b d db x : Nat} {n : Int} {cap : Nat}
/-- a list as a copy: its object, its array, how many -/
def LsB (E : ax_E) (h : ax_H) (a d : Nat) (n : Int) : Prop := hT h a = 42 ∧ hR h a 1 = some d ∧ hI h a 2 = n ∧ ((n = 0 ∧ d = E.2.2 1) ∨ (1 ≤ n ∧ n ≤ 24 ∧ hT h d = 104 ∧ (hL h d : Int) = n))
theorem c_cpList (L : Ls0 E h a d n cap) (hc : cap ≤ 24) (hE : Emp E h) (hdl : d < h.1) (hel : Els h d n) (tb : hT h b = 42) (hb : b < h.1 ∧ b ≠ a ∧ b ≠ d) (haa : a < h.1) (e1 : h.1 + 1 ≤ E.1.1) (e2 : h.2.1 + 1000 ≤ E.1.2) : ∃ (d' : Nat) (g : ax_H), f_J2_init_2 E (some b) (some a) h = some g ∧ LsB E g b d' n ∧ (n = 0 ∨ d' = h.1) ∧ (∀ k : Nat, (k : Int) < n → hR g d' k = hR h d k) ∧ (∀ c, c < h.1 → c ≠ b → g.2.2 c = h.2.2 c) ∧ g.1 = h.1 + 1 ∧ g.2.1 = h.2.1 + n.toNat := by
  obtain ⟨h1, e1'⟩ : ∃ h1, h1 = wI h b 0 0 := ⟨_, rfl⟩
  have c1 : ∀ c, c ≠ b → h1.2.2 c = h.2.2 c := fun c hc => by rw [e1']; exact hC_wI_ne hc
  have t1 : ∀ c, hT h1 c = hT h c := fun c => by rw [e1', hT_wI]
  have r1 : ∀ c k, hR h1 c k = hR h c k := fun c k => by rw [e1', hR_wI]
  have l1 : ∀ c, hL h1 c = hL h c := fun c => by rw [e1', hL_wI]
  have n0 := L.2.2.2.1
  have n24 : n ≤ 24 := by rcases L.2.2.2.2 with z | z <;> omega
  have L1 : Ls0 E h1 a d n cap := by
    obtain ⟨y1, y2, y3, y4, y5⟩ := L
    refine ⟨(t1 a).trans y1, (r1 a 1).trans y2, by rw [e1', hI_wI_ne (by omega)]; exact y3, y4, ?_⟩
    rw [t1, l1]
    exact y5
  have eb : E.2.2 0 ≠ b := by
    intro z
    have := hE.1
    rw [z] at this
    unfold hT hC at tb
    rw [this] at tb
    cases tb
  have E1 : Emp E h1 := ⟨(c1 _ eb).trans hE.1, hE.2⟩
  have s1 : h1.1 = h.1 ∧ h1.2.1 = h.2.1 := by rw [e1']; exact ⟨rfl, rfl⟩
  obtain ⟨g, p1, p2, p3, p4, p5, p6, p7⟩ := c_toArray L1 (by omega) E1 (by omega) (fun k hk => by
    obtain ⟨u, u1, u2, u3, u4⟩ := hel k hk
    exact ⟨u, (r1 d k).trans u1, by rw [t1]; exact u2, by rw [t1]; exact u3, by omega⟩) (by omega) (by omega)
  rw [s1.1] at p1 p2 p4 p5 p6 p7
  rw [s1.2] at p3
  have tg : hT g b = 42 := by
    have := (ceq (p7 b hb.1)).1
    rw [this, t1]
    exact tb
  have ta : hT g a = 42 := by
    rw [(ceq (p7 a haa)).1, t1]
    exact L.1
  obtain ⟨g2, eg2⟩ : ∃ g2, g2 = wI g b 2 n := ⟨_, rfl⟩
  have tb2 : hT g2 b = 42 := by rw [eg2, hT_wI]; exact tg
  have low : ∀ c, c < h.1 → c ≠ b → g2.2.2 c = h.2.2 c := fun c q1 q2 => by rw [eg2, hC_wI_ne q2, p7 c q1]; exact c1 c q2
  have pre : f_J2_init_2 E (some b) (some a) h = if i2 n = 0 then (ax_pR g2 (some b) 42 1 (some (E.2.2 1))).bind fun h6 => some h6 else (ax_pR g2 (some b) 42 1 (some h.1)).bind fun h9 => some h9 := by
    unfold f_J2_init_2 f_J1_init f_J0_init ax_cst
    rw [Option.bind_some, Option.bind_some, Option.bind_some, Option.bind_some, f_pI tb (by decide), Option.bind_some, ← e1', Option.bind_some, f_ce L1.1 (by decide), Option.bind_some, p1, Option.bind_some]
    dsimp only
    rw [f_len p4 (by decide), Option.bind_some, p5, f_pI tg (by decide), Option.bind_some, ← eg2, Option.bind_some, f_ce (by rw [eg2, hT_wI]; exact ta) (by decide), Option.bind_some, Option.bind_some, Option.bind_some, if_pos rfl]
  rw [pre, i2_of (a := n) (by omega) (by omega), f_pR tb2 (by decide), f_pR tb2 (by decide), Option.bind_some, Option.bind_some]
  by_cases c : n = 0
  · rw [if_pos c]
    refine ⟨E.2.2 1, _, rfl, ⟨by rw [hT_wR]; exact tb2, hR_wR_eq, by rw [hI_wR, eg2]; exact hI_wI_eq, Or.inl ⟨c, rfl⟩⟩, Or.inl c, fun k hk => by omega, fun q q1 q2 => (hC_wR_ne q2).trans (low q q1 q2), ?_, ?_⟩
    · rw [wR_1, eg2, wI_1]; exact p2
    · rw [wR_2, eg2, wI_2]; exact p3
  · rw [if_neg c]
    refine ⟨h.1, _, rfl, ⟨by rw [hT_wR]; exact tb2, hR_wR_eq, by rw [hI_wR, eg2]; exact hI_wI_eq, Or.inr ⟨by omega, n24, by rw [hT_wR, eg2, hT_wI]; exact p4, by rw [hL_wR, eg2, hL_wI]; exact p5⟩⟩, Or.inr rfl, fun k hk => ?_, fun q q1 q2 => (hC_wR_ne q2).trans (low q q1 q2), ?_, ?_⟩
    · rw [hR_wR_ne (by omega), eg2, hR_wI, p6 k hk, r1]
    · rw [wR_1, eg2, wI_1]; exact p2
    · rw [wR_2, eg2, wI_2]; exact p3
/-- the other empty array stands in for the first -/
theorem toArr1 {g : ax_H} {w : Option Nat} : f_J2_toArray ((E.1, E.2.1, fun k => if k = 0 then E.2.2 1 else E.2.2 k) : ax_E) w g = f_J2_toArray E w g := rfl
/-- a list that is empty is filled again -/
theorem c_addAll2 (A : LsB E h a d n) (n0 : 0 ≤ n) (hE1 : h.2.2 (E.2.2 1) = none ∧ ∃ c : ax_C, E.2.1 (E.2.2 1) = some c ∧ c.1 = 104 ∧ c.2.1 = 0) (hdl : d < h.1) (hel : Els h d n) (tb : hT h b = 42) (rb : hR h b 1 = some db) (ib : hI h b 2 = 0) (hbl : b < h.1 ∧ db ≠ b ∧ db < h.1) (hz : n = 0 ∨ (hT h db = 104 ∧ n ≤ hL h db ∧ hL h db ≤ 24)) (e1 : h.1 + 1 ≤ E.1.1) (e2 : h.2.1 + 1000 ≤ E.1.2) : ∃ (v : Int) (g : ax_H), f_J2_addAll E (some b) (some a) h = some (v, g) ∧ (hT g b = 42 ∧ hR g b 1 = some db ∧ hI g b 2 = n) ∧ (n ≠ 0 → hT g db = hT h db ∧ hL g db = hL h db) ∧ (∀ k : Nat, (k : Int) < n → hR g db k = hR h d k) ∧ (∀ c, c < h.1 → c ≠ b → (c ≠ db ∨ n = 0) → g.2.2 c = h.2.2 c) ∧ (h.1 ≤ g.1 ∧ g.1 ≤ h.1 + 1 ∧ h.2.1 ≤ g.2.1 ∧ g.2.1 ≤ h.2.1 + 24) := by
  obtain ⟨a1, a2, a3, a4⟩ := A
  have arr : ∃ g, f_J2_toArray E (some a) h = some (some h.1, g) ∧ g.1 = h.1 + 1 ∧ g.2.1 = h.2.1 + n.toNat ∧ hT g h.1 = 104 ∧ (hL g h.1 : Int) = n ∧ (∀ k : Nat, (k : Int) < n → hR g h.1 k = hR h d k) ∧ ∀ c, c < h.1 → g.2.2 c = h.2.2 c := by
    rcases a4 with ⟨z1, z2⟩ | ⟨z1, z2, z3, z4⟩
    · have q := c_toArray (E := ((E.1, E.2.1, fun k => if k = 0 then E.2.2 1 else E.2.2 k) : ax_E)) (h := h) (a := a) (d := d) (n := n) (cap := 24) ⟨a1, a2, a3, n0, Or.inl ⟨z1, z2⟩⟩ (by decide) hE1 hdl hel e1 e2
      rw [toArr1] at q
      exact q
    · have q := c_toArray (E := ((E.1, E.2.1, fun k => if k = 0 then E.2.2 1 else E.2.2 k) : ax_E)) (h := h) (a := a) (d := d) (n := n) (cap := 24) ⟨a1, a2, a3, n0, Or.inr ⟨z3, by omega, by omega⟩⟩ (by decide) hE1 hdl hel e1 e2
      rw [toArr1] at q
      exact q
  obtain ⟨g1, p1, p2, p3, p4, p5, p6, p7⟩ := arr
  have cb := ceq (p7 b hbl.1)
  have n24 : n ≤ 24 := by rcases a4 with z | z <;> omega
  obtain ⟨g2, eg2⟩ : ∃ g2, g2 = wI g1 b 0 (hI g1 b 0 + 1) := ⟨_, rfl⟩
  have q1 : g2.1 = h.1 + 1 := by rw [eg2]; exact p2
  have q2 : g2.2.1 = h.2.1 + n.toNat := by rw [eg2]; exact p3
  have tb1 : hT g1 b = 42 := cb.1.trans tb
  have tb2 : hT g2 b = 42 := by rw [eg2, hT_wI]; exact tb1
  have rb2 : hR g2 b 1 = some db := by rw [eg2, hR_wI]; exact (cb.2.2.2 1).trans rb
  have ib2 : hI g2 b 2 = 0 := by rw [eg2, hI_wI_ne (by omega)]; exact (cb.2.2.1 2).trans ib
  have t2 : hT g2 h.1 = 104 := by rw [eg2, hT_wI]; exact p4
  have l2 : (hL g2 h.1 : Int) = n := by rw [eg2, hL_wI]; exact p5
  have r2 : ∀ k : Nat, (k : Int) < n → hR g2 h.1 k = hR h d k := fun k hk => by rw [eg2, hR_wI]; exact p6 k hk
  have s2 : ∀ c, c < h.1 → c ≠ b → g2.2.2 c = h.2.2 c := fun c c1 c2 => by rw [eg2, hC_wI_ne c2]; exact p7 c c1
  unfold f_J2_addAll
  rw [f_ce a1 (by decide), Option.bind_some, p1, Option.bind_some]
  dsimp only
  rw [f_gI tb1 (by decide), Option.bind_some, f_pI tb1 (by decide), Option.bind_some, ← eg2, f_len t2 (by decide), Option.bind_some, l2, i2_of (a := n) (by omega) (by omega)]
  by_cases c : n = 0
  · rw [if_pos c]
    exact ⟨0, g2, rfl, ⟨tb2, rb2, by rw [ib2, c]⟩, fun z => absurd c z, fun k hk => by omega, fun q w1 w2 _ => s2 q w1 w2, by omega⟩
  · obtain ⟨z1, z2, z3⟩ := hz.resolve_left c
    have cd := ceq (s2 db hbl.2.2 hbl.2.1)
    have td : hT g2 db = 104 := cd.1.trans z1
    have ld : hL g2 db = hL h db := cd.2.1
    rw [if_neg c, f_gR tb2 (by decide), rb2, Option.bind_some, f_len td (by decide), Option.bind_some, f_gI tb2 (by decide), ib2, Option.bind_some, ld, i2_of (a := ((hL h db : Nat) : Int) - 0) (by omega) (by omega), if_neg (by omega)]
    have hcp := f_cp (E := E) (h := g2) (a := h.1) (d := db) (t := 104) (P := ax_refP E g2 oj_104) (sp := 0) (dp := 0) (m := n) t2 td (by decide) (by omega) (by rw [ld]; omega) (by decide) (by decide) n0 (by omega) (by rw [ld]; omega) (by
      intro i hi
      obtain ⟨v, v1, v2, v3, v4⟩ := hel i (by omega)
      have e3 : (hC g2 h.1).2.2.2 ((0 : Int).toNat + i) = some v := by
        show hR g2 h.1 ((0 : Int).toNat + i) = some v
        rw [show (0 : Int).toNat + i = i by omega, r2 i (by omega), v1]
      show ax_okr E g2 oj_104 _ = true
      rw [e3]
      have hTv : hT g2 v = hT h v := by
        rw [eg2, hT_wI]
        exact (ceq (p7 v v4)).1
      simp only [ax_okr, f_rd (show hT g2 v ≠ 999 by rw [hTv]; exact v2)]
      show oj_104 (hT g2 v) = true
      rw [hTv]
      exact v3)
    unfold f_J2_addAll_56
    rw [hcp, Option.bind_some, f_pI (by rw [hT_cp]; exact tb2) (by decide), Option.bind_some]
    refine ⟨1, _, rfl, ⟨by rw [hT_wI, hT_cp]; exact tb2, by rw [hR_wI, hR_cp_ne (by omega)]; exact rb2, by rw [hI_wI_eq]; omega⟩, fun _ => ⟨by rw [hT_wI, hT_cp]; exact cd.1, by rw [hL_wI, hL_cp]; exact ld⟩, fun k hk => ?_, fun q w1 w2 w3 => ?_, ?_⟩
    · rw [hR_wI, hR_cp, if_pos ⟨rfl, by omega, by omega⟩, ← r2 k hk]
      congr 1
      omega
    · rw [hC_wI_ne w2, hC_cp_ne (by omega)]
      exact s2 q w1 w2
    · show h.1 ≤ g2.1 ∧ g2.1 ≤ h.1 + 1 ∧ h.2.1 ≤ g2.2.1 ∧ g2.2.1 ≤ h.2.1 + 24
      omega
end
