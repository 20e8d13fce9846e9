/-! A new street; a street copied -/
set_option maxRecDepth 100000
def nl (Z : Nat) (h : ax_H) : ax_H := wR (wI (nwH h 42 0 3) h.1 0 0) h.1 1 (some Z)
/-- one more cell, of which the street s knows -/
def lw (Z : Nat) (g : ax_H) (s i : Nat) : ax_H := wR (nl Z g) s i (some g.1)
def aw (g : ax_H) (s i : Nat) : ax_H := wR (nwH g 100 7 7) s i (some g.1)
def bw (g : ax_H) (s i : Nat) : ax_H := wR (newB g) s i (some g.1)
theorem lw_ne {Z : Nat} {g : ax_H} {s i c : Nat} (h1 : c < g.1) (h2 : c ≠ s) : (lw Z g s i).2.2 c = g.2.2 c := by
  unfold lw nl
  rw [hC_wR_ne h2, hC_wR_ne (by omega), hC_wI_ne (by omega), hC_nw_ne (by omega)]
theorem aw_ne {g : ax_H} {s i c : Nat} (h1 : c < g.1) (h2 : c ≠ s) : (aw g s i).2.2 c = g.2.2 c := by
  unfold aw
  rw [hC_wR_ne h2, hC_nw_ne (by omega)]
theorem bw_ne {g : ax_H} {s i c : Nat} (h1 : c < g.1) (h2 : c ≠ s) : (bw g s i).2.2 c = g.2.2 c := by
  unfold bw
  rw [hC_wR_ne h2, newB_ext.2.2 c h1]
/-- the street's own cell then -/
theorem lw_s {Z : Nat} {g : ax_H} {s i : Nat} (h1 : s < g.1) : hT (lw Z g s i) s = hT g s ∧ (∀ k, hI (lw Z g s i) s k = hI g s k) ∧ ∀ k, hR (lw Z g s i) s k = if k = i then some g.1 else hR g s k := by
  unfold lw nl
  refine ⟨by rw [hT_wR, hT_wR, hT_wI, hT_nw_ne (by omega)], fun k => by rw [hI_wR, hI_wR, hI_wI_ne (by omega), hI_nw_ne (by omega)], fun k => ?_⟩
  rw [hR_wR]
  by_cases c : k = i
  · rw [if_pos ⟨rfl, c⟩, if_pos c]
  · rw [if_neg (fun z => c z.2), if_neg c, hR_wR_ne (by omega), hR_wI, hR_nw_ne (by omega)]
theorem aw_s {g : ax_H} {s i : Nat} (h1 : s < g.1) : hT (aw g s i) s = hT g s ∧ (∀ k, hI (aw g s i) s k = hI g s k) ∧ ∀ k, hR (aw g s i) s k = if k = i then some g.1 else hR g s k := by
  unfold aw
  refine ⟨by rw [hT_wR, hT_nw_ne (by omega)], fun k => by rw [hI_wR, hI_nw_ne (by omega)], fun k => ?_⟩
  rw [hR_wR]
  by_cases c : k = i
  · rw [if_pos ⟨rfl, c⟩, if_pos c]
  · rw [if_neg (fun z => c z.2), if_neg c, hR_nw_ne (by omega)]
theorem bw_s {g : ax_H} {s i : Nat} (h1 : s < g.1) : hT (bw g s i) s = hT g s ∧ (∀ k, hI (bw g s i) s k = hI g s k) ∧ ∀ k, hR (bw g s i) s k = if k = i then some g.1 else hR g s k := by
  have e := hC_eq ((newB_ext (h := g)).2.2 s h1)
  unfold bw
  refine ⟨?_, fun k => ?_, fun k => ?_⟩
  · rw [hT_wR]; unfold hT; rw [e]
  · rw [hI_wR]; unfold hI; rw [e]
  · rw [hR_wR]
    by_cases c : k = i
    · rw [if_pos ⟨rfl, c⟩, if_pos c]
    · rw [if_neg (fun z => c z.2), if_neg c]; unfold hR; rw [e]
theorem lw_new {Z : Nat} {g : ax_H} {s i : Nat} (h1 : s < g.1) : hT (lw Z g s i) g.1 = 42 ∧ hR (lw Z g s i) g.1 1 = some Z ∧ hI (lw Z g s i) g.1 2 = 0 := by
  unfold lw nl
  refine ⟨by rw [hT_wR, hT_wR, hT_wI]; exact hT_nw_eq, by rw [hR_wR_ne (by omega), hR_wR_eq], by rw [hI_wR, hI_wR, hI_wI_ne (by omega)]; exact hI_nw_eq⟩
theorem aw_new {g : ax_H} {s i : Nat} (h1 : s < g.1) : hT (aw g s i) g.1 = 100 ∧ hL (aw g s i) g.1 = 7 ∧ ∀ k, hI (aw g s i) g.1 k = 0 := by
  unfold aw
  exact ⟨by rw [hT_wR]; exact hT_nw_eq, by rw [hL_wR]; exact hL_nw_eq, fun k => by rw [hI_wR]; exact hI_nw_eq⟩
theorem bw_new {g : ax_H} {s i : Nat} (h1 : s < g.1) : BK (bw g s i) g.1 (fun _ => 0) := by
  unfold bw
  exact newB_BK.fr (fun a h1 h2 => hC_wR_ne (by omega))
def stH (Z : Nat) (h : ax_H) : ax_H := wI (aw (aw (bw (lw Z (lw Z (lw Z (nwH h 1 0 9) h.1 0) h.1 1) h.1 2) h.1 3) h.1 4) h.1 5) h.1 8 (-1)
/-- a street as it is at first -/
def St0 (Z : Nat) (g : ax_H) (s : Nat) : Prop := (hT g s = 1 ∧ hR g s 0 = some (s + 1) ∧ hR g s 1 = some (s + 2) ∧ hR g s 2 = some (s + 3) ∧ hR g s 3 = some (s + 4) ∧ hR g s 4 = some (s + 10) ∧ hR g s 5 = some (s + 11)) ∧ (hI g s 6 = 0 ∧ hI g s 7 = 0 ∧ hI g s 8 = -1) ∧ (∀ i, i < 3 → hT g (s + 1 + i) = 42 ∧ hR g (s + 1 + i) 1 = some Z ∧ hI g (s + 1 + i) 2 = 0) ∧ BK g (s + 4) (fun _ => 0) ∧ (hT g (s + 10) = 100 ∧ hL g (s + 10) = 7 ∧ ∀ k, hI g (s + 10) k = 0) ∧ (hT g (s + 11) = 100 ∧ hL g (s + 11) = 7 ∧ ∀ k, hI g (s + 11) k = 0)
theorem stH_0 {Z : Nat} {h : ax_H} : (stH Z h).1 = h.1 + 12 ∧ (stH Z h).2.1 = h.2.1 + 114 ∧ (∀ c, c < h.1 → (stH Z h).2.2 c = h.2.2 c) ∧ St0 Z (stH Z h) h.1 := by
  obtain ⟨g0, e0⟩ : ∃ g, g = nwH h 1 0 9 := ⟨_, rfl⟩
  obtain ⟨g1, e1⟩ : ∃ g, g = lw Z g0 h.1 0 := ⟨_, rfl⟩
  obtain ⟨g2, e2⟩ : ∃ g, g = lw Z g1 h.1 1 := ⟨_, rfl⟩
  obtain ⟨g3, e3⟩ : ∃ g, g = lw Z g2 h.1 2 := ⟨_, rfl⟩
  obtain ⟨g4, e4⟩ : ∃ g, g = bw g3 h.1 3 := ⟨_, rfl⟩
  obtain ⟨g5, e5⟩ : ∃ g, g = aw g4 h.1 4 := ⟨_, rfl⟩
  obtain ⟨g6, e6⟩ : ∃ g, g = aw g5 h.1 5 := ⟨_, rfl⟩
  have eS : stH Z h = wI g6 h.1 8 (-1) := by unfold stH; rw [← e0, ← e1, ← e2, ← e3, ← e4, ← e5, ← e6]
  have n0 : g0.1 = h.1 + 1 := by rw [e0]; rfl
  have n1 : g1.1 = h.1 + 2 := by rw [e1]; show g0.1 + 1 = _; omega
  have n2 : g2.1 = h.1 + 3 := by rw [e2]; show g1.1 + 1 = _; omega
  have n3 : g3.1 = h.1 + 4 := by rw [e3]; show g2.1 + 1 = _; omega
  have n4 : g4.1 = h.1 + 10 := by rw [e4]; show g3.1 + 6 = _; omega
  have n5 : g5.1 = h.1 + 11 := by rw [e5]; show g4.1 + 1 = _; omega
  have n6 : g6.1 = h.1 + 12 := by rw [e6]; show g5.1 + 1 = _; omega
  have m0 : g0.2.1 = h.2.1 + 9 := by rw [e0]; rfl
  have m1 : g1.2.1 = g0.2.1 + 3 := by rw [e1]; rfl
  have m2 : g2.2.1 = g1.2.1 + 3 := by rw [e2]; rfl
  have m3 : g3.2.1 = g2.2.1 + 3 := by rw [e3]; rfl
  have m4 : g4.2.1 = g3.2.1 + 82 := by rw [e4]; exact newB_2
  have m5 : g5.2.1 = g4.2.1 + 7 := by rw [e5]; rfl
  have m6 : g6.2.1 = g5.2.1 + 7 := by rw [e6]; rfl
  have c1 : ∀ c, c < g0.1 → c ≠ h.1 → g1.2.2 c = g0.2.2 c := fun c a b => by rw [e1]; exact lw_ne a b
  have c2 : ∀ c, c < g1.1 → c ≠ h.1 → g2.2.2 c = g1.2.2 c := fun c a b => by rw [e2]; exact lw_ne a b
  have c3 : ∀ c, c < g2.1 → c ≠ h.1 → g3.2.2 c = g2.2.2 c := fun c a b => by rw [e3]; exact lw_ne a b
  have c4 : ∀ c, c < g3.1 → c ≠ h.1 → g4.2.2 c = g3.2.2 c := fun c a b => by rw [e4]; exact bw_ne a b
  have c5 : ∀ c, c < g4.1 → c ≠ h.1 → g5.2.2 c = g4.2.2 c := fun c a b => by rw [e5]; exact aw_ne a b
  have c6 : ∀ c, c < g5.1 → c ≠ h.1 → g6.2.2 c = g5.2.2 c := fun c a b => by rw [e6]; exact aw_ne a b
  have c7 : ∀ c, c ≠ h.1 → (wI g6 h.1 8 (-1)).2.2 c = g6.2.2 c := fun c a => hC_wI_ne a
  obtain ⟨s1, s2, s3⟩ := lw_s (Z := Z) (g := g0) (s := h.1) (i := 0) (by omega)
  obtain ⟨t1, t2, t3⟩ := lw_s (Z := Z) (g := g1) (s := h.1) (i := 1) (by omega)
  obtain ⟨u1', u2, u3⟩ := lw_s (Z := Z) (g := g2) (s := h.1) (i := 2) (by omega)
  obtain ⟨v1, v2, v3⟩ := bw_s (g := g3) (s := h.1) (i := 3) (by omega)
  obtain ⟨w1, w2, w3⟩ := aw_s (g := g4) (s := h.1) (i := 4) (by omega)
  obtain ⟨y1, y2, y3⟩ := aw_s (g := g5) (s := h.1) (i := 5) (by omega)
  rw [← e1] at s1 s2 s3
  rw [← e2] at t1 t2 t3
  rw [← e3] at u1' u2 u3
  rw [← e4] at v1 v2 v3
  rw [← e5] at w1 w2 w3
  rw [← e6] at y1 y2 y3
  have z0 : hT g0 h.1 = 1 := by rw [e0]; exact hT_nw_eq
  have zI : ∀ k, hI g0 h.1 k = 0 := fun k => by rw [e0]; exact hI_nw_eq
  rw [eS]
  refine ⟨n6, by show g6.2.1 = _; omega, fun c hc => ?_, ?_, ?_, ?_, ?_, ?_, ?_⟩
  · rw [c7 c (by omega), c6 c (by omega) (by omega), c5 c (by omega) (by omega), c4 c (by omega) (by omega), c3 c (by omega) (by omega), c2 c (by omega) (by omega), c1 c (by omega) (by omega), e0, hC_nw_ne (by omega)]
  · rw [hT_wI, hR_wI, hR_wI, hR_wI, hR_wI, hR_wI, hR_wI, y1, w1, v1, u1', t1, s1, z0]
    simp only [y3, w3, v3, u3, t3, s3]
    refine ⟨?_, ?_, ?_, ?_, ?_, ?_, ?_⟩ <;> simp (disch := omega) [n0, n1, n2, n3, n4, n5]
  · rw [hI_wI_ne (by omega), hI_wI_ne (by omega), hI_wI_eq, y2, w2, v2, u2, t2, s2, zI, y2, w2, v2, u2, t2, s2, zI]
    exact ⟨rfl, rfl, rfl⟩
  · intro i hi
    have key : ∀ g : ax_H, hC (wI g6 h.1 8 (-1)) (h.1 + 1 + i) = hC g (h.1 + 1 + i) → (hT g (h.1 + 1 + i) = 42 ∧ hR g (h.1 + 1 + i) 1 = some Z ∧ hI g (h.1 + 1 + i) 2 = 0) → hT (wI g6 h.1 8 (-1)) (h.1 + 1 + i) = 42 ∧ hR (wI g6 h.1 8 (-1)) (h.1 + 1 + i) 1 = some Z ∧ hI (wI g6 h.1 8 (-1)) (h.1 + 1 + i) 2 = 0 := by
      intro g e hg
      unfold hT hR hI at *
      rw [e]
      exact hg
    have i3 : i = 0 ∨ i = 1 ∨ i = 2 := by omega
    rcases i3 with rfl | rfl | rfl
    · refine key g1 (hC_eq ?_) ?_
      · rw [c7 _ (by omega), c6 _ (by omega) (by omega), c5 _ (by omega) (by omega), c4 _ (by omega) (by omega), c3 _ (by omega) (by omega), c2 _ (by omega) (by omega)]
      · have := lw_new (Z := Z) (g := g0) (s := h.1) (i := 0) (by omega)
        rw [← e1, n0] at this
        exact this
    · refine key g2 (hC_eq ?_) ?_
      · rw [c7 _ (by omega), c6 _ (by omega) (by omega), c5 _ (by omega) (by omega), c4 _ (by omega) (by omega), c3 _ (by omega) (by omega)]
      · have := lw_new (Z := Z) (g := g1) (s := h.1) (i := 1) (by omega)
        rw [← e2, n1] at this
        exact this
    · refine key g3 (hC_eq ?_) ?_
      · rw [c7 _ (by omega), c6 _ (by omega) (by omega), c5 _ (by omega) (by omega), c4 _ (by omega) (by omega)]
      · have := lw_new (Z := Z) (g := g2) (s := h.1) (i := 2) (by omega)
        rw [← e3, n2] at this
        exact this
  · have := bw_new (g := g3) (s := h.1) (i := 3) (by omega)
    rw [← e4, n3] at this
    exact this.fr (fun a a1 a2 => by rw [c7 _ (by omega), c6 _ (by omega) (by omega), c5 _ (by omega) (by omega)])
  · have := aw_new (g := g4) (s := h.1) (i := 4) (by omega)
    rw [← e5, n4] at this
    have e : hC (wI g6 h.1 8 (-1)) (h.1 + 10) = hC g5 (h.1 + 10) := hC_eq (by rw [c7 _ (by omega), c6 _ (by omega) (by omega)])
    unfold hT hL hI at *
    rw [e]
    exact this
  · have := aw_new (g := g5) (s := h.1) (i := 5) (by omega)
    rw [← e6, n5] at this
    have e : hC (wI g6 h.1 8 (-1)) (h.1 + 11) = hC g6 (h.1 + 11) := hC_eq (c7 _ (by omega))
    unfold hT hL hI at *
    rw [e]
    exact this
theorem c_newStreet {E : ax_E} {h : ax_H} (e1 : h.1 + 12 ≤ E.1.1) (e2 : h.2.1 + 114 ≤ E.1.2) : ax_nw E h 1 0 9 = some (h.1, nwH h 1 0 9) ∧ f_X1_init E (some h.1) (nwH h 1 0 9) = some (stH (E.2.2 0) h) := by
  refine ⟨f_nw (by omega) (by omega), ?_⟩
  have nlF : ∀ g : ax_H, g.1 + 1 ≤ E.1.1 → g.2.1 + 3 ≤ E.1.2 → ax_nw E g 42 0 3 = some (g.1, nwH g 42 0 3) ∧ f_J2_init E (some g.1) (nwH g 42 0 3) = some (nl (E.2.2 0) g) := by
    intro g a b
    refine ⟨f_nw a b, ?_⟩
    unfold f_J2_init f_J1_init f_J0_init ax_cst nl
    rw [Option.bind_some, Option.bind_some, Option.bind_some, Option.bind_some, f_pI hT_nw_eq (by decide), Option.bind_some, Option.bind_some, Option.bind_some, f_pR (by rw [hT_wI]; exact hT_nw_eq) (by decide), Option.bind_some]
  obtain ⟨g0, e0⟩ : ∃ g, g = nwH h 1 0 9 := ⟨_, rfl⟩
  obtain ⟨g1, e1'⟩ : ∃ g, g = lw (E.2.2 0) g0 h.1 0 := ⟨_, rfl⟩
  obtain ⟨g2, e2'⟩ : ∃ g, g = lw (E.2.2 0) g1 h.1 1 := ⟨_, rfl⟩
  obtain ⟨g3, e3⟩ : ∃ g, g = lw (E.2.2 0) g2 h.1 2 := ⟨_, rfl⟩
  obtain ⟨g4, e4⟩ : ∃ g, g = bw g3 h.1 3 := ⟨_, rfl⟩
  obtain ⟨g5, e5⟩ : ∃ g, g = aw g4 h.1 4 := ⟨_, rfl⟩
  obtain ⟨g6, e6⟩ : ∃ g, g = aw g5 h.1 5 := ⟨_, rfl⟩
  have n0 : g0.1 = h.1 + 1 := by rw [e0]; rfl
  have n1 : g1.1 = h.1 + 2 := by rw [e1']; show g0.1 + 1 = _; omega
  have n2 : g2.1 = h.1 + 3 := by rw [e2']; show g1.1 + 1 = _; omega
  have n3 : g3.1 = h.1 + 4 := by rw [e3]; show g2.1 + 1 = _; omega
  have n4 : g4.1 = h.1 + 10 := by rw [e4]; show g3.1 + 6 = _; omega
  have n5 : g5.1 = h.1 + 11 := by rw [e5]; show g4.1 + 1 = _; omega
  have m0 : g0.2.1 = h.2.1 + 9 := by rw [e0]; rfl
  have m1 : g1.2.1 = g0.2.1 + 3 := by rw [e1']; rfl
  have m2 : g2.2.1 = g1.2.1 + 3 := by rw [e2']; rfl
  have m3 : g3.2.1 = g2.2.1 + 3 := by rw [e3]; rfl
  have m4 : g4.2.1 = g3.2.1 + 82 := by rw [e4]; exact newB_2
  have m5 : g5.2.1 = g4.2.1 + 7 := by rw [e5]; rfl
  have z0 : hT g0 h.1 = 1 := by rw [e0]; exact hT_nw_eq
  have s1 := (lw_s (Z := E.2.2 0) (g := g0) (s := h.1) (i := 0) (by omega)).1
  have s2 := (lw_s (Z := E.2.2 0) (g := g1) (s := h.1) (i := 1) (by omega)).1
  have s3 := (lw_s (Z := E.2.2 0) (g := g2) (s := h.1) (i := 2) (by omega)).1
  have s4 := (bw_s (g := g3) (s := h.1) (i := 3) (by omega)).1
  have s5 := (aw_s (g := g4) (s := h.1) (i := 4) (by omega)).1
  have s6 := (aw_s (g := g5) (s := h.1) (i := 5) (by omega)).1
  rw [← e1'] at s1
  rw [← e2'] at s2
  rw [← e3] at s3
  rw [← e4] at s4
  rw [← e5] at s5
  rw [← e6] at s6
  have tn : ∀ g : ax_H, h.1 < g.1 → hT (nl (E.2.2 0) g) h.1 = hT g h.1 := fun g hg => by unfold nl; rw [hT_wR, hT_wI, hT_nw_ne (by omega)]
  have tb : ∀ g : ax_H, h.1 < g.1 → hT (newB g) h.1 = hT g h.1 := fun g hg => by unfold hT; rw [hC_eq (newB_ext.2.2 _ hg)]
  unfold f_X1_init
  rw [← e0, Option.bind_some, (nlF g0 (by omega) (by omega)).1, Option.bind_some]
  dsimp only
  rw [Option.bind_some, (nlF g0 (by omega) (by omega)).2, Option.bind_some, f_pR ((tn g0 (by omega)).trans z0) (by decide), Option.bind_some]
  rw [show wR (nl (E.2.2 0) g0) h.1 0 (some g0.1) = g1 from e1'.symm, (nlF g1 (by omega) (by omega)).1, Option.bind_some]
  dsimp only
  rw [Option.bind_some, (nlF g1 (by omega) (by omega)).2, Option.bind_some, f_pR ((tn g1 (by omega)).trans (s1.trans z0)) (by decide), Option.bind_some]
  rw [show wR (nl (E.2.2 0) g1) h.1 1 (some g1.1) = g2 from e2'.symm, (nlF g2 (by omega) (by omega)).1, Option.bind_some]
  dsimp only
  rw [Option.bind_some, (nlF g2 (by omega) (by omega)).2, Option.bind_some, f_pR ((tn g2 (by omega)).trans (s2.trans (s1.trans z0))) (by decide), Option.bind_some]
  rw [show wR (nl (E.2.2 0) g2) h.1 2 (some g2.1) = g3 from e3.symm]
  obtain ⟨b1, b2⟩ := c_newB (E := E) (h := g3) (by omega) (by omega)
  rw [b1, Option.bind_some]
  dsimp only
  rw [Option.bind_some, b2, Option.bind_some, f_pR ((tb g3 (by omega)).trans (s3.trans (s2.trans (s1.trans z0)))) (by decide), Option.bind_some]
  rw [show wR (newB g3) h.1 3 (some g3.1) = g4 from e4.symm, f_na (i := 7) (by decide) (by decide) (by omega) (by show _ + 7 ≤ _; omega), Option.bind_some]
  dsimp only
  rw [show (7 : Int).toNat = 7 from rfl, f_pR ((hT_nw_ne (by omega)).trans (s4.trans (s3.trans (s2.trans (s1.trans z0))))) (by decide), Option.bind_some]
  rw [show wR (nwH g4 100 7 7) h.1 4 (some g4.1) = g5 from e5.symm, f_na (i := 7) (by decide) (by decide) (by omega) (by show _ + 7 ≤ _; omega), Option.bind_some]
  dsimp only
  rw [show (7 : Int).toNat = 7 from rfl, f_pR ((hT_nw_ne (by omega)).trans (s5.trans (s4.trans (s3.trans (s2.trans (s1.trans z0)))))) (by decide), Option.bind_some]
  rw [show wR (nwH g5 100 7 7) h.1 5 (some g5.1) = g6 from e6.symm, f_pI (s6.trans (s5.trans (s4.trans (s3.trans (s2.trans (s1.trans z0)))))) (by decide), Option.bind_some]
  unfold stH
  rw [← e0, ← e1', ← e2', ← e3, ← e4, ← e5, ← e6]
