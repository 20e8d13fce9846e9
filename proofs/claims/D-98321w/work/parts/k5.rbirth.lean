/-! The component's reader of laws: its birth -/
set_option maxRecDepth 100000
section
variable {E : ax_E} {T : Rw} {N x : Nat} {h g : ax_H}
theorem c_words10 {β : Type} {Kf : ax_H → Option β} {q : Nat} (S : TxtE E x) (lo : ∀ a, a < x → g.2.2 a = none) (hq : x ≤ q) (e : hT g q = 108) (l : hL g q = 10) : ∃ g', ((ax_cst E 10).bind fun v0 => (ax_stR E oj_108 g (some q) 108 0 v0).bind fun h1 => (ax_cst E 11).bind fun v1 => (ax_stR E oj_108 h1 (some q) 108 1 v1).bind fun h2 => (ax_cst E 12).bind fun v2 => (ax_stR E oj_108 h2 (some q) 108 2 v2).bind fun h3 => (ax_cst E 13).bind fun v3 => (ax_stR E oj_108 h3 (some q) 108 3 v3).bind fun h4 => (ax_cst E 14).bind fun v4 => (ax_stR E oj_108 h4 (some q) 108 4 v4).bind fun h5 => (ax_cst E 15).bind fun v5 => (ax_stR E oj_108 h5 (some q) 108 5 v5).bind fun h6 => (ax_cst E 16).bind fun v6 => (ax_stR E oj_108 h6 (some q) 108 6 v6).bind fun h7 => (ax_cst E 17).bind fun v7 => (ax_stR E oj_108 h7 (some q) 108 7 v7).bind fun h8 => (ax_cst E 18).bind fun v8 => (ax_stR E oj_108 h8 (some q) 108 8 v8).bind fun h9 => (ax_cst E 19).bind fun v9 => (ax_stR E oj_108 h9 (some q) 108 9 v9).bind fun h10 => Kf h10) = Kf g' ∧ (hT g' q = 108 ∧ hL g' q = 10 ∧ (∀ k, k < 10 → hR g' q k = some (E.2.2 (10 + (0 + k)))) ∧ ∀ j, hI g' q j = hI g q j) ∧ (∀ a, a ≠ q → g'.2.2 a = g.2.2 a) ∧ g'.1 = g.1 ∧ g'.2.1 = g.2.1 := by
  obtain ⟨w1, f1⟩ : ∃ w, w = wR g q 0 (some (E.2.2 10)) := ⟨_, rfl⟩
  have s1 : ax_stR E oj_108 g (some q) 108 0 (some (E.2.2 10)) = some w1 := by rw [f1]; exact f_stRlo (j := 0) (k := 0) S (by decide) lo e l (by decide)
  have e1 : hT w1 q = 108 := by rw [f1, hT_wR]; exact e
  have l1 : hL w1 q = 10 := by rw [f1, hL_wR]; exact l
  have c1 : ∀ a, a ≠ q → w1.2.2 a = g.2.2 a := fun a ha => by rw [f1, hC_wR_ne ha]
  have lo1 : ∀ a, a < x → w1.2.2 a = none := fun a ha => (c1 a (by omega)).trans (lo a ha)
  obtain ⟨w2, f2⟩ : ∃ w, w = wR w1 q 1 (some (E.2.2 11)) := ⟨_, rfl⟩
  have s2 : ax_stR E oj_108 w1 (some q) 108 1 (some (E.2.2 11)) = some w2 := by rw [f2]; exact f_stRlo (j := 1) (k := 1) S (by decide) lo1 e1 l1 (by decide)
  have e2 : hT w2 q = 108 := by rw [f2, hT_wR]; exact e1
  have l2 : hL w2 q = 10 := by rw [f2, hL_wR]; exact l1
  have c2 : ∀ a, a ≠ q → w2.2.2 a = g.2.2 a := fun a ha => by rw [f2, hC_wR_ne ha]; exact c1 a ha
  have lo2 : ∀ a, a < x → w2.2.2 a = none := fun a ha => (c2 a (by omega)).trans (lo a ha)
  obtain ⟨w3, f3⟩ : ∃ w, w = wR w2 q 2 (some (E.2.2 12)) := ⟨_, rfl⟩
  have s3 : ax_stR E oj_108 w2 (some q) 108 2 (some (E.2.2 12)) = some w3 := by rw [f3]; exact f_stRlo (j := 2) (k := 2) S (by decide) lo2 e2 l2 (by decide)
  have e3 : hT w3 q = 108 := by rw [f3, hT_wR]; exact e2
  have l3 : hL w3 q = 10 := by rw [f3, hL_wR]; exact l2
  have c3 : ∀ a, a ≠ q → w3.2.2 a = g.2.2 a := fun a ha => by rw [f3, hC_wR_ne ha]; exact c2 a ha
  have lo3 : ∀ a, a < x → w3.2.2 a = none := fun a ha => (c3 a (by omega)).trans (lo a ha)
  obtain ⟨w4, f4⟩ : ∃ w, w = wR w3 q 3 (some (E.2.2 13)) := ⟨_, rfl⟩
  have s4 : ax_stR E oj_108 w3 (some q) 108 3 (some (E.2.2 13)) = some w4 := by rw [f4]; exact f_stRlo (j := 3) (k := 3) S (by decide) lo3 e3 l3 (by decide)
  have e4 : hT w4 q = 108 := by rw [f4, hT_wR]; exact e3
  have l4 : hL w4 q = 10 := by rw [f4, hL_wR]; exact l3
  have c4 : ∀ a, a ≠ q → w4.2.2 a = g.2.2 a := fun a ha => by rw [f4, hC_wR_ne ha]; exact c3 a ha
  have lo4 : ∀ a, a < x → w4.2.2 a = none := fun a ha => (c4 a (by omega)).trans (lo a ha)
  obtain ⟨w5, f5⟩ : ∃ w, w = wR w4 q 4 (some (E.2.2 14)) := ⟨_, rfl⟩
  have s5 : ax_stR E oj_108 w4 (some q) 108 4 (some (E.2.2 14)) = some w5 := by rw [f5]; exact f_stRlo (j := 4) (k := 4) S (by decide) lo4 e4 l4 (by decide)
  have e5 : hT w5 q = 108 := by rw [f5, hT_wR]; exact e4
  have l5 : hL w5 q = 10 := by rw [f5, hL_wR]; exact l4
  have c5 : ∀ a, a ≠ q → w5.2.2 a = g.2.2 a := fun a ha => by rw [f5, hC_wR_ne ha]; exact c4 a ha
  have lo5 : ∀ a, a < x → w5.2.2 a = none := fun a ha => (c5 a (by omega)).trans (lo a ha)
  obtain ⟨w6, f6⟩ : ∃ w, w = wR w5 q 5 (some (E.2.2 15)) := ⟨_, rfl⟩
  have s6 : ax_stR E oj_108 w5 (some q) 108 5 (some (E.2.2 15)) = some w6 := by rw [f6]; exact f_stRlo (j := 5) (k := 5) S (by decide) lo5 e5 l5 (by decide)
  have e6 : hT w6 q = 108 := by rw [f6, hT_wR]; exact e5
  have l6 : hL w6 q = 10 := by rw [f6, hL_wR]; exact l5
  have c6 : ∀ a, a ≠ q → w6.2.2 a = g.2.2 a := fun a ha => by rw [f6, hC_wR_ne ha]; exact c5 a ha
  have lo6 : ∀ a, a < x → w6.2.2 a = none := fun a ha => (c6 a (by omega)).trans (lo a ha)
  obtain ⟨w7, f7⟩ : ∃ w, w = wR w6 q 6 (some (E.2.2 16)) := ⟨_, rfl⟩
  have s7 : ax_stR E oj_108 w6 (some q) 108 6 (some (E.2.2 16)) = some w7 := by rw [f7]; exact f_stRlo (j := 6) (k := 6) S (by decide) lo6 e6 l6 (by decide)
  have e7 : hT w7 q = 108 := by rw [f7, hT_wR]; exact e6
  have l7 : hL w7 q = 10 := by rw [f7, hL_wR]; exact l6
  have c7 : ∀ a, a ≠ q → w7.2.2 a = g.2.2 a := fun a ha => by rw [f7, hC_wR_ne ha]; exact c6 a ha
  have lo7 : ∀ a, a < x → w7.2.2 a = none := fun a ha => (c7 a (by omega)).trans (lo a ha)
  obtain ⟨w8, f8⟩ : ∃ w, w = wR w7 q 7 (some (E.2.2 17)) := ⟨_, rfl⟩
  have s8 : ax_stR E oj_108 w7 (some q) 108 7 (some (E.2.2 17)) = some w8 := by rw [f8]; exact f_stRlo (j := 7) (k := 7) S (by decide) lo7 e7 l7 (by decide)
  have e8 : hT w8 q = 108 := by rw [f8, hT_wR]; exact e7
  have l8 : hL w8 q = 10 := by rw [f8, hL_wR]; exact l7
  have c8 : ∀ a, a ≠ q → w8.2.2 a = g.2.2 a := fun a ha => by rw [f8, hC_wR_ne ha]; exact c7 a ha
  have lo8 : ∀ a, a < x → w8.2.2 a = none := fun a ha => (c8 a (by omega)).trans (lo a ha)
  obtain ⟨w9, f9⟩ : ∃ w, w = wR w8 q 8 (some (E.2.2 18)) := ⟨_, rfl⟩
  have s9 : ax_stR E oj_108 w8 (some q) 108 8 (some (E.2.2 18)) = some w9 := by rw [f9]; exact f_stRlo (j := 8) (k := 8) S (by decide) lo8 e8 l8 (by decide)
  have e9 : hT w9 q = 108 := by rw [f9, hT_wR]; exact e8
  have l9 : hL w9 q = 10 := by rw [f9, hL_wR]; exact l8
  have c9 : ∀ a, a ≠ q → w9.2.2 a = g.2.2 a := fun a ha => by rw [f9, hC_wR_ne ha]; exact c8 a ha
  have lo9 : ∀ a, a < x → w9.2.2 a = none := fun a ha => (c9 a (by omega)).trans (lo a ha)
  obtain ⟨w10, f10⟩ : ∃ w, w = wR w9 q 9 (some (E.2.2 19)) := ⟨_, rfl⟩
  have s10 : ax_stR E oj_108 w9 (some q) 108 9 (some (E.2.2 19)) = some w10 := by rw [f10]; exact f_stRlo (j := 9) (k := 9) S (by decide) lo9 e9 l9 (by decide)
  have e10 : hT w10 q = 108 := by rw [f10, hT_wR]; exact e9
  have l10 : hL w10 q = 10 := by rw [f10, hL_wR]; exact l9
  have c10 : ∀ a, a ≠ q → w10.2.2 a = g.2.2 a := fun a ha => by rw [f10, hC_wR_ne ha]; exact c9 a ha
  have lo10 : ∀ a, a < x → w10.2.2 a = none := fun a ha => (c10 a (by omega)).trans (lo a ha)
  refine ⟨w10, ?_, ⟨e10, l10, ?_, ?_⟩, c10, ?_, ?_⟩
  · unfold ax_cst
    rw [Option.bind_some, s1, Option.bind_some, Option.bind_some, s2, Option.bind_some, Option.bind_some, s3, Option.bind_some, Option.bind_some, s4, Option.bind_some, Option.bind_some, s5, Option.bind_some, Option.bind_some, s6, Option.bind_some, Option.bind_some, s7, Option.bind_some, Option.bind_some, s8, Option.bind_some, Option.bind_some, s9, Option.bind_some, Option.bind_some, s10, Option.bind_some]
  · intro k hk
    have : k = 0 ∨ k = 1 ∨ k = 2 ∨ k = 3 ∨ k = 4 ∨ k = 5 ∨ k = 6 ∨ k = 7 ∨ k = 8 ∨ k = 9 := by omega
    rcases this with z | z | z | z | z | z | z | z | z | z <;> subst z <;> rw [f10, f9, f8, f7, f6, f5, f4, f3, f2, f1] <;> simp [hR_wR]
  · intro j
    rw [f10, hI_wR, f9, hI_wR, f8, hI_wR, f7, hI_wR, f6, hI_wR, f5, hI_wR, f4, hI_wR, f3, hI_wR, f2, hI_wR, f1, hI_wR]
  · rw [f10, f9, f8, f7, f6, f5, f4, f3, f2, f1]; rfl
  · rw [f10, f9, f8, f7, f6, f5, f4, f3, f2, f1]; rfl
theorem c_words4 {β : Type} {Kf : ax_H → Option β} {q : Nat} (S : TxtE E x) (lo : ∀ a, a < x → g.2.2 a = none) (hq : x ≤ q) (e : hT g q = 108) (l : hL g q = 4) : ∃ g', ((ax_cst E 20).bind fun v0 => (ax_stR E oj_108 g (some q) 108 0 v0).bind fun h1 => (ax_cst E 21).bind fun v1 => (ax_stR E oj_108 h1 (some q) 108 1 v1).bind fun h2 => (ax_cst E 22).bind fun v2 => (ax_stR E oj_108 h2 (some q) 108 2 v2).bind fun h3 => (ax_cst E 23).bind fun v3 => (ax_stR E oj_108 h3 (some q) 108 3 v3).bind fun h4 => Kf h4) = Kf g' ∧ (hT g' q = 108 ∧ hL g' q = 4 ∧ (∀ k, k < 4 → hR g' q k = some (E.2.2 (10 + (10 + k)))) ∧ ∀ j, hI g' q j = hI g q j) ∧ (∀ a, a ≠ q → g'.2.2 a = g.2.2 a) ∧ g'.1 = g.1 ∧ g'.2.1 = g.2.1 := by
  obtain ⟨w1, f1⟩ : ∃ w, w = wR g q 0 (some (E.2.2 20)) := ⟨_, rfl⟩
  have s1 : ax_stR E oj_108 g (some q) 108 0 (some (E.2.2 20)) = some w1 := by rw [f1]; exact f_stRlo (j := 10) (k := 0) S (by decide) lo e l (by decide)
  have e1 : hT w1 q = 108 := by rw [f1, hT_wR]; exact e
  have l1 : hL w1 q = 4 := by rw [f1, hL_wR]; exact l
  have c1 : ∀ a, a ≠ q → w1.2.2 a = g.2.2 a := fun a ha => by rw [f1, hC_wR_ne ha]
  have lo1 : ∀ a, a < x → w1.2.2 a = none := fun a ha => (c1 a (by omega)).trans (lo a ha)
  obtain ⟨w2, f2⟩ : ∃ w, w = wR w1 q 1 (some (E.2.2 21)) := ⟨_, rfl⟩
  have s2 : ax_stR E oj_108 w1 (some q) 108 1 (some (E.2.2 21)) = some w2 := by rw [f2]; exact f_stRlo (j := 11) (k := 1) S (by decide) lo1 e1 l1 (by decide)
  have e2 : hT w2 q = 108 := by rw [f2, hT_wR]; exact e1
  have l2 : hL w2 q = 4 := by rw [f2, hL_wR]; exact l1
  have c2 : ∀ a, a ≠ q → w2.2.2 a = g.2.2 a := fun a ha => by rw [f2, hC_wR_ne ha]; exact c1 a ha
  have lo2 : ∀ a, a < x → w2.2.2 a = none := fun a ha => (c2 a (by omega)).trans (lo a ha)
  obtain ⟨w3, f3⟩ : ∃ w, w = wR w2 q 2 (some (E.2.2 22)) := ⟨_, rfl⟩
  have s3 : ax_stR E oj_108 w2 (some q) 108 2 (some (E.2.2 22)) = some w3 := by rw [f3]; exact f_stRlo (j := 12) (k := 2) S (by decide) lo2 e2 l2 (by decide)
  have e3 : hT w3 q = 108 := by rw [f3, hT_wR]; exact e2
  have l3 : hL w3 q = 4 := by rw [f3, hL_wR]; exact l2
  have c3 : ∀ a, a ≠ q → w3.2.2 a = g.2.2 a := fun a ha => by rw [f3, hC_wR_ne ha]; exact c2 a ha
  have lo3 : ∀ a, a < x → w3.2.2 a = none := fun a ha => (c3 a (by omega)).trans (lo a ha)
  obtain ⟨w4, f4⟩ : ∃ w, w = wR w3 q 3 (some (E.2.2 23)) := ⟨_, rfl⟩
  have s4 : ax_stR E oj_108 w3 (some q) 108 3 (some (E.2.2 23)) = some w4 := by rw [f4]; exact f_stRlo (j := 13) (k := 3) S (by decide) lo3 e3 l3 (by decide)
  have e4 : hT w4 q = 108 := by rw [f4, hT_wR]; exact e3
  have l4 : hL w4 q = 4 := by rw [f4, hL_wR]; exact l3
  have c4 : ∀ a, a ≠ q → w4.2.2 a = g.2.2 a := fun a ha => by rw [f4, hC_wR_ne ha]; exact c3 a ha
  have lo4 : ∀ a, a < x → w4.2.2 a = none := fun a ha => (c4 a (by omega)).trans (lo a ha)
  refine ⟨w4, ?_, ⟨e4, l4, ?_, ?_⟩, c4, ?_, ?_⟩
  · unfold ax_cst
    rw [Option.bind_some, s1, Option.bind_some, Option.bind_some, s2, Option.bind_some, Option.bind_some, s3, Option.bind_some, Option.bind_some, s4, Option.bind_some]
  · intro k hk
    have : k = 0 ∨ k = 1 ∨ k = 2 ∨ k = 3 := by omega
    rcases this with z | z | z | z <;> subst z <;> rw [f4, f3, f2, f1] <;> simp [hR_wR]
  · intro j
    rw [f4, hI_wR, f3, hI_wR, f2, hI_wR, f1, hI_wR]
  · rw [f4, f3, f2, f1]; rfl
  · rw [f4, f3, f2, f1]; rfl
/-- a reader of laws is born -/
theorem c_birth7 (hx : x + 116 ≤ h.1) (lo : ∀ a, a < x → h.2.2 a = none) (S : TxtE E x) (X : hT h x = 0 ∧ hR h x 11 = some (x + 22) ∧ hI h x 12 = N) (Y : hT h (x + 22) = 101 ∧ hL h (x + 22) = 400 ∧ ∀ k : Nat, k < N → hI h (x + 22) k = T k) (Z : N ≤ 400 ∧ ∀ k : Int, 0 ≤ k → k < 400 → -128 ≤ T k ∧ T k ≤ 127) (r1 : h.1 + 5 ≤ E.1.1) (r2 : h.2.1 + 87 ≤ E.1.2) : ∃ g, f_X7_init E (some h.1) (some x) (nwH h 7 0 11) = some g ∧ RdG E T N x h.1 (h.1 + 2) (h.1 + 1) 7 0 0 0 0 0 g ∧ RdK E h.1 (h.1 + 2) (h.1 + 1) g ∧ (∀ a, a < h.1 → g.2.2 a = h.2.2 a) ∧ g.1 = h.1 + 5 ∧ g.2.1 = h.2.1 + 87 := by
  obtain ⟨i, ei⟩ : ∃ i, i = h.1 := ⟨_, rfl⟩
  rw [← ei] at hx r1 ⊢
  -- the object
  obtain ⟨a1, d1⟩ : ∃ a, a = wR (nwH h 7 0 11) i 10 (some x) := ⟨_, rfl⟩
  have t1 : hT a1 i = 7 := by rw [d1, hT_wR, ei]; exact hT_nw_eq
  have j1 : ∀ k, hI a1 i k = 0 := fun k => by rw [d1, hI_wR, ei]; exact hI_nw_eq
  have s1 : a1.1 = i + 1 ∧ a1.2.1 = h.2.1 + 11 := by rw [d1, ei]; exact ⟨rfl, rfl⟩
  have c1 : ∀ a, a ≠ i → a1.2.2 a = h.2.2 a := fun a ha => by rw [d1, hC_wR_ne ha]; exact hC_nw_ne (by omega)
  have p1 : ax_pR (nwH h 7 0 11) (some i) 7 10 (some x) = some a1 := by rw [d1]; exact f_pR (by rw [ei]; exact hT_nw_eq) (by decide)
  -- its words
  obtain ⟨a2, d2⟩ : ∃ a, a = nwH a1 108 10 10 := ⟨_, rfl⟩
  have n2 : ax_na E a1 108 10 = some (i + 1, a2) := by rw [d2, ← s1.1]; exact f_na (i := 10) (by decide) (by decide) (by omega) (by omega)
  have t2 : hT a2 (i + 1) = 108 ∧ hL a2 (i + 1) = 10 := by rw [d2, ← s1.1]; exact ⟨hT_nw_eq, hL_nw_eq⟩
  have s2 : a2.1 = i + 2 ∧ a2.2.1 = h.2.1 + 21 := by rw [d2, nw_1, nw_2, s1.1, s1.2]; exact ⟨rfl, rfl⟩
  have c2 : ∀ a, a ≠ i + 1 → a2.2.2 a = a1.2.2 a := fun a ha => by rw [d2]; exact hC_nw_ne (by omega)
  have lo2 : ∀ a, a < x → a2.2.2 a = none := fun a ha => (c2 a (by omega)).trans ((c1 a (by omega)).trans (lo a ha))
  obtain ⟨a3, m3, ⟨t3, l3, q3, -⟩, c3, s3, s3'⟩ := c_words10 (g := a2) (q := i + 1) (Kf := fun h22 => (some i).bind fun _ => (f_X6_init E (some i) (some x) (some (i + 1)) h22).bind fun h23 => (ax_na E h23 106 12).bind fun q24 => (ax_pR q24.2 (some i) 7 8 (some q24.1)).bind fun h25 => (ax_na E h25 108 4).bind fun q26 => (ax_cst E 20).bind fun v27 => (ax_stR E oj_108 q26.2 (some q26.1) 108 0 v27).bind fun h28 => (ax_cst E 21).bind fun v29 => (ax_stR E oj_108 h28 (some q26.1) 108 1 v29).bind fun h30 => (ax_cst E 22).bind fun v31 => (ax_stR E oj_108 h30 (some q26.1) 108 2 v31).bind fun h32 => (ax_cst E 23).bind fun v33 => (ax_stR E oj_108 h32 (some q26.1) 108 3 v33).bind fun h34 => (ax_pR h34 (some i) 7 9 (some q26.1)).bind fun h35 => some h35) S lo2 (by omega) t2.1 t2.2
  have o3 := ceq ((c3 i (by omega)).trans (c2 i (by omega)))
  -- the pile
  obtain ⟨a4, d4⟩ : ∃ a, a = wR a3 i 7 (some x) := ⟨_, rfl⟩
  have t4 : hT a4 i = 7 := by rw [d4, hT_wR]; exact o3.1.trans t1
  have s4 : a4.1 = i + 2 ∧ a4.2.1 = h.2.1 + 21 := by rw [d4, wR_1, wR_2, s3, s3']; exact s2
  have c4 : ∀ a, a ≠ i → a4.2.2 a = a3.2.2 a := fun a ha => by rw [d4]; exact hC_wR_ne ha
  obtain ⟨a5, d5⟩ : ∃ a, a = nwH a4 109 50 50 := ⟨_, rfl⟩
  have n5 : ax_na E a4 109 50 = some (i + 2, a5) := by rw [d5, ← s4.1]; exact f_na (i := 50) (by decide) (by decide) (by omega) (by omega)
  have t5 : hT a5 (i + 2) = 109 ∧ hL a5 (i + 2) = 50 := by rw [d5, ← s4.1]; exact ⟨hT_nw_eq, hL_nw_eq⟩
  have s5 : a5.1 = i + 3 ∧ a5.2.1 = h.2.1 + 71 := by rw [d5, nw_1, nw_2, s4.1, s4.2]; exact ⟨rfl, rfl⟩
  have c5 : ∀ a, a ≠ i + 2 → a5.2.2 a = a4.2.2 a := fun a ha => by rw [d5]; exact hC_nw_ne (by omega)
  have o5 := ceq (c5 i (by omega))
  obtain ⟨a6, d6⟩ : ∃ a, a = wR a5 i 5 (some (i + 2)) := ⟨_, rfl⟩
  have t6 : hT a6 i = 7 := by rw [d6, hT_wR]; exact o5.1.trans t4
  obtain ⟨a7, d7⟩ : ∃ a, a = wR a6 i 6 (some (i + 1)) := ⟨_, rfl⟩
  have t7 : hT a7 i = 7 := by rw [d7, hT_wR]; exact t6
  have s7 : a7.1 = i + 3 ∧ a7.2.1 = h.2.1 + 71 := by rw [d7, d6]; exact s5
  have c7 : ∀ a, a ≠ i → a7.2.2 a = a5.2.2 a := fun a ha => by rw [d7, hC_wR_ne ha, d6, hC_wR_ne ha]
  have n7 : f_X6_init E (some i) (some x) (some (i + 1)) a3 = some a7 := by
    unfold f_X6_init
    rw [f_pRs (o3.1.trans t1) (by decide) (show ([(25, 7), (7, 7)] : List (Nat × Nat)).lookup 7 = some 7 from rfl), Option.bind_some, ← d4, Option.bind_some, n5, Option.bind_some]
    dsimp only
    rw [f_pRs (o5.1.trans t4) (by decide) (show ([(25, 5), (7, 5)] : List (Nat × Nat)).lookup 7 = some 5 from rfl), Option.bind_some, ← d6, f_pRs t6 (by decide) (show ([(25, 6), (7, 6)] : List (Nat × Nat)).lookup 7 = some 6 from rfl), Option.bind_some, ← d7]
  -- the row
  obtain ⟨a8, d8⟩ : ∃ a, a = nwH a7 106 12 12 := ⟨_, rfl⟩
  have n8 : ax_na E a7 106 12 = some (i + 3, a8) := by rw [d8, ← s7.1]; exact f_na (i := 12) (by decide) (by decide) (by omega) (by omega)
  have t8 : hT a8 (i + 3) = 106 ∧ hL a8 (i + 3) = 12 := by rw [d8, ← s7.1]; exact ⟨hT_nw_eq, hL_nw_eq⟩
  have s8 : a8.1 = i + 4 ∧ a8.2.1 = h.2.1 + 83 := by rw [d8, nw_1, nw_2, s7.1, s7.2]; exact ⟨rfl, rfl⟩
  have c8 : ∀ a, a ≠ i + 3 → a8.2.2 a = a7.2.2 a := fun a ha => by rw [d8]; exact hC_nw_ne (by omega)
  have o8 := ceq (c8 i (by omega))
  obtain ⟨a9, d9⟩ : ∃ a, a = wR a8 i 8 (some (i + 3)) := ⟨_, rfl⟩
  have t9 : hT a9 i = 7 := by rw [d9, hT_wR]; exact o8.1.trans t7
  have s9 : a9.1 = i + 4 ∧ a9.2.1 = h.2.1 + 83 := by rw [d9]; exact s8
  have c9 : ∀ a, a ≠ i → a9.2.2 a = a8.2.2 a := fun a ha => by rw [d9]; exact hC_wR_ne ha
  -- the heads
  obtain ⟨b0, f0⟩ : ∃ a, a = nwH a9 108 4 4 := ⟨_, rfl⟩
  have n0 : ax_na E a9 108 4 = some (i + 4, b0) := by rw [f0, ← s9.1]; exact f_na (i := 4) (by decide) (by decide) (by omega) (by omega)
  have u0 : hT b0 (i + 4) = 108 ∧ hL b0 (i + 4) = 4 := by rw [f0, ← s9.1]; exact ⟨hT_nw_eq, hL_nw_eq⟩
  have y0 : b0.1 = i + 5 ∧ b0.2.1 = h.2.1 + 87 := by rw [f0, nw_1, nw_2, s9.1, s9.2]; exact ⟨rfl, rfl⟩
  have z0 : ∀ a, a ≠ i + 4 → b0.2.2 a = a9.2.2 a := fun a ha => by rw [f0]; exact hC_nw_ne (by omega)
  have low : ∀ a, a < i → b0.2.2 a = h.2.2 a := fun a ha => by rw [z0 a (by omega), c9 a (by omega), c8 a (by omega), c7 a (by omega), c5 a (by omega), c4 a (by omega), c3 a (by omega), c2 a (by omega), c1 a (by omega)]
  obtain ⟨b1, m1, ⟨v1, v2, v3, -⟩, z1, y1, y1'⟩ := c_words4 (g := b0) (q := i + 4) (Kf := fun h34 => (ax_pR h34 (some i) 7 9 (some (i + 4))).bind fun h35 => some h35) S (fun a ha => (low a (by omega)).trans (lo a ha)) (by omega) u0.1 u0.2
  have ob := ceq ((z1 i (by omega)).trans (z0 i (by omega)))
  obtain ⟨b2, f2⟩ : ∃ a, a = wR b1 i 9 (some (i + 4)) := ⟨_, rfl⟩
  have z2 : ∀ a, a ≠ i → b2.2.2 a = b1.2.2 a := fun a ha => by rw [f2]; exact hC_wR_ne ha
  have low2 : ∀ a, a < i → b2.2.2 a = h.2.2 a := fun a ha => by rw [z2 a (by omega), z1 a (by omega)]; exact low a ha
  have y2 : b2.1 = i + 5 ∧ b2.2.1 = h.2.1 + 87 := by rw [f2, wR_1, wR_2, y1, y1']; exact y0
  have ex := ceq (low2 x (by omega))
  have et := ceq (low2 (x + 22) (by omega))
  have ew := ceq (show b2.2.2 (i + 1) = a3.2.2 (i + 1) by rw [z2 _ (by omega), z1 _ (by omega), z0 _ (by omega), c9 _ (by omega), c8 _ (by omega), c7 _ (by omega), c5 _ (by omega), c4 _ (by omega)])
  have ep := ceq (show b2.2.2 (i + 2) = a5.2.2 (i + 2) by rw [z2 _ (by omega), z1 _ (by omega), z0 _ (by omega), c9 _ (by omega), c8 _ (by omega), c7 _ (by omega)])
  have er := ceq (show b2.2.2 (i + 3) = a8.2.2 (i + 3) by rw [z2 _ (by omega), z1 _ (by omega), z0 _ (by omega), c9 _ (by omega)])
  have eh := ceq (show b2.2.2 (i + 4) = b1.2.2 (i + 4) from z2 _ (by omega))
  have iI : ∀ k, hI b2 i k = 0 := fun k => by rw [f2, hI_wR, ob.2.2.1, d9, hI_wR, o8.2.2.1, d7, hI_wR, d6, hI_wR, o5.2.2.1, d4, hI_wR, o3.2.2.1]; exact j1 k
  have iT : hT b2 i = 7 := by rw [f2, hT_wR, ob.1]; exact t9
  have r9 : hR b2 i 9 = some (i + 4) := by rw [f2]; exact hR_wR_eq
  have r8 : hR b2 i 8 = some (i + 3) := by rw [f2, hR_wR_ne (by omega), ob.2.2.2, d9]; exact hR_wR_eq
  have up : ∀ k, k ≠ 9 → k ≠ 8 → hR b2 i k = hR a7 i k := fun k k1 k2 => by rw [f2, hR_wR_ne (by omega), ob.2.2.2, d9, hR_wR_ne (by omega), o8.2.2.2]
  have r6 : hR b2 i 6 = some (i + 1) := by rw [up 6 (by decide) (by decide), d7]; exact hR_wR_eq
  have r5 : hR b2 i 5 = some (i + 2) := by rw [up 5 (by decide) (by decide), d7, hR_wR_ne (by omega), d6]; exact hR_wR_eq
  have r7 : hR b2 i 7 = some x := by rw [up 7 (by decide) (by decide), d7, hR_wR_ne (by omega), d6, hR_wR_ne (by omega), o5.2.2.2, d4]; exact hR_wR_eq
  refine ⟨b2, ?_, ⟨⟨Or.inl rfl, ⟨by omega, by omega, by omega, by omega, by omega, by omega, by omega, by omega, by omega⟩, fun a ha => (low2 a (by omega)).trans (lo a ha), ⟨ex.1.trans X.1, (ex.2.2.2 11).trans X.2.1, (ex.2.2.1 12).trans X.2.2⟩, ⟨et.1.trans Y.1, et.2.1.trans Y.2.1, fun k hk => (et.2.2.1 k).trans (Y.2.2 k hk)⟩, Z, S, ⟨ep.1.trans t5.1, ep.2.1.trans t5.2⟩, ⟨ew.1.trans t3, ew.2.1.trans l3, fun k hk => (ew.2.2.2 k).trans (q3 k hk)⟩, ⟨iT, r5, r6, r7, fun h => absurd h (by decide), r8, fun _ => r9⟩⟩, iI 0, iI 1, iI 2, iI 3, iI 4⟩, ⟨⟨rfl, rfl, by omega⟩, ⟨er.1.trans t8.1, er.2.1.trans t8.2⟩, eh.1.trans v1, eh.2.1.trans v2, fun k hk => (eh.2.2.2 k).trans (v3 k hk)⟩, low2, y2.1, y2.2⟩
  unfold f_X7_init
  rw [p1, Option.bind_some, n2, Option.bind_some]
  dsimp only
  refine m3.trans ?_
  rw [Option.bind_some, n7, Option.bind_some, n8, Option.bind_some]
  dsimp only
  rw [f_pR (o8.1.trans t7) (by decide), Option.bind_some, ← d9, n0, Option.bind_some]
  dsimp only
  refine m1.trans ?_
  rw [f_pR (by rw [ob.1]; exact t9) (by decide), Option.bind_some, ← f2]
end
