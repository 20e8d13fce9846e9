/-! The component's reader of orders: its birth; what holds after a law -/
set_option maxRecDepth 100000
theorem lawT_VW {n : Int} {s : Sg} (H : VW n s) (hn : n ≤ 1000000000) : VW (n + 1) (telP (lawS s)).2 := by
  obtain ⟨a, b, c⟩ := lawS_VW H
  exact a.tel b (by omega) hn
section
variable {E : ax_E} {T : Rw} {N x : Nat} {h g : ax_H}
theorem c_words6 {β : Type} {Kf : ax_H → Option β} {q : Nat} (S : TxtE E x) (lo : ∀ a, a < x → g.2.2 a = none) (hq : x ≤ q) (e : hT g q = 108) (l : hL g q = 6) : ∃ g', ((ax_cst E 25).bind fun v0 => (ax_stR E oj_108 g (some q) 108 0 v0).bind fun h1 => (ax_cst E 26).bind fun v1 => (ax_stR E oj_108 h1 (some q) 108 1 v1).bind fun h2 => (ax_cst E 27).bind fun v2 => (ax_stR E oj_108 h2 (some q) 108 2 v2).bind fun h3 => (ax_cst E 28).bind fun v3 => (ax_stR E oj_108 h3 (some q) 108 3 v3).bind fun h4 => (ax_cst E 29).bind fun v4 => (ax_stR E oj_108 h4 (some q) 108 4 v4).bind fun h5 => (ax_cst E 30).bind fun v5 => (ax_stR E oj_108 h5 (some q) 108 5 v5).bind fun h6 => Kf h6) = Kf g' ∧ (hT g' q = 108 ∧ hL g' q = 6 ∧ (∀ k, k < 6 → hR g' q k = some (E.2.2 (10 + (15 + k)))) ∧ ∀ j, hI g' q j = hI g q j) ∧ (∀ a, a ≠ q → g'.2.2 a = g.2.2 a) ∧ g'.1 = g.1 ∧ g'.2.1 = g.2.1 := by
  obtain ⟨w1, f1⟩ : ∃ w, w = wR g q 0 (some (E.2.2 25)) := ⟨_, rfl⟩
  have s1 : ax_stR E oj_108 g (some q) 108 0 (some (E.2.2 25)) = some w1 := by rw [f1]; exact f_stRlo (j := 15) (k := 0) S (by decide) lo e l (by decide)
  have e1 : hT w1 q = 108 := by rw [f1, hT_wR]; exact e
  have l1 : hL w1 q = 6 := by rw [f1, hL_wR]; exact l
  have c1 : ∀ a, a ≠ q → w1.2.2 a = g.2.2 a := fun a ha => by rw [f1, hC_wR_ne ha]
  have lo1 : ∀ a, a < x → w1.2.2 a = none := fun a ha => (c1 a (by omega)).trans (lo a ha)
  obtain ⟨w2, f2⟩ : ∃ w, w = wR w1 q 1 (some (E.2.2 26)) := ⟨_, rfl⟩
  have s2 : ax_stR E oj_108 w1 (some q) 108 1 (some (E.2.2 26)) = some w2 := by rw [f2]; exact f_stRlo (j := 16) (k := 1) S (by decide) lo1 e1 l1 (by decide)
  have e2 : hT w2 q = 108 := by rw [f2, hT_wR]; exact e1
  have l2 : hL w2 q = 6 := by rw [f2, hL_wR]; exact l1
  have c2 : ∀ a, a ≠ q → w2.2.2 a = g.2.2 a := fun a ha => by rw [f2, hC_wR_ne ha]; exact c1 a ha
  have lo2 : ∀ a, a < x → w2.2.2 a = none := fun a ha => (c2 a (by omega)).trans (lo a ha)
  obtain ⟨w3, f3⟩ : ∃ w, w = wR w2 q 2 (some (E.2.2 27)) := ⟨_, rfl⟩
  have s3 : ax_stR E oj_108 w2 (some q) 108 2 (some (E.2.2 27)) = some w3 := by rw [f3]; exact f_stRlo (j := 17) (k := 2) S (by decide) lo2 e2 l2 (by decide)
  have e3 : hT w3 q = 108 := by rw [f3, hT_wR]; exact e2
  have l3 : hL w3 q = 6 := by rw [f3, hL_wR]; exact l2
  have c3 : ∀ a, a ≠ q → w3.2.2 a = g.2.2 a := fun a ha => by rw [f3, hC_wR_ne ha]; exact c2 a ha
  have lo3 : ∀ a, a < x → w3.2.2 a = none := fun a ha => (c3 a (by omega)).trans (lo a ha)
  obtain ⟨w4, f4⟩ : ∃ w, w = wR w3 q 3 (some (E.2.2 28)) := ⟨_, rfl⟩
  have s4 : ax_stR E oj_108 w3 (some q) 108 3 (some (E.2.2 28)) = some w4 := by rw [f4]; exact f_stRlo (j := 18) (k := 3) S (by decide) lo3 e3 l3 (by decide)
  have e4 : hT w4 q = 108 := by rw [f4, hT_wR]; exact e3
  have l4 : hL w4 q = 6 := by rw [f4, hL_wR]; exact l3
  have c4 : ∀ a, a ≠ q → w4.2.2 a = g.2.2 a := fun a ha => by rw [f4, hC_wR_ne ha]; exact c3 a ha
  have lo4 : ∀ a, a < x → w4.2.2 a = none := fun a ha => (c4 a (by omega)).trans (lo a ha)
  obtain ⟨w5, f5⟩ : ∃ w, w = wR w4 q 4 (some (E.2.2 29)) := ⟨_, rfl⟩
  have s5 : ax_stR E oj_108 w4 (some q) 108 4 (some (E.2.2 29)) = some w5 := by rw [f5]; exact f_stRlo (j := 19) (k := 4) S (by decide) lo4 e4 l4 (by decide)
  have e5 : hT w5 q = 108 := by rw [f5, hT_wR]; exact e4
  have l5 : hL w5 q = 6 := by rw [f5, hL_wR]; exact l4
  have c5 : ∀ a, a ≠ q → w5.2.2 a = g.2.2 a := fun a ha => by rw [f5, hC_wR_ne ha]; exact c4 a ha
  have lo5 : ∀ a, a < x → w5.2.2 a = none := fun a ha => (c5 a (by omega)).trans (lo a ha)
  obtain ⟨w6, f6⟩ : ∃ w, w = wR w5 q 5 (some (E.2.2 30)) := ⟨_, rfl⟩
  have s6 : ax_stR E oj_108 w5 (some q) 108 5 (some (E.2.2 30)) = some w6 := by rw [f6]; exact f_stRlo (j := 20) (k := 5) S (by decide) lo5 e5 l5 (by decide)
  have e6 : hT w6 q = 108 := by rw [f6, hT_wR]; exact e5
  have l6 : hL w6 q = 6 := by rw [f6, hL_wR]; exact l5
  have c6 : ∀ a, a ≠ q → w6.2.2 a = g.2.2 a := fun a ha => by rw [f6, hC_wR_ne ha]; exact c5 a ha
  have lo6 : ∀ a, a < x → w6.2.2 a = none := fun a ha => (c6 a (by omega)).trans (lo a ha)
  refine ⟨w6, ?_, ⟨e6, l6, ?_, ?_⟩, c6, ?_, ?_⟩
  · unfold ax_cst
    rw [Option.bind_some, s1, Option.bind_some, Option.bind_some, s2, Option.bind_some, Option.bind_some, s3, Option.bind_some, Option.bind_some, s4, Option.bind_some, Option.bind_some, s5, Option.bind_some, Option.bind_some, s6, Option.bind_some]
  · intro k hk
    have : k = 0 ∨ k = 1 ∨ k = 2 ∨ k = 3 ∨ k = 4 ∨ k = 5 := by omega
    rcases this with z | z | z | z | z | z <;> subst z <;> rw [f6, f5, f4, f3, f2, f1] <;> simp [hR_wR]
  · intro j
    rw [f6, hI_wR, f5, hI_wR, f4, hI_wR, f3, hI_wR, f2, hI_wR, f1, hI_wR]
  · rw [f6, f5, f4, f3, f2, f1]; rfl
  · rw [f6, f5, f4, f3, f2, f1]; rfl
/-- a reader of orders is born -/
theorem c_birth25 (hx : x + 116 ≤ h.1) (lo : ∀ a, a < x → h.2.2 a = none) (S : TxtE E x) (X : hT h x = 0 ∧ hR h x 11 = some (x + 22) ∧ hI h x 12 = N) (Y : hT h (x + 22) = 101 ∧ hL h (x + 22) = 400 ∧ ∀ k : Nat, k < N → hI h (x + 22) k = T k) (Z : N ≤ 400 ∧ ∀ k : Int, 0 ≤ k → k < 400 → -128 ≤ T k ∧ T k ≤ 127) (r1 : h.1 + 4 ≤ E.1.1) (r2 : h.2.1 + 78 ≤ E.1.2) : ∃ g, f_X25_init E (some h.1) (some x) (nwH h 25 0 10) = some g ∧ RdG E T N x h.1 (h.1 + 2) (h.1 + 1) 25 0 0 0 0 0 g ∧ (hT g (h.1 + 3) = 110 ∧ hL g (h.1 + 3) = 12) ∧ (∀ a, a < h.1 → g.2.2 a = h.2.2 a) ∧ g.1 = h.1 + 4 ∧ g.2.1 = h.2.1 + 78 := by
  obtain ⟨i, ei⟩ : ∃ i, i = h.1 := ⟨_, rfl⟩
  rw [← ei] at hx r1 ⊢
  obtain ⟨a1, d1⟩ : ∃ a, a = wR (nwH h 25 0 10) i 9 (some x) := ⟨_, rfl⟩
  have t1 : hT a1 i = 25 := by rw [d1, hT_wR, ei]; exact hT_nw_eq
  have j1 : ∀ k, hI a1 i k = 0 := fun k => by rw [d1, hI_wR, ei]; exact hI_nw_eq
  have x1 : hR a1 i 9 = some x := by rw [d1]; exact hR_wR_eq
  have s1 : a1.1 = i + 1 ∧ a1.2.1 = h.2.1 + 10 := by rw [d1, ei]; exact ⟨rfl, rfl⟩
  have c1 : ∀ a, a ≠ i → a1.2.2 a = h.2.2 a := fun a ha => by rw [d1, hC_wR_ne ha]; exact hC_nw_ne (by omega)
  have p1 : ax_pR (nwH h 25 0 10) (some i) 25 9 (some x) = some a1 := by rw [d1]; exact f_pR (by rw [ei]; exact hT_nw_eq) (by decide)
  obtain ⟨a2, d2⟩ : ∃ a, a = nwH a1 108 6 6 := ⟨_, rfl⟩
  have n2 : ax_na E a1 108 6 = some (i + 1, a2) := by rw [d2, ← s1.1]; exact f_na (i := 6) (by decide) (by decide) (by omega) (by omega)
  have t2 : hT a2 (i + 1) = 108 ∧ hL a2 (i + 1) = 6 := by rw [d2, ← s1.1]; exact ⟨hT_nw_eq, hL_nw_eq⟩
  have s2 : a2.1 = i + 2 ∧ a2.2.1 = h.2.1 + 16 := by rw [d2, nw_1, nw_2, s1.1, s1.2]; exact ⟨rfl, rfl⟩
  have c2 : ∀ a, a ≠ i + 1 → a2.2.2 a = a1.2.2 a := fun a ha => by rw [d2]; exact hC_nw_ne (by omega)
  have lo2 : ∀ a, a < x → a2.2.2 a = none := fun a ha => (c2 a (by omega)).trans ((c1 a (by omega)).trans (lo a ha))
  obtain ⟨a3, m3, ⟨t3, l3, q3, -⟩, c3, s3, s3'⟩ := c_words6 (g := a2) (q := i + 1) (Kf := fun h14 => (some i).bind fun _ => (f_X6_init E (some i) (some x) (some (i + 1)) h14).bind fun h15 => (ax_na E h15 110 12).bind fun q16 => (ax_pR q16.2 (some i) 25 8 (some q16.1)).bind fun h17 => some h17) S lo2 (by omega) t2.1 t2.2
  have o3 := ceq ((c3 i (by omega)).trans (c2 i (by omega)))
  obtain ⟨a4, d4⟩ : ∃ a, a = wR a3 i 7 (some x) := ⟨_, rfl⟩
  have t4 : hT a4 i = 25 := by rw [d4, hT_wR]; exact o3.1.trans t1
  have s4 : a4.1 = i + 2 ∧ a4.2.1 = h.2.1 + 16 := by rw [d4, wR_1, wR_2, s3, s3']; exact s2
  have c4 : ∀ a, a ≠ i → a4.2.2 a = a3.2.2 a := fun a ha => by rw [d4]; exact hC_wR_ne ha
  obtain ⟨a5, d5⟩ : ∃ a, a = nwH a4 109 50 50 := ⟨_, rfl⟩
  have n5 : ax_na E a4 109 50 = some (i + 2, a5) := by rw [d5, ← s4.1]; exact f_na (i := 50) (by decide) (by decide) (by omega) (by omega)
  have t5 : hT a5 (i + 2) = 109 ∧ hL a5 (i + 2) = 50 := by rw [d5, ← s4.1]; exact ⟨hT_nw_eq, hL_nw_eq⟩
  have s5 : a5.1 = i + 3 ∧ a5.2.1 = h.2.1 + 66 := by rw [d5, nw_1, nw_2, s4.1, s4.2]; exact ⟨rfl, rfl⟩
  have c5 : ∀ a, a ≠ i + 2 → a5.2.2 a = a4.2.2 a := fun a ha => by rw [d5]; exact hC_nw_ne (by omega)
  have o5 := ceq (c5 i (by omega))
  obtain ⟨a6, d6⟩ : ∃ a, a = wR a5 i 5 (some (i + 2)) := ⟨_, rfl⟩
  have t6 : hT a6 i = 25 := by rw [d6, hT_wR]; exact o5.1.trans t4
  obtain ⟨a7, d7⟩ : ∃ a, a = wR a6 i 6 (some (i + 1)) := ⟨_, rfl⟩
  have t7 : hT a7 i = 25 := by rw [d7, hT_wR]; exact t6
  have s7 : a7.1 = i + 3 ∧ a7.2.1 = h.2.1 + 66 := by rw [d7, d6]; exact s5
  have c7 : ∀ a, a ≠ i → a7.2.2 a = a5.2.2 a := fun a ha => by rw [d7, hC_wR_ne ha, d6, hC_wR_ne ha]
  have n7 : f_X6_init E (some i) (some x) (some (i + 1)) a3 = some a7 := by
    unfold f_X6_init
    rw [f_pRs (o3.1.trans t1) (by decide) (show ([(25, 7), (7, 7)] : List (Nat × Nat)).lookup 25 = some 7 from rfl), Option.bind_some, ← d4, Option.bind_some, n5, Option.bind_some]
    dsimp only
    rw [f_pRs (o5.1.trans t4) (by decide) (show ([(25, 5), (7, 5)] : List (Nat × Nat)).lookup 25 = some 5 from rfl), Option.bind_some, ← d6, f_pRs t6 (by decide) (show ([(25, 6), (7, 6)] : List (Nat × Nat)).lookup 25 = some 6 from rfl), Option.bind_some, ← d7]
  obtain ⟨a8, d8⟩ : ∃ a, a = nwH a7 110 12 12 := ⟨_, rfl⟩
  have n8 : ax_na E a7 110 12 = some (i + 3, a8) := by rw [d8, ← s7.1]; exact f_na (i := 12) (by decide) (by decide) (by omega) (by omega)
  have t8 : hT a8 (i + 3) = 110 ∧ hL a8 (i + 3) = 12 := by rw [d8, ← s7.1]; exact ⟨hT_nw_eq, hL_nw_eq⟩
  have s8 : a8.1 = i + 4 ∧ a8.2.1 = h.2.1 + 78 := by rw [d8, nw_1, nw_2, s7.1, s7.2]; exact ⟨rfl, rfl⟩
  have c8 : ∀ a, a ≠ i + 3 → a8.2.2 a = a7.2.2 a := fun a ha => by rw [d8]; exact hC_nw_ne (by omega)
  have o8 := ceq (c8 i (by omega))
  obtain ⟨b2, f2⟩ : ∃ a, a = wR a8 i 8 (some (i + 3)) := ⟨_, rfl⟩
  have z2 : ∀ a, a ≠ i → b2.2.2 a = a8.2.2 a := fun a ha => by rw [f2]; exact hC_wR_ne ha
  have low2 : ∀ a, a < i → b2.2.2 a = h.2.2 a := fun a ha => by rw [z2 a (by omega), c8 a (by omega), c7 a (by omega), c5 a (by omega), c4 a (by omega), c3 a (by omega), c2 a (by omega), c1 a (by omega)]
  have y2 : b2.1 = i + 4 ∧ b2.2.1 = h.2.1 + 78 := by rw [f2]; exact s8
  have ex := ceq (low2 x (by omega))
  have et := ceq (low2 (x + 22) (by omega))
  have ew := ceq (show b2.2.2 (i + 1) = a3.2.2 (i + 1) by rw [z2 _ (by omega), c8 _ (by omega), c7 _ (by omega), c5 _ (by omega), c4 _ (by omega)])
  have ep := ceq (show b2.2.2 (i + 2) = a5.2.2 (i + 2) by rw [z2 _ (by omega), c8 _ (by omega), c7 _ (by omega)])
  have er := ceq (show b2.2.2 (i + 3) = a8.2.2 (i + 3) from z2 _ (by omega))
  have iI : ∀ k, hI b2 i k = 0 := fun k => by rw [f2, hI_wR, o8.2.2.1, d7, hI_wR, d6, hI_wR, o5.2.2.1, d4, hI_wR, o3.2.2.1]; exact j1 k
  have iT : hT b2 i = 25 := by rw [f2, hT_wR, o8.1]; exact t7
  have r8 : hR b2 i 8 = some (i + 3) := by rw [f2]; exact hR_wR_eq
  have up : ∀ k, k ≠ 8 → hR b2 i k = hR a7 i k := fun k k2 => by rw [f2, hR_wR_ne (by omega), o8.2.2.2]
  have r6 : hR b2 i 6 = some (i + 1) := by rw [up 6 (by decide), d7]; exact hR_wR_eq
  have r5 : hR b2 i 5 = some (i + 2) := by rw [up 5 (by decide), d7, hR_wR_ne (by omega), d6]; exact hR_wR_eq
  have r7 : hR b2 i 7 = some x := by rw [up 7 (by decide), d7, hR_wR_ne (by omega), d6, hR_wR_ne (by omega), o5.2.2.2, d4]; exact hR_wR_eq
  have r9 : hR b2 i 9 = some x := by rw [up 9 (by decide), d7, hR_wR_ne (by omega), d6, hR_wR_ne (by omega), o5.2.2.2, d4, hR_wR_ne (by omega), o3.2.2.2]; exact x1
  refine ⟨b2, ?_, ⟨⟨Or.inr rfl, ⟨by omega, by omega, by omega, by omega, by omega, by omega, by omega, by omega, by omega⟩, fun a ha => (low2 a (by omega)).trans (lo a ha), ⟨ex.1.trans X.1, (ex.2.2.2 11).trans X.2.1, (ex.2.2.1 12).trans X.2.2⟩, ⟨et.1.trans Y.1, et.2.1.trans Y.2.1, fun k hk => (et.2.2.1 k).trans (Y.2.2 k hk)⟩, Z, S, ⟨ep.1.trans t5.1, ep.2.1.trans t5.2⟩, ⟨ew.1.trans t3, ew.2.1.trans l3, fun k hk => (ew.2.2.2 k).trans (q3 k hk)⟩, ⟨iT, r5, r6, r7, fun _ => r9, r8, fun h => absurd h (by decide)⟩⟩, iI 0, iI 1, iI 2, iI 3, iI 4⟩, ⟨er.1.trans t8.1, er.2.1.trans t8.2⟩, low2, y2.1, y2.2⟩
  unfold f_X25_init
  rw [p1, Option.bind_some, n2, Option.bind_some]
  dsimp only
  refine m3.trans ?_
  rw [Option.bind_some, n7, Option.bind_some, n8, Option.bind_some]
  dsimp only
  rw [f_pR (o8.1.trans t7) (by decide), Option.bind_some, ← f2]
end
