/-! The component's reader: the texts, and which token is which text -/
set_option maxRecDepth 100000
def txL : List (List Int) := [[111, 119, 110, 101, 114], [118, 105, 115, 105, 116, 111, 114], [111, 119, 101, 115], [98, 97, 99, 107], [114, 111, 111, 109, 115], [119, 97, 114, 121], [97, 109, 111, 117, 110, 116], [97, 103, 101], [100, 97, 121], [109, 111, 111, 100], [100, 101, 112, 116, 104], [103, 114, 111, 119, 115], [115, 101, 108, 108, 115], [98, 97, 114, 115], [105, 102], [100, 97, 121], [100, 101, 98, 116, 115], [100, 111, 110, 101], [108, 97, 115, 116], [112, 117, 114, 115, 101], [111, 119, 101, 100], [119, 97, 105, 116], [108, 101, 110, 100], [114, 101, 112, 97, 121], [116, 111], [111, 102], [116, 105, 109, 101, 115], [105, 102], [59], [111, 114], [97, 110, 100], [110, 111, 116], [40], [41], [60], [62], [61], [43], [45], [42], [47], [37], [91], [93]]
def txC : List Int := [9, 10, 11, 12, 13, 14, 15, 16, 17, 18, 1, 2, 3, 4, 5, 17, 19, 20, 21, 22, 23, 26, 24, 25, 27, 28, 29, 5, 159, 6, 7, 8, 140, 141, 160, 162, 161, 143, 145, 142, 147, 137, 191, 193]
def tx (j : Nat) : List Int := txL.getD j []
def tc (j : Nat) : Int := txC.getD j 0
theorem tx_f1 : al7 (fun j => decide (1 ≤ (tx j).length ∧ (tx j).length ≤ 10) && al7 (fun k => decide ((tx j).length ≤ k) || decide (0 ≤ (tx j).getD k 0 ∧ (tx j).getD k 0 ≤ 127)) 10) 44 = true := by decide +kernel
theorem tx_len {j : Nat} (hj : j < 44) : 1 ≤ (tx j).length ∧ (tx j).length ≤ 10 := by
  have h := al7_e _ tx_f1 j hj
  simp only [Bool.and_eq_true, decide_eq_true_eq] at h
  exact h.1
theorem tx_b {j k : Nat} (hj : j < 44) (hk : k < (tx j).length) : 0 ≤ (tx j).getD k 0 ∧ (tx j).getD k 0 ≤ 127 := by
  have h := al7_e _ tx_f1 j hj
  have l := tx_len hj
  simp only [Bool.and_eq_true, decide_eq_true_eq] at h
  have q := al7_e _ h.2 k (by omega)
  rw [show decide ((tx j).length ≤ k) = false from decide_eq_false (by omega), Bool.false_or, decide_eq_true_eq] at q
  exact q
/-- words: the code is the place among the words; signs: the sign -/
theorem tx_f2 : al7 (fun j => (decide (1 ≤ tc j ∧ tc j ≤ 29) && decide (wdL.getD (tc j - 1).toNat [] = tx j) && isLet ((tx j).getD 0 0)) || (decide ((tx j).length = 1) && decide (tc j = 100 + (tx j).getD 0 0) && !isLet ((tx j).getD 0 0) && !isDig ((tx j).getD 0 0))) 44 = true := by decide +kernel
theorem wdF_in (X : List Int) : ∀ (L : List (List Int)) (w : Int) (q : Nat), 1 ≤ w → q < L.length → L.Nodup → (wdF X L w = w + q ↔ X = L.getD q []) := by
  intro L
  induction L with
  | nil => intro w q _ hq; exact absurd hq (Nat.not_lt_zero q)
  | cons y L ih =>
    intro w q hw hq hn
    have hn1 := (List.nodup_cons.mp hn).1
    have hn2 := (List.nodup_cons.mp hn).2
    have up : ∀ (M : List (List Int)) (v : Int), 1 ≤ v → wdF X M v = 0 ∨ v ≤ wdF X M v := by
      intro M
      induction M with
      | nil => intro v hv; exact Or.inl rfl
      | cons z M ihM =>
        intro v hv
        unfold wdF
        split
        · exact Or.inr (Int.le_refl _)
        · have := ihM (v + 1) (by omega)
          omega
    unfold wdF
    by_cases c : y = X
    · rw [if_pos c]
      cases q with
      | zero => exact ⟨fun _ => by rw [List.getD_cons_zero, c], fun _ => by omega⟩
      | succ q =>
        refine ⟨fun e => by omega, fun e => ?_⟩
        rw [List.getD_cons_succ] at e
        exact absurd (by rw [c, e, List.getD_eq_getElem?_getD, List.getElem?_eq_getElem (by rw [List.length_cons] at hq; omega)]; exact List.getElem_mem _) hn1
    · rw [if_neg c]
      cases q with
      | zero =>
        refine ⟨fun e => ?_, fun e => ?_⟩
        · have := up L (w + 1) (by omega)
          omega
        · rw [List.getD_cons_zero] at e
          exact absurd e.symm c
      | succ q =>
        have h := ih (w + 1) q (by omega) (by rw [List.length_cons] at hq; omega) hn2
        rw [List.getD_cons_succ, ← h]
        constructor <;> intro e <;> omega
theorem wdL_nd : wdL.Nodup := by decide +kernel
section
variable {T : Rw} {N k j : Nat}
/-- a token is a text as its code says -/
theorem tk_code (hT : ∀ k : Int, 0 ≤ k → k < 400 → -128 ≤ T k ∧ T k ≤ 127) (hN : N ≤ 400) (hj : j < 44) (hk : pos T N k < N) : tkL T (pos T N k) (tnd T N (pos T N k)) = tx j ↔ cT T N k = tc j := by
  have ct : cT T N k = tkC T N k := by
    have := (pos_toks hN).mp hk
    unfold cT cut
    rw [if_pos (by omega)]
    rfl
  rw [ct]
  have tb := tnd_b (T := T) hk
  obtain ⟨a, ea⟩ : ∃ a, a = pos T N k := ⟨_, rfl⟩
  have l := tx_len hj
  have ha : 0 < tnd T N a - a := by rw [ea]; omega
  have ll := tkL_len T a (tnd T N a)
  have h0 := tkL_at (T := T) (a := a) (b := tnd T N a) (t := 0) ha
  rw [Nat.add_zero] at h0
  have hb := hT (a : Int) (by omega) (by omega)
  have f2 := al7_e _ tx_f2 j hj
  simp only [Bool.or_eq_true, Bool.and_eq_true, decide_eq_true_eq, Bool.not_eq_true'] at f2
  unfold tkC
  rw [← ea]
  have hd : ∀ {X Y : List Int}, X = Y → X.getD 0 0 = Y.getD 0 0 := fun e => by rw [e]
  have z5 := and255_b hb
  by_cases c : isLet (T a) = true
  · rw [if_pos c]
    rcases f2 with ⟨⟨f3, f4⟩, f5⟩ | ⟨⟨⟨f3, f4⟩, f5⟩, f6⟩
    · have w := wdF_in (tkL T a (tnd T N a)) wdL 1 (tc j - 1).toNat (by decide) (by rw [show wdL.length = 29 by decide]; omega) wdL_nd
      rw [f4, show (1 : Int) + ((tc j - 1).toNat : Int) = tc j by omega] at w
      exact w.symm
    · have wb := wdF_b (tkL T a (tnd T N a)) wdL 1 (by decide)
      rw [show wdL.length = 29 by decide] at wb
      have b1 := tx_b hj (k := 0) (by omega)
      refine ⟨fun e => ?_, fun e => by omega⟩
      have e0 := hd e
      rw [h0] at e0
      rw [e0, f5] at c
      cases c
  · rw [if_neg c]
    by_cases c2 : isDig (T a) = true
    · rw [if_pos c2]
      rcases f2 with ⟨⟨f3, f4⟩, f5⟩ | ⟨⟨⟨f3, f4⟩, f5⟩, f6⟩
      · refine ⟨fun e => ?_, fun e => by omega⟩
        have e0 := hd e
        rw [h0] at e0
        rw [e0] at c
        exact absurd f5 c
      · refine ⟨fun e => ?_, fun e => ?_⟩
        · have e0 := hd e
          rw [h0] at e0
          rw [e0, f6] at c2
          cases c2
        · have b1 := tx_b hj (k := 0) (by omega)
          omega
    · rw [if_neg c2]
      rcases f2 with ⟨⟨f3, f4⟩, f5⟩ | ⟨⟨⟨f3, f4⟩, f5⟩, f6⟩
      · refine ⟨fun e => ?_, fun e => by omega⟩
        have e0 := hd e
        rw [h0] at e0
        rw [e0] at c
        exact absurd f5 c
      · have b1 := tx_b hj (k := 0) (by omega)
        have e1 : tnd T N a = a + 1 := by unfold tnd; rw [if_neg c, if_neg c2]
        rw [e1] at ll h0 ⊢
        rw [f4, and255 hb.1 hb.2]
        constructor
        · intro e
          have e0 := hd e
          rw [h0] at e0
          rw [e0]
          omega
        · intro e
          refine list_eq (by omega) (fun t ht => ?_)
          have : t = 0 := by omega
          subst this
          rw [h0]
          omega
end
