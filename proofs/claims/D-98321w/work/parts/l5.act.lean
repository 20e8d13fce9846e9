/-! An order's act: head and sums -/
set_option maxRecDepth 100000
/-- the spec of an order, its act apart -/
def pAct (c w : Rw) (i lv : Int) : PR (Dn × Dn × Dn) :=
  if c i = 24 ∨ c i = 25 then
    match pS 1 c w 8 (i + 1) lv with
    | .inl t => .inl t
    | .inr (j, lv1, F1) => match (if c j = 27 then pS 1 c w 8 (j + 1) lv1 else .inl j) with
      | .inl t => .inl t
      | .inr (k, lv2, F2) => match (if c k = 28 then pS 1 c w 8 (k + 1) lv2 else .inl k) with
        | .inl t => .inl t
        | .inr (l, lv3, F3) => .inr (l, lv3, (F1, F2, F3))
  else if c i = 26 then .inr (i + 1, lv, ((fun _ => some 0), (fun _ => some 0), (fun _ => some 0)))
  else .inl i
theorem pOrder_eq (c w : Rw) (i lv : Int) : pOrder c w i lv = match pAct c w i lv with
    | .inl t => .inl t
    | .inr (l, lv3, S) => match pEnd c w l lv3 with
      | .inl t => .inl t
      | .inr (e, lv4, n, G) => .inr (e, lv4, (c i, S, n, G)) := by
  unfold pOrder pAct
  by_cases h : c i = 24 ∨ c i = 25
  · rw [if_pos h, if_pos h]
    cases pS 1 c w 8 (i + 1) lv with
    | inl t => rfl
    | inr v =>
      obtain ⟨j, lv1, F1⟩ := v
      dsimp only
      by_cases h2 : c j = 27
      · rw [if_pos h2, if_pos h2]
        cases pS 1 c w 8 (j + 1) lv1 with
        | inl t => rfl
        | inr v =>
          obtain ⟨k, lv2, F2⟩ := v
          dsimp only
          by_cases h3 : c k = 28
          · rw [if_pos h3, if_pos h3]
            cases pS 1 c w 8 (k + 1) lv2 with
            | inl t => rfl
            | inr v => rfl
          · rw [if_neg h3, if_neg h3]
      · rw [if_neg h2, if_neg h2]
  · rw [if_neg h, if_neg h]
    by_cases h4 : c i = 26
    · rw [if_pos h4, if_pos h4, h4]
      dsimp only
      cases pEnd c w (i + 1) lv with
      | inl t => rfl
      | inr v => rfl
    · rw [if_neg h4, if_neg h4]
