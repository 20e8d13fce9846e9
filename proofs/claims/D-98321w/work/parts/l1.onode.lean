/-! The component's orders: their objects -/
set_option maxRecDepth 100000
section
variable {E : ax_E} {h : ax_H} {q tg x : Nat} {a b c : Option Nat}
theorem lk3 (htg : tg = 21 ∨ tg = 23 ∨ tg = 24) (j k : Nat) : ([(21, j), (23, k), (24, k)] : List (Nat × Nat)).lookup tg = some (if tg = 21 then j else k) := by
  rcases htg with e | e | e <;> subst e <;> rfl
theorem lk2 (htg : tg = 23 ∨ tg = 24) (k : Nat) : ([(23, k), (24, k)] : List (Nat × Nat)).lookup tg = some k := by
  rcases htg with e | e <;> subst e <;> rfl
/-- an order to wait -/
theorem c_i21 (e : hT h q = 21) : ∃ h', f_X21_init E (some q) (some x) h = some h' ∧ (hT h' q = 21 ∧ hR h' q 3 = some x ∧ hR h' q 4 = some x ∧ hI h' q 1 = 1) ∧ (∀ c, c ≠ q → h'.2.2 c = h.2.2 c) ∧ h'.1 = h.1 ∧ h'.2.1 = h.2.1 := by
  obtain ⟨h1, e1⟩ : ∃ h1, h1 = wR h q 4 (some x) := ⟨_, rfl⟩
  have t1 : hT h1 q = 21 := by rw [e1, hT_wR]; exact e
  obtain ⟨h2, e2⟩ : ∃ h2, h2 = wR h1 q 3 (some x) := ⟨_, rfl⟩
  have t2 : hT h2 q = 21 := by rw [e2, hT_wR]; exact t1
  obtain ⟨h3, e3⟩ : ∃ h3, h3 = wI h2 q 1 1 := ⟨_, rfl⟩
  refine ⟨h3, ?_, ⟨by rw [e3, hT_wI]; exact t2, by rw [e3, hR_wI, e2]; exact hR_wR_eq, ?_, by rw [e3]; exact hI_wI_eq⟩, fun c hc => by rw [e3, hC_wI_ne hc, e2, hC_wR_ne hc, e1, hC_wR_ne hc], by rw [e3, e2, e1]; rfl, by rw [e3, e2, e1]; rfl⟩
  · unfold f_X21_init f_X20_init
    rw [f_pR e (by decide), Option.bind_some, ← e1, Option.bind_some, f_pRs t1 (by decide) (show ([(21, 3), (23, 7), (24, 7)] : List (Nat × Nat)).lookup 21 = some 3 from rfl), Option.bind_some, ← e2, Option.bind_some, f_pIs t2 (by decide) (show ([(21, 1), (23, 5), (24, 5)] : List (Nat × Nat)).lookup 21 = some 1 from rfl), Option.bind_some, ← e3, Option.bind_some]
  · rw [e3, hR_wI, e2, hR_wR_ne (by omega), e1]
    exact hR_wR_eq
/-- an order to lend or to repay -/
theorem c_i22 (htg : tg = 23 ∨ tg = 24) (e : hT h q = tg) : ∃ h', f_X22_init E (some q) (some x) a b c h = some h' ∧ (hT h' q = tg ∧ hR h' q 0 = a ∧ hR h' q 1 = b ∧ hR h' q 2 = c ∧ hR h' q 3 = some x ∧ hR h' q 7 = some x ∧ hI h' q 5 = 1 ∧ ∀ j, j = 4 ∨ j = 8 → hR h' q j = hR h q j) ∧ (∀ c, c ≠ q → h'.2.2 c = h.2.2 c) ∧ h'.1 = h.1 ∧ h'.2.1 = h.2.1 := by
  have t9 : tg ≠ 999 := by omega
  obtain ⟨h1, e1⟩ : ∃ h1, h1 = wR h q 3 (some x) := ⟨_, rfl⟩
  have t1 : hT h1 q = tg := by rw [e1, hT_wR]; exact e
  obtain ⟨h2, e2⟩ : ∃ h2, h2 = wR h1 q 7 (some x) := ⟨_, rfl⟩
  have t2 : hT h2 q = tg := by rw [e2, hT_wR]; exact t1
  obtain ⟨h3, e3⟩ : ∃ h3, h3 = wI h2 q 5 1 := ⟨_, rfl⟩
  have t3 : hT h3 q = tg := by rw [e3, hT_wI]; exact t2
  obtain ⟨h4, e4⟩ : ∃ h4, h4 = wR h3 q 0 a := ⟨_, rfl⟩
  have t4 : hT h4 q = tg := by rw [e4, hT_wR]; exact t3
  obtain ⟨h5, e5⟩ : ∃ h5, h5 = wR h4 q 1 b := ⟨_, rfl⟩
  have t5 : hT h5 q = tg := by rw [e5, hT_wR]; exact t4
  obtain ⟨h6, e6⟩ : ∃ h6, h6 = wR h5 q 2 c := ⟨_, rfl⟩
  have k7 : ([(21, 3), (23, 7), (24, 7)] : List (Nat × Nat)).lookup tg = some 7 := by rcases htg with z | z <;> subst z <;> rfl
  have k5 : ([(21, 1), (23, 5), (24, 5)] : List (Nat × Nat)).lookup tg = some 5 := by rcases htg with z | z <;> subst z <;> rfl
  refine ⟨h6, ?_, ⟨by rw [e6, hT_wR]; exact t5, ?_, ?_, by rw [e6]; exact hR_wR_eq, ?_, ?_, ?_, fun j hj => ?_⟩, fun d hd => by rw [e6, hC_wR_ne hd, e5, hC_wR_ne hd, e4, hC_wR_ne hd, e3, hC_wI_ne hd, e2, hC_wR_ne hd, e1, hC_wR_ne hd], by rw [e6, e5, e4, e3, e2, e1]; rfl, by rw [e6, e5, e4, e3, e2, e1]; rfl⟩
  · unfold f_X22_init f_X20_init
    rw [f_pRs e t9 (lk2 htg 3), Option.bind_some, ← e1, Option.bind_some, f_pRs t1 t9 k7, Option.bind_some, ← e2, Option.bind_some, f_pIs t2 t9 k5, Option.bind_some, ← e3, Option.bind_some, f_pRs t3 t9 (lk2 htg 0), Option.bind_some, ← e4, f_pRs t4 t9 (lk2 htg 1), Option.bind_some, ← e5, f_pRs t5 t9 (lk2 htg 2), Option.bind_some, ← e6]
  · rw [e6, hR_wR_ne (by omega), e5, hR_wR_ne (by omega), e4]; exact hR_wR_eq
  · rw [e6, hR_wR_ne (by omega), e5]; exact hR_wR_eq
  · rw [e6, hR_wR_ne (by omega), e5, hR_wR_ne (by omega), e4, hR_wR_ne (by omega), e3, hR_wI, e2, hR_wR_ne (by omega), e1]; exact hR_wR_eq
  · rw [e6, hR_wR_ne (by omega), e5, hR_wR_ne (by omega), e4, hR_wR_ne (by omega), e3, hR_wI, e2]; exact hR_wR_eq
  · rw [e6, hI_wR, e5, hI_wR, e4, hI_wR, e3]; exact hI_wI_eq
  · rw [e6, hR_wR_ne (by omega), e5, hR_wR_ne (by omega), e4, hR_wR_ne (by omega), e3, hR_wI, e2, hR_wR_ne (by omega), e1, hR_wR_ne (by omega)]
end
