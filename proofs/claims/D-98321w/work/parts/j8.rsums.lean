/-! The component's reader: sums -/
set_option maxRecDepth 100000
section
variable {E : ax_E} {T : Rw} {N x i p w tg k : Nat} {o lv dp pl v : Int} {g g' g0 : ax_H}
theorem c_rowS {Tt : Int → Bool} {part : Int → Int → PR Dn} {sub : Option Nat → ax_H → Option ((Nat × ax_H) ⊕ (Option Nat × ax_H))} {B : Option Nat × ax_H → Option ((Option Nat × ax_H) ⊕ ((Nat × ax_H) ⊕ (Option Nat × ax_H)))} (hTt : ∀ c, Tt c = true → 132 ≤ c ∧ c ≤ 200)
    (hs : ∀ (k : Nat) (lv : Int) (g : ax_H), RdC E T N x i p w tg k lv dp pl g → 0 ≤ lv → lv ≤ 50 → RmR E g lv → RsS E T N x i p w tg o dp pl g lv (sub (some i) g) (part k lv))
    (hstop : ∀ (k u : Nat) (lv : Int) (g : ax_H), RdC E T N x i p w tg k lv dp pl g → ¬ Tt (cT T N k) = true → B (some u, g) = some (.inr (.inr (some u, g))))
    (hgo : ∀ (k u : Nat) (lv : Int) (g : ax_H), RdC E T N x i p w tg k lv dp pl g → Tt (cT T N k) = true → B (some u, g) = f_X6_term_32 E sub sub sub (some i) (some u) g) (hpl : 0 ≤ pl)
    (G : RdC E T N x i p w tg k lv dp pl g) (l0 : 0 ≤ lv) (l1 : lv ≤ 50) (rm : RmR E g lv) : RsS E T N x i p w tg o dp pl g lv (ax_tc (fun z2 => some (.inl z2)) (ax_dp E g (some i) fun t => if t = 25 ∨ t = 7 then sub (some i) g else none) fun q1 => ax_iter B (q1.1, q1.2)) (pRow (cT T N) Tt jS part k lv) := by
  have bs := hs k lv g G l0 l1 rm
  unfold pRow
  rw [G.1.dsp]
  cases hP : part (k : Int) lv with
  | inl t =>
    rw [hP] at bs
    obtain ⟨r, b1, b2⟩ := bs
    rw [b1, tc_l]
    exact ⟨r, rfl, b2⟩
  | inr vv =>
    obtain ⟨j, lv', F'⟩ := vv
    rw [hP] at bs
    obtain ⟨u, g3, b1, b2, b3, b4, b5, b6, b7, b8⟩ := bs
    rw [b1, tc_r]
    dsimp only
    have hp := G.1.2.1
    have z := c_tlS hTt hs hstop hgo hpl 51 j.toNat lv' lv u g3 g F' b4 b5 ⟨by omega, by omega, by omega, by omega⟩ b6 ⟨l0, b3.1, b3.2⟩ b7 b8 rm (by omega)
    rw [Int.toNat_of_nonneg b2] at z
    exact z
theorem c_term {s0 s1 s2 : Option Nat → ax_H → Option ((Nat × ax_H) ⊕ (Option Nat × ax_H))} {ps : Option (Int → Int → PR Dn)}
    (hs : ∀ (k : Nat) (lv : Int) (g : ax_H), RdC E T N x i p w tg k lv dp pl g → 0 ≤ lv → lv ≤ 50 → RmR E g lv → RsS E T N x i p w tg o dp pl g lv (s0 (some i) g) (pPart o (cT T N) (wT T N) ps k lv)) (hpl : 0 ≤ pl)
    (G : RdC E T N x i p w tg k lv dp pl g) (l0 : 0 ≤ lv) (l1 : lv ≤ 50) (rm : RmR E g lv) : RsS E T N x i p w tg o dp pl g lv (f_X6_term E s0 s1 s2 (some i) g) (pTerm o (cT T N) (wT T N) ps k lv) := by
  have body : ∀ (k u : Nat) (lv : Int) (g : ax_H), RdC E T N x i p w tg k lv dp pl g → lb_X6_term_5 E s0 s1 s2 (some i) (some u) g = if cT T N k = 142 ∨ cT T N k = 147 ∨ cT T N k = 137 then f_X6_term_32 E s0 s0 s0 (some i) (some u) g else some (.inr (.inr (some u, g))) := by
    intro k u lv g G
    have W1 : f_X6_isWord E (some i) (some (E.2.2 49)) g = some (b01 (cT T N k = 142), g) := c_isWord (j := 39) G (by decide)
    have W2 : f_X6_isWord E (some i) (some (E.2.2 50)) g = some (b01 (cT T N k = 147), g) := c_isWord (j := 40) G (by decide)
    have W3 : f_X6_isWord E (some i) (some (E.2.2 51)) g = some (b01 (cT T N k = 137), g) := c_isWord (j := 41) G (by decide)
    unfold lb_X6_term_5 ax_cst
    rw [Option.bind_some, G.1.dsp, W1, Option.bind_some]
    dsimp only
    by_cases c1 : cT T N k = 142
    · rw [if_neg (by rw [b01_z]; simp [c1]), if_pos (Or.inl c1)]
      rfl
    · rw [if_pos (by rw [b01_z]; exact c1), Option.bind_some, G.1.dsp, W2, Option.bind_some]
      dsimp only
      by_cases c2 : cT T N k = 147
      · rw [if_neg (by rw [b01_z]; simp [c2]), if_pos (Or.inr (Or.inl c2))]
        rfl
      · rw [if_pos (by rw [b01_z]; exact c2), Option.bind_some, G.1.dsp, W3, Option.bind_some]
        dsimp only
        by_cases c3 : cT T N k = 137
        · rw [if_neg (by rw [b01_z]; simp [c3]), if_pos (Or.inr (Or.inr c3))]
          rfl
        · rw [if_pos (by rw [b01_z]; exact c3), if_neg (by omega)]
          rfl
  have e : ∀ c, (isMul c = true) = (c = 142 ∨ c = 147 ∨ c = 137) := fun c => by unfold isMul; rw [decide_eq_true_eq]
  exact c_rowS (Tt := isMul) (B := fun s : Option Nat × ax_H => lb_X6_term_5 E s0 s1 s2 (some i) s.1 s.2) (sub := s0) (fun c h => by rw [e] at h; omega) hs (fun k u lv g G h => by rw [e] at h; exact (body k u lv g G).trans (if_neg h)) (fun k u lv g G h => by rw [e] at h; exact (body k u lv g G).trans (if_pos h)) hpl G l0 l1 rm
theorem c_rsum {s0 s1 s2 : Option Nat → ax_H → Option ((Nat × ax_H) ⊕ (Option Nat × ax_H))} {ps : Option (Int → Int → PR Dn)}
    (hs : ∀ (k : Nat) (lv : Int) (g : ax_H), RdC E T N x i p w tg k lv dp pl g → 0 ≤ lv → lv ≤ 50 → RmR E g lv → RsS E T N x i p w tg o dp pl g lv (s1 (some i) g) (pTerm o (cT T N) (wT T N) ps k lv)) (hpl : 0 ≤ pl)
    (G : RdC E T N x i p w tg k lv dp pl g) (l0 : 0 ≤ lv) (l1 : lv ≤ 50) (rm : RmR E g lv) : RsS E T N x i p w tg o dp pl g lv (f_X6_sum E s0 s1 s2 (some i) g) (pSumN o (cT T N) (wT T N) ps k lv) := by
  have body : ∀ (k u : Nat) (lv : Int) (g : ax_H), RdC E T N x i p w tg k lv dp pl g → lb_X6_sum_5 E s0 s1 s2 (some i) (some u) g = if cT T N k = 143 ∨ cT T N k = 145 then f_X6_term_32 E s1 s1 s1 (some i) (some u) g else some (.inr (.inr (some u, g))) := by
    intro k u lv g G
    have W1 : f_X6_isWord E (some i) (some (E.2.2 47)) g = some (b01 (cT T N k = 143), g) := c_isWord (j := 37) G (by decide)
    have W2 : f_X6_isWord E (some i) (some (E.2.2 48)) g = some (b01 (cT T N k = 145), g) := c_isWord (j := 38) G (by decide)
    unfold lb_X6_sum_5 ax_cst
    rw [Option.bind_some, G.1.dsp, W1, Option.bind_some]
    dsimp only
    by_cases c1 : cT T N k = 143
    · rw [if_neg (by rw [b01_z]; simp [c1]), if_pos (Or.inl c1)]
      rfl
    · rw [if_pos (by rw [b01_z]; exact c1), Option.bind_some, G.1.dsp, W2, Option.bind_some]
      dsimp only
      by_cases c2 : cT T N k = 145
      · rw [if_neg (by rw [b01_z]; simp [c2]), if_pos (Or.inr c2)]
        rfl
      · rw [if_pos (by rw [b01_z]; exact c2), if_neg (by omega)]
        rfl
  have e : ∀ c, (isAdd c = true) = (c = 143 ∨ c = 145) := fun c => by unfold isAdd; rw [decide_eq_true_eq]
  exact c_rowS (Tt := isAdd) (B := fun s : Option Nat × ax_H => lb_X6_sum_5 E s0 s1 s2 (some i) s.1 s.2) (sub := s1) (fun c h => by rw [e] at h; omega) hs (fun k u lv g G h => by rw [e] at h; exact (body k u lv g G).trans (if_neg h)) (fun k u lv g G h => by rw [e] at h; exact (body k u lv g G).trans (if_pos h)) hpl G l0 l1 rm
/-- a sum, with so many brackets left -/
theorem c_sumR (hto : (tg = 7 ∧ o = 0) ∨ (tg = 25 ∧ o = 1)) (hpl : 0 ≤ pl) : ∀ (r n : Nat), r ≤ 8 → 3 * r + 3 ≤ n → ∀ (k : Nat) (lv : Int) (g : ax_H), RdC E T N x i p w tg k lv (8 - r) pl g → 0 ≤ lv → lv ≤ 50 → RmR E g lv → RsS E T N x i p w tg o (8 - r) pl g lv ((rg_X6_part E n).2.2 (some i) g) (pS o (cT T N) (wT T N) r k lv) := by
  intro r
  induction r with
  | zero =>
    intro n hr hn k lv g G l0 l1 rm
    obtain ⟨m, rfl⟩ : ∃ m, n = m + 3 := ⟨n - 3, by omega⟩
    rw [pS_eq]
    refine c_rsum (fun k lv g G l0 l1 rm => c_term (fun k lv g G l0 l1 rm => c_part hto (by omega) (fun _ => by omega) (fun f hf => ?_) G ⟨l0, l1⟩ rm) hpl G l0 l1 rm) hpl G l0 l1 rm
    cases hf
  | succ r ih =>
    intro n hr hn k lv g G l0 l1 rm
    obtain ⟨m, rfl⟩ : ∃ m, n = m + 3 := ⟨n - 3, by omega⟩
    rw [pS_eq]
    refine c_rsum (fun k lv g G l0 l1 rm => c_term (fun k lv g G l0 l1 rm => c_part hto (by omega) (fun h => ?_) (fun f hf => ⟨by omega, ?_⟩) G ⟨l0, l1⟩ rm) hpl G l0 l1 rm) hpl G l0 l1 rm
    · cases h
    · have e : f = pS o (cT T N) (wT T N) r := by cases hf; rfl
      subst e
      rw [show (8 : Int) - ((r + 1 : Nat) : Int) + 1 = 8 - (r : Int) by omega]
      exact ih m (by omega) (by omega)
end
