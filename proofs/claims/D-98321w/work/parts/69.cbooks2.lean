/-! THE COMPONENT: debts dropped, lessened, repaid; books copied, made -/
set_option maxRecDepth 100000
section
variable {E : ax_E} {h h' : ax_H} {a b : Nat} {K : Rw} {n : Int}
theorem c_drop {d : Int} (hB : BK h b K) (h0 : 0 ≤ d) (h1 : d < K 71) (h2 : K 71 ≤ 16) : ∃ h', f_X2_drop E (some b) d h = some h' ∧ BK h' b (removesS K d) ∧ OnS b 6 h h' := by
  have hB0 := hB
  obtain ⟨⟨t0, ⟨r0, r1, r2, r3, r4⟩, ⟨t1, t2, t3, t4, t5⟩, l1, l2, l3, l4, l5⟩, ⟨c5, c6⟩, cp, ck⟩ := hB
  let g0 := wI h b 5 (K 71 - 1)
  let N := (K 71 - 1 - d).toNat
  let D := d.toNat
  refine ⟨cpH (cpH (cpH (cpH g0 (b + 2) (b + 2) (D + 1) D N) (b + 3) (b + 3) (D + 1) D N) (b + 4) (b + 4) (D + 1) D N) (b + 5) (b + 5) (D + 1) D N, ?_, ?_, ?_⟩
  · unfold f_X2_drop f_X2_move
    have e1 : (d + 1).toNat = D + 1 := by show (d + 1).toNat = d.toNat + 1; omega
    rw [f_gI t0 (by decide), Option.bind_some, c5, f_pI t0 (by decide), Option.bind_some, f_gI (by rw [hT_wI]; exact t0) (by decide), hI_wI_eq, Option.bind_some, f_ce (by rw [hT_wI]; exact t0) (by decide), Option.bind_some]
    simp (disch := first | assumption | omega | (simp only [hT_wI, hL_wI, hT_cp, hL_cp]; first | assumption | omega)) only [f_gR, f_cpI, hR_wI, hR_cp_ne, r1, r2, r3, r4, Option.bind_some, e1]
    rfl
  · have k71 : removesS K d 71 = K 71 - 1 := by
      unfold removesS
      rw [cpR_out (by omega), u1_eq]
    have lo : ∀ i, (i < 7 + 4 * d ∨ i = 72) → removesS K d i = K i := by
      intro i hi
      unfold removesS
      rw [cpR_out (by omega), u1_ne _ (by omega)]
    have hi : ∀ i, 7 + 4 * d ≤ i → i < 7 + 4 * (K 71 - 1) → removesS K d i = K (i + 4) := by
      intro i h2 h3
      unfold removesS
      rw [cpR_in (by omega)]
      congr 1
      omega
    have hs : BS (cpH (cpH (cpH (cpH g0 (b + 2) (b + 2) (D + 1) D N) (b + 3) (b + 3) (D + 1) D N) (b + 4) (b + 4) (D + 1) D N) (b + 5) (b + 5) (D + 1) D N) b := (((hB0.1.wI.cp (by omega)).cp (by omega)).cp (by omega)).cp (by omega)
    refine ⟨hs, ?_, fun p hp => ?_, fun k hk => ?_⟩
    · rw [k71, lo 72 (by omega)]
      rw [hI_cp_ne (by omega), hI_cp_ne (by omega), hI_cp_ne (by omega), hI_cp_ne (by omega), hI_wI_eq, hI_cp_ne (by omega), hI_cp_ne (by omega), hI_cp_ne (by omega), hI_cp_ne (by omega), hI_wI_ne (Or.inr (by decide))]
      exact ⟨rfl, c6⟩
    · rw [lo _ (by omega), hI_cp_ne (by omega), hI_cp_ne (by omega), hI_cp_ne (by omega), hI_cp_ne (by omega), hI_wI_ne (Or.inl (by omega))]
      exact cp p hp
    · rw [k71] at hk
      have q2 : hI (cpH (cpH (cpH (cpH g0 (b + 2) (b + 2) (D + 1) D N) (b + 3) (b + 3) (D + 1) D N) (b + 4) (b + 4) (D + 1) D N) (b + 5) (b + 5) (D + 1) D N) (b + 2) k = if D ≤ k ∧ k < D + N then hI h (b + 2) (k + 1) else hI h (b + 2) k := by
        rw [hI_cp_ne (by omega), hI_cp_ne (by omega), hI_cp_ne (by omega), hI_cp]
        by_cases q : D ≤ k ∧ k < D + N
        · rw [if_pos ⟨rfl, q⟩, if_pos q, hI_wI_ne (Or.inl (by omega)), show D + 1 + (k - D) = k + 1 by omega]
        · rw [if_neg (fun z => q z.2), if_neg q, hI_wI_ne (Or.inl (by omega))]
      have q3 : hI (cpH (cpH (cpH (cpH g0 (b + 2) (b + 2) (D + 1) D N) (b + 3) (b + 3) (D + 1) D N) (b + 4) (b + 4) (D + 1) D N) (b + 5) (b + 5) (D + 1) D N) (b + 3) k = if D ≤ k ∧ k < D + N then hI h (b + 3) (k + 1) else hI h (b + 3) k := by
        rw [hI_cp_ne (by omega), hI_cp_ne (by omega), hI_cp]
        by_cases q : D ≤ k ∧ k < D + N
        · rw [if_pos ⟨rfl, q⟩, if_pos q, hI_cp_ne (by omega), hI_wI_ne (Or.inl (by omega)), show D + 1 + (k - D) = k + 1 by omega]
        · rw [if_neg (fun z => q z.2), if_neg q, hI_cp_ne (by omega), hI_wI_ne (Or.inl (by omega))]
      have q4 : hI (cpH (cpH (cpH (cpH g0 (b + 2) (b + 2) (D + 1) D N) (b + 3) (b + 3) (D + 1) D N) (b + 4) (b + 4) (D + 1) D N) (b + 5) (b + 5) (D + 1) D N) (b + 4) k = if D ≤ k ∧ k < D + N then hI h (b + 4) (k + 1) else hI h (b + 4) k := by
        rw [hI_cp_ne (by omega), hI_cp]
        by_cases q : D ≤ k ∧ k < D + N
        · rw [if_pos ⟨rfl, q⟩, if_pos q, hI_cp_ne (by omega), hI_cp_ne (by omega), hI_wI_ne (Or.inl (by omega)), show D + 1 + (k - D) = k + 1 by omega]
        · rw [if_neg (fun z => q z.2), if_neg q, hI_cp_ne (by omega), hI_cp_ne (by omega), hI_wI_ne (Or.inl (by omega))]
      have q5 : hI (cpH (cpH (cpH (cpH g0 (b + 2) (b + 2) (D + 1) D N) (b + 3) (b + 3) (D + 1) D N) (b + 4) (b + 4) (D + 1) D N) (b + 5) (b + 5) (D + 1) D N) (b + 5) k = if D ≤ k ∧ k < D + N then hI h (b + 5) (k + 1) else hI h (b + 5) k := by
        rw [hI_cp]
        by_cases q : D ≤ k ∧ k < D + N
        · rw [if_pos ⟨rfl, q⟩, if_pos q, hI_cp_ne (by omega), hI_cp_ne (by omega), hI_cp_ne (by omega), hI_wI_ne (Or.inl (by omega)), show D + 1 + (k - D) = k + 1 by omega]
        · rw [if_neg (fun z => q z.2), if_neg q, hI_cp_ne (by omega), hI_cp_ne (by omega), hI_cp_ne (by omega), hI_wI_ne (Or.inl (by omega))]
      rw [q2, q3, q4, q5]
      have hD : (D : Int) = d := Int.toNat_of_nonneg h0
      have hN : (N : Int) = K 71 - 1 - d := Int.toNat_of_nonneg (by omega)
      by_cases hk2 : (k : Int) < d
      · rw [if_neg (by omega), if_neg (by omega), if_neg (by omega), if_neg (by omega), lo _ (by omega), lo _ (by omega), lo _ (by omega), lo _ (by omega)]
        exact ck k (by omega)
      · rw [if_pos (by omega), if_pos (by omega), if_pos (by omega), if_pos (by omega), hi _ (by omega) (by omega), hi _ (by omega) (by omega), hi _ (by omega) (by omega), hi _ (by omega) (by omega)]
        have := ck (k + 1) (by omega)
        rw [Int.natCast_add, show (7 + 4 * ((k : Int) + ((1 : Nat) : Int))) = 7 + 4 * (k : Int) + 4 by omega, show 7 + 4 * (k : Int) + 4 + 1 = 7 + 4 * (k : Int) + 1 + 4 by omega, show 7 + 4 * (k : Int) + 4 + 2 = 7 + 4 * (k : Int) + 2 + 4 by omega, show 7 + 4 * (k : Int) + 4 + 3 = 7 + 4 * (k : Int) + 3 + 4 by omega] at this
        exact this
  · refine OnS_cp (OnS_cp (OnS_cp (OnS_cp (OnS_wI (OnS.refl _ _ _) (by omega)) (by omega) ?_) (by omega) ?_) (by omega) ?_) (by omega) ?_
    · rw [hT_wI]; exact t2
    · rw [hT_cp, hT_wI]; exact t3
    · rw [hT_cp, hT_cp, hT_wI]; exact t4
    · rw [hT_cp, hT_cp, hT_cp, hT_wI]; exact t5
end
