/-! THE COMPONENT: books that are written -/
set_option maxRecDepth 100000
section
variable {E : ax_E} {h h' : ax_H} {a b : Nat} {K : Rw} {n : Int}
theorem c_canPay {g t v : Int} (hB : BK h b K) (hK : K32 K) (hV : RV n K) (hg : 0 ≤ g ∧ g < 7) (ht : 0 ≤ t ∧ t < 7) (hv : -1000000000 ≤ v ∧ v ≤ 1000000000) : f_X2_canPay E (some b) g t v h = some (b01 (v ≤ K g ∧ K t + v ≤ 9999), h) := by
  obtain ⟨⟨t0, ⟨r0, -⟩, ⟨t1, -⟩, l1, -⟩, -, cp, -⟩ := hB
  have c1 := cp g.toNat (by omega)
  have c2 := cp t.toNat (by omega)
  rw [Int.toNat_of_nonneg (by omega)] at c1 c2
  have v1 := hV.2.2.1 g hg.1 hg.2
  have v2 := hV.2.2.1 t ht.1 ht.2
  unfold f_X2_canPay f_X2_canPay_28
  rw [f_gR t0 (by decide), r0, Option.bind_some, f_ld t1 (by decide) hg.1 (by omega) (by omega), Option.bind_some, c1, i2_of (by omega) (by omega), i2_of (by omega) (by omega)]
  simp only [Option.bind_some]
  rw [f_ld t1 (by decide) ht.1 (by omega) (by omega), Option.bind_some, c2, i2_of (by omega) (by omega), i2_of (by omega) (by omega)]
  by_cases e1 : K g < v
  · rw [if_pos e1, b01_f (by omega)]
  · rw [if_neg e1]
    by_cases e2 : 9999 < K t + v
    · rw [if_pos e2, b01_f (by omega)]
    · rw [if_neg e2, b01_t (by omega)]
theorem c_pay {g t v : Int} (hB : BK h b K) (hg : 0 ≤ g ∧ g < 7) (ht : 0 ≤ t ∧ t < 7) : ∃ h', f_X2_pay E (some b) g t v h = some h' ∧ BK h' b (payS K g t v) ∧ OnS b 6 h h' := by
  have hB0 := hB
  obtain ⟨⟨t0, ⟨r0, -⟩, ⟨t1, -⟩, l1, -⟩, ⟨c5, c6⟩, cp, ck⟩ := hB
  have c1 := cp g.toNat (by omega)
  have c2 := cp t.toNat (by omega)
  rw [Int.toNat_of_nonneg (by omega)] at c1 c2
  refine ⟨wI (wI h (b + 1) g.toNat (K g - v)) (b + 1) t.toNat (u1 K g (K g - v) t + v), ?_, ?_, OnS_wI (OnS_wI (OnS.refl _ _ _) (by omega)) (by omega)⟩
  · unfold f_X2_pay
    rw [f_gR t0 (by decide), r0, Option.bind_some, f_ld t1 (by decide) hg.1 (by omega) (by omega), Option.bind_some, c1, f_sto t1 (by decide) hg.1 (by omega) (by omega), Option.bind_some, f_gR (by rw [hT_wI]; exact t0) (by decide), hR_wI, r0, Option.bind_some, f_ld (by rw [hT_wI]; exact t1) (by decide) ht.1 (by rw [hL_wI]; omega) (by rw [hL_wI]; omega), Option.bind_some]
    have e : hI (wI h (b + 1) g.toNat (K g - v)) (b + 1) t.toNat = u1 K g (K g - v) t := by
      by_cases hgt : t = g
      · rw [hgt, hI_wI_eq, u1_eq]
      · rw [hI_wI_ne (Or.inr (by omega)), u1_ne _ hgt, c2]
    rw [e, f_sto (by rw [hT_wI]; exact t1) (by decide) ht.1 (by rw [hL_wI]; omega) (by rw [hL_wI]; omega)]
    rfl
  · have hi : ∀ i, 7 ≤ i → payS K g t v i = K i := by
      intro i hi
      unfold payS
      rw [u1_ne _ (by omega), u1_ne _ (by omega)]
    refine ⟨hB0.1.wI.wI, ?_, fun p hp => ?_, fun k hk => ?_⟩
    · rw [hi 71 (by omega), hi 72 (by omega), hI_wI_ne (Or.inl (by omega)), hI_wI_ne (Or.inl (by omega)), hI_wI_ne (Or.inl (by omega)), hI_wI_ne (Or.inl (by omega))]
      exact ⟨c5, c6⟩
    · unfold payS
      by_cases p1 : (p : Int) = t
      · rw [p1, u1_eq]
        have : p = t.toNat := by omega
        rw [this, hI_wI_eq]
      · rw [hI_wI_ne (Or.inr (by omega)), u1_ne _ p1]
        by_cases p2 : (p : Int) = g
        · rw [p2, u1_eq]
          have : p = g.toNat := by omega
          rw [this, hI_wI_eq]
        · rw [hI_wI_ne (Or.inr (by omega)), u1_ne _ p2]
          exact cp p hp
    · rw [hi 71 (by omega)] at hk
      rw [hi _ (by omega), hi _ (by omega), hi _ (by omega), hi _ (by omega)]
      simp only [hI_wI]
      rw [if_neg (by omega), if_neg (by omega), if_neg (by omega), if_neg (by omega), if_neg (by omega), if_neg (by omega), if_neg (by omega), if_neg (by omega)]
      exact ck k hk
theorem c_add {d c v : Int} (hB : BK h b K) (h0 : 0 ≤ K 71) (h1 : K 71 ≤ 15) : ∃ h', f_X2_add E (some b) d c v h = some h' ∧ BK h' b (addsS K d c v) ∧ OnS b 6 h h' := by
  have hB0 := hB
  obtain ⟨⟨t0, ⟨r0, r1, r2, r3, r4⟩, ⟨t1, t2, t3, t4, t5⟩, l1, l2, l3, l4, l5⟩, ⟨c5, c6⟩, cp, ck⟩ := hB
  refine ⟨wI (wI (wI (wI (wI h (b + 2) (K 71).toNat d) (b + 3) (K 71).toNat c) (b + 4) (K 71).toNat v) b 5 (K 71 + 1)) (b + 5) (K 71).toNat (K 72), ?_, ?_, ?_⟩
  · unfold f_X2_add
    simp (disch := first | assumption | omega | (simp only [hT_wI, hL_wI]; first | assumption | omega)) only [f_gR, f_gI, f_sto, f_pI, hR_wI, hI_wI_ne, r1, r2, r3, r4, c5, c6, Option.bind_some]
  · have k71 : addsS K d c v 71 = K 71 + 1 := by unfold addsS; rw [u1_eq]
    have lo : ∀ i, (i < 7 + 4 * K 71 ∨ i = 72) → addsS K d c v i = K i := by
      intro i hi
      unfold addsS
      rw [u1_ne _ (by omega), u1_ne _ (by omega), u1_ne _ (by omega), u1_ne _ (by omega), u1_ne _ (by omega)]
    refine ⟨hB0.1.wI.wI.wI.wI.wI, ?_, fun p hp => ?_, fun k hk => ?_⟩
    · rw [k71, lo 72 (by omega), hI_wI_ne (Or.inl (by omega)), hI_wI_eq]
      refine ⟨rfl, ?_⟩
      simp only [hI_wI]
      rw [if_neg (by omega), if_neg (by omega), if_neg (by omega), if_neg (by omega), if_neg (by omega)]
      exact c6
    · rw [lo _ (by omega)]
      simp only [hI_wI]
      rw [if_neg (by omega), if_neg (by omega), if_neg (by omega), if_neg (by omega), if_neg (by omega)]
      exact cp p hp
    · rw [k71] at hk
      by_cases hk2 : (k : Int) = K 71
      · have e0 : addsS K d c v (7 + 4 * k) = d := by
          unfold addsS
          rw [hk2, u1_ne _ (by omega), u1_ne _ (by omega), u1_ne _ (by omega), u1_ne _ (by omega), u1_eq]
        have e1 : addsS K d c v (7 + 4 * k + 1) = c := by
          unfold addsS
          rw [hk2, u1_ne _ (by omega), u1_ne _ (by omega), u1_ne _ (by omega), u1_eq]
        have e2 : addsS K d c v (7 + 4 * k + 2) = v := by
          unfold addsS
          rw [hk2, u1_ne _ (by omega), u1_ne _ (by omega), u1_eq]
        have e3 : addsS K d c v (7 + 4 * k + 3) = K 72 := by
          unfold addsS
          rw [hk2, u1_ne _ (by omega), u1_eq]
        have hkn : k = (K 71).toNat := by omega
        rw [e0, e1, e2, e3]
        simp only [hI_wI, hkn]
        refine ⟨?_, ?_, ?_, ?_⟩
        · rw [if_neg (by omega), if_neg (by omega), if_neg (by omega), if_neg (by omega), if_pos ⟨trivial, trivial⟩]
        · rw [if_neg (by omega), if_neg (by omega), if_neg (by omega), if_pos ⟨trivial, trivial⟩]
        · rw [if_neg (by omega), if_neg (by omega), if_pos ⟨trivial, trivial⟩]
        · rw [if_pos ⟨trivial, trivial⟩]
      · rw [lo _ (by omega), lo _ (by omega), lo _ (by omega), lo _ (by omega)]
        obtain ⟨k1, k2, k3, k4⟩ := ck k (by omega)
        rw [← k1, ← k2, ← k3, ← k4]
        simp only [hI_wI]
        rw [if_neg (by omega), if_neg (by omega), if_neg (by omega), if_neg (by omega), if_neg (by omega), if_neg (by omega), if_neg (by omega), if_neg (by omega), if_neg (by omega), if_neg (by omega), if_neg (by omega), if_neg (by omega), if_neg (by omega), if_neg (by omega), if_neg (by omega), if_neg (by omega), if_neg (by omega), if_neg (by omega), if_neg (by omega), if_neg (by omega)]
        exact ⟨rfl, rfl, rfl, rfl⟩
  · exact OnS_wI (OnS_wI (OnS_wI (OnS_wI (OnS_wI (OnS.refl _ _ _) (by omega)) (by omega)) (by omega)) (by omega)) (by omega)
end
