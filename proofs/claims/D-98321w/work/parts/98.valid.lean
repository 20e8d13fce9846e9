/-! What holds of the model's rows between calls, and that acts keep it -/
set_option maxRecDepth 100000
/-- the rows between calls: so many calls were made -/
def VS (n : Int) (s : Sg) : Prop := G32 s ∧ KB (s 2) ∧ LsV (s 2) ∧ UnV s ∧ ∀ k : Int, 0 ≤ k → k < 7 → 0 ≤ s 1 k ∧ s 1 k ≤ n
theorem RV_congr {n : Int} {K K' : Rw} (H : RV n K) (e : ∀ i, 0 ≤ i → i < 73 → K' i = K i) : RV n K' := by
  obtain ⟨a1, a2, a3, a4⟩ := H
  refine ⟨by rw [e 71 (by omega) (by omega)]; exact a1, by rw [e 72 (by omega) (by omega)]; exact a2, fun p p0 p1 => by rw [e p (by omega) (by omega)]; exact a3 p p0 p1, fun d d0 d1 => ?_⟩
  rw [e 71 (by omega) (by omega)] at d1
  rw [e (7 + 4 * d) (by omega) (by omega), e (7 + 4 * d + 1) (by omega) (by omega), e (7 + 4 * d + 2) (by omega) (by omega), e (7 + 4 * d + 3) (by omega) (by omega)]
  exact a4 d d0 d1
theorem keep1_UnV {s : Sg} {w : Int} (hU : UnV s) (h15 : s 0 28 ≤ 15) (hR : RV (s 2 152) (s 2)) (hw : 0 ≤ w ∧ w ≤ 5) : UnV (keep1 s w) := by
  have h0 := hU.1.1
  have e28 : keep1 s w 0 28 = s 0 28 + 1 := by unfold keep1; rw [sw_eq, u1_eq]
  have e14 : keep1 s w 14 = u1 (cpR (s 14) (74 * s 0 28) (s 2) 73) (74 * s 0 28 + 73) w := by unfold keep1; rw [sw_ne _ (by decide), sw_eq]
  have e2 : keep1 s w 2 = s 2 := (sau_keep1 s w).1
  refine ⟨by omega, fun k k0 k1 => ?_⟩
  rw [e28] at k1
  rw [e2]
  by_cases c : k = s 0 28
  · have r1 : ∀ i : Int, 0 ≤ i → i < 73 → keep1 s w 14 (74 * k + i) = s 2 i := by
      intro i i0 i1
      rw [e14, u1_ne _ (by omega), cpR_in (by omega)]
      congr 1
      omega
    refine ⟨RV_congr hR r1, ?_⟩
    rw [e14, c, u1_eq]
    exact hw
  · obtain ⟨r, q⟩ := hU.2 k k0 (by omega)
    have r1 : ∀ i : Int, 0 ≤ i → i < 74 → keep1 s w 14 (74 * k + i) = s 14 (74 * k + i) := by
      intro i i0 i1
      rw [e14, u1_ne _ (by omega), cpR_out (by omega)]
    refine ⟨RV_congr r (fun i i0 i1 => r1 i i0 (by omega)), ?_⟩
    rw [r1 73 (by omega) (by omega)]
    exact q
theorem keeps_UnV {s : Sg} {w : Int} (hU : UnV s) (hR : RV (s 2 152) (s 2)) (hw : 0 ≤ w ∧ w ≤ 5) : UnV (keepsS s w) := by
  have := hU.1
  unfold keepsS
  split
  · rename_i c
    have e2 : shif1 s 2 = s 2 := (sau_shif1 s).1
    exact keep1_UnV (shif_UnV hU c) (by rw [shif1_28]; omega) (by rw [e2]; exact hR) hw
  · exact keep1_UnV hU (by omega) hR hw
theorem keeps_1 (s : Sg) (w : Int) : keepsS s w 1 = s 1 := by
  unfold keepsS keep1 shif1
  split
  · rw [sw_ne _ (by decide), sw_ne _ (by decide), sw_ne _ (by decide), sw_ne _ (by decide)]
  · rw [sw_ne _ (by decide), sw_ne _ (by decide)]
theorem VS_act {n w : Int} {s : Sg} {K : Rw} (H : VS n s) (hw : 0 ≤ w ∧ w ≤ 5) (hR : RV (s 2 152) K) (h32 : ∀ i, i2 (K i) = K i) (hu : ∀ i, 73 ≤ i → K i = s 2 i) : VS n (sw (keepsS s w) 2 K) := by
  obtain ⟨a1, a2, a3, a4, a5⟩ := H
  have k := keeps_UnV (w := w) a4 a2.2.2.2.2 hw
  refine ⟨G32_sw (keeps_32 a1 (i2_of (by omega) (by omega)) a4.1) h32, ?_, ?_, ?_, ?_⟩
  · rw [sw_eq]; exact a2.low hu hR
  · rw [sw_eq]; exact a3.low hu
  · refine ⟨?_, ?_⟩
    · rw [sw_ne _ (by decide)]; exact k.1
    · rw [show sw (keepsS s w) 2 K 0 = keepsS s w 0 from sw_ne _ (by decide), show sw (keepsS s w) 2 K 14 = keepsS s w 14 from sw_ne _ (by decide), sw_eq, hu 152 (by decide), ← keeps_2 s w]
      exact k.2
  · rw [sw_ne _ (by decide), keeps_1]; exact a5
theorem VS_tel {n v : Int} {s : Sg} (H : VS n s) (h1 : -7 < v) (h2 : v ≤ 1000000000) (hn : n ≤ 1000000000) : VS (n + 1) (telM s v) := by
  obtain ⟨a1, a2, a3, a4, a5⟩ := H
  unfold telM
  split
  · have q := a5 (-v) (by omega) (by omega)
    unfold sRef
    refine ⟨G32_sw (G32_sw a1 (u1_32 (a1 0) (i2_of (by omega) (by omega)))) (u1_32 (a1 1) (i2_of (by omega) (by omega))), ?_, ?_, ?_, ?_⟩
    · rw [sw_ne _ (by decide), sw_ne _ (by decide)]; exact a2
    · rw [sw_ne _ (by decide), sw_ne _ (by decide)]; exact a3
    · unfold UnV
      rw [sw_ne _ (by decide), sw_eq, u1_ne _ (by decide), sw_ne (o := 1) (p := 2) _ (by decide), sw_ne (o := 1) (p := 14) _ (by decide), sw_ne (o := 0) (p := 2) _ (by decide), sw_ne (o := 0) (p := 14) _ (by decide)]
      exact a4
    · rw [sw_eq]
      intro k k0 k1
      have := a5 k k0 k1
      unfold u1
      split <;> omega
  · unfold sGood
    refine ⟨G32_sw a1 (u1_32 (a1 0) (by decide)), ?_, ?_, ?_, ?_⟩
    · rw [sw_ne _ (by decide)]; exact a2
    · rw [sw_ne _ (by decide)]; exact a3
    · unfold UnV
      rw [sw_eq, u1_ne _ (by decide), sw_ne _ (by decide), sw_ne _ (by decide)]
      exact a4
    · rw [sw_ne _ (by decide)]
      intro k k0 k1
      have := a5 k k0 k1
      omega
theorem VS_up {n n' : Int} {s : Sg} (H : VS n s) (h : n ≤ n') : VS n' s := ⟨H.1, H.2.1, H.2.2.1, H.2.2.2.1, fun k k0 k1 => by have := H.2.2.2.2 k k0 k1; omega⟩
theorem VS_es {n : Int} {s s' : Sg} (H : VS n s) (e : Es s s') : VS n s' := by
  obtain ⟨a1, a2, a3, a4, a5⟩ := H
  exact ⟨e.2.2 a1, by rw [e.k]; exact a2, by rw [e.k]; exact a3, e.un a4, by rw [e.1 1 (by decide) (by decide)]; exact a5⟩
theorem waitO_VS {n : Int} {s : Sg} (H : VS n s) : VS n (waitO s).2 := by
  have hR := H.2.1.2.2.2.2
  have h71 := hR.1
  have h72 := hR.2.1
  unfold waitO
  split
  · exact H
  · unfold waitsS
    refine VS_act H (by decide) (waitT_RV hR (by omega) _ (by omega)) (waitT_32 hR (H.1 2) (by omega) _ (by omega)) (fun i hi => waitT_up _ _ i (by omega) (by omega))
theorem forgS_VS {n d : Int} {s : Sg} (H : VS n s) : VS n (forgS s d).2 := by
  have hR := H.2.1.2.2.2.2
  have h71 := hR.1
  unfold forgS
  split
  · exact H
  · exact VS_act H (by decide) (hR.drop (by omega) (by omega)) (removes_32 (H.1 2) h71.1 h71.2) (fun i hi => rem_u s d (by omega) h71.2 i hi)
