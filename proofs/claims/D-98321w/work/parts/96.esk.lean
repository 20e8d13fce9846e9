/-! What is laid aside, in rows that differ in scratch alone -/
set_option maxRecDepth 100000
theorem Es_sw {s s' : Sg} {o : Nat} {F : Rw} (e : Es s s') (hG : G32 s') (ho : o ≠ 0) (hF : ∀ i, i2 (F i) = F i) : Es (sw s o F) (sw s' o F) := by
  obtain ⟨e1, e2, e3⟩ := e
  refine ⟨fun p h0 h12 => ?_, fun k k0 k1 k2 k3 => ?_, fun _ => G32_sw hG hF⟩
  · by_cases c : p = o
    · subst c
      rw [sw_eq, sw_eq]
    · rw [sw_ne _ c, sw_ne _ c, e1 p h0 h12]
  · rw [sw_ne _ (Ne.symm ho), sw_ne _ (Ne.symm ho), e2 k k0 k1 k2 k3]
theorem Es_u0 {s s' : Sg} {k v : Int} (e : Es s s') (hG : G32 s') (hv : i2 v = v) : Es (sw s 0 (u1 (s 0) k v)) (sw s' 0 (u1 (s' 0) k v)) := by
  obtain ⟨e1, e2, e3⟩ := e
  refine ⟨fun p h0 h12 => ?_, fun j k0 k1 k2 k3 => ?_, fun _ => G32_sw hG (u1_32 (hG 0) hv)⟩
  · rw [sw_ne _ h0, sw_ne _ h0, e1 p h0 h12]
  · rw [sw_eq, sw_eq]
    unfold u1
    split
    · rfl
    · exact e2 j k0 k1 k2 k3
theorem Es.r0 {s s' : Sg} (e : Es s s') : s' 0 28 = s 0 28 := e.2.1 28 (by decide) (by decide) (by decide) (by decide)
theorem Es_keep1 {s s' : Sg} {w : Int} (e : Es s s') (hG : G32 s) (hG' : G32 s') (hw : i2 w = w) (h0 : 0 ≤ s 0 28 ∧ s 0 28 ≤ 16) : Es (keep1 s w) (keep1 s' w) := by
  unfold keep1
  rw [e.r0, e.k, e.1 14 (by decide) (by decide)]
  have hF : ∀ i, i2 (u1 (cpR (s 14) (74 * s 0 28) (s 2) 73) (74 * s 0 28 + 73) w i) = u1 (cpR (s 14) (74 * s 0 28) (s 2) 73) (74 * s 0 28 + 73) w i := u1_32 (cpR_32 (hG 14) (hG 2)) hw
  have a := Es_u0 (k := 28) (v := s 0 28 + 1) (Es_sw e hG' (o := 14) (by decide) hF) (G32_sw hG' hF) (i2_of (by omega) (by omega))
  rw [sw_ne _ (by decide), sw_ne _ (by decide)] at a
  exact a
theorem Es_shif1 {s s' : Sg} (e : Es s s') (hG : G32 s) (hG' : G32 s') (h0 : 0 ≤ s 0 28 ∧ s 0 28 ≤ 16) : Es (shif1 s) (shif1 s') := by
  unfold shif1
  rw [e.r0, e.1 14 (by decide) (by decide)]
  have hF : ∀ i, i2 (cpR (s 14) 0 (fun j => s 14 (j + 74)) 1110 i) = cpR (s 14) 0 (fun j => s 14 (j + 74)) 1110 i := cpR_32 (hG 14) (fun j => hG 14 (j + 74))
  have a := Es_u0 (k := 28) (v := s 0 28 - 1) (Es_sw e hG' (o := 14) (by decide) hF) (G32_sw hG' hF) (i2_of (by omega) (by omega))
  rw [sw_ne _ (by decide), sw_ne _ (by decide)] at a
  exact a
theorem shif1_32 {s : Sg} (hG : G32 s) (h0 : 0 ≤ s 0 28 ∧ s 0 28 ≤ 16) : G32 (shif1 s) := G32_sw (G32_sw hG (cpR_32 (hG 14) (fun j => hG 14 (j + 74)))) (u1_32 (hG 0) (i2_of (by omega) (by omega)))
theorem shif1_28 (s : Sg) : shif1 s 0 28 = s 0 28 - 1 := by
  unfold shif1
  rw [sw_eq, u1_eq]
theorem Es_keeps {s s' : Sg} {w : Int} (e : Es s s') (hG : G32 s) (hG' : G32 s') (hw : i2 w = w) (h0 : 0 ≤ s 0 28 ∧ s 0 28 ≤ 16) : Es (keepsS s w) (keepsS s' w) := by
  unfold keepsS
  rw [e.r0]
  by_cases c : s 0 28 = 16
  · rw [if_pos c, if_pos c]
    exact Es_keep1 (Es_shif1 e hG hG' h0) (shif1_32 hG h0) (shif1_32 hG' (by rw [e.r0]; exact h0)) hw (by rw [shif1_28]; omega)
  · rw [if_neg c, if_neg c]
    exact Es_keep1 e hG hG' hw h0
theorem Es.un {s s' : Sg} (e : Es s s') (hU : UnV s) : UnV s' := by
  unfold UnV
  rw [e.r0, e.k, e.1 14 (by decide) (by decide)]
  exact hU
section
variable {E : ax_E} {h h' : ax_H} {a b : Nat} {K : Rw} {n : Int}
theorem c_cred {d v : Int} (hB : BK h b K) (h0 : 0 ≤ d) (h1 : d < K 71) (h2 : K 71 ≤ 16) : BK (wI h (b + 3) d.toNat v) b (u1 K (7 + 4 * d + 1) v) ∧ OnS b 6 h (wI h (b + 3) d.toNat v) := by
  have hB0 := hB
  obtain ⟨-, ⟨c5, c6⟩, cp, ck⟩ := hB
  refine ⟨⟨hB0.1.wI, ?_, fun p hp => ?_, fun k hk => ?_⟩, OnS_wI (OnS.refl _ _ _) (by omega)⟩
  · rw [u1_ne _ (by omega), u1_ne _ (by omega), hI_wI_ne (by omega), hI_wI_ne (by omega)]
    exact ⟨c5, c6⟩
  · rw [u1_ne _ (by omega), hI_wI_ne (by omega)]
    exact cp p hp
  · rw [u1_ne _ (by omega)] at hk
    obtain ⟨k1, k2, k3, k4⟩ := ck k hk
    have n0 : u1 K (7 + 4 * d + 1) v (7 + 4 * k) = K (7 + 4 * k) := u1_ne _ (by omega)
    have n2 : u1 K (7 + 4 * d + 1) v (7 + 4 * k + 2) = K (7 + 4 * k + 2) := u1_ne _ (by omega)
    have n3 : u1 K (7 + 4 * d + 1) v (7 + 4 * k + 3) = K (7 + 4 * k + 3) := u1_ne _ (by omega)
    rw [n0, n2, n3, hI_wI_ne (by omega), hI_wI_ne (a := b + 3) (b := b + 4) (by omega), hI_wI_ne (a := b + 3) (b := b + 5) (by omega)]
    refine ⟨k1, ?_, k3, k4⟩
    by_cases e : (k : Int) = d
    · rw [e, u1_eq]
      have : k = d.toNat := by omega
      rw [this, hI_wI_eq]
    · rw [u1_ne _ (by omega), hI_wI_ne (by omega)]
      exact k2
end
