/-! A law told: what the component writes into its root -/
set_option maxRecDepth 100000
section
variable {E : ax_E} {h h1 : ax_H} {x t dl dv ds du : Nat} {s : Sg}
theorem c_f8 {v : Int} {c z : Nat} (H : REP E h1 x t dl dv ds du s) (b : Blk x c z h h1) : REP E (wI h1 x 8 v) x t dl dv ds du (sw s 0 (u1 (s 0) 12 v)) ∧ Blk x c z h (wI h1 x 8 v) := by
  refine ⟨H.root (Or.inl rfl) ?_ ?_ (Sam_0 s (by decide) (by decide)), ?_⟩
  · obtain ⟨r1, r2, r3, r4, r5⟩ := H.2.2.1
    refine ⟨?_, ?_, ?_, ?_, ?_⟩
    · rw [hI_wI_ne (by omega), sw_eq, u1_ne _ (by decide)]; exact r1
    · rw [hI_wI_eq, sw_eq, u1_eq]
    · rw [hI_wI_ne (by omega), sw_eq, u1_ne _ (by decide)]; exact r3
    · rw [hI_wI_ne (by omega), sw_eq, u1_ne _ (by decide)]; exact r4
    · rw [hI_wI_ne (by omega), sw_eq, u1_ne _ (by decide)]; exact r5
  · obtain ⟨r1, r2⟩ := H.2.2.2.1
    refine ⟨fun k hk => ?_, fun k hk => ?_⟩
    · rw [hI_wI_ne (by omega), sw_ne _ (by decide)]; exact r1 k hk
    · rw [hI_wI_ne (by omega), sw_ne _ (by decide)]; exact r2 k hk
  · obtain ⟨y1, y2, y3, y4, y5⟩ := b
    exact ⟨y1, y2, y3, y4, fun a z1 z2 => (hC_wI_ne (by omega)).trans (y5 a z1 z2)⟩
/-- the tape is empty, before or behind the answer -/
theorem tel_11 (X : Sg) (v : Int) : sw (telM X v) 0 (u1 (telM X v 0) 11 0) = telM (sw X 0 (u1 (X 0) 11 0)) v := by
  have e : ∀ o : Nat, ∀ i : Int, sw (telM X v) 0 (u1 (telM X v 0) 11 0) o i = telM (sw X 0 (u1 (X 0) 11 0)) v o i := by
    intro o i
    unfold telM
    split
    · unfold sRef sw u1
      by_cases o0 : o = 0
      · subst o0
        by_cases i0 : i = 0
        · subst i0; simp
        · by_cases i1 : i = 11
          · subst i1; simp
          · simp [i0, i1]
      · simp [o0]
    · unfold sGood sw u1
      by_cases o0 : o = 0
      · subst o0
        by_cases i0 : i = 0
        · subst i0; simp
        · by_cases i1 : i = 11
          · subst i1; simp
          · simp [i0, i1]
      · simp [o0]
  funext o i
  exact e o i
theorem rdE_eq (s : Sg) (f : Int) : rdE s f = sw (sw s 0 (u1 (s 0) 12 f)) 0 (u1 (sw s 0 (u1 (s 0) 12 f) 0) 11 0) := by
  unfold rdE
  rw [sw_eq, sw_sw, u1_comm (i := 11) (j := 12) _ _ (by decide)]
end
