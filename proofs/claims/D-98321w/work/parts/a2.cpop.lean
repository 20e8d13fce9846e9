/-! An act undone: the component -/
set_option maxRecDepth 100000
section
variable {E : ax_E} {h h' : ax_H} {a d : Nat} {n : Int} {cap : Nat}
theorem c_lsPop (L : Ls0 E h a d n cap) (hc : cap ≤ 1000) (h1 : 1 ≤ n) (hd : hT h d = 104) (had : a ≠ d) : ∃ h' : ax_H, f_J2_remove E (some a) (n - 1) h = some (hR h d (n - 1).toNat, h') ∧ Ls0 E h' a d (n - 1) cap ∧ h'.1 = h.1 ∧ h'.2.1 = h.2.1 ∧ (∀ b, b ≠ a → b ≠ d → h'.2.2 b = h.2.2 b) ∧ ∀ k : Nat, (k : Int) < n - 1 → hR h' d k = hR h d k := by
  obtain ⟨ta, ra, ia, n0, c⟩ := id L
  have hld : n ≤ hL h d ∧ hL h d ≤ cap := by
    rcases c with c | c
    · omega
    · exact ⟨c.2.1, c.2.2⟩
  obtain ⟨g0, hg0⟩ : ∃ g0 : ax_H, g0 = wI h a 0 (hI h a 0 + 1) := ⟨_, rfl⟩
  have gT : ∀ b, hT g0 b = hT h b := fun b => by rw [hg0, hT_wI]
  have gL : ∀ b, hL g0 b = hL h b := fun b => by rw [hg0, hL_wI]
  have gR : ∀ b k, hR g0 b k = hR h b k := fun b k => by rw [hg0, hR_wI]
  have fin : f_J2_fastRemove_34 E (some a) (some d) (n - 1) g0 = some (wR (wI g0 a 2 (n - 1)) d (n - 1).toNat none) := by
    unfold f_J2_fastRemove_34
    rw [f_pI (by rw [gT]; exact ta) (by decide), Option.bind_some, f_stR0 (by rw [hT_wI, gT]; exact hd) (by decide) (by omega) (by rw [hL_wI, gL]; omega) (by rw [hL_wI, gL]; omega)]
    rfl
  have pre : f_J2_remove E (some a) (n - 1) h = (f_J2_fastRemove_34 E (some a) (some d) (n - 1) g0).bind (fun h5 => some (hR h d (n - 1).toNat, h5)) := by
    unfold f_J2_remove f_J4_checkIndex f_J5_checkIndex f_J2_fastRemove
    rw [f_gI ta (by decide), Option.bind_some, ia, i2_of (a := n - 1) (by omega) (by omega), if_neg (by omega), i2_of (a := n) (by omega) (by omega), if_pos (by omega), Option.bind_some, Option.bind_some, f_gR ta (by decide), ra, Option.bind_some, f_ldR hd (by decide) (by omega) (by omega) (by omega), Option.bind_some, f_ce ta (by decide), Option.bind_some, f_gI ta (by decide), Option.bind_some, f_pI ta (by decide), Option.bind_some, ← hg0, f_gI (by rw [gT]; exact ta) (by decide), Option.bind_some]
    have : hI g0 a 2 = n := by rw [hg0, hI_wI_ne (by omega)]; exact ia
    rw [this, i2_of (a := n - 1) (by omega) (by omega), if_neg (by omega)]
  rw [pre, fin, Option.bind_some]
  refine ⟨_, rfl, ⟨by rw [hT_wR, hT_wI, gT]; exact ta, by rw [hR_wR_ne (by omega), hR_wI, gR]; exact ra, by rw [hI_wR]; exact hI_wI_eq, by omega, Or.inr ⟨by rw [hT_wR, hT_wI, gT]; exact hd, by rw [hL_wR, hL_wI, gL]; omega, by rw [hL_wR, hL_wI, gL]; omega⟩⟩, ?_, ?_, fun b b1 b2 => ?_, fun k hk => ?_⟩
  · rw [hg0]; rfl
  · rw [hg0]; rfl
  · rw [hC_wR_ne b2, hC_wI_ne b1, hg0, hC_wI_ne b1]
  · rw [hR_wR_ne (by omega), hR_wI, gR]
end
