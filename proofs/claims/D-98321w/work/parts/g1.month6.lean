/-! A month: its end, in the model (the loop) -/
set_option maxRecDepth 100000
section
variable {E : ax_E} {m : Nat} {h : ax_H}
theorem moEnd_s (sC : Sg) (K : Rw) (k : Nat) : moEnd sC K (k + 1) = sw (sw (sw (moEnd sC K k) 29 (u1 (moEnd sC K k 29) k (K k))) 30 (u1 (moEnd sC K k 30) k (balanceS K k))) 31 (u1 (moEnd sC K k 31) k ((ones16 (doorsB K k).toNat : Nat) : Int)) := by
  have a29 : moEnd sC K k 29 = cpR (sC 29) 0 (fun i => K i) k := by unfold moEnd; rw [sw_ne _ (by decide), sw_ne _ (by decide), sw_eq]
  have a30 : moEnd sC K k 30 = cpR (sC 30) 0 (fun i => balanceS K i) k := by unfold moEnd; rw [sw_ne _ (by decide), sw_eq]
  have a31 : moEnd sC K k 31 = cpR (sC 31) 0 (fun i => ((ones16 (doorsB K i).toNat : Nat) : Int)) k := by unfold moEnd; rw [sw_eq]
  rw [a29, a30, a31, cpR_s (by omega) (by omega), cpR_s (by omega) (by omega), cpR_s (by omega) (by omega)]
  unfold moEnd
  funext o
  by_cases c1 : o = 31
  · subst c1; rw [sw_eq, sw_eq]; rfl
  · rw [sw_ne _ c1, sw_ne _ c1]
    by_cases c2 : o = 30
    · subst c2; rw [sw_eq, sw_eq]; rfl
    · rw [sw_ne _ c2, sw_ne _ c2]
      by_cases c3 : o = 29
      · subst c3; rw [sw_eq, sw_eq]; rfl
      · rw [sw_ne _ c3, sw_ne _ c3, sw_ne _ c1, sw_ne _ c2, sw_ne _ c3]
end
