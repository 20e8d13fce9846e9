/-! THE COMPONENT: it is asked, and how deep one gets -/
set_option maxRecDepth 100000
def AskX (h : ax_H) (x : Nat) (N : Rw) : Prop := hT h (x + 15) = 3 ∧ hR h (x + 15) 0 = some (x + 16) ∧ hT h (x + 16) = 103 ∧ hL h (x + 16) = 10 ∧ ∀ k : Nat, k < 10 → hI h (x + 16) k = N k
theorem AskX.n {h : ax_H} {x : Nat} {e : Ev} (H : AskX h x e.1) : AskN h (x + 15) e := ⟨H.1, x + 16, by omega, H.2⟩
theorem KpW {x k : Nat} {v : Int} {h h1 : ax_H} (H : Kp x h h1) : Kp x h (wI h1 (x + 16) k v) := H.trans (Kp_wI (by unfold SZ; omega))
theorem OnW {x k : Nat} {v : Int} {h h1 : ax_H} (H : OnS (x + 16) 1 h h1) : OnS (x + 16) 1 h (wI h1 (x + 16) k v) := OnS_wI H (by omega)
def ask10 (h : ax_H) (x : Nat) (N : Rw) : ax_H := (wI (wI (wI (wI (wI (wI (wI (wI (wI (wI h (x + 16) 0 (N 0)) (x + 16) 1 (N 1)) (x + 16) 2 (N 2)) (x + 16) 3 (N 3)) (x + 16) 4 (N 4)) (x + 16) 5 (N 5)) (x + 16) 6 (N 6)) (x + 16) 7 (N 7)) (x + 16) 8 (N 8)) (x + 16) 9 (N 9))
theorem lt10 {k : Nat} (h : k < 10) : k = 0 ∨ k = 1 ∨ k = 2 ∨ k = 3 ∨ k = 4 ∨ k = 5 ∨ k = 6 ∨ k = 7 ∨ k = 8 ∨ k = 9 := by omega
section
variable {E : ax_E} {h h' : ax_H} {x t dl dv ds du : Nat} {s : Sg}
theorem c_ask {ow vi oe ba da : Int} (H : REP E h x t dl dv ds du s) (hG : G32 s) (hK : KB (s 2)) (h1 : 0 ≤ ow ∧ ow < s 2 152) (i1 : i2 vi = vi) (i3 : i2 oe = oe) (i4 : i2 ba = ba) (i5 : i2 da = da) : ∃ h', f_X0_ask E (some x) ow vi oe ba da h = some h' ∧ Kp x h h' ∧ OnS (x + 16) 1 h h' ∧ AskX h' x (numL ow vi oe ba (s 2 (73 + 2 * ow)) (s 2 (73 + 2 * ow + 1)) (-1) (-1) da (s 2 151)) := by
  obtain ⟨pl, rt, ri, ra, st, un, im, dr⟩ := H
  obtain ⟨a1, a2, ⟨-, -, a3, -⟩, -, ⟨t15, r15, t16, l16⟩, -⟩ := rt
  obtain ⟨⟨b1, -, -, -, -, b4, b5⟩, ⟨-, c7, -⟩, -, ⟨t10, l10, v10⟩, ⟨t11, l11, v11⟩, -⟩ := st
  obtain ⟨⟨p1, p2, p3⟩, -⟩ := pl
  have k1 := hK.1
  have w10 := v10 ow.toNat (by omega)
  have w11 := v11 ow.toNat (by omega)
  rw [Int.toNat_of_nonneg h1.1] at w10 w11
  have j1 : i2 ow = ow := i2_of (by omega) (by omega)
  have g : ∀ i, i2 (s 2 i) = s 2 i := fun i => hG 2 i
  refine ⟨ask10 h x (numL ow vi oe ba (s 2 (73 + 2 * ow)) (s 2 (73 + 2 * ow + 1)) (-1) (-1) da (s 2 151)), ?_, ?_, ?_, ?_⟩
  · simp (disch := first | assumption | omega | (simp only [hT_wI, hL_wI]; first | assumption | omega)) only [f_X0_ask, f_gR, f_gI, f_ld, f_sto, hR_wI, hI_wI_ne, a2, a3, r15, b4, b5, c7, w10, w11, Option.bind_some, j1, i1, i3, i4, i5, g]
    rfl
  · unfold ask10
    repeat first | exact Kp.refl _ _ | refine KpW ?_
  · unfold ask10
    repeat first | exact OnS.refl _ _ _ | refine OnW ?_
  · unfold ask10
    refine ⟨by simp only [hT_wI]; exact t15, by simp only [hR_wI]; exact r15, by simp only [hT_wI]; exact t16, by simp only [hL_wI]; exact l16, fun k hk => ?_⟩
    rcases lt10 hk with e | e | e | e | e | e | e | e | e | e <;> subst e <;> simp [hI_wI, numL]
end
