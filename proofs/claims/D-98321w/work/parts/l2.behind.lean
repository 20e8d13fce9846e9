/-! The component's reader of orders: a sum behind a word; a number that is nought -/
set_option maxRecDepth 100000
section
variable {E : ax_E} {T : Rw} {N x i p w k tg : Nat} {lv dp pl o : Int} {g g0 : ax_H}
theorem RsS.n {res : Option ((Nat × ax_H) ⊕ (Option Nat × ax_H))} {X : PR Dn} (S : RsS E T N x i p w tg o dp pl g lv res X) (R : RdN' i p pl g0 g) : RsS E T N x i p w tg o dp pl g0 lv res X := by
  have q1 := R.2.1
  have q2 := R.2.2
  cases X with
  | inl t =>
    obtain ⟨r, b1, b2⟩ := S
    exact ⟨r, b1, b2.of R.1 (Int.le_refl _) (by omega) (by omega)⟩
  | inr vv =>
    obtain ⟨j, lv', F'⟩ := vv
    obtain ⟨u, g3, b1, b2, b3, b4, b5, b6, b7, b8⟩ := S
    rw [q1] at b6
    exact ⟨u, g3, b1, b2, b3, b4, R.1.trans b5 (Int.le_refl _), b6, by omega, by omega⟩
theorem c_behind {j : Nat} (hj : j < 44) (G : RdC E T N x i p w 25 k lv 0 0 g) (l0 : 0 ≤ lv) (l1 : lv ≤ 50) (rm : RmR E g lv) : RsS E T N x i p w 25 1 0 0 g lv (f_X25_behind E (some i) (some (E.2.2 (10 + j))) g) (if cT T N k = tc j then pS 1 (cT T N) (wT T N) 8 ((k : Int) + 1) lv else .inl (k : Int)) := by
  have iT := G.1.2.2.2.2.2.2.2.2.2
  have rm' := rm
  unfold RmR at rm'
  unfold f_X25_behind
  rw [f_dp iT.1 (by decide), if_pos rfl]
  by_cases c : cT T N k = tc j
  · obtain ⟨g1, x1, G1, N1⟩ := c_nxt G
    have q1 := N1.2.1
    have q2 := N1.2.2
    have iT1 := G1.1.2.2.2.2.2.2.2.2.2
    have bs : RsS E T N x i p w 25 1 0 0 g1 lv (fn_X6_sum E 64 (some i) g1) (pS 1 (cT T N) (wT T N) 8 (k + 1 : Nat) lv) := c_sumR (Or.inr ⟨rfl, rfl⟩) (Int.le_refl 0) 8 64 (by decide) (by decide) (k + 1) lv g1 G1 l0 l1 (by unfold RmR; omega)
    rw [show ((k + 1 : Nat) : Int) = (k : Int) + 1 by omega] at bs
    have bs := bs.n N1
    rw [acc_yes G hj c x1, Option.bind_some, if_pos c]
    dsimp only
    rw [f_dp iT1.1 (by decide), if_pos rfl, must_ok (by decide), tc_r, f_dp iT1.1 (by decide), if_pos rfl]
    cases hP : pS 1 (cT T N) (wT T N) 8 ((k : Int) + 1) lv with
    | inl t =>
      rw [hP] at bs
      obtain ⟨r, b1, b2⟩ := bs
      rw [b1, tc_l]
      exact ⟨r, rfl, b2⟩
    | inr vv =>
      obtain ⟨j', lv', F'⟩ := vv
      rw [hP] at bs
      obtain ⟨u, g3, b1, b2⟩ := bs
      rw [b1, tc_r]
      exact ⟨u, g3, rfl, b2⟩
  · obtain ⟨r, m1, m2⟩ := must_no (v := 0) G (by decide) (by omega) (by omega)
    rw [acc_no G hj c, Option.bind_some, if_neg c]
    dsimp only
    rw [f_dp iT.1 (by decide), if_pos rfl, m1, tc_l]
    exact ⟨r, rfl, m2.of (RdR.refl _ _ _ _) (Int.le_refl _) (by omega) (by omega)⟩
end
