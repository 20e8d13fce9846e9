/-! A month: the model answers -/
set_option maxRecDepth 100000
section
variable {E : ax_E} {m : Nat} {h : ax_H}
/-- the last loop -/
theorem m_moLast {sC s1 : Sg} {K : Rw} {n x3 : Int} (V : KW K ∧ K32 K) (hn : n = K 152) (h59 : sC 0 59 = n) (h2 : sC 2 = K) (hG : G32 s1) (e : Es sC s1) : ∃ s2, Es (moEnd sC K n.toNat) s2 ∧ G32 s2 ∧ f_X5_month_232 E (some m) x3 0 (mdl m s1 h) = some (x3, mdl m (sGood (sw s2 2 (cpR (s2 2) 0 (fun i => s2 5 (73 * 9 + i)) 73))) h) := by
  have h7 := V.1.1.1
  have key : ∀ (j k : Nat) (s1 : Sg), (k : Int) + j = n → G32 s1 → Es (moEnd sC K k) s1 → ∃ s2, Es (moEnd sC K n.toNat) s2 ∧ G32 s2 ∧ ax_iter (fun s : Int × ax_H => lb_X5_month_232 E (some m) x3 s.1 s.2) ((k : Int), mdl m s1 h) = some (x3, mdl m (sGood (sw s2 2 (cpR (s2 2) 0 (fun i => s2 5 (73 * 9 + i)) 73))) h) := by
    intro j
    induction j with
    | zero =>
      intro k s1 ek g q
      refine ⟨s1, by rw [show n.toNat = k by omega]; exact q, g, it_done ?_⟩
      have e59 : s1 0 59 = n := by
        rw [q.2.1 59 (by decide) (by decide) (by decide) (by decide)]
        unfold moEnd
        rw [sw_ne _ (by decide), sw_ne _ (by decide), sw_ne _ (by decide), h59]
      dsimp only
      unfold lb_X5_month_232
      rw [md_gI59, Option.bind_some, e59, i2_of (a := (k : Int)) (by omega) (by omega), i2_of (a := n) (by omega) (by omega), if_neg (by omega), md_ce, Option.bind_some, m_takesBack (by decide) (by decide), Option.bind_some, md_ce, Option.bind_some, m_good, Option.bind_some]
      rfl
    | succ j ih =>
      intro k s1 ek g q
      obtain ⟨s2, p2, q2, g2⟩ := m_moEnd1 (E := E) (m := m) (h := h) (x3 := x3) V hn h59 h2 g k (by omega) q
      obtain ⟨s3, q3, g3, p3⟩ := ih (k + 1) s2 (by omega) g2 q2
      refine ⟨s3, q3, g3, ?_⟩
      rw [show ((k + 1 : Nat) : Int) = (k : Int) + 1 by omega] at p3
      exact (it_step (body := fun s : Int × ax_H => lb_X5_month_232 E (some m) x3 s.1 s.2) (s := ((k : Int), mdl m s1 h)) p2).trans p3
  have e0 : moEnd sC K 0 = sC := by
    unfold moEnd
    rw [show ((0 : Nat) : Int) = 0 from rfl, cpR_0, cpR_0, cpR_0, sw_self, sw_self, sw_self]
  exact key n.toNat 0 s1 (by omega) hG (by rw [e0]; exact e)
end
