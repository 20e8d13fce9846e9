/-! A month of drawn lendings: what it computes -/
set_option maxRecDepth 100000
def mL (L : Int) : Int := (1103 * L + 12345) % 1000003
theorem mL_b (L : Int) : 0 ≤ mL L ∧ mL L ≤ 1000002 := by unfold mL; omega
/-- a lending drawn: lent so far, the draw's number, the books -/
def moLend (n : Int) (q : Int × Int × Rw) : Int × Int × Rw := if mL q.2.1 % n ≠ mL (mL q.2.1) % n ∧ mL (mL (mL q.2.1)) % 50 + 1 ≤ q.2.2 (mL q.2.1 % n) ∧ q.2.2 (mL (mL q.2.1) % n) + (mL (mL (mL q.2.1)) % 50 + 1) ≤ 9999 ∧ q.2.2 71 ≤ 15 then (q.1 + (mL (mL (mL q.2.1)) % 50 + 1), mL (mL (mL q.2.1)), lendsS q.2.2 (mL q.2.1 % n) (mL (mL q.2.1) % n) (mL (mL (mL q.2.1)) % 50 + 1)) else (q.1, mL (mL (mL q.2.1)), q.2.2)
/-- a repayment drawn -/
def moRep (n : Int) (q : Int × Int × Rw) : Int × Int × Rw := (q.1, mL (mL q.2.1), repS q.2.2 (mL q.2.1 % n) (mL (mL q.2.1) % n) 9999)
/-- the day's end -/
def moDay (q : Int × Int × Rw) : Int × Int × Int × Rw := if q.2.2 72 < 999 then (q.1, 1, q.2.1, (waitsS q.2.2).2) else (q.1, 0, q.2.1, q.2.2)
def moStep (n : Int) (a : Int × Int × Int × Rw) : Int × Int × Int × Rw := moDay (moRep n (moLend n (a.1, a.2.2.1, a.2.2.2)))
def moRun (n : Int) : Nat → Int × Int × Int × Rw → Int × Int × Int × Rw
  | 0, a => a
  | j + 1, a => if a.2.1 = 0 then a else moRun n j (moStep n a)
section
variable {E : ax_E} {m : Nat} {s : Sg} {h : ax_H}
theorem m_draws {n : Int} (hL : 0 ≤ s 0 60 ∧ s 0 60 ≤ 1000002) (hn : 1 ≤ n ∧ n ≤ 50) : f_X5_draws E (some m) n (mdl m s h) = some (mL (s 0 60) % n, mdl m (sw s 0 (u1 (s 0) 60 (mL (s 0 60)))) h) := by
  have b := mL_b (s 0 60)
  have e : (l2 ((1103 * (i2 (s 0 60))) + 12345)).tmod (l2 1000003) = mL (s 0 60) := by
    rw [i2_of (by omega) (by omega), show l2 1000003 = 1000003 by decide, show l2 (1103 * s 0 60 + 12345) = 1103 * s 0 60 + 12345 from l2_of (by omega) (by omega), Int.tmod_eq_emod_of_nonneg (by omega)]
    rfl
  unfold f_X5_draws
  rw [md_gI60, Option.bind_some, show l2 1000003 = 1000003 by decide, if_neg (by decide)]
  rw [show l2 1000003 = 1000003 by decide] at e
  have p : ax_pI (mdl m s h) (some m) 5 60 (mL (s 0 60)) = some (mdl m (sw s 0 (u1 (s 0) 60 (mL (s 0 60)))) h) := md_pI
  rw [e, p, Option.bind_some, md_gI60, Option.bind_some, i2_of (a := n) (by omega) (by omega), if_neg (by omega), sw_eq, u1_eq, i2_of (by omega) (by omega), Int.tmod_eq_emod_of_nonneg (by omega)]
end
