/-! A month: its end, in the model -/
set_option maxRecDepth 100000
/-- the three rows that tell what was drawn -/
def moR (n : Int) (K : Rw) (R : Rw) (f : Int → Int) (k : Nat) : Rw := cpR R 0 f k
def moEnd (sB : Sg) (K : Rw) (k : Nat) : Sg := sw (sw (sw sB 29 (cpR (sB 29) 0 (fun i => K i) k)) 30 (cpR (sB 30) 0 (fun i => balanceS K i) k)) 31 (cpR (sB 31) 0 (fun i => ((ones16 (doorsB K i).toNat : Nat) : Int)) k)
theorem or_nat' {n m : Nat} (hn : n < 128) (hm : m < 128) : ax_or (n : Int) (m : Int) = ((n ||| m : Nat) : Int) ∧ n ||| m < 128 := by
  have f : al7 (fun a => al7 (fun b => decide (ax_or (a : Int) (b : Int) = ((a ||| b : Nat) : Int)) && Nat.blt (a ||| b) 128) 128) 128 = true := by decide +kernel
  have f1 := al7_e 128 (al7_e 128 f n hn) m hm
  rw [Bool.and_eq_true] at f1
  exact ⟨of_decide_eq_true f1.1, Nat.le_of_ble_eq_true f1.2⟩
theorem doorsB_n (K : Rw) (v : Int) (hn : K 152 ≤ 7) : ∃ n : Nat, doorsB K v = n ∧ n < 128 := by
  have key : ∀ j : Nat, j ≤ 7 → ∃ n : Nat, foldN (fun a (o : Nat) => ax_or a (if (o : Int) = v then 0 else if 0 < deepS K o v then ax_shl 1 o else 0)) j 0 = (n : Int) ∧ n < 128 := by
    intro j
    induction j with
    | zero => intro _; exact ⟨0, rfl, by decide⟩
    | succ j ih =>
      intro hj
      obtain ⟨n, e, b⟩ := ih (by omega)
      have z : ∃ w : Nat, (if (j : Int) = v then (0 : Int) else if 0 < deepS K j v then ax_shl 1 j else 0) = (w : Int) ∧ w < 128 := by
        by_cases c1 : (j : Int) = v
        · rw [if_pos c1]; exact ⟨0, rfl, by decide⟩
        · rw [if_neg c1]
          by_cases c2 : 0 < deepS K j v
          · rw [if_pos c2, shl1 (by omega)]
            exact ⟨2 ^ j, rfl, Nat.lt_of_lt_of_le (Nat.pow_lt_pow_right (by decide) (show j < 7 by omega)) (by decide)⟩
          · rw [if_neg c2]; exact ⟨0, rfl, by decide⟩
      obtain ⟨w, e2, b2⟩ := z
      obtain ⟨o1, o2⟩ := or_nat' b b2
      refine ⟨n ||| w, ?_, o2⟩
      show ax_or (foldN _ j 0) (if (j : Int) = v then 0 else if 0 < deepS K j v then ax_shl 1 j else 0) = _
      rw [e, e2, o1]
  exact key (K 152).toNat (by omega)
