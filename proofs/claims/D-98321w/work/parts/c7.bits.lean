/-! Bits -/
set_option maxRecDepth 100000
theorem i31 (k : Nat) (hk : k < 31) : (Int32.ofInt (k : Int) &&& 31).toBitVec = BitVec.ofNat 32 k := by
  rw [Int32.toBitVec_and, i32_nat (by omega)]
  apply BitVec.eq_of_toNat_eq
  rw [BitVec.toNat_and]
  show (BitVec.ofNat 32 k).toNat &&& 31 = (BitVec.ofNat 32 k).toNat
  rw [BitVec.toNat_ofNat, Nat.mod_eq_of_lt (by omega), show (31 : Nat) = 2 ^ 5 - 1 by decide, Nat.and_two_pow_sub_one_eq_mod]
  have : k < 32 := by omega
  exact Nat.mod_eq_of_lt this
theorem shr_nat {n k : Nat} (hn : n < 2147483648) (hk : k < 31) : ax_shr (n : Int) (k : Int) = ((n >>> k : Nat) : Int) := by
  unfold ax_shr
  refine i32_int (Nat.lt_of_le_of_lt (Nat.shiftRight_le n k) hn) ?_
  rw [Int32.toBitVec_shiftRight, i31 k hk, i32_nat hn]
  have e : (BitVec.ofNat 32 k).smod 32 = BitVec.ofNat 32 k := by
    apply BitVec.eq_of_toNat_eq
    rw [BitVec.smod_eq]
    have m1 : (BitVec.ofNat 32 k).msb = false := by
      rw [BitVec.msb_eq_decide, BitVec.toNat_ofNat, Nat.mod_eq_of_lt (by omega)]
      simp
      omega
    have m2 : (32 : BitVec 32).msb = false := by decide
    rw [m1, m2]
    show ((BitVec.ofNat 32 k).umod 32).toNat = _
    rw [BitVec.umod_eq, BitVec.toNat_umod, BitVec.toNat_ofNat, Nat.mod_eq_of_lt (show k < 2 ^ 32 by omega)]
    show k % 32 = k
    exact Nat.mod_eq_of_lt (by omega)
  rw [e]
  apply BitVec.eq_of_toNat_eq
  have m0 : (BitVec.ofNat 32 n).msb = false := by
    rw [BitVec.msb_eq_decide, BitVec.toNat_ofNat, Nat.mod_eq_of_lt (by omega)]
    simp
    omega
  rw [BitVec.sshiftRight_eq', BitVec.sshiftRight_eq_of_msb_false m0, BitVec.toNat_ushiftRight, BitVec.toNat_ofNat, BitVec.toNat_ofNat, BitVec.toNat_ofNat, Nat.mod_eq_of_lt (show n < 2 ^ 32 by omega), Nat.mod_eq_of_lt (show k < 2 ^ 32 by omega), Nat.mod_eq_of_lt]
  exact Nat.lt_of_le_of_lt (Nat.shiftRight_le n k) (by omega)
theorem bit_nat {n k : Nat} (hn : n < 2147483648) (hk : k < 31) : ax_and (ax_shr (n : Int) (k : Int)) 1 = ((n >>> k % 2 : Nat) : Int) := by
  rw [shr_nat hn hk, show (1 : Int) = ((1 : Nat) : Int) from rfl, and_nat (Nat.lt_of_le_of_lt (Nat.shiftRight_le n k) hn) (by decide), Nat.and_one_is_mod]
theorem ushr_nat {n k : Nat} (hn : n < 2147483648) (hk : k < 31) : ax_ushr (n : Int) (k : Int) = ((n >>> k : Nat) : Int) := by
  unfold ax_ushr
  refine i32_int (Nat.lt_of_le_of_lt (Nat.shiftRight_le n k) hn) ?_
  show ((Int32.ofInt (n : Int)).toUInt32 >>> ((Int32.ofInt (k : Int)).toUInt32 &&& Int32.toUInt32 31)).toBitVec = _
  rw [UInt32.toBitVec_shiftRight]
  have e : ((Int32.ofInt (k : Int)).toUInt32 &&& Int32.toUInt32 31).toBitVec = BitVec.ofNat 32 k := i31 k hk
  have e2 : (Int32.ofInt (n : Int)).toUInt32.toBitVec = BitVec.ofNat 32 n := i32_nat hn
  rw [e, e2]
  apply BitVec.eq_of_toNat_eq
  rw [BitVec.ushiftRight_eq', BitVec.toNat_ushiftRight, BitVec.toNat_umod, BitVec.toNat_ofNat, BitVec.toNat_ofNat, BitVec.toNat_ofNat, Nat.mod_eq_of_lt (show n < 2 ^ 32 by omega), Nat.mod_eq_of_lt (show k < 2 ^ 32 by omega)]
  show n >>> (k % 32) = _
  rw [Nat.mod_eq_of_lt (show k < 32 by omega), Nat.mod_eq_of_lt (Nat.lt_of_le_of_lt (Nat.shiftRight_le n k) (by omega))]
theorem shl1 {k : Nat} (hk : k < 31) : ax_shl 1 (k : Int) = ((2 ^ k : Nat) : Int) := by
  have : k = 0 ∨ k = 1 ∨ k = 2 ∨ k = 3 ∨ k = 4 ∨ k = 5 ∨ k = 6 ∨ k = 7 ∨ k = 8 ∨ k = 9 ∨ k = 10 ∨ k = 11 ∨ k = 12 ∨ k = 13 ∨ k = 14 ∨ k = 15 ∨ k = 16 ∨ k = 17 ∨ k = 18 ∨ k = 19 ∨ k = 20 ∨ k = 21 ∨ k = 22 ∨ k = 23 ∨ k = 24 ∨ k = 25 ∨ k = 26 ∨ k = 27 ∨ k = 28 ∨ k = 29 ∨ k = 30 := by omega
  rcases this with rfl | rfl | rfl | rfl | rfl | rfl | rfl | rfl | rfl | rfl | rfl | rfl | rfl | rfl | rfl | rfl | rfl | rfl | rfl | rfl | rfl | rfl | rfl | rfl | rfl | rfl | rfl | rfl | rfl | rfl | rfl <;> decide
/-- how many of the lowest sixteen bits are set -/
def ones16 (n : Nat) : Nat := n % 2 + n >>> 1 % 2 + n >>> 2 % 2 + n >>> 3 % 2 + n >>> 4 % 2 + n >>> 5 % 2 + n >>> 6 % 2 + n >>> 7 % 2 + n >>> 8 % 2 + n >>> 9 % 2 + n >>> 10 % 2 + n >>> 11 % 2 + n >>> 12 % 2 + n >>> 13 % 2 + n >>> 14 % 2 + n >>> 15 % 2
section
variable {E : ax_E} {h : ax_H}
theorem m_isIn {n k : Nat} (hn : n < 2147483648) (hk : k < 31) : f_X5_isIn E (n : Int) (k : Int) h = some (b01 (n >>> k % 2 = 1), h) := by
  unfold f_X5_isIn
  rw [bit_nat hn hk]
  have := Nat.mod_lt (n >>> k) (show 2 > 0 by decide)
  rw [i2_of (by omega) (by omega), show i2 1 = 1 by decide]
  by_cases c : n >>> k % 2 = 1
  · rw [if_pos (by omega), b01_t c]
  · rw [if_neg (by omega), b01_f c]
theorem c_bit {n k : Nat} (hn : n < 2147483648) (hk : k < 31) : f_X0_has E (n : Int) (k : Int) h = some (b01 (n >>> k % 2 = 1), h) := by
  unfold f_X0_has
  rw [bit_nat hn hk]
  have := Nat.mod_lt (n >>> k) (show 2 > 0 by decide)
  rw [i2_of (by omega) (by omega), show i2 1 = 1 by decide]
  by_cases c : n >>> k % 2 = 1
  · rw [if_pos (by omega), b01_t c]
  · rw [if_neg (by omega), b01_f c]
theorem m_ones {n : Nat} (hn : n < 2147483648) : f_X5_ones E (n : Int) h = some (((ones16 n : Nat) : Int), h) := by
  have e := it_traj (body := fun s : Int × Int × ax_H => lb_X5_ones_4 E (n : Int) s.1 s.2.1 s.2.2) (fun k => (sm k (fun j => ((n >>> j % 2 : Nat) : Int)), (k : Int), h)) 16 (r := (sm 16 (fun j => ((n >>> j % 2 : Nat) : Int)), h)) ?_ ?_
  · unfold f_X5_ones f_X5_ones_4
    refine e.trans ?_
    have : sm 16 (fun j => ((n >>> j % 2 : Nat) : Int)) = ((ones16 n : Nat) : Int) := by
      unfold ones16
      simp only [sm, Nat.shiftRight_zero]
      omega
    rw [this]
  · intro k hk
    simp only [lb_X5_ones_4]
    rw [i2_of (a := (k : Int)) (by omega) (by omega), show i2 16 = 16 by decide, if_pos (by omega), bit_nat hn (by omega)]
    rfl
  · simp only [lb_X5_ones_4]
    rw [if_neg (by decide)]
    rfl
end
/-- the JDK's way to count bits, in natural numbers -/
def bcA (n : Nat) : Nat := Nat.sub n (Nat.land (Nat.shiftRight n 1) 1431655765)
def bcB (n : Nat) : Nat := Nat.add (Nat.land n 858993459) (Nat.land (Nat.shiftRight n 2) 858993459)
def bcC (n : Nat) : Nat := Nat.land (Nat.add n (Nat.shiftRight n 4)) 252645135
def bcD (n : Nat) : Nat := Nat.add n (Nat.shiftRight n 8)
def bcE (n : Nat) : Nat := Nat.land (Nat.add n (Nat.shiftRight n 16)) 63
def bcN (n : Nat) : Nat := bcE (bcD (bcC (bcB (bcA n))))
def onA (n k : Nat) : Nat := Nat.mod (Nat.shiftRight n k) 2
def onN (n : Nat) : Nat := Nat.add (Nat.add (Nat.add (Nat.add (onA n 0) (onA n 1)) (Nat.add (onA n 2) (onA n 3))) (Nat.add (Nat.add (onA n 4) (onA n 5)) (Nat.add (onA n 6) (onA n 7)))) (Nat.add (Nat.add (Nat.add (onA n 8) (onA n 9)) (Nat.add (onA n 10) (onA n 11))) (Nat.add (Nat.add (onA n 12) (onA n 13)) (Nat.add (onA n 14) (onA n 15))))
def bcK (a : Nat) : Nat → Bool
  | 0 => true
  | b + 1 => match Nat.beq (bcN (Nat.add (Nat.mul 256 a) b)) (onN (Nat.add (Nat.mul 256 a) b)) with
    | true => bcK a b
    | false => false
def bcL : Nat → Bool
  | 0 => true
  | a + 1 => match bcK a 256 with
    | true => bcL a
    | false => false
theorem bc_all : bcL 256 = true := by decide +kernel
theorem bcK_e {a : Nat} : ∀ (m : Nat), bcK a m = true → ∀ b, b < m → bcN (256 * a + b) = onN (256 * a + b) := by
  intro m
  induction m with
  | zero => intro _ b hb; omega
  | succ m ih =>
    intro h b hb
    unfold bcK at h
    split at h
    · rename_i e
      by_cases c : b = m
      · subst c
        exact Nat.eq_of_beq_eq_true e
      · exact ih h b (by omega)
    · cases h
theorem bcL_e : ∀ (m : Nat), bcL m = true → ∀ a, a < m → bcK a 256 = true := by
  intro m
  induction m with
  | zero => intro _ b hb; omega
  | succ m ih =>
    intro h b hb
    unfold bcL at h
    split at h
    · rename_i e
      by_cases c : b = m
      · subst c
        exact e
      · exact ih h b (by omega)
    · cases h
theorem bc_on {n : Nat} (h : n < 65536) : bcN n = ones16 n := by
  have e := bcK_e 256 (bcL_e 256 bc_all (n / 256) (by omega)) (n % 256) (by omega)
  rw [show 256 * (n / 256) + n % 256 = n by omega] at e
  rw [e]
  show ((n >>> 0 % 2 + n >>> 1 % 2 + (n >>> 2 % 2 + n >>> 3 % 2)) + (n >>> 4 % 2 + n >>> 5 % 2 + (n >>> 6 % 2 + n >>> 7 % 2))) + ((n >>> 8 % 2 + n >>> 9 % 2 + (n >>> 10 % 2 + n >>> 11 % 2)) + (n >>> 12 % 2 + n >>> 13 % 2 + (n >>> 14 % 2 + n >>> 15 % 2))) = _
  unfold ones16
  rw [Nat.shiftRight_zero]
  omega
theorem ones_le (n : Nat) : ones16 n ≤ 16 := by
  unfold ones16
  omega
theorem land_le (n m : Nat) : Nat.land n m ≤ m := Nat.and_le_right
theorem shift_le (n k : Nat) : Nat.shiftRight n k ≤ n := Nat.shiftRight_le n k
section
variable {E : ax_E} {h : ax_H}
theorem c_bitCount {n : Nat} (hn : n < 65536) : f_J16_bitCount E (n : Int) h = some (((ones16 n : Nat) : Int), h) := by
  unfold f_J16_bitCount
  have a0 : Nat.land (Nat.shiftRight n 1) 1431655765 ≤ n := Nat.le_trans Nat.and_le_left (Nat.shiftRight_le n 1)
  have hA : (n : Int) - ax_and (ax_ushr (n : Int) 1) 1431655765 = ((bcA n : Nat) : Int) := by
    have e := ushr_nat (n := n) (k := 1) (by omega) (by decide)
    have := and_nat (n := n >>> 1) (m := 1431655765) (Nat.lt_of_le_of_lt (Nat.shiftRight_le n 1) (by omega)) (by decide)
    rw [show (1 : Int) = ((1 : Nat) : Int) from rfl, e, show (1431655765 : Int) = ((1431655765 : Nat) : Int) from rfl, this]
    unfold bcA
    exact (Int.ofNat_sub a0).symm
  rw [hA]
  generalize hga : bcA n = ga
  have la : ga ≤ 65535 := by rw [← hga]; unfold bcA; exact Nat.le_trans (Nat.sub_le _ _) (by omega)
  have hB : ax_and (ga : Int) 858993459 + ax_and (ax_ushr (ga : Int) 2) 858993459 = ((bcB ga : Nat) : Int) := by
    have e := ushr_nat (n := ga) (k := 2) (by omega) (by decide)
    have e2 := and_nat (n := ga) (m := 858993459) (by omega) (by decide)
    have e3 := and_nat (n := ga >>> 2) (m := 858993459) (Nat.lt_of_le_of_lt (Nat.shiftRight_le ga 2) (by omega)) (by decide)
    rw [show (2 : Int) = ((2 : Nat) : Int) from rfl, e, show (858993459 : Int) = ((858993459 : Nat) : Int) from rfl, e2, e3]
    rfl
  rw [hB]
  generalize hgb : bcB ga = gb
  have lb : gb ≤ 131070 := by
    rw [← hgb]
    unfold bcB
    have x1 : Nat.land ga 858993459 ≤ ga := Nat.and_le_left
    have x2 : Nat.land (Nat.shiftRight ga 2) 858993459 ≤ ga := Nat.le_trans Nat.and_le_left (Nat.shiftRight_le ga 2)
    exact Nat.le_trans (Nat.add_le_add x1 x2) (by omega)
  have hC : ax_and ((gb : Int) + ax_ushr (gb : Int) 4) 252645135 = ((bcC gb : Nat) : Int) := by
    have e := ushr_nat (n := gb) (k := 4) (by omega) (by decide)
    have x2 := Nat.shiftRight_le gb 4
    have e2 := and_nat (n := gb + gb >>> 4) (m := 252645135) (by omega) (by decide)
    rw [show (4 : Int) = ((4 : Nat) : Int) from rfl, e, show (252645135 : Int) = ((252645135 : Nat) : Int) from rfl, ← Int.natCast_add, e2]
    rfl
  rw [hC]
  generalize hgc : bcC gb = gc
  have lc : gc ≤ 252645135 := by rw [← hgc]; exact Nat.and_le_right
  have hD : (gc : Int) + ax_ushr (gc : Int) 8 = ((bcD gc : Nat) : Int) := by
    have e := ushr_nat (n := gc) (k := 8) (by omega) (by decide)
    rw [show (8 : Int) = ((8 : Nat) : Int) from rfl, e]
    rfl
  rw [hD]
  generalize hgd : bcD gc = gd
  have ld : gd ≤ 505290270 := by
    rw [← hgd]
    have x2 : Nat.shiftRight gc 8 ≤ gc := Nat.shiftRight_le gc 8
    exact Nat.le_trans (Nat.add_le_add (Nat.le_refl gc) x2) (by omega)
  have hE : ax_and ((gd : Int) + ax_ushr (gd : Int) 16) 63 = ((bcE gd : Nat) : Int) := by
    have e := ushr_nat (n := gd) (k := 16) (by omega) (by decide)
    have x2 := Nat.shiftRight_le gd 16
    have e2 := and_nat (n := gd + gd >>> 16) (m := 63) (by omega) (by decide)
    rw [show (16 : Int) = ((16 : Nat) : Int) from rfl, e, show (63 : Int) = ((63 : Nat) : Int) from rfl, ← Int.natCast_add, e2]
    rfl
  rw [hE, ← hgd, ← hgc, ← hgb, ← hga]
  exact congrArg (fun q : Nat => some ((q : Int), h)) (bc_on hn)
end
