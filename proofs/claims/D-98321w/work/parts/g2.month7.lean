/-! A month: its end, in the model (the loop's body) -/
set_option maxRecDepth 100000
section
variable {E : ax_E} {m : Nat} {h : ax_H}
theorem ones16_b (n : Nat) : 0 ≤ ((ones16 n : Nat) : Int) ∧ ((ones16 n : Nat) : Int) ≤ 16 := by have := ones_le n; omega
theorem m_moEnd1 {sC s1 : Sg} {K : Rw} {n x3 : Int} (V : KW K ∧ K32 K) (hn : n = K 152) (h59 : sC 0 59 = n) (h2 : sC 2 = K) (hG : G32 s1) (k : Nat) (hk : (k : Int) < n) (e : Es (moEnd sC K k) s1) : ∃ s2, lb_X5_month_232 E (some m) x3 (k : Int) (mdl m s1 h) = some (.inl ((k : Int) + 1, mdl m s2 h)) ∧ Es (moEnd sC K (k + 1)) s2 ∧ G32 s2 := by
  have hK := V.1.1
  have h7 := hK.1
  have hR := hK.2.2.2.2
  have h71 := hR.1
  have e59 : s1 0 59 = n := by
    rw [e.2.1 59 (by decide) (by decide) (by decide) (by decide)]
    unfold moEnd
    rw [sw_ne _ (by decide), sw_ne _ (by decide), sw_ne _ (by decide), h59]
  have e2 : s1 2 = K := by
    rw [e.k]
    unfold moEnd
    rw [sw_ne _ (by decide), sw_ne _ (by decide), sw_ne _ (by decide), h2]
  have kp := hR.2.2.1 (k : Int) (by omega) (by omega)
  obtain ⟨sa, ea⟩ : ∃ sa, sa = sw s1 29 (u1 (s1 29) k (K k)) := ⟨_, rfl⟩
  have ga : G32 sa := by rw [ea]; exact G32_sw hG (u1_32 (hG 29) (V.2 k))
  have qa := Es_sw (o := 29) (F := u1 (s1 29) k (K k)) e hG (by decide) (u1_32 (hG 29) (V.2 k))
  have a2 : sa 2 = K := by rw [ea, sw_ne _ (by decide), e2]
  have bb := bal_b hR (k : Int)
  have b32 : i2 (balanceS K k) = balanceS K k := i2_of (by omega) (by omega)
  obtain ⟨sb, eb⟩ : ∃ sb, sb = sw sa 30 (u1 (sa 30) k (balanceS K k)) := ⟨_, rfl⟩
  have gb : G32 sb := by rw [eb]; exact G32_sw ga (u1_32 (ga 30) b32)
  have b2' : sb 2 = K := by rw [eb, sw_ne _ (by decide), a2]
  have qb := Es_sw (o := 30) (F := u1 (sa 30) k (balanceS K k)) qa (by rw [← ea]; exact ga) (by decide) (u1_32 (ga 30) b32)
  rw [← ea, ← eb] at qb
  obtain ⟨sc, pc, qc⟩ := m_doorsOf (E := E) (m := m) (h := h) (s := sb) (v := (k : Int)) gb (by rw [b2']; exact V.1.1) (by rw [b2']; exact V.1.2.1) (by rw [b2']; omega)
  rw [b2'] at pc
  have gc := qc.2.2 gb
  obtain ⟨d, ed, bd⟩ := doorsB_n K (k : Int) (by omega)
  have ob := ones16_b d
  have o32 : i2 ((ones16 d : Nat) : Int) = ((ones16 d : Nat) : Int) := i2_of (by omega) (by omega)
  have qd := Es_sw (o := 31) (F := u1 (sc 31) k ((ones16 d : Nat) : Int)) (qb.trans qc) gc (by decide) (u1_32 (gc 31) o32)
  refine ⟨sw sc 31 (u1 (sc 31) k ((ones16 d : Nat) : Int)), ?_, ?_, G32_sw gc (u1_32 (gc 31) o32)⟩
  · unfold lb_X5_month_232
    have gR58 : ax_gR E (mdl m sb h) (some m) 5 58 = some (some (m + 31)) := md_gR
    rw [md_gI59, Option.bind_some, e59, i2_of (a := (k : Int)) (by omega) (by omega), i2_of (a := n) (by omega) (by omega), if_pos hk, md_gR56, Option.bind_some, md_gR2, Option.bind_some, Int.zero_add, md_ld2 (by omega) (by omega), Option.bind_some, e2, md_sto29 (by omega) (by omega), Option.bind_some, ← ea, md_gR57, Option.bind_some, md_ce, Option.bind_some, m_balanceOf ga (by rw [a2]; exact h71.1) (by rw [a2]; exact h71.2) (i2_of (by omega) (by omega)), Option.bind_some, a2]
    dsimp only
    rw [md_sto30 (by omega) (by omega), Option.bind_some, ← eb, gR58, Option.bind_some, md_ce, Option.bind_some, pc, Option.bind_some]
    dsimp only
    rw [ed, m_ones (by omega), Option.bind_some]
    dsimp only
    rw [md_sto31 (by omega) (by omega), Option.bind_some]
  · rw [moEnd_s, ed, Int.toNat_natCast]
    have f29 : s1 29 = moEnd sC K k 29 := e.1 29 (by decide) (by decide)
    have fa30 : sa 30 = moEnd sC K k 30 := by rw [ea, sw_ne _ (by decide)]; exact e.1 30 (by decide) (by decide)
    have fc31 : sc 31 = moEnd sC K k 31 := by
      rw [qc.1 31 (by decide) (by decide), eb, sw_ne _ (by decide), ea, sw_ne _ (by decide)]
      exact e.1 31 (by decide) (by decide)
    rw [f29, fa30, fc31] at qd
    rw [fc31]
    exact qd
end
