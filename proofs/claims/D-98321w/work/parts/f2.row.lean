/-! A row of debts from the tape: the model -/
set_option maxRecDepth 100000
theorem and255_f : al7 (fun n => decide (ax_and ((n : Int) - 128) 255 = ((n : Int) - 128) % 256)) 256 = true := by decide +kernel
theorem and255 {v : Int} (h0 : -128 ≤ v) (h1 : v ≤ 127) : ax_and v 255 = v % 256 := by
  have := al7_e 256 and255_f (v + 128).toNat (by omega)
  have e := of_decide_eq_true this
  rw [show (((v + 128).toNat : Nat) : Int) - 128 = v by omega] at e
  exact e
/-- a debt told, of the books alone -/
def dbK (K : Rw) (p q a : Int) : Int × Rw := ((debtS (fun _ => K) p q a).1, (debtS (fun _ => K) p q a).2 2)
theorem dbK_eq (s : Sg) (p q a : Int) : debtS s p q a = ((dbK (s 2) p q a).1, sw s 2 (dbK (s 2) p q a).2) := by
  have e : whyS (fun _ => s 2) p q a = whyS s p q a := rfl
  unfold dbK debtS
  rw [e]
  split
  · dsimp only; rw [sw_self]
  · dsimp only; rw [sw_eq]
theorem adds_up {K : Rw} {p q a : Int} (h : 0 ≤ K 71 ∧ K 71 ≤ 15) (i : Int) (hi : 73 ≤ i) : addsS K p q a i = K i := by
  unfold addsS
  rw [u1_ne _ (by omega), u1_ne _ (by omega), u1_ne _ (by omega), u1_ne _ (by omega), u1_ne _ (by omega)]
theorem adds_32 {K : Rw} {p q a : Int} (H : K32 K) (h : 0 ≤ K 71 ∧ K 71 ≤ 15) (hp : i2 p = p) (hq : i2 q = q) (ha : i2 a = a) : K32 (addsS K p q a) := by
  unfold addsS
  exact u1_32 (u1_32 (u1_32 (u1_32 (u1_32 H hp) hq) ha) (H 72)) (i2_of (by omega) (by omega))
theorem dbK_KW {K : Rw} {p q a : Int} (H : KW K) (h32 : K32 K) : KW (dbK K p q a).2 ∧ K32 (dbK K p q a).2 ∧ ∀ i, 73 ≤ i → (dbK K p q a).2 i = K i := by
  obtain ⟨k1, k2, k3, k4⟩ := H
  have hn := k1.1
  have hR := k1.2.2.2.2
  have h71 := hR.1
  unfold dbK debtS
  by_cases c : whyS (fun _ => K) p q a < 0
  · rw [if_pos c]
    exact ⟨⟨k1, k2, k3, k4⟩, h32, fun _ _ => rfl⟩
  · rw [if_neg c]
    dsimp only
    rw [sw_eq]
    unfold whyS at c
    dsimp only at c
    by_cases c1 : ¬ (1 ≤ a ∧ a ≤ 9999) ∨ p = q
    · rw [if_pos c1] at c
      exact absurd (by decide) c
    · rw [if_neg c1] at c
      by_cases c2 : ¬ ((0 ≤ p ∧ p ≤ K 152 - 1) ∧ (0 ≤ q ∧ q ≤ K 152 - 1))
      · rw [if_pos c2] at c
        exact absurd (by decide) c
      · rw [if_neg c2] at c
        by_cases c3 : K 71 = 16
        · rw [if_pos c3] at c
          exact absurd (by decide) c
        · have a1 : 1 ≤ a ∧ a ≤ 9999 := Decidable.not_not.mp (fun z => c1 (Or.inl z))
          have a2 : p ≠ q := fun z => c1 (Or.inr z)
          have a3 := Decidable.not_not.mp c2
          clear c c1 c2
          have h15 : 0 ≤ K 71 ∧ K 71 ≤ 15 := by omega
          have hu : ∀ i, 73 ≤ i → addsS K p q a i = K i := adds_up h15
          exact ⟨⟨k1.low hu (hR.adds h15.2 (by omega) (by omega) a2 a1), k2.low hu, k3.low (by decide) (by decide) hu, k4.low (by decide) (by decide) hu⟩, adds_32 h32 h15 (i2_of (by omega) (by omega)) (i2_of (by omega) (by omega)) (i2_of (by omega) (by omega)), hu⟩
theorem VW.dbK {n p q a : Int} {s : Sg} (H : VW n s) : VW n (sw s 2 (dbK (s 2) p q a).2) := by
  obtain ⟨a1, a2, a3⟩ := dbK_KW (p := p) (q := q) (a := a) H.2.1 (H.1.1 2)
  exact H.row a1 a2 (H.1.2.2.2.1.sw2 (by rw [a3 152 (by decide)]; exact Int.le_refl _))
theorem debtS_VW {n p q a : Int} {s : Sg} (H : VW n s) : VW n (debtS s p q a).2 := by
  rw [dbK_eq]
  exact H.dbK
/-- the amount of the k-th record -/
def rwA (F : Rw) (k : Nat) : Int := ax_and (F (4 * (k : Int) + 2)) 255 * 256 + ax_and (F (4 * (k : Int) + 3)) 255
/-- debts told, and the books, after k records -/
def rwK (K F : Rw) : Nat → Int × Rw
  | 0 => (0, K)
  | k + 1 => ((rwK K F k).1 + (if (dbK (rwK K F k).2 (F (4 * (k : Int))) (F (4 * (k : Int) + 1)) (rwA F k)).1 < 0 then 0 else 1), (dbK (rwK K F k).2 (F (4 * (k : Int))) (F (4 * (k : Int) + 1)) (rwA F k)).2)
def rwT (s : Sg) (k : Nat) (b : Int) : Sg := sw (sw s 2 (rwK (s 2) (s 7) k).2) 0 (u1 (u1 (s 0) 11 0) 6 (b + k - (rwK (s 2) (s 7) k).1))
def rowS (s : Sg) : Int × Sg := if s 0 11 = 0 then (-6, s) else ((rwK (s 2) (s 7) (s 0 11 / 4).toNat).1, rwT s (s 0 11 / 4).toNat (if s 0 11 % 4 = 0 then 0 else 1))
theorem rwK_b (K F : Rw) : ∀ k, 0 ≤ (rwK K F k).1 ∧ (rwK K F k).1 ≤ k := by
  intro k
  induction k with
  | zero => exact ⟨Int.le_refl _, Int.le_refl _⟩
  | succ k ih =>
    simp only [rwK]
    split <;> omega
theorem rwK_KW {K : Rw} (F : Rw) (H : KW K) (h32 : K32 K) : ∀ k, KW (rwK K F k).2 ∧ K32 (rwK K F k).2 ∧ ∀ i, 73 ≤ i → (rwK K F k).2 i = K i := by
  intro k
  induction k with
  | zero => exact ⟨H, h32, fun _ _ => rfl⟩
  | succ k ih =>
    obtain ⟨b1, b2, b3⟩ := dbK_KW (p := F (4 * (k : Int))) (q := F (4 * (k : Int) + 1)) (a := rwA F k) ih.1 ih.2.1
    exact ⟨b1, b2, fun i hi => (b3 i hi).trans (ih.2.2 i hi)⟩
theorem VW.z6 {n v : Int} {s : Sg} (H : VW n s) (hv : i2 v = v) : VW n (sw s 0 (u1 (s 0) 6 v)) := by
  obtain ⟨⟨g, kb, lv, un, re⟩, kw, im, tp, by_, wo, dr⟩ := H
  have eo : ∀ o : Nat, o ≠ 0 → sw s 0 (u1 (s 0) 6 v) o = s o := fun o o0 => sw_ne _ o0
  refine ⟨⟨G32_sw g (u1_32 (g 0) hv), by rw [eo 2 (by decide)]; exact kb, by rw [eo 2 (by decide)]; exact lv, ?_, by rw [eo 1 (by decide)]; exact re⟩, by rw [eo 2 (by decide)]; exact kw, fun k a b => ?_, by rw [sw_eq, u1_ne _ (by decide)]; exact tp, by rw [eo 7 (by decide)]; exact by_, by rw [eo 6 (by decide)]; exact wo, by rw [sw_eq, u1_ne _ (by decide)]; exact dr⟩
  · unfold UnV
    rw [sw_eq, u1_ne _ (by decide), eo 2 (by decide), eo 14 (by decide)]
    exact un
  · unfold imgK
    rw [eo 4 (by decide), eo 3 (by decide)]
    exact im k a b
theorem rwT_VW {n : Int} {s : Sg} (H : VW n s) (k : Nat) (b : Int) (hk : k ≤ 100) (hb : 0 ≤ b ∧ b ≤ 1) : VW n (rwT s k b) := by
  obtain ⟨a1, a2, a3⟩ := rwK_KW (s 7) H.2.1 (H.1.1 2) k
  have q := rwK_b (s 2) (s 7) k
  have V1 : VW n (sw s 2 (rwK (s 2) (s 7) k).2) := H.row a1 a2 (H.1.2.2.2.1.sw2 (by rw [a3 152 (by decide)]; exact Int.le_refl _))
  have V2 := V1.z11 (v := 0) (by decide)
  have V3 := V2.z6 (v := b + k - (rwK (s 2) (s 7) k).1) (i2_of (by omega) (by omega))
  rw [sw_eq, sw_sw, sw_ne _ (by decide)] at V3
  exact V3
theorem rowS_VW {n : Int} {s : Sg} (H : VW n s) : VW n (rowS s).2 := by
  unfold rowS
  split
  · exact H
  · have h11 := H.2.2.2.1
    exact rwT_VW H _ _ (by omega) (by split <;> omega)
theorem rowS_b {s : Sg} (h : 0 ≤ s 0 11 ∧ s 0 11 ≤ 400) : -7 < (rowS s).1 ∧ (rowS s).1 ≤ 100 := by
  unfold rowS
  split
  · dsimp only; omega
  · have := rwK_b (s 2) (s 7) (s 0 11 / 4).toNat
    dsimp only
    omega
/-- one record more -/
theorem rwT_s (s : Sg) (k : Nat) (b : Int) : rwT s (k + 1) b = sw (debtS (rwT s k b) (s 7 (4 * (k : Int))) (s 7 (4 * (k : Int) + 1)) (rwA (s 7) k)).2 0 (u1 (rwT s k b 0) 6 (rwT s k b 0 6 + (if (debtS (rwT s k b) (s 7 (4 * (k : Int))) (s 7 (4 * (k : Int) + 1)) (rwA (s 7) k)).1 < 0 then 1 else 0))) := by
  have e2 : rwT s k b 2 = (rwK (s 2) (s 7) k).2 := by unfold rwT; rw [sw_ne _ (by decide), sw_eq]
  have e0 : rwT s k b 0 = u1 (u1 (s 0) 11 0) 6 (b + k - (rwK (s 2) (s 7) k).1) := by unfold rwT; rw [sw_eq]
  rw [dbK_eq, e2]
  dsimp only
  rw [e0, u1_eq, u1_u1]
  have ec : b + ((k + 1 : Nat) : Int) - (rwK (s 2) (s 7) (k + 1)).1 = b + k - (rwK (s 2) (s 7) k).1 + (if (dbK (rwK (s 2) (s 7) k).2 (s 7 (4 * (k : Int))) (s 7 (4 * (k : Int) + 1)) (rwA (s 7) k)).1 < 0 then 1 else 0) := by
    simp only [rwK]
    split <;> omega
  have eK : (rwK (s 2) (s 7) (k + 1)).2 = (dbK (rwK (s 2) (s 7) k).2 (s 7 (4 * (k : Int))) (s 7 (4 * (k : Int) + 1)) (rwA (s 7) k)).2 := rfl
  unfold rwT
  rw [ec, eK]
  funext o
  by_cases c0 : o = 0
  · subst c0; rw [sw_eq, sw_eq]
  · rw [sw_ne _ c0, sw_ne _ c0]
    by_cases c2 : o = 2
    · subst c2; rw [sw_eq, sw_eq]
    · rw [sw_ne _ c2, sw_ne _ c2, sw_ne _ c0, sw_ne _ c2]
theorem rwK_s1 (s : Sg) (k : Nat) (b : Int) : (rwK (s 2) (s 7) (k + 1)).1 = (rwK (s 2) (s 7) k).1 + (if (debtS (rwT s k b) (s 7 (4 * (k : Int))) (s 7 (4 * (k : Int) + 1)) (rwA (s 7) k)).1 < 0 then 0 else 1) := by
  have e2 : rwT s k b 2 = (rwK (s 2) (s 7) k).2 := by unfold rwT; rw [sw_ne _ (by decide), sw_eq]
  rw [dbK_eq, e2]
  rfl
section
variable {E : ax_E} {m : Nat} {s : Sg} {h : ax_H}
theorem m_rowStep {n b : Int} (H : VW n s) (hb : 0 ≤ b ∧ b ≤ 1) (k : Nat) (hk : 4 * (k : Int) + 4 ≤ s 0 11) : lb_X5_row_40 E (some m) (s 0 11) (rwK (s 2) (s 7) k).1 (4 * (k : Int)) (mdl m (rwT s k b) h) = some (.inl ((rwK (s 2) (s 7) (k + 1)).1, 4 * (k : Int) + 4, mdl m (rwT s (k + 1) b) h)) := by
  have h11 := H.2.2.2.1
  have V := rwT_VW H k b (by omega) hb
  have q := rwK_b (s 2) (s 7) k
  have hG := V.1.1
  have hK := V.2.1.1
  have by_ := H.2.2.2.2.1
  have e7 : rwT s k b 7 = s 7 := by unfold rwT; rw [sw_ne _ (by decide), sw_ne _ (by decide)]
  have e06 : rwT s k b 0 6 = b + k - (rwK (s 2) (s 7) k).1 := by unfold rwT; rw [sw_eq, u1_eq]
  have y0 := by_ (4 * (k : Int)) (by omega) (by omega)
  have y1 := by_ (4 * (k : Int) + 1) (by omega) (by omega)
  have y2 := by_ (4 * (k : Int) + 2) (by omega) (by omega)
  have y3 := by_ (4 * (k : Int) + 3) (by omega) (by omega)
  have eA : rwA (s 7) k = ax_and (s 7 (4 * (k : Int) + 2)) 255 * 256 + ax_and (s 7 (4 * (k : Int) + 3)) 255 := rfl
  have bA : 0 ≤ rwA (s 7) k ∧ rwA (s 7) k ≤ 65535 := by
    rw [eA, and255 y2.1 y2.2, and255 y3.1 y3.2]
    omega
  have h71 := hK.2.2.2.2.1
  have wb := why_b (rwT s k b) (s 7 (4 * (k : Int))) (s 7 (4 * (k : Int) + 1)) (rwA (s 7) k)
  unfold lb_X5_row_40
  rw [i2_of (a := s 0 11) (by omega) (by omega), i2_of (a := 4 * (k : Int) + 4) (by omega) (by omega), if_neg (by omega), md_gR9, Option.bind_some, md_ld7 (by omega) (by omega), Option.bind_some, Option.bind_some, md_ld7 (by omega) (by omega), Option.bind_some, Option.bind_some, md_ld7 (by omega) (by omega), Option.bind_some, Option.bind_some, md_ld7 (by omega) (by omega), Option.bind_some, md_ce, Option.bind_some, e7, ← eA, m_whyNot hG hK (i2_of (by omega) (by omega)) (i2_of (by omega) (by omega)) (i2_of (by omega) (by omega)), Option.bind_some]
  dsimp only
  rw [i2_of (a := whyS _ _ _ _) (by omega) (by omega)]
  rw [rwT_s, rwK_s1 s k b]
  unfold debtS
  by_cases c : whyS (rwT s k b) (s 7 (4 * (k : Int))) (s 7 (4 * (k : Int) + 1)) (rwA (s 7) k) < 0
  · have g : ∀ g : Int, md_gI6 (E := E) (m := m) (s := rwT s k b) (h := h) = md_gI6 := fun _ => rfl
    rw [if_neg (show ¬ whyS (rwT s k b) (s 7 (4 * (k : Int))) (s 7 (4 * (k : Int) + 1)) (rwA (s 7) k) = 0 by omega), if_pos c]
    dsimp only
    rw [if_pos c, if_pos c]
    unfold f_X5_row_106 f_X5_row_133 f_X5_row_144 f_X5_row_161
    simp only [show i2 0 = 0 by decide, if_true, md_gI6, Option.bind_some, md_pI6]
  · rw [if_pos (show whyS (rwT s k b) (s 7 (4 * (k : Int))) (s 7 (4 * (k : Int) + 1)) (rwA (s 7) k) = 0 by omega), if_neg c]
    have c16 : rwT s k b 2 71 ≤ 15 := by
      unfold whyS at c
      split at c
      · exact absurd (by decide) c
      · split at c
        · exact absurd (by decide) c
        · split at c
          · exact absurd (by decide) c
          · omega
    dsimp only
    rw [if_neg (show ¬ rwT s k b 2 71 < 0 by omega), if_neg (show ¬ rwT s k b 2 71 < 0 by omega)]
    unfold f_X5_row_106 f_X5_row_133 f_X5_row_144 f_X5_row_161
    rw [show i2 1 = 1 by decide, if_neg (by decide), md_gR9, Option.bind_some, md_ld7 (by omega) (by omega), Option.bind_some, Option.bind_some, md_ld7 (by omega) (by omega), Option.bind_some, md_ce, Option.bind_some, e7, m_adds h71.1 c16, Option.bind_some]
    simp only [show i2 1 = 1 by decide, show ¬ (1 : Int) = 0 by decide, if_false, md_gI6, Option.bind_some, md_pI6]
    rw [sw_ne (o := 2) (p := 0) _ (by decide)]
theorem m_row {n : Int} (H : VW n s) : f_X5_row E (some m) (mdl m s h) = some ((setP (rowS s)).1, mdl m (setP (rowS s)).2 h) := by
  have h11 := H.2.2.2.1
  obtain ⟨N, eN⟩ : ∃ N : Nat, N = (s 0 11 / 4).toNat := ⟨_, rfl⟩
  obtain ⟨b, eb⟩ : ∃ b : Int, b = if s 0 11 % 4 = 0 then 0 else 1 := ⟨_, rfl⟩
  have hb : 0 ≤ b ∧ b ≤ 1 := by rw [eb]; split <;> omega
  have qb := rwK_b (s 2) (s 7) N
  have i0 : ax_pI (mdl m s h) (some m) 5 11 0 = some (mdl m (sw s 0 (u1 (s 0) 11 0)) h) := md_pI11
  unfold f_X5_row rowS setP setM
  rw [md_gI11, Option.bind_some, i0, Option.bind_some, i2_of (a := s 0 11) (by omega) (by omega)]
  by_cases c : s 0 11 = 0
  · rw [if_pos c, if_pos c]
    dsimp only
    have e0 : sw s 0 (u1 (s 0) 11 0) = s := by
      have := u1_self (s 0) 11
      rw [c] at this
      rw [this, sw_self]
    rw [e0, md_ce, Option.bind_some, m_refuses (by decide) (by decide), Option.bind_some, if_pos (by decide)]
  · rw [if_neg c, if_neg c, ← eN, ← eb]
    dsimp only
    rw [if_neg (show ¬ (rwK (s 2) (s 7) N).1 < 0 by omega), show i2 4 = 4 by decide, if_neg (by decide), Int.tmod_eq_emod_of_nonneg (by omega), i2_of (a := s 0 11 % 4) (by omega) (by omega)]
    have e1 : ax_pI (mdl m (sw s 0 (u1 (s 0) 11 0)) h) (some m) 5 6 b = some (mdl m (rwT s 0 b) h) := by
      have eT : rwT s 0 b = sw s 0 (u1 (u1 (s 0) 11 0) 6 b) := by
        unfold rwT
        rw [show (rwK (s 2) (s 7) 0).2 = s 2 from rfl, show (rwK (s 2) (s 7) 0).1 = 0 from rfl, sw_self, show b + ((0 : Nat) : Int) - 0 = b by omega]
      rw [md_pI6, sw_sw, sw_eq, eT]
    have lp := it_traj (body := fun y : Int × Int × ax_H => lb_X5_row_40 E (some m) (s 0 11) y.1 y.2.1 y.2.2) (fun k => ((rwK (s 2) (s 7) k).1, 4 * (k : Int), mdl m (rwT s k b) h)) N (r := ((rwK (s 2) (s 7) N).1, mdl m (sSet (rwT s N b)) h)) (fun k hk => by
      have := m_rowStep (E := E) (m := m) (h := h) (b := b) H hb k (by omega)
      rw [show 4 * (((k + 1 : Nat)) : Int) = 4 * (k : Int) + 4 by omega]
      exact this) (by
      dsimp only
      unfold lb_X5_row_40
      rw [i2_of (a := s 0 11) (by omega) (by omega), i2_of (a := 4 * (N : Int) + 4) (by omega) (by omega), if_pos (by omega), md_ce, Option.bind_some, m_settled, Option.bind_some]
      rfl)
    have fin : ax_iter (fun y : Int × Int × ax_H => lb_X5_row_40 E (some m) (s 0 11) y.1 y.2.1 y.2.2) (0, 0, mdl m (rwT s 0 b) h) = some ((rwK (s 2) (s 7) N).1, mdl m (sSet (rwT s N b)) h) := lp
    by_cases c4 : s 0 11 % 4 = 0
    · rw [if_pos c4] at eb ⊢
      subst eb
      unfold f_X5_row_35 f_X5_row_40
      rw [e1, Option.bind_some]
      exact fin
    · rw [if_neg c4] at eb ⊢
      subst eb
      unfold f_X5_row_35 f_X5_row_40
      rw [e1, Option.bind_some]
      exact fin
end
