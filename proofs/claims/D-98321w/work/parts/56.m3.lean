/-! ROWS that are as they must be; THE MODEL: what is lowered, repaid, lent -/
set_option maxRecDepth 100000
/-- a row of purses and debts of n people -/
def RV (n : Int) (K : Rw) : Prop := (0 ≤ K 71 ∧ K 71 ≤ 16) ∧ (0 ≤ K 72 ∧ K 72 ≤ 999) ∧ (∀ p : Int, 0 ≤ p → p < 7 → 0 ≤ K p ∧ K p ≤ 9999) ∧ ∀ d : Int, 0 ≤ d → d < K 71 → (0 ≤ K (7 + 4 * d) ∧ K (7 + 4 * d) < n) ∧ (0 ≤ K (7 + 4 * d + 1) ∧ K (7 + 4 * d + 1) < n) ∧ K (7 + 4 * d) ≠ K (7 + 4 * d + 1) ∧ (1 ≤ K (7 + 4 * d + 2) ∧ K (7 + 4 * d + 2) ≤ 9999) ∧ (0 ≤ K (7 + 4 * d + 3) ∧ K (7 + 4 * d + 3) ≤ 999)
theorem u1_32' {K : Rw} {i v : Int} (h : K32 K) (hv : i2 v = v) : K32 (u1 K i v) := u1_32 h hv
theorem removes_32 {K : Rw} {d : Int} (h : K32 K) (h0 : 0 ≤ K 71) (h1 : K 71 ≤ 16) : K32 (removesS K d) := cpR_32 (u1_32 h (i2_of (by omega) (by omega))) (fun i => h _)
theorem G32.row {s : Sg} (h : G32 s) (o : Nat) : K32 (s o) := fun i => h o i
theorem G32_row {s : Sg} {o : Nat} {f : Rw} (h : G32 s) (hf : K32 f) : G32 (sw s o f) := G32_sw h hf
section
variable {n : Int} {K : Rw}
theorem RV.amount {d v : Int} (H : RV n K) (h0 : 0 ≤ d) (h1 : d < K 71) (hv : 1 ≤ v ∧ v ≤ 9999) : RV n (u1 K (7 + 4 * d + 2) v) := by
  obtain ⟨a, b, c, e⟩ := H
  refine ⟨by rw [u1_ne _ (by omega)]; exact a, by rw [u1_ne _ (by omega)]; exact b, fun p p0 p1 => by rw [u1_ne _ (by omega)]; exact c p p0 p1, fun k k0 k1 => ?_⟩
  rw [u1_ne _ (by omega)] at k1
  obtain ⟨e1, e2, e3, e4, e5⟩ := e k k0 k1
  have n0 : u1 K (7 + 4 * d + 2) v (7 + 4 * k) = K (7 + 4 * k) := u1_ne _ (by omega)
  have n1 : u1 K (7 + 4 * d + 2) v (7 + 4 * k + 1) = K (7 + 4 * k + 1) := u1_ne _ (by omega)
  have n3 : u1 K (7 + 4 * d + 2) v (7 + 4 * k + 3) = K (7 + 4 * k + 3) := u1_ne _ (by omega)
  rw [n0, n1, n3]
  refine ⟨e1, e2, e3, ?_, e5⟩
  by_cases hk : k = d
  · subst hk
    rw [u1_eq]
    exact hv
  · rw [u1_ne _ (by omega)]
    exact e4
theorem RV.removes {d v : Int} (H : RV n K) (h0 : 0 ≤ d) (h1 : d < K 71) : RV n (removesS (u1 K (7 + 4 * d + 2) v) d) := by
  obtain ⟨a, b, c, e⟩ := H
  have g71 : removesS (u1 K (7 + 4 * d + 2) v) d 71 = K 71 - 1 := by
    unfold removesS
    rw [cpR_out (by rw [u1_ne _ (by omega)]; omega), u1_eq, u1_ne _ (by omega)]
  have lo : ∀ i, (i < 7 + 4 * d ∨ i = 72) → removesS (u1 K (7 + 4 * d + 2) v) d i = K i := by
    intro i hi
    unfold removesS
    rw [cpR_out (by rw [u1_ne _ (by omega)]; omega), u1_ne _ (by omega), u1_ne _ (by omega)]
  have hi : ∀ i, 7 + 4 * d ≤ i → i < 7 + 4 * (K 71 - 1) → removesS (u1 K (7 + 4 * d + 2) v) d i = K (i + 4) := by
    intro i h2 h3
    unfold removesS
    rw [cpR_in (by rw [u1_ne _ (by omega)]; omega), u1_ne _ (by omega)]
    congr 1
    omega
  refine ⟨by rw [g71]; omega, by rw [lo 72 (by omega)]; exact b, fun p p0 p1 => by rw [lo p (by omega)]; exact c p p0 p1, fun k k0 k1 => ?_⟩
  rw [g71] at k1
  by_cases hk : k < d
  · rw [lo _ (by omega), lo _ (by omega), lo _ (by omega), lo _ (by omega)]
    exact e k k0 (by omega)
  · rw [hi _ (by omega) (by omega), hi _ (by omega) (by omega), hi _ (by omega) (by omega), hi _ (by omega) (by omega)]
    have := e (k + 1) (by omega) (by omega)
    rw [show 7 + 4 * k + 4 = 7 + 4 * (k + 1) by omega, show 7 + 4 * k + 1 + 4 = 7 + 4 * (k + 1) + 1 by omega, show 7 + 4 * k + 2 + 4 = 7 + 4 * (k + 1) + 2 by omega, show 7 + 4 * k + 3 + 4 = 7 + 4 * (k + 1) + 3 by omega]
    exact this
theorem RV.drop {d : Int} (H : RV n K) (h0 : 0 ≤ d) (h1 : d < K 71) : RV n (removesS K d) := by
  have := H.removes (v := K (7 + 4 * d + 2)) h0 h1
  rwa [u1_self] at this
theorem removes_71 {d v : Int} (h1 : K 71 ≤ 16) (h0 : 0 ≤ d) (h2 : d < K 71) : removesS (u1 K (7 + 4 * d + 2) v) d 71 = K 71 - 1 := by
  unfold removesS
  rw [cpR_out (by rw [u1_ne _ (by omega)]; omega), u1_eq, u1_ne _ (by omega)]
theorem lowF_RV {p q : Int} : ∀ (f : Nat) (r d : Int) (K : Rw), RV n K → 0 ≤ d → 0 ≤ r → RV n (lowF p q f r d K) := by
  intro f
  induction f with
  | zero => intro r d K H _ _; exact H
  | succ f ih =>
    intro r d K H h0 hr
    unfold lowF
    split
    · rename_i h1
      obtain ⟨-, -, -, e4, -⟩ := H.2.2.2 d h0 h1
      split
      · split
        · exact ih _ _ _ (H.removes h0 h1) h0 (by omega)
        · rename_i hz
          exact ih _ _ _ (H.amount h0 h1 (by omega)) (by omega) (by omega)
      · exact ih _ _ _ H (by omega) hr
    · exact H
theorem lowF_32 {p q : Int} : ∀ (f : Nat) (r d : Int) (K : Rw), RV n K → K32 K → 0 ≤ d → 0 ≤ r → K32 (lowF p q f r d K) := by
  intro f
  induction f with
  | zero => intro r d K H hK _ _; exact hK
  | succ f ih =>
    intro r d K H hK h0 hr
    unfold lowF
    split
    · rename_i h1
      obtain ⟨-, -, -, e4, -⟩ := H.2.2.2 d h0 h1
      have h32 : K32 (u1 K (7 + 4 * d + 2) (K (7 + 4 * d + 2) - min r (K (7 + 4 * d + 2)))) := u1_32' hK (i2_of (by omega) (by omega))
      split
      · split
        · have ha := H.1
          exact ih _ _ _ (H.removes h0 h1) (removes_32 h32 (by rw [u1_ne _ (by omega)]; omega) (by rw [u1_ne _ (by omega)]; omega)) h0 (by omega)
        · rename_i hz
          exact ih _ _ _ (H.amount h0 h1 (by omega)) h32 (by omega) (by omega)
      · exact ih _ _ _ H hK (by omega) hr
    · exact hK
/-- of nothing nothing comes -/
theorem lowF_0 {p q : Int} : ∀ (f : Nat) (d : Int), RV n K → 0 ≤ d → lowF p q f 0 d K = K := by
  intro f
  induction f with
  | zero => intro d H _; rfl
  | succ f ih =>
    intro d H h0
    unfold lowF
    split
    · rename_i h1
      obtain ⟨-, -, -, e4, -⟩ := H.2.2.2 d h0 h1
      split
      · rw [show min 0 (K (7 + 4 * d + 2)) = 0 by omega, Int.sub_zero, u1_self, if_neg (by omega), Int.sub_zero]
        exact ih _ H (by omega)
      · exact ih _ H (by omega)
    · rfl
theorem pay_RV {g t a : Int} (H : RV n K) (hg : 0 ≤ g ∧ g < 7) (ht : 0 ≤ t ∧ t < 7) (hgt : g ≠ t) (h1 : 0 ≤ a) (h2 : a ≤ K g) (h3 : K t + a ≤ 9999) : RV n (payS K g t a) := by
  obtain ⟨a1, b, c, e⟩ := H
  have hi : ∀ i, 7 ≤ i → payS K g t a i = K i := by
    intro i hi
    unfold payS
    rw [u1_ne _ (by omega), u1_ne _ (by omega)]
  refine ⟨by rw [hi _ (by omega)]; exact a1, by rw [hi _ (by omega)]; exact b, fun p p0 p1 => ?_, fun d d0 d1 => ?_⟩
  · have c1 := c p p0 p1
    have c2 := c t ht.1 ht.2
    unfold payS
    by_cases e1 : p = t
    · subst e1
      rw [u1_eq, u1_ne _ (by omega)]
      omega
    · rw [u1_ne _ e1]
      by_cases e2 : p = g
      · subst e2
        rw [u1_eq]
        omega
      · rw [u1_ne _ e2]
        exact c1
  · rw [hi _ (by omega)] at d1
    rw [hi _ (by omega), hi _ (by omega), hi _ (by omega), hi _ (by omega)]
    exact e d d0 d1
theorem pay_32 {g t a : Int} (hK : K32 K) (h1 : i2 (K g - a) = K g - a) (h2 : i2 (u1 K g (K g - a) t + a) = u1 K g (K g - a) t + a) : K32 (payS K g t a) := u1_32' (u1_32' hK h1) h2
end
section
variable {E : ax_E} {m : Nat} {s : Sg} {h : ax_H} {n : Int}
theorem m_low {p q : Int} (hp : i2 p = p) (hq : i2 q = q) : ∀ (f : Nat) (r d : Int) (s : Sg), G32 s → RV n (s 2) → 0 ≤ d ∧ d ≤ s 2 71 → s 2 71 - d ≤ f → 0 ≤ r → i2 r = r → ax_iter (fun x : Int × Int × ax_H => lb_X5_lowers_6 E (some m) p q x.1 x.2.1 x.2.2) (r, d, mdl m s h) = some (mdl m (sw s 2 (lowF p q f r d (s 2))) h) := by
  intro f
  induction f with
  | zero =>
    intro r d s hG H h00 h1 hr hr2
    have h0 := h00.1
    have h02 := h00.2
    have a := H.1
    refine it_done ?_
    simp (disch := first | omega | assumption | exact hG _ _ | (refine i2_ofp ?_; omega)) only [lb_X5_lowers_6, md_ce, m_debts, Option.bind_some, i2_of]
    rw [if_neg (by omega), lowF, sw_self]
    rfl
  | succ f ih =>
    intro r d s hG H h00 h1 hr hr2
    have h0 := h00.1
    have h02 := h00.2
    have a := H.1
    by_cases hd : d < s 2 71
    · obtain ⟨-, -, -, e4, -⟩ := H.2.2.2 d h0 hd
      have hmin : 0 ≤ min r (s 2 (7 + 4 * d + 2)) ∧ min r (s 2 (7 + 4 * d + 2)) ≤ s 2 (7 + 4 * d + 2) ∧ min r (s 2 (7 + 4 * d + 2)) ≤ r := by omega
      have hrl := i2_lh hr2
      by_cases hi : s 2 (7 + 4 * d) = p ∧ s 2 (7 + 4 * d + 1) = q
      · have h32 : K32 (u1 (s 2) (7 + 4 * d + 2) (s 2 (7 + 4 * d + 2) - min r (s 2 (7 + 4 * d + 2)))) := u1_32' (hG.row 2) (i2_of (by omega) (by omega))
        have hG1 : G32 (sw s 2 (u1 (s 2) (7 + 4 * d + 2) (s 2 (7 + 4 * d + 2) - min r (s 2 (7 + 4 * d + 2))))) := G32_row hG h32
        by_cases hz : s 2 (7 + 4 * d + 2) - min r (s 2 (7 + 4 * d + 2)) = 0
        · refine (it_step (s' := (r - min r (s 2 (7 + 4 * d + 2)), d, mdl m (sw s 2 (removesS (u1 (s 2) (7 + 4 * d + 2) (s 2 (7 + 4 * d + 2) - min r (s 2 (7 + 4 * d + 2)))) d)) h)) ?_).trans ?_
          · simp (disch := first | omega | assumption | exact hG _ _ | (refine i2_ofp ?_; omega)) only [lb_X5_lowers_6, f_X5_lowers_108, md_ce, md_gR2, md_ld2, md_sto2, m_debts, m_isOf hG, m_lesser, b01_z, Option.bind_some, i2_of, sw_eq, u1_eq]
            rw [if_pos hd, if_neg (by simp [hi]), if_pos hz, m_removes hG1 h0 (by rw [sw_eq, u1_ne _ (by omega)]; exact hd) (by rw [sw_eq, u1_ne _ (by omega)]; omega)]
            simp only [Option.bind_some, sw_eq, sw_sw]
          · have g71 := removes_71 (K := s 2) (d := d) (v := s 2 (7 + 4 * d + 2) - min r (s 2 (7 + 4 * d + 2))) (by omega) h0 hd
            rw [ih _ _ _ (G32_row hG (removes_32 h32 (by rw [u1_ne _ (by omega)]; omega) (by rw [u1_ne _ (by omega)]; omega))) (by rw [sw_eq]; exact H.removes h0 hd) (by rw [sw_eq, g71]; omega) (by rw [sw_eq, g71]; omega) (by omega) (i2_of (by omega) (by omega)), sw_eq, sw_sw]
            conv => rhs; unfold lowF
            rw [if_pos hd, if_pos hi, if_pos hz]
        · refine (it_step (s' := (r - min r (s 2 (7 + 4 * d + 2)), d + 1, mdl m (sw s 2 (u1 (s 2) (7 + 4 * d + 2) (s 2 (7 + 4 * d + 2) - min r (s 2 (7 + 4 * d + 2))))) h)) ?_).trans ?_
          · simp (disch := first | omega | assumption | exact hG _ _ | (refine i2_ofp ?_; omega)) only [lb_X5_lowers_6, f_X5_lowers_108, md_ce, md_gR2, md_ld2, md_sto2, m_debts, m_isOf hG, m_lesser, b01_z, Option.bind_some, i2_of, sw_eq, u1_eq]
            rw [if_pos hd, if_neg (by simp [hi]), if_neg hz]
          · rw [ih _ _ _ hG1 (by rw [sw_eq]; exact H.amount h0 hd (by omega)) (by rw [sw_eq, u1_ne _ (by omega)]; omega) (by rw [sw_eq, u1_ne _ (by omega)]; omega) (by omega) (i2_of (by omega) (by omega)), sw_eq, sw_sw]
            conv => rhs; unfold lowF
            rw [if_pos hd, if_pos hi, if_neg hz]
      · refine (it_step (s' := (r, d + 1, mdl m s h)) ?_).trans ?_
        · simp (disch := first | omega | assumption | exact hG _ _ | (refine i2_ofp ?_; omega)) only [lb_X5_lowers_6, md_ce, m_debts, m_isOf hG, b01_z, Option.bind_some, i2_of]
          rw [if_pos hd, if_pos hi]
        · rw [ih _ _ _ hG H (by omega) (by omega) hr hr2]
          conv => rhs; unfold lowF
          rw [if_pos hd, if_neg hi]
    · refine it_done ?_
      simp (disch := first | omega | assumption | exact hG _ _ | (refine i2_ofp ?_; omega)) only [lb_X5_lowers_6, md_ce, m_debts, Option.bind_some, i2_of]
      rw [if_neg hd]
      unfold lowF
      rw [if_neg hd, sw_self]
      rfl
theorem m_lowers {p q a : Int} (hG : G32 s) (H : RV n (s 2)) (hp : i2 p = p) (hq : i2 q = q) (ha : 0 ≤ a) (ha2 : i2 a = a) : f_X5_lowers E (some m) p q a (mdl m s h) = some (mdl m (sw s 2 (lowersS (s 2) p q a)) h) := by
  have := H.1
  exact m_low hp hq 17 a 0 s hG H (by omega) (by omega) ha ha2
theorem m_canRepay {p q a : Int} (hG : G32 s) (H : RV n (s 2)) (hp : 0 ≤ p ∧ p < 7) (hq : 0 ≤ q ∧ q < 7) (ha2 : i2 a = a) (ho : i2 (owed (s 2) p q) = owed (s 2) p q) : f_X5_canRepay E (some m) p q a (mdl m s h) = some (canRepayS (s 2) p q a, mdl m s h) := by
  have h1 := H.1
  have c1 := H.2.2.1 p hp.1 hp.2
  have c2 := H.2.2.1 q hq.1 hq.2
  have e1 := i2_lh ha2
  have e2 := i2_lh ho
  unfold canRepayS
  by_cases e : p = q
  · simp (disch := first | omega | assumption | exact hG _ _ | (refine i2_ofp ?_; omega)) only [f_X5_canRepay, i2_of, if_pos e]
  · simp (disch := first | omega | assumption | exact hG _ _ | (refine i2_ofp ?_; omega)) only [f_X5_canRepay, i2_of, if_neg e, md_ce, m_owed hG, m_lesser, md_gR2, md_ld2, Option.bind_some, Int.zero_add]
theorem m_repays {p q a : Int} (hG : G32 s) (H : RV n (s 2)) (hp : 0 ≤ p ∧ p < 7) (hq : 0 ≤ q ∧ q < 7) (hpq : p ≠ q) (ha : 0 ≤ a) (ha1 : a ≤ s 2 p) (ha2 : s 2 q + a ≤ 9999) : f_X5_repays E (some m) p q a (mdl m s h) = some (mdl m (sw s 2 (repaysS (s 2) p q a)) h) := by
  have c1 := H.2.2.1 p hp.1 hp.2
  have c2 := H.2.2.1 q hq.1 hq.2
  have hG1 : G32 (sw s 2 (payS (s 2) p q a)) := G32_row hG (pay_32 (g := p) (t := q) (a := a) (hG.row 2) (i2_of (by omega) (by omega)) (by rw [u1_ne _ (Ne.symm hpq)]; exact i2_of (by omega) (by omega)))
  have H1 : RV n (sw s 2 (payS (s 2) p q a) 2) := by rw [sw_eq]; exact pay_RV H hp hq hpq ha ha1 ha2
  simp (disch := first | omega | assumption | exact hG _ _ | (refine i2_ofp ?_; omega)) only [f_X5_repays, md_gR2, md_ld2, md_sto2, md_ce, Option.bind_some, sw_eq, sw_sw, Int.zero_add]
  have e := m_lowers (E := E) (m := m) (h := h) (p := p) (q := q) (a := a) hG1 H1 (i2_of (by omega) (by omega)) (i2_of (by omega) (by omega)) ha (i2_of (by omega) (by omega))
  rw [sw_eq, sw_sw] at e
  unfold payS at e
  rw [e]
  rfl
end
