/-! A month: what its acts keep -/
set_option maxRecDepth 100000
theorem KW.rv {K K' : Rw} (H : KW K) (hR : RV (K 152) K') (hu : ∀ i, 73 ≤ i → K' i = K i) : KW K' := ⟨H.1.low hu hR, H.2.1.low hu, H.2.2.1.low (by decide) (by decide) hu, H.2.2.2.low (by decide) (by decide) hu⟩
theorem low_neg (p q : Int) : ∀ (n : Nat) (r d : Int) (K : Rw), 0 ≤ d → ∀ i, i < 0 → lowF p q n r d K i = K i := by
  intro n
  induction n with
  | zero => intro r d K _ i _; rfl
  | succ n ih =>
    intro r d K hd i hi
    unfold lowF
    split
    · split
      · split
        · rw [ih _ _ _ hd i hi]
          unfold removesS
          rw [cpR_out (by omega), u1_ne _ (by omega), u1_ne _ (by omega)]
        · rw [ih _ _ _ (by omega) i hi, u1_ne _ (by omega)]
      · exact ih _ _ _ (by omega) i hi
    · rfl
/-- the books a month works on: those of K0 in all that no act moves -/
def MoV (K0 K : Rw) : Prop := KW K ∧ K32 K ∧ ∀ i, (i < 0 ∨ 73 ≤ i) → K i = K0 i
theorem lends_MoV {K0 K : Rw} {g r a : Int} (V : MoV K0 K) (hg : 0 ≤ g ∧ g < K 152) (hr : 0 ≤ r ∧ r < K 152) (hgr : g ≠ r) (ha : 1 ≤ a ∧ a ≤ 9999) (h1 : a ≤ K g) (h2 : K r + a ≤ 9999) (h15 : K 71 ≤ 15) : MoV K0 (lendsS K g r a) := by
  obtain ⟨H, h32, hu⟩ := V
  have hn := H.1.1
  have hR := H.1.2.2.2.2
  have h71 := hR.1
  have v1 := hR.2.2.1 g (by omega) (by omega)
  have v2 := hR.2.2.1 r (by omega) (by omega)
  have hP := pay_RV hR (show 0 ≤ g ∧ g < 7 by omega) (show 0 ≤ r ∧ r < 7 by omega) hgr (by omega) h1 h2
  have e71 : payS K g r a 71 = K 71 := pay_u (by omega) (by omega) (by omega)
  have e72 : payS K g r a 72 = K 72 := pay_u (by omega) (by omega) (by omega)
  have h32' := pay_32 (a := a) h32 (g := g) (t := r) (i2_of (by omega) (by omega)) (by rw [u1_ne _ (by omega)]; exact i2_of (by omega) (by omega))
  have up : ∀ i, (i < 0 ∨ 73 ≤ i) → lendsS K g r a i = K i := fun i hi => by
    unfold lendsS addsS
    rw [e71, u1_ne _ (by omega), u1_ne _ (by omega), u1_ne _ (by omega), u1_ne _ (by omega), u1_ne _ (by omega)]
    unfold payS
    rw [u1_ne _ (by omega), u1_ne _ (by omega)]
  refine ⟨H.rv ?_ (fun i hi => up i (Or.inr hi)), ?_, fun i hi => (up i hi).trans (hu i hi)⟩
  · exact hP.adds (by omega) (by omega) (by omega) (Ne.symm hgr) ha
  · exact adds_32 h32' (by omega) (i2_of (by omega) (by omega)) (i2_of (by omega) (by omega)) (i2_of (by omega) (by omega))
theorem rep_MoVa {K0 K : Rw} {p q a : Int} (V : MoV K0 K) (h0 : 0 ≤ a) (hp : 0 ≤ p ∧ p < K 152) (hq : 0 ≤ q ∧ q < K 152) : MoV K0 (repS K p q a) := by
  obtain ⟨H, h32, hu⟩ := V
  have hn := H.1.1
  have hR := H.1.2.2.2.2
  have h71 := hR.1
  unfold repS
  by_cases c : 0 < canRepayS K p q a
  · rw [if_pos c]
    have v1 := hR.2.2.1 p (by omega) (by omega)
    have v2 := hR.2.2.1 q (by omega) (by omega)
    have ho := owed_b hR p q
    have hc : p ≠ q ∧ 0 ≤ canRepayS K p q a ∧ canRepayS K p q a ≤ K p ∧ K q + canRepayS K p q a ≤ 9999 := by
      unfold canRepayS at c ⊢
      by_cases e : p = q
      · rw [if_pos e] at c
        omega
      · rw [if_neg e] at c ⊢
        omega
    have hP := pay_RV hR (show 0 ≤ p ∧ p < 7 by omega) (show 0 ≤ q ∧ q < 7 by omega) hc.1 hc.2.1 hc.2.2.1 hc.2.2.2
    have h32' := pay_32 (a := canRepayS K p q a) h32 (g := p) (t := q) (i2_of (by omega) (by omega)) (by rw [u1_ne _ (by omega)]; exact i2_of (by omega) (by omega))
    have up : ∀ i, (i < 0 ∨ 73 ≤ i) → repaysS K p q (canRepayS K p q a) i = K i := fun i hi => by
      rcases hi with hi | hi
      · unfold repaysS lowersS
        rw [low_neg p q 17 _ 0 _ (by decide) i hi]
        unfold payS
        rw [u1_ne _ (by omega), u1_ne _ (by omega)]
      · exact rep_up h71.2 (by omega) (by omega) i hi
    refine ⟨H.rv ?_ (fun i hi => up i (Or.inr hi)), ?_, fun i hi => (up i hi).trans (hu i hi)⟩
    · unfold repaysS lowersS
      exact lowF_RV _ _ _ _ hP (by decide) hc.2.1
    · unfold repaysS lowersS
      exact lowF_32 _ _ _ _ hP h32' (by decide) hc.2.1
  · rw [if_neg c]
    exact ⟨H, h32, hu⟩
theorem rep_MoV {K0 K : Rw} {p q : Int} (V : MoV K0 K) (hp : 0 ≤ p ∧ p < K 152) (hq : 0 ≤ q ∧ q < K 152) : MoV K0 (repS K p q 9999) := rep_MoVa V (by decide) hp hq
theorem wait_MoV {K0 K : Rw} (V : MoV K0 K) (h9 : K 72 ≤ 998) : MoV K0 (waitsS K).2 := by
  obtain ⟨H, h32, hu⟩ := V
  have hR := H.1.2.2.2.2
  have h71 := hR.1
  have up : ∀ i, (i < 0 ∨ 73 ≤ i) → (waitsS K).2 i = K i := fun i hi => waitT_up _ _ i (by omega) (by omega)
  exact ⟨H.rv (waitT_RV hR (by omega) _ (by omega)) (fun i hi => up i (Or.inr hi)), waitT_32 hR h32 (by omega) _ (by omega), fun i hi => (up i hi).trans (hu i hi)⟩
/-- a month's state is sound: so much lent at most -/
def MoQ (K0 : Rw) (B : Int) (q : Int × Int × Rw) : Prop := (0 ≤ q.1 ∧ q.1 ≤ B) ∧ (0 ≤ q.2.1 ∧ q.2.1 ≤ 1000002) ∧ MoV K0 q.2.2
theorem moLend_Q {n B : Int} {K0 : Rw} {q : Int × Int × Rw} (H : MoQ K0 B q) (hn : n = K0 152) (h1 : 1 ≤ n) : MoQ K0 (B + 50) (moLend n q) := by
  obtain ⟨a, b, c⟩ := H
  have e152 := c.2.2 152 (by decide)
  have b3 := mL_b (mL (mL q.2.1))
  have g0 := Int.emod_nonneg (mL q.2.1) (show n ≠ 0 by omega)
  have g1 := Int.emod_lt_of_pos (mL q.2.1) (show 0 < n by omega)
  have r0 := Int.emod_nonneg (mL (mL q.2.1)) (show n ≠ 0 by omega)
  have r1 := Int.emod_lt_of_pos (mL (mL q.2.1)) (show 0 < n by omega)
  unfold moLend
  split
  · rename_i z
    exact ⟨⟨by dsimp only; omega, by dsimp only; omega⟩, b3, lends_MoV c (by omega) (by omega) z.1 (by omega) z.2.1 z.2.2.1 z.2.2.2⟩
  · exact ⟨⟨a.1, by dsimp only; omega⟩, b3, c⟩
theorem moRep_Q {n B : Int} {K0 : Rw} {q : Int × Int × Rw} (H : MoQ K0 B q) (hn : n = K0 152) (h1 : 1 ≤ n) : MoQ K0 B (moRep n q) := by
  obtain ⟨a, b, c⟩ := H
  have e152 := c.2.2 152 (by decide)
  have g0 := Int.emod_nonneg (mL q.2.1) (show n ≠ 0 by omega)
  have g1 := Int.emod_lt_of_pos (mL q.2.1) (show 0 < n by omega)
  have r0 := Int.emod_nonneg (mL (mL q.2.1)) (show n ≠ 0 by omega)
  have r1 := Int.emod_lt_of_pos (mL (mL q.2.1)) (show 0 < n by omega)
  exact ⟨a, mL_b _, rep_MoV c (by omega) (by omega)⟩
def MoA (K0 : Rw) (B : Int) (a : Int × Int × Int × Rw) : Prop := MoQ K0 B (a.1, a.2.2.1, a.2.2.2) ∧ (a.2.1 = 0 ∨ a.2.1 = 1)
theorem moDay_A {B : Int} {K0 : Rw} {q : Int × Int × Rw} (H : MoQ K0 B q) : MoA K0 B (moDay q) := by
  obtain ⟨a, b, c⟩ := H
  unfold moDay
  split
  · exact ⟨⟨a, b, wait_MoV c (by omega)⟩, Or.inr rfl⟩
  · exact ⟨⟨a, b, c⟩, Or.inl rfl⟩
theorem moStep_A {n B : Int} {K0 : Rw} {a : Int × Int × Int × Rw} (H : MoA K0 B a) (hn : n = K0 152) (h1 : 1 ≤ n) : MoA K0 (B + 50) (moStep n a) := moDay_A (moRep_Q (moLend_Q H.1 hn h1) hn h1)
