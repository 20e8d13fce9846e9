/-! Lendings: the component lists them -/
set_option maxRecDepth 100000
theorem pay_MoV {K0 K : Rw} {g r a : Int} (V : MoV K0 K) (hg : 0 ≤ g ∧ g < K 152) (hr : 0 ≤ r ∧ r < K 152) (hgr : g ≠ r) (ha : 0 ≤ a) (h1 : a ≤ K g) (h2 : K r + a ≤ 9999) : MoV K0 (payS K g r a) := by
  obtain ⟨H, h32, hu⟩ := V
  have hn := H.1.1
  have hR := H.1.2.2.2.2
  have v1 := hR.2.2.1 g (by omega) (by omega)
  have v2 := hR.2.2.1 r (by omega) (by omega)
  have hP := pay_RV hR (show 0 ≤ g ∧ g < 7 by omega) (show 0 ≤ r ∧ r < 7 by omega) hgr ha h1 h2
  have h32' := pay_32 (a := a) h32 (g := g) (t := r) (i2_of (by omega) (by omega)) (by rw [u1_ne _ (by omega)]; exact i2_of (by omega) (by omega))
  have up : ∀ i, (i < 0 ∨ 73 ≤ i) → payS K g r a i = K i := fun i hi => by
    unfold payS
    rw [u1_ne _ (by omega), u1_ne _ (by omega)]
  exact ⟨H.rv hP (fun i hi => up i (Or.inr hi)), h32', fun i hi => (up i hi).trans (hu i hi)⟩
/-- the deepest room told, as the component looks for it -/
def deC (K : Rw) (v : Nat) (a : Int) (o : Nat) : Int ⊕ Int := if alk K v o = true then (if o < v then .inr (-1) else .inl (max a (K (87 + 4 * (o : Int) + 2)))) else .inl a
theorem dpF_t {K : Rw} {v o : Nat} {a : Int × Int} (c : alk K v o = true) : dpF K v a o = ((if a.1 = 0 then 0 else if o < v then 0 else 1), max a.2 (K (87 + 4 * (o : Int) + 2))) := if_pos c
theorem dpF_n {K : Rw} {v o : Nat} {a : Int × Int} (c : ¬ alk K v o = true) : dpF K v a o = a := if_neg c
theorem dp_st (K : Rw) (v : Nat) : ∀ (i o : Nat), ((foldN (dpF K v) o (1, 0)).1 = 0 → (foldN (dpF K v) (o + i) (1, 0)).1 = 0) ∧ (foldN (dpF K v) o (1, 0)).2 ≤ (foldN (dpF K v) (o + i) (1, 0)).2 := by
  intro i o
  induction i with
  | zero => exact ⟨id, Int.le_refl _⟩
  | succ i ih =>
    have es : foldN (dpF K v) (o + (i + 1)) (1, 0) = dpF K v (foldN (dpF K v) (o + i) (1, 0)) (o + i) := rfl
    rw [es]
    generalize foldN (dpF K v) (o + i) (1, 0) = b at ih
    by_cases c : alk K v (o + i) = true
    · rw [dpF_t c]
      refine ⟨fun z => ?_, ?_⟩
      · dsimp only
        rw [if_pos (ih.1 z)]
      · dsimp only; have := ih.2; omega
    · rw [dpF_n c]
      exact ih
theorem deC_eq {K : Rw} (v : Nat) {n : Nat} (hn : (n : Int) = K 153) (hv : v < n) (hr : 0 ≤ K (87 + 4 * (v : Int) + 2)) : runF (deC K v) id n 0 (K (87 + 4 * (v : Int) + 2)) = (if (dpS K v).1 = 0 then -1 else (dpS K v).2) := by
  have eM : dpS K v = foldN (dpF K v) n (1, 0) := by unfold dpS; rw [show (K 153).toNat = n by omega]
  rw [eM]
  have self : alk K v v = true := by unfold alk; exact decide_eq_true ⟨rfl, rfl⟩
  have ge : K (87 + 4 * (v : Int) + 2) ≤ (foldN (dpF K v) n (1, 0)).2 := by
    have q := (dp_st K v (n - (v + 1)) (v + 1)).2
    rw [show v + 1 + (n - (v + 1)) = n by omega] at q
    have es : foldN (dpF K v) (v + 1) (1, 0) = dpF K v (foldN (dpF K v) v (1, 0)) v := rfl
    have : K (87 + 4 * (v : Int) + 2) ≤ (dpF K v (foldN (dpF K v) v (1, 0)) v).2 := by
      rw [dpF_t self]
      dsimp only
      omega
    rw [es] at q
    omega
  have key : ∀ (j o : Nat) (a : Int), o + j = n → (foldN (dpF K v) o (1, 0)).1 = 1 → a = max (K (87 + 4 * (v : Int) + 2)) (foldN (dpF K v) o (1, 0)).2 → runF (deC K v) id j o a = (if (foldN (dpF K v) n (1, 0)).1 = 0 then -1 else (foldN (dpF K v) n (1, 0)).2) := by
    intro j
    induction j with
    | zero =>
      intro o a e h1 ha
      have : o = n := by omega
      subst this
      rw [if_neg (by omega)]
      show a = _
      omega
    | succ j ih =>
      intro o a e h1 ha
      have es : foldN (dpF K v) (o + 1) (1, 0) = dpF K v (foldN (dpF K v) o (1, 0)) o := rfl
      by_cases c : alk K v o = true
      · by_cases c2 : o < v
        · have z : (foldN (dpF K v) (o + 1) (1, 0)).1 = 0 := by
            rw [es]
            rw [dpF_t c]
            dsimp only
            rw [if_neg (by omega), if_pos c2]
          have q := (dp_st K v (n - (o + 1)) (o + 1)).1 z
          rw [show o + 1 + (n - (o + 1)) = n by omega] at q
          rw [if_pos q, runF_r (r := -1) (by unfold deC; rw [if_pos c, if_pos c2])]
        · rw [runF_l (a' := max a (K (87 + 4 * (o : Int) + 2))) (by unfold deC; rw [if_pos c, if_neg c2])]
          refine ih (o + 1) _ (by omega) ?_ ?_
          · rw [es]
            rw [dpF_t c]
            dsimp only
            rw [if_neg (by omega), if_neg c2]
          · rw [es]
            rw [dpF_t c]
            dsimp only
            omega
      · rw [runF_l (a' := a) (by unfold deC; rw [if_neg c])]
        have em : dpF K v (foldN (dpF K v) o (1, 0)) o = foldN (dpF K v) o (1, 0) := dpF_n c
        exact ih (o + 1) a (by omega) (by rw [es, em]; exact h1) (by rw [es, em]; exact ha)
  refine key n 0 _ (by omega) rfl ?_
  show K (87 + 4 * (v : Int) + 2) = max (K (87 + 4 * (v : Int) + 2)) (0 : Int)
  omega
section
variable {E : ax_E} {h h0 g : ax_H} {x t dl dv ds du : Nat} {s : Sg}
/-- a visit in the heap -/
theorem c_vget {w : Nat} (R : REP E g x t dl dv ds du s) (hw : (w : Int) < s 2 153) : ∃ u, f_J2_get E (some (t + 2)) w g = some (some u, g) ∧ ax_cc E g (some u) 28 = some () ∧ hT g u = 28 ∧ (hI g u 0 = s 2 (87 + 4 * (w : Int)) ∧ hI g u 1 = s 2 (87 + 4 * (w : Int) + 1) ∧ hI g u 2 = s 2 (87 + 4 * (w : Int) + 2) ∧ hI g u 3 = s 2 (87 + 4 * (w : Int) + 3)) ∧ x + 116 ≤ u := by
  have lv := R.2.2.2.2.1.2.2.2.2.2.2.1
  obtain ⟨u, p1, fz, tu, i0, i1, i2', i3⟩ := c_get (E := E) (i := (w : Int)) lv (by decide) (by omega) hw
  rw [Int.toNat_natCast] at i0 i1 i2' i3
  refine ⟨u, p1, ?_, tu, ⟨i0, i1, i2', i3⟩, ?_⟩
  · unfold ax_cc
    dsimp only
    rw [f_ce tu (by decide)]
    rfl
  · have z1 := fz.1
    have z2 := fz.2.2
    unfold Mut at z2
    omega
theorem c_vnav (R : REP E g x t dl dv ds du s) : ax_gR E g (some x) 0 0 = some (some t) ∧ ax_gR E g (some t) 1 1 = some (some (t + 2)) ∧ ax_ce E g (some (t + 2)) 42 = some (hC g (t + 2)) ∧ f_J2_size E (some (t + 2)) g = some (s 2 153, g) ∧ ax_ce E g (some x) 0 = some (hC g x) := by
  have st := R.2.2.2.2.1
  have lv := st.2.2.2.2.2.2.1
  refine ⟨?_, ?_, f_ce lv.1 (by decide), c_size lv, f_ce R.2.1.1 (by decide)⟩
  · rw [f_gR R.2.1.1 (by decide), R.2.1.2.1]
  · rw [f_gR st.1.1 (by decide), st.1.2.2.1]
theorem c_deepest {v : Nat} (R : REP E g x t dl dv ds du s) (H0 : KW (s 2)) (hv : (v : Int) < s 2 153) : f_X0_deepest E (some x) v g = some (if (dpS (s 2) v).1 = 0 then -1 else (dpS (s 2) v).2, g) := by
  have n8 := H0.2.2.1.1
  have h7 := H0.1.1
  obtain ⟨n, hn⟩ : ∃ n : Nat, (n : Int) = s 2 153 := ⟨(s 2 153).toNat, by omega⟩
  obtain ⟨u1', u2', u3', u4', u5'⟩ := c_vnav R
  obtain ⟨u, p1, cu, tu, ⟨i0, i1, i2', i3⟩, ux⟩ := c_vget (E := E) R hv
  obtain ⟨a1, a2, a3, a4⟩ := vis_b H0 hv
  obtain ⟨g', ⟨w1, wb⟩, w2⟩ := it_runI (body := fun y : Int × Int × ax_H => lb_X0_deepest_23 E (some x) v (some u) y.1 y.2.1 y.2.2) (fun (a : Int) (o : Nat) g => (a, (o : Int), g)) (fun (r : Int) g => (r, g)) (I := fun o a g' => g' = g ∧ (0 ≤ a ∧ a ≤ 3)) (P := fun r g' => g' = g ∧ True) (f := deC (s 2) v) (fin := id) n (by
    rintro o a g' ho ⟨rfl, ha⟩
    obtain ⟨q, p2, cq, tq, ⟨j0, j1, j2, j3⟩, qx⟩ := c_vget (E := E) (w := o) R (by omega)
    obtain ⟨b1, b2, b3, b4⟩ := vis_b H0 (v := o) (by omega)
    have eA : (alk (s 2) v o = true) = (s 2 (87 + 4 * (v : Int)) = s 2 (87 + 4 * (o : Int)) ∧ s 2 (87 + 4 * (v : Int) + 1) = s 2 (87 + 4 * (o : Int) + 1)) := by unfold alk; rw [decide_eq_true_eq]
    have pre : ∀ W, (if s 2 (87 + 4 * (o : Int)) = s 2 (87 + 4 * (v : Int)) then (if s 2 (87 + 4 * (o : Int) + 1) = s 2 (87 + 4 * (v : Int) + 1) then (if o < v then some (.inr (-1, g')) else some (.inl (max a (s 2 (87 + 4 * (o : Int) + 2)), (o : Int) + 1, g'))) else some (.inl (a, (o : Int) + 1, g'))) else some (.inl (a, (o : Int) + 1, g')) : Option ((Int × Int × ax_H) ⊕ (Int × ax_H))) = W → lb_X0_deepest_23 E (some x) v (some u) a o g' = W := by
      intro W hW
      unfold lb_X0_deepest_23 f_X0_deepest_100
      rw [u1', Option.bind_some, u2', Option.bind_some, u3', Option.bind_some, u4', Option.bind_some]
      dsimp only
      rw [← hn, i2_of (a := (o : Int)) (by omega) (by omega), i2_of (a := (n : Int)) (by omega) (by omega), if_pos (by omega), u1', Option.bind_some, u2', Option.bind_some, u3', Option.bind_some, p2, Option.bind_some]
      dsimp only
      rw [cq, Option.bind_some, f_gI tq (by decide), j0, Option.bind_some, f_gI tu (by decide), i0, Option.bind_some, f_gI tq (by decide), j1, Option.bind_some, f_gI tu (by decide), i1, Option.bind_some, f_gI tq (by decide), j2, Option.bind_some, c_max2 (i2_of (by omega) (by omega)) (i2_of (by omega) (by omega)), Option.bind_some, i2_of (a := s 2 (87 + 4 * (o : Int))) (by omega) (by omega), i2_of (a := s 2 (87 + 4 * (v : Int))) (by omega) (by omega), i2_of (a := s 2 (87 + 4 * (o : Int) + 1)) (by omega) (by omega), i2_of (a := s 2 (87 + 4 * (v : Int) + 1)) (by omega) (by omega), i2_of (a := (v : Int)) (by omega) (by omega)]
      rw [← hW]
      by_cases c1 : s 2 (87 + 4 * (o : Int)) = s 2 (87 + 4 * (v : Int))
      · rw [if_pos c1, if_pos c1]
        by_cases c2 : s 2 (87 + 4 * (o : Int) + 1) = s 2 (87 + 4 * (v : Int) + 1)
        · rw [if_pos c2, if_pos c2]
          by_cases c3 : o < v
          · rw [if_pos (by omega), if_pos c3]; rfl
          · rw [if_neg (by omega), if_neg c3]
        · rw [if_neg c2, if_neg c2]
      · rw [if_neg c1, if_neg c1]
    by_cases c : alk (s 2) v o = true
    · have c' := c
      rw [eA] at c'
      by_cases c3 : o < v
      · exact ⟨g', Or.inr ⟨-1, by unfold deC; rw [if_pos c, if_pos c3], ⟨rfl, trivial⟩, pre _ (by rw [if_pos c'.1.symm, if_pos c'.2.symm, if_pos c3])⟩⟩
      · exact ⟨g', Or.inl ⟨_, by unfold deC; rw [if_pos c, if_neg c3], ⟨rfl, by omega⟩, pre _ (by rw [if_pos c'.1.symm, if_pos c'.2.symm, if_neg c3]; rfl)⟩⟩
    · refine ⟨g', Or.inl ⟨a, by unfold deC; rw [if_neg c], ⟨rfl, ha⟩, pre _ ?_⟩⟩
      rw [eA] at c
      by_cases c1 : s 2 (87 + 4 * (o : Int)) = s 2 (87 + 4 * (v : Int))
      · rw [if_pos c1, if_neg (fun z => c ⟨c1.symm, z.symm⟩)]; rfl
      · rw [if_neg c1]; rfl) (by
    rintro a g' ⟨rfl, -⟩
    refine ⟨g', ⟨rfl, trivial⟩, ?_⟩
    dsimp only
    unfold lb_X0_deepest_23
    rw [u1', Option.bind_some, u2', Option.bind_some, u3', Option.bind_some, u4', Option.bind_some]
    dsimp only
    rw [← hn, if_neg (Int.lt_irrefl _)]
    rfl) n 0 (s 2 (87 + 4 * (v : Int) + 2)) g (by omega) ⟨rfl, by omega⟩
  subst w1
  rw [deC_eq v hn (by omega) (by omega)] at w2
  unfold f_X0_deepest f_X0_deepest_23
  rw [u1', Option.bind_some, u2', Option.bind_some, u3', Option.bind_some, p1, Option.bind_some]
  dsimp only
  rw [cu, Option.bind_some, f_gI tu (by decide), i2', Option.bind_some]
  exact w2
end
