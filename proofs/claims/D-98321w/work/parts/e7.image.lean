/-! Images laid and taken back: rows, the model -/
set_option maxRecDepth 100000
theorem RtS.sh3 {h h' : ax_H} {x s s' : Nat} (H : RtS h x s) (e : ∀ a, x + 14 ≤ a → a < x + 84 → shq h h' a) (ex : hT h' x = hT h x ∧ hR h' x 0 = some s' ∧ ∀ k, k ≠ 0 → hR h' x k = hR h x k) (e13 : hT h' (x + 13) = hT h (x + 13) ∧ hL h' (x + 13) = hL h (x + 13)) : RtS h' x s' := by
  obtain ⟨a1, a2, a3, a4, a5, a6, a7, a8, a9, a10, a11, a12⟩ := H
  obtain ⟨t0, q0, r0⟩ := ex
  obtain ⟨t13, l13⟩ := e13
  obtain ⟨t15, -, r15'⟩ := e (x + 15) (by omega) (by omega)
  have r15 := r15' (by rw [a5.1]; decide)
  obtain ⟨t16, l16, -⟩ := e (x + 16) (by omega) (by omega)
  obtain ⟨t17, -, r17'⟩ := e (x + 17) (by omega) (by omega)
  have r17 := r17' (by rw [a6.1]; decide)
  obtain ⟨t18, l18, -⟩ := e (x + 18) (by omega) (by omega)
  obtain ⟨t19, -, r19'⟩ := e (x + 19) (by omega) (by omega)
  have r19 := r19' (by rw [a7.1]; decide)
  obtain ⟨t20, l20, -⟩ := e (x + 20) (by omega) (by omega)
  obtain ⟨t21, l21, -⟩ := e (x + 21) (by omega) (by omega)
  obtain ⟨t22, l22, -⟩ := e (x + 22) (by omega) (by omega)
  obtain ⟨t29, l29, r29'⟩ := e (x + 29) (by omega) (by omega)
  have r29 := r29' (by rw [a11.1]; decide)
  refine ⟨t0.trans a1, q0, ?_, ?_, ?_, ?_, ?_, ?_, ?_, a10.sh (fun a h1 h2 => e a (by omega) (by omega)), ?_, fun i hi => ⟨?_, (a12 i hi).2.sh (fun a h1 h2 => e a (by omega) (by omega))⟩⟩
  · rw [r0 _ (by decide), r0 _ (by decide), r0 _ (by decide), r0 _ (by decide), r0 _ (by decide), r0 _ (by decide), r0 _ (by decide), r0 _ (by decide), r0 _ (by decide)]; exact a3
  · rw [t13, l13]; exact a4
  · rw [t15, r15, t16, l16]; exact a5
  · rw [t17, r17, t18, l18]; exact a6
  · rw [t19, r19, t20, l20]; exact a7
  · rw [t21, l21]; exact a8
  · rw [t22, l22]; exact a9
  · rw [t29, l29]; exact a11
  · rw [r29]; exact (a12 i hi).1
/-- rows alike as far as they go -/
theorem KB.cgr {K K' : Rw} (H : KB K) (e : ∀ i, 0 ≤ i → i < 157 → K' i = K i) : KB K' := by
  obtain ⟨a1, a2, a3, a4, a5⟩ := H
  unfold KB
  rw [e 152 (by decide) (by decide), e 151 (by decide) (by decide), e 156 (by decide) (by decide), e 155 (by decide) (by decide)]
  refine ⟨a1, a2, a3, fun p h0 h1 => ?_, RV_congr a5 (fun i i0 i1 => e i i0 (by omega))⟩
  rw [e _ (by omega) (by omega), e _ (by omega) (by omega)]
  exact a4 p h0 h1
theorem LsV.cgr {K K' : Rw} (H : LsV K) (h6 : K 155 ≤ 6) (e : ∀ i, 155 ≤ i → i < 5764 → K' i = K i) : LsV K' := by
  intro t h0 h1
  rw [e 155 (by decide) (by decide)] at h1
  obtain ⟨a, b, L, c⟩ := H t h0 h1
  have e1 : valuesS K' t = valuesS K t := by
    unfold valuesS
    rw [e (157 + t) (by omega) (by omega)]
    exact cut_congr (fun k k0 k1 => e _ (by omega) (by omega))
  refine ⟨by rw [e (157 + t) (by omega) (by omega)]; exact a, by rw [e1]; exact b, L, ?_⟩
  rw [lawAt_congr (e _ (by omega) (by omega)) (fun k k0 k1 => e _ (by omega) (by omega)) (fun k k0 k1 => e _ (by omega) (by omega))]
  exact c
theorem KB.n6 {K : Rw} (H : KB K) : 0 ≤ K 155 ∧ K 155 ≤ 6 := by have := H.2.2.1; omega
theorem KW.cgr {K K' : Rw} (H : KW K) (e : ∀ i, 0 ≤ i → i < 5764 → K' i = K i) : KW K' := by
  obtain ⟨a, b, c, d⟩ := H
  exact ⟨a.cgr (fun i i0 i1 => e i i0 (by omega)), b.cgr a.n6.2 (fun i i0 i1 => e i (by omega) i1), c.congr (e _ (by decide) (by decide)) (e _ (by decide) (by decide)) (fun i i0 i1 => e i (by omega) (by omega)), d.congr (e _ (by decide) (by decide)) (e _ (by decide) (by decide)) (fun i i0 i1 => e i (by omega) (by omega))⟩
theorem StN.cgr {E : ax_E} {Fz : Nat → Prop} {h : ax_H} {x s dl dv ds : Nat} {K K' : Rw} (H : StN E Fz h x s dl dv ds K) (V : KW K) (e : ∀ i, 0 ≤ i → i < 5764 → K' i = K i) : StN E Fz h x s dl dv ds K' := by
  obtain ⟨⟨k1, k2, k3, k4, k5⟩, lv, fv, fs⟩ := V
  have n6 : 0 ≤ K 155 ∧ K 155 ≤ 6 := by omega
  have h71 := k5.1
  obtain ⟨a1, ⟨c6, c7, c8⟩, B, ⟨e1, e2, e3⟩, ⟨f1, f2, f3⟩, l1, l2, l3⟩ := H
  refine ⟨a1, ?_, B.congr (e 71 (by decide) (by decide)) (e 72 (by decide) (by decide)) (fun p p0 p1 => e p p0 (by omega)) (fun i i0 i1 => e i (by omega) (by omega)), ⟨e1, e2, fun p hp => ?_⟩, ⟨f1, f2, fun p hp => ?_⟩, ?_, ?_, ?_⟩
  · rw [e 152 (by decide) (by decide), e 151 (by decide) (by decide), e 156 (by decide) (by decide)]; exact ⟨c6, c7, c8⟩
  · rw [e 152 (by decide) (by decide)] at hp
    rw [e _ (by omega) (by omega)]; exact e3 p hp
  · rw [e 152 (by decide) (by decide)] at hp
    rw [e _ (by omega) (by omega)]; exact f3 p hp
  · rw [e 155 (by decide) (by decide)]
    obtain ⟨q1, q2, q3, q4, q5, q6⟩ := l1
    refine ⟨q1, q2, q3, q4, q5, fun k hk => ?_⟩
    obtain ⟨u, u1, L, u2, u3⟩ := q6 k hk
    have sz := (lv k (by omega) (by omega)).1
    refine ⟨u, u1, L, ?_, u3⟩
    rw [lawAt_congr (e _ (by omega) (by omega)) (fun k k0 k1 => e _ (by omega) (by omega)) (fun k k0 k1 => e _ (by omega) (by omega))]
    exact u2
  · rw [e 153 (by decide) (by decide)]
    obtain ⟨q1, q2, q3, q4, q5, q6⟩ := l2
    refine ⟨q1, q2, q3, q4, q5, fun k hk => ?_⟩
    have f8 := fv.1
    obtain ⟨u, u1, u2, u3, w0, w1, w2, w3⟩ := q6 k hk
    exact ⟨u, u1, u2, u3, by rw [e _ (by omega) (by omega)]; exact w0, by rw [e _ (by omega) (by omega)]; exact w1, by rw [e _ (by omega) (by omega)]; exact w2, by rw [e _ (by omega) (by omega)]; exact w3⟩
  · rw [e 154 (by decide) (by decide)]
    obtain ⟨q1, q2, q3, q4, q5, q6⟩ := l3
    refine ⟨q1, q2, q3, q4, q5, fun k hk => ?_⟩
    have f8 := fs.1
    obtain ⟨u, u1, u2, u3, w0, w1, w2, w3⟩ := q6 k hk
    exact ⟨u, u1, u2, u3, by rw [e _ (by omega) (by omega)]; exact w0, by rw [e _ (by omega) (by omega)]; exact w1, by rw [e _ (by omega) (by omega)]; exact w2, by rw [e _ (by omega) (by omega)]; exact w3⟩
def imgS (s : Sg) (k : Int) : Sg := sw (sw s 3 (cpR (s 3) (5764 * k) (s 2) 5764)) 4 (u1 (s 4) k 1)
def bakS (s : Sg) (k : Int) : Sg := sw s 2 (cpR (s 2) 0 (fun i => s 3 (5764 * k + i)) 5764)
def imageS (s : Sg) (k : Int) : Int × Sg := if ¬ (0 ≤ k ∧ k ≤ 1) then (-1, sRef s (-1)) else (0, sGood (imgS s k))
def backS (s : Sg) (k : Int) : Int × Sg := if ¬ (0 ≤ k ∧ k ≤ 1) then (-1, sRef s (-1)) else if s 4 k = 0 then (-2, sRef s (-2)) else (0, sSet (bakS s k))
section
variable {E : ax_E} {m : Nat} {s : Sg} {h : ax_H}
theorem m_imageP {k : Int} (hk : i2 k = k) : f_X5_image E (some m) k (mdl m s h) = some ((imageS s k).1, mdl m (imageS s k).2 h) := by
  unfold imageS
  by_cases c : 0 ≤ k ∧ k ≤ 1
  · rw [if_neg (fun z => z c), m_image c.1 c.2]
    rfl
  · rw [if_pos c]
    unfold f_X5_image
    rw [m_lies hk (by decide) (by decide), Option.bind_some, if_pos (by rw [b01_z]; exact c), md_ce, Option.bind_some, m_refuses (by decide) (by decide), Option.bind_some]
theorem m_backP {k : Int} (hk : i2 k = k) (h4 : ∀ k : Int, 0 ≤ k → k < 2 → s 4 k = 0 ∨ s 4 k = 1) : f_X5_back E (some m) k (mdl m s h) = some ((backS s k).1, mdl m (backS s k).2 h) := by
  unfold backS
  by_cases c : 0 ≤ k ∧ k ≤ 1
  · rw [if_neg (fun z => z c)]
    by_cases c2 : s 4 k = 0
    · rw [if_pos c2]
      unfold f_X5_back
      rw [m_lies hk (by decide) (by decide), Option.bind_some, if_neg (by rw [b01_z]; exact fun z => z c)]
      dsimp only
      rw [md_gR4, Option.bind_some, md_ld4 (by omega) (by omega), Option.bind_some, c2, if_pos (by decide), md_ce, Option.bind_some, m_refuses (by decide) (by decide), Option.bind_some]
    · rw [if_neg c2, m_back c.1 c.2 ((h4 k c.1 (by omega)).resolve_left c2)]
      rfl
  · rw [if_pos c]
    unfold f_X5_back
    rw [m_lies hk (by decide) (by decide), Option.bind_some, if_pos (by rw [b01_z]; exact c), md_ce, Option.bind_some, m_refuses (by decide) (by decide), Option.bind_some]
end
/-! what holds then -/
theorem imgK_same {s : Sg} {k : Int} {i : Int} (h0 : 0 ≤ i) (h1 : i < 5764) : imgK (imgS s k) k i = s 2 i := by
  unfold imgK imgS
  rw [sw_ne _ (by decide), sw_eq, cpR_in (by omega)]
  congr 1
  omega
theorem imgK_other {s : Sg} {k j : Int} {i : Int} (hk : 0 ≤ k ∧ k ≤ 1) (hj : 0 ≤ j ∧ j < 2) (hkj : j ≠ k) (h0 : 0 ≤ i) (h1 : i < 5764) : imgK (imgS s k) j i = imgK s j i := by
  unfold imgK imgS
  rw [sw_ne _ (by decide), sw_eq, cpR_out (by omega)]
theorem imageS_VW {n k : Int} {s : Sg} (H : VW n s) (hn : n ≤ 1000000000) : VW (n + 1) (imageS s k).2 := by
  unfold imageS
  split
  · have := H.tel (v := -1) (by decide) (by decide) hn
    unfold telM at this
    rw [if_pos (by decide)] at this
    exact this
  · rename_i c
    have c' := Classical.not_not.mp c
    have V : VW n (imgS s k) := by
      obtain ⟨⟨g, kb, lv, un, re⟩, kw, im, tp, by_, wo, dr⟩ := H
      have e2 : imgS s k 2 = s 2 := by unfold imgS; rw [sw_ne _ (by decide), sw_ne _ (by decide)]
      have e0 : imgS s k 0 = s 0 := by unfold imgS; rw [sw_ne _ (by decide), sw_ne _ (by decide)]
      have eo : ∀ o : Nat, o ≠ 3 → o ≠ 4 → imgS s k o = s o := fun o o3 o4 => by unfold imgS; rw [sw_ne _ o4, sw_ne _ o3]
      refine ⟨⟨G32_sw (G32_sw g (cpR_32 (g 3) (g 2))) (u1_32 (g 4) (by decide)), by rw [e2]; exact kb, by rw [e2]; exact lv, ?_, by rw [eo 1 (by decide) (by decide)]; exact re⟩, by rw [e2]; exact kw, fun j j0 j1 => ?_, by rw [e0]; exact tp, by rw [eo 7 (by decide) (by decide)]; exact by_, by rw [eo 6 (by decide) (by decide)]; exact wo, by rw [e0]; exact dr⟩
      · unfold UnV
        rw [e0, e2, eo 14 (by decide) (by decide)]
        exact un
      · have e4 : imgS s k 4 = u1 (s 4) k 1 := sw_eq _ _ _
        by_cases ej : j = k
        · right
          subst ej
          exact ⟨by rw [e4, u1_eq], kw.cgr (fun i i0 i1 => imgK_same i0 i1)⟩
        · rw [e4, u1_ne _ ej]
          rcases im j j0 j1 with z | ⟨z1, z2⟩
          · exact Or.inl z
          · exact Or.inr ⟨z1, z2.cgr (fun i i0 i1 => imgK_other c' ⟨j0, j1⟩ ej i0 i1)⟩
    exact V.tel (v := 0) (by decide) (by decide) hn
theorem backS_VW {n k : Int} {s : Sg} (H : VW n s) (hn : n ≤ 1000000000) : VW (n + 1) (backS s k).2 := by
  unfold backS
  split
  · have := H.tel (v := -1) (by decide) (by decide) hn
    unfold telM at this
    rw [if_pos (by decide)] at this
    exact this
  · split
    · have := H.tel (v := -2) (by decide) (by decide) hn
      unfold telM at this
      rw [if_pos (by decide)] at this
      exact this
    · rename_i c c2
      have c' := Classical.not_not.mp c
      obtain ⟨⟨g, kb, lv, un, re⟩, kw, im, tp, by_, wo, dr⟩ := H
      have kk := ((im k c'.1 (by omega)).resolve_left c2).2
      have kw' : KW (cpR (s 2) 0 (fun i => s 3 (5764 * k + i)) 5764) := kk.cgr (fun i i0 i1 => by
        rw [cpR_in (by omega)]
        unfold imgK
        congr 2
        omega)
      have e2 : sSet (bakS s k) 2 = cpR (s 2) 0 (fun i => s 3 (5764 * k + i)) 5764 := by unfold sSet bakS; rw [sw_ne _ (by decide), sw_eq]
      have eo : ∀ o : Nat, o ≠ 0 → o ≠ 2 → sSet (bakS s k) o = s o := fun o o0 o2 => by unfold sSet bakS; rw [sw_ne _ o0, sw_ne _ o2]
      have e0 : ∀ j : Int, j ≠ 0 → j ≠ 28 → sSet (bakS s k) 0 j = s 0 j := fun j j0 j2 => by unfold sSet; rw [sw_eq, u1_ne _ j0, u1_ne _ j2]; unfold bakS; rw [sw_ne _ (by decide)]
      have e28 : sSet (bakS s k) 0 28 = 0 := by unfold sSet; rw [sw_eq, u1_ne _ (by decide), u1_eq]
      have gb : G32 (bakS s k) := G32_sw g (cpR_32 (g 2) (fun i => g 3 _))
      show VW (n + 1) (sSet (bakS s k))
      refine ⟨⟨G32_sw gb (u1_32 (u1_32 (gb 0) (by decide)) (by decide)), by rw [e2]; exact kw'.1, by rw [e2]; exact kw'.2.1, ⟨by omega, fun j j0 j1 => absurd j1 (by omega)⟩, by rw [eo 1 (by decide) (by decide)]; exact fun k k0 k1 => by have := re k k0 k1; omega⟩, by rw [e2]; exact kw', fun j j0 j1 => ?_, by rw [e0 11 (by decide) (by decide)]; exact tp, by rw [eo 7 (by decide) (by decide)]; exact by_, by rw [eo 6 (by decide) (by decide)]; exact wo, by rw [e0 59 (by decide) (by decide)]; exact dr⟩
      unfold imgK
      rw [eo 4 (by decide) (by decide), eo 3 (by decide) (by decide)]
      exact im j j0 j1
