/-! What a law told keeps -/
set_option maxRecDepth 100000
section
variable {s : Sg} {n : Int} {F : Rw}
theorem VW.z0 (H : VW n s) (hF : ∀ i, i2 (F i) = F i) (h11 : 0 ≤ F 11 ∧ F 11 ≤ 400) (h59 : F 59 = s 0 59) (h28 : F 28 = s 0 28) : VW n (sw s 0 F) := by
  obtain ⟨⟨g, kb, lv, un, re⟩, kw, im, tp, by_, wo, dr⟩ := H
  refine ⟨⟨G32_sw g hF, by rw [sw_ne _ (by decide)]; exact kb, by rw [sw_ne _ (by decide)]; exact lv, ?_, by rw [sw_ne _ (by decide)]; exact re⟩, by rw [sw_ne _ (by decide)]; exact kw, fun k a b => ?_, by rw [sw_eq]; exact h11, by rw [sw_ne _ (by decide)]; exact by_, by rw [sw_ne _ (by decide)]; exact wo, by rw [sw_eq, h59]; exact dr⟩
  · unfold UnV at *
    rw [sw_eq, h28, sw_ne _ (by decide), sw_ne _ (by decide)]
    exact un
  · unfold imgK
    rw [sw_ne _ (by decide), sw_ne _ (by decide)]
    exact im k a b
theorem VW.rd {f : Int} (H : VW n s) (hf : i2 f = f) : VW n (rdE s f) := H.z0 (u1_32 (u1_32 (H.1.1 0) (by decide)) hf) (by rw [u1_ne _ (by decide), u1_eq]; decide) (by rw [u1_ne _ (by decide), u1_ne _ (by decide)]) (by rw [u1_ne _ (by decide), u1_ne _ (by decide)])
/-- a law more -/
def moreK (s : Sg) : Rw := u1 (layS s (s 2 155)) 155 (s 2 155 + 1)
theorem moreK_o {i : Int} (h : i < 155 ∨ i = 156 ∨ (157 ≤ i ∧ i < 157 + s 2 155)) (h6 : 0 ≤ s 2 155 ∧ s 2 155 ≤ 5) : moreK s i = s 2 i := by
  unfold moreK layS
  rw [u1_ne _ (by omega)]
  exact laysK_o (by omega) (by omega) (by omega)
theorem toks_4 (H : VW n s) : toks (s 7) (tpN s) ≤ 400 := by
  have h11 := H.2.2.2.1
  have := (toks_e (T := s 7) (N := tpN s) (by unfold tpN; omega)).2.2
  unfold tpN at *
  omega
theorem moreK_new (H : VW n s) (h6 : 0 ≤ s 2 155 ∧ s 2 155 ≤ 5) : moreK s (157 + s 2 155) = toks (s 7) (tpN s) ∧ lawAt (moreK s) (s 2 155) = lawP s ∧ ∀ k, 0 ≤ valuesS (moreK s) (s 2 155) k := by
  have t4 := toks_4 H
  have hN : tpN s ≤ 400 := by have := H.2.2.2.1; unfold tpN; omega
  have e1 : moreK s (157 + s 2 155) = toks (s 7) (tpN s) := by
    unfold moreK layS
    rw [u1_ne _ (by omega)]
    exact laysK_n ⟨by omega, by omega⟩
  have e2 : cut (toks (s 7) (tpN s) : Int) (fun k => moreK s (164 + 400 * s 2 155 + k)) = cT (s 7) (tpN s) := by
    rw [cut_congr (g := cT (s 7) (tpN s)) (fun k k0 k1 => by
      unfold moreK layS
      rw [u1_ne _ (by omega)]
      exact laysK_c ⟨by omega, by omega⟩ t4 ⟨k0, k1⟩)]
    exact cut_cut _ _
  have e3 : cut (toks (s 7) (tpN s) : Int) (fun k => moreK s (2964 + 400 * s 2 155 + k)) = wT (s 7) (tpN s) := by
    rw [cut_congr (g := wT (s 7) (tpN s)) (fun k k0 k1 => by
      unfold moreK layS
      rw [u1_ne _ (by omega)]
      exact laysK_w ⟨k0, k1⟩)]
    exact cut_cut _ _
  refine ⟨e1, ?_, fun k => ?_⟩
  · unfold lawAt codesS valuesS
    rw [e1, e2, e3]
    rfl
  · unfold valuesS
    rw [e1, e3]
    exact (wT_b hN k).1
theorem moreK_old {t : Int} (H : VW n s) (h6 : 0 ≤ s 2 155 ∧ s 2 155 ≤ 5) (ht : 0 ≤ t ∧ t < s 2 155) : moreK s (157 + t) = s 2 (157 + t) ∧ lawAt (moreK s) t = lawAt (s 2) t ∧ valuesS (moreK s) t = valuesS (s 2) t := by
  have lw := (H.1.2.2.1 t ht.1 ht.2).1
  have t4 := toks_4 H
  have e1 : moreK s (157 + t) = s 2 (157 + t) := moreK_o (by omega) h6
  have e2 : ∀ k, 0 ≤ k → k < s 2 (157 + t) → moreK s (164 + 400 * t + k) = s 2 (164 + 400 * t + k) := fun k k0 k1 => by
    unfold moreK layS
    rw [u1_ne _ (by omega)]
    exact laysK_o (by omega) (by omega) (by omega)
  have e3 : ∀ k, 0 ≤ k → k < s 2 (157 + t) → moreK s (2964 + 400 * t + k) = s 2 (2964 + 400 * t + k) := fun k k0 k1 => by
    unfold moreK layS
    rw [u1_ne _ (by omega)]
    exact laysK_o (by omega) (by omega) (by omega)
  refine ⟨e1, lawAt_congr e1 e2 e3, ?_⟩
  unfold valuesS
  rw [e1]
  exact cut_congr e3
theorem moreK_KW (H : VW n s) (h6 : 0 ≤ s 2 155 ∧ s 2 155 ≤ 5) {L : List Cl} (hL : lawP s = .inr L) : KW (moreK s) := by
  obtain ⟨kb, lv, f1, f2⟩ := H.2.1
  have o : ∀ i, i < 155 → moreK s i = s 2 i := fun i hi => moreK_o (Or.inl hi) h6
  have o6 : moreK s 156 = s 2 156 := moreK_o (by omega) h6
  have o5 : moreK s 155 = s 2 155 + 1 := u1_eq _ _ _
  refine ⟨?_, ?_, f1.congr (o 153 (by decide)) (o 152 (by decide)) (fun i i0 i1 => o i (by omega)), f2.congr (o 154 (by decide)) (o 152 (by decide)) (fun i i0 i1 => o i (by omega))⟩
  · obtain ⟨a1, a2, a3, a4, a5⟩ := kb
    unfold KB
    rw [o 152 (by decide), o 151 (by decide), o6, o5]
    refine ⟨a1, a2, by omega, fun p p0 p1 => ?_, RV_congr a5 (fun i i0 i1 => o i (by omega))⟩
    rw [o _ (by omega), o _ (by omega)]
    exact a4 p p0 p1
  · intro t t0 t1
    rw [o5] at t1
    by_cases e : t = s 2 155
    · subst e
      obtain ⟨n1, n2, n3⟩ := moreK_new H h6
      have t4 := toks_4 H
      exact ⟨by rw [n1]; omega, n3, L, n2.trans hL⟩
    · obtain ⟨m1, m2, m3⟩ := moreK_old (t := t) H h6 ⟨t0, by omega⟩
      obtain ⟨a, b, L', c⟩ := lv t t0 (by omega)
      exact ⟨by rw [m1]; exact a, by rw [m3]; exact b, L', m2.trans c⟩
theorem moreK_32 (H : VW n s) (h6 : 0 ≤ s 2 155 ∧ s 2 155 ≤ 5) : ∀ i, i2 (moreK s i) = moreK s i := u1_32 (laysK_32 (H.1.1 2) (cT_32 H).1 (cT_32 H).2 (toks_4 H)) (i2_of (by omega) (by omega))
theorem lawS_VW (H : VW n s) : VW n (lawS s).2 ∧ (-7 < (lawS s).1 ∧ (lawS s).1 ≤ 6) := by
  have k155 : 0 ≤ s 2 155 ∧ s 2 155 ≤ 6 := by rcases H.1.2.1.2.2.1 with z | z <;> omega
  have hN : tpN s ≤ 400 := by have := H.2.2.2.1; unfold tpN; omega
  unfold lawS
  by_cases c6 : s 2 155 = 6
  · rw [if_pos c6]
    exact ⟨H.z0 (u1_32 (H.1.1 0) (by decide)) (by rw [u1_eq]; decide) (u1_ne _ (by decide)) (u1_ne _ (by decide)), by show -7 < (-5 : Int) ∧ (-5 : Int) ≤ 6; decide⟩
  · rw [if_neg c6]
    cases hL : lawP s with
    | inl t =>
      refine ⟨H.rd ?_, by show -7 < (-6 : Int) ∧ (-6 : Int) ≤ 6; decide⟩
      have := pos_le (T := s 7) (N := tpN s) t.toNat
      exact i2_of (by omega) (by omega)
    | inr L =>
      have h6 : 0 ≤ s 2 155 ∧ s 2 155 ≤ 5 := by omega
      have V1 := H.rd (f := -1) (by decide)
      have un := V1.1.2.2.2.1
      refine ⟨V1.row (K := moreK s) (moreK_KW H h6 hL) (moreK_32 H h6) ?_, by show -7 < s 2 155 ∧ s 2 155 ≤ 6; omega⟩
      unfold UnV at *
      rw [sw_eq, sw_ne _ (by decide), sw_ne _ (by decide), moreK_o (i := 152) (by omega) h6]
      have e2 : rdE s (-1) 2 = s 2 := by unfold rdE; exact sw_ne _ (by decide)
      rw [e2] at un
      exact un
end
