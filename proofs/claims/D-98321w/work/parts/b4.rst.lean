/-! The street's own numbers change: people, rooms, wary, the force -/
set_option maxRecDepth 100000
theorem LsN.bd {E : ax_E} {h : ax_H} {a d : Nat} {n : Int} {cap : Nat} {P : Nat → Nat → Prop} (H : LsN E h a d n cap P) : LsN E h a d n cap (fun k t => (k : Int) < n ∧ P k t) := ⟨H.1, H.2.1, H.2.2.1, H.2.2.2.1, H.2.2.2.2.1, fun k hk => by
  obtain ⟨t, a, b⟩ := H.2.2.2.2.2 k hk
  exact ⟨t, a, hk, b⟩⟩
section
variable {E : ax_E} {h h' : ax_H} {x t dl dv ds du : Nat} {s : Sg}
theorem REP.st {K : Rw} (H : REP E h x t dl dv ds du s) (O : OnS t 12 h h') (B : BK h' (t + 4) K) (hI3 : hI h' t 6 = K 152 ∧ hI h' t 7 = K 151 ∧ hI h' t 8 = K 156) (hro : ∀ p : Nat, (p : Int) < K 152 → hI h' (t + 10) p = K (73 + 2 * p)) (hwa : ∀ p : Nat, (p : Int) < K 152 → hI h' (t + 11) p = K (73 + 2 * p + 1)) (hl3 : ∀ a, t + 1 ≤ a → a < t + 4 → h'.2.2 a = h.2.2 a) (hv : s 2 153 ≤ 8 ∧ s 2 154 ≤ 8) (hu : ∀ i, 87 ≤ i → i ≠ 151 → i ≠ 152 → i ≠ 156 → K i = s 2 i) : REP E h' x t dl dv ds du (sw s 2 K) := by
  obtain ⟨pl, rt, ri, ra, st, un, im, dr⟩ := H
  have h0 : ∀ d, hT h d = 104 → d ≠ E.2.2 0 := fun d hd => pl.k0 hd
  obtain ⟨⟨q1, q2, q3⟩, ⟨b1, b2, b3, b4⟩, -, ⟨low, -⟩, ex⟩ := id pl
  have ne : ∀ a, (a < t ∨ t + 12 ≤ a) → h'.2.2 a = h.2.2 a := fun a h => O.1.2.2 a (by omega)
  have hf : ∀ a, Frz h x t dl dv ds du a → Frz h' x t dl dv ds du a ∧ eqT (hC h a) (hC h' a) := frz_of (by rw [O.1.1]; exact Nat.le_refl _) (fun a ha => ne a (by have h1 := ha.2.2; have h2 := ha.1; unfold Mut at h1; omega))
  have hd : ∀ d, Dok E h x t d → d ≠ E.2.2 0 → eqT (hC h d) (hC h' d) := by
    intro d hd hn
    rcases hd with hd | hd
    · exact absurd hd hn
    · exact eqT.of (ne d (by omega))
  have sI : ∀ a k, (a < t ∨ t + 12 ≤ a) → hI h' a k = hI h a k := by
    intro a k ha
    unfold hI
    rw [hC_eq (ne a ha)]
  refine ⟨pl.fr (by rw [O.1.1]; exact Nat.le_refl _) (fun a h1 => ne a (by omega)) (fun a _ _ => (O.2 a).1), rt.sh (fun a _ => O.2 a), ?_, ?_, ?_, ?_, fun i hi => ?_, ?_⟩
  · obtain ⟨r1, r2, r3, r4, r5⟩ := ri
    refine ⟨?_, ?_, ?_, ?_, ?_⟩ <;> rw [sI x _ (by omega), sw_ne _ (by decide)] <;> assumption
  · refine ⟨fun k hk => ?_, fun k hk => ?_⟩
    · rw [sI _ _ (by omega), sw_ne _ (by decide)]; exact ra.1 k hk
    · rw [sI _ _ (by omega), sw_ne _ (by decide)]; exact ra.2 k hk
  · obtain ⟨⟨a1, a2, a3, a4, a5, a6, a7⟩, ⟨c6, c7, c8⟩, -, ⟨e1, e2, e3⟩, ⟨f1, f2, f3⟩, l1, l2, l3⟩ := st
    have sR : ∀ k, hR h' t k = hR h t k := (O.2 t).2.2 (by rw [a1]; decide)
    rw [sw_eq]
    refine ⟨⟨(O.2 t).1.trans a1, by rw [sR]; exact a2, by rw [sR]; exact a3, by rw [sR]; exact a4, by rw [sR]; exact a5, by rw [sR]; exact a6, by rw [sR]; exact a7⟩, hI3, B, ⟨(O.2 _).1.trans e1, (O.2 _).2.1.trans e2, hro⟩, ⟨(O.2 _).1.trans f1, (O.2 _).2.1.trans f2, hwa⟩, ?_, ?_, ?_⟩
    · rw [hu 155 (by omega) (by omega) (by omega) (by omega)]
      refine l1.fr (eqT.of (hl3 _ (by omega) (by omega))) (hd dl b1) (h0 dl) ?_
      rintro i u ⟨L, g1, g2⟩
      refine ⟨L, ?_, g2.fr hf⟩
      rw [lawAt_congr (hu _ (by omega) (by omega) (by omega) (by omega)) (fun k k0 k1 => hu _ (by omega) (by omega) (by omega) (by omega)) (fun k k0 k1 => hu _ (by omega) (by omega) (by omega) (by omega))]
      exact g1
    · rw [hu 153 (by omega) (by omega) (by omega) (by omega)]
      exact l2.bd.fr (eqT.of (hl3 _ (by omega) (by omega))) (hd dv b2) (h0 dv) (fun i u hu2 => hu2.2.fr hf (by decide) (fun k k0 k1 => hu k (by have := hu2.1; omega) (by have := hu2.1; omega) (by have := hu2.1; omega) (by have := hu2.1; omega)))
    · rw [hu 154 (by omega) (by omega) (by omega) (by omega)]
      exact l3.bd.fr (eqT.of (hl3 _ (by omega) (by omega))) (hd ds b3) (h0 ds) (fun i u hu2 => hu2.2.fr hf (by decide) (fun k k0 k1 => hu k (by have := hu2.1; omega) (by have := hu2.1; omega) (by have := hu2.1; omega) (by have := hu2.1; omega)))
  · rw [sw_ne _ (by decide), sw_ne _ (by decide)]
    exact un.fr (eqT.of (ne _ (by omega))) (hd du b4) (h0 du) (fun i u hu2 => hu2.fr0 hf)
  · refine (im i hi).fr hf ?_ h0 (sw_ne _ (by decide)) (sw_ne _ (by decide))
    exact (O.2 (x + 13)).2.2 (by rw [rt.2.2.2.1.1]; decide) i
  · refine dr.fr hf ?_ (by rw [sw_ne _ (by decide)]) (sw_ne _ (by decide)) (sw_ne _ (by decide)) (sw_ne _ (by decide))
    exact (O.2 x).2.2 (by rw [rt.1]; decide) 17
end
