/-! THE COMPONENT: the root is written; what is told of a call -/
set_option maxRecDepth 100000
section
variable {E : ax_E} {h h' : ax_H} {x t dl dv ds du b : Nat} {s s' : Sg}
theorem frz_of (h1 : h.1 ≤ h'.1) (he : ∀ a, Frz h x t dl dv ds du a → h'.2.2 a = h.2.2 a) : ∀ a, Frz h x t dl dv ds du a → Frz h' x t dl dv ds du a ∧ eqT (hC h a) (hC h' a) := fun a ha => ⟨ha.up h1, eqT.of (he a ha)⟩
/-- the rows that the component's other cells stand for are the same -/
def Sam (s s' : Sg) : Prop := s' 2 = s 2 ∧ s' 14 = s 14 ∧ s' 3 = s 3 ∧ s' 4 = s 4 ∧ s' 29 = s 29 ∧ s' 30 = s 30 ∧ s' 31 = s 31 ∧ s' 0 28 = s 0 28 ∧ s' 0 59 = s 0 59
theorem REP.root {k : Nat} {v : Int} (H : REP E h x t dl dv ds du s) (hb : b = x ∨ b = x + 21 ∨ b = x + 22) (hi : RiN (wI h b k v) x s') (ha : RaN (wI h b k v) x s') (hs : Sam s s') : REP E (wI h b k v) x t dl dv ds du s' := by
  obtain ⟨pl, rt, ri, ra, st, un, im, dr⟩ := H
  obtain ⟨e2, e14, e3, e4, e29, e30, e31, e28, e59⟩ := hs
  have h0 : ∀ d, hT h d = 104 → d ≠ E.2.2 0 := fun d hd => pl.k0 hd
  obtain ⟨⟨q1, q2, q3⟩, ⟨b1, b2, b3, b4⟩, -, ⟨low, -⟩, ex⟩ := id pl
  have ne : ∀ a, a ≠ b → (wI h b k v).2.2 a = h.2.2 a := fun a h => hC_wI_ne h
  have hf : ∀ a, Frz h x t dl dv ds du a → Frz (wI h b k v) x t dl dv ds du a ∧ eqT (hC h a) (hC (wI h b k v) a) := frz_of (Nat.le_refl _) (fun a ha => ne a (by have h1 := ha.2.2; have h2 := ha.1; unfold Mut at h1; omega))
  have hd : ∀ d, Dok E h x t d → d ≠ E.2.2 0 → eqT (hC h d) (hC (wI h b k v) d) := by
    intro d hd hn
    rcases hd with hd | hd
    · exact absurd hd hn
    · exact eqT.of (ne d (by omega))
  refine ⟨pl.fr (Nat.le_refl _) (fun a h1 => ne a (by omega)) (fun a _ _ => hT_wI), rt.sh (fun a _ => shq.wI a), hi, ha, ?_, ?_, fun i hi => ?_, ?_⟩
  · rw [e2]
    exact st.fr hf (fun a h1 h2 => eqT.of (ne a (by omega))) h0 (hd dl b1) (hd dv b2) (hd ds b3)
  · rw [e28, e14]
    exact un.fr (eqT.of (ne _ (by omega))) (hd du b4) (h0 du) (fun i u hu => hu.fr0 hf)
  · exact (im i hi).fr hf hR_wI h0 e4 e3
  · exact dr.fr hf hR_wI e59 e29 e30 e31
theorem Kp_lo (H : REP E h x t dl dv ds du s) : x + 116 ≤ h.1 := H.1.1.1
/-- what the model does when it refuses or not -/
def telM (s : Sg) (v : Int) : Sg := if v < 0 then sRef s v else sGood s
theorem sam_tel (s : Sg) (v : Int) : Sam s (telM s v) := by
  unfold telM
  split
  · unfold sRef
    refine ⟨?_, ?_, ?_, ?_, ?_, ?_, ?_, ?_, ?_⟩
    · rw [sw_ne _ (by decide), sw_ne _ (by decide)]
    · rw [sw_ne _ (by decide), sw_ne _ (by decide)]
    · rw [sw_ne _ (by decide), sw_ne _ (by decide)]
    · rw [sw_ne _ (by decide), sw_ne _ (by decide)]
    · rw [sw_ne _ (by decide), sw_ne _ (by decide)]
    · rw [sw_ne _ (by decide), sw_ne _ (by decide)]
    · rw [sw_ne _ (by decide), sw_ne _ (by decide)]
    · rw [sw_ne _ (by decide), sw_eq, u1_ne _ (by decide)]
    · rw [sw_ne _ (by decide), sw_eq, u1_ne _ (by decide)]
  · unfold sGood
    refine ⟨?_, ?_, ?_, ?_, ?_, ?_, ?_, ?_, ?_⟩
    · rw [sw_ne _ (by decide)]
    · rw [sw_ne _ (by decide)]
    · rw [sw_ne _ (by decide)]
    · rw [sw_ne _ (by decide)]
    · rw [sw_ne _ (by decide)]
    · rw [sw_ne _ (by decide)]
    · rw [sw_ne _ (by decide)]
    · rw [sw_eq, u1_ne _ (by decide)]
    · rw [sw_eq, u1_ne _ (by decide)]
theorem c_tell {v : Int} (H : REP E h x t dl dv ds du s) (h1 : -7 < v) (h2 : v ≤ 1000000000) : ∃ h', f_X0_tell E (some x) v h = some (v, h') ∧ REP E h' x t dl dv ds du (telM s v) ∧ h'.1 = h.1 ∧ h'.2.1 = h.2.1 ∧ (∀ a, a ≠ x → a ≠ x + 21 → h'.2.2 a = h.2.2 a) := by
  obtain ⟨a1, a2, ⟨-, -, -, -, -, a8, -⟩, -, -, -, -, ⟨t21, l21⟩, -⟩ := id H.2.1
  obtain ⟨r1, r2, r3, r4, r5⟩ := id H.2.2.1
  obtain ⟨p1, p2⟩ := id H.2.2.2.1
  -- the status
  have S1 : REP E (wI h x 7 (min v 0)) x t dl dv ds du (sw s 0 (u1 (s 0) 0 (min v 0))) := by
    refine H.root (Or.inl rfl) ?_ ?_ ?_
    · refine ⟨?_, ?_, ?_, ?_, ?_⟩
      · rw [hI_wI_eq, sw_eq, u1_eq]
      · rw [hI_wI_ne (by omega), sw_eq, u1_ne _ (by decide)]; exact r2
      · rw [hI_wI_ne (by omega), sw_eq, u1_ne _ (by decide)]; exact r3
      · rw [hI_wI_ne (by omega), sw_eq, u1_ne _ (by decide)]; exact r4
      · rw [hI_wI_ne (by omega), sw_eq, u1_ne _ (by decide)]; exact r5
    · refine ⟨fun k hk => ?_, fun k hk => ?_⟩
      · rw [hI_wI_ne (by omega), sw_ne _ (by decide)]; exact p1 k hk
      · rw [hI_wI_ne (by omega), sw_ne _ (by decide)]; exact p2 k hk
    · refine ⟨?_, ?_, ?_, ?_, ?_, ?_, ?_, ?_, ?_⟩
      · rw [sw_ne _ (by decide)]
      · rw [sw_ne _ (by decide)]
      · rw [sw_ne _ (by decide)]
      · rw [sw_ne _ (by decide)]
      · rw [sw_ne _ (by decide)]
      · rw [sw_ne _ (by decide)]
      · rw [sw_ne _ (by decide)]
      · rw [sw_eq, u1_ne _ (by decide)]
      · rw [sw_eq, u1_ne _ (by decide)]
  unfold f_X0_tell f_X0_tell_24
  rw [c_min (i2_of (by omega) (by omega)) (by decide), Option.bind_some, f_pI a1 (by decide), Option.bind_some, i2_of (by omega) (by omega)]
  by_cases hv : v < 0
  · have hm : min v 0 = v := by omega
    rw [hm] at S1 ⊢
    have nr : (-v).toNat < 7 := by omega
    have eq21 : hI (wI h x 7 v) (x + 21) (-v).toNat = s 1 (-v) := by
      rw [hI_wI_ne (by omega), p1 _ nr, Int.toNat_of_nonneg (by omega)]
    refine ⟨wI (wI h x 7 v) (x + 21) (-v).toNat (s 1 (-v) + 1), ?_, ?_, rfl, rfl, fun a n1 n2 => (hC_wI_ne n2).trans (hC_wI_ne n1)⟩
    · rw [if_pos hv, f_gR (by rw [hT_wI]; exact a1) (by decide), hR_wI, a8, Option.bind_some, f_ld (by rw [hT_wI]; exact t21) (by decide) (by omega) (by rw [hL_wI]; omega) (by rw [hL_wI]; omega), Option.bind_some, eq21, f_sto (by rw [hT_wI]; exact t21) (by decide) (by omega) (by rw [hL_wI]; omega) (by rw [hL_wI]; omega)]
      rfl
    · have : telM s v = sw (sw s 0 (u1 (s 0) 0 v)) 1 (u1 (s 1) (-v) (s 1 (-v) + 1)) := by
        unfold telM
        rw [if_pos hv]
        rfl
      rw [this]
      refine S1.root (Or.inr (Or.inl rfl)) ?_ ?_ ?_
      · obtain ⟨y1, y2, y3, y4, y5⟩ := S1.2.2.1
        refine ⟨?_, ?_, ?_, ?_, ?_⟩
        · rw [hI_wI_ne (by omega), sw_ne _ (by decide)]; exact y1
        · rw [hI_wI_ne (by omega), sw_ne _ (by decide)]; exact y2
        · rw [hI_wI_ne (by omega), sw_ne _ (by decide)]; exact y3
        · rw [hI_wI_ne (by omega), sw_ne _ (by decide)]; exact y4
        · rw [hI_wI_ne (by omega), sw_ne _ (by decide)]; exact y5
      · refine ⟨fun k hk => ?_, fun k hk => ?_⟩
        · rw [sw_eq]
          by_cases hkv : (k : Int) = -v
          · rw [hkv, u1_eq]
            have : k = (-v).toNat := by omega
            rw [this, hI_wI_eq]
          · rw [hI_wI_ne (by omega), hI_wI_ne (by omega), u1_ne _ hkv]
            exact p1 k hk
        · rw [hI_wI_ne (by omega), hI_wI_ne (by omega), sw_ne _ (by decide), sw_ne _ (by decide)]
          exact p2 k hk
      · refine ⟨?_, ?_, ?_, ?_, ?_, ?_, ?_, ?_, ?_⟩ <;> rw [sw_ne _ (by decide)]
  · have hm : min v 0 = 0 := by omega
    rw [hm] at S1 ⊢
    refine ⟨wI h x 7 0, ?_, ?_, rfl, rfl, fun a n1 _ => hC_wI_ne n1⟩
    · rw [if_neg hv]
    · have : telM s v = sw s 0 (u1 (s 0) 0 0) := by
        unfold telM
        rw [if_neg hv]
        rfl
      rw [this]
      exact S1
/-- the street's books change -/
theorem REP.books {K : Rw} (H : REP E h x t dl dv ds du s) (O : OnS (t + 4) 6 h h') (B : BK h' (t + 4) K) (hu : ∀ i, 73 ≤ i → K i = s 2 i) : REP E h' x t dl dv ds du (sw s 2 K) := by
  obtain ⟨pl, rt, ri, ra, st, un, im, dr⟩ := H
  have h0 : ∀ d, hT h d = 104 → d ≠ E.2.2 0 := fun d hd => pl.k0 hd
  obtain ⟨⟨q1, q2, q3⟩, ⟨b1, b2, b3, b4⟩, -, ⟨low, -⟩, ex⟩ := id pl
  have ne : ∀ a, (a < t + 4 ∨ t + 10 ≤ a) → h'.2.2 a = h.2.2 a := fun a h => O.1.2.2 a (by omega)
  have hf : ∀ a, Frz h x t dl dv ds du a → Frz h' x t dl dv ds du a ∧ eqT (hC h a) (hC h' a) := frz_of (by rw [O.1.1]; exact Nat.le_refl _) (fun a ha => ne a (by have h1 := ha.2.2; have h2 := ha.1; unfold Mut at h1; omega))
  have hd : ∀ d, Dok E h x t d → d ≠ E.2.2 0 → eqT (hC h d) (hC h' d) := by
    intro d hd hn
    rcases hd with hd | hd
    · exact absurd hd hn
    · exact eqT.of (ne d (by omega))
  have sI : ∀ a k, (a < t + 4 ∨ t + 10 ≤ a) → hI h' a k = hI h a k := by
    intro a k ha
    unfold hI
    rw [hC_eq (ne a ha)]
  refine ⟨pl.fr (by rw [O.1.1]; exact Nat.le_refl _) (fun a h1 => ne a (by omega)) (fun a _ _ => (O.2 a).1), rt.sh (fun a _ => O.2 a), ?_, ?_, ?_, ?_, fun i hi => ?_, ?_⟩
  · obtain ⟨r1, r2, r3, r4, r5⟩ := ri
    refine ⟨?_, ?_, ?_, ?_, ?_⟩ <;> rw [sI x _ (by omega), sw_ne _ (by decide)] <;> assumption
  · refine ⟨fun k hk => ?_, fun k hk => ?_⟩
    · rw [sI _ _ (by omega), sw_ne _ (by decide)]; exact ra.1 k hk
    · rw [sI _ _ (by omega), sw_ne _ (by decide)]; exact ra.2 k hk
  · obtain ⟨⟨a1, a2, a3, a4, a5, a6, a7⟩, ⟨c6, c7, c8⟩, -, ⟨e1, e2, e3⟩, ⟨f1, f2, f3⟩, l1, l2, l3⟩ := st
    have sR : ∀ a k, (a < t + 4 ∨ t + 10 ≤ a) → hR h' a k = hR h a k := by
      intro a k ha
      unfold hR
      rw [hC_eq (ne a ha)]
    rw [sw_eq]
    refine ⟨⟨(O.2 t).1.trans a1, by rw [sR _ _ (by omega)]; exact a2, by rw [sR _ _ (by omega)]; exact a3, by rw [sR _ _ (by omega)]; exact a4, by rw [sR _ _ (by omega)]; exact a5, by rw [sR _ _ (by omega)]; exact a6, by rw [sR _ _ (by omega)]; exact a7⟩, ⟨by rw [sI _ _ (by omega), hu 152 (by omega)]; exact c6, by rw [sI _ _ (by omega), hu 151 (by omega)]; exact c7, by rw [sI _ _ (by omega), hu 156 (by omega)]; exact c8⟩, B, ⟨(O.2 _).1.trans e1, (O.2 _).2.1.trans e2, fun p hp => ?_⟩, ⟨(O.2 _).1.trans f1, (O.2 _).2.1.trans f2, fun p hp => ?_⟩, ?_, ?_, ?_⟩
    · rw [hu 152 (by omega)] at hp
      rw [sI _ _ (by omega), hu _ (by omega)]
      exact e3 p hp
    · rw [hu 152 (by omega)] at hp
      rw [sI _ _ (by omega), hu _ (by omega)]
      exact f3 p hp
    · rw [hu 155 (by omega)]
      refine l1.fr (eqT.of (ne _ (by omega))) (hd dl b1) (h0 dl) ?_
      rintro i u ⟨L, g1, g2⟩
      refine ⟨L, ?_, g2.fr hf⟩
      rw [lawAt_congr (hu _ (by omega)) (fun k k0 k1 => hu _ (by omega)) (fun k k0 k1 => hu _ (by omega))]
      exact g1
    · rw [hu 153 (by omega)]
      exact l2.fr (eqT.of (ne _ (by omega))) (hd dv b2) (h0 dv) (fun i u hu2 => hu2.fr hf (by decide) (fun k k0 k1 => hu k (by omega)))
    · rw [hu 154 (by omega)]
      exact l3.fr (eqT.of (ne _ (by omega))) (hd ds b3) (h0 ds) (fun i u hu2 => hu2.fr hf (by decide) (fun k k0 k1 => hu k (by omega)))
  · rw [sw_ne _ (by decide), sw_ne _ (by decide)]
    exact un.fr (eqT.of (ne _ (by omega))) (hd du b4) (h0 du) (fun i u hu2 => hu2.fr0 hf)
  · refine (im i hi).fr hf ?_ h0 (sw_ne _ (by decide)) (sw_ne _ (by decide))
    exact (O.2 (x + 13)).2.2 (by rw [rt.2.2.2.1.1]; decide) i
  · refine dr.fr hf ?_ (by rw [sw_ne _ (by decide)]) (sw_ne _ (by decide)) (sw_ne _ (by decide)) (sw_ne _ (by decide))
    exact (O.2 x).2.2 (by rw [rt.1]; decide) 17
end
