/-! The street's lists change -/
set_option maxRecDepth 100000
section
variable {E : ax_E} {h h' : ax_H} {x t dl dv ds du dl' dv' ds' : Nat} {s : Sg}
theorem REP.street {K : Rw} (H : REP E h x t dl dv ds du s) (h1 : h.1 ≤ h'.1) (hlow : ∀ a, a < x → h'.2.2 a = h.2.2 a) (hne : ∀ a, x ≤ a → a < h.1 → (a < t ∨ t + 12 ≤ a) → a ≠ dl → a ≠ dv → a ≠ ds → h'.2.2 a = h.2.2 a) (hp : PlN E h' x t dl' dv' ds' du) (hfr : ∀ a, Frz h x t dl dv ds du a → Frz h' x t dl' dv' ds' du a) (hS : StN E (Frz h' x t dl' dv' ds' du) h' x t dl' dv' ds' K) : REP E h' x t dl' dv' ds' du (sw s 2 K) := by
  obtain ⟨pl, rt, ri, ra, st, un, im, dr⟩ := H
  have h0 : ∀ d, hT h d = 104 → d ≠ E.2.2 0 := fun d hd => pl.k0 hd
  obtain ⟨⟨q1, q2, q3⟩, ⟨b1, b2, b3, b4⟩, ⟨c1, c2, c3, c4, c5, c6⟩, ⟨low, no⟩, ex⟩ := id pl
  have ne : ∀ a, a < h.1 → (a < t ∨ t + 12 ≤ a) → (a < x + 116 ∨ a = du ∧ a ≠ E.2.2 0 ∨ Frz h x t dl dv ds du a) → h'.2.2 a = h.2.2 a := by
    intro a z1 z2 z3
    by_cases ax : a < x
    · exact hlow a ax
    · unfold Frz Mut at z3
      unfold Dok at b1 b2 b3
      exact hne a (by omega) z1 z2 (by omega) (by omega) (by omega)
  have hf : ∀ a, Frz h x t dl dv ds du a → Frz h' x t dl' dv' ds' du a ∧ eqT (hC h a) (hC h' a) := fun a ha => ⟨hfr a ha, eqT.of (ne a ha.2.1 (by have := ha.2.2; unfold Mut at this; omega) (Or.inr (Or.inr ha)))⟩
  have rte : ∀ a, (a = x ∨ (x + 13 ≤ a ∧ a < x + 84)) → h'.2.2 a = h.2.2 a := fun a ha => ne a (by omega) (by omega) (by omega)
  have sI : ∀ a k, (a = x ∨ (x + 13 ≤ a ∧ a < x + 84)) → hI h' a k = hI h a k := by
    intro a k ha
    unfold hI
    rw [hC_eq (rte a ha)]
  refine ⟨hp, rt.sh (fun a ha => shq.of (rte a ha)), ?_, ?_, ?_, ?_, fun i hi => ?_, ?_⟩
  · obtain ⟨r1, r2, r3, r4, r5⟩ := ri
    refine ⟨?_, ?_, ?_, ?_, ?_⟩ <;> rw [sI x _ (by omega), sw_ne _ (by decide)] <;> assumption
  · refine ⟨fun k hk => ?_, fun k hk => ?_⟩
    · rw [sI _ _ (by omega), sw_ne _ (by decide)]; exact ra.1 k hk
    · rw [sI _ _ (by omega), sw_ne _ (by decide)]; exact ra.2 k hk
  · rw [sw_eq]
    exact hS
  · rw [sw_ne _ (by decide), sw_ne _ (by decide)]
    refine un.fr (eqT.of (rte _ (by omega))) (fun hn => ?_) (h0 du) (fun i u hu2 => hu2.fr0 hf)
    unfold Dok at b4
    exact eqT.of (ne du (by omega) (by omega) (by omega))
  · refine (im i hi).fr hf ?_ h0 (sw_ne _ (by decide)) (sw_ne _ (by decide))
    exact (shq.of (rte (x + 13) (by omega))).2.2 (by rw [rt.2.2.2.1.1]; decide) i
  · refine dr.fr hf ?_ (by rw [sw_ne _ (by decide)]) (sw_ne _ (by decide)) (sw_ne _ (by decide)) (sw_ne _ (by decide))
    exact (shq.of (rte x (by omega))).2.2 (by rw [rt.1]; decide) 17
theorem Dok.mv {t : Nat} {d d' : Nat} (H : Dok E h x t d) (h1 : h.1 ≤ h'.1) (q : x + 116 ≤ h.1 ∧ t + 12 ≤ h.1) (hd : d' = d ∨ (h.1 ≤ d' ∧ d' < h'.1)) : Dok E h' x t d' := by
  unfold Dok at *
  omega
theorem Dok.dist {t : Nat} {a b a' b' : Nat} (ha : Dok E h x t a) (hb : Dok E h x t b) (ex : E.2.2 0 < h.1) (hab : a ≠ b ∨ a = E.2.2 0) (ha' : a' = a ∨ (h.1 ≤ a' ∧ a' < h'.1)) (hb' : b' = b ∨ (h.1 ≤ b' ∧ b' < h'.1)) (h3 : a' = a ∨ b' = b) : a' ≠ b' ∨ a' = E.2.2 0 := by
  unfold Dok at *
  rcases ha' with z | z
  · subst z
    rcases hb' with z | z
    · subst z; exact hab
    · left; omega
  · rcases h3 with y | y
    · subst y
      rcases hb' with w | w
      · subst w; exact hab
      · left; omega
    · subst y
      left; omega
/-- one of the lists has another array -/
theorem PlN.lst (H : PlN E h x t dl dv ds du) (h1 : h.1 ≤ h'.1) (hlow : ∀ a, a < x → h'.2.2 a = h.2.2 a) (ht : ∀ a, x ≤ a → a < x + 116 → hT h' a = hT h a) (hl : dl' = dl ∨ (h.1 ≤ dl' ∧ dl' < h'.1)) (hv : dv' = dv ∨ (h.1 ≤ dv' ∧ dv' < h'.1)) (hs : ds' = ds ∨ (h.1 ≤ ds' ∧ ds' < h'.1)) (h3 : (dl' = dl ∧ dv' = dv) ∨ (dl' = dl ∧ ds' = ds) ∨ (dv' = dv ∧ ds' = ds)) : PlN E h' x t dl' dv' ds' du := by
  obtain ⟨⟨q1, q2, q3⟩, ⟨b1, b2, b3, b4⟩, ⟨c1, c2, c3, c4, c5, c6⟩, ⟨d1, d2⟩, e⟩ := H
  have ex : E.2.2 0 < h.1 := by omega
  have u0 : du = du ∨ (h.1 ≤ du ∧ du < h'.1) := Or.inl rfl
  have lv : dl' = dl ∨ dv' = dv := by rcases h3 with z | z | z <;> simp [z]
  have ls : dl' = dl ∨ ds' = ds := by rcases h3 with z | z | z <;> simp [z]
  have vs : dv' = dv ∨ ds' = ds := by rcases h3 with z | z | z <;> simp [z]
  exact ⟨⟨by omega, q2, by omega⟩, ⟨b1.mv h1 ⟨q1, q3⟩ hl, b2.mv h1 ⟨q1, q3⟩ hv, b3.mv h1 ⟨q1, q3⟩ hs, b4.mv h1 ⟨q1, q3⟩ u0⟩, ⟨b1.dist b2 ex c1 hl hv lv, b1.dist b3 ex c2 hl hs ls, b1.dist b4 ex c3 hl u0 (Or.inr rfl), b2.dist b3 ex c4 hv hs vs, b2.dist b4 ex c5 hv u0 (Or.inr rfl), b3.dist b4 ex c6 hs u0 (Or.inr rfl)⟩, ⟨fun a ha => (hlow a ha).trans (d1 a ha), fun a a0 a1 => by rw [ht a a0 a1]; exact d2 a a0 a1⟩, e⟩
theorem Frz.lst {a : Nat} (H : Frz h x t dl dv ds du a) (h1 : h.1 ≤ h'.1) (hl : dl' = dl ∨ h.1 ≤ dl') (hv : dv' = dv ∨ h.1 ≤ dv') (hs : ds' = ds ∨ h.1 ≤ ds') : Frz h' x t dl' dv' ds' du a := by
  obtain ⟨z1, z2, z3⟩ := H
  unfold Mut at z3
  refine ⟨z1, by omega, ?_⟩
  unfold Mut
  omega
end
/-! what the rows rest on -/
theorem KB.congr {K K' : Rw} (H : KB K) (e : ∀ i, (i < 87 ∨ i = 151 ∨ i = 152 ∨ i = 155 ∨ i = 156) → K' i = K i) : KB K' := by
  obtain ⟨a1, a2, a3, a4, a5⟩ := H
  unfold KB
  rw [e 152 (by decide), e 151 (by decide), e 156 (by decide), e 155 (by decide)]
  refine ⟨a1, a2, a3, fun p h0 h1 => ?_, RV_congr a5 (fun i i0 i1 => e i (Or.inl (by omega)))⟩
  rw [e _ (Or.inl (by omega)), e _ (Or.inl (by omega))]
  exact a4 p h0 h1
theorem LsV.congr {K K' : Rw} (H : LsV K) (e : ∀ i, (i = 155 ∨ 157 ≤ i) → K' i = K i) : LsV K' := by
  intro t h0 h1
  rw [e 155 (by decide)] at h1
  obtain ⟨a, b, L, c⟩ := H t h0 h1
  have e1 : valuesS K' t = valuesS K t := by
    unfold valuesS
    rw [e (157 + t) (by omega)]
    exact cut_congr (fun k k0 k1 => e _ (by omega))
  refine ⟨by rw [e (157 + t) (by omega)]; exact a, by rw [e1]; exact b, L, ?_⟩
  rw [lawAt_congr (e _ (by omega)) (fun k k0 k1 => e _ (by omega)) (fun k k0 k1 => e _ (by omega))]
  exact c
theorem FoV.congr {K K' : Rw} {a c hi : Int} (H : FoV K a c hi) (hc : K' c = K c) (h152 : K' 152 = K 152) (hu : ∀ i, a ≤ i → i < a + 32 → K' i = K i) : FoV K' a c hi := by
  obtain ⟨f, g⟩ := H
  unfold FoV
  rw [hc, h152]
  refine ⟨f, fun k k0 k1 => ?_⟩
  rw [hu _ (by omega) (by omega), hu _ (by omega) (by omega), hu _ (by omega) (by omega), hu _ (by omega) (by omega)]
  exact g k k0 k1
/-- a row of which more may be different, in the state -/
theorem VW.row {n : Int} {s : Sg} {K : Rw} (H : VW n s) (hK : KW K) (h32 : K32 K) (hU : UnV (sw s 2 K)) : VW n (sw s 2 K) := by
  obtain ⟨⟨g, kb, lv, un, re⟩, kw, im, tp, by_, wo, dr⟩ := H
  refine ⟨⟨G32_sw g h32, by rw [sw_eq]; exact hK.1, by rw [sw_eq]; exact hK.2.1, hU, by rw [sw_ne _ (by decide)]; exact re⟩, by rw [sw_eq]; exact hK, fun k a b => ?_, by rw [sw_ne _ (by decide)]; exact tp, by rw [sw_ne _ (by decide)]; exact by_, by rw [sw_ne _ (by decide)]; exact wo, by rw [sw_ne _ (by decide)]; exact dr⟩
  unfold imgK
  rw [sw_ne _ (by decide), sw_ne _ (by decide)]
  exact im k a b
theorem RV.mono {n n' : Int} {K : Rw} (H : RV n K) (h : n ≤ n') : RV n' K := by
  obtain ⟨a1, a2, a3, a4⟩ := H
  refine ⟨a1, a2, a3, fun d d0 d1 => ?_⟩
  obtain ⟨b1, b2, b3, b4, b5⟩ := a4 d d0 d1
  exact ⟨by omega, by omega, b3, b4, b5⟩
theorem UnV.sw2 {s : Sg} {K : Rw} (H : UnV s) (h : s 2 152 ≤ K 152) : UnV (sw s 2 K) := by
  obtain ⟨a, b⟩ := H
  unfold UnV
  rw [sw_eq, sw_ne _ (by decide), sw_ne _ (by decide)]
  exact ⟨a, fun k k0 k1 => ⟨(b k k0 k1).1.mono h, (b k k0 k1).2⟩⟩
