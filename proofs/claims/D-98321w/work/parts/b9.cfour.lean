/-! Visits, scuffs told: the component -/
set_option maxRecDepth 100000
section
variable {E : ax_E} {h h' g : ax_H} {x t dl dv ds du dl' dv' ds' a d d' u : Nat} {s : Sg} {n : Int} {cap : Nat} {K K' : Rw} {Fz Fz' : Nat → Prop}
/-- a street but for its lists -/
theorem StN.up (H : StN E Fz h x t dl dv ds K) (e : ∀ a, (a = t ∨ (t + 4 ≤ a ∧ a < t + 12)) → h'.2.2 a = h.2.2 a) (h7 : K 152 ≤ 7) (h16 : K 71 ≤ 16) (hK : ∀ i, (i < 87 ∨ i = 151 ∨ i = 152 ∨ i = 156) → K' i = K i) (l1 : LsN E h' (t + 1) dl' (K' 155) 10 (LwN Fz' h' x K')) (l2 : LsN E h' (t + 2) dv' (K' 153) 10 (FrN Fz' h' 28 K' 87)) (l3 : LsN E h' (t + 3) ds' (K' 154) 10 (FrN Fz' h' 32 K' 119)) : StN E Fz' h' x t dl' dv' ds' K' := by
  obtain ⟨⟨a1, a2, a3, a4, a5, a6, a7⟩, ⟨c6, c7, c8⟩, B, ⟨e1, e2, e3⟩, ⟨f1, f2, f3⟩, -, -, -⟩ := H
  have q0 := hC_eq (e t (Or.inl rfl))
  have q10 := hC_eq (e (t + 10) (Or.inr (by omega)))
  have q11 := hC_eq (e (t + 11) (Or.inr (by omega)))
  have B' : BK h' (t + 4) K' := (B.fr (fun a h1 h2 => e a (Or.inr (by omega)))).congr (hK 71 (by decide)) (hK 72 (by decide)) (fun p p0 p1 => hK p (Or.inl (by omega))) (fun i i0 i1 => hK i (Or.inl (by omega)))
  unfold StN hT hR hI hL at *
  rw [q0, q10, q11, hK 152 (by decide), hK 151 (by decide), hK 156 (by decide)]
  refine ⟨⟨a1, a2, a3, a4, a5, a6, a7⟩, ⟨c6, c7, c8⟩, B', ⟨e1, e2, fun p hp => ?_⟩, ⟨f1, f2, fun p hp => ?_⟩, l1, l2, l3⟩
  · rw [hK _ (Or.inl (by omega))]; exact e3 p hp
  · rw [hK _ (Or.inl (by omega))]; exact f3 p hp
/-- laws that stay as they are -/
theorem lawL (H : LsN E h a d n cap (LwN Fz h x K)) (ea : h'.2.2 a = h.2.2 a) (ed : d ≠ E.2.2 0 → h'.2.2 d = h.2.2 d) (hd : hT h d = 104 → d ≠ E.2.2 0) (hf : ∀ a, Fz a → Fz' a ∧ eqT (hC h a) (hC h' a)) (hK : ∀ i, 157 ≤ i → K' i = K i) : LsN E h' a d n cap (LwN Fz' h' x K') := by
  refine H.fr (eqT.of ea) (fun q => eqT.of (ed q)) hd ?_
  rintro i w ⟨L, g1, g2⟩
  refine ⟨L, ?_, g2.fr hf⟩
  rw [lawAt_congr (hK _ (by omega)) (fun k k0 k1 => hK _ (by omega)) (fun k k0 k1 => hK _ (by omega))]
  exact g1
/-- rows of four that stay as they are -/
theorem fourL {tg : Nat} {at_ : Int} (H : LsN E h a d n cap (FrN Fz h tg K at_)) (h8 : n ≤ 8) (htg : tg ≠ 15) (ea : h'.2.2 a = h.2.2 a) (ed : d ≠ E.2.2 0 → h'.2.2 d = h.2.2 d) (hd : hT h d = 104 → d ≠ E.2.2 0) (hf : ∀ a, Fz a → Fz' a ∧ eqT (hC h a) (hC h' a)) (hK : ∀ i, at_ ≤ i → i < at_ + 32 → K' i = K i) : LsN E h' a d n cap (FrN Fz' h' tg K' at_) := by
  refine H.bd.fr (eqT.of ea) (fun q => eqT.of (ed q)) hd (fun i w hu => ?_)
  have := hu.1
  exact hu.2.fr hf htg (fun k k0 k1 => hK k (by omega) (by omega))
/-- one more -/
theorem fourA {tg : Nat} {at_ : Int} (H : LsN E h a d n cap (FrN Fz h tg K at_)) (L0 : Ls0 E g a d' (n + 1) cap) (htg : tg ≠ 15) (R1 : ∀ k : Nat, (k : Int) < n → hR g d' k = hR h d k) (R2 : hR g d' n.toNat = some u) (hf : ∀ a, Fz a → Fz' a ∧ eqT (hC h a) (hC g a)) (new : FrN Fz' g tg K' at_ n.toNat u) (hK : ∀ i, at_ ≤ i → i < at_ + 4 * n → K' i = K i) : LsN E g a d' (n + 1) cap (FrN Fz' g tg K' at_) := by
  obtain ⟨l1, l2, l3, l4, l5⟩ := L0
  have n0 := H.2.2.2.1
  refine ⟨l1, l2, l3, l4, l5, fun k hk => ?_⟩
  by_cases e : k = n.toNat
  · subst e
    exact ⟨u, R2, new⟩
  · obtain ⟨w, w1, w2⟩ := H.2.2.2.2.2 k (by omega)
    exact ⟨w, by rw [R1 k (by omega)]; exact w1, w2.fr hf htg (fun i i0 i1 => hK i (by omega) (by omega))⟩
/-- a list's elements are in the heap -/
theorem fourE {tg : Nat} {at_ : Int} (H : LsN E h a d n cap (FrN (Frz h x t dl dv ds du) h tg K at_)) (htg : tg = 28 ∨ tg = 32) : ∀ k : Nat, (k : Int) < n → ∃ u, hR h d k = some u ∧ hT h u ≠ 999 ∧ oj_104 (hT h u) = true ∧ u < h.1 := by
  intro k hk
  obtain ⟨w, w1, w2⟩ := H.2.2.2.2.2 k hk
  refine ⟨w, w1, by rw [w2.2.1]; omega, ?_, w2.1.2.1⟩
  rw [w2.2.1]
  rcases htg with rfl | rfl <;> decide
/-- a visit more -/
theorem c_addvisit {v o r w : Int} (H : REP E h x t dl dv ds du s) (hE : Ek E x) (hK : KB (s 2)) (h7 : 0 ≤ s 2 153 ∧ s 2 153 ≤ 7) (hO : 0 ≤ s 2 154 ∧ s 2 154 ≤ 8) (e1 : h.1 + 3 ≤ E.1.1) (e2 : h.2.1 + 1700 ≤ E.1.2) : ∃ (d' : Nat) (g : ax_H), f_J2_add E (some (t + 2)) (some h.1) (wI (wI (wI (wI (nwH h 28 0 4) h.1 0 v) h.1 1 o) h.1 2 r) h.1 3 w) = some (1, g) ∧ REP E g x t dl d' ds du (sw s 2 (fourR (s 2) 87 153 v o r w)) ∧ Blk x 8 110 h g := by
  obtain ⟨pl, -, -, -, st, -, -, -⟩ := id H
  obtain ⟨⟨q1, q2, q3⟩, ⟨b1, b2, b3, b4⟩, ⟨c1, c2, c3, c4, c5, c6⟩, -, ex⟩ := id pl
  have X1 : x + 1 ≤ t := by clear c1 c2 c3 c4 c5 c6; omega
  have X2 : ∀ b, x + 84 ≤ b → b < x + 116 → b < t ∨ t + 12 ≤ b := by clear c1 c2 c3 c4 c5 c6; intro b _ _; omega
  have lt : ∀ d, Dok E h x t d → d < h.1 ∧ (d < t ∨ t + 12 ≤ d) ∧ (d < x ∨ x + 116 ≤ d) := by
    clear c1 c2 c3 c4 c5 c6
    intro d hd
    unfold Dok at hd
    omega
  clear q2
  obtain ⟨D1, D2, D3⟩ := lt dv b2
  have Ll := (lt dl b1).1
  have Lv := (lt dv b2).1
  have Ls := (lt ds b3).1
  have Lu := (lt du b4).1
  have n1 : dl ≠ dv ∨ dl = E.2.2 0 := c1
  have n2 : ds ≠ dv ∨ ds = E.2.2 0 := by omega
  clear c1 c2 c3 c4 c5 c6
  obtain ⟨h1, hh1⟩ : ∃ h1, h1 = wI (wI (wI (wI (nwH h 28 0 4) h.1 0 v) h.1 1 o) h.1 2 r) h.1 3 w := ⟨_, rfl⟩
  rw [← hh1]
  have g1 : h1.1 = h.1 + 1 := by rw [hh1]; rfl
  have g2 : h1.2.1 = h.2.1 + 4 := by rw [hh1]; rfl
  have g3 : ∀ b, b ≠ h.1 → h1.2.2 b = h.2.2 b := fun b hb => by rw [hh1, hC_wI_ne hb, hC_wI_ne hb, hC_wI_ne hb, hC_wI_ne hb, hC_nw_ne hb]
  have gT : hT h1 h.1 = 28 := by rw [hh1, hT_wI, hT_wI, hT_wI, hT_wI, hT_nw_eq]
  have i0 : hI h1 h.1 0 = v := by rw [hh1, hI_wI_ne (by omega), hI_wI_ne (by omega), hI_wI_ne (by omega), hI_wI_eq]
  have i1 : hI h1 h.1 1 = o := by rw [hh1, hI_wI_ne (by omega), hI_wI_ne (by omega), hI_wI_eq]
  have i2' : hI h1 h.1 2 = r := by rw [hh1, hI_wI_ne (by omega), hI_wI_eq]
  have i3 : hI h1 h.1 3 = w := by rw [hh1, hI_wI_eq]
  have l2 := st.2.2.2.2.2.2.1
  have l3 := st.2.2.2.2.2.2.2
  have l1 := st.2.2.2.2.2.1
  have dne : t + 2 ≠ dv := by omega
  have cT : ∀ b, b ≠ h.1 → hT h1 b = hT h b := fun b hb => by unfold hT; rw [hC_eq (g3 b hb)]
  have cR : ∀ b k, b ≠ h.1 → hR h1 b k = hR h b k := fun b k hb => by unfold hR; rw [hC_eq (g3 b hb)]
  have cI : ∀ b k, b ≠ h.1 → hI h1 b k = hI h b k := fun b k hb => by unfold hI; rw [hC_eq (g3 b hb)]
  have cL : ∀ b, b ≠ h.1 → hL h1 b = hL h b := fun b hb => by unfold hL; rw [hC_eq (g3 b hb)]
  have hEm : Emp E h1 := by
    obtain ⟨y1, y2⟩ := H.emp hE
    exact ⟨by rw [g3 _ (by omega)]; exact y1, y2⟩
  have L0 : Ls0 E h1 (t + 2) dv (s 2 153) 10 := by
    obtain ⟨y1, y2, y3, y4, y5, -⟩ := l2
    refine ⟨by rw [cT _ (by omega)]; exact y1, by rw [cR _ _ (by omega)]; exact y2, by rw [cI _ _ (by omega)]; exact y3, y4, ?_⟩
    rw [cT _ (by omega), cL _ (by omega)]
    exact y5
  obtain ⟨d', g, p1, p2, p3, p4, p5, p6⟩ := c_lsAdd (u := h.1) (cap' := 10) L0 (by decide) (by decide) (by omega) (by decide) hEm (by omega) (by omega) dne (fun k hk => by
    obtain ⟨w, w1, w2, w3, w4⟩ := fourE l2 (by decide) k hk
    exact ⟨w, by rw [cR _ _ (by omega)]; exact w1, by rw [cT _ (by omega)]; exact w2, by rw [cT _ (by omega)]; exact w3, by omega⟩) (by rw [gT]; decide) (by rw [gT]; decide) (by omega) (by omega) (by omega)
  have gs : h.1 + 1 ≤ g.1 ∧ g.1 ≤ h.1 + 2 ∧ h.2.1 ≤ g.2.1 ∧ g.2.1 ≤ h.2.1 + 14 := by omega
  have gd2 : d' = dv ∨ (d' = h.1 + 1 ∧ g.1 = h.1 + 2) := by omega
  have gd : d' = dv ∨ (h.1 ≤ d' ∧ d' < g.1) := by omega
  have gT' : d' ≠ dv ∨ hT h1 dv = 104 := by
    rcases p2 with z | z
    · exact Or.inr z.2.2.2
    · left; omega
  clear p2
  have same : ∀ b, b < h.1 → b ≠ t + 2 → b ≠ dv → g.2.2 b = h.2.2 b := fun b z1 z2 z3 => (p4 b (by omega) z2 (Or.inl z3)).trans (g3 b (by omega))
  have gn : g.2.2 h.1 = h1.2.2 h.1 := p4 h.1 (by omega) (by omega) (Or.inl (by omega))
  have hlow : ∀ a, a < x → g.2.2 a = h.2.2 a := by
    intro a ha
    by_cases e : a = dv
    · rcases gT' with z | z
      · exact (p4 a (by omega) (by omega) (Or.inr z)).trans (g3 a (by omega))
      · have : hT h dv = 104 := by rw [← cT _ (by omega)]; exact z
        have b := b2
        rcases b with b | b
        · exact absurd b (pl.k0 this)
        · exfalso; omega
    · exact same a (by omega) (by omega) e
  have pl' : PlN E g x t dl d' ds du := pl.lst (by omega) hlow (fun a a0 a1 => by
    by_cases e : a = t + 2
    · subst e
      rw [p3.1, l2.1]
    · unfold hT
      rw [hC_eq (same a (by omega) e (by omega))]) (Or.inl rfl) gd (Or.inl rfl) (Or.inr (Or.inl ⟨rfl, rfl⟩))
  have hfr : ∀ a, Frz h x t dl dv ds du a → Frz g x t dl d' ds du a := fun a ha => ha.lst (by omega) (Or.inl rfl) (by omega) (Or.inl rfl)
  have hf : ∀ a, Frz h x t dl dv ds du a → Frz g x t dl d' ds du a ∧ eqT (hC h a) (hC g a) := fun a ha => ⟨hfr a ha, eqT.of (same a ha.2.1 (by have := ha.2.2; unfold Mut at this; omega) (by have := ha.2.2; unfold Mut at this; omega))⟩
  have ne : ∀ i, (i < 87 + 4 * s 2 153 ∨ 87 + 4 * s 2 153 + 3 < i) → i ≠ 153 → fourR (s 2) 87 153 v o r w i = s 2 i := by
    intro i i1 i2
    unfold fourR
    rw [u1_ne _ i2, u1_ne _ (by omega), u1_ne _ (by omega), u1_ne _ (by omega), u1_ne _ (by omega)]
  have nc : fourR (s 2) 87 153 v o r w 153 = s 2 153 + 1 := u1_eq _ _ _
  have h0 : ∀ d, hT h d = 104 → d ≠ E.2.2 0 := fun d hd => pl.k0 hd
  have dsame : ∀ d, Dok E h x t d → d ≠ dv ∨ d = E.2.2 0 → d ≠ E.2.2 0 → g.2.2 d = h.2.2 d := by
    intro d hd z1 z2
    have z3 := lt d hd
    exact same d z3.1 (by omega) (z1.resolve_right z2)
  have hu : Frz g x t dl d' ds du h.1 := by
    refine ⟨by omega, by omega, ?_⟩
    unfold Mut
    omega
  have new : FrN (Frz g x t dl d' ds du) g 28 (fourR (s 2) 87 153 v o r w) 87 (s 2 153).toNat h.1 := by
    have ec : (((s 2 153).toNat : Nat) : Int) = s 2 153 := by omega
    have en := hC_eq gn
    refine ⟨hu, ?_, ?_, ?_, ?_, ?_⟩
    · unfold hT at gT ⊢; rw [en]; exact gT
    · unfold hI at i0 ⊢; rw [en, i0, ec]; unfold fourR; rw [u1_ne _ (by omega), u1_ne _ (by omega), u1_ne _ (by omega), u1_ne _ (by omega), u1_eq]
    · unfold hI at i1 ⊢; rw [en, i1, ec]; unfold fourR; rw [u1_ne _ (by omega), u1_ne _ (by omega), u1_ne _ (by omega), u1_eq]
    · unfold hI at i2' ⊢; rw [en, i2', ec]; unfold fourR; rw [u1_ne _ (by omega), u1_ne _ (by omega), u1_eq]
    · unfold hI at i3 ⊢; rw [en, i3, ec]; unfold fourR; rw [u1_ne _ (by omega), u1_eq]
  have R1 : ∀ k : Nat, (k : Int) < s 2 153 → hR g d' k = hR h dv k := fun k hk => (p5 k hk).trans (cR _ _ (by omega))
  have LA := fourA l2 p3 (by decide) R1 p6 hf new (fun i i0 i1 => ne i (by omega) (by omega))
  refine ⟨d', g, p1, H.street (by omega) hlow (fun a _ z2 z3 z4 z5 z6 => same a z2 (by omega) (by omega)) pl' hfr ?_, ?_⟩
  · refine st.up (fun a ha => same a (by omega) (by omega) (by omega)) hK.1.2 hK.2.2.2.2.1.2 (fun i hi => ne i (by omega) (by omega)) ?_ ?_ ?_
    · rw [ne 155 (by omega) (by omega)]
      exact lawL l1 (same _ (by omega) (by omega) (by omega)) (fun z => dsame dl b1 n1 z) (h0 dl) hf (fun i hi => ne i (by omega) (by omega))
    · rw [nc]; exact LA
    · rw [ne 154 (by omega) (by omega)]
      exact fourL l3 hO.2 (by decide) (same _ (by omega) (by omega) (by omega)) (fun z => dsame ds b3 n2 z) (h0 ds) hf (fun i i0 i1 => ne i (by omega) (by omega))
  · exact ⟨by omega, by omega, by omega, by omega, fun b z1 z2 => same b (by omega) (by have := X2 b z1 z2; omega) (by omega)⟩
/-- a scuff more -/
theorem c_addscuff {v o r w : Int} (H : REP E h x t dl dv ds du s) (hE : Ek E x) (hK : KB (s 2)) (h7 : 0 ≤ s 2 154 ∧ s 2 154 ≤ 7) (hO : 0 ≤ s 2 153 ∧ s 2 153 ≤ 8) (e1 : h.1 + 3 ≤ E.1.1) (e2 : h.2.1 + 1700 ≤ E.1.2) : ∃ (d' : Nat) (g : ax_H), f_J2_add E (some (t + 3)) (some h.1) (wI (wI (wI (wI (nwH h 32 0 4) h.1 0 v) h.1 1 o) h.1 2 r) h.1 3 w) = some (1, g) ∧ REP E g x t dl dv d' du (sw s 2 (fourR (s 2) 119 154 v o r w)) ∧ Blk x 8 110 h g := by
  obtain ⟨pl, -, -, -, st, -, -, -⟩ := id H
  obtain ⟨⟨q1, q2, q3⟩, ⟨b1, b2, b3, b4⟩, ⟨c1, c2, c3, c4, c5, c6⟩, -, ex⟩ := id pl
  have X1 : x + 1 ≤ t := by clear c1 c2 c3 c4 c5 c6; omega
  have X2 : ∀ b, x + 84 ≤ b → b < x + 116 → b < t ∨ t + 12 ≤ b := by clear c1 c2 c3 c4 c5 c6; intro b _ _; omega
  have lt : ∀ d, Dok E h x t d → d < h.1 ∧ (d < t ∨ t + 12 ≤ d) ∧ (d < x ∨ x + 116 ≤ d) := by
    clear c1 c2 c3 c4 c5 c6
    intro d hd
    unfold Dok at hd
    omega
  clear q2
  obtain ⟨D1, D2, D3⟩ := lt ds b3
  have Ll := (lt dl b1).1
  have Lv := (lt dv b2).1
  have Ls := (lt ds b3).1
  have Lu := (lt du b4).1
  have n1 : dl ≠ ds ∨ dl = E.2.2 0 := c2
  have n2 : dv ≠ ds ∨ dv = E.2.2 0 := c4
  clear c1 c2 c3 c4 c5 c6
  obtain ⟨h1, hh1⟩ : ∃ h1, h1 = wI (wI (wI (wI (nwH h 32 0 4) h.1 0 v) h.1 1 o) h.1 2 r) h.1 3 w := ⟨_, rfl⟩
  rw [← hh1]
  have g1 : h1.1 = h.1 + 1 := by rw [hh1]; rfl
  have g2 : h1.2.1 = h.2.1 + 4 := by rw [hh1]; rfl
  have g3 : ∀ b, b ≠ h.1 → h1.2.2 b = h.2.2 b := fun b hb => by rw [hh1, hC_wI_ne hb, hC_wI_ne hb, hC_wI_ne hb, hC_wI_ne hb, hC_nw_ne hb]
  have gT : hT h1 h.1 = 32 := by rw [hh1, hT_wI, hT_wI, hT_wI, hT_wI, hT_nw_eq]
  have i0 : hI h1 h.1 0 = v := by rw [hh1, hI_wI_ne (by omega), hI_wI_ne (by omega), hI_wI_ne (by omega), hI_wI_eq]
  have i1 : hI h1 h.1 1 = o := by rw [hh1, hI_wI_ne (by omega), hI_wI_ne (by omega), hI_wI_eq]
  have i2' : hI h1 h.1 2 = r := by rw [hh1, hI_wI_ne (by omega), hI_wI_eq]
  have i3 : hI h1 h.1 3 = w := by rw [hh1, hI_wI_eq]
  have l2 := st.2.2.2.2.2.2.1
  have l3 := st.2.2.2.2.2.2.2
  have l1 := st.2.2.2.2.2.1
  have dne : t + 3 ≠ ds := by omega
  have cT : ∀ b, b ≠ h.1 → hT h1 b = hT h b := fun b hb => by unfold hT; rw [hC_eq (g3 b hb)]
  have cR : ∀ b k, b ≠ h.1 → hR h1 b k = hR h b k := fun b k hb => by unfold hR; rw [hC_eq (g3 b hb)]
  have cI : ∀ b k, b ≠ h.1 → hI h1 b k = hI h b k := fun b k hb => by unfold hI; rw [hC_eq (g3 b hb)]
  have cL : ∀ b, b ≠ h.1 → hL h1 b = hL h b := fun b hb => by unfold hL; rw [hC_eq (g3 b hb)]
  have hEm : Emp E h1 := by
    obtain ⟨y1, y2⟩ := H.emp hE
    exact ⟨by rw [g3 _ (by omega)]; exact y1, y2⟩
  have L0 : Ls0 E h1 (t + 3) ds (s 2 154) 10 := by
    obtain ⟨y1, y2, y3, y4, y5, -⟩ := l3
    refine ⟨by rw [cT _ (by omega)]; exact y1, by rw [cR _ _ (by omega)]; exact y2, by rw [cI _ _ (by omega)]; exact y3, y4, ?_⟩
    rw [cT _ (by omega), cL _ (by omega)]
    exact y5
  obtain ⟨d', g, p1, p2, p3, p4, p5, p6⟩ := c_lsAdd (u := h.1) (cap' := 10) L0 (by decide) (by decide) (by omega) (by decide) hEm (by omega) (by omega) dne (fun k hk => by
    obtain ⟨w, w1, w2, w3, w4⟩ := fourE l3 (by decide) k hk
    exact ⟨w, by rw [cR _ _ (by omega)]; exact w1, by rw [cT _ (by omega)]; exact w2, by rw [cT _ (by omega)]; exact w3, by omega⟩) (by rw [gT]; decide) (by rw [gT]; decide) (by omega) (by omega) (by omega)
  have gs : h.1 + 1 ≤ g.1 ∧ g.1 ≤ h.1 + 2 ∧ h.2.1 ≤ g.2.1 ∧ g.2.1 ≤ h.2.1 + 14 := by omega
  have gd2 : d' = ds ∨ (d' = h.1 + 1 ∧ g.1 = h.1 + 2) := by omega
  have gd : d' = ds ∨ (h.1 ≤ d' ∧ d' < g.1) := by omega
  have gT' : d' ≠ ds ∨ hT h1 ds = 104 := by
    rcases p2 with z | z
    · exact Or.inr z.2.2.2
    · left; omega
  clear p2
  have same : ∀ b, b < h.1 → b ≠ t + 3 → b ≠ ds → g.2.2 b = h.2.2 b := fun b z1 z2 z3 => (p4 b (by omega) z2 (Or.inl z3)).trans (g3 b (by omega))
  have gn : g.2.2 h.1 = h1.2.2 h.1 := p4 h.1 (by omega) (by omega) (Or.inl (by omega))
  have hlow : ∀ a, a < x → g.2.2 a = h.2.2 a := by
    intro a ha
    by_cases e : a = ds
    · rcases gT' with z | z
      · exact (p4 a (by omega) (by omega) (Or.inr z)).trans (g3 a (by omega))
      · have : hT h ds = 104 := by rw [← cT _ (by omega)]; exact z
        have b := b3
        rcases b with b | b
        · exact absurd b (pl.k0 this)
        · exfalso; omega
    · exact same a (by omega) (by omega) e
  have pl' : PlN E g x t dl dv d' du := pl.lst (by omega) hlow (fun a a0 a1 => by
    by_cases e : a = t + 3
    · subst e
      rw [p3.1, l3.1]
    · unfold hT
      rw [hC_eq (same a (by omega) e (by omega))]) (Or.inl rfl) (Or.inl rfl) gd (Or.inl ⟨rfl, rfl⟩)
  have hfr : ∀ a, Frz h x t dl dv ds du a → Frz g x t dl dv d' du a := fun a ha => ha.lst (by omega) (Or.inl rfl) (Or.inl rfl) (by omega)
  have hf : ∀ a, Frz h x t dl dv ds du a → Frz g x t dl dv d' du a ∧ eqT (hC h a) (hC g a) := fun a ha => ⟨hfr a ha, eqT.of (same a ha.2.1 (by have := ha.2.2; unfold Mut at this; omega) (by have := ha.2.2; unfold Mut at this; omega))⟩
  have ne : ∀ i, (i < 119 + 4 * s 2 154 ∨ 119 + 4 * s 2 154 + 3 < i) → i ≠ 154 → fourR (s 2) 119 154 v o r w i = s 2 i := by
    intro i i1 i2
    unfold fourR
    rw [u1_ne _ i2, u1_ne _ (by omega), u1_ne _ (by omega), u1_ne _ (by omega), u1_ne _ (by omega)]
  have nc : fourR (s 2) 119 154 v o r w 154 = s 2 154 + 1 := u1_eq _ _ _
  have h0 : ∀ d, hT h d = 104 → d ≠ E.2.2 0 := fun d hd => pl.k0 hd
  have dsame : ∀ d, Dok E h x t d → d ≠ ds ∨ d = E.2.2 0 → d ≠ E.2.2 0 → g.2.2 d = h.2.2 d := by
    intro d hd z1 z2
    have z3 := lt d hd
    exact same d z3.1 (by omega) (z1.resolve_right z2)
  have hu : Frz g x t dl dv d' du h.1 := by
    refine ⟨by omega, by omega, ?_⟩
    unfold Mut
    omega
  have new : FrN (Frz g x t dl dv d' du) g 32 (fourR (s 2) 119 154 v o r w) 119 (s 2 154).toNat h.1 := by
    have ec : (((s 2 154).toNat : Nat) : Int) = s 2 154 := by omega
    have en := hC_eq gn
    refine ⟨hu, ?_, ?_, ?_, ?_, ?_⟩
    · unfold hT at gT ⊢; rw [en]; exact gT
    · unfold hI at i0 ⊢; rw [en, i0, ec]; unfold fourR; rw [u1_ne _ (by omega), u1_ne _ (by omega), u1_ne _ (by omega), u1_ne _ (by omega), u1_eq]
    · unfold hI at i1 ⊢; rw [en, i1, ec]; unfold fourR; rw [u1_ne _ (by omega), u1_ne _ (by omega), u1_ne _ (by omega), u1_eq]
    · unfold hI at i2' ⊢; rw [en, i2', ec]; unfold fourR; rw [u1_ne _ (by omega), u1_ne _ (by omega), u1_eq]
    · unfold hI at i3 ⊢; rw [en, i3, ec]; unfold fourR; rw [u1_ne _ (by omega), u1_eq]
  have R1 : ∀ k : Nat, (k : Int) < s 2 154 → hR g d' k = hR h ds k := fun k hk => (p5 k hk).trans (cR _ _ (by omega))
  have LA := fourA l3 p3 (by decide) R1 p6 hf new (fun i i0 i1 => ne i (by omega) (by omega))
  refine ⟨d', g, p1, H.street (by omega) hlow (fun a _ z2 z3 z4 z5 z6 => same a z2 (by omega) (by omega)) pl' hfr ?_, ?_⟩
  · refine st.up (fun a ha => same a (by omega) (by omega) (by omega)) hK.1.2 hK.2.2.2.2.1.2 (fun i hi => ne i (by omega) (by omega)) ?_ ?_ ?_
    · rw [ne 155 (by omega) (by omega)]
      exact lawL l1 (same _ (by omega) (by omega) (by omega)) (fun z => dsame dl b1 n1 z) (h0 dl) hf (fun i hi => ne i (by omega) (by omega))
    · rw [ne 153 (by omega) (by omega)]
      exact fourL l2 hO.2 (by decide) (same _ (by omega) (by omega) (by omega)) (fun z => dsame dv b2 n2 z) (h0 dv) hf (fun i i0 i1 => ne i (by omega) (by omega))
    · rw [nc]; exact LA
  · exact ⟨by omega, by omega, by omega, by omega, fun b z1 z2 => same b (by omega) (by have := X2 b z1 z2; omega) (by omega)⟩
end
