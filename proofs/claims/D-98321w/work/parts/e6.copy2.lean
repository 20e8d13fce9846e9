/-! A street copied -/
set_option maxRecDepth 100000
section
variable {E : ax_E} {h g : ax_H} {x ts dl dv ds a d d' : Nat} {K : Rw} {Fz : Nat → Prop} {n : Int} {cap : Nat} {P P' : Nat → Nat → Prop}
theorem Ls0.same {c : Nat} (L : Ls0 E h a d n cap) (ha : a < c) (hd : d < c) (e : ∀ b, b < c → g.2.2 b = h.2.2 b) : Ls0 E g a d n cap := by
  obtain ⟨l1, l2, l3, l4, l5⟩ := L
  have ea := hC_eq (e a ha)
  have ed := hC_eq (e d hd)
  unfold Ls0 hT hR hI hL at *
  rw [ea, ed]
  exact ⟨l1, l2, l3, l4, l5⟩
theorem Els.same {c : Nat} (L : Els h d n) (hc : c = h.1) (hd : d < c) (hg : c ≤ g.1) (e : ∀ b, b < c → g.2.2 b = h.2.2 b) : Els g d n := by
  intro k hk
  obtain ⟨u, u1, u2, u3, u4⟩ := L k hk
  have ed := hC_eq (e d hd)
  have eu := hC_eq (e u (by omega))
  refine ⟨u, ?_, ?_, ?_, by omega⟩
  · unfold hR at *; rw [ed]; exact u1
  · unfold hT at *; rw [eu]; exact u2
  · unfold hT at *; rw [eu]; exact u3
theorem LsN.els (H : LsN E h a d n cap P) (hP : ∀ k t, P k t → hT h t ≠ 999 ∧ oj_104 (hT h t) = true ∧ t < h.1) : Els h d n := by
  intro k hk
  obtain ⟨u, u1, u2⟩ := H.2.2.2.2.2 k hk
  obtain ⟨q1, q2, q3⟩ := hP k u u2
  exact ⟨u, u1, q1, q2, q3⟩
theorem LsN.cpy {b : Nat} (H : LsN E h a d n cap P) (L : Ls0 E g b d' n 10) (r : ∀ k : Nat, (k : Int) < n → hR g d' k = hR h d k) (hP : ∀ k t, P k t → P' k t) : LsN E g b d' n 10 P' := by
  obtain ⟨l1, l2, l3, l4, l5⟩ := L
  refine ⟨l1, l2, l3, l4, l5, fun k hk => ?_⟩
  obtain ⟨u, u1, u2⟩ := H.2.2.2.2.2 k hk
  exact ⟨u, by rw [r k hk]; exact u1, hP k u u2⟩
theorem c_copy (St : StN E Fz h x ts dl dv ds K) (hE : Emp E h) (hz : E.2.2 0 < h.1) (hFz : ∀ a, Fz a → a < h.1) (hts : ts + 12 ≤ h.1) (hdl : dl < h.1) (hdv : dv < h.1) (hds : ds < h.1) (h71 : 0 ≤ K 71 ∧ K 71 ≤ 16) (h152 : K 152 ≤ 7) (h153 : K 153 ≤ 8) (h154 : K 154 ≤ 8) (h155 : K 155 ≤ 6) (e1 : h.1 + 30 ≤ E.1.1) (e2 : h.2.1 + 3000 ≤ E.1.2) : ∃ (dl' dv' ds' : Nat) (g : ax_H), f_X1_copy E (some ts) h = some (some h.1, g) ∧ (h.1 + 12 ≤ g.1 ∧ g.1 ≤ h.1 + 18 ∧ h.2.1 ≤ g.2.1 ∧ g.2.1 ≤ h.2.1 + 180) ∧ (∀ c, c < h.1 → g.2.2 c = h.2.2 c) ∧ ((dl' = E.2.2 0 ∨ (h.1 + 12 ≤ dl' ∧ dl' < g.1)) ∧ (dv' = E.2.2 0 ∨ (h.1 + 12 ≤ dv' ∧ dv' < g.1)) ∧ (ds' = E.2.2 0 ∨ (h.1 + 12 ≤ ds' ∧ ds' < g.1))) ∧ ((dl' ≠ dv' ∨ dl' = E.2.2 0) ∧ (dl' ≠ ds' ∨ dl' = E.2.2 0) ∧ (dv' ≠ ds' ∨ dv' = E.2.2 0)) ∧ (∀ a, h.1 ≤ a → a < h.1 + 12 → hT g a ≠ 15) ∧ StN E Fz g x h.1 dl' dv' ds' K := by
  obtain ⟨⟨a1, a2, a3, a4, a5, a6, a7⟩, ⟨c6, c7, c8⟩, B, ⟨r1, r2, r3⟩, ⟨w1, w2, w3⟩, l1, l2, l3⟩ := St
  obtain ⟨n1, n2, n3, S0⟩ := stH_0 (Z := E.2.2 0) (h := h)
  obtain ⟨g1, eg1⟩ : ∃ g1, g1 = stH (E.2.2 0) h := ⟨_, rfl⟩
  rw [← eg1] at n1 n2 n3 S0
  obtain ⟨⟨b1, b2, b3, b4, b5, b6, b7⟩, -, S3, S4, ⟨S5, S6, S7⟩, ⟨S8, S9, S10⟩⟩ := S0
  obtain ⟨nw1, nw2⟩ := c_newStreet (E := E) (h := h) (by omega) (by omega)
  rw [← eg1] at nw2
  have em : ∀ g : ax_H, (∀ c, c < h.1 → g.2.2 c = h.2.2 c) → Emp E g := fun g hg => ⟨(hg _ hz).trans hE.1, hE.2⟩
  have el1 : Els h dl (K 155) := l1.els (fun k t ⟨L, _, T⟩ => ⟨by rw [T.2.1]; decide, by rw [T.2.1]; decide, hFz t T.1⟩)
  have el2 : Els h dv (K 153) := l2.els (fun k t T => ⟨by rw [T.2.1]; decide, by rw [T.2.1]; decide, hFz t T.1⟩)
  have el3 : Els h ds (K 154) := l3.els (fun k t T => ⟨by rw [T.2.1]; decide, by rw [T.2.1]; decide, hFz t T.1⟩)
  -- the laws
  obtain ⟨p1, p2, p3⟩ := S3 0 (by decide)
  obtain ⟨dl', v1, g2, x1, x2, x3, x4, x5, x6⟩ := c_addAll (E := E) (h := g1) (a := ts + 1) (b := h.1 + 1) (d := dl) (l1.l0.same (c := h.1) (by omega) hdl n3) (by decide) (em g1 n3) (by omega) (el1.same (c := h.1) rfl hdl (by omega) n3) (by omega) p1 p2 p3 (by omega) (by omega) (by omega) (by omega)
  have k2 : ∀ c, c < h.1 → g2.2.2 c = h.2.2 c := fun c hc => (x6 c (by omega) (by omega)).trans (n3 c hc)
  have cc2 : ∀ c, h.1 ≤ c → c < h.1 + 12 → c ≠ h.1 + 1 → hC g2 c = hC g1 c := fun c q1 q2 q3 => hC_eq (x6 c (by omega) q3)
  -- the visits
  obtain ⟨p1', p2', p3'⟩ := S3 1 (by decide)
  have m2 : hT g2 (h.1 + 2) = 42 ∧ hR g2 (h.1 + 2) 1 = some (E.2.2 0) ∧ hI g2 (h.1 + 2) 2 = 0 := by
    have e := cc2 (h.1 + 2) (by omega) (by omega) (by omega)
    unfold hT hR hI at *
    rw [e]
    exact ⟨p1', p2', p3'⟩
  obtain ⟨dv', v2, g3, y1, y2, y3, y4, y5, y6⟩ := c_addAll (E := E) (h := g2) (a := ts + 2) (b := h.1 + 2) (d := dv) (l2.l0.same (c := h.1) (by omega) hdv k2) (by decide) (em g2 k2) (by omega) (el2.same (c := h.1) rfl hdv (by omega) k2) (by omega) m2.1 m2.2.1 m2.2.2 (by omega) (by omega) (by omega) (by omega)
  have k3 : ∀ c, c < h.1 → g3.2.2 c = h.2.2 c := fun c hc => (y6 c (by omega) (by omega)).trans (k2 c hc)
  have cc3 : ∀ c, h.1 ≤ c → c < h.1 + 12 → c ≠ h.1 + 1 → c ≠ h.1 + 2 → hC g3 c = hC g1 c := fun c q1 q2 q3 q4 => (hC_eq (y6 c (by omega) q4)).trans (cc2 c q1 q2 q3)
  -- the scuffs
  obtain ⟨p1'', p2'', p3''⟩ := S3 2 (by decide)
  have m3 : hT g3 (h.1 + 3) = 42 ∧ hR g3 (h.1 + 3) 1 = some (E.2.2 0) ∧ hI g3 (h.1 + 3) 2 = 0 := by
    have e := cc3 (h.1 + 3) (by omega) (by omega) (by omega) (by omega)
    unfold hT hR hI at *
    rw [e]
    exact ⟨p1'', p2'', p3''⟩
  obtain ⟨ds', v3, g4, z1, z2, z3, z4, z5, z6⟩ := c_addAll (E := E) (h := g3) (a := ts + 3) (b := h.1 + 3) (d := ds) (l3.l0.same (c := h.1) (by omega) hds k3) (by decide) (em g3 k3) (by omega) (el3.same (c := h.1) rfl hds (by omega) k3) (by omega) m3.1 m3.2.1 m3.2.2 (by omega) (by omega) (by omega) (by omega)
  have k4 : ∀ c, c < h.1 → g4.2.2 c = h.2.2 c := fun c hc => (z6 c (by omega) (by omega)).trans (k3 c hc)
  have cc4 : ∀ c, h.1 ≤ c → c < h.1 + 12 → c ≠ h.1 + 1 → c ≠ h.1 + 2 → c ≠ h.1 + 3 → hC g4 c = hC g1 c := fun c q1 q2 q3 q4 q5 => (hC_eq (z6 c (by omega) q5)).trans (cc3 c q1 q2 q3 q4)
  -- the books
  have B4 : BK g4 (ts + 4) K := B.fr (fun c q1 q2 => k4 c (by omega))
  have N4 : BS g4 (h.1 + 4) := by
    have q0 := cc4 (h.1 + 4) (by omega) (by omega) (by omega) (by omega) (by omega)
    have q1 := cc4 (h.1 + 4 + 1) (by omega) (by omega) (by omega) (by omega) (by omega)
    have q2 := cc4 (h.1 + 4 + 2) (by omega) (by omega) (by omega) (by omega) (by omega)
    have q3 := cc4 (h.1 + 4 + 3) (by omega) (by omega) (by omega) (by omega) (by omega)
    have q4 := cc4 (h.1 + 4 + 4) (by omega) (by omega) (by omega) (by omega) (by omega)
    have q5 := cc4 (h.1 + 4 + 5) (by omega) (by omega) (by omega) (by omega) (by omega)
    have := S4.1
    unfold BS hT hR hL at *
    rw [q0, q1, q2, q3, q4, q5]
    exact this
  obtain ⟨g5, j1, j2, j3⟩ := c_as (E := E) (a := h.1 + 4) N4 B4 (by omega) h71.1 h71.2
  have k5 : ∀ c, (c < h.1 + 4 ∨ h.1 + 10 ≤ c) → g5.2.2 c = g4.2.2 c := fun c hc => j3.1.2.2 c (by omega)
  -- rooms and the wary
  have T : ∀ c, (c < h.1 + 4 ∨ h.1 + 10 ≤ c) → hC g5 c = hC g4 c := fun c hc => hC_eq (k5 c hc)
  have TL : ∀ c, c < h.1 → hC g5 c = hC h c := fun c hc => (T c (Or.inl (by omega))).trans (hC_eq (k4 c hc))
  have t10 : hT g5 (ts + 10) = 100 ∧ hL g5 (ts + 10) = 7 := by unfold hT hL at *; rw [TL _ (by omega)]; exact ⟨r1, r2⟩
  have t11 : hT g5 (ts + 11) = 100 ∧ hL g5 (ts + 11) = 7 := by unfold hT hL at *; rw [TL _ (by omega)]; exact ⟨w1, w2⟩
  have u10 : hT g5 (h.1 + 10) = 100 ∧ hL g5 (h.1 + 10) = 7 := by
    have e := (T (h.1 + 10) (Or.inr (by omega))).trans (cc4 (h.1 + 10) (by omega) (by omega) (by omega) (by omega) (by omega))
    unfold hT hL at *; rw [e]; exact ⟨S5, S6⟩
  have u11 : hT g5 (h.1 + 11) = 100 ∧ hL g5 (h.1 + 11) = 7 := by
    have e := (T (h.1 + 11) (Or.inr (by omega))).trans (cc4 (h.1 + 11) (by omega) (by omega) (by omega) (by omega) (by omega))
    unfold hT hL at *; rw [e]; exact ⟨S8, S9⟩
  have us : hT g5 h.1 = 1 ∧ hR g5 h.1 0 = some (h.1 + 1) ∧ hR g5 h.1 1 = some (h.1 + 2) ∧ hR g5 h.1 2 = some (h.1 + 3) ∧ hR g5 h.1 3 = some (h.1 + 4) ∧ hR g5 h.1 4 = some (h.1 + 10) ∧ hR g5 h.1 5 = some (h.1 + 11) := by
    have e := (T h.1 (Or.inl (by omega))).trans (cc4 h.1 (by omega) (by omega) (by omega) (by omega) (by omega))
    unfold hT hR at *; rw [e]; exact ⟨b1, b2, b3, b4, b5, b6, b7⟩
  have ut : hT g5 ts = 1 ∧ hR g5 ts 4 = some (ts + 10) ∧ hR g5 ts 5 = some (ts + 11) ∧ hI g5 ts 6 = K 152 ∧ hI g5 ts 7 = K 151 ∧ hI g5 ts 8 = K 156 := by
    have e := TL ts (by omega)
    unfold hT hR hI at *; rw [e]; exact ⟨a1, a6, a7, c6, c7, c8⟩
  obtain ⟨g7, eg7⟩ : ∃ g7, g7 = cpH (cpH g5 (ts + 10) (h.1 + 10) 0 0 7) (ts + 11) (h.1 + 11) 0 0 7 := ⟨_, rfl⟩
  have T7 : ∀ c, hT g7 c = hT g5 c := fun c => by rw [eg7, hT_cp, hT_cp]
  have R7 : ∀ c k, c < h.1 + 10 → hR g7 c k = hR g5 c k := fun c k hc => by rw [eg7, hR_cp_ne (by omega), hR_cp_ne (by omega)]
  have I7 : ∀ c k, c < h.1 + 10 → hI g7 c k = hI g5 c k := fun c k hc => by rw [eg7, hI_cp_ne (by omega), hI_cp_ne (by omega)]
  have C7 : ∀ c, c ≠ h.1 + 10 → c ≠ h.1 + 11 → g7.2.2 c = g5.2.2 c := fun c q1 q2 => by rw [eg7, hC_cp_ne q2, hC_cp_ne q1]
  obtain ⟨g8, eg8⟩ : ∃ g8, g8 = wI (wI (wI g7 h.1 6 (K 152)) h.1 7 (K 151)) h.1 8 (K 156) := ⟨_, rfl⟩
  have T8 : ∀ c, hT g8 c = hT g5 c := fun c => by rw [eg8, hT_wI, hT_wI, hT_wI, T7]
  have C8 : ∀ c, c ≠ h.1 → c ≠ h.1 + 10 → c ≠ h.1 + 11 → g8.2.2 c = g5.2.2 c := fun c q0 q1 q2 => by rw [eg8, hC_wI_ne q0, hC_wI_ne q0, hC_wI_ne q0, C7 c q1 q2]
  have k8 : ∀ c, c < h.1 → g8.2.2 c = h.2.2 c := fun c hc => by rw [C8 c (by omega) (by omega) (by omega), k5 c (Or.inl (by omega)), k4 c hc]
  have hf : ∀ a, Fz a → Fz a ∧ eqT (hC h a) (hC g8 a) := fun a ha => ⟨ha, eqT.of (k8 a (hFz a ha))⟩
  have nn : g8.1 = g4.1 := by rw [eg8]; show g7.1 = _; rw [eg7]; show g5.1 = _; rw [j3.1.1]
  have ns : g8.2.1 = g4.2.1 := by rw [eg8]; show g7.2.1 = _; rw [eg7]; show g5.2.1 = _; rw [j3.1.2.1]
  have c1' : ∀ c, h.1 + 12 ≤ c → g8.2.2 c = g4.2.2 c := fun c hc => by rw [C8 c (by omega) (by omega) (by omega), k5 c (Or.inr (by omega))]
  have c3' : ∀ i, 1 ≤ i → i < 4 → g8.2.2 (h.1 + i) = g4.2.2 (h.1 + i) := fun i i1 i2 => by rw [C8 _ (by omega) (by omega) (by omega), k5 _ (Or.inl (by omega))]
  -- the lists at the end
  have L1 : Ls0 E g8 (h.1 + 1) dl' (K 155) 10 := by
    have ea : hC g8 (h.1 + 1) = hC g2 (h.1 + 1) := hC_eq (by rw [c3' 1 (by decide) (by decide), z6 _ (by omega) (by omega), y6 _ (by omega) (by omega)])
    obtain ⟨q1, q2, q3, q4, q5⟩ := x2
    rcases x4 with hd | hd
    · rcases q5 with q5 | q5
      · unfold Ls0 hT hR hI at *
        rw [ea]
        exact ⟨q1, q2, q3, q4, Or.inl q5⟩
      · exfalso
        have := (em g2 k2).1
        rw [← hd] at this
        unfold hT hC at q5
        rw [this] at q5
        cases q5.1
    · have ed : hC g8 dl' = hC g2 dl' := hC_eq (by rw [c1' dl' (by omega), z6 _ (by omega) (by omega), y6 _ (by omega) (by omega)])
      unfold Ls0 hT hR hI hL at *
      rw [ea, ed]
      exact ⟨q1, q2, q3, q4, q5⟩
  have L2 : Ls0 E g8 (h.1 + 2) dv' (K 153) 10 := by
    have ea : hC g8 (h.1 + 2) = hC g3 (h.1 + 2) := hC_eq (by rw [c3' 2 (by decide) (by decide), z6 _ (by omega) (by omega)])
    obtain ⟨q1, q2, q3, q4, q5⟩ := y2
    rcases y4 with hd | hd
    · rcases q5 with q5 | q5
      · unfold Ls0 hT hR hI at *
        rw [ea]
        exact ⟨q1, q2, q3, q4, Or.inl q5⟩
      · exfalso
        have := (em g3 k3).1
        rw [← hd] at this
        unfold hT hC at q5
        rw [this] at q5
        cases q5.1
    · have ed : hC g8 dv' = hC g3 dv' := hC_eq (by rw [c1' dv' (by omega), z6 _ (by omega) (by omega)])
      unfold Ls0 hT hR hI hL at *
      rw [ea, ed]
      exact ⟨q1, q2, q3, q4, q5⟩
  have L3 : Ls0 E g8 (h.1 + 3) ds' (K 154) 10 := by
    have ea : hC g8 (h.1 + 3) = hC g4 (h.1 + 3) := hC_eq (c3' 3 (by decide) (by decide))
    obtain ⟨q1, q2, q3, q4, q5⟩ := z2
    rcases z4 with hd | hd
    · rcases q5 with q5 | q5
      · unfold Ls0 hT hR hI at *
        rw [ea]
        exact ⟨q1, q2, q3, q4, Or.inl q5⟩
      · exfalso
        have := (em g4 k4).1
        rw [← hd] at this
        unfold hT hC at q5
        rw [this] at q5
        cases q5.1
    · have ed : hC g8 ds' = hC g4 ds' := hC_eq (c1' ds' (by omega))
      unfold Ls0 hT hR hI hL at *
      rw [ea, ed]
      exact ⟨q1, q2, q3, q4, q5⟩
  have R1 : ∀ k : Nat, (k : Int) < K 155 → hR g8 dl' k = hR h dl k := by
    intro k hk
    have e : hR g2 dl' k = hR h dl k := (x5 k hk).trans (by unfold hR; rw [hC_eq (n3 dl hdl)])
    rcases x4 with hd | hd
    · have n155 : K 155 = 0 := by
        rcases x2.2.2.2.2 with q | q
        · exact q.1
        · exfalso
          have := (em g2 k2).1
          rw [← hd] at this
          unfold hT hC at q
          rw [this] at q
          cases q.1
      omega
    · rw [← e]
      unfold hR
      rw [hC_eq (show g8.2.2 dl' = g2.2.2 dl' by rw [c1' dl' (by omega), z6 _ (by omega) (by omega), y6 _ (by omega) (by omega)])]
  have R2 : ∀ k : Nat, (k : Int) < K 153 → hR g8 dv' k = hR h dv k := by
    intro k hk
    have e : hR g3 dv' k = hR h dv k := (y5 k hk).trans (by unfold hR; rw [hC_eq (k2 dv hdv)])
    rcases y4 with hd | hd
    · have n153 : K 153 = 0 := by
        rcases y2.2.2.2.2 with q | q
        · exact q.1
        · exfalso
          have := (em g3 k3).1
          rw [← hd] at this
          unfold hT hC at q
          rw [this] at q
          cases q.1
      omega
    · rw [← e]
      unfold hR
      rw [hC_eq (show g8.2.2 dv' = g3.2.2 dv' by rw [c1' dv' (by omega), z6 _ (by omega) (by omega)])]
  have R3 : ∀ k : Nat, (k : Int) < K 154 → hR g8 ds' k = hR h ds k := by
    intro k hk
    have e : hR g4 ds' k = hR h ds k := (z5 k hk).trans (by unfold hR; rw [hC_eq (k3 ds hds)])
    rcases z4 with hd | hd
    · have n154 : K 154 = 0 := by
        rcases z2.2.2.2.2 with q | q
        · exact q.1
        · exfalso
          have := (em g4 k4).1
          rw [← hd] at this
          unfold hT hC at q
          rw [this] at q
          cases q.1
      omega
    · rw [← e]
      unfold hR
      rw [hC_eq (c1' ds' (by omega))]
  have SN : StN E Fz g8 x h.1 dl' dv' ds' K := by
    refine ⟨?_, ⟨?_, ?_, ?_⟩, j2.fr (fun c q1 q2 => C8 c (by omega) (by omega) (by omega)), ⟨(T8 _).trans u10.1, ?_, fun p hp => ?_⟩, ⟨(T8 _).trans u11.1, ?_, fun p hp => ?_⟩, l1.cpy L1 R1 (fun k t ⟨L, q1, q2⟩ => ⟨L, q1, q2.fr hf⟩), l2.cpy L2 R2 (fun k t q => q.fr hf (by decide) (fun _ _ _ => rfl)), l3.cpy L3 R3 (fun k t q => q.fr hf (by decide) (fun _ _ _ => rfl))⟩
    · have e : ∀ k, hR g8 h.1 k = hR g5 h.1 k := fun k => by rw [eg8, hR_wI, hR_wI, hR_wI, R7 _ _ (by omega)]
      rw [T8, e, e, e, e, e, e]
      exact us
    · rw [eg8, hI_wI_ne (by omega), hI_wI_ne (by omega), hI_wI_eq]
    · rw [eg8, hI_wI_ne (by omega), hI_wI_eq]
    · rw [eg8, hI_wI_eq]
    · rw [eg8, hL_wI, hL_wI, hL_wI, eg7, hL_cp, hL_cp]; exact u10.2
    · rw [eg8, hI_wI_ne (by omega), hI_wI_ne (by omega), hI_wI_ne (by omega), eg7, hI_cp_ne (by omega), hI_cp, if_pos ⟨rfl, by omega, by omega⟩, show 0 + (p - 0) = p by omega]
      unfold hI
      rw [TL _ (by omega)]
      exact r3 p hp
    · rw [eg8, hL_wI, hL_wI, hL_wI, eg7, hL_cp, hL_cp]; exact u11.2
    · rw [eg8, hI_wI_ne (by omega), hI_wI_ne (by omega), hI_wI_ne (by omega), eg7, hI_cp, if_pos ⟨rfl, by omega, by omega⟩, show 0 + (p - 0) = p by omega, hI_cp_ne (by omega)]
      unfold hI
      rw [TL _ (by omega)]
      exact w3 p hp
  refine ⟨dl', dv', ds', g8, ?_, by omega, k8, by omega, by omega, fun a q1 q2 => ?_, SN⟩
  · unfold f_X1_copy
    rw [nw1, Option.bind_some]
    dsimp only
    have at2 : ∀ g : ax_H, (∀ c, c < h.1 → g.2.2 c = h.2.2 c) → hT g ts = 1 ∧ ∀ k, hR g ts k = hR h ts k := fun g hg => by
      have e := hC_eq (hg ts (by omega))
      refine ⟨by unfold hT at *; rw [e]; exact a1, fun k => by unfold hR; rw [e]⟩
    have bt : ∀ g : ax_H, hC g h.1 = hC g1 h.1 → hT g h.1 = 1 ∧ hR g h.1 0 = some (h.1 + 1) ∧ hR g h.1 1 = some (h.1 + 2) ∧ hR g h.1 2 = some (h.1 + 3) ∧ hR g h.1 3 = some (h.1 + 4) ∧ hR g h.1 4 = some (h.1 + 10) ∧ hR g h.1 5 = some (h.1 + 11) := fun g e => by
      unfold hT hR at *
      rw [e]
      exact ⟨b1, b2, b3, b4, b5, b6, b7⟩
    obtain ⟨s1, s2⟩ := at2 g1 n3
    obtain ⟨o1, o2⟩ := at2 g2 k2
    obtain ⟨i1, i2⟩ := at2 g3 k3
    obtain ⟨f1, f2⟩ := at2 g4 k4
    have B2 := bt g2 (cc2 _ (by omega) (by omega) (by omega))
    have B3 := bt g3 (cc3 _ (by omega) (by omega) (by omega) (by omega))
    have B4' := bt g4 (cc4 _ (by omega) (by omega) (by omega) (by omega) (by omega))
    rw [Option.bind_some, nw2, Option.bind_some, f_gR b1 (by decide), b2, Option.bind_some, f_gR s1 (by decide), s2, a2, Option.bind_some, f_ce p1 (by decide), Option.bind_some, x1, Option.bind_some]
    dsimp only
    rw [f_gR B2.1 (by decide), B2.2.2.1, Option.bind_some, f_gR o1 (by decide), o2, a3, Option.bind_some, f_ce m2.1 (by decide), Option.bind_some, y1, Option.bind_some]
    dsimp only
    rw [f_gR B3.1 (by decide), B3.2.2.2.1, Option.bind_some, f_gR i1 (by decide), i2, a4, Option.bind_some, f_ce m3.1 (by decide), Option.bind_some, z1, Option.bind_some]
    dsimp only
    rw [f_gR B4'.1 (by decide), B4'.2.2.2.2.1, Option.bind_some, f_gR f1 (by decide), f2, a5, Option.bind_some, f_ce N4.1 (by decide), Option.bind_some, j1, Option.bind_some]
    dsimp only
    have cp1 : ax_cp E g5 ax_anyP (some (ts + 10)) 100 0 (some (h.1 + 10)) 0 7 = some (cpH g5 (ts + 10) (h.1 + 10) (0 : Int).toNat (0 : Int).toNat (7 : Int).toNat) := f_cpI t10.1 u10.1 (by decide) (by rw [t10.2]; decide) (by rw [u10.2]; decide) (by decide) (by decide) (by decide) (by rw [t10.2]; decide) (by rw [u10.2]; decide)
    obtain ⟨g6, eg6⟩ : ∃ g6, g6 = cpH g5 (ts + 10) (h.1 + 10) 0 0 7 := ⟨_, rfl⟩
    have cp1' : ax_cp E g5 ax_anyP (some (ts + 10)) 100 0 (some (h.1 + 10)) 0 7 = some g6 := by rw [eg6]; exact cp1
    have T6 : ∀ c, hT g6 c = hT g5 c := fun c => by rw [eg6, hT_cp]
    have L6 : ∀ c, hL g6 c = hL g5 c := fun c => by rw [eg6, hL_cp]
    have R6 : ∀ c k, c ≠ h.1 + 10 → hR g6 c k = hR g5 c k := fun c k hc => by rw [eg6, hR_cp_ne hc]
    have cp2 : ax_cp E g6 ax_anyP (some (ts + 11)) 100 0 (some (h.1 + 11)) 0 7 = some g7 := by
      rw [eg7, ← eg6]
      exact f_cpI (by rw [T6]; exact t11.1) (by rw [T6]; exact u11.1) (by decide) (by rw [L6, t11.2]; decide) (by rw [L6, u11.2]; decide) (by decide) (by decide) (by decide) (by rw [L6, t11.2]; decide) (by rw [L6, u11.2]; decide)
    rw [f_gR ut.1 (by decide), ut.2.1, Option.bind_some, f_gR us.1 (by decide), us.2.2.2.2.2.1, Option.bind_some, cp1', Option.bind_some, f_gR (by rw [T6]; exact ut.1) (by decide), R6 _ _ (by omega), ut.2.2.1, Option.bind_some, f_gR (by rw [T6]; exact us.1) (by decide), R6 _ _ (by omega), us.2.2.2.2.2.2, Option.bind_some, cp2, Option.bind_some]
    rw [f_gI (by rw [T7]; exact ut.1) (by decide), I7 _ _ (by omega), ut.2.2.2.1, Option.bind_some, f_pI (by rw [T7]; exact us.1) (by decide), Option.bind_some, f_gI (by rw [hT_wI, T7]; exact ut.1) (by decide), hI_wI_ne (by omega), I7 _ _ (by omega), ut.2.2.2.2.1, Option.bind_some, f_pI (by rw [hT_wI, T7]; exact us.1) (by decide), Option.bind_some, f_gI (by rw [hT_wI, hT_wI, T7]; exact ut.1) (by decide), hI_wI_ne (by omega), hI_wI_ne (by omega), I7 _ _ (by omega), ut.2.2.2.2.2, Option.bind_some, f_pI (by rw [hT_wI, hT_wI, T7]; exact us.1) (by decide), Option.bind_some, ← eg8]
  · have q : a = h.1 ∨ a = h.1 + 1 ∨ a = h.1 + 2 ∨ a = h.1 + 3 ∨ a = h.1 + 4 ∨ a = h.1 + 4 + 1 ∨ a = h.1 + 4 + 2 ∨ a = h.1 + 4 + 3 ∨ a = h.1 + 4 + 4 ∨ a = h.1 + 4 + 5 ∨ a = h.1 + 10 ∨ a = h.1 + 11 := by omega
    obtain ⟨A1, -, A3, A4, A5, A6, A7, A8⟩ := SN
    obtain ⟨y0, -, ⟨y1, y2, y3, y4, y5⟩, -⟩ := A3.1
    rcases q with rfl | rfl | rfl | rfl | rfl | rfl | rfl | rfl | rfl | rfl | rfl | rfl
    · rw [A1.1]; decide
    · rw [A6.1]; decide
    · rw [A7.1]; decide
    · rw [A8.1]; decide
    · rw [y0]; decide
    · rw [y1]; decide
    · rw [y2]; decide
    · rw [y3]; decide
    · rw [y4]; decide
    · rw [y5]; decide
    · rw [A4.1]; decide
    · rw [A5.1]; decide
end
