/-! A law more: the component -/
set_option maxRecDepth 100000
section
variable {E : ax_E} {h h1 g : ax_H} {x t dl dv ds du u : Nat} {s : Sg} {n : Int}
theorem lawE {K : Rw} {d a : Nat} {m : Int} {cap : Nat} (H : LsN E h a d m cap (LwN (Frz h x t dl dv ds du) h x K)) : ∀ k : Nat, (k : Int) < m → ∃ u, hR h d k = some u ∧ hT h u ≠ 999 ∧ oj_104 (hT h u) = true ∧ u < h.1 := by
  intro k hk
  obtain ⟨w, w1, L, -, w2⟩ := H.2.2.2.2.2 k hk
  exact ⟨w, w1, by rw [w2.2.1]; omega, by rw [w2.2.1]; decide, w2.1.2.1⟩
theorem c_addlaw {L : List Cl} (H : REP E h x t dl dv ds du s) (hE : Ek E x) (V : VW n s) (h6 : 0 ≤ s 2 155 ∧ s 2 155 ≤ 5) (hLw : lawP s = .inr L) (g1 : h.1 ≤ h1.1) (g2 : h.2.1 ≤ h1.2.1) (g3 : ∀ b, b < h.1 → h1.2.2 b = h.2.2 b) (hu : TxN (RnF h.1 h1.1) h1 x u L) (e1 : h1.1 + 3 ≤ E.1.1) (e2 : h1.2.1 + 1700 ≤ E.1.2) : ∃ (d' : Nat) (g : ax_H), f_J2_add E (some (t + 1)) (some u) h1 = some (1, g) ∧ REP E g x t d' dv ds du (sw s 2 (moreK s)) ∧ (h1.1 ≤ g.1 ∧ g.1 ≤ h1.1 + 1 ∧ h1.2.1 ≤ g.2.1 ∧ g.2.1 ≤ h1.2.1 + 10) ∧ ∀ b, x + 84 ≤ b → b < x + 116 → g.2.2 b = h.2.2 b := by
  obtain ⟨pl, -, -, -, st, -, -, -⟩ := id H
  obtain ⟨⟨q1, q2, q3⟩, ⟨b1, b2, b3, b4⟩, ⟨c1, c2, c3, c4, c5, c6⟩, -, ex⟩ := id pl
  have hK := V.1.2.1
  have fv := V.2.1.2.2.1.1
  have fs := V.2.1.2.2.2.1
  have X1 : x + 1 ≤ t := by clear c1 c2 c3 c4 c5 c6; omega
  have X2 : ∀ b, x + 84 ≤ b → b < x + 116 → b < t ∨ t + 12 ≤ b := by clear c1 c2 c3 c4 c5 c6; intro b _ _; omega
  have lt : ∀ d, Dok E h x t d → d < h.1 ∧ (d < t ∨ t + 12 ≤ d) ∧ (d < x ∨ x + 116 ≤ d) := by
    clear c1 c2 c3 c4 c5 c6
    intro d hd
    unfold Dok at hd
    omega
  clear q2
  obtain ⟨D1, D2, D3⟩ := lt dl b1
  have Lv := (lt dv b2).1
  have Ls := (lt ds b3).1
  have Lu := (lt du b4).1
  have n1 : dv ≠ dl ∨ dv = E.2.2 0 := by omega
  have n2 : ds ≠ dl ∨ ds = E.2.2 0 := by omega
  clear c1 c2 c3 c4 c5 c6
  have l2 := st.2.2.2.2.2.2.1
  have l3 := st.2.2.2.2.2.2.2
  have l1 := st.2.2.2.2.2.1
  have dne : t + 1 ≠ dl := by omega
  have cT : ∀ b, b < h.1 → hT h1 b = hT h b := fun b hb => (ceq (g3 b hb)).1
  have cR : ∀ b k, b < h.1 → hR h1 b k = hR h b k := fun b k hb => (ceq (g3 b hb)).2.2.2 k
  have cI : ∀ b k, b < h.1 → hI h1 b k = hI h b k := fun b k hb => (ceq (g3 b hb)).2.2.1 k
  have cL : ∀ b, b < h.1 → hL h1 b = hL h b := fun b hb => (ceq (g3 b hb)).2.1
  have gT : hT h1 u = 4 := hu.2.1
  have hEm : Emp E h1 := by
    obtain ⟨y1, y2⟩ := H.emp hE
    exact ⟨by rw [g3 _ (by omega)]; exact y1, y2⟩
  have L0 : Ls0 E h1 (t + 1) dl (s 2 155) 10 := by
    obtain ⟨y1, y2, y3, y4, y5, -⟩ := l1
    refine ⟨by rw [cT _ (by omega)]; exact y1, by rw [cR _ _ (by omega)]; exact y2, by rw [cI _ _ (by omega)]; exact y3, y4, ?_⟩
    rw [cT _ (by omega), cL _ (by omega)]
    exact y5
  have ub := hu.1
  unfold RnF at ub
  obtain ⟨d', g, p1, p2, p3, p4, p5, p6⟩ := c_lsAdd (u := u) (cap' := 10) L0 (by decide) (by decide) (by omega) (by decide) hEm (by omega) (by omega) dne (fun k hk => by
    obtain ⟨w, w1, w2, w3, w4⟩ := lawE l1 k hk
    exact ⟨w, by rw [cR _ _ (by omega)]; exact w1, by rw [cT _ (by omega)]; exact w2, by rw [cT _ (by omega)]; exact w3, by omega⟩) (by rw [gT]; decide) (by rw [gT]; decide) (by omega) (by omega) (by omega)
  have gs : h1.1 ≤ g.1 ∧ g.1 ≤ h1.1 + 1 ∧ h1.2.1 ≤ g.2.1 ∧ g.2.1 ≤ h1.2.1 + 10 := by omega
  have gd2 : d' = dl ∨ (d' = h1.1 ∧ g.1 = h1.1 + 1) := by omega
  have gd : d' = dl ∨ (h.1 ≤ d' ∧ d' < g.1) := by omega
  have gT' : d' ≠ dl ∨ hT h1 dl = 104 := by
    rcases p2 with z | z
    · exact Or.inr z.2.2.2
    · left; omega
  clear p2
  have same : ∀ b, b < h.1 → b ≠ t + 1 → b ≠ dl → g.2.2 b = h.2.2 b := fun b z1 z2 z3 => (p4 b (by omega) z2 (Or.inl z3)).trans (g3 b z1)
  have new0 : ∀ b, h.1 ≤ b → b < h1.1 → g.2.2 b = h1.2.2 b := fun b z1 z2 => p4 b z2 (by omega) (Or.inl (by omega))
  have hlow : ∀ a, a < x → g.2.2 a = h.2.2 a := by
    intro a ha
    by_cases e : a = dl
    · rcases gT' with z | z
      · exact (p4 a (by omega) (by omega) (Or.inr z)).trans (g3 a (by omega))
      · have : hT h dl = 104 := by rw [← cT _ (by omega)]; exact z
        have b := b1
        rcases b with b | b
        · exact absurd b (pl.k0 this)
        · exfalso; omega
    · exact same a (by omega) (by omega) e
  have pl' : PlN E g x t d' dv ds du := pl.lst (by omega) hlow (fun a a0 a1 => by
    by_cases e : a = t + 1
    · subst e
      rw [p3.1, l1.1]
    · unfold hT
      rw [hC_eq (same a (by omega) e (by omega))]) gd (Or.inl rfl) (Or.inl rfl) (Or.inr (Or.inr ⟨rfl, rfl⟩))
  have hfr : ∀ a, Frz h x t dl dv ds du a → Frz g x t d' dv ds du a := fun a ha => ha.lst (by omega) (by omega) (Or.inl rfl) (Or.inl rfl)
  have hf : ∀ a, Frz h x t dl dv ds du a → Frz g x t d' dv ds du a ∧ eqT (hC h a) (hC g a) := fun a ha => ⟨hfr a ha, eqT.of (same a ha.2.1 (by have := ha.2.2; unfold Mut at this; omega) (by have := ha.2.2; unfold Mut at this; omega))⟩
  have h0 : ∀ d, hT h d = 104 → d ≠ E.2.2 0 := fun d hd => pl.k0 hd
  have dsame : ∀ d, Dok E h x t d → d ≠ dl ∨ d = E.2.2 0 → d ≠ E.2.2 0 → g.2.2 d = h.2.2 d := by
    intro d hd z1 z2
    have z3 := lt d hd
    exact same d z3.1 (by omega) (z1.resolve_right z2)
  have newF : ∀ a, RnF h.1 h1.1 a → Frz g x t d' dv ds du a ∧ eqT (hC h1 a) (hC g a) := fun a ha => by
    unfold RnF at ha
    refine ⟨⟨by omega, by omega, ?_⟩, eqT.of (new0 a ha.1 ha.2)⟩
    unfold Mut
    omega
  have o : ∀ i, i < 155 → moreK s i = s 2 i := fun i hi => moreK_o (Or.inl hi) h6
  have o6 : moreK s 156 = s 2 156 := moreK_o (by omega) h6
  have o5 : moreK s 155 = s 2 155 + 1 := u1_eq _ _ _
  have LA : LsN E g (t + 1) d' (moreK s 155) 10 (LwN (Frz g x t d' dv ds du) g x (moreK s)) := by
    rw [o5]
    obtain ⟨m1, m2, m3, m4, m5⟩ := p3
    refine ⟨m1, m2, m3, m4, m5, fun k hk => ?_⟩
    by_cases e : k = (s 2 155).toNat
    · subst e
      refine ⟨u, p6, L, ?_, hu.fr newF⟩
      rw [Int.toNat_of_nonneg h6.1]
      exact (moreK_new V h6).2.1.trans hLw
    · obtain ⟨w, w1, L', w2, w3⟩ := l1.2.2.2.2.2 k (by omega)
      exact ⟨w, by rw [p5 k (by omega), cR _ _ (by omega)]; exact w1, L', (moreK_old (t := (k : Int)) V h6 ⟨by omega, by omega⟩).2.1.trans w2, w3.fr hf⟩
  refine ⟨d', g, p1, H.street (by omega) hlow (fun a _ z2 z3 z4 z5 z6 => same a z2 (by omega) (by omega)) pl' hfr ?_, gs, fun b z1 z2 => same b (by omega) (by have := X2 b z1 z2; omega) (by omega)⟩
  refine st.up (fun a ha => same a (by omega) (by omega) (by omega)) hK.1.2 hK.2.2.2.2.1.2 (fun i hi => ?_) LA ?_ ?_
  · rcases hi with z | z | z | z
    · exact o i (by omega)
    · exact o i (by omega)
    · exact o i (by omega)
    · rw [z]; exact o6
  · rw [o 153 (by decide)]
    exact fourL l2 fv.2 (by decide) (same _ (by omega) (by omega) (by omega)) (fun z => dsame dv b2 n1 z) (h0 dv) hf (fun i i0 i1 => o i (by omega))
  · rw [o 154 (by decide)]
    exact fourL l3 fs.2 (by decide) (same _ (by omega) (by omega) (by omega)) (fun z => dsame ds b3 n2 z) (h0 ds) hf (fun i i0 i1 => o i (by omega))
end
