/-! Images laid and taken back: the component -/
set_option maxRecDepth 100000
section
variable {E : ax_E} {h : ax_H} {x t dl dv ds du : Nat} {s : Sg}
theorem REP.dlt (H : REP E h x t dl dv ds du s) (hE : Ek E x) : dl < h.1 ∧ dv < h.1 ∧ ds < h.1 ∧ du < h.1 := by
  obtain ⟨⟨q1, -, -⟩, ⟨b1, b2, b3, b4⟩, -⟩ := H.1
  have := hE.1
  unfold Dok at b1 b2 b3 b4
  refine ⟨?_, ?_, ?_, ?_⟩
  · rcases b1 with z | z <;> omega
  · rcases b2 with z | z <;> omega
  · rcases b3 with z | z <;> omega
  · rcases b4 with z | z <;> omega
theorem c_image {k : Int} (H : REP E h x t dl dv ds du s) (hE : Ek E x) (hV : KW (s 2)) (hI4 : ∀ k : Int, 0 ≤ k → k < 2 → s 4 k = 0 ∨ (s 4 k = 1 ∧ KW (imgK s k))) (hk : i2 k = k) (e1 : h.1 + 30 ≤ E.1.1) (e2 : h.2.1 + 3000 ≤ E.1.2) : ∃ h', f_X0_image E (some x) k h = some ((imageS s k).1, h') ∧ REP E h' x t dl dv ds du (imageS s k).2 ∧ Blk x 30 300 h h' := by
  have bk := i2_lh hk
  have a1 := H.2.1.1
  have b0 := (Blk.refl x h).up (c' := 30) (z' := 300) (by decide) (by decide)
  unfold f_X0_image imageS
  rw [hk, c_in (by omega) (by decide) (by decide), Option.bind_some]
  by_cases c : 0 ≤ k ∧ k ≤ 1
  · rw [if_neg (by rw [b01_z]; exact fun z => z c), if_neg (fun z => z c)]
    obtain ⟨pl, rt, ri, ra, st, un, im, dr⟩ := id H
    obtain ⟨⟨q1, q2, q3⟩, ⟨b1, b2, b3, b4⟩, bb, ⟨low, no⟩, ex⟩ := id pl
    obtain ⟨d1, d2, d3, d4⟩ := H.dlt hE
    have kb := hV.1
    have n6 := kb.n6
    have h0 : ∀ d, hT h d = 104 → d ≠ E.2.2 0 := fun d hd => pl.k0 hd
    obtain ⟨dl', dv', ds', g, w1, ⟨w2, w3, w4, w5⟩, w6, ⟨w7, w8, w9⟩, -, w10, w11⟩ := c_copy (E := E) (h := h) st (H.emp hE) (by omega) (fun a ha => ha.2.1) q3 d1 d2 d3 kb.2.2.2.2.1 kb.1.2 hV.2.2.1.1.2 hV.2.2.2.1.2 n6.2 e1 e2
    have t13 : hT g (x + 13) = 105 ∧ hL g (x + 13) = 2 := by
      have e := hC_eq (w6 (x + 13) (by omega))
      have := rt.2.2.2.1
      unfold hT hL at *
      rw [e]
      exact this
    obtain ⟨g2, eg2⟩ : ∃ g2, g2 = wR g (x + 13) k.toNat (some h.1) := ⟨_, rfl⟩
    have C2 : ∀ a, a ≠ x + 13 → g2.2.2 a = g.2.2 a := fun a ha => by rw [eg2]; exact hC_wR_ne ha
    have same : ∀ a, a < h.1 → a ≠ x + 13 → g2.2.2 a = h.2.2 a := fun a z1 z2 => (C2 a z2).trans (w6 a z1)
    have n2 : g2.1 = g.1 := by rw [eg2]; rfl
    have hfr : ∀ a, Frz h x t dl dv ds du a → Frz g2 x t dl dv ds du a := fun a ha => ha.up (by omega)
    have hf : ∀ a, Frz h x t dl dv ds du a → Frz g2 x t dl dv ds du a ∧ eqT (hC h a) (hC g2 a) := fun a ha => ⟨hfr a ha, eqT.of (same a ha.2.1 (by have := ha.2.2; unfold Mut at this; omega))⟩
    have new : ∀ a, h.1 ≤ a → a < g.1 → Frz g2 x t dl dv ds du a := by
      intro a z1 z2
      refine ⟨by omega, by omega, ?_⟩
      unfold Mut
      omega
    have s3 : imgS s k 3 = cpR (s 3) (5764 * k) (s 2) 5764 := by unfold imgS; rw [sw_ne _ (by decide), sw_eq]
    have s4 : imgS s k 4 = u1 (s 4) k 1 := by unfold imgS; rw [sw_eq]
    have so : ∀ o : Nat, o ≠ 3 → o ≠ 4 → imgS s k o = s o := fun o o3 o4 => by unfold imgS; rw [sw_ne _ o4, sw_ne _ o3]
    have hd : ∀ d, Dok E h x t d → d ≠ E.2.2 0 → eqT (hC h d) (hC g2 d) := by
      intro d hd hn
      rcases hd with hd | hd
      · exact absurd hd hn
      · exact eqT.of (same d (by omega) (by omega))
    have stF : StN E (Frz g2 x t dl dv ds du) g2 x t dl dv ds (s 2) := st.fr hf (fun a z1 z2 => eqT.of (same a (by omega) (by omega))) h0 (hd dl b1) (hd dv b2) (hd ds b3)
    have kgl : ∀ d, hT g d = 104 → d ≠ E.2.2 0 := by
      intro d hd hz
      have : g.2.2 d = none := by rw [hz, w6 _ (by omega)]; exact low _ ex
      unfold hT hC at hd
      rw [this] at hd
      cases hd
    have ff : ∀ a, Frz h x t dl dv ds du a → Frz g2 x t dl dv ds du a ∧ eqT (hC g a) (hC g2 a) := fun a ha => ⟨hfr a ha, eqT.of (C2 a (by have := ha.2.2; unfold Mut at this; omega))⟩
    have stN : StN E (Frz g2 x t dl dv ds du) g2 x h.1 dl' dv' ds' (s 2) := w11.fr ff (fun a z1 z2 => eqT.of (C2 a (by omega))) kgl (fun z => eqT.of (C2 dl' (by rcases w7 with y | y; exact absurd y z; omega))) (fun z => eqT.of (C2 dv' (by rcases w8 with y | y; exact absurd y z; omega))) (fun z => eqT.of (C2 ds' (by rcases w9 with y | y; exact absurd y z; omega)))
    have sI : ∀ a j, (a = x ∨ x + 14 ≤ a ∧ a < x + 84) → hI g2 a j = hI h a j := by
      intro a j ha
      unfold hI
      rw [hC_eq (same a (by omega) (by omega))]
    have H2 : REP E g2 x t dl dv ds du (imgS s k) := by
      refine ⟨pl.fr (by omega) (fun a ha => same a (by omega) (by omega)) (fun a z1 z2 => ?_), rt.sh3 (fun a z1 z2 => shq.of (same a (by omega) (by omega))) ⟨?_, ?_, fun j _ => ?_⟩ ⟨?_, ?_⟩, ?_, ?_, ?_, ?_, fun i hi => ?_, ?_⟩
      · by_cases c13 : a = x + 13
        · rw [c13, eg2, hT_wR, t13.1, rt.2.2.2.1.1]
        · unfold hT; rw [hC_eq (same a (by omega) c13)]
      · unfold hT; rw [hC_eq (same x (by omega) (by omega))]
      · unfold hR; rw [hC_eq (same x (by omega) (by omega))]; exact rt.2.1
      · unfold hR; rw [hC_eq (same x (by omega) (by omega))]
      · rw [eg2, hT_wR, t13.1, rt.2.2.2.1.1]
      · rw [eg2, hL_wR, t13.2, rt.2.2.2.1.2]
      · unfold RiN at *
        rw [so 0 (by decide) (by decide), sI _ _ (Or.inl rfl), sI _ _ (Or.inl rfl), sI _ _ (Or.inl rfl), sI _ _ (Or.inl rfl), sI _ _ (Or.inl rfl)]
        exact ri
      · refine ⟨fun j hj => ?_, fun j hj => ?_⟩
        · rw [sI _ _ (Or.inr (by omega)), so 1 (by decide) (by decide)]; exact ra.1 j hj
        · rw [sI _ _ (Or.inr (by omega)), so 7 (by decide) (by decide)]; exact ra.2 j hj
      · rw [so 2 (by decide) (by decide)]; exact stF
      · rw [so 0 (by decide) (by decide), so 14 (by decide) (by decide)]
        exact un.fr (eqT.of (same _ (by omega) (by omega))) (hd du b4) (h0 du) (fun i u hu2 => hu2.fr0 hf)
      · by_cases ek : (i : Int) = k
        · right
          refine ⟨by rw [s4, ek, u1_eq], h.1, dl', dv', ds', ?_, fun a z1 z2 => new a z1 (by omega), ?_, ?_, ?_, ?_⟩
          · rw [eg2, show i = k.toNat by omega, hR_wR_eq]
          · exact w7.imp id (fun z => new _ (by omega) z.2)
          · exact w8.imp id (fun z => new _ (by omega) z.2)
          · exact w9.imp id (fun z => new _ (by omega) z.2)
          · exact stN.cgr hV (fun j j0 j1 => by rw [ek]; exact imgK_same j0 j1)
        · have r13 : hR g2 (x + 13) i = hR h (x + 13) i := by
            rw [eg2, hR_wR_ne (by omega)]
            unfold hR
            rw [hC_eq (w6 (x + 13) (by omega))]
          have := (im i hi).fr (s' := s) hf r13 h0 rfl rfl
          unfold ImN at this ⊢
          rw [s4, u1_ne _ ek]
          rcases this with z | ⟨z, t0, l1, l2, l3, z1, z2, z3, z4, z5, z6⟩
          · exact Or.inl z
          · refine Or.inr ⟨z, t0, l1, l2, l3, z1, z2, z3, z4, z5, ?_⟩
            have kk := ((hI4 i (by omega) (by omega)).resolve_left (by omega)).2
            have z6' : StN E (Frz g2 x t dl dv ds du) g2 x t0 l1 l2 l3 (imgK s i) := z6
            exact z6'.cgr kk (fun j j0 j1 => imgK_other c ⟨by omega, by omega⟩ ek j0 j1)
      · refine dr.fr hf ?_ (by rw [so 0 (by decide) (by decide)]) (so 29 (by decide) (by decide)) (so 30 (by decide) (by decide)) (so 31 (by decide) (by decide))
        unfold hR
        rw [hC_eq (same x (by omega) (by omega))]
    have bb2 : Blk x 30 300 h g2 := ⟨by omega, by omega, by rw [eg2]; exact w4, by rw [eg2]; show g.2.1 ≤ _; omega, fun a z1 z2 => same a (by omega) (by omega)⟩
    obtain ⟨g3, v1, v2, v3⟩ := c_told (v := 0) H2 bb2 (by decide) (by decide)
    refine ⟨g3, ?_, v2, v3⟩
    have hs1 : hT g h.1 ≠ 999 ∧ hT g h.1 = 1 := by rw [w11.1.1]; decide
    dsimp only
    rw [f_gR a1 (by decide), rt.2.2.1.1, Option.bind_some, f_gR a1 (by decide), rt.2.1, Option.bind_some, f_ce H.tt.1 (by decide), Option.bind_some, w1, Option.bind_some]
    dsimp only
    rw [f_stR t13.1 (by decide) c.1 (by rw [t13.2]; omega) (by rw [t13.2]; decide) hs1.1 (by rw [hs1.2]; decide), Option.bind_some, ← eg2, f_ce H2.2.1.1 (by decide), Option.bind_some, v1, Option.bind_some]
  · rw [if_pos (by rw [b01_z]; exact c), if_pos c]
    obtain ⟨g, v1, v2, v3⟩ := c_told (v := -1) H b0 (by decide) (by decide)
    refine ⟨g, by rw [f_ce a1 (by decide), Option.bind_some, v1, Option.bind_some], ?_, v3⟩
    unfold telM at v2
    rw [if_pos (by decide)] at v2
    exact v2
end
