/-! An image taken back: the component -/
set_option maxRecDepth 100000
section
variable {E : ax_E} {h : ax_H} {x t dl dv ds du : Nat} {s : Sg}
theorem c_back {k : Int} (H : REP E h x t dl dv ds du s) (hE : Ek E x) (hI4 : ∀ k : Int, 0 ≤ k → k < 2 → s 4 k = 0 ∨ (s 4 k = 1 ∧ KW (imgK s k))) (hk : i2 k = k) (e1 : h.1 + 30 ≤ E.1.1) (e2 : h.2.1 + 3000 ≤ E.1.2) : ∃ (t' dl' dv' ds' : Nat) (h' : ax_H), f_X0_back E (some x) k h = some ((backS s k).1, h') ∧ REP E h' x t' dl' dv' ds' du (backS s k).2 ∧ Blk x 30 300 h h' := by
  have bk := i2_lh hk
  have a1 := H.2.1.1
  have b0 := (Blk.refl x h).up (c' := 30) (z' := 300) (by decide) (by decide)
  obtain ⟨pl, rt, ri, ra, st, un, im, dr⟩ := id H
  unfold f_X0_back backS
  rw [hk, c_in (by omega) (by decide) (by decide), Option.bind_some]
  by_cases c : 0 ≤ k ∧ k ≤ 1
  · rw [if_neg (by rw [b01_z]; exact fun z => z c), if_neg (fun z => z c)]
    have ek : ((k.toNat : Nat) : Int) = k := by omega
    dsimp only
    rw [f_gR a1 (by decide), rt.2.2.1.1, Option.bind_some, f_ldR rt.2.2.2.1.1 (by decide) c.1 (by rw [rt.2.2.2.1.2]; omega) (by rw [rt.2.2.2.1.2]; decide), Option.bind_some]
    rcases im k.toNat (by omega) with ⟨z, r⟩ | ⟨z, t0, l1, l2, l3, r, y0, y1, y2, y3, S0⟩
    · rw [ek] at z
      rw [if_pos z, r, if_pos rfl]
      obtain ⟨g, v1, v2, v3⟩ := c_told (v := -2) H b0 (by decide) (by decide)
      refine ⟨t, dl, dv, ds, g, by rw [f_ce a1 (by decide), Option.bind_some, v1, Option.bind_some], ?_, v3⟩
      unfold telM at v2
      rw [if_pos (by decide)] at v2
      exact v2
    · rw [ek] at z S0
      have S0' : StN E (Frz h x t dl dv ds du) h x t0 l1 l2 l3 (imgK s k) := S0
      have hV := ((hI4 k c.1 (by omega)).resolve_left (by omega)).2
      have kb := hV.1
      have n6 := kb.n6
      obtain ⟨⟨q1, q2, q3⟩, ⟨b1, b2, b3, b4⟩, bb, ⟨low, no⟩, ex⟩ := id pl
      obtain ⟨d1, d2, d3, d4⟩ := H.dlt hE
      have hl : ∀ d, (d = E.2.2 0 ∨ Frz h x t dl dv ds du d) → d < h.1 := by
        intro d hd
        rcases hd with hd | hd
        · omega
        · exact hd.2.1
      have t0l : t0 + 12 ≤ h.1 := by have := (y0 (t0 + 11) (by omega) (by omega)).2.1; omega
      have h0 : ∀ d, hT h d = 104 → d ≠ E.2.2 0 := fun d hd => pl.k0 hd
      obtain ⟨dl', dv', ds', g, w1, ⟨w2, w3, w4, w5⟩, w6, ⟨w7, w8, w9⟩, ⟨u1', u2', u3'⟩, w10, w11⟩ := c_copy (E := E) (h := h) S0' (H.emp hE) (by omega) (fun a ha => ha.2.1) t0l (hl _ y1) (hl _ y2) (hl _ y3) kb.2.2.2.2.1 kb.1.2 hV.2.2.1.1.2 hV.2.2.2.1.2 n6.2 e1 e2
      obtain ⟨g2, eg2⟩ : ∃ g2, g2 = wR g x 0 (some h.1) := ⟨_, rfl⟩
      have C2 : ∀ a, a ≠ x → g2.2.2 a = g.2.2 a := fun a ha => by rw [eg2]; exact hC_wR_ne ha
      have same : ∀ a, a < h.1 → a ≠ x → g2.2.2 a = h.2.2 a := fun a z1 z2 => (C2 a z2).trans (w6 a z1)
      have n2 : g2.1 = g.1 := by rw [eg2]; rfl
      have hfr : ∀ a, Frz h x t dl dv ds du a → Frz g2 x h.1 dl' dv' ds' du a := by
        intro a ha
        obtain ⟨z1, z2, z3⟩ := ha
        unfold Mut at z3
        refine ⟨z1, by omega, ?_⟩
        unfold Mut
        rcases w7 with w7 | w7 <;> rcases w8 with w8 | w8 <;> rcases w9 with w9 | w9 <;> omega
      have hf : ∀ a, Frz h x t dl dv ds du a → Frz g2 x h.1 dl' dv' ds' du a ∧ eqT (hC h a) (hC g2 a) := fun a ha => ⟨hfr a ha, eqT.of (same a ha.2.1 (by have := ha.2.2; unfold Mut at this; omega))⟩
      have s2' : bakS s k 2 = cpR (s 2) 0 (fun i => s 3 (5764 * k + i)) 5764 := by unfold bakS; rw [sw_eq]
      have so : ∀ o : Nat, o ≠ 2 → bakS s k o = s o := fun o o2 => by unfold bakS; rw [sw_ne _ o2]
      have kgl : ∀ d, hT g d = 104 → d ≠ E.2.2 0 := by
        intro d hd hz
        have : g.2.2 d = none := by rw [hz, w6 _ (by omega)]; exact low _ ex
        unfold hT hC at hd
        rw [this] at hd
        cases hd
      have ff : ∀ a, Frz h x t dl dv ds du a → Frz g2 x h.1 dl' dv' ds' du a ∧ eqT (hC g a) (hC g2 a) := fun a ha => ⟨hfr a ha, eqT.of (C2 a (by have := ha.2.2; unfold Mut at this; omega))⟩
      have stN : StN E (Frz g2 x h.1 dl' dv' ds' du) g2 x h.1 dl' dv' ds' (imgK s k) := w11.fr ff (fun a z1 z2 => eqT.of (C2 a (by omega))) kgl (fun z => eqT.of (C2 dl' (by rcases w7 with y | y; exact absurd y z; omega))) (fun z => eqT.of (C2 dv' (by rcases w8 with y | y; exact absurd y z; omega))) (fun z => eqT.of (C2 ds' (by rcases w9 with y | y; exact absurd y z; omega)))
      have sI : ∀ a j, (a = x ∨ x + 13 ≤ a ∧ a < x + 84) → hI g2 a j = hI h a j := by
        intro a j ha
        by_cases cx : a = x
        · rw [cx, eg2, hI_wR]
          unfold hI
          rw [hC_eq (w6 x (by omega))]
        · unfold hI
          rw [hC_eq (same a (by omega) cx)]
      have hd : ∀ d, Dok E h x t d → d ≠ E.2.2 0 → eqT (hC h d) (hC g2 d) := by
        intro d hd hn
        rcases hd with hd | hd
        · exact absurd hd hn
        · exact eqT.of (same d (by omega) (by omega))
      have tx : hT g2 x = hT h x := by rw [eg2, hT_wR]; unfold hT; rw [hC_eq (w6 x (by omega))]
      have rx : ∀ j, j ≠ 0 → hR g2 x j = hR h x j := fun j hj => by rw [eg2, hR_wR_ne (by omega)]; unfold hR; rw [hC_eq (w6 x (by omega))]
      have pl' : PlN E g2 x h.1 dl' dv' ds' du := by
        refine ⟨⟨by omega, Or.inr (by omega), by omega⟩, ⟨?_, ?_, ?_, ?_⟩, ⟨u1', u2', ?_, u3', ?_, ?_⟩, ⟨fun a ha => (same a (by omega) (by omega)).trans (low a ha), fun a z1 z2 => ?_⟩, ex⟩
        · exact w7.imp id (fun z => ⟨by omega, by omega, Or.inr (by omega)⟩)
        · exact w8.imp id (fun z => ⟨by omega, by omega, Or.inr (by omega)⟩)
        · exact w9.imp id (fun z => ⟨by omega, by omega, Or.inr (by omega)⟩)
        · exact b4.imp id (fun z => ⟨z.1, by omega, Or.inl (by omega)⟩)
        · rcases w7 with z | z
          · exact Or.inr z
          · left; omega
        · rcases w8 with z | z
          · exact Or.inr z
          · left; omega
        · rcases w9 with z | z
          · exact Or.inr z
          · left; omega
        · by_cases cx : a = x
          · rw [cx, tx, rt.1]; decide
          · unfold hT; rw [hC_eq (same a (by omega) cx)]; exact no a z1 z2
      have H2 : REP E g2 x h.1 dl' dv' ds' du (bakS s k) := by
        refine ⟨pl', rt.sh3 (fun a z1 z2 => shq.of (same a (by omega) (by omega))) ⟨tx, by rw [eg2, hR_wR_eq], rx⟩ ⟨?_, ?_⟩, ?_, ?_, ?_, ?_, fun i hi => ?_, ?_⟩
        · unfold hT; rw [hC_eq (same (x + 13) (by omega) (by omega))]
        · unfold hL; rw [hC_eq (same (x + 13) (by omega) (by omega))]
        · unfold RiN at *
          rw [so 0 (by decide), sI _ _ (Or.inl rfl), sI _ _ (Or.inl rfl), sI _ _ (Or.inl rfl), sI _ _ (Or.inl rfl), sI _ _ (Or.inl rfl)]
          exact ri
        · refine ⟨fun j hj => ?_, fun j hj => ?_⟩
          · rw [sI _ _ (Or.inr (by omega)), so 1 (by decide)]; exact ra.1 j hj
          · rw [sI _ _ (Or.inr (by omega)), so 7 (by decide)]; exact ra.2 j hj
        · rw [s2']
          exact stN.cgr hV (fun i i0 i1 => by
            rw [cpR_in (by omega)]
            unfold imgK
            congr 2
            omega)
        · rw [so 0 (by decide), so 14 (by decide)]
          exact un.fr (eqT.of (same _ (by omega) (by omega))) (hd du b4) (h0 du) (fun i u hu2 => hu2.fr0 hf)
        · refine (im i hi).fr hf ?_ h0 (so 4 (by decide)) (so 3 (by decide))
          unfold hR
          rw [hC_eq (same (x + 13) (by omega) (by omega))]
        · exact dr.fr hf (rx 17 (by decide)) (by rw [so 0 (by decide)]) (so 29 (by decide)) (so 30 (by decide)) (so 31 (by decide))
      have bb2 : Blk x 30 300 h g2 := ⟨by omega, by omega, by rw [eg2]; exact w4, by rw [eg2]; show g.2.1 ≤ _; omega, fun a z1 z2 => same a (by omega) (by omega)⟩
      obtain ⟨g3, v1, v2, v3⟩ := c_settled (v := 0) H2 hE bb2 (by decide) (by decide)
      have n4 : ¬ s 4 k = 0 := by rw [z]; decide
      refine ⟨h.1, dl', dv', ds', g3, ?_, ?_, v3⟩
      · rw [if_neg n4, r, if_neg (by simp), Option.bind_some, f_ldR rt.2.2.2.1.1 (by decide) c.1 (by rw [rt.2.2.2.1.2]; omega) (by rw [rt.2.2.2.1.2]; decide), Option.bind_some, r]
        rw [f_ce S0'.1.1 (by decide), Option.bind_some, w1, Option.bind_some]
        dsimp only
        have txg : hT g x = 0 := by unfold hT at *; rw [hC_eq (w6 x (by omega))]; exact a1
        rw [f_pR txg (by decide), Option.bind_some, ← eg2, f_ce H2.2.1.1 (by decide), Option.bind_some, v1, Option.bind_some]
      · rw [if_neg n4]
        unfold setM at v2
        rw [if_neg (by decide)] at v2
        exact v2
  · rw [if_pos (by rw [b01_z]; exact c), if_pos c]
    obtain ⟨g, v1, v2, v3⟩ := c_told (v := -1) H b0 (by decide) (by decide)
    refine ⟨t, dl, dv, ds, g, by rw [f_ce a1 (by decide), Option.bind_some, v1, Option.bind_some], ?_, v3⟩
    unfold telM at v2
    rw [if_pos (by decide)] at v2
    exact v2
end
