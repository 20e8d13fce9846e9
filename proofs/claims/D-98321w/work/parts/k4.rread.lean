/-! The component's reader: a text whole, and the reader's birth -/
set_option maxRecDepth 100000
section
variable {E : ax_E} {T : Rw} {N x i p w k c : Nat} {lv lv0 : Int} {h g g0 : ax_H}
theorem c_readT (G : RdG E T N x i p w 7 0 0 0 0 0 h) (K : RdK E i p w h) (rm1 : h.1 + 910 ≤ E.1.1) (rm2 : h.2.1 + 2030 ≤ E.1.2) : match pLaw (cT T N) (wT T N) (toks T N) with
    | .inl t => ∃ r, f_X7_read E (some i) h = some (.inl r) ∧ RdX T N i p h t 850 1800 r
    | .inr L => ∃ u g', f_X7_read E (some i) h = some (.inr (some u, g')) ∧ RdL i p h g' ∧ TxN (RnF h.1 g'.1) g' x u L ∧ (h.1 ≤ u ∧ u < g'.1) ∧ g'.1 ≤ h.1 + 852 ∧ g'.2.1 ≤ h.2.1 + 1815 := by
  have hp := G.1.2.1
  have kk := K.1
  have iT := G.1.2.2.2.2.2.2.2.2.2
  obtain ⟨h1, x1, x2, x3⟩ := c_nextG (a := 0) (b := 0) G (Nat.zero_le N)
  have q1 := x3.2.1
  have q2 := x3.2.2
  have G1 : RdC E T N x i p w 7 0 0 0 0 h1 := x2
  have iT1 := G1.1.2.2.2.2.2.2.2.2.2
  have bs := c_rall (g0 := h) kk.2.2 (by omega) (by omega) 12 0 0 [] h1 rfl G1 x3.1.l (K.r x3.1) (fun j C hj => by cases hj) (Int.le_refl 0) (by decide) (by show (h1.1 : Int) ≤ h.1 + 16 * 0 + ((0 : Nat) : Int); omega) (by show (h1.2.1 : Int) ≤ h.2.1 + 32 * 0 + 4 * ((0 : Nat) : Int); omega)
  have eA : f_X6_readAll E (some i) h = ax_iter (fun s : Int × ax_H => lb_X6_readAll_6 E (some i) s.1 s.2) (0, h1) := by
    unfold f_X6_readAll f_X6_readAll_6
    rw [f_dp iT.1 (by decide), if_pos (Or.inr rfl), x1, Option.bind_some]
  have bs : RsA E T N x i p w h [] (f_X6_readAll E (some i) h) (pLaw (cT T N) (wT T N) (toks T N)) := by
    rw [eA]
    exact bs
  unfold f_X7_read
  rw [f_dp iT.1 (by decide), if_pos rfl]
  cases hP : pLaw (cT T N) (wT T N) (toks T N) with
  | inl t =>
    rw [hP] at bs
    obtain ⟨r, b1, b2⟩ := bs
    exact ⟨r, by rw [b1, tc_l], b2⟩
  | inr L =>
    rw [hP] at bs
    obtain ⟨g1, b1, b2, b3, b4, b5, b6, b7, b8⟩ := bs
    rw [List.nil_append] at b1 b2 b6
    obtain ⟨n, en⟩ : ∃ n, n = L.length := ⟨_, rfl⟩
    rw [← en] at b1 b2
    have hb3 := b3.1
    have hb4 := b3.2.1
    obtain ⟨⟨k1, k2, k3⟩, ⟨k4, k5⟩, -⟩ := b5
    obtain ⟨ga, ea⟩ : ∃ ga, ga = nwH g1 106 n n := ⟨_, rfl⟩
    have sa : ga.1 = g1.1 + 1 ∧ ga.2.1 = g1.2.1 + n := by rw [ea]; exact ⟨rfl, rfl⟩
    have ca : ∀ a, a ≠ g1.1 → ga.2.2 a = g1.2.2 a := fun a ha => by rw [ea]; exact hC_nw_ne ha
    have ta : hT ga g1.1 = 106 ∧ hL ga g1.1 = n := by rw [ea]; exact ⟨hT_nw_eq, hL_nw_eq⟩
    have ri := ceq (ca i (by omega))
    have rr := ceq (ca (i + 3) (by omega))
    have iTa := b4.2.2.2.2.2.2.2.2.2
    have hcp := f_cp (E := E) (h := ga) (a := i + 3) (d := g1.1) (t := 106) (P := ax_refP E ga oj_106) (sp := 0) (dp := 0) (m := n) (rr.1.trans k4) ta.1 (by decide) (by rw [rr.2.1, k5]; decide) (by rw [ta.2]; omega) (by decide) (by decide) (by omega) (by rw [rr.2.1, k5]; omega) (by rw [ta.2]; omega) (by
      intro q hq
      obtain ⟨C, eC⟩ : ∃ C, L[q]? = some C := ⟨L[q], List.getElem?_eq_getElem (by omega)⟩
      obtain ⟨b, w1, w2⟩ := b6 q C eC
      have e3 : (hC ga (i + 3)).2.2.2 ((0 : Int).toNat + q) = some b := by
        show hR ga (i + 3) ((0 : Int).toNat + q) = some b
        rw [rr.2.2.2, show (0 : Int).toNat + q = q by omega, w1]
      have tb : hT ga b = 15 := ((ceq (ca b (by have := w2.1.2; omega))).1).trans w2.2.1
      show ax_okr E ga oj_106 _ = true
      rw [e3]
      simp only [ax_okr, f_rd (show hT ga b ≠ 999 by omega)]
      show oj_106 (hT ga b) = true
      rw [tb]
      decide)
    obtain ⟨gb, eb⟩ : ∃ gb, gb = cpH ga (i + 3) g1.1 (0 : Int).toNat (0 : Int).toNat (n : Int).toNat := ⟨_, rfl⟩
    have cb : ∀ a, a ≠ g1.1 → gb.2.2 a = g1.2.2 a := fun a ha => by rw [eb, hC_cp_ne ha]; exact ca a ha
    have tb : hT gb g1.1 = 106 ∧ hL gb g1.1 = n := by rw [eb, hT_cp, hL_cp]; exact ta
    have rb : ∀ j : Nat, j < n → hR gb g1.1 j = hR g1 (i + 3) j := fun j hj => by
      rw [eb, hR_cp, if_pos ⟨rfl, by show 0 ≤ j; omega, by show j < 0 + (n : Int).toNat; omega⟩, rr.2.2.2]
      show hR g1 (i + 3) (0 + (j - 0)) = _
      rw [show 0 + (j - 0) = j by omega]
    have sb : gb.1 = g1.1 + 1 ∧ gb.2.1 = g1.2.1 + n := by rw [eb]; exact sa
    obtain ⟨gc, ec⟩ : ∃ gc, gc = nwH gb 4 0 1 := ⟨_, rfl⟩
    have sc : gc.1 = g1.1 + 2 ∧ gc.2.1 = g1.2.1 + n + 1 := by rw [ec, nw_1, nw_2, sb.1, sb.2]; exact ⟨rfl, rfl⟩
    have tc' : hT gc (g1.1 + 1) = 4 := by rw [ec, ← sb.1]; exact hT_nw_eq
    obtain ⟨gd, ed⟩ : ∃ gd, gd = wR gc (g1.1 + 1) 0 (some g1.1) := ⟨_, rfl⟩
    have cd : ∀ a, a ≠ g1.1 + 1 → gd.2.2 a = gb.2.2 a := fun a ha => by rw [ed, hC_wR_ne ha, ec]; exact hC_nw_ne (by omega)
    have sd : gd.1 = g1.1 + 2 ∧ gd.2.1 = g1.2.1 + n + 1 := by rw [ed]; exact sc
    have cg : ∀ a, a < g1.1 → gd.2.2 a = g1.2.2 a := fun a ha => (cd a (by omega)).trans (cb a (by omega))
    have qa := ceq (cd g1.1 (by omega))
    refine ⟨g1.1 + 1, gd, ?_, ⟨by omega, by omega, fun a a1 a2 a3 a4 => (cg a (by omega)).trans (b3.2.2 a a1 a2 a3 a4)⟩, ⟨⟨by omega, by omega⟩, by rw [ed, hT_wR]; exact tc', g1.1, by rw [ed]; exact hR_wR_eq, ⟨by omega, by omega⟩, qa.1.trans tb.1, (qa.2.1.trans tb.2).trans en, by omega, fun j C ej => ?_⟩, ⟨by omega, by omega⟩, by omega, by omega⟩
    · rw [b1, tc_r]
      dsimp only
      rw [f_na (by omega) (by omega) (by omega) (by omega), Option.bind_some, Int.toNat_natCast, ← ea]
      dsimp only
      rw [f_gR (ri.1.trans iTa.1) (by decide), Option.bind_some, ri.2.2.2, iTa.2.2.2.2.2.1, f_len ta.1 (by decide), Option.bind_some, ta.2, hcp, Option.bind_some, ← eb, f_nw (by omega) (by omega), Option.bind_some, ← ec]
      dsimp only
      unfold f_X4_init
      rw [sb.1, Option.bind_some, Option.bind_some, f_pR tc' (by decide), Option.bind_some, ← ed, Option.bind_some]
    · obtain ⟨b, w1, w2⟩ := b6 j C ej
      have lj := (List.getElem?_eq_some_iff.mp ej).1
      exact ⟨b, by rw [qa.2.2.2, rb j (by omega), w1], w2.fr (fun a ha => ⟨⟨ha.1, by have := ha.2; omega⟩, eqT.of (cg a ha.2)⟩)⟩
/-- a text's reference is put into an array -/
theorem f_stRlo {q j n : Nat} {k : Int} (S : TxtE E x) (hj : j < 44) (lo : ∀ a, a < x → h.2.2 a = none) (e : hT h q = 108) (l : hL h q = n) (h0 : 0 ≤ k ∧ k < n ∧ n ≤ 10) : ax_stR E oj_108 h (some q) 108 k (some (E.2.2 (10 + j))) = some (wR h q k.toNat (some (E.2.2 (10 + j)))) := by
  obtain ⟨s0, c, d, b, s1, s2, s3, s4, s5⟩ := S j hj
  have q1 : ax_rd E h (E.2.2 (10 + j)) = some c := by unfold ax_rd; rw [lo _ s0]; exact s1
  unfold ax_stR
  rw [f_wc e (by decide), Option.bind_some, i2_of (by omega) (by omega), if_pos (by show 0 ≤ k ∧ k < ((hL h q : Nat) : Int); omega)]
  simp only [q1, Option.bind_some]
  exact if_pos ⟨by rw [s4]; decide, Or.inl (by rw [s4]; decide)⟩
end
