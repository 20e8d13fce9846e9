/-! The component's reader of orders: a text of orders whole -/
set_option maxRecDepth 100000
/-- a row of orders in the heap; all that it names lies between two addresses -/
def OdL (lo hi : Nat) (g : ax_H) (x u : Nat) (L : List Od) : Prop := (hT g u = 110 ∧ hL g u = L.length ∧ L.length ≤ 12 ∧ lo ≤ u ∧ u < hi) ∧ ∀ (j : Nat) (C : Od), L[j]? = some C → ∃ b, hR g u j = some b ∧ (lo ≤ b ∧ b < hi) ∧ OdN (fun a => RnF lo hi a ∧ ∀ q, q < L.length → hR g u q ≠ some a) g x b C
section
variable {E : ax_E} {T : Rw} {N x i p w : Nat} {h : ax_H}
theorem c_readO (G : RdG E T N x i p w 25 0 0 0 0 0 h) (K : RdKo i p w h) (rm1 : h.1 + 910 ≤ E.1.1) (rm2 : h.2.1 + 2030 ≤ E.1.2) : match pOrds (cT T N) (wT T N) (toks T N) with
    | .inl t => ∃ r, f_X25_read_2 E (some i) h = some (.inl r) ∧ RdX T N i p h t 850 1900 r
    | .inr L => ∃ u g', f_X25_read_2 E (some i) h = some (.inr (some u, g')) ∧ RdL i p h g' ∧ OdL h.1 g'.1 g' x u L ∧ g'.1 ≤ h.1 + 851 ∧ g'.2.1 ≤ h.2.1 + 1912 := by
  have hp := G.1.2.1
  have kk := K.1
  have iT := G.1.2.2.2.2.2.2.2.2.2
  obtain ⟨h1, x1, x2, x3⟩ := c_nextG (a := 0) (b := 0) G (Nat.zero_le N)
  have q1 := x3.2.1
  have q2 := x3.2.2
  have G1 : RdC E T N x i p w 25 0 0 0 0 h1 := x2
  have iT1 := G1.1.2.2.2.2.2.2.2.2.2
  have bs := c_rallO (g0 := h) kk.2.2 (by omega) (by omega) 12 0 0 [] h1 rfl G1 x3.1.l (K.r x3.1) (fun j C hj => by cases hj) (Int.le_refl 0) (by decide) (by show (h1.1 : Int) ≤ h.1 + 16 * 0 + ((0 : Nat) : Int); omega) (by show (h1.2.1 : Int) ≤ h.2.1 + 32 * 0 + 9 * ((0 : Nat) : Int); omega)
  have eA : f_X6_readAll E (some i) h = ax_iter (fun s : Int × ax_H => lb_X6_readAll_6 E (some i) s.1 s.2) (0, h1) := by
    unfold f_X6_readAll f_X6_readAll_6
    rw [f_dp iT.1 (by decide), if_pos (Or.inl rfl), x1, Option.bind_some]
  have bs : RsAo E T N x i p w h [] (f_X6_readAll E (some i) h) (pOrds (cT T N) (wT T N) (toks T N)) := by
    rw [eA]
    exact bs
  unfold f_X25_read_2
  rw [f_dp iT.1 (by decide), if_pos rfl]
  cases hP : pOrds (cT T N) (wT T N) (toks T N) with
  | inl t =>
    rw [hP] at bs
    obtain ⟨r, b1, b2⟩ := bs
    exact ⟨r, by rw [b1, tc_l], b2⟩
  | inr L =>
    rw [hP] at bs
    obtain ⟨g1, b1, b2, b3, b4, b5, b6, b7, b8⟩ := bs
    rw [List.nil_append] at b1 b2 b6
    obtain ⟨n, en⟩ : ∃ n, n = L.length := ⟨_, rfl⟩
    rw [← en] at b1 b2
    have hb3 := b3.1
    have hb4 := b3.2.1
    obtain ⟨⟨k1, k2, k3⟩, k4, k5⟩ := b5
    obtain ⟨ga, ea⟩ : ∃ ga, ga = nwH g1 110 n n := ⟨_, rfl⟩
    have sa : ga.1 = g1.1 + 1 ∧ ga.2.1 = g1.2.1 + n := by rw [ea]; exact ⟨rfl, rfl⟩
    have ca : ∀ a, a ≠ g1.1 → ga.2.2 a = g1.2.2 a := fun a ha => by rw [ea]; exact hC_nw_ne ha
    have ta : hT ga g1.1 = 110 ∧ hL ga g1.1 = n := by rw [ea]; exact ⟨hT_nw_eq, hL_nw_eq⟩
    have ri := ceq (ca i (by omega))
    have rr := ceq (ca (i + 3) (by omega))
    have iTa := b4.2.2.2.2.2.2.2.2.2
    have hcp := f_cp (E := E) (h := ga) (a := i + 3) (d := g1.1) (t := 110) (P := ax_refP E ga oj_110) (sp := 0) (dp := 0) (m := n) (rr.1.trans k4) ta.1 (by decide) (by rw [rr.2.1, k5]; decide) (by rw [ta.2]; omega) (by decide) (by decide) (by omega) (by rw [rr.2.1, k5]; omega) (by rw [ta.2]; omega) (by
      intro q hq
      obtain ⟨C, eC⟩ : ∃ C, L[q]? = some C := ⟨L[q], List.getElem?_eq_getElem (by omega)⟩
      obtain ⟨b, w1, w0, w2⟩ := b6 q C eC
      have e3 : (hC ga (i + 3)).2.2.2 ((0 : Int).toNat + q) = some b := by
        show hR ga (i + 3) ((0 : Int).toNat + q) = some b
        rw [rr.2.2.2, show (0 : Int).toNat + q = q by omega, w1]
      have tb : hT ga b = 21 ∨ hT ga b = 23 ∨ hT ga b = 24 := by
        rw [(ceq (ca b (by omega))).1]
        rcases w2.2 with ⟨-, -, z, -⟩ | ⟨-, z, -⟩
        · exact Or.inl z
        · rw [z]
          split
          · exact Or.inr (Or.inl rfl)
          · exact Or.inr (Or.inr rfl)
      show ax_okr E ga oj_110 _ = true
      rw [e3]
      simp only [ax_okr, f_rd (show hT ga b ≠ 999 by omega)]
      show oj_110 (hT ga b) = true
      rcases tb with z | z | z <;> rw [z] <;> decide)
    obtain ⟨gb, eb⟩ : ∃ gb, gb = cpH ga (i + 3) g1.1 (0 : Int).toNat (0 : Int).toNat (n : Int).toNat := ⟨_, rfl⟩
    have cb : ∀ a, a ≠ g1.1 → gb.2.2 a = g1.2.2 a := fun a ha => by rw [eb, hC_cp_ne ha]; exact ca a ha
    have tb : hT gb g1.1 = 110 ∧ hL gb g1.1 = n := by rw [eb, hT_cp, hL_cp]; exact ta
    have rb : ∀ j : Nat, j < n → hR gb g1.1 j = hR g1 (i + 3) j := fun j hj => by
      rw [eb, hR_cp, if_pos ⟨rfl, by show 0 ≤ j; omega, by show j < 0 + (n : Int).toNat; omega⟩, rr.2.2.2]
      show hR g1 (i + 3) (0 + (j - 0)) = _
      rw [show 0 + (j - 0) = j by omega]
    have sb : gb.1 = g1.1 + 1 ∧ gb.2.1 = g1.2.1 + n := by rw [eb]; exact sa
    refine ⟨g1.1, gb, ?_, ⟨by omega, by omega, fun a a1 a2 a3 a4 => (cb a (by omega)).trans (b3.2.2 a a1 a2 a3 a4)⟩, ⟨⟨tb.1, tb.2.trans en, by omega, by omega, by omega⟩, fun j C ej => ?_⟩, by omega, by omega⟩
    · rw [b1, tc_r]
      dsimp only
      rw [f_na (by omega) (by omega) (by omega) (by omega), Option.bind_some, Int.toNat_natCast, ← ea]
      dsimp only
      rw [f_gR (ri.1.trans iTa.1) (by decide), Option.bind_some, ri.2.2.2, iTa.2.2.2.2.2.1, f_len ta.1 (by decide), Option.bind_some, ta.2, hcp, Option.bind_some, ← eb]
    · obtain ⟨b, w1, w0, w2⟩ := b6 j C ej
      have lj := (List.getElem?_eq_some_iff.mp ej).1
      have ee := ceq (cb b (by omega))
      refine ⟨b, by rw [rb j (by omega), w1], ⟨w0.1, by omega⟩, w2.fr (fun a ha => ?_) ⟨ee.1, ee.2.2.2, fun _ => ee.2.2.1 1, fun _ => ee.2.2.1 5⟩⟩
      obtain ⟨⟨a1, a2⟩, a3⟩ := ha
      exact ⟨⟨⟨a1, by omega⟩, fun k hk e => a3 k hk (by rw [← rb k (by omega)]; exact e)⟩, eqT.of (cb a (by omega))⟩
end
