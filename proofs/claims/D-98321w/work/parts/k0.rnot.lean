/-! The component's reader: 'not'; rows of tests -/
set_option maxRecDepth 100000
section
variable {E : ax_E} {T : Rw} {N x i p w tg k d u : Nat} {o lv dp pl v : Int} {g g' g0 g1 : ax_H} {F : Dt}
theorem RsT.n {rr : Int} {res : Option ((Nat × ax_H) ⊕ (Option Nat × ax_H))} {X : PR Dt} (S : RsT E T N x i p w tg o dp pl g lv d rr res X) (R : RdN' i p pl g0 g) : RsT E T N x i p w tg o dp pl g0 lv d rr res X := by
  have q1 := R.2.1
  have q2 := R.2.2
  cases X with
  | inl t =>
    obtain ⟨r, b1, b2⟩ := S
    exact ⟨r, b1, b2.of R.1 (Int.le_refl _) (by omega) (by omega)⟩
  | inr vv =>
    obtain ⟨j, lv', F'⟩ := vv
    obtain ⟨u, g3, b1, b2, b3, b4, b5, b6, b7, b8⟩ := S
    rw [q1] at b6
    exact ⟨u, g3, b1, b2, b3, b4, R.1.trans b5 (Int.le_refl _), b6, by omega, by omega⟩
theorem c_rplain {s0 s1 s2 : Option Nat → ax_H → Option ((Nat × ax_H) ⊕ (Option Nat × ax_H))} {pt : Option (Int → Int → PR Dt)} {r : Nat} (hto : (tg = 7 ∧ o = 0) ∨ (tg = 25 ∧ o = 1)) (hr : r ≤ 8) (hdp : dp = 8 - r) (hN : pt = none → dp = 8) (hd : 1 ≤ d) (hpl : 0 ≤ pl)
    (hS : ∀ f, pt = some f → dp < 8 ∧ ∀ (k : Nat) (lv : Int) (g : ax_H), RdC E T N x i p w tg k lv (dp + 1) pl g → 2 * pl ≤ lv → lv ≤ 50 → RmR E g lv → RsT E T N x i p w tg o (dp + 1) pl g lv d (r - 1) (s2 (some i) g) (f k lv))
    (G : RdC E T N x i p w tg k lv dp pl g) (l0 : 2 * pl ≤ lv) (l1 : lv ≤ 50) (rm : RmR E g lv) : RsT E T N x i p w tg o dp pl g lv (d + 1) r (f_X6_plain E s0 s1 s2 (some i) g) (pPlain o (cT T N) (wT T N) r pt k lv) := by
  have n4 := G.1.2.2.2.2.2.1
  have lp : ∀ (n k : Nat) (b : Bool) (g : ax_H), RdC E T N x i p w tg k lv dp pl g → RmR E g lv → 401 ≤ n + k → RsT E T N x i p w tg o dp pl g lv (d + 1) r (ax_iter (fun s : Int × ax_H => lb_X6_plain_2 E s0 s1 s2 (some i) s.1 s.2) (b01 (b = true), g)) (match pPos o (cT T N) (wT T N) r pt (pNots (cT T N) n k b).1 lv with | .inl t => .inl t | .inr (j, lv', F) => .inr (j, lv', dNot (pNots (cT T N) n k b).2 F)) := by
    intro n
    induction n with
    | zero =>
      intro k b g G rm hk
      have c0 : cT T N k = 0 := by
        have := toks_e (T := T) n4.1
        unfold cT cut
        exact if_neg (by omega)
      obtain ⟨y, y1, y2⟩ := c_plainP (s0 := s0) (s1 := s1) hto hr hdp hN hd hpl hS b G l0 l1 rm (by omega)
      rw [it_done (body := fun s : Int × ax_H => lb_X6_plain_2 E s0 s1 s2 (some i) s.1 s.2) (s := (b01 (b = true), g)) y1]
      exact y2
    | succ n ih =>
      intro k b g G rm hk
      unfold pNots
      by_cases c8 : cT T N k = 8
      · rw [if_pos c8]
        obtain ⟨g1, x1, G1, N1⟩ := c_nxt G
        have A1 : f_X6_accept E (some i) (some (E.2.2 41)) g = some (1, g1) := acc_yes (j := 31) G (by decide) c8 x1
        have q1 := N1.2.1
        have q2 := N1.2.2
        have st : lb_X6_plain_2 E s0 s1 s2 (some i) (b01 (b = true)) g = some (.inl (b01 ((!b) = true), g1)) := by
          unfold lb_X6_plain_2 ax_cst f_X6_plain_20
          rw [Option.bind_some, G.1.dsp, A1, Option.bind_some]
          dsimp only
          rw [if_neg (by decide)]
          cases b with
          | false => rw [if_pos (by decide)]; rfl
          | true => rw [if_neg (by decide)]; rfl
        have z := ih (k + 1) (!b) g1 G1 (by unfold RmR at *; omega) (by omega)
        rw [show ((k + 1 : Nat) : Int) = (k : Int) + 1 by omega] at z
        rw [it_step (body := fun s : Int × ax_H => lb_X6_plain_2 E s0 s1 s2 (some i) s.1 s.2) (s := (b01 (b = true), g)) st]
        exact z.n N1
      · rw [if_neg c8]
        obtain ⟨y, y1, y2⟩ := c_plainP (s0 := s0) (s1 := s1) hto hr hdp hN hd hpl hS b G l0 l1 rm c8
        rw [it_done (body := fun s : Int × ax_H => lb_X6_plain_2 E s0 s1 s2 (some i) s.1 s.2) (s := (b01 (b = true), g)) y1]
        exact y2
  exact lp 401 k false g G rm (by omega)
theorem rowF_app {all : Int} {L : List Dt} {G : Dt} (h : 1 ≤ L.length) : rowF all (L ++ [G]) = (if all = 0 then dO else dA) (rowF all L) G := by
  cases L with
  | nil => exact absurd h (by decide)
  | cons A L =>
    show (L ++ [G]).foldl _ A = _
    rw [List.foldl_append]
    rfl
theorem TestN.tag {Fz : Nat → Prop} (S : TestN o Fz g x d u F) : (hT g u = 17 ∨ hT g u = 18 ∨ hT g u = 19) ∧ Fz u := by
  cases d with
  | zero => exact S.elim
  | succ d =>
    obtain ⟨h0, h⟩ := S
    rcases h with h | h | h
    · exact ⟨Or.inl h.1, h0⟩
    · exact ⟨Or.inr (Or.inl h.1), h0⟩
    · exact ⟨Or.inr (Or.inr h.1), h0⟩
/-- a row off the pile -/
theorem c_rrow {all : Int} {L : List Dt} (hall : all = 0 ∨ all = 1) (hpl : 0 ≤ pl) (h50 : pl + L.length ≤ 50) (G : RdC E T N x i p w tg k lv dp (pl + L.length) g) (R : RdR i p pl g0 g) (hb : i < g0.1 ∧ p < g0.1 ∧ w < g0.1 ∧ x + 116 ≤ g0.1) (h1 : 1 ≤ L.length) (hL2 : ∀ (j : Nat) (F : Dt), L[j]? = some F → ∃ b, hR g p (pl.toNat + j) = some b ∧ TestN o (RnF g0.1 g.1) g x d b F) (q1 : g.1 + 2 ≤ E.1.1) (q2 : g.2.1 + (L.length + 2) ≤ E.1.2) : ∃ u g', f_X6_row E (some i) all pl g = some (some u, g') ∧ RdC E T N x i p w tg k lv dp pl g' ∧ RdR i p pl g0 g' ∧ TestN o (RnF g0.1 g'.1) g' x (d + 1) u (rowF all L) ∧ (L.length = 1 → g'.1 = g.1 ∧ g'.2.1 = g.2.1) ∧ g'.1 ≤ g.1 + 2 ∧ g'.2.1 ≤ g.2.1 + (L.length + 2) := by
  obtain ⟨FF, y0, y1, y2, y3, y4⟩ := id G
  have hp := FF.2.1
  have pT := FF.2.2.2.2.2.2.2.1
  have hR1 := R.1
  have iP : hR g i 5 = some p := FF.2.2.2.2.2.2.2.2.2.2.1
  obtain ⟨m, em⟩ : ∃ m, m = L.length := ⟨_, rfl⟩
  obtain ⟨F0, eF0⟩ : ∃ F0, L[0]? = some F0 := ⟨L[0], List.getElem?_eq_getElem (by omega)⟩
  obtain ⟨b0, z0, z1⟩ := hL2 0 F0 eF0
  rw [Nat.add_zero] at z0
  rw [← em] at G h50 q2 y4 h1
  unfold f_X6_row
  rw [FF.gR, Option.bind_some, iP, f_ldR pT.1 (by decide) hpl (by rw [pT.2]; omega) (by rw [pT.2]; decide), Option.bind_some, z0, FF.gI, Option.bind_some, y4, show pl + (m : Int) - pl = m by omega, i2_of (a := (m : Int)) (by omega) (by omega), show i2 1 = 1 by decide]
  have keep : ∀ h : ax_H, (∀ c, c < g.1 → h.2.2 c = g.2.2 c) → ∀ c, g0.1 ≤ c → c < g.1 → (wI h i 4 pl).2.2 c = g.2.2 c := fun h hh c c1 c2 => by rw [hC_wI_ne (by omega)]; exact hh c c2
  by_cases cm : 1 < m
  · rw [if_pos (by omega), Option.bind_some]
    obtain ⟨ga, ea⟩ : ∃ ga, ga = nwH g 109 m m := ⟨_, rfl⟩
    have sa : ga.1 = g.1 + 1 ∧ ga.2.1 = g.2.1 + m := by rw [ea]; exact ⟨rfl, rfl⟩
    have ca : ∀ c, c ≠ g.1 → ga.2.2 c = g.2.2 c := fun c hc => by rw [ea]; exact hC_nw_ne hc
    have Ga : RdC E T N x i p w tg k lv dp (pl + m) ga := G.oth (by omega) (fun c hc => ca c (by omega))
    have ta : hT ga g.1 = 109 ∧ hL ga g.1 = m := by rw [ea]; exact ⟨hT_nw_eq, hL_nw_eq⟩
    have pa := ceq (ca p (by omega))
    have hcp := f_cp (E := E) (h := ga) (a := p) (d := g.1) (t := 109) (P := ax_refP E ga oj_109) (sp := pl) (dp := 0) (m := m) (by rw [pa.1]; exact pT.1) ta.1 (by decide) (by rw [pa.2.1, pT.2]; decide) (by rw [ta.2]; omega) hpl (by decide) (by omega) (by rw [pa.2.1, pT.2]; omega) (by rw [ta.2]; omega) (by
      intro q hq
      obtain ⟨Fq, eq⟩ : ∃ Fq, L[q]? = some Fq := ⟨L[q], List.getElem?_eq_getElem (by omega)⟩
      obtain ⟨b, w1, w2⟩ := hL2 q Fq eq
      obtain ⟨w3, w4⟩ := w2.tag
      have e3 : (hC ga p).2.2.2 (pl.toNat + q) = some b := by
        show hR ga p (pl.toNat + q) = some b
        rw [pa.2.2.2, w1]
      have tb : hT ga b = hT g b := (ceq (ca b (by have := w4.2; omega))).1
      show ax_okr E ga oj_109 _ = true
      rw [e3]
      simp only [ax_okr, f_rd (show hT ga b ≠ 999 by omega)]
      show oj_109 (hT ga b) = true
      rw [tb]
      rcases w3 with z | z | z <;> rw [z] <;> decide)
    obtain ⟨gb, eb⟩ : ∃ gb, gb = cpH ga p g.1 pl.toNat (0 : Int).toNat (m : Int).toNat := ⟨_, rfl⟩
    have cb : ∀ c, c ≠ g.1 → gb.2.2 c = g.2.2 c := fun c hc => by rw [eb, hC_cp_ne hc]; exact ca c hc
    have tb : hT gb g.1 = 109 ∧ hL gb g.1 = m := by rw [eb, hT_cp, hL_cp]; exact ta
    have rb : ∀ j : Nat, j < m → hR gb g.1 j = hR g p (pl.toNat + j) := fun j hj => by
      rw [eb, hR_cp, if_pos ⟨rfl, by show 0 ≤ j; omega, by show j < 0 + (m : Int).toNat; omega⟩, pa.2.2.2]
      rfl
    have sb : gb.1 = g.1 + 1 ∧ gb.2.1 = g.2.1 + m := by rw [eb]; exact sa
    obtain ⟨gc, ec⟩ : ∃ gc, gc = nwH gb 19 0 2 := ⟨_, rfl⟩
    have sc : gc.1 = g.1 + 2 ∧ gc.2.1 = g.2.1 + m + 2 := by rw [ec, nw_1, nw_2, sb.1, sb.2]; exact ⟨rfl, rfl⟩
    have tc' : hT gc (g.1 + 1) = 19 := by rw [ec, ← sb.1]; exact hT_nw_eq
    have cc : ∀ c, c ≠ g.1 + 1 → gc.2.2 c = gb.2.2 c := fun c hc => by rw [ec]; exact hC_nw_ne (by omega)
    obtain ⟨gd, ed⟩ : ∃ gd, gd = wI gc (g.1 + 1) 0 all := ⟨_, rfl⟩
    have td : hT gd (g.1 + 1) = 19 := by rw [ed, hT_wI]; exact tc'
    obtain ⟨ge, ee⟩ : ∃ ge, ge = wR gd (g.1 + 1) 1 (some g.1) := ⟨_, rfl⟩
    have ce : ∀ c, c ≠ g.1 + 1 → ge.2.2 c = gb.2.2 c := fun c hc => by rw [ee, hC_wR_ne hc, ed, hC_wI_ne hc]; exact cc c hc
    have se : ge.1 = g.1 + 2 ∧ ge.2.1 = g.2.1 + m + 2 := by rw [ee, ed]; exact sc
    have cg : ∀ c, c < g.1 → ge.2.2 c = g.2.2 c := fun c hc => (ce c (by omega)).trans (cb c (by omega))
    have Ge : RdC E T N x i p w tg k lv dp (pl + m) ge := G.oth (by omega) (fun c hc => cg c (by omega))
    have Gf : RdC E T N x i p w tg k lv dp pl (wI ge i 4 pl) := RdG.w4 Ge
    refine ⟨g.1 + 1, wI ge i 4 pl, ?_, Gf, ?_, ?_, fun h => by omega, by rw [wI_1]; omega, by rw [wI_2]; omega⟩
    · rw [show pl + (m : Int) - pl = m by omega, f_na (by omega) (by omega) (by omega) (by omega), Option.bind_some, Int.toNat_natCast, ← ea]
      dsimp only
      rw [Ga.1.gR, Option.bind_some, Ga.1.2.2.2.2.2.2.2.2.2.2.1, f_len ta.1 (by decide), Option.bind_some, ta.2, hcp, Option.bind_some, ← eb, f_nw (by omega) (by omega), Option.bind_some, ← ec]
      dsimp only
      unfold f_X19_init f_X16_init f_X6_row_53
      rw [sb.1, Option.bind_some, Option.bind_some, Option.bind_some, Option.bind_some, if_pos hall, f_pI tc' (by decide), Option.bind_some, ← ed, f_pR td (by decide), Option.bind_some, ← ee, Option.bind_some, Ge.1.pI, Option.bind_some]
    · exact ((R.oth (g' := ge) hb.2.1 (by omega) (by omega) (fun c hc => cg c (by omega))).trans RdR_wI (Int.le_refl _))
    · have q := ceq (g := wI ge i 4 pl) (h := ge) (c := g.1 + 1) (hC_wI_ne (by omega))
      have qa := ceq (g := wI ge i 4 pl) (h := gb) (c := g.1) (by rw [hC_wI_ne (by omega)]; exact ce g.1 (by omega))
      have r0 : hI ge (g.1 + 1) 0 = all := by rw [ee, hI_wR, ed]; exact hI_wI_eq
      have r1 : hR ge (g.1 + 1) 1 = some g.1 := by rw [ee]; exact hR_wR_eq
      have rT : hT ge (g.1 + 1) = 19 := by rw [ee, hT_wR]; exact td
      refine ⟨⟨by omega, by rw [wI_1]; omega⟩, Or.inr (Or.inr ⟨q.1.trans rT, by rw [q.2.2.1, r0]; exact hall, g.1, L, by rw [q.2.2.2, r1], ⟨by omega, by rw [wI_1]; omega⟩, qa.1.trans tb.1, (qa.2.1.trans tb.2).trans em, by omega, by omega, fun j Fj ej => ?_, by rw [q.2.2.1, r0]⟩)⟩
      obtain ⟨b, w1, w2⟩ := hL2 j Fj ej
      have hj : j < L.length := by
        have := List.getElem?_eq_some_iff.mp ej
        exact this.1
      refine ⟨b, by rw [qa.2.2.2, rb j (by omega), w1], w2.rd (Nat.le_refl _) (by rw [wI_1]; omega) (fun c c1 c2 => keep ge cg c c1 c2)⟩
  · have m1 : L.length = 1 := by omega
    obtain ⟨A, eA⟩ : ∃ A, L = [A] := List.length_eq_one_iff.mp m1
    rw [if_neg (by omega)]
    have Gf : RdC E T N x i p w tg k lv dp pl (wI g i 4 pl) := RdG.w4 G
    refine ⟨b0, wI g i 4 pl, ?_, Gf, R.trans RdR_wI (Int.le_refl _), ?_, fun _ => ⟨rfl, rfl⟩, by rw [wI_1]; omega, by rw [wI_2]; omega⟩
    · unfold f_X6_row_53
      rw [FF.pI, Option.bind_some]
    · have e : F0 = rowF all L := by
        rw [eA] at eF0 ⊢
        cases eF0
        rfl
      rw [← e]
      exact (z1.rd (Nat.le_refl _) (by rw [wI_1]; exact Nat.le_refl _) (fun c c1 c2 => keep g (fun _ _ => rfl) c c1 c2)).up _ _ _ _ (Nat.le_succ _)
end
