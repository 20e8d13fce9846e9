/-! The component's reader: rows of parts, joined -/
set_option maxRecDepth 100000
def RnF (lo hi : Nat) (a : Nat) : Prop := lo ≤ a ∧ a < hi
/-- a sum read, or where it is wrong -/
def RsS (E : ax_E) (T : Rw) (N x i p w tg : Nat) (o dp pl : Int) (g : ax_H) (lv : Int) (res : Option ((Nat × ax_H) ⊕ (Option Nat × ax_H))) : PR Dn → Prop
  | .inl t => ∃ r, res = some (.inl r) ∧ RdW T N i p pl g t (8 * (51 - lv)) (16 * (51 - lv)) r
  | .inr (j, lv', F) => ∃ u g', res = some (.inr (some u, g')) ∧ 0 ≤ j ∧ (lv < lv' ∧ lv' ≤ 50) ∧ RdC E T N x i p w tg j.toNat lv' dp pl g' ∧ RdR i p pl g g' ∧ SumN o (RnF g.1 g'.1) g' x (lv' - lv).toNat u F ∧ (g'.1 : Int) + 4 ≤ g.1 + 8 * (lv' - lv) ∧ (g'.2.1 : Int) + 4 ≤ g.2.1 + 8 * (lv' - lv)
/-- a sign's code is the sign -/
theorem sgn {T : Rw} {N k : Nat} {c : Int} (hT : ∀ k : Int, 0 ≤ k → k < 400 → -128 ≤ T k ∧ T k ≤ 127) (hN : N ≤ 400) (e : cT T N k = c) (h : 132 ≤ c ∧ c ≤ 200) : pos T N k < N ∧ T (pos T N k) = c - 100 := by
  have pt := pos_toks (T := T) (i := k) hN
  unfold cT cut at e
  by_cases ck : pos T N k < N
  · rw [if_pos (by have := pt.mp ck; omega)] at e
    have e : tkC T N k = c := e
    have hb := hT (pos T N k : Int) (by omega) (by omega)
    unfold tkC at e
    by_cases c1 : isLet (T (pos T N k)) = true
    · rw [if_pos c1] at e
      have wb := wdF_b (tkL T (pos T N k) (tnd T N (pos T N k))) wdL 1 (by decide)
      rw [show wdL.length = 29 by decide] at wb
      omega
    · rw [if_neg c1] at e
      by_cases c2 : isDig (T (pos T N k)) = true
      · rw [if_pos c2] at e
        omega
      · rw [if_neg c2, and255 hb.1 hb.2] at e
        exact ⟨ck, by omega⟩
  · rw [if_neg (by omega)] at e
    omega
section
variable {E : ax_E} {T : Rw} {N x i p w tg k : Nat} {a b lv dp pl : Int} {g g' g0 : ax_H}
theorem RdG.oth (G : RdG E T N x i p w tg a b lv dp pl g) (h1 : g.1 ≤ g'.1) (h3 : ∀ c, (c < x + 116 ∨ c = i ∨ c = p ∨ c = w) → g'.2.2 c = g.2.2 c) : RdG E T N x i p w tg a b lv dp pl g' := by
  obtain ⟨⟨f1, ⟨p1, p2, p3, p4, p5, p6, p7, p8, p9⟩, f3, ⟨x1, x2, x3⟩, ⟨t1, t2, t3⟩, f6, f7, ⟨l1, l2⟩, ⟨w1, w2, w3⟩, ⟨i1, i2', i3, i4, i5, i6, i7⟩⟩, y0, y1, y2, y3, y4⟩ := G
  obtain ⟨xa, xb, xc, xd⟩ := ceq (h3 x (Or.inl (by omega)))
  obtain ⟨ta, tb, tc', td⟩ := ceq (h3 (x + 22) (Or.inl (by omega)))
  obtain ⟨ia, ib, ic, id'⟩ := ceq (h3 i (Or.inr (Or.inl rfl)))
  obtain ⟨pa, pb, pc, pd⟩ := ceq (h3 p (Or.inr (Or.inr (Or.inl rfl))))
  obtain ⟨wa, wb, wc, wd⟩ := ceq (h3 w (Or.inr (Or.inr (Or.inr rfl))))
  exact ⟨⟨f1, ⟨p1, p2, p3, p4, p5, p6, by omega, by omega, by omega⟩, fun c hc => (h3 c (Or.inl (by omega))).trans (f3 c hc), ⟨xa.trans x1, (xd 11).trans x2, (xc 12).trans x3⟩, ⟨ta.trans t1, tb.trans t2, fun k hk => (tc' k).trans (t3 k hk)⟩, f6, f7, ⟨pa.trans l1, pb.trans l2⟩, ⟨wa.trans w1, wb.trans w2, fun k hk => (wd k).trans (w3 k hk)⟩, ⟨ia.trans i1, (id' 5).trans i2', (id' 6).trans i3, (id' 7).trans i4, fun h => (id' 9).trans (i5 h), (id' 8).trans i6, fun h => (id' 9).trans (i7 h)⟩⟩, (ic 0).trans y0, (ic 1).trans y1, (ic 2).trans y2, (ic 3).trans y3, (ic 4).trans y4⟩
theorem RdR.oth (R : RdR i p pl g0 g) (hp : p < g0.1) (h1 : g.1 ≤ g'.1) (h2 : g.2.1 ≤ g'.2.1) (h3 : ∀ c, c < g0.1 → g'.2.2 c = g.2.2 c) : RdR i p pl g0 g' := ⟨Nat.le_trans R.1 h1, Nat.le_trans R.2.1 h2, fun c c1 c2 c3 => (h3 c c1).trans (R.2.2.1 c c1 c2 c3), fun j hj => ((ceq (h3 p hp)).2.2.2 j).trans (R.2.2.2 j hj)⟩
/-- trees stay where nothing is written -/
theorem SumN.rd {o : Int} {lo hi lo' hi' d u : Nat} {F : Dn} (S : SumN o (RnF lo hi) g x d u F) (h1 : lo' ≤ lo) (h2 : hi ≤ hi') (h3 : ∀ c, lo ≤ c → c < hi → g'.2.2 c = g.2.2 c) : SumN o (RnF lo' hi') g' x d u F := SumN.fr (fun c hc => ⟨⟨Nat.le_trans h1 hc.1, Nat.lt_of_lt_of_le hc.2 h2⟩, eqT.of (h3 c hc.1 hc.2)⟩) d u F S
theorem c_i14 {q l r : Nat} {v : Int} (e : hT g q = 14) : ∃ h', f_X14_init E (some q) (some l) v (some r) g = some h' ∧ (hT h' q = 14 ∧ hR h' q 0 = some l ∧ hR h' q 1 = some r ∧ hI h' q 2 = v) ∧ (∀ c, c ≠ q → h'.2.2 c = g.2.2 c) ∧ h'.1 = g.1 ∧ h'.2.1 = g.2.1 := by
  obtain ⟨h1, e1⟩ : ∃ h1, h1 = wR g q 0 (some l) := ⟨_, rfl⟩
  have t1 : hT h1 q = 14 := by rw [e1, hT_wR]; exact e
  obtain ⟨h2, e2⟩ : ∃ h2, h2 = wI h1 q 2 v := ⟨_, rfl⟩
  have t2 : hT h2 q = 14 := by rw [e2, hT_wI]; exact t1
  obtain ⟨h3, e3⟩ : ∃ h3, h3 = wR h2 q 1 (some r) := ⟨_, rfl⟩
  refine ⟨h3, ?_, ⟨by rw [e3, hT_wR]; exact t2, ?_, by rw [e3]; exact hR_wR_eq, ?_⟩, fun c hc => ?_, by rw [e3, e2, e1]; rfl, by rw [e3, e2, e1]; rfl⟩
  · unfold f_X14_init f_X9_init
    rw [Option.bind_some, Option.bind_some, Option.bind_some, f_pR e (by decide), Option.bind_some, ← e1, f_pI t1 (by decide), Option.bind_some, ← e2, f_pR t2 (by decide), Option.bind_some, ← e3]
  · rw [e3, hR_wR_ne (by omega), e2, hR_wI, e1]
    exact hR_wR_eq
  · rw [e3, hI_wR, e2]
    exact hI_wI_eq
  · rw [e3, hC_wR_ne hc, e2, hC_wI_ne hc, e1, hC_wR_ne hc]
/-- further parts behind their signs -/
theorem c_tlS {o : Int} {Tt : Int → Bool} {part : Int → Int → PR Dn} {sub : Option Nat → ax_H → Option ((Nat × ax_H) ⊕ (Option Nat × ax_H))} {B : Option Nat × ax_H → Option ((Option Nat × ax_H) ⊕ ((Nat × ax_H) ⊕ (Option Nat × ax_H)))} (hTt : ∀ c, Tt c = true → 132 ≤ c ∧ c ≤ 200)
    (hs : ∀ (k : Nat) (lv : Int) (g : ax_H), RdC E T N x i p w tg k lv dp pl g → 0 ≤ lv → lv ≤ 50 → RmR E g lv → RsS E T N x i p w tg o dp pl g lv (sub (some i) g) (part k lv))
    (hstop : ∀ (k u : Nat) (lv : Int) (g : ax_H), RdC E T N x i p w tg k lv dp pl g → ¬ Tt (cT T N k) = true → B (some u, g) = some (.inr (.inr (some u, g))))
    (hgo : ∀ (k u : Nat) (lv : Int) (g : ax_H), RdC E T N x i p w tg k lv dp pl g → Tt (cT T N k) = true → B (some u, g) = f_X6_term_32 E sub sub sub (some i) (some u) g) (hpl : 0 ≤ pl) :
    ∀ (n k : Nat) (lv lv0 : Int) (u : Nat) (gA g0 : ax_H) (F : Dn), RdC E T N x i p w tg k lv dp pl gA → RdR i p pl g0 gA → (i < g0.1 ∧ p < g0.1 ∧ w < g0.1 ∧ x + 116 ≤ g0.1) → SumN o (RnF g0.1 gA.1) gA x (lv - lv0).toNat u F → (0 ≤ lv0 ∧ lv0 < lv ∧ lv ≤ 50) → (gA.1 : Int) + 4 ≤ g0.1 + 8 * (lv - lv0) → (gA.2.1 : Int) + 4 ≤ g0.2.1 + 8 * (lv - lv0) → RmR E g0 lv0 → 51 ≤ n + lv → RsS E T N x i p w tg o dp pl g0 lv0 (ax_iter B (some u, gA)) (pTl (cT T N) Tt jS part n k lv F) := by
  intro n
  induction n with
  | zero => intro k lv lv0 u gA g0 F _ _ _ _ hl _ _ _ h; exfalso; omega
  | succ n ih =>
    intro k lv lv0 u gA g0 F G R hb S hl r1 r2 rm h
    unfold pTl
    by_cases c : Tt (cT T N k) = true
    · rw [if_pos c]
      have n4 := G.1.2.2.2.2.2.1
      have sg := sgn n4.2 n4.1 (k := k) rfl (hTt _ c)
      obtain ⟨g1, x1, G1, N1⟩ := c_nxt G
      obtain ⟨F0, y0, -⟩ := id G
      have e1 : f_X6_term_32 E sub sub sub (some i) (some u) gA = (ax_nw E g1 14 0 3).bind fun q6 => ax_tc (fun z8 => some (.inr (.inl z8))) (ax_dp E q6.2 (some i) fun t => if t = 25 ∨ t = 7 then sub (some i) q6.2 else none) fun q7 => (some q6.1).bind fun _ => (f_X14_init E (some q6.1) (some u) (cT T N k - 100) q7.1 q7.2).bind fun h9 => some (.inl ((some q6.1), h9)) := by
        unfold f_X6_term_32
        rw [F0.gX, Option.bind_some, F0.gT, Option.bind_some, F0.gI, Option.bind_some, y0, F0.ld sg.1, Option.bind_some, F0.dsp, x1, Option.bind_some, sg.2]
      unfold RmR at rm
      have q1 := N1.2.1
      have q2 := N1.2.2
      obtain ⟨g2, eg2⟩ : ∃ g2, g2 = nwH g1 14 0 3 := ⟨_, rfl⟩
      have z1 : g2.1 = g1.1 + 1 := by rw [eg2]; rfl
      have z2 : g2.2.1 = g1.2.1 + 3 := by rw [eg2]; rfl
      have zc : ∀ c, c ≠ g1.1 → g2.2.2 c = g1.2.2 c := fun c hc => by rw [eg2]; exact hC_nw_ne hc
      have G2 : RdC E T N x i p w tg (k + 1) lv dp pl g2 := RdG.oth G1 (by omega) (fun c hc => zc c (by have := G1.1.2.1; omega))
      have R1 : RdR i p pl g0 g1 := R.trans N1.1 (Int.le_refl _)
      have R2 : RdR i p pl g0 g2 := R1.oth hb.2.1 (by omega) (by omega) (fun c hc => zc c (by have := R1.1; omega))
      have bs := hs (k + 1) lv g2 G2 (by omega) (by omega) (by unfold RmR; omega)
      rw [show ((k + 1 : Nat) : Int) = (k : Int) + 1 by omega] at bs
      have st := (hgo k u lv gA G c).trans e1
      rw [f_nw (by omega) (by omega), Option.bind_some, ← eg2] at st
      dsimp only at st
      rw [G2.1.dsp] at st
      cases hP : part ((k : Int) + 1) lv with
      | inl t =>
        rw [hP] at bs
        obtain ⟨r, b1, b2⟩ := bs
        rw [b1, tc_l] at st
        exact ⟨r, it_done st, b2.of R2 (Int.le_refl _) (by omega) (by omega)⟩
      | inr v =>
        obtain ⟨j, lv', G'⟩ := v
        rw [hP] at bs
        obtain ⟨u2, g3, b1, b2, b3, b4, b5, b6, b7, b8⟩ := bs
        rw [b1, tc_r, Option.bind_some] at st
        dsimp only at st
        have t3 : hT g3 g1.1 = 14 := by
          have e := b5.2.2.1 g1.1 (by omega) (by have := G1.1.2.1; omega) (by have := G1.1.2.1; omega)
          rw [(ceq e).1, eg2]
          exact hT_nw_eq
        obtain ⟨g4, i1, ⟨i2', i3, i4, i5⟩, i6, i7, i8⟩ := c_i14 (E := E) (l := u) (r := u2) (v := cT T N k - 100) t3
        rw [i1, Option.bind_some] at st
        have hR1 := R1.1
        have hb5 := b5.1
        have hRA := R.1
        have G4 : RdC E T N x i p w tg j.toNat lv' dp pl g4 := RdG.oth b4 (by omega) (fun c hc => i6 c (by have := G1.1.2.1; omega))
        have R4 : RdR i p pl g0 g4 := (R2.trans b5 (Int.le_refl _)).oth hb.2.1 (by omega) (by omega) (fun c hc => i6 c (by omega))
        have SL : SumN o (RnF g0.1 g4.1) g4 x (lv - lv0).toNat u F := S.rd (Nat.le_refl _) (by omega) (fun c c1 c2 => by
          rw [i6 c (by omega), b5.2.2.1 c (by omega) (by omega) (by omega), zc c (by omega)]
          exact N1.1.2.2.1 c c2 (by omega) (by omega))
        have SR : SumN o (RnF g0.1 g4.1) g4 x (lv' - lv).toNat u2 G' := b6.rd (by omega) (by omega) (fun c c1 c2 => i6 c (by omega))
        obtain ⟨d, ed⟩ : ∃ d, (lv' - lv0).toNat = d + 1 := ⟨(lv' - lv0).toNat - 1, by omega⟩
        have SJ : SumN o (RnF g0.1 g4.1) g4 x (lv' - lv0).toNat g1.1 (jS (cT T N k) F G') := by
          rw [ed]
          refine ⟨⟨by omega, by omega⟩, Or.inr (Or.inr (Or.inr (Or.inr ⟨i2', by have := hTt _ c; omega, u, u2, F, G', i3, i4, SL.up _ d _ _ (by omega), SR.up _ d _ _ (by omega), ?_⟩)))⟩
          rw [i5]
          rfl
        have z := ih j.toNat lv' lv0 g1.1 g4 g0 (jS (cT T N k) F G') G4 R4 hb SJ (by omega) (by omega) (by omega) rm (by omega)
        rw [Int.toNat_of_nonneg b2] at z
        rw [it_step st]
        exact z
    · rw [if_neg c]
      refine ⟨u, gA, it_done (hstop k u lv gA G c), by omega, by omega, ?_, R, S, r1, r2⟩
      rw [Int.toNat_natCast]
      exact G
end
