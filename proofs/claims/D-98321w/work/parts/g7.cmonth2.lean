/-! A month's end: the component -/
set_option maxRecDepth 100000
theorem RtS.sh17 {h h' : ax_H} {x s : Nat} (H : RtS h x s) (e : ∀ a, (x + 13 ≤ a ∧ a < x + 84) → shq h h' a) (t0 : hT h' x = hT h x) (r0 : ∀ k, k ≠ 17 → hR h' x k = hR h x k) : RtS h' x s := by
  obtain ⟨a1, a2, a3, a4, a5, a6, a7, a8, a9, a10, a11, a12⟩ := H
  obtain ⟨t13, l13, -⟩ := e (x + 13) (by omega)
  obtain ⟨t15, -, r15'⟩ := e (x + 15) (by omega)
  have r15 := r15' (by rw [a5.1]; decide)
  obtain ⟨t16, l16, -⟩ := e (x + 16) (by omega)
  obtain ⟨t17, -, r17'⟩ := e (x + 17) (by omega)
  have r17 := r17' (by rw [a6.1]; decide)
  obtain ⟨t18, l18, -⟩ := e (x + 18) (by omega)
  obtain ⟨t19, -, r19'⟩ := e (x + 19) (by omega)
  have r19 := r19' (by rw [a7.1]; decide)
  obtain ⟨t20, l20, -⟩ := e (x + 20) (by omega)
  obtain ⟨t21, l21, -⟩ := e (x + 21) (by omega)
  obtain ⟨t22, l22, -⟩ := e (x + 22) (by omega)
  obtain ⟨t29, l29, r29'⟩ := e (x + 29) (by omega)
  have r29 := r29' (by rw [a11.1]; decide)
  refine ⟨t0.trans a1, (r0 0 (by decide)).trans a2, ?_, ?_, ?_, ?_, ?_, ?_, ?_, a10.sh (fun a h1 h2 => e a (by omega)), ?_, fun i hi => ⟨?_, (a12 i hi).2.sh (fun a h1 h2 => e a (by omega))⟩⟩
  · rw [r0 1 (by decide), r0 2 (by decide), r0 3 (by decide), r0 4 (by decide), r0 5 (by decide), r0 6 (by decide), r0 11 (by decide), r0 13 (by decide), r0 14 (by decide)]; exact a3
  · rw [t13, l13]; exact a4
  · rw [t15, r15, t16, l16]; exact a5
  · rw [t17, r17, t18, l18]; exact a6
  · rw [t19, r19, t20, l20]; exact a7
  · rw [t21, l21]; exact a8
  · rw [t22, l22]; exact a9
  · rw [t29, l29]; exact a11
  · rw [r29]; exact (a12 i hi).1
section
variable {E : ax_E} {h0 h g : ax_H} {x t dl dv ds du : Nat} {s s1 s' : Sg} {L : Int} {K : Rw}
/-- what was drawn is being drawn anew -/
def s59 (s : Sg) : Sg := sw s 0 (u1 (s 0) 59 (-1))
theorem Kp_17 {r : Option Nat} (k : Kp x h0 g) (hx : x + 116 ≤ h0.1) : Kp x (wR h0 x 17 r) (wR g x 17 r) := by
  obtain ⟨p1, p2, p3, p4, p5, ⟨p6, p7, p8, p9, p10⟩, p11⟩ := k
  have n0 : ∀ a, a ≠ x → (wR h0 x 17 r).2.2 a = h0.2.2 a := fun a ha => hC_wR_ne ha
  have n1 : ∀ a, a ≠ x → (wR g x 17 r).2.2 a = g.2.2 a := fun a ha => hC_wR_ne ha
  refine ⟨p1, p2, fun a ha => ?_, fun a a0 a1 a2 => ?_, fun a a0 a1 => ?_, ?_, fun a a0 a1 => ?_⟩
  · rw [n0 a (by omega), n1 a (by omega)]; exact p3 a ha
  · rw [hC_eq (n0 a (by omega)), hC_eq (n1 a (by omega))]; exact p4 a a0 a1 a2
  · obtain ⟨q1, q2, q3⟩ := p5 a a0 a1
    refine ⟨by rw [hT_wR, hT_wR]; exact q1, by rw [hL_wR, hL_wR]; exact q2, fun nt k => ?_⟩
    rw [hT_wR] at nt
    rw [hR_wR, hR_wR, q3 nt k]
  · rw [hI_wR, hI_wR, hI_wR, hI_wR, hI_wR, hI_wR, hI_wR, hI_wR, hI_wR, hI_wR]
    exact ⟨p6, p7, p8, p9, p10⟩
  · rw [n0 a (by omega), n1 a (by omega)]; exact p11 a a0 a1
theorem REP.r17 {r : Option Nat} (H : REP E h x t dl dv ds du s) : REP E (wR h x 17 r) x t dl dv ds du (s59 s) := by
  obtain ⟨pl, rt, ri, ra, st, un, im, dr⟩ := H
  have h0 : ∀ d, hT h d = 104 → d ≠ E.2.2 0 := fun d hd => pl.k0 hd
  obtain ⟨⟨q1, q2, q3⟩, ⟨b1, b2, b3, b4⟩, bb, ⟨low, no⟩, ex⟩ := id pl
  have ne : ∀ a, a ≠ x → (wR h x 17 r).2.2 a = h.2.2 a := fun a ha => hC_wR_ne ha
  have hf : ∀ a, Frz h x t dl dv ds du a → Frz (wR h x 17 r) x t dl dv ds du a ∧ eqT (hC h a) (hC (wR h x 17 r) a) := frz_of (Nat.le_refl _) (fun a ha => ne a (by have h1 := ha.2.2; unfold Mut at h1; omega))
  have hd : ∀ d, Dok E h x t d → d ≠ E.2.2 0 → eqT (hC h d) (hC (wR h x 17 r) d) := by
    intro d hd hn
    rcases hd with hd | hd
    · exact absurd hd hn
    · exact eqT.of (ne d (by omega))
  have so : ∀ o : Nat, o ≠ 0 → s59 s o = s o := fun o o0 => sw_ne _ o0
  have s0 : ∀ k : Int, k ≠ 59 → s59 s 0 k = s 0 k := fun k hk => by unfold s59; rw [sw_eq, u1_ne _ hk]
  refine ⟨pl.fr (Nat.le_refl _) (fun a h1 => ne a (by omega)) (fun a _ _ => hT_wR), rt.sh17 (fun a z => shq.of (ne a (by omega))) hT_wR (fun k hk => hR_wR_ne (Or.inr hk)), ?_, ?_, ?_, ?_, fun i hi => ?_, ?_⟩
  · obtain ⟨r1, r2, r3, r4, r5⟩ := ri
    refine ⟨?_, ?_, ?_, ?_, ?_⟩ <;> rw [hI_wR, s0 _ (by decide)] <;> assumption
  · refine ⟨fun k hk => ?_, fun k hk => ?_⟩
    · rw [hI_wR, so 1 (by decide)]; exact ra.1 k hk
    · rw [hI_wR, so 7 (by decide)]; exact ra.2 k hk
  · rw [so 2 (by decide)]
    exact st.fr hf (fun a h1 h2 => eqT.of (ne a (by omega))) h0 (hd dl b1) (hd dv b2) (hd ds b3)
  · rw [s0 28 (by decide), so 14 (by decide)]
    exact un.fr (eqT.of (ne _ (by omega))) (hd du b4) (h0 du) (fun i u hu => hu.fr0 hf)
  · exact (im i hi).fr hf (hR_wR_ne (by omega)) h0 (so 4 (by decide)) (so 3 (by decide))
  · refine Or.inr (Or.inr ?_)
    unfold s59
    rw [sw_eq, u1_eq]
end
theorem ceq {h g : ax_H} {c : Nat} (e : g.2.2 c = h.2.2 c) : hT g c = hT h c ∧ hL g c = hL h c ∧ (∀ k, hI g c k = hI h c k) ∧ ∀ k, hR g c k = hR h c k := by
  have q := hC_eq e
  unfold hT hL hI hR
  rw [q]
  exact ⟨rfl, rfl, fun _ => rfl, fun _ => rfl⟩
/-- so many rows are drawn -/
def DwI (x : Nat) (h0 : ax_H) (n : Nat) (K : Rw) (k : Nat) (g : ax_H) : Prop := Kp x (wR h0 x 17 (some (h0.1 + 7))) g ∧ BK g (h0.1 + 1) K ∧ (g.1 = h0.1 + 8 + k ∧ g.2.1 = h0.2.1 + 83 + n + 3 * k) ∧ (hT g (h0.1 + 7) = 111 ∧ hL g (h0.1 + 7) = n) ∧ ∀ j, j < k → hR g (h0.1 + 7) j = some (h0.1 + 8 + j) ∧ hT g (h0.1 + 8 + j) = 100 ∧ hL g (h0.1 + 8 + j) = 3 ∧ hI g (h0.1 + 8 + j) 0 = K j ∧ hI g (h0.1 + 8 + j) 1 = balanceS K j ∧ hI g (h0.1 + 8 + j) 2 = ((ones16 (doorsB K j).toNat : Nat) : Int)
section
variable {E : ax_E} {h0 h g : ax_H} {x t dl dv ds du : Nat} {s s1 s' : Sg} {K : Rw}
theorem s59_o (s : Sg) (o : Nat) (h : o ≠ 0) : s59 s o = s o := sw_ne _ h
theorem c_dwStep {n k : Nat} {x5 : Int} (H : REP E h0 x t dl dv ds du s) (hG : G32 s) (hKB : KB (s 2)) (V : MoV (s 2) K) (hn : (n : Int) = s 2 152) (e1 : h0.1 + 20 ≤ E.1.1) (e2 : h0.2.1 + 120 ≤ E.1.2) (D : DwI x h0 n K k g) (hk : k < n) : ∃ g', lb_X0_month_265 E (some x) (some (h0.1 + 1)) x5 (k : Int) g = some (.inl ((k : Int) + 1, g')) ∧ DwI x h0 n K (k + 1) g' := by
  obtain ⟨d1, d2, ⟨d3, d3'⟩, ⟨d4, d5⟩, d6⟩ := D
  have hx := H.1.1.1
  have n7 := hKB.1
  have e152 := V.2.2 152 (by decide)
  have hRV := V.1.1.2.2.2.2
  have h71 := hRV.1
  have kp := hRV.2.2.1 (k : Int) (by omega) (by omega)
  have H17 := H.r17 (r := some (h0.1 + 7))
  have R := H17.keep d1
  have a1 := R.2.1.1
  have s2e : s59 s 2 = s 2 := s59_o s 2 (by decide)
  have i6 : hI g t 6 = s 2 152 := by have := R.2.2.2.2.1.2.1.1; rw [s2e] at this; exact this
  have rx : hR g x 17 = some (h0.1 + 7) := ((d1.2.2.2.2.1 x (by omega) (by omega)).2.2 (by rw [hT_wR, H.2.1.1]; decide) 17).trans hR_wR_eq
  have gs : G32 (s59 s) := G32_sw hG (u1_32 (hG 0) (by decide))
  -- a new row
  obtain ⟨g1, q1⟩ : ∃ g1, g1 = nwH g 100 3 3 := ⟨_, rfl⟩
  have c1 : ∀ c, c ≠ g.1 → g1.2.2 c = g.2.2 c := fun c hc => by rw [q1]; exact hC_nw_ne hc
  have T1 : hT g1 g.1 = 100 := by rw [q1]; exact hT_nw_eq
  have L1 : hL g1 g.1 = 3 := by rw [q1]; exact hL_nw_eq
  have k1 : Kp x (wR h0 x 17 (some (h0.1 + 7))) g1 := by rw [q1]; exact Kp_nw d1 hx
  have B1 : BK g1 (h0.1 + 1) K := d2.fr (fun a z1 z2 => c1 a (by omega))
  have v6 : ax_ld E g1 (some (h0.1 + 1 + 1)) 100 (k : Int) = some (K k) := by
    rw [f_ld B1.1.2.2.1.1 (by decide) (by omega) (by rw [B1.1.2.2.2.1]; omega) (by rw [B1.1.2.2.2.1]; decide), Int.toNat_natCast, B1.2.2.1 k (by omega)]
  obtain ⟨g2, q2⟩ : ∃ g2, g2 = wI g1 g.1 0 (K k) := ⟨_, rfl⟩
  have c2 : ∀ c, c ≠ g.1 → g2.2.2 c = g1.2.2 c := fun c hc => by rw [q2]; exact hC_wI_ne hc
  have k2 : Kp x (wR h0 x 17 (some (h0.1 + 7))) g2 := by rw [q2]; exact Kp_wIn k1 hx (show h0.1 ≤ g.1 by omega)
  have B2 : BK g2 (h0.1 + 1) K := B1.fr (fun a z1 z2 => c2 a (by omega))
  have T2 : hT g2 g.1 = 100 := by rw [q2, hT_wI]; exact T1
  have L2 : hL g2 g.1 = 3 := by rw [q2, hL_wI]; exact L1
  obtain ⟨g3, q3⟩ : ∃ g3, g3 = wI g2 g.1 1 (balanceS K k) := ⟨_, rfl⟩
  have c3 : ∀ c, c ≠ g.1 → g3.2.2 c = g2.2.2 c := fun c hc => by rw [q3]; exact hC_wI_ne hc
  have k3 : Kp x (wR h0 x 17 (some (h0.1 + 7))) g3 := by rw [q3]; exact Kp_wIn k2 hx (show h0.1 ≤ g.1 by omega)
  have B3 : BK g3 (h0.1 + 1) K := B2.fr (fun a z1 z2 => c3 a (by omega))
  have T3 : hT g3 g.1 = 100 := by rw [q3, hT_wI]; exact T2
  have L3 : hL g3 g.1 = 3 := by rw [q3, hL_wI]; exact L2
  have I30 : hI g3 g.1 0 = K k := by rw [q3, hI_wI_ne (Or.inr (by decide)), q2, hI_wI_eq]
  have I31 : hI g3 g.1 1 = balanceS K k := by rw [q3, hI_wI_eq]
  have H3 := H17.keep k3
  obtain ⟨g4, p4, w4⟩ := c_doorsOf (E := E) (v := (k : Int)) H3 gs (by rw [s2e]; exact hKB) V.1.1 V.2.1 (fun i hi => by rw [s2e]; exact V.2.2 i (Or.inr hi)) B3 (Or.inr (by omega)) (by omega)
  have c4 : ∀ c, h0.1 ≤ c → hT g3 c ≠ 15 → g4.2.2 c = g3.2.2 c := fun c hc ht => w4.2.2.2 c (by omega) (by omega) ht
  have k4 := k3.trans w4.1
  have B4 := B3.ev w4 (Or.inr (by omega))
  have C4 := c4 g.1 (by omega) (by rw [T3]; decide)
  have T4 : hT g4 g.1 = 100 := by unfold hT; rw [hC_eq C4]; exact T3
  have L4 : hL g4 g.1 = 3 := by unfold hL; rw [hC_eq C4]; exact L3
  obtain ⟨d, ed, bd⟩ := doorsB_n K (k : Int) (by omega)
  obtain ⟨g5, q5⟩ : ∃ g5, g5 = wI g4 g.1 2 ((ones16 d : Nat) : Int) := ⟨_, rfl⟩
  have c5 : ∀ c, c ≠ g.1 → g5.2.2 c = g4.2.2 c := fun c hc => by rw [q5]; exact hC_wI_ne hc
  have k5 : Kp x (wR h0 x 17 (some (h0.1 + 7))) g5 := by rw [q5]; exact Kp_wIn k4 hx (show h0.1 ≤ g.1 by omega)
  have B5 : BK g5 (h0.1 + 1) K := B4.fr (fun a z1 z2 => c5 a (by omega))
  have T5 : hT g5 g.1 = 100 := by rw [q5, hT_wI]; exact T4
  have L5 : hL g5 g.1 = 3 := by rw [q5, hL_wI]; exact L4
  have I50 : hI g5 g.1 0 = K k := by
    rw [q5, hI_wI_ne (Or.inr (by decide))]; unfold hI at I30 ⊢; rw [hC_eq C4]; exact I30
  have I51 : hI g5 g.1 1 = balanceS K k := by
    rw [q5, hI_wI_ne (Or.inr (by decide))]; unfold hI at I31 ⊢; rw [hC_eq C4]; exact I31
  have I52 : hI g5 g.1 2 = ((ones16 d : Nat) : Int) := by rw [q5, hI_wI_eq]
  -- what was there
  have old : ∀ c, h0.1 ≤ c → c ≠ g.1 → hT g c ≠ 15 → g5.2.2 c = g.2.2 c := by
    intro c z1 z2 z3
    have w : g3.2.2 c = g.2.2 c := by rw [c3 c z2, c2 c z2, c1 c z2]
    rw [c5 c z2, c4 c z1 (by unfold hT; rw [hC_eq w]; exact z3), w]
  have oA := old (h0.1 + 7) (by omega) (by omega) (by rw [d4]; decide)
  have TA : hT g5 (h0.1 + 7) = 111 := by unfold hT; rw [hC_eq oA]; exact d4
  have LA : hL g5 (h0.1 + 7) = n := by unfold hL; rw [hC_eq oA]; exact d5
  have sz : g5.1 = g.1 + 1 ∧ g5.2.1 = g.2.1 + 3 := by
    have z1 : g5.1 = g4.1 := by rw [q5]; rfl
    have z2 : g3.1 = g.1 + 1 := by rw [q3, q2, q1]; rfl
    have z3 : g5.2.1 = g4.2.1 := by rw [q5]; rfl
    have z4 : g3.2.1 = g.2.1 + 3 := by rw [q3, q2, q1]; rfl
    rw [z1, z3, w4.2.1, w4.2.2.1, z2, z4]
    exact ⟨rfl, rfl⟩
  refine ⟨wR g5 (h0.1 + 7) k (some g.1), ?_, Kp_wRn k5 hx (show h0.1 ≤ h0.1 + 7 by omega), B5.fr (fun a z1 z2 => hC_wR_ne (by omega)), ⟨by show g5.1 = _; omega, by show g5.2.1 = _; omega⟩, ⟨by rw [hT_wR]; exact TA, by rw [hL_wR]; exact LA⟩, fun j hj => ?_⟩
  · unfold lb_X0_month_265
    rw [f_gR a1 (by decide), R.2.1.2.1, Option.bind_some, f_gI R.2.2.2.2.1.1.1 (by decide), i6, Option.bind_some, ← hn, i2_of (a := (k : Int)) (by omega) (by omega), i2_of (a := (n : Int)) (by omega) (by omega), if_pos (by omega), f_gR a1 (by decide), rx, Option.bind_some, f_na (by decide) (by decide) (by omega) (by show g.2.1 + 3 ≤ _; omega), Option.bind_some, show (3 : Int).toNat = 3 by rfl]
    dsimp only
    rw [← q1, f_gR B1.1.1 (by decide), B1.1.2.1.1, Option.bind_some, v6, Option.bind_some, f_sto T1 (by decide) (by decide) (by rw [L1]; decide) (by rw [L1]; decide), Option.bind_some, show (0 : Int).toNat = 0 by rfl, ← q2, f_ce B2.1.1 (by decide), Option.bind_some, c_balance B2 V.2.1 h71.1 h71.2 (i2_of (by omega) (by omega)), Option.bind_some]
    dsimp only
    rw [f_sto T2 (by decide) (by decide) (by rw [L2]; decide) (by rw [L2]; decide), Option.bind_some, show (1 : Int).toNat = 1 by rfl, ← q3, f_ce H3.2.1.1 (by decide), Option.bind_some, p4, Option.bind_some]
    dsimp only
    rw [ed, c_bitCount (by omega), Option.bind_some]
    dsimp only
    rw [f_sto T4 (by decide) (by decide) (by rw [L4]; decide) (by rw [L4]; decide), Option.bind_some, show (2 : Int).toNat = 2 by rfl, ← q5, f_stR TA (by decide) (by omega) (by omega) (by rw [LA]; omega) (by rw [T5]; decide) (by rw [T5]; decide), Option.bind_some, Int.toNat_natCast]
  · by_cases cj : j = k
    · subst cj
      have er : h0.1 + 8 + j = g.1 := by omega
      rw [er, ed, Int.toNat_natCast, hT_wR, hL_wR, hI_wR, hI_wR, hI_wR]
      exact ⟨hR_wR_eq, T5, L5, I50, I51, I52⟩
    · obtain ⟨y1, y2, y3, y4, y5, y6⟩ := d6 j (by omega)
      have oj := old (h0.1 + 8 + j) (by omega) (by omega) (by rw [y2]; decide)
      rw [hT_wR, hL_wR, hI_wR, hI_wR, hI_wR, hR_wR_ne (Or.inr cj)]
      obtain ⟨-, -, -, rA⟩ := ceq oA
      obtain ⟨tj, lj, ij, -⟩ := ceq oj
      rw [tj, lj, ij, ij, ij, rA]
      exact ⟨y1, y2, y3, y4, y5, y6⟩
/-- what was drawn stands; all else is the same -/
theorem REP.dr (H : REP E h x t dl dv ds du s1) (e : ∀ o : Nat, (o = 1 ∨ o = 2 ∨ o = 3 ∨ o = 4 ∨ o = 7 ∨ o = 14) → s' o = s1 o) (e0 : ∀ k : Int, (k = 0 ∨ k = 6 ∨ k = 11 ∨ k = 12 ∨ k = 28 ∨ k = 47) → s' 0 k = s1 0 k) (hd : DrN (Frz h x t dl dv ds du) h x s') : REP E h x t dl dv ds du s' := by
  obtain ⟨pl, rt, ri, ra, st, un, im, dr⟩ := H
  refine ⟨pl, rt, ?_, ?_, ?_, ?_, fun i hi => ?_, hd⟩
  · unfold RiN at *
    rw [e0 0 (by decide), e0 12 (by decide), e0 6 (by decide), e0 47 (by decide), e0 11 (by decide)]
    exact ri
  · unfold RaN at *
    rw [e 1 (by decide), e 7 (by decide)]
    exact ra
  · rw [e 2 (by decide)]; exact st
  · rw [e0 28 (by decide), e 14 (by decide)]; exact un
  · have := im i hi
    unfold ImN at *
    rw [e 4 (by decide), e 3 (by decide)]
    exact this
end
