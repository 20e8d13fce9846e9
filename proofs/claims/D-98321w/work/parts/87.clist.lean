/-! THE COMPONENT: lists cleared; what can be undone -/
set_option maxRecDepth 100000
theorem RtS.sh2 {h h' : ax_H} {x s : Nat} (H : RtS h x s) (e : ∀ a, (a = x ∨ (x + 13 ≤ a ∧ a < x + 84)) → a ≠ x + 14 → shq h h' a) : RtS h' x s := by
  obtain ⟨a1, a2, a3, a4, a5, a6, a7, a8, a9, a10, a11, a12⟩ := H
  obtain ⟨t0, -, r0'⟩ := e x (by omega) (by omega)
  have r0 := r0' (by rw [a1]; decide)
  obtain ⟨t13, l13, -⟩ := e (x + 13) (by omega) (by omega)
  obtain ⟨t15, -, r15'⟩ := e (x + 15) (by omega) (by omega)
  have r15 := r15' (by rw [a5.1]; decide)
  obtain ⟨t16, l16, -⟩ := e (x + 16) (by omega) (by omega)
  obtain ⟨t17, -, r17'⟩ := e (x + 17) (by omega) (by omega)
  have r17 := r17' (by rw [a6.1]; decide)
  obtain ⟨t18, l18, -⟩ := e (x + 18) (by omega) (by omega)
  obtain ⟨t19, -, r19'⟩ := e (x + 19) (by omega) (by omega)
  have r19 := r19' (by rw [a7.1]; decide)
  obtain ⟨t20, l20, -⟩ := e (x + 20) (by omega) (by omega)
  obtain ⟨t21, l21, -⟩ := e (x + 21) (by omega) (by omega)
  obtain ⟨t22, l22, -⟩ := e (x + 22) (by omega) (by omega)
  obtain ⟨t29, l29, r29'⟩ := e (x + 29) (by omega) (by omega)
  have r29 := r29' (by rw [a11.1]; decide)
  refine ⟨t0.trans a1, (r0 0).trans a2, ?_, ?_, ?_, ?_, ?_, ?_, ?_, a10.sh (fun a h1 h2 => e a (by omega) (by omega)), ?_, fun i hi => ⟨?_, (a12 i hi).2.sh (fun a h1 h2 => e a (by omega) (by omega))⟩⟩
  · rw [r0, r0, r0, r0, r0, r0, r0, r0, r0]; exact a3
  · rw [t13, l13]; exact a4
  · rw [t15, r15, t16, l16]; exact a5
  · rw [t17, r17, t18, l18]; exact a6
  · rw [t19, r19, t20, l20]; exact a7
  · rw [t21, l21]; exact a8
  · rw [t22, l22]; exact a9
  · rw [t29, l29]; exact a11
  · rw [r29]; exact (a12 i hi).1
section
variable {E : ax_E} {h h' : ax_H} {x t dl dv ds du du' a d : Nat} {s s' : Sg} {n : Int} {cap : Nat} {P P' : Nat → Nat → Prop}
/-- so many references taken away -/
def clr (h : ax_H) (d : Nat) : Nat → ax_H
  | 0 => h
  | k + 1 => wR (clr h d k) d k none
theorem clr_T (k b : Nat) : hT (clr h d k) b = hT h b := by
  induction k with
  | zero => rfl
  | succ k ih => rw [clr, hT_wR, ih]
theorem clr_L (k b : Nat) : hL (clr h d k) b = hL h b := by
  induction k with
  | zero => rfl
  | succ k ih => rw [clr, hL_wR, ih]
theorem clr_I (k b j : Nat) : hI (clr h d k) b j = hI h b j := by
  induction k with
  | zero => rfl
  | succ k ih => rw [clr, hI_wR, ih]
theorem clr_1 (k : Nat) : (clr h d k).1 = h.1 := by
  induction k with
  | zero => rfl
  | succ k ih => rw [clr, wR_1, ih]
theorem clr_2 (k : Nat) : (clr h d k).2.1 = h.2.1 := by
  induction k with
  | zero => rfl
  | succ k ih => rw [clr, wR_2, ih]
theorem clr_ne (k b : Nat) (hb : b ≠ d ∨ k = 0) : (clr h d k).2.2 b = h.2.2 b := by
  induction k with
  | zero => rfl
  | succ k ih => rw [clr, hC_wR_ne (by omega), ih (by omega)]
theorem c_clear (H : LsN E h a d n cap P) (hc : cap ≤ 1000) (had : a ≠ d) : ∃ h', f_J2_clear E (some a) h = some h' ∧ LsN E h' a d 0 cap P' ∧ h'.1 = h.1 ∧ h'.2.1 = h.2.1 ∧ (∀ b, b ≠ a → (b ≠ d ∨ n = 0) → h'.2.2 b = h.2.2 b) ∧ (∀ b, hT h' b = hT h b) ∧ ∀ k, hR h' a k = hR h a k := by
  obtain ⟨ta, ra, ia, n0, c, e⟩ := H
  let g1 := wI (wI h a 0 (hI h a 0 + 1)) a 2 0
  have main := it_traj (body := fun y : Int × ax_H => lb_J2_clear_27 E (some d) n y.1 y.2) (fun k => ((k : Int), clr g1 d k)) n.toNat (r := clr g1 d n.toNat) ?_ ?_
  · refine ⟨clr g1 d n.toNat, ?_, ?_, ?_, ?_, ?_, ?_, ?_⟩
    · unfold f_J2_clear f_J2_clear_27
      rw [f_gI ta (by decide), Option.bind_some, f_pI ta (by decide), Option.bind_some, f_gR (by rw [hT_wI]; exact ta) (by decide), hR_wI, ra, Option.bind_some, f_gI (by rw [hT_wI]; exact ta) (by decide), hI_wI_ne (by omega), ia, Option.bind_some, f_pI (by rw [hT_wI]; exact ta) (by decide), Option.bind_some]
      exact main
    · refine ⟨by rw [clr_T, hT_wI, hT_wI]; exact ta, ?_, by rw [clr_I, hI_wI_eq], Int.le_refl _, ?_, fun k hk => by omega⟩
      · have : hR (clr g1 d n.toNat) a 1 = hR g1 a 1 := by
          have := hC_eq (clr_ne (h := g1) (d := d) n.toNat a (Or.inl had))
          unfold hR
          rw [this]
        rw [this, hR_wI, hR_wI]
        exact ra
      · rcases c with c | ⟨c1, c2, c3⟩
        · exact Or.inl ⟨rfl, c.2⟩
        · exact Or.inr ⟨by rw [clr_T, hT_wI, hT_wI]; exact c1, by omega, by rw [clr_L, hL_wI, hL_wI]; exact c3⟩
    · rw [clr_1]; rfl
    · rw [clr_2]; rfl
    · intro b h1 h2
      rw [clr_ne _ _ (by omega), hC_wI_ne h1, hC_wI_ne h1]
    · intro b
      rw [clr_T, hT_wI, hT_wI]
    · intro k
      have := hC_eq (clr_ne (h := g1) (d := d) n.toNat a (Or.inl had))
      have e2 : hR (clr g1 d n.toNat) a k = hR g1 a k := by
        unfold hR
        rw [this]
      rw [e2, hR_wI, hR_wI]
  · intro k hk
    rcases c with c | ⟨c1, c2, c3⟩
    · omega
    · simp only [lb_J2_clear_27]
      rw [i2_of (by omega) (by omega), i2_of (by omega) (by omega), if_pos (by omega), f_stR0 (by rw [clr_T, hT_wI, hT_wI]; exact c1) (by decide) (by omega) (by rw [clr_L, hL_wI, hL_wI]; omega) (by rw [clr_L, hL_wI, hL_wI]; omega), Option.bind_some, Int.toNat_natCast]
      rfl
  · have hb : n ≤ 1000 := by
      rcases c with c | ⟨c1, c2, c3⟩ <;> omega
    simp only [lb_J2_clear_27]
    rw [i2_of (by omega) (by omega), i2_of (by omega) (by omega), if_neg (by omega)]
    rfl
/-- the rows that the root and the street stand for are the same -/
def Sau (s s' : Sg) : Prop := s' 2 = s 2 ∧ s' 3 = s 3 ∧ s' 4 = s 4 ∧ s' 29 = s 29 ∧ s' 30 = s 30 ∧ s' 31 = s 31 ∧ s' 1 = s 1 ∧ s' 7 = s 7 ∧ s' 0 59 = s 0 59 ∧ s' 0 0 = s 0 0 ∧ s' 0 12 = s 0 12 ∧ s' 0 6 = s 0 6 ∧ s' 0 47 = s 0 47 ∧ s' 0 11 = s 0 11
/-- what can be undone changes -/
theorem REP.und (H : REP E h x t dl dv ds du s) (h1 : h.1 ≤ h'.1) (hlow : ∀ a, a < x → h'.2.2 a = h.2.2 a) (hne : ∀ a, x ≤ a → a < h.1 → a ≠ x + 14 → a ≠ du → h'.2.2 a = h.2.2 a) (ht : hT h' (x + 14) ≠ 15) (hdu : du' = du ∨ (h.1 ≤ du' ∧ du' < h'.1)) (hL : LsN E h' (x + 14) du' (s' 0 28) 24 (DnN (Frz h' x t dl dv ds du') h' (s' 14))) (hs : Sau s s') : REP E h' x t dl dv ds du' s' := by
  obtain ⟨pl, rt, ri, ra, st, un, im, dr⟩ := H
  obtain ⟨e2, e3, e4, e29, e30, e31, e1, e7, e59, y0, y12, y6, y47, y11⟩ := hs
  have h0 : ∀ d, hT h d = 104 → d ≠ E.2.2 0 := fun d hd => pl.k0 hd
  obtain ⟨⟨q1, q2, q3⟩, ⟨b1, b2, b3, b4⟩, ⟨u1, u2, u3, u4, u5, u6⟩, ⟨low, no15⟩, ex⟩ := id pl
  have hdu0 : du = E.2.2 0 ∨ x + 116 ≤ du := by
    rcases b4 with z | z
    · exact Or.inl z
    · exact Or.inr z.1
  have ne : ∀ a, x ≤ a → a < x + 116 → a ≠ x + 14 → h'.2.2 a = h.2.2 a := fun a z1 z2 z3 => hne a z1 (by omega) z3 (by omega)
  have hf : ∀ a, Frz h x t dl dv ds du a → Frz h' x t dl dv ds du' a ∧ eqT (hC h a) (hC h' a) := by
    intro a ha
    obtain ⟨z1, z2, z3⟩ := ha
    unfold Mut at z3
    refine ⟨⟨z1, by omega, ?_⟩, eqT.of (hne a z1 z2 (by omega) (by omega))⟩
    unfold Mut
    omega
  have hst : ∀ a, t ≤ a → a < t + 12 → eqT (hC h a) (hC h' a) := by
    intro a z1 z2
    refine eqT.of (hne a (by omega) (by omega) (by omega) ?_)
    rcases b4 with z | z
    · omega
    · omega
  have hd : ∀ d, Dok E h x t d → (d ≠ du ∨ d = E.2.2 0) → d ≠ E.2.2 0 → eqT (hC h d) (hC h' d) := by
    intro d hd hn2 hn
    rcases hd with hd | hd
    · exact absurd hd hn
    · exact eqT.of (hne d (by omega) (by omega) (by omega) (by omega))
  have hk : ∀ d, Dok E h x t d → Dok E h' x t d := by
    intro q hq
    rcases hq with hq | hq
    · exact Or.inl hq
    · exact Or.inr (by omega)
  have sI : ∀ a k, x ≤ a → a < x + 116 → a ≠ x + 14 → hI h' a k = hI h a k := by
    intro a k z1 z2 z3
    unfold hI
    rw [hC_eq (ne a z1 z2 z3)]
  refine ⟨⟨by omega, ⟨hk _ b1, hk _ b2, hk _ b3, ?_⟩, ⟨u1, u2, ?_, u4, ?_, ?_⟩, ⟨fun a z => (hlow a z).trans (low a z), fun a z1 z2 => ?_⟩, ex⟩, rt.sh2 (fun a ha hn => ?_), ?_, ?_, ?_, hL, fun i hi => ?_, ?_⟩
  · rcases hdu with z | z
    · rw [z]; exact hk _ b4
    · exact Or.inr (by omega)
  · rcases hdu with z | z
    · rw [z]; exact u3
    · rcases b1 with y | y
      · exact Or.inr y
      · exact Or.inl (by omega)
  · rcases hdu with z | z
    · rw [z]; exact u5
    · rcases b2 with y | y
      · exact Or.inr y
      · exact Or.inl (by omega)
  · rcases hdu with z | z
    · rw [z]; exact u6
    · rcases b3 with y | y
      · exact Or.inr y
      · exact Or.inl (by omega)
  · by_cases z : a = x + 14
    · rw [z]; exact ht
    · unfold hT
      rw [hC_eq (ne a z1 z2 z)]
      exact no15 a z1 z2
  · exact shq.of (ne a (by omega) (by omega) hn)
  · obtain ⟨r1, r2, r3, r4, r5⟩ := ri
    refine ⟨?_, ?_, ?_, ?_, ?_⟩
    · rw [sI x _ (by omega) (by omega) (by omega), y0]; exact r1
    · rw [sI x _ (by omega) (by omega) (by omega), y12]; exact r2
    · rw [sI x _ (by omega) (by omega) (by omega), y6]; exact r3
    · rw [sI x _ (by omega) (by omega) (by omega), y47]; exact r4
    · rw [sI x _ (by omega) (by omega) (by omega), y11]; exact r5
  · refine ⟨fun k hk => ?_, fun k hk => ?_⟩
    · rw [sI _ _ (by omega) (by omega) (by omega), e1]; exact ra.1 k hk
    · rw [sI _ _ (by omega) (by omega) (by omega), e7]; exact ra.2 k hk
  · rw [e2]
    exact st.fr hf hst h0 (hd dl b1 u3) (hd dv b2 u5) (hd ds b3 u6)
  · refine (im i hi).fr hf ?_ h0 e4 e3
    unfold hR
    rw [hC_eq (ne (x + 13) (by omega) (by omega) (by omega))]
  · refine dr.fr hf ?_ e59 e29 e30 e31
    unfold hR
    rw [hC_eq (ne x (by omega) (by omega) (by omega))]
end
