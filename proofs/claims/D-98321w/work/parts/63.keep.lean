/-! what leaves the street as it is: only what lies on paper, what is asked of, and new cells change -/
set_option maxRecDepth 100000
def SZ (x a : Nat) : Prop := (x + 15 ≤ a ∧ a < x + 19) ∨ (x + 23 ≤ a ∧ a < x + 29) ∨ (x + 30 ≤ a ∧ a < x + 84)
def Kp (x : Nat) (h h' : ax_H) : Prop := h.1 ≤ h'.1 ∧ h.2.1 ≤ h'.2.1 ∧ (∀ a, a < x → h'.2.2 a = h.2.2 a) ∧ (∀ a, x < a → a < h.1 → ¬ SZ x a → eqT (hC h a) (hC h' a)) ∧ (∀ a, x ≤ a → a < x + 84 → shq h h' a) ∧ (hI h' x 7 = hI h x 7 ∧ hI h' x 8 = hI h x 8 ∧ hI h' x 9 = hI h x 9 ∧ hI h' x 10 = hI h x 10 ∧ hI h' x 12 = hI h x 12) ∧ ∀ a, x + 84 ≤ a → a < x + 116 → h'.2.2 a = h.2.2 a
theorem Kp.refl (x : Nat) (h : ax_H) : Kp x h h := ⟨Nat.le_refl _, Nat.le_refl _, fun _ _ => rfl, fun _ _ _ _ => eqT.refl _, fun _ _ _ => shq.refl _ _, ⟨rfl, rfl, rfl, rfl, rfl⟩, fun _ _ _ => rfl⟩
theorem Kp.trans {x : Nat} {h h1 h2 : ax_H} (p : Kp x h h1) (q : Kp x h1 h2) : Kp x h h2 := by
  obtain ⟨p1, p2, p3, p4, p5, ⟨p6, p7, p8, p9, p10⟩, p11⟩ := p
  obtain ⟨q1, q2, q3, q4, q5, ⟨q6, q7, q8, q9, q10⟩, q11⟩ := q
  exact ⟨by omega, by omega, fun a ha => (q3 a ha).trans (p3 a ha), fun a h1 h2 h3 => (p4 a h1 h2 h3).trans (q4 a h1 (by omega) h3), fun a h1 h2 => (p5 a h1 h2).trans (q5 a h1 h2), ⟨q6.trans p6, q7.trans p7, q8.trans p8, q9.trans p9, q10.trans p10⟩, fun a h1 h2 => (q11 a h1 h2).trans (p11 a h1 h2)⟩
/-- only cells of some kind change, and those keep their shape -/
theorem Kp_of {x : Nat} {h h' : ax_H} (h1 : h'.1 = h.1) (h2 : h'.2.1 = h.2.1) (W : Nat → Prop) (hW : ∀ a, ¬ W a → h'.2.2 a = h.2.2 a) (hS : ∀ a, W a → SZ x a ∧ shq h h' a) : Kp x h h' := by
  have n : ∀ a, ¬ SZ x a → h'.2.2 a = h.2.2 a := fun a ha => hW a (fun w => ha (hS a w).1)
  have nx : hC h' x = hC h x := hC_eq (n x (by unfold SZ; omega))
  refine ⟨by omega, by omega, fun a ha => n a (by unfold SZ; omega), fun a _ _ h3 => eqT.of (n a h3), fun a _ _ => ?_, ?_, fun a h3 h4 => n a (by unfold SZ; omega)⟩
  · by_cases w : W a
    · exact (hS a w).2
    · exact shq.of (hW a w)
  · unfold hI
    rw [nx]
    exact ⟨rfl, rfl, rfl, rfl, rfl⟩
theorem Kp_scr {x : Nat} {h h' : ax_H} (low : ∀ a, a < x → h.2.2 a = none) (no15 : ∀ a, x ≤ a → a < x + 116 → hT h a ≠ 15) (S : Scr (x + 15) h h') : Kp x h h' := by
  obtain ⟨s1, s2, s3, s4, s5, s6, s7⟩ := S
  have n : ∀ a, a < x + 116 → a ≠ x + 15 → h'.2.2 a = h.2.2 a := by
    intro a h1 h2
    refine (s3 a h2).2 ?_
    by_cases h3 : a < x
    · unfold hT hC
      rw [low a h3]
      decide
    · exact no15 a (by omega) h1
  have nx : hC h' x = hC h x := hC_eq (n x (by omega) (by omega))
  refine ⟨by omega, by omega, fun a ha => n a (by omega) (by omega), fun a _ _ h3 => (s3 a (by intro e; exact h3 (Or.inl (by omega)))).1, fun a h1 h2 => ?_, ?_, fun a h3 h4 => n a (by omega) (by omega)⟩
  · by_cases e : a = x + 15
    · subst e
      exact ⟨s4, s5, fun _ => s6⟩
    · exact shq.of (n a (by omega) e)
  · unfold hI
    rw [nx]
    exact ⟨rfl, rfl, rfl, rfl, rfl⟩
/-- a number is written in a cell of those that may change -/
theorem Kp_wI {x a k : Nat} {v : Int} {h : ax_H} (hS : SZ x a) : Kp x h (wI h a k v) := by
  refine Kp_of rfl rfl (fun b => b = a) (fun b hb => hC_wI_ne hb) ?_
  rintro b rfl
  exact ⟨hS, shq.wI _⟩
theorem Kp_cp {x s d sp dp n : Nat} {h : ax_H} (hS : SZ x d) (hr : hT h d = 100) : Kp x h (cpH h s d sp dp n) := by
  refine Kp_of rfl rfl (fun b => b = d) (fun b hb => hC_cp_ne hb) ?_
  rintro b rfl
  exact ⟨hS, hT_cp, hL_cp, fun n => absurd hr n⟩
/-- cells that are new since h0 may be written -/
theorem Kp_wIn {x a k : Nat} {v : Int} {h0 h : ax_H} (p : Kp x h0 h) (hx : x + 116 ≤ h0.1) (ha : h0.1 ≤ a) : Kp x h0 (wI h a k v) := by
  obtain ⟨p1, p2, p3, p4, p5, ⟨p6, p7, p8, p9, p10⟩, p11⟩ := p
  have n : ∀ b, b < h0.1 → (wI h a k v).2.2 b = h.2.2 b := fun b hb => hC_wI_ne (by omega)
  have m : ∀ b, b < h0.1 → hC (wI h a k v) b = hC h b := fun b hb => hC_eq (n b hb)
  refine ⟨p1, p2, fun b hb => (n b (by omega)).trans (p3 b hb), fun b h1 h2 h3 => by rw [m b h2]; exact p4 b h1 h2 h3, fun b h1 h2 => (p5 b h1 h2).trans (shq.wI b), ?_, fun b h1 h2 => (n b (by omega)).trans (p11 b h1 h2)⟩
  rw [hI_wI_ne (by omega), hI_wI_ne (by omega), hI_wI_ne (by omega), hI_wI_ne (by omega), hI_wI_ne (by omega)]
  exact ⟨p6, p7, p8, p9, p10⟩
theorem Kp_ext {x : Nat} {h0 h h' : ax_H} (p : Kp x h0 h) (hx : x + 116 ≤ h0.1) (h1 : h.1 ≤ h'.1) (h2 : h.2.1 ≤ h'.2.1) (he : ∀ b, b < h0.1 → h'.2.2 b = h.2.2 b) : Kp x h0 h' := by
  obtain ⟨p1, p2, p3, p4, p5, ⟨p6, p7, p8, p9, p10⟩, p11⟩ := p
  have m : ∀ b, b < h0.1 → hC h' b = hC h b := fun b hb => hC_eq (he b hb)
  have nx : hC h' x = hC h x := m x (by omega)
  refine ⟨by omega, by omega, fun b hb => (he b (by omega)).trans (p3 b hb), fun b g1 g2 g3 => by rw [m b g2]; exact p4 b g1 g2 g3, fun b g1 g2 => (p5 b g1 g2).trans (shq.of (he b (by omega))), ?_, fun b g1 g2 => (he b (by omega)).trans (p11 b g1 g2)⟩
  unfold hI at *
  rw [nx]
  exact ⟨p6, p7, p8, p9, p10⟩
theorem Kp_wRn {x a k : Nat} {r : Option Nat} {h0 h : ax_H} (p : Kp x h0 h) (hx : x + 116 ≤ h0.1) (ha : h0.1 ≤ a) : Kp x h0 (wR h a k r) := Kp_ext p hx (Nat.le_refl _) (Nat.le_refl _) (fun b hb => hC_wR_ne (by omega))
theorem Kp_cpn {x s d sp dp n : Nat} {h0 h : ax_H} (p : Kp x h0 h) (hx : x + 116 ≤ h0.1) (ha : h0.1 ≤ d) : Kp x h0 (cpH h s d sp dp n) := Kp_ext p hx (Nat.le_refl _) (Nat.le_refl _) (fun b hb => hC_cp_ne (by omega))
theorem Kp_nw {x t n sl : Nat} {h0 h : ax_H} (p : Kp x h0 h) (hx : x + 116 ≤ h0.1) : Kp x h0 (nwH h t n sl) := Kp_ext p hx (Nat.le_succ _) (Nat.le_add_right _ _) (fun b hb => hC_nw_ne (by have := p.1; omega))
theorem Kp_onn {x b n : Nat} {h0 h h' : ax_H} (p : Kp x h0 h) (hx : x + 116 ≤ h0.1) (ha : h0.1 ≤ b) (q : On b n h h') : Kp x h0 h' := Kp_ext p hx (by rw [q.1]; exact Nat.le_refl _) (by rw [q.2.1]; exact Nat.le_refl _) (fun c hc => q.2.2 c (Or.inl (by omega)))
/-- so many cells from b on change, in their shape -/
def OnS (b n : Nat) (h h' : ax_H) : Prop := On b n h h' ∧ ∀ a, shq h h' a
theorem OnS.refl (b n : Nat) (h : ax_H) : OnS b n h h := ⟨On.refl b n h, fun a => shq.refl h a⟩
theorem OnS.trans {b n : Nat} {h h1 h2 : ax_H} (p : OnS b n h h1) (q : OnS b n h1 h2) : OnS b n h h2 := ⟨p.1.trans q.1, fun a => (p.2 a).trans (q.2 a)⟩
theorem OnS_wI {b n a k : Nat} {h h1 : ax_H} {v : Int} (p : OnS b n h h1) (ha : b ≤ a ∧ a < b + n) : OnS b n h (wI h1 a k v) := ⟨p.1.wI ha, fun c => (p.2 c).trans (shq.wI c)⟩
theorem shq_cp {h : ax_H} {s d sp dp n : Nat} (hd : hT h d = 100) (a : Nat) : shq h (cpH h s d sp dp n) a := by
  refine ⟨hT_cp, hL_cp, fun na k => hR_cp_ne ?_⟩
  intro e
  rw [e] at na
  exact na hd
theorem OnS_cp {b n s d sp dp m : Nat} {h h1 : ax_H} (p : OnS b n h h1) (ha : b ≤ d ∧ d < b + n) (hd : hT h1 d = 100) : OnS b n h (cpH h1 s d sp dp m) := ⟨p.1.cp ha, fun c => (p.2 c).trans (shq_cp hd c)⟩
/-- books on paper change -/
theorem Kp_on {x b : Nat} {h h' : ax_H} (hb : (b = x + 23 ∨ ∃ i, i < 9 ∧ b = x + 30 + 6 * i)) (q : OnS b 6 h h') : Kp x h h' := by
  refine Kp_of q.1.1 q.1.2.1 (fun a => b ≤ a ∧ a < b + 6) (fun a ha => q.1.2.2 a (by omega)) ?_
  intro a ha
  refine ⟨?_, q.2 a⟩
  unfold SZ
  rcases hb with hb | ⟨i, hi, hb⟩
  · omega
  · omega
section
variable {E : ax_E} {h h' : ax_H} {x t dl dv ds du : Nat} {s : Sg}
theorem REP.frz (H : REP E h x t dl dv ds du s) (k : Kp x h h') : ∀ a, Frz h x t dl dv ds du a → Frz h' x t dl dv ds du a ∧ eqT (hC h a) (hC h' a) := by
  intro a ha
  refine ⟨ha.up k.1, k.2.2.2.1 a ?_ ha.2.1 ?_⟩
  · have := ha.2.2
    unfold Mut at this
    have := ha.1
    omega
  · have := ha.2.2
    unfold Mut at this
    unfold SZ
    omega
theorem REP.keep (H : REP E h x t dl dv ds du s) (k : Kp x h h') : REP E h' x t dl dv ds du s := by
  have hf := H.frz k
  obtain ⟨pl, rt, ri, ra, st, un, im, dr⟩ := H
  have h0 : ∀ d, hT h d = 104 → d ≠ E.2.2 0 := fun d hd => pl.k0 hd
  have pl0 := pl
  obtain ⟨⟨q1, q2, q3⟩, ⟨b1, b2, b3, b4⟩, -, ⟨low, -⟩, ex⟩ := pl0
  obtain ⟨k1, k2, k3, k4, k5, ⟨k6, k7, k8, k9, k10⟩, k11⟩ := k
  have kT : ∀ a, x ≤ a → a < x + 116 → hT h' a = hT h a := by
    intro a h1 h2
    by_cases h3 : a < x + 84
    · exact (k5 a h1 h3).1
    · unfold hT
      rw [hC_eq (k11 a (by omega) h2)]
  have hst : ∀ a, t ≤ a → a < t + 12 → eqT (hC h a) (hC h' a) := fun a h1 h2 => k4 a (by omega) (by omega) (by unfold SZ; omega)
  have hd : ∀ d, Dok E h x t d → d ≠ E.2.2 0 → eqT (hC h d) (hC h' d) := by
    intro d hd hn
    rcases hd with hd | hd
    · exact absurd hd hn
    · exact k4 d (by omega) (by omega) (by unfold SZ; omega)
  refine ⟨pl.fr k1 k3 kT, rt.sh (fun a ha => k5 a (by omega) (by omega)), ?_, ?_, st.fr hf hst h0 (hd dl b1) (hd dv b2) (hd ds b3), ?_, fun i hi => (im i hi).fr hf ((k5 (x + 13) (by omega) (by omega)).2.2 (by rw [rt.2.2.2.1.1]; decide) i) h0 rfl rfl, dr.fr hf ((k5 x (by omega) (by omega)).2.2 (by rw [rt.1]; decide) 17) rfl rfl rfl rfl⟩
  · obtain ⟨r1, r2, r3, r4, r5⟩ := ri
    exact ⟨k6.trans r1, k7.trans r2, k8.trans r3, k9.trans r4, k10.trans r5⟩
  · have t21 := rt.2.2.2.2.2.2.2.1.1
    have t22 := rt.2.2.2.2.2.2.2.2.1.1
    refine ⟨fun i hi => ?_, fun i hi => ?_⟩
    · exact ((k4 (x + 21) (by omega) (by omega) (by unfold SZ; omega)).2.2.2 i (by intro e9; unfold hT at t21; omega)).trans (ra.1 i hi)
    · exact ((k4 (x + 22) (by omega) (by omega) (by unfold SZ; omega)).2.2.2 i (by intro e9; unfold hT at t22; omega)).trans (ra.2 i hi)
  · refine un.fr (k4 (x + 14) (by omega) (by omega) (by unfold SZ; omega)) (hd du b4) (h0 du) ?_
    intro i u hu
    exact hu.fr0 hf
end
