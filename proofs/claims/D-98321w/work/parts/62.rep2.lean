/-! THE COMPONENT stands for the model's rows: all of it, and what keeps it so -/
set_option maxRecDepth 100000
theorem eqT.hT {h h' : ax_H} {a : Nat} (e : eqT (hC h a) (hC h' a)) : hT h' a = hT h a := e.1
theorem eqT.hL {h h' : ax_H} {a : Nat} (e : eqT (hC h a) (hC h' a)) : hL h' a = hL h a := e.2.1
theorem eqT.hR {h h' : ax_H} {a : Nat} (e : eqT (hC h a) (hC h' a)) (k : Nat) : hR h' a k = hR h a k := congrFun e.2.2.1 k
theorem eqT.of {h h' : ax_H} {a : Nat} (e : h'.2.2 a = h.2.2 a) : eqT (hC h a) (hC h' a) := by
  rw [hC_eq e]
  exact eqT.refl _
theorem BK.frT {h h' : ax_H} {b : Nat} {K : Rw} (H : BK h b K) (e : ∀ a, b ≤ a → a < b + 6 → eqT (hC h a) (hC h' a)) : BK h' b K := by
  have s := H.1
  obtain ⟨t0, -, ⟨t1, t2, t3, t4, t5⟩, -⟩ := H.1
  have i0 : ∀ k, hI h' b k = hI h b k := fun k => (e b (by omega) (by omega)).2.2.2 k (by intro e9; unfold hT at t0; omega)
  have i1 : ∀ k, hI h' (b + 1) k = hI h (b + 1) k := fun k => (e (b + 1) (by omega) (by omega)).2.2.2 k (by intro e9; unfold hT at t1; omega)
  have i2 : ∀ k, hI h' (b + 2) k = hI h (b + 2) k := fun k => (e (b + 2) (by omega) (by omega)).2.2.2 k (by intro e9; unfold hT at t2; omega)
  have i3 : ∀ k, hI h' (b + 3) k = hI h (b + 3) k := fun k => (e (b + 3) (by omega) (by omega)).2.2.2 k (by intro e9; unfold hT at t3; omega)
  have i4 : ∀ k, hI h' (b + 4) k = hI h (b + 4) k := fun k => (e (b + 4) (by omega) (by omega)).2.2.2 k (by intro e9; unfold hT at t4; omega)
  have i5 : ∀ k, hI h' (b + 5) k = hI h (b + 5) k := fun k => (e (b + 5) (by omega) (by omega)).2.2.2 k (by intro e9; unfold hT at t5; omega)
  refine ⟨s.sh (fun a h1 h2 => shq.eqT (e a h1 h2)), ?_, ?_, ?_⟩
  · rw [i0, i0]; exact H.2.1
  · intro p hp; rw [i1]; exact H.2.2.1 p hp
  · intro k hk; rw [i2, i3, i4, i5]; exact H.2.2.2 k hk
/-- what may be written: the fixed block, the street's, the arrays of the lists -/
def Mut (x s dl dv ds du a : Nat) : Prop := (x ≤ a ∧ a < x + 116) ∨ (s ≤ a ∧ a < s + 12) ∨ a = dl ∨ a = dv ∨ a = ds ∨ a = du
def Frz (h : ax_H) (x s dl dv ds du a : Nat) : Prop := x ≤ a ∧ a < h.1 ∧ ¬ Mut x s dl dv ds du a
/-- where an array of a list may lie -/
def Dok (E : ax_E) (h : ax_H) (x s d : Nat) : Prop := d = E.2.2 0 ∨ (x + 116 ≤ d ∧ d < h.1 ∧ (d < s ∨ s + 12 ≤ d))
/-- where all lies -/
def PlN (E : ax_E) (h : ax_H) (x s dl dv ds du : Nat) : Prop := (x + 116 ≤ h.1 ∧ (s = x + 1 ∨ x + 116 ≤ s) ∧ s + 12 ≤ h.1) ∧ (Dok E h x s dl ∧ Dok E h x s dv ∧ Dok E h x s ds ∧ Dok E h x s du) ∧ ((dl ≠ dv ∨ dl = E.2.2 0) ∧ (dl ≠ ds ∨ dl = E.2.2 0) ∧ (dl ≠ du ∨ dl = E.2.2 0) ∧ (dv ≠ ds ∨ dv = E.2.2 0) ∧ (dv ≠ du ∨ dv = E.2.2 0) ∧ (ds ≠ du ∨ ds = E.2.2 0)) ∧ ((∀ a, a < x → h.2.2 a = none) ∧ ∀ a, x ≤ a → a < x + 116 → hT h a ≠ 15) ∧ E.2.2 0 < x
theorem PlN.fr {E : ax_E} {h h' : ax_H} {x s dl dv ds du : Nat} (H : PlN E h x s dl dv ds du) (h1 : h.1 ≤ h'.1) (h2 : ∀ a, a < x → h'.2.2 a = h.2.2 a) (h3 : ∀ a, x ≤ a → a < x + 116 → hT h' a = hT h a) : PlN E h' x s dl dv ds du := by
  obtain ⟨a, ⟨b1, b2, b3, b4⟩, c, d, e⟩ := H
  have f : ∀ q, Dok E h x s q → Dok E h' x s q := by
    intro q hq
    rcases hq with hq | hq
    · exact Or.inl hq
    · exact Or.inr (by omega)
  exact ⟨by omega, ⟨f _ b1, f _ b2, f _ b3, f _ b4⟩, c, ⟨fun q hq => (h2 q hq).trans (d.1 q hq), fun q hq1 hq2 => by rw [h3 q hq1 hq2]; exact d.2 q hq1 hq2⟩, e⟩
theorem PlN.k0 {E : ax_E} {h : ax_H} {x s dl dv ds du d : Nat} (H : PlN E h x s dl dv ds du) (hd : hT h d = 104) : d ≠ E.2.2 0 := by
  obtain ⟨-, -, -, ⟨l, -⟩, e⟩ := H
  intro q
  have := l d (by omega)
  unfold hT hC at hd
  rw [this] at hd
  cases hd
theorem Frz.up {h h' : ax_H} {x s dl dv ds du a : Nat} (H : Frz h x s dl dv ds du a) (h1 : h.1 ≤ h'.1) : Frz h' x s dl dv ds du a := ⟨H.1, by have := H.2.1; omega, H.2.2⟩
/-- the root's numbers -/
def RiN (h : ax_H) (x : Nat) (s : Sg) : Prop := hI h x 7 = s 0 0 ∧ hI h x 8 = s 0 12 ∧ hI h x 9 = s 0 6 ∧ hI h x 10 = s 0 47 ∧ hI h x 12 = s 0 11
/-- refusals, the tape -/
def RaN (h : ax_H) (x : Nat) (s : Sg) : Prop := (∀ k : Nat, k < 7 → hI h (x + 21) k = s 1 k) ∧ ∀ k : Nat, k < 400 → hI h (x + 22) k = s 7 k
/-- one act that can be undone -/
def DnN (Fz : Nat → Prop) (h : ax_H) (R : Rw) (k t : Nat) : Prop := Fz t ∧ hT h t = 26 ∧ hI h t 0 = R (74 * k + 73) ∧ ∃ b, hR h t 1 = some b ∧ (∀ a, b ≤ a → a < b + 6 → Fz a) ∧ BK h b (fun i => R (74 * k + i))
theorem DnN.fr {Fz Fz' : Nat → Prop} {h h' : ax_H} {R R' : Rw} {k t : Nat} (H : DnN Fz h R k t) (hf : ∀ a, Fz a → Fz' a ∧ eqT (hC h a) (hC h' a)) (hR : ∀ i, 0 ≤ i → i < 74 → R' (74 * k + i) = R (74 * k + i)) (hR16 : R (74 * k + 71) ≤ 16) : DnN Fz' h' R' k t := by
  obtain ⟨z, t1, i0, b, r, zb, B⟩ := H
  obtain ⟨z', e1, e2, e3, e4⟩ := hf t z
  have g : ∀ j, hI h' t j = hI h t j := fun j => e4 j (by intro e9; unfold hT at t1; omega)
  refine ⟨z', Eq.trans e1 t1, ?_, b, (congrFun e3 1).trans r, fun a h1 h2 => (hf a (zb a h1 h2)).1, ?_⟩
  · rw [g, i0, hR 73 (by omega) (by omega)]
  · refine (B.frT (fun a h1 h2 => (hf a (zb a h1 h2)).2)).congr ?_ ?_ ?_ ?_
    · exact hR 71 (by omega) (by omega)
    · exact hR 72 (by omega) (by omega)
    · intro p h1 h2; exact hR p (by omega) (by omega)
    · intro i h1 h2; exact hR i (by omega) (by omega)
theorem DnN.fr0 {Fz Fz' : Nat → Prop} {h h' : ax_H} {R : Rw} {k t : Nat} (H : DnN Fz h R k t) (hf : ∀ a, Fz a → Fz' a ∧ eqT (hC h a) (hC h' a)) : DnN Fz' h' R k t := by
  obtain ⟨z, t1, i0, b, r, zb, B⟩ := H
  obtain ⟨z', e1, e2, e3, e4⟩ := hf t z
  have g : ∀ j, hI h' t j = hI h t j := fun j => e4 j (by intro e9; unfold hT at t1; omega)
  exact ⟨z', Eq.trans e1 t1, (g 0).trans i0, b, (congrFun e3 1).trans r, fun a h1 h2 => (hf a (zb a h1 h2)).1, B.frT (fun a h1 h2 => (hf a (zb a h1 h2)).2)⟩
/-- an image -/
def ImN (E : ax_E) (Fz : Nat → Prop) (h : ax_H) (x : Nat) (s : Sg) (k : Nat) : Prop := (s 4 k = 0 ∧ hR h (x + 13) k = none) ∨ (s 4 k = 1 ∧ ∃ t dl dv ds, hR h (x + 13) k = some t ∧ (∀ a, t ≤ a → a < t + 12 → Fz a) ∧ (dl = E.2.2 0 ∨ Fz dl) ∧ (dv = E.2.2 0 ∨ Fz dv) ∧ (ds = E.2.2 0 ∨ Fz ds) ∧ StN E Fz h x t dl dv ds (fun i => s 3 (5764 * k + i)))
/-- what was drawn (-1: just being drawn) -/
def DrN (Fz : Nat → Prop) (h : ax_H) (x : Nat) (s : Sg) : Prop := (hR h x 17 = none ∧ s 0 59 = 0) ∨ (∃ a, hR h x 17 = some a ∧ Fz a ∧ hT h a = 111 ∧ (hL h a : Int) = s 0 59 ∧ s 0 59 ≤ 7 ∧ ∀ p : Nat, (p : Int) < s 0 59 → ∃ r, hR h a p = some r ∧ Fz r ∧ hT h r = 100 ∧ hL h r = 3 ∧ hI h r 0 = s 29 p ∧ hI h r 1 = s 30 p ∧ hI h r 2 = s 31 p) ∨ s 0 59 = -1
def REP (E : ax_E) (h : ax_H) (x t dl dv ds du : Nat) (s : Sg) : Prop := PlN E h x t dl dv ds du ∧ RtS h x t ∧ RiN h x s ∧ RaN h x s ∧ StN E (Frz h x t dl dv ds du) h x t dl dv ds (s 2) ∧ LsN E h (x + 14) du (s 0 28) 24 (DnN (Frz h x t dl dv ds du) h (s 14)) ∧ (∀ k, k < 2 → ImN E (Frz h x t dl dv ds du) h x s k) ∧ DrN (Frz h x t dl dv ds du) h x s
/-- a street elsewhere: nothing of it is written -/
theorem StN.fr {E : ax_E} {Fz Fz' : Nat → Prop} {h h' : ax_H} {x t dl dv ds : Nat} {K : Rw} (H : StN E Fz h x t dl dv ds K) (hf : ∀ a, Fz a → Fz' a ∧ eqT (hC h a) (hC h' a)) (hs : ∀ a, t ≤ a → a < t + 12 → eqT (hC h a) (hC h' a)) (h0 : ∀ d, hT h d = 104 → d ≠ E.2.2 0) (d1 : dl ≠ E.2.2 0 → eqT (hC h dl) (hC h' dl)) (d2 : dv ≠ E.2.2 0 → eqT (hC h dv) (hC h' dv)) (d3 : ds ≠ E.2.2 0 → eqT (hC h ds) (hC h' ds)) : StN E Fz' h' x t dl dv ds K := by
  obtain ⟨⟨a1, a2⟩, b, c, ⟨e1, e2, e3⟩, ⟨f1, f2, f3⟩, l1, l2, l3⟩ := H
  have i0 : ∀ k, hI h' t k = hI h t k := fun k => (hs t (by omega) (by omega)).2.2.2 k (by intro e9; unfold hT at a1; omega)
  have i10 : ∀ k, hI h' (t + 10) k = hI h (t + 10) k := fun k => (hs (t + 10) (by omega) (by omega)).2.2.2 k (by intro e9; unfold hT at e1; omega)
  have i11 : ∀ k, hI h' (t + 11) k = hI h (t + 11) k := fun k => (hs (t + 11) (by omega) (by omega)).2.2.2 k (by intro e9; unfold hT at f1; omega)
  have q0 := hs t (by omega) (by omega)
  have q10 := hs (t + 10) (by omega) (by omega)
  have q11 := hs (t + 11) (by omega) (by omega)
  refine ⟨⟨q0.hT.trans a1, ?_⟩, ?_, c.frT (fun a h1 h2 => hs a (by omega) (by omega)), ⟨q10.hT.trans e1, q10.hL.trans e2, fun p hp => (i10 p).trans (e3 p hp)⟩, ⟨q11.hT.trans f1, q11.hL.trans f2, fun p hp => (i11 p).trans (f3 p hp)⟩, ?_, ?_, ?_⟩
  · rw [q0.hR, q0.hR, q0.hR, q0.hR, q0.hR, q0.hR]; exact a2
  · rw [i0, i0, i0]; exact b
  · refine l1.fr (hs _ (by omega) (by omega)) d1 (h0 _) ?_
    rintro k u ⟨L, g1, g2⟩
    exact ⟨L, g1, g2.fr hf⟩
  · exact l2.fr (hs _ (by omega) (by omega)) d2 (h0 _) (fun k u hu => hu.fr hf (by decide) (fun _ _ _ => rfl))
  · exact l3.fr (hs _ (by omega) (by omega)) d3 (h0 _) (fun k u hu => hu.fr hf (by decide) (fun _ _ _ => rfl))
theorem ImN.fr {E : ax_E} {Fz Fz' : Nat → Prop} {h h' : ax_H} {x : Nat} {s s' : Sg} {k : Nat} (H : ImN E Fz h x s k) (hf : ∀ a, Fz a → Fz' a ∧ eqT (hC h a) (hC h' a)) (hr : hR h' (x + 13) k = hR h (x + 13) k) (h0 : ∀ d, hT h d = 104 → d ≠ E.2.2 0) (e4 : s' 4 = s 4) (e3 : s' 3 = s 3) : ImN E Fz' h' x s' k := by
  unfold ImN
  rw [e4, e3, hr]
  rcases H with H | ⟨a, t, dl, dv, ds, r, z, z1, z2, z3, H⟩
  · exact Or.inl H
  · refine Or.inr ⟨a, t, dl, dv, ds, r, fun q h1 h2 => (hf q (z q h1 h2)).1, z1.imp id (fun q => (hf _ q).1), z2.imp id (fun q => (hf _ q).1), z3.imp id (fun q => (hf _ q).1), ?_⟩
    exact H.fr hf (fun q h1 h2 => (hf q (z q h1 h2)).2) h0 (fun n => (hf _ (z1.resolve_left n)).2) (fun n => (hf _ (z2.resolve_left n)).2) (fun n => (hf _ (z3.resolve_left n)).2)
theorem DrN.fr {Fz Fz' : Nat → Prop} {h h' : ax_H} {x : Nat} {s s' : Sg} (H : DrN Fz h x s) (hf : ∀ a, Fz a → Fz' a ∧ eqT (hC h a) (hC h' a)) (hr : hR h' x 17 = hR h x 17) (e0 : s' 0 59 = s 0 59) (e1 : s' 29 = s 29) (e2 : s' 30 = s 30) (e3 : s' 31 = s 31) : DrN Fz' h' x s' := by
  unfold DrN
  rw [e0, e1, e2, e3, hr]
  rcases H with H | ⟨a, r, z, t, l, m, H⟩ | H
  · exact Or.inl H
  · obtain ⟨z', q⟩ := hf a z
    refine Or.inr (Or.inl ⟨a, r, z', q.hT.trans t, by rw [q.hL]; exact l, m, fun p hp => ?_⟩)
    obtain ⟨u, r1, z1, t1, l1, i0, i1, i2⟩ := H p hp
    obtain ⟨z1', q1⟩ := hf u z1
    have g : ∀ j, hI h' u j = hI h u j := fun j => q1.2.2.2 j (by intro e9; unfold hT at t1; omega)
    exact ⟨u, (q.hR p).trans r1, z1', q1.hT.trans t1, q1.hL.trans l1, (g 0).trans i0, (g 1).trans i1, (g 2).trans i2⟩
  · exact Or.inr (Or.inr H)
