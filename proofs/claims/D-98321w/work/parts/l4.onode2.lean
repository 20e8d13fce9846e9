/-! The component's orders in the heap -/
set_option maxRecDepth 100000
/-- an order: its object, its sums, how often, its test -/
def OdN (Fz : Nat → Prop) (h : ax_H) (x a : Nat) (u : Od) : Prop := (1 ≤ u.2.2.1 ∧ u.2.2.1 ≤ 20) ∧ ((u.1 = 26 ∧ u.2.1 = ((fun _ => some 0), (fun _ => some 0), (fun _ => some 0)) ∧ hT h a = 21 ∧ hR h a 3 = some x ∧ hR h a 4 = some x ∧ hI h a 1 = u.2.2.1 ∧ ((hR h a 0 = none ∧ u.2.2.2 = fun _ => some true) ∨ ∃ t, hR h a 0 = some t ∧ TestN 1 Fz h x 28 t u.2.2.2)) ∨ ((u.1 = 24 ∨ u.1 = 25) ∧ hT h a = (if u.1 = 24 then 23 else 24) ∧ hR h a 3 = some x ∧ hR h a 7 = some x ∧ hR h a 8 = some x ∧ hI h a 5 = u.2.2.1 ∧ (∃ s1 s2 s3, hR h a 0 = some s1 ∧ hR h a 1 = some s2 ∧ hR h a 2 = some s3 ∧ SumN 1 Fz h x 50 s1 u.2.1.1 ∧ SumN 1 Fz h x 50 s2 u.2.1.2.1 ∧ SumN 1 Fz h x 50 s3 u.2.1.2.2) ∧ ((hR h a 4 = none ∧ u.2.2.2 = fun _ => some true) ∨ ∃ t, hR h a 4 = some t ∧ TestN 1 Fz h x 28 t u.2.2.2)))
/-- an order stays: what it names stays, and so does its object but for whether it is off -/
theorem OdN.fr {Fz Fz' : Nat → Prop} {h h' : ax_H} {x a : Nat} {u : Od} (H : OdN Fz h x a u) (hf : ∀ a, Fz a → Fz' a ∧ eqT (hC h a) (hC h' a)) (e : hT h' a = hT h a ∧ (∀ k, hR h' a k = hR h a k) ∧ (hT h a = 21 → hI h' a 1 = hI h a 1) ∧ (hT h a ≠ 21 → hI h' a 5 = hI h a 5)) : OdN Fz' h' x a u := by
  obtain ⟨e1, e2, e3, e4⟩ := e
  obtain ⟨b, H⟩ := H
  refine ⟨b, ?_⟩
  rcases H with ⟨h1, h0, h2, h3, h4, h5, h6⟩ | ⟨h1, h2, h3, h4, h5, h6, ⟨s1, s2, s3, k1, k2, k3, k4, k5, k6⟩, h7⟩
  · refine Or.inl ⟨h1, h0, e1.trans h2, (e2 3).trans h3, (e2 4).trans h4, (e3 h2).trans h5, ?_⟩
    rw [e2]
    rcases h6 with z | ⟨t, z1, z2⟩
    · exact Or.inl z
    · exact Or.inr ⟨t, z1, z2.fr hf⟩
  · refine Or.inr ⟨h1, e1.trans h2, (e2 3).trans h3, (e2 7).trans h4, (e2 8).trans h5, (e4 (by rw [h2]; split <;> decide)).trans h6, ⟨s1, s2, s3, (e2 0).trans k1, (e2 1).trans k2, (e2 2).trans k3, k4.fr hf, k5.fr hf, k6.fr hf⟩, ?_⟩
    rw [e2]
    rcases h7 with z | ⟨t, z1, z2⟩
    · exact Or.inl z
    · exact Or.inr ⟨t, z1, z2.fr hf⟩
