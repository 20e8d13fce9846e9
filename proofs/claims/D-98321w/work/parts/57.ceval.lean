/-! THE COMPONENT: sums and tests as they stand in the heap, and what they tell -/
set_option maxRecDepth 100000
def EB (e : Ev) : Prop := (∀ k, -1000000000 ≤ e.1 k ∧ e.1 k ≤ 1000000000) ∧ (∀ p, -1000000000 ≤ e.2.1 p ∧ e.2.1 p ≤ 1000000000) ∧ ∀ p q, -1000000000 ≤ e.2.2 p q ∧ e.2.2 p q ≤ 1000000000
def FB (F : Dn) : Prop := ∀ e, EB e → ∀ v, F e = some v → -1000000000 ≤ v ∧ v ≤ 1000000000
theorem bnd_b {v w : Int} (h : bnd v = some w) : -1000000000 ≤ w ∧ w ≤ 1000000000 := by
  unfold bnd at h
  split at h
  · cases h
  · cases h
    omega
theorem op_b {o p q v : Int} (hp : -1000000000 ≤ p ∧ p ≤ 1000000000) (hq : -1000000000 ≤ q ∧ q ≤ 1000000000) (h : opS o p q = some v) : -1000000000 ≤ v ∧ v ≤ 1000000000 := by
  unfold opS at h
  split at h
  · split at h
    · cases h
    · cases h
      have h1 := Int.natAbs_tdiv_le_natAbs p q
      omega
  · split at h
    · split at h
      · cases h
      · cases h
        have h1 : (p.tmod q).natAbs ≤ p.natAbs := by rw [Int.natAbs_tmod]; exact Nat.mod_le _ _
        omega
    · split at h
      · exact bnd_b h
      · split at h
        · exact bnd_b h
        · exact bnd_b h
theorem FB.join {F G : Dn} (o : Int) (hF : FB F) (hG : FB G) : FB (dJ o F G) := by
  intro e he v hv
  unfold dJ at hv
  obtain ⟨p, h1, h2⟩ := Option.bind_eq_some_iff.mp hv
  obtain ⟨q, h3, h4⟩ := Option.bind_eq_some_iff.mp h2
  exact op_b (hF e he p h1) (hG e he q h3) h4
/-- a sum in the heap: so deep at most, at an address, and what it means -/
def SumN (o : Int) (Fz : Nat → Prop) (h : ax_H) (x : Nat) : Nat → Nat → Dn → Prop
  | 0, _, _ => False
  | d + 1, a, F => Fz a ∧ ((hT h a = 10 ∧ (0 ≤ hI h a 0 ∧ hI h a 0 ≤ 1000) ∧ F = fun _ => some (hI h a 0))
    ∨ (hT h a = 11 ∧ (0 ≤ hI h a 0 ∧ hI h a 0 < 10 ∧ (o ≠ 0 → hI h a 0 < 4)) ∧ F = fun e => some (e.1 (hI h a 0)))
    ∨ (hT h a = 12 ∧ o ≠ 0 ∧ hR h a 1 = some x ∧ (0 ≤ hI h a 0 ∧ hI h a 0 ≤ 6) ∧ F = fun e => some (e.2.1 (hI h a 0)))
    ∨ (hT h a = 13 ∧ o ≠ 0 ∧ hR h a 2 = some x ∧ (0 ≤ hI h a 0 ∧ hI h a 0 ≤ 6) ∧ (0 ≤ hI h a 1 ∧ hI h a 1 ≤ 6) ∧ F = fun e => some (e.2.2 (hI h a 0) (hI h a 1)))
    ∨ (hT h a = 14 ∧ (-128 ≤ hI h a 2 ∧ hI h a 2 ≤ 127) ∧ ∃ (l r : Nat) (G1 G2 : Dn), hR h a 0 = some l ∧ hR h a 1 = some r ∧ SumN o Fz h x d l G1 ∧ SumN o Fz h x d r G2 ∧ F = dJ (hI h a 2) G1 G2))
theorem SumN.fb {o : Int} {Fz : Nat → Prop} {h : ax_H} {x : Nat} : ∀ (d a : Nat) (F : Dn), SumN o Fz h x d a F → FB F := by
  intro d
  induction d with
  | zero => intro a F H; exact H.elim
  | succ d ih =>
    intro a F H
    obtain ⟨-, H⟩ := H
    rcases H with ⟨-, b, rfl⟩ | ⟨-, b, rfl⟩ | ⟨-, -, -, b, rfl⟩ | ⟨-, -, -, b, c, rfl⟩ | ⟨-, b, l, r, G1, G2, -, -, h1, h2, rfl⟩
    · intro e he v hv
      cases hv
      omega
    · intro e he v hv
      cases hv
      exact he.1 _
    · intro e he v hv
      cases hv
      exact he.2.1 _
    · intro e he v hv
      cases hv
      exact he.2.2 _ _
    · exact (ih _ _ h1).join _ (ih _ _ h2)
theorem SumN.up {o : Int} {Fz : Nat → Prop} {h : ax_H} {x : Nat} : ∀ (d d' a : Nat) (F : Dn), d ≤ d' → SumN o Fz h x d a F → SumN o Fz h x d' a F := by
  intro d
  induction d with
  | zero => intro d' a F _ H; exact H.elim
  | succ d ih =>
    intro d' a F hd H
    obtain ⟨d', rfl⟩ : ∃ k, d' = k + 1 := ⟨d' - 1, by omega⟩
    obtain ⟨hz, H⟩ := H
    refine ⟨hz, ?_⟩
    rcases H with H | H | H | H | ⟨b, c, l, r, G1, G2, h1, h2, h3, h4, h5⟩
    · exact Or.inl H
    · exact Or.inr (Or.inl H)
    · exact Or.inr (Or.inr (Or.inl H))
    · exact Or.inr (Or.inr (Or.inr (Or.inl H)))
    · exact Or.inr (Or.inr (Or.inr (Or.inr ⟨b, c, l, r, G1, G2, h1, h2, ih d' l G1 (by omega) h3, ih d' r G2 (by omega) h4, h5⟩)))
/-- two heaps that hold the same where nothing may be written, but for what clauses told -/
def eqT (c c' : ax_C) : Prop := c'.1 = c.1 ∧ c'.2.1 = c.2.1 ∧ c'.2.2.2 = c.2.2.2 ∧ ∀ k, (c.1 = 15 → k ≠ 3) → c'.2.2.1 k = c.2.2.1 k
theorem eqT.refl (c : ax_C) : eqT c c := ⟨rfl, rfl, rfl, fun _ _ => rfl⟩
theorem eqT.trans {c c1 c2 : ax_C} (p : eqT c c1) (q : eqT c1 c2) : eqT c c2 := ⟨q.1.trans p.1, q.2.1.trans p.2.1, q.2.2.1.trans p.2.2.1, fun k hk => (q.2.2.2 k (fun e => hk (p.1.symm.trans e))).trans (p.2.2.2 k hk)⟩
theorem SumN.fr {o : Int} {Fz Fz' : Nat → Prop} {h h' : ax_H} {x : Nat} (hf : ∀ a, Fz a → Fz' a ∧ eqT (hC h a) (hC h' a)) : ∀ (d a : Nat) (F : Dn), SumN o Fz h x d a F → SumN o Fz' h' x d a F := by
  intro d
  induction d with
  | zero => intro a F H; exact H.elim
  | succ d ih =>
    intro a F H
    obtain ⟨hz, H⟩ := H
    obtain ⟨hz', e1, e2, e3, e4⟩ := hf a hz
    refine ⟨hz', ?_⟩
    have eT : hT h' a = hT h a := e1
    have eR : ∀ k, hR h' a k = hR h a k := fun k => congrFun e3 k
    have eI : ∀ k, (hT h a = 15 → k ≠ 3) → hI h' a k = hI h a k := e4
    rcases H with ⟨t, H⟩ | ⟨t, H⟩ | ⟨t, H⟩ | ⟨t, H⟩ | ⟨t, c, l, r, G1, G2, h1, h2, h3, h4, h5⟩
    · exact Or.inl (by rw [eT, eI 0 (by omega)]; exact ⟨t, H⟩)
    · exact Or.inr (Or.inl (by rw [eT, eI 0 (by omega)]; exact ⟨t, H⟩))
    · exact Or.inr (Or.inr (Or.inl (by rw [eT, eR, eI 0 (by omega)]; exact ⟨t, H⟩)))
    · exact Or.inr (Or.inr (Or.inr (Or.inl (by rw [eT, eR, eI 0 (by omega), eI 1 (by omega)]; exact ⟨t, H⟩))))
    · exact Or.inr (Or.inr (Or.inr (Or.inr (by rw [eT, eR, eR, eI 2 (by omega)]; exact ⟨t, c, l, r, G1, G2, h1, h2, ih _ _ h3, ih _ _ h4, h5⟩))))
/-- what is asked of: the object q, its numbers qn; purses and what one owes as the street has them -/
def AskE (o : Int) (E : ax_E) (h : ax_H) (x q : Nat) (e : Ev) : Prop := hT h q = 3 ∧ hI h q 1 = 0 ∧ (∃ qn, hR h q 0 = some qn ∧ hT h qn = 103 ∧ hL h qn = 10 ∧ ∀ k : Nat, k < 10 → (o ≠ 0 → k < 4) → hI h qn k = e.1 k) ∧ (o ≠ 0 → ∀ a, hT h a = 12 → hR h a 1 = some x → (0 ≤ hI h a 0 ∧ hI h a 0 ≤ 6) → f_X12_of E (some a) (some q) h = some (e.2.1 (hI h a 0), h)) ∧ (o ≠ 0 → ∀ a, hT h a = 13 → hR h a 2 = some x → (0 ≤ hI h a 0 ∧ hI h a 0 ≤ 6) → (0 ≤ hI h a 1 ∧ hI h a 1 ≤ 6) → f_X13_of E (some a) (some q) h = some (e.2.2 (hI h a 0) (hI h a 1), h))
def evX {α : Type} (h : ax_H) (q : Nat) (o : Option α) : ax_H := match o with
  | some _ => h
  | none => wI h q 1 1
noncomputable def evS (E : ax_E) (g : Option Nat → Option Nat → ax_H → Option (Int × ax_H)) (a q : Option Nat) (h : ax_H) : Option (Int × ax_H) := ax_dp E h a fun t => if t = 10 then f_X10_of E a q h else if t = 11 then f_X11_of E a q h else if t = 12 then f_X12_of E a q h else if t = 13 then f_X13_of E a q h else if t = 14 then g a q h else none
theorem wI_self {h : ax_H} {a k : Nat} (e : hT h a ≠ 999) : wI h a k (hI h a k) = h := by
  have e2 : va_up (hC h a).2.2.1 k (hI h a k) = (hC h a).2.2.1 := by
    funext j
    unfold va_up
    split
    · rename_i hj; rw [hj]; rfl
    · rfl
  unfold wI ax_set
  rw [e2]
  have e3 : va_up h.2.2 a (some ((hC h a).1, (hC h a).2.1, (hC h a).2.2.1, (hC h a).2.2.2)) = h.2.2 := by
    funext j
    unfold va_up
    split
    · rename_i hj; rw [hj]; exact (h_some e).symm
    · rfl
  rw [e3]
theorem wI_wI {h : ax_H} {a k : Nat} {v w : Int} : wI (wI h a k v) a k w = wI h a k w := by
  have e : hC (wI h a k v) a = ((hC h a).1, (hC h a).2.1, va_up (hC h a).2.2.1 k v, (hC h a).2.2.2) := by
    unfold wI
    rw [hC_set, if_pos rfl]
  have e2 : va_up (va_up (hC h a).2.2.1 k v) k w = va_up (hC h a).2.2.1 k w := by
    funext j
    unfold va_up
    split <;> rfl
  have e3 : wI (wI h a k v) a k w = ax_set (wI h a k v) a ((hC h a).1, (hC h a).2.1, va_up (hC h a).2.2.1 k w, (hC h a).2.2.2) := by
    rw [← e2]
    conv => lhs; unfold wI
    have := e
    unfold wI at this
    rw [this]
    rfl
  rw [e3]
  unfold wI ax_set
  simp only [Prod.mk.injEq, true_and]
  funext j
  unfold va_up
  split <;> rfl
section
variable {o : Int} {E : ax_E} {h : ax_H} {x q : Nat} {e : Ev} {Fz : Nat → Prop}
theorem c_within {v : Int} (h3 : hT h q = 3) (h0 : hI h q 1 = 0) (hv : -9223372036854775808 ≤ v ∧ v ≤ 9223372036854775807) : f_X3_within E (some q) v h = some ((bnd v).getD 0, evX h q (bnd v)) := by
  have i1 : ¬ i2 1 = 0 := by decide
  have hs : wI h q 1 0 = h := by rw [← h0]; exact wI_self (by omega)
  have gt : hT (wI h q 1 1) q = 3 := by rw [hT_wI]; exact h3
  unfold f_X3_within f_X3_within_24 f_X3_within_29 bnd
  simp (disch := first | assumption | omega | (refine i2_ofp ?_; omega)) only [f_gI, f_pI, h0, i2_0, Option.bind_some, cmp_of, hI_wI_eq]
  by_cases a : 1000000000 < v
  · rw [if_pos (by decide), if_pos (by rw [if_pos a]; decide), if_pos (by decide), if_neg i1, if_pos (Or.inl a)]
    rfl
  · rw [if_pos (by decide), if_neg (by rw [if_neg a]; split <;> decide)]
    by_cases b : v < -1000000000
    · rw [if_pos (by rw [if_neg (by omega), if_neg (by omega)]; decide), if_pos (by decide), if_neg i1, if_pos (Or.inr b)]
      rfl
    · rw [if_neg (by split; decide; rw [if_pos (by omega)]; decide), if_pos (by decide), hs, f_gI h3 (by decide), h0, Option.bind_some, if_pos (by decide), if_neg (by omega)]
      rfl
theorem c_sum (hA : AskE o E h x q e) (hE : EB e) : ∀ (n d a : Nat) (F : Dn), d ≤ n + 1 → SumN o Fz h x d a F → evS E (rg_X14_of E n) (some a) (some q) h = some ((F e).getD 0, evX h q (F e)) := by
  obtain ⟨h3, h0, ⟨qn, r0, tn, ln, cn⟩, hP, hO⟩ := hA
  have i1 : ¬ i2 1 = 0 := by decide
  have hs : wI h q 1 0 = h := by rw [← h0]; exact wI_self (by omega)
  have gt : hT (wI h q 1 1) q = 3 := by rw [hT_wI]; exact h3
  intro n
  induction n with
  | zero => ?_
  | succ n ih => ?_
  all_goals
    intro d a F hd H
    cases d with
    | zero => exact H.elim
    | succ d => ?_
    have H0 := H
    obtain ⟨hz, H⟩ := H
  · rcases H with ⟨t, b, rfl⟩ | ⟨t, b, rfl⟩ | ⟨t, ho, c, b, rfl⟩ | ⟨t, ho, c, b, b2, rfl⟩ | ⟨t, c, l, r, G1, G2, h1, h2, h4, h5, rfl⟩
    · refine (f_dp t (by decide)).trans ?_
      show f_X10_of E (some a) (some q) h = _
      simp (disch := first | assumption | omega | (refine i2_ofp ?_; omega)) only [f_X10_of, f_gI, Option.bind_some, i2_of]
      rfl
    · refine (f_dp t (by decide)).trans ?_
      show f_X11_of E (some a) (some q) h = _
      simp (disch := first | assumption | omega | (refine i2_ofp ?_; omega)) only [f_X11_of, f_gI, f_gR, f_ld, r0, Option.bind_some]
      have := cn (hI h a 0).toNat (by omega) (fun z => by have := b.2.2 z; omega)
      rw [this, Int.toNat_of_nonneg b.1]
      rfl
    · refine (f_dp t (by decide)).trans ?_
      exact hP ho a t c b
    · refine (f_dp t (by decide)).trans ?_
      exact hO ho a t c b b2
    · cases d with
      | zero => exact h4.elim
      | succ d => omega
  · rcases H with ⟨t, b, rfl⟩ | ⟨t, b, rfl⟩ | ⟨t, ho, c, b, rfl⟩ | ⟨t, ho, c, b, b2, rfl⟩ | ⟨t, c, l, r, G1, G2, h1, h2, h4, h5, rfl⟩
    · refine (f_dp t (by decide)).trans ?_
      show f_X10_of E (some a) (some q) h = _
      simp (disch := first | assumption | omega | (refine i2_ofp ?_; omega)) only [f_X10_of, f_gI, Option.bind_some, i2_of]
      rfl
    · refine (f_dp t (by decide)).trans ?_
      show f_X11_of E (some a) (some q) h = _
      simp (disch := first | assumption | omega | (refine i2_ofp ?_; omega)) only [f_X11_of, f_gI, f_gR, f_ld, r0, Option.bind_some]
      have := cn (hI h a 0).toNat (by omega) (fun z => by have := b.2.2 z; omega)
      rw [this, Int.toNat_of_nonneg b.1]
      rfl
    · refine (f_dp t (by decide)).trans ?_
      exact hP ho a t c b
    · refine (f_dp t (by decide)).trans ?_
      exact hO ho a t c b b2
    · refine (f_dp t (by decide)).trans ?_
      show f_X14_of E (rg_X14_of E n) (some a) (some q) h = _
      have e1 := ih d l G1 (by omega) h4
      have e2 := ih d r G2 (by omega) h5
      unfold evS at e1 e2
      have b1 := (h4.fb _ _ _) e hE
      have b2 := (h5.fb _ _ _) e hE
      unfold f_X14_of
      simp (disch := first | assumption | omega | (refine i2_ofp ?_; omega)) only [f_gR, h1, h2, Option.bind_some, e1]
      cases g1 : G1 e with
      | none =>
        simp (disch := first | assumption | omega | (refine i2_ofp ?_; omega)) only [evX, f_gI, hI_wI_eq, Option.bind_some, if_neg i1, f_X14_of_28, dJ, g1, Option.bind_none]
        rfl
      | some v1 =>
        have b1 := b1 v1 g1
        simp (disch := first | assumption | omega | (refine i2_ofp ?_; omega)) only [evX, f_gI, h0, i2_0, Option.bind_some, if_true, f_gR, h2, e2]
        cases g2 : G2 e with
        | none =>
          simp (disch := first | assumption | omega | (refine i2_ofp ?_; omega)) only [evX, f_gI, hI_wI_eq, Option.bind_some, if_neg i1, f_X14_of_28, dJ, g1, g2, Option.bind_none]
          rfl
        | some v2 =>
          have b2 := b2 v2 g2
          have k47 : i2 47 = 47 := by decide
          have k37 : i2 37 = 37 := by decide
          have k43 : i2 43 = 43 := by decide
          have k45 : i2 45 = 45 := by decide
          have m1 : -1000000000000000000 ≤ v1 * v2 ∧ v1 * v2 ≤ 1000000000000000000 := by
            have q1 : (v1 * v2).natAbs = v1.natAbs * v2.natAbs := Int.natAbs_mul v1 v2
            have q2 : v1.natAbs * v2.natAbs ≤ 1000000000 * 1000000000 := Nat.mul_le_mul (by omega) (by omega)
            omega
          have z1 : f_X14_of_28 E (rg_X14_of E n) (some a) (some q) v1 v2 h = some ((opS (hI h a 2) v1 v2).getD 0, evX h q (opS (hI h a 2) v1 v2)) := by
            have iv : i2 (hI h a 2) = hI h a 2 := i2_of (by omega) (by omega)
            have cz : (i2 (ax_cmp v2 0) = 0) ↔ v2 = 0 := by
              rw [cmp_of (by omega) (by omega) (by omega) (by omega)]
              constructor
              · intro e
                by_cases y : v2 = 0
                · exact y
                · split at e
                  · cases e
                  · cases e
              · intro e
                rw [if_neg (by omega), if_pos e]
            have g2 : ax_gI E h (some a) 14 2 = some (hI h a 2) := f_gI t (by decide)
            unfold f_X14_of_28
            rw [f_gI h3 (by decide), h0, Option.bind_some, if_pos i2_0]
            simp only [g2, Option.bind_some, iv, k47, k37, k43, k45]
            unfold opS
            by_cases s1 : hI h a 2 = 47
            · rw [if_pos s1, if_pos s1]
              unfold f_X14_of_57
              by_cases s2 : v2 = 0
              · rw [if_pos (cz.mpr s2), if_pos s2]
                unfold f_X14_of_70
                rw [if_pos (Or.inr rfl), f_pI h3 (by decide), Option.bind_some, if_pos (cz.mpr s2)]
                rfl
              · rw [if_neg (fun y => s2 (cz.mp y)), if_neg s2]
                unfold f_X14_of_70
                rw [if_pos (Or.inl rfl), f_pI h3 (by decide), Option.bind_some, if_neg (fun y => s2 (cz.mp y)), hs, g2, Option.bind_some, iv, k47, if_pos s1, l2_of (by omega) (by omega), l2_of (by omega) (by omega), if_neg s2]
                rfl
            · rw [if_neg s1, if_neg s1]
              by_cases s4 : hI h a 2 = 37
              · rw [if_pos s4, if_pos s4]
                unfold f_X14_of_57
                by_cases s2 : v2 = 0
                · rw [if_pos (cz.mpr s2), if_pos s2]
                  unfold f_X14_of_70
                  rw [if_pos (Or.inr rfl), f_pI h3 (by decide), Option.bind_some, if_pos (cz.mpr s2)]
                  rfl
                · rw [if_neg (fun y => s2 (cz.mp y)), if_neg s2]
                  unfold f_X14_of_70
                  rw [if_pos (Or.inl rfl), f_pI h3 (by decide), Option.bind_some, if_neg (fun y => s2 (cz.mp y)), hs, g2, Option.bind_some, iv, k47, if_neg s1, l2_of (by omega) (by omega), l2_of (by omega) (by omega), if_neg s2]
                  rfl
              · rw [if_neg s4, if_neg s4]
                have w1 : ∀ v : Int, -9223372036854775808 ≤ v ∧ v ≤ 9223372036854775807 → f_X14_of_142 E (rg_X14_of E n) (some q) v h = some ((bnd v).getD 0, evX h q (bnd v)) := by
                  intro v hv
                  unfold f_X14_of_142
                  rw [f_ce h3 (by decide), Option.bind_some, c_within h3 h0 hv]
                  rfl
                by_cases s5 : hI h a 2 = 43
                · rw [if_pos s5, if_pos s5, w1 _ (by omega)]
                · rw [if_neg s5, if_neg s5]
                  by_cases s6 : hI h a 2 = 45
                  · rw [if_pos s6, if_pos s6, w1 _ (by omega)]
                  · rw [if_neg s6, if_neg s6, w1 _ (by omega)]
          refine Eq.trans z1 ?_
          simp only [dJ, g1, g2, Option.bind_some, evX]
end
