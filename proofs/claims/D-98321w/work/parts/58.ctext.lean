/-! THE COMPONENT: tests, clauses, texts, and what they tell -/
set_option maxRecDepth 100000
def rowF (all : Int) (L : List Dt) : Dt := match L with
  | [] => fun _ => some false
  | F :: L => L.foldl (if all = 0 then dO else dA) F
/-- a test in the heap -/
def TestN (o : Int) (Fz : Nat → Prop) (h : ax_H) (x : Nat) : Nat → Nat → Dt → Prop
  | 0, _, _ => False
  | d + 1, a, F => Fz a ∧ ((hT h a = 17 ∧ (hI h a 2 = 60 ∨ hI h a 2 = 61 ∨ hI h a 2 = 62) ∧ ∃ (l r : Nat) (G1 G2 : Dn), hR h a 0 = some l ∧ hR h a 1 = some r ∧ SumN o Fz h x 50 l G1 ∧ SumN o Fz h x 50 r G2 ∧ F = dC (hI h a 2) G1 G2)
    ∨ (hT h a = 18 ∧ ∃ (l : Nat) (G : Dt), hR h a 0 = some l ∧ TestN o Fz h x d l G ∧ F = dN G)
    ∨ (hT h a = 19 ∧ (hI h a 0 = 0 ∨ hI h a 0 = 1) ∧ ∃ (c : Nat) (L : List Dt), hR h a 1 = some c ∧ Fz c ∧ hT h c = 109 ∧ hL h c = L.length ∧ 2 ≤ L.length ∧ L.length ≤ 50 ∧ (∀ (k : Nat) (G : Dt), L[k]? = some G → ∃ b, hR h c k = some b ∧ TestN o Fz h x d b G) ∧ F = rowF (hI h a 0) L))
theorem TestN.up {o : Int} {Fz : Nat → Prop} {h : ax_H} {x : Nat} : ∀ (d d' a : Nat) (F : Dt), d ≤ d' → TestN o Fz h x d a F → TestN o Fz h x d' a F := by
  intro d
  induction d with
  | zero => intro d' a F _ H; exact H.elim
  | succ d ih =>
    intro d' a F hd H
    obtain ⟨d', rfl⟩ : ∃ k, d' = k + 1 := ⟨d' - 1, by omega⟩
    obtain ⟨hz, H⟩ := H
    refine ⟨hz, ?_⟩
    rcases H with H | ⟨t, l, G, h1, h2, h3⟩ | ⟨t, c, b, L, h1, h2, h3, h4, h5, h6, h7, h8⟩
    · exact Or.inl H
    · exact Or.inr (Or.inl ⟨t, l, G, h1, ih d' l G (by omega) h2, h3⟩)
    · refine Or.inr (Or.inr ⟨t, c, b, L, h1, h2, h3, h4, h5, h6, fun k G hk => ?_, h8⟩)
      obtain ⟨b2, g1, g2⟩ := h7 k G hk
      exact ⟨b2, g1, ih d' b2 G (by omega) g2⟩
theorem TestN.fr {o : Int} {Fz Fz' : Nat → Prop} {h h' : ax_H} {x : Nat} (hf : ∀ a, Fz a → Fz' a ∧ eqT (hC h a) (hC h' a)) : ∀ (d a : Nat) (F : Dt), TestN o Fz h x d a F → TestN o Fz' h' x d a F := by
  intro d
  induction d with
  | zero => intro a F H; exact H.elim
  | succ d ih =>
    intro a F H
    obtain ⟨hz, H⟩ := H
    obtain ⟨hz', e1, e2, e3, e4⟩ := hf a hz
    refine ⟨hz', ?_⟩
    have eT : hT h' a = hT h a := e1
    have eR : ∀ k, hR h' a k = hR h a k := fun k => congrFun e3 k
    have eI : ∀ k, (hT h a = 15 → k ≠ 3) → hI h' a k = hI h a k := e4
    rcases H with ⟨t, b, l, r, G1, G2, h1, h2, h3, h4, h5⟩ | ⟨t, l, G, h1, h2, h3⟩ | ⟨t, b, c, L, h1, h2, h3, h4, h5, h6, h7, h8⟩
    · refine Or.inl ?_
      rw [eT, eR, eR, eI 2 (by omega)]
      exact ⟨t, b, l, r, G1, G2, h1, h2, SumN.fr hf _ _ _ h3, SumN.fr hf _ _ _ h4, h5⟩
    · refine Or.inr (Or.inl ?_)
      rw [eT, eR]
      exact ⟨t, l, G, h1, ih _ _ h2, h3⟩
    · refine Or.inr (Or.inr ?_)
      obtain ⟨hz2, c1, c2, c3, c4⟩ := hf c h2
      have cT : hT h' c = hT h c := c1
      have cL : hL h' c = hL h c := c2
      have cR : ∀ k, hR h' c k = hR h c k := fun k => congrFun c3 k
      rw [eT, eR, eI 0 (by omega)]
      refine ⟨t, b, c, L, h1, hz2, cT.trans h3, cL.trans h4, h5, h6, fun k G hk => ?_, h8⟩
      obtain ⟨b2, g1, g2⟩ := h7 k G hk
      exact ⟨b2, (cR k).trans g1, ih _ _ g2⟩
noncomputable def evT (E : ax_E) (g0 g1 : Option Nat → Option Nat → ax_H → Option (Int × ax_H)) (a q : Option Nat) (h : ax_H) : Option (Int × ax_H) := ax_dp E h a fun t => if t = 17 then f_X17_of E a q h else if t = 18 then g1 a q h else if t = 19 then g0 a q h else none
def tv (o : Option Bool) : Int := if o = some true then 1 else 0
theorem rowF_none {J : Dt → Dt → Dt} (hJ : ∀ F G e, F e = none → J F G e = none) : ∀ (L : List Dt) (F : Dt) (e : Ev), F e = none → L.foldl J F e = none := by
  intro L
  induction L with
  | nil => intro F e h; exact h
  | cons G L ih => intro F e h; exact ih _ _ (hJ _ _ _ h)
theorem rowF_stop {J : Dt → Dt → Dt} {b : Bool} (hJ : ∀ F G e, F e = some b → J F G e = some b) : ∀ (L : List Dt) (F : Dt) (e : Ev), F e = some b → L.foldl J F e = some b := by
  intro L
  induction L with
  | nil => intro F e h; exact h
  | cons G L ih => intro F e h; exact ih _ _ (hJ _ _ _ h)
theorem rowF_go {J : Dt → Dt → Dt} {e : Ev} : ∀ (L : List Dt) (F F' : Dt), F e = F' e → (∀ A B G, A e = B e → J A G e = J B G e) → L.foldl J F e = L.foldl J F' e := by
  intro L
  induction L with
  | nil => intro F F' h _; exact h
  | cons G L ih => intro F F' h hJ; exact ih _ _ (hJ _ _ _ h) hJ
section
variable {o : Int} {E : ax_E} {h : ax_H} {x q : Nat} {e : Ev} {Fz : Nat → Prop}
theorem c_cmp (hA : AskE o E h x q e) (hE : EB e) {a l r : Nat} {G1 G2 : Dn} (t : hT h a = 17) (hs : hI h a 2 = 60 ∨ hI h a 2 = 61 ∨ hI h a 2 = 62) (h1 : hR h a 0 = some l) (h2 : hR h a 1 = some r) (h4 : SumN o Fz h x 50 l G1) (h5 : SumN o Fz h x 50 r G2) : f_X17_of E (some a) (some q) h = some (tv (dC (hI h a 2) G1 G2 e), evX h q (dC (hI h a 2) G1 G2 e)) := by
  have i1 : ¬ i2 1 = 0 := by decide
  have e1 := c_sum hA hE 64 50 l G1 (by omega) h4
  have e2 := c_sum hA hE 64 50 r G2 (by omega) h5
  have b1 := (h4.fb _ _ _) e hE
  have b2 := (h5.fb _ _ _) e hE
  obtain ⟨h3, h0, -, -, -⟩ := hA
  have gt : hT (wI h q 1 1) q = 3 := by rw [hT_wI]; exact h3
  have g2 : ax_gI E h (some a) 17 2 = some (hI h a 2) := f_gI t (by decide)
  unfold evS at e1 e2
  unfold f_X17_of
  rw [f_gR t (by decide), h1, Option.bind_some]
  show (Option.bind (ax_dp E h (some l) fun t => if t = 10 then f_X10_of E (some l) (some q) h else if t = 11 then f_X11_of E (some l) (some q) h else if t = 12 then f_X12_of E (some l) (some q) h else if t = 13 then f_X13_of E (some l) (some q) h else if t = 14 then (rg_X14_of E 64) (some l) (some q) h else none) _) = _
  rw [e1, Option.bind_some]
  cases g1 : G1 e with
  | none =>
    show (Option.bind (ax_gI E (wI h q 1 1) (some q) 3 1) _) = _
    rw [f_gI gt (by decide), hI_wI_eq, Option.bind_some, if_neg i1]
    unfold f_X17_of_28
    show (Option.bind (ax_gI E (wI h q 1 1) (some q) 3 1) _) = _
    rw [f_gI gt (by decide), hI_wI_eq, Option.bind_some, if_neg i1]
    simp only [dC, g1, Option.bind_none]
    rfl
  | some v1 =>
    have b1 := b1 v1 g1
    show (Option.bind (ax_gI E h (some q) 3 1) _) = _
    rw [f_gI h3 (by decide), h0, Option.bind_some, if_pos i2_0]
    show (Option.bind (ax_gR E h (some a) 17 1) _) = _
    rw [f_gR t (by decide), h2, Option.bind_some]
    show (Option.bind (ax_dp E h (some r) fun t => if t = 10 then f_X10_of E (some r) (some q) h else if t = 11 then f_X11_of E (some r) (some q) h else if t = 12 then f_X12_of E (some r) (some q) h else if t = 13 then f_X13_of E (some r) (some q) h else if t = 14 then (rg_X14_of E 64) (some r) (some q) h else none) _) = _
    rw [e2, Option.bind_some]
    cases g2' : G2 e with
    | none =>
      unfold f_X17_of_28
      show (Option.bind (ax_gI E (wI h q 1 1) (some q) 3 1) _) = _
      rw [f_gI gt (by decide), hI_wI_eq, Option.bind_some, if_neg i1]
      simp only [dC, g1, g2', Option.bind_none, Option.bind_some]
      rfl
    | some v2 =>
      have b2 := b2 v2 g2'
      have iv : i2 (hI h a 2) = hI h a 2 := i2_of (by omega) (by omega)
      have k60 : i2 60 = 60 := by decide
      have k62 : i2 62 = 62 := by decide
      have cc := cmp_of (a := v1) (b := v2) (by omega) (by omega) (by omega) (by omega)
      show f_X17_of_28 E (some a) (some q) v1 v2 h = _
      unfold f_X17_of_28 f_X17_of_82 f_X17_of_86
      rw [f_gI h3 (by decide), h0, Option.bind_some, if_pos i2_0]
      simp only [g2, Option.bind_some, iv, k60, k62, cc, dC, g1, g2', cmpS, tv, evX]
      by_cases s1 : hI h a 2 = 60
      · simp only [s1, if_true]
        by_cases s2 : v1 < v2
        · rw [if_pos (by rw [if_neg (by omega), if_neg (by omega)]; decide)]
          simp [s2]
        · rw [if_neg (by split; decide; rw [if_pos (by omega)]; decide)]
          simp [s2]
      · simp only [if_neg s1]
        by_cases s3 : hI h a 2 = 62
        · simp only [s3, if_true]
          by_cases s2 : v2 < v1
          · rw [if_pos (by rw [if_pos s2]; decide)]
            simp [s2]
          · rw [if_neg (by rw [if_neg s2]; split <;> decide)]
            simp [s2]
        · simp only [if_neg s3]
          by_cases s2 : v1 = v2
          · rw [if_pos (by rw [if_neg (by omega), if_pos s2])]
            simp [s2]
          · rw [if_neg (by split; decide; decide)]
            simp [s2]
theorem c_test (hA : AskE o E h x q e) (hE : EB e) : ∀ (n d a : Nat) (F : Dt), d ≤ n + 1 → TestN o Fz h x d a F → evT E (rg_X19_of E n).1 (rg_X19_of E n).2 (some a) (some q) h = some (tv (F e), evX h q (F e)) := by
  have hA0 := hA
  obtain ⟨h3, h0, -, -, -⟩ := hA
  have i1 : ¬ i2 1 = 0 := by decide
  have gt : hT (wI h q 1 1) q = 3 := by rw [hT_wI]; exact h3
  intro n
  induction n with
  | zero =>
    intro d a F hd H
    cases d with
    | zero => exact H.elim
    | succ d =>
      obtain ⟨hz, H⟩ := H
      rcases H with ⟨t, b, l, r, G1, G2, h1, h2, h4, h5, rfl⟩ | ⟨t, l, G, h1, h2, h4⟩ | ⟨t, b, c, L, h1, h2, h4, h5, h6, h7, h8, h9⟩
      · refine (f_dp t (by decide)).trans ?_
        exact c_cmp hA0 hE t b h1 h2 h4 h5
      · cases d with
        | zero => exact h2.elim
        | succ d => omega
      · obtain ⟨b2, g1, g2⟩ := h8 0 L[0] (List.getElem?_eq_getElem (by omega))
        cases d with
        | zero => exact g2.elim
        | succ d => omega
  | succ n ih =>
    intro d a F hd H
    cases d with
    | zero => exact H.elim
    | succ d =>
      obtain ⟨hz, H⟩ := H
      rcases H with ⟨t, b, l, r, G1, G2, h1, h2, h4, h5, rfl⟩ | ⟨t, l, G, h1, h2, rfl⟩ | ⟨t, b, c, L, h1, h2, h4, h5, h6, h7, h8, rfl⟩
      · refine (f_dp t (by decide)).trans ?_
        exact c_cmp hA0 hE t b h1 h2 h4 h5
      · refine (f_dp t (by decide)).trans ?_
        show f_X18_of E (rg_X19_of E n).1 (rg_X19_of E n).2 (some a) (some q) h = _
        have e1 := ih d l G (by omega) h2
        unfold evT at e1
        unfold f_X18_of f_X18_of_22
        rw [f_gR t (by decide), h1, Option.bind_some]
        show (Option.bind (ax_dp E h (some l) fun t => if t = 17 then f_X17_of E (some l) (some q) h else if t = 18 then (rg_X19_of E n).2 (some l) (some q) h else if t = 19 then (rg_X19_of E n).1 (some l) (some q) h else none) _) = _
        rw [e1, Option.bind_some]
        cases g1 : G e with
        | none =>
          show (if i2 0 = 0 then Option.bind (ax_gI E (wI h q 1 1) (some q) 3 1) _ else _) = _
          rw [if_pos i2_0, f_gI gt (by decide), hI_wI_eq, Option.bind_some, if_neg i1]
          simp only [dN, g1]
          rfl
        | some v =>
          cases v with
          | true =>
            show (if i2 1 = 0 then _ else some (0, h)) = _
            rw [if_neg i1]
            simp only [dN, g1]
            rfl
          | false =>
            show (if i2 0 = 0 then Option.bind (ax_gI E h (some q) 3 1) _ else _) = _
            rw [if_pos i2_0, f_gI h3 (by decide), h0, Option.bind_some, if_pos i2_0]
            simp only [dN, g1]
            rfl
      · refine (f_dp t (by decide)).trans ?_
        show f_X19_of E (rg_X19_of E n).1 (rg_X19_of E n).2 (some a) (some q) h = _
        unfold f_X19_of
        rw [f_gR t (by decide), h1, Option.bind_some, f_len h4 (by decide), Option.bind_some, h5]
        have ga : ax_gI E h (some a) 19 0 = some (hI h a 0) := f_gI t (by decide)
        have hlen : i2 ((L.length : Nat) : Int) = L.length := i2_of (by omega) (by omega)
        have stepN : ∀ (k : Nat) (G : Dt), L[k]? = some G → G e = none → lb_X19_of_11 E (rg_X19_of E n).1 (rg_X19_of E n).2 (some a) (some q) (some c) L.length k h = some (.inr (0, wI h q 1 1)) := by
          intro k G hk hG
          obtain ⟨b2, g1, g2⟩ := h8 k G hk
          have hkl : k < L.length := (List.getElem?_eq_some_iff.mp hk).1
          have e1 := ih d b2 G (by omega) g2
          unfold evT at e1
          unfold lb_X19_of_11
          rw [hlen, i2_of (by omega) (by omega), if_pos (by omega), f_ldR h4 (by decide) (by omega) (by omega) (by omega), Int.toNat_natCast, g1, Option.bind_some]
          show (Option.bind (ax_dp E h (some b2) fun t => if t = 17 then f_X17_of E (some b2) (some q) h else if t = 18 then (rg_X19_of E n).2 (some b2) (some q) h else if t = 19 then (rg_X19_of E n).1 (some b2) (some q) h else none) _) = _
          rw [e1, Option.bind_some, hG]
          show (Option.bind (ax_gI E (wI h q 1 1) (some q) 3 1) _) = _
          rw [f_gI gt (by decide), hI_wI_eq, Option.bind_some, if_neg i1]
          rfl
        have stepS : ∀ (k : Nat) (G : Dt) (v : Bool), L[k]? = some G → G e = some v → lb_X19_of_11 E (rg_X19_of E n).1 (rg_X19_of E n).2 (some a) (some q) (some c) L.length k h = if (if v then (1 : Int) else 0) = hI h a 0 then some (.inl ((k : Int) + 1, h)) else some (.inr (if hI h a 0 = 0 then 1 else 0, h)) := by
          intro k G v hk hG
          obtain ⟨b2, g1, g2⟩ := h8 k G hk
          have hkl : k < L.length := (List.getElem?_eq_some_iff.mp hk).1
          have e1 := ih d b2 G (by omega) g2
          unfold evT at e1
          unfold lb_X19_of_11
          rw [hlen, i2_of (by omega) (by omega), if_pos (by omega), f_ldR h4 (by decide) (by omega) (by omega) (by omega), Int.toNat_natCast, g1, Option.bind_some]
          show (Option.bind (ax_dp E h (some b2) fun t => if t = 17 then f_X17_of E (some b2) (some q) h else if t = 18 then (rg_X19_of E n).2 (some b2) (some q) h else if t = 19 then (rg_X19_of E n).1 (some b2) (some q) h else none) _) = _
          rw [e1, Option.bind_some, hG]
          show (Option.bind (ax_gI E h (some q) 3 1) _) = _
          rw [f_gI h3 (by decide), h0, Option.bind_some, if_pos i2_0]
          simp only [evX, ga, Option.bind_some]
          rw [show i2 (hI h a 0) = hI h a 0 from i2_of (by omega) (by omega)]
          have hv : i2 (tv (some v)) = if v then (1 : Int) else 0 := by cases v <;> decide
          rw [hv]
          by_cases s : (if v then (1 : Int) else 0) = hI h a 0
          · rw [if_pos s, if_pos s]
          · rw [if_neg s, if_neg s]
            by_cases s0 : hI h a 0 = 0
            · rw [if_pos s0, if_pos s0]
              rfl
            · rw [if_neg s0, if_neg s0]
              rfl
        have stepE : lb_X19_of_11 E (rg_X19_of E n).1 (rg_X19_of E n).2 (some a) (some q) (some c) L.length L.length h = some (.inr (hI h a 0, h)) := by
          unfold lb_X19_of_11
          rw [hlen, if_neg (by omega), ga, Option.bind_some, if_pos b]
          rfl
        have hJ1 : ∀ (P G : Dt), P e = some (decide (hI h a 0 = 1)) → (if hI h a 0 = 0 then dO else dA) P G e = G e := by
          intro P G hP
          rcases b with b | b
          · rw [b, if_pos rfl]
            unfold dO
            rw [hP, b]
            rfl
          · rw [b, if_neg (by decide)]
            unfold dA
            rw [hP, b]
            rfl
        have hJ2 : ∀ (F G : Dt) (e : Ev), F e = none → (if hI h a 0 = 0 then dO else dA) F G e = none := by
          intro F G e hF
          split
          · unfold dO
            rw [hF]
            rfl
          · unfold dA
            rw [hF]
            rfl
        have hJ3 : ∀ (F G : Dt) (e : Ev), F e = some (decide (hI h a 0 = 0)) → (if hI h a 0 = 0 then dO else dA) F G e = some (decide (hI h a 0 = 0)) := by
          intro F G e hF
          rcases b with b | b
          · rw [b, if_pos rfl]
            unfold dO
            rw [hF, b]
            rfl
          · rw [b, if_neg (by decide)]
            unfold dA
            rw [hF, b]
            rfl
        have main : ∀ (M : List Dt) (k : Nat) (P : Dt), k ≤ L.length → L.drop k = M → P e = some (decide (hI h a 0 = 1)) → f_X19_of_11 E (rg_X19_of E n).1 (rg_X19_of E n).2 (some a) (some q) (some c) L.length k h = some (tv (M.foldl (if hI h a 0 = 0 then dO else dA) P e), evX h q (M.foldl (if hI h a 0 = 0 then dO else dA) P e)) := by
          intro M
          induction M with
          | nil =>
            intro k P hkl hM hP
            have hk : L.length ≤ k := by
              have := congrArg List.length hM
              simp at this
              omega
            have hk2 : k = L.length := by omega
            subst hk2
            refine it_done (stepE.trans ?_)
            rw [List.foldl_nil, hP]
            rcases b with b | b
            · rw [b]
              rfl
            · rw [b]
              rfl
          | cons G M ihM =>
            intro k P hkl hM hP
            have hkG : L[k]? = some G := by
              have := congrArg (fun l => l[0]?) hM
              simpa using this
            have hk1 : k < L.length := (List.getElem?_eq_some_iff.mp hkG).1
            have hM1 : L.drop (k + 1) = M := by
              have := congrArg (List.drop 1) hM
              simpa using this
            have hPG := hJ1 P G hP
            rw [List.foldl_cons]
            cases hG : G e with
            | none =>
              rw [hG] at hPG
              rw [rowF_none hJ2 M _ e hPG]
              exact it_done (stepN k G hkG hG)
            | some v =>
              rw [hG] at hPG
              have hS := stepS k G v hkG hG
              by_cases s : (if v then (1 : Int) else 0) = hI h a 0
              · rw [if_pos s] at hS
                have e9 : ax_iter (fun s : Int × ax_H => lb_X19_of_11 E (rg_X19_of E n).1 (rg_X19_of E n).2 (some a) (some q) (some c) L.length s.1 s.2) ((k : Int), h) = ax_iter (fun s : Int × ax_H => lb_X19_of_11 E (rg_X19_of E n).1 (rg_X19_of E n).2 (some a) (some q) (some c) L.length s.1 s.2) (((k + 1 : Nat) : Int), h) := it_step hS
                refine Eq.trans e9 ?_
                refine ihM (k + 1) _ (by omega) hM1 ?_
                rw [hPG, ← s]
                cases v <;> rfl
              · rw [if_neg s] at hS
                have hv : v = decide (hI h a 0 = 0) := by
                  rcases b with b | b
                  · rw [b] at s ⊢
                    cases v
                    · exact absurd rfl s
                    · rfl
                  · rw [b] at s ⊢
                    cases v
                    · rfl
                    · exact absurd rfl s
                rw [hv] at hPG
                rw [rowF_stop (b := decide (hI h a 0 = 0)) hJ3 M _ e hPG]
                refine it_done (hS.trans ?_)
                rcases b with b | b
                · rw [b]
                  rfl
                · rw [b]
                  rfl
        have fin := main L 0 (fun _ => some (decide (hI h a 0 = 1))) (by omega) rfl rfl
        have hrow : L.foldl (if hI h a 0 = 0 then dO else dA) (fun _ => some (decide (hI h a 0 = 1))) e = rowF (hI h a 0) L e := by
          cases L with
          | nil => simp at h6
          | cons F L =>
            show (L.foldl (if hI h a 0 = 0 then dO else dA) ((if hI h a 0 = 0 then dO else dA) (fun _ => some (decide (hI h a 0 = 1))) F)) e = (L.foldl (if hI h a 0 = 0 then dO else dA) F) e
            refine rowF_go L _ _ (hJ1 _ F rfl) ?_
            intro A B G hAB
            split
            · unfold dO
              rw [hAB]
            · unfold dA
              rw [hAB]
        rw [hrow] at fin
        exact fin
end
/-- nothing has changed but what is asked of (q) whether it is broken, and what clauses told -/
def Scr (q : Nat) (h h' : ax_H) : Prop := h'.1 = h.1 ∧ h'.2.1 = h.2.1 ∧ (∀ b, b ≠ q → eqT (hC h b) (hC h' b) ∧ (hT h b ≠ 15 → h'.2.2 b = h.2.2 b)) ∧ hT h' q = hT h q ∧ hL h' q = hL h q ∧ (∀ k, hR h' q k = hR h q k) ∧ ∀ k, k ≠ 1 → hI h' q k = hI h q k
theorem Scr.refl (q : Nat) (h : ax_H) : Scr q h h := ⟨rfl, rfl, fun _ _ => ⟨eqT.refl _, fun _ => rfl⟩, rfl, rfl, fun _ => rfl, fun _ _ => rfl⟩
theorem Scr.trans {q : Nat} {h h1 h2 : ax_H} (a : Scr q h h1) (b : Scr q h1 h2) : Scr q h h2 := by
  obtain ⟨a1, a2, a3, a4, a5, a6, a7⟩ := a
  obtain ⟨b1, b2, b3, b4, b5, b6, b7⟩ := b
  refine ⟨b1.trans a1, b2.trans a2, fun c hc => ⟨(a3 c hc).1.trans (b3 c hc).1, fun h15 => ?_⟩, b4.trans a4, b5.trans a5, fun k => (b6 k).trans (a6 k), fun k hk => (b7 k hk).trans (a7 k hk)⟩
  exact ((b3 c hc).2 (by have := (a3 c hc).1.1; unfold hT at h15 ⊢; omega)).trans ((a3 c hc).2 h15)
theorem Scr.broken (q : Nat) (h : ax_H) (v : Int) : Scr q h (wI h q 1 v) := ⟨rfl, rfl, fun b hb => ⟨by rw [hC_eq (hC_wI_ne hb)]; exact eqT.refl _, fun _ => hC_wI_ne hb⟩, hT_wI, hL_wI, fun k => hR_wI, fun k hk => hI_wI_ne (Or.inr hk)⟩
theorem Scr.told {q a : Nat} {h : ax_H} (v : Int) (ha : hT h a = 15) (hq : hT h q = 3) : Scr q h (wI h a 3 v) := by
  have haq : q ≠ a := by intro e; rw [e] at hq; omega
  refine ⟨rfl, rfl, fun b hb => ⟨?_, fun h15 => hC_wI_ne (by intro e; rw [e] at h15; exact h15 ha)⟩, hT_wI, hL_wI, fun k => hR_wI, fun k hk => hI_wI_ne (Or.inl haq)⟩
  by_cases e : b = a
  · subst e
    refine ⟨hT_wI, hL_wI, funext fun k => hR_wI, fun k hk => ?_⟩
    exact hI_wI_ne (Or.inr (hk ha))
  · rw [hC_eq (hC_wI_ne e)]
    exact eqT.refl _
theorem Scr.evX {α : Type} {q : Nat} {h : ax_H} (o : Option α) : Scr q h (evX h q o) := by
  cases o with
  | none => exact Scr.broken q h 1
  | some _ => exact Scr.refl q h
/-- a clause in the heap -/
def ClN (Fz : Nat → Prop) (h : ax_H) (x a : Nat) (c : Cl) : Prop := Fz a ∧ hT h a = 15 ∧ hI h a 0 = c.1 - 1 ∧ (1 ≤ c.1 ∧ c.1 ≤ 4) ∧ ((c.1 = 4 ∧ hR h a 1 = none ∧ c.2.1 = fun _ => some 1) ∨ (c.1 ≠ 4 ∧ ∃ s, hR h a 1 = some s ∧ SumN 0 Fz h x 50 s c.2.1)) ∧ ((hR h a 2 = none ∧ c.2.2 = fun _ => some true) ∨ ∃ t, hR h a 2 = some t ∧ TestN 0 Fz h x 28 t c.2.2)
theorem ClN.fr {Fz Fz' : Nat → Prop} {h h' : ax_H} {x a : Nat} {c : Cl} (hf : ∀ a, Fz a → Fz' a ∧ eqT (hC h a) (hC h' a)) (H : ClN Fz h x a c) : ClN Fz' h' x a c := by
  obtain ⟨hz, t, i0, hc, hs, ht⟩ := H
  obtain ⟨hz', e1, e2, e3, e4⟩ := hf a hz
  have eT : hT h' a = hT h a := e1
  have eR : ∀ k, hR h' a k = hR h a k := fun k => congrFun e3 k
  have eI : hI h' a 0 = hI h a 0 := e4 0 (by omega)
  refine ⟨hz', eT.trans t, eI.trans i0, hc, ?_, ?_⟩
  · rw [eR]
    rcases hs with hs | ⟨n, s, h1, h2⟩
    · exact Or.inl hs
    · exact Or.inr ⟨n, s, h1, SumN.fr hf _ _ _ h2⟩
  · rw [eR]
    rcases ht with ht | ⟨s, h1, h2⟩
    · exact Or.inl ht
    · exact Or.inr ⟨s, h1, TestN.fr hf _ _ _ h2⟩
/-- a text in the heap -/
def TxN (Fz : Nat → Prop) (h : ax_H) (x a : Nat) (L : List Cl) : Prop := Fz a ∧ hT h a = 4 ∧ ∃ c, hR h a 0 = some c ∧ Fz c ∧ hT h c = 106 ∧ hL h c = L.length ∧ L.length ≤ 12 ∧ ∀ (k : Nat) (u : Cl), L[k]? = some u → ∃ b, hR h c k = some b ∧ ClN Fz h x b u
theorem TxN.fr {Fz Fz' : Nat → Prop} {h h' : ax_H} {x a : Nat} {L : List Cl} (hf : ∀ a, Fz a → Fz' a ∧ eqT (hC h a) (hC h' a)) (H : TxN Fz h x a L) : TxN Fz' h' x a L := by
  obtain ⟨hz, t, c, h1, h2, h3, h4, h5, h6⟩ := H
  obtain ⟨hz', e1, -, e3, -⟩ := hf a hz
  obtain ⟨hc', c1, c2, c3, -⟩ := hf c h2
  have eT : hT h' a = hT h a := e1
  have eR : ∀ k, hR h' a k = hR h a k := fun k => congrFun e3 k
  have cT : hT h' c = hT h c := c1
  have cL : hL h' c = hL h c := c2
  have cR : ∀ k, hR h' c k = hR h c k := fun k => congrFun c3 k
  refine ⟨hz', eT.trans t, c, (eR 0).trans h1, hc', cT.trans h3, cL.trans h4, h5, fun k u hk => ?_⟩
  obtain ⟨b, g1, g2⟩ := h6 k u hk
  exact ⟨b, (cR k).trans g1, g2.fr hf⟩
section
variable {E : ax_E} {h : ax_H} {x q : Nat} {e : Ev} {Fz : Nat → Prop}
/-- whether a clause holds: its test, its sum -/
def hold (c : Cl) (e : Ev) : Option Int := match c.2.2 e with
  | some true => c.2.1 e
  | _ => none
theorem c_holds {a : Nat} {c : Cl} (hA : AskE 0 E (wI h q 1 0) x q e) (hE : EB e) (hq : ¬ Fz q) (H : ClN Fz h x a c) : ∃ h', f_X15_holds E (some a) (some q) h = some (if (hold c e).isSome then 1 else 0, h') ∧ Scr q h h' ∧ (c.1 ≠ 4 → ∀ v, hold c e = some v → hI h' a 3 = v) := by
  have h3 : hT h q = 3 := by
    have := hA.1
    rwa [hT_wI] at this
  have hfr : ∀ b, Fz b → Fz b ∧ eqT (hC h b) (hC (wI h q 1 0) b) := fun b hb => ⟨hb, ((Scr.broken q h 0).2.2.1 b (fun e => hq (e ▸ hb))).1⟩
  have H1 := H.fr hfr
  obtain ⟨hza, t, i0, hc, hs, ht⟩ := H1
  have i1 : ¬ i2 1 = 0 := by decide
  have haq : a ≠ q := fun e => hq (e ▸ hza)
  have g3 := hA.1
  have g0 := hA.2.1
  -- behind the test, the sum
  have body : ∃ h', f_X15_holds_23 E (some a) (some q) (wI h q 1 0) = some (if (c.2.1 e).isSome then 1 else 0, h') ∧ Scr q h h' ∧ (c.1 ≠ 4 → ∀ v, c.2.1 e = some v → hI h' a 3 = v) := by
    unfold f_X15_holds_23
    rw [f_gI g3 (by decide), g0, Option.bind_some, if_pos i2_0, f_gR t (by decide), Option.bind_some]
    rcases hs with ⟨n4, r, hF⟩ | ⟨n4, s, r, hF⟩
    · rw [r, if_pos rfl]
      refine ⟨wI (wI h q 1 0) a 3 0, ?_, (Scr.broken q h 0).trans (Scr.told 0 t g3), fun n => absurd n4 n⟩
      unfold f_X15_holds_52
      rw [f_pI t (by decide), Option.bind_some, f_gI (by rw [hT_wI]; exact g3) (by decide), hI_wI_ne (Or.inl (Ne.symm haq)), g0, Option.bind_some, if_pos i2_0, hF]
      rfl
    · rw [r, if_neg (by simp), Option.bind_some]
      have es := c_sum hA hE 64 50 s _ (by omega) hF
      unfold evS at es
      show ∃ h', (Option.bind (ax_dp E (wI h q 1 0) (some s) fun t => if t = 10 then f_X10_of E (some s) (some q) (wI h q 1 0) else if t = 11 then f_X11_of E (some s) (some q) (wI h q 1 0) else if t = 12 then f_X12_of E (some s) (some q) (wI h q 1 0) else if t = 13 then f_X13_of E (some s) (some q) (wI h q 1 0) else if t = 14 then (rg_X14_of E 64) (some s) (some q) (wI h q 1 0) else none) _) = _ ∧ _
      rw [es, Option.bind_some]
      cases hv : c.2.1 e with
      | none =>
        refine ⟨wI (wI (wI h q 1 0) q 1 1) a 3 0, ?_, ((Scr.broken q h 0).trans (Scr.broken q _ 1)).trans (Scr.told 0 (by rw [hT_wI]; exact t) (by rw [hT_wI]; exact g3)), fun _ v h => (by cases h)⟩
        unfold f_X15_holds_52
        show (Option.bind (ax_pI (wI (wI h q 1 0) q 1 1) (some a) 15 3 0) _) = _
        rw [f_pI (by rw [hT_wI]; exact t) (by decide), Option.bind_some, f_gI (by rw [hT_wI, hT_wI]; exact g3) (by decide), hI_wI_ne (Or.inl (Ne.symm haq)), hI_wI_eq, Option.bind_some, if_neg i1]
        rfl
      | some v =>
        refine ⟨wI (wI h q 1 0) a 3 v, ?_, (Scr.broken q h 0).trans (Scr.told v t g3), fun _ w hw => (by cases hw; exact hI_wI_eq)⟩
        unfold f_X15_holds_52
        show (Option.bind (ax_pI (wI h q 1 0) (some a) 15 3 v) _) = _
        rw [f_pI t (by decide), Option.bind_some, f_gI (by rw [hT_wI]; exact g3) (by decide), hI_wI_ne (Or.inl (Ne.symm haq)), g0, Option.bind_some, if_pos i2_0]
        rfl
  unfold f_X15_holds
  rw [if_pos (Or.inl rfl), f_pI h3 (by decide), Option.bind_some, f_gR t (by decide), Option.bind_some]
  rcases ht with ⟨r, hF⟩ | ⟨s, r, hF⟩
  · rw [r, if_pos rfl]
    have : hold c e = c.2.1 e := by unfold hold; rw [hF]
    rw [this]
    exact body
  · rw [r, if_neg (by simp), Option.bind_some]
    have es := c_test hA hE 64 28 s _ (by omega) hF
    unfold evT at es
    show ∃ h', (Option.bind (ax_dp E (wI h q 1 0) (some s) fun t => if t = 17 then f_X17_of E (some s) (some q) (wI h q 1 0) else if t = 18 then (rg_X19_of E 64).2 (some s) (some q) (wI h q 1 0) else if t = 19 then (rg_X19_of E 64).1 (some s) (some q) (wI h q 1 0) else none) _) = _ ∧ _
    rw [es, Option.bind_some]
    cases hv : c.2.2 e with
    | none =>
      have : hold c e = none := by unfold hold; rw [hv]
      rw [this]
      refine ⟨wI (wI h q 1 0) q 1 1, ?_, (Scr.broken q h 0).trans (Scr.broken q _ 1), fun _ v h => (by cases h)⟩
      show (if i2 0 = 0 then _ else _) = _
      rw [if_pos i2_0]
      rfl
    | some v =>
      cases v with
      | false =>
        have : hold c e = none := by unfold hold; rw [hv]
        rw [this]
        refine ⟨wI h q 1 0, ?_, Scr.broken q h 0, fun _ v h => (by cases h)⟩
        show (if i2 0 = 0 then _ else _) = _
        rw [if_pos i2_0]
        rfl
      | true =>
        have : hold c e = c.2.1 e := by unfold hold; rw [hv]
        rw [this]
        obtain ⟨h', b1, b2⟩ := body
        refine ⟨h', ?_, b2⟩
        show (if i2 1 = 0 then _ else _) = _
        rw [if_neg i1]
        exact b1
end
