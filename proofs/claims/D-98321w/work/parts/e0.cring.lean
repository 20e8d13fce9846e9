/-! Rings: the component's search -/
set_option maxRecDepth 100000
def rbC (k : Nat) (R : RB) : Bool := match R with
  | none => true
  | some (sz, _, _) => decide (k < sz)
def rbG (K : Rw) (go : Nat → Nat → (Nat → Int) → RB → RB) (k used : Nat) (row : Nat → Int) (R : RB) (p : Nat) : RB ⊕ RB := if rbC k R = true then rbF K go k used row R p else .inr R
theorem runF_id {A : Type} {f : A → Nat → A ⊕ A} {a : A} (h : ∀ k, f a k = .inl a) : ∀ j k, runF f id j k a = a := by
  intro j
  induction j with
  | zero => intro k; rfl
  | succ j ih =>
    intro k
    rw [runF_l (h k)]
    exact ih (k + 1)
theorem ringT_id (K : Rw) : ∀ (n k used : Nat) (row : Nat → Int) (R : RB), rbC k R = false → rbB k used R = false → ringT K n k used row R = R := by
  intro n
  induction n with
  | zero => intro k used row R _ _; rfl
  | succ n ih =>
    intro k used row R hc hb
    unfold ringT
    have e1 : rbT K k used row R = R := by
      unfold rbT
      rw [if_neg (fun z => by rw [hb] at z; exact Bool.false_ne_true z.2.2)]
    rw [e1]
    refine runF_id (fun p => ?_) _ _
    unfold rbF
    split
    · rfl
    · cases R with
      | none => cases hc
      | some t =>
        obtain ⟨sz, bits, fr⟩ := t
        have hc' : ¬ k < sz := by
          have : decide (k < sz) = false := hc
          exact of_decide_eq_false this
        rw [ih (k + 1) _ _ _ (by show decide (k + 1 < sz) = false; exact decide_eq_false (by omega)) (by show decide (k + 1 < sz ∨ (k + 1 = sz ∧ _)) = false; exact decide_eq_false (by omega))]
theorem rb_prune (K : Rw) (n k used : Nat) (row : Nat → Int) : ∀ (j p : Nat) (R : RB), runF (rbG K (ringT K n) k used row) id j p R = runF (rbF K (ringT K n) k used row) id j p R := by
  intro j
  induction j with
  | zero => intro p R; rfl
  | succ j ih =>
    intro p R
    by_cases c : rbC k R = true
    · have e : ∃ R', rbF K (ringT K n) k used row R p = .inl R' := ⟨_, rfl⟩
      obtain ⟨R', e⟩ := e
      rw [runF_l (f := rbG K (ringT K n) k used row) (a' := R') (by unfold rbG; rw [if_pos c]; exact e), runF_l (f := rbF K (ringT K n) k used row) e]
      exact ih _ _
    · rw [runF_r (f := rbG K (ringT K n) k used row) (r := R) (by unfold rbG; rw [if_neg c])]
      symm
      refine runF_id (fun q => ?_) _ _
      unfold rbF
      split
      · rfl
      · cases R with
        | none => exact absurd rfl c
        | some t =>
          obtain ⟨sz, bits, fr⟩ := t
          have hc' : ¬ k < sz := by
            have : ¬ decide (k < sz) = true := c
            rw [decide_eq_true_eq] at this
            exact this
          rw [ringT_id K n (k + 1) _ _ _ (by show decide (k + 1 < sz) = false; exact decide_eq_false (by omega)) (by show decide (k + 1 < sz ∨ (k + 1 = sz ∧ _)) = false; exact decide_eq_false (by omega))]
def rcR (R : RB) (a b : Int) (F : Nat → Int) : Prop := match R with
  | none => a = 100000000
  | some (sz, bits, fr) => a = sz ∧ b = bits ∧ ∀ j : Nat, j < sz → F j = fr j
/-- the ring's object and its arrays -/
def RgS (x : Nat) (h g : ax_H) : Prop := Kp x h g ∧ (g.1 = h.1 + 11 ∧ g.2.1 = h.2.1 + 76) ∧ (hT g h.1 = 27 ∧ hR g h.1 0 = some (h.1 + 1) ∧ hR g h.1 1 = some (h.1 + 9) ∧ hR g h.1 2 = some (h.1 + 10) ∧ hR g h.1 5 = some x) ∧ (hT g (h.1 + 1) = 111 ∧ hL g (h.1 + 1) = 7) ∧ (∀ j, j < 7 → hR g (h.1 + 1) j = some (h.1 + 2 + j) ∧ hT g (h.1 + 2 + j) = 100 ∧ hL g (h.1 + 2 + j) = 7) ∧ (hT g (h.1 + 9) = 100 ∧ hL g (h.1 + 9) = 7) ∧ (hT g (h.1 + 10) = 100 ∧ hL g (h.1 + 10) = 7)
theorem RgS.wI {x : Nat} {h g : ax_H} {a k : Nat} {v : Int} (H : RgS x h g) (hx : x + 116 ≤ h.1) (ha : h.1 ≤ a) : RgS x h (wI g a k v) := by
  obtain ⟨h1, h2, h3, h4, h5, h6, h7⟩ := H
  unfold RgS
  simp only [hT_wI, hR_wI, hL_wI]
  exact ⟨Kp_wIn h1 hx ha, h2, h3, h4, h5, h6, h7⟩
/-- what one owes, laid out by two -/
def RgM (h g : ax_H) (W : Int → Int → Int) : Prop := ∀ p q : Nat, p < 7 → q < 7 → hI g (h.1 + 2 + p) q = W p q
def RcI (x : Nat) (s : Sg) (h : ax_H) (k : Nat) (row : Nat → Int) (R : RB) (g : ax_H) : Prop := RgS x h g ∧ RgM h g (owed (s 2)) ∧ (∀ j : Nat, j < k → hI g (h.1 + 9) j = row j) ∧ rcR R (hI g h.1 3) (hI g h.1 4) (hI g (h.1 + 10)) ∧ rbV (s 2 152) R
section
variable {E : ax_E} {h : ax_H} {x t dl dv ds du : Nat} {s : Sg}
theorem c_mat {g : ax_H} {W : Int → Int → Int} {p q : Int} (S : RgS x h g) (M : RgM h g W) (hp : 0 ≤ p ∧ p < 7) (hq : 0 ≤ q ∧ q < 7) : ax_ldR E g (some (h.1 + 1)) 111 p = some (some (h.1 + 2 + p.toNat)) ∧ ax_ld E g (some (h.1 + 2 + p.toNat)) 100 q = some (W p q) := by
  obtain ⟨-, -, -, ⟨t1, l1⟩, r, -⟩ := S
  obtain ⟨r1, r2, r3⟩ := r p.toNat (by omega)
  refine ⟨by rw [f_ldR t1 (by decide) hp.1 (by rw [l1]; omega) (by rw [l1]; decide), r1], ?_⟩
  rw [f_ld r2 (by decide) hq.1 (by rw [r3]; omega) (by rw [r3]; decide), M p.toNat q.toNat (by omega) (by omega), Int.toNat_of_nonneg hp.1, Int.toNat_of_nonneg hq.1]
theorem c_tries (H : REP E h x t dl dv ds du s) (hK : KB (s 2)) : ∀ (n k used : Nat) (row : Nat → Int) (R : RB) (g : ax_H), 8 ≤ n + k → 1 ≤ k → used < 128 → ones16 used = k → (∀ j, j < k → 0 ≤ row j ∧ row j < s 2 152) → RcI x s h k row R g → ∃ g', rg_X27_go E n (some h.1) k used g = some g' ∧ RcI x s h k row (ringT (s 2) n k used row R) g' := by
  have hx := H.1.1.1
  have hn := hK.1
  intro n
  induction n with
  | zero =>
    intro k used row R g hf h1 hu ho
    have := ones_7 hu
    omega
  | succ n ih =>
    intro k used row R g hf h1 hu ho hr hJ
    have k7 := ones_7 hu
    have r0 := hr 0 (by omega)
    have rk := hr (k - 1) (by omega)
    have loop : ∀ (R : RB) (g : ax_H), RcI x s h k row R g → ∃ g', f_X27_go_76 E (rg_X27_go E n) (some h.1) k used g = some g' ∧ RcI x s h k row (runF (rbF (s 2) (ringT (s 2) n) k used row) id ((s 2 152).toNat - ((row 0).toNat + 1)) ((row 0).toNat + 1) R) g' := by
      intro R g hJ
      obtain ⟨g', w1, w2⟩ := it_runI (body := fun y : Int × ax_H => lb_X27_go_85 E (rg_X27_go E n) (some h.1) k used y.1 y.2) (fun (_ : RB) (p : Nat) g => ((p : Int), g)) (fun (_ : RB) g => g) (I := fun p R g => RcI x s h k row R g ∧ (row 0).toNat + 1 ≤ p) (P := fun R g => RcI x s h k row R g) (f := rbG (s 2) (ringT (s 2) n) k used row) (fin := id) (s 2 152).toNat (by
          rintro p R g hp ⟨hJ, hp0⟩
          have hJ' := hJ
          obtain ⟨S, M, p1, b1, v1⟩ := hJ
          have H1 := H.keep S.1
          obtain ⟨y1, y2⟩ := c_ppl H1
          obtain ⟨-, -, ⟨t27, f0, f1', f2, f5⟩, -, -, ⟨t9, l9⟩, -⟩ := id S
          have f1 : ∀ g : ax_H, f_X0_has E (used : Int) (p : Int) g = some (b01 (used >>> p % 2 = 1), g) := fun g => c_bit (by omega) (by omega)
          have head : ∀ {F : Option ((Int × ax_H) ⊕ ax_H)}, rbC k R = true → (if i2 (k : Int) < i2 (hI g h.1 3) then F else (some g).map Sum.inr) = F := by
            intro F hc
            have lt : i2 (k : Int) < i2 (hI g h.1 3) := by
              cases R with
              | none =>
                have b1' : hI g h.1 3 = 100000000 := b1
                rw [b1', i2_of (a := (k : Int)) (by omega) (by omega), show i2 100000000 = 100000000 by decide]
                omega
              | some t =>
                obtain ⟨sz, bits, fr⟩ := t
                obtain ⟨b3, -⟩ := b1
                obtain ⟨v2, -⟩ := v1
                have hc' : decide (k < sz) = true := hc
                rw [decide_eq_true_eq] at hc'
                rw [b3, i2_of (a := (k : Int)) (by omega) (by omega), i2_of (a := (sz : Int)) (by omega) (by omega)]
                omega
            rw [if_pos lt]
          by_cases cc : rbC k R = true
          · by_cases c1 : used >>> p % 2 = 1
            · refine ⟨_, Or.inl ⟨R, by unfold rbG rbF; rw [if_pos cc, if_pos (Or.inl c1)], ⟨hJ', by omega⟩, ?_⟩⟩
              simp only [lb_X27_go_85, f_X27_go_155]
              rw [f_gR t27 (by decide), f5, Option.bind_some, y1, Option.bind_some, y2, Option.bind_some, i2_of (a := (p : Int)) (by omega) (by omega), i2_of (a := s 2 152) (by omega) (by omega), if_pos (by omega), f_gI t27 (by decide), Option.bind_some, head cc, f1, Option.bind_some]
              dsimp only
              rw [if_neg (by rw [b01_z]; exact fun z => z c1)]
              simp
            · have ob := owed_b hK.2.2.2.2 (row (k - 1)) p
              obtain ⟨m1, m2⟩ := c_mat (E := E) (p := row (k - 1)) (q := (p : Int)) S M (by omega) (by omega)
              have e9 : hI g (h.1 + 9) ((k : Int) - 1).toNat = row (k - 1) := by
                rw [show ((k : Int) - 1).toNat = k - 1 by omega]
                exact p1 (k - 1) (by omega)
              by_cases c2 : owed (s 2) (row (k - 1)) p = 0
              · refine ⟨_, Or.inl ⟨R, by unfold rbG rbF; rw [if_pos cc, if_pos (Or.inr c2)], ⟨hJ', by omega⟩, ?_⟩⟩
                simp only [lb_X27_go_85, f_X27_go_155]
                rw [f_gR t27 (by decide), f5, Option.bind_some, y1, Option.bind_some, y2, Option.bind_some, i2_of (a := (p : Int)) (by omega) (by omega), i2_of (a := s 2 152) (by omega) (by omega), if_pos (by omega), f_gI t27 (by decide), Option.bind_some, head cc, f1, Option.bind_some]
                dsimp only
                rw [if_pos (by rw [b01_z]; exact c1), f_gR t27 (by decide), f0, Option.bind_some, f_gR t27 (by decide), f1', Option.bind_some, f_ld t9 (by decide) (by omega) (by rw [l9]; omega) (by rw [l9]; decide), Option.bind_some, e9, m1, Option.bind_some, m2, Option.bind_some, c2, if_pos (by decide)]
                simp
              · obtain ⟨u1', u2'⟩ := set_or hu (by omega) c1
                have k8 := ones_7 u1'
                have eo : ax_or (used : Int) (ax_shl 1 (p : Int)) = ((used ||| 2 ^ p : Nat) : Int) := by
                  have pp := ones_p (p := p) (by omega)
                  rw [shl1 (by omega), or_nat (by omega) (by omega)]
                have hI2 : RcI x s h (k + 1) (rbU row k p) R (wI g (h.1 + 9) k p) := by
                  refine ⟨S.wI hx (by omega), fun a b ha hb => by rw [hI_wI_ne (by omega)]; exact M a b ha hb, fun j hj => ?_, ?_, v1⟩
                  · unfold rbU
                    by_cases cj : j = k
                    · subst cj; rw [hI_wI_eq, if_pos rfl]
                    · rw [hI_wI_ne (by omega), if_neg cj]; exact p1 j (by omega)
                  · have z3 : hI (wI g (h.1 + 9) k p) h.1 3 = hI g h.1 3 := hI_wI_ne (by omega)
                    have z4 : hI (wI g (h.1 + 9) k p) h.1 4 = hI g h.1 4 := hI_wI_ne (by omega)
                    have z10 : hI (wI g (h.1 + 9) k p) (h.1 + 10) = hI g (h.1 + 10) := by funext j; exact hI_wI_ne (by omega)
                    rw [z3, z4, z10]
                    exact b1
                obtain ⟨g2, x1, x2⟩ := ih (k + 1) (used ||| 2 ^ p) (rbU row k p) R _ (by omega) (by omega) u1' (by omega) (fun j hj => by
                  unfold rbU
                  by_cases cj : j = k
                  · rw [if_pos cj]; omega
                  · rw [if_neg cj]; exact hr j (by omega)) hI2
                have hI3 : RcI x s h k row (ringT (s 2) n (k + 1) (used ||| 2 ^ p) (rbU row k p) R) g2 := by
                  obtain ⟨y1, y2, y3, y4, y5⟩ := x2
                  refine ⟨y1, y2, fun j hj => ?_, y4, y5⟩
                  rw [y3 j (by omega)]
                  unfold rbU
                  rw [if_neg (by omega)]
                refine ⟨g2, Or.inl ⟨_, by unfold rbG rbF; rw [if_pos cc, if_neg (fun z => z.elim c1 c2)], ⟨hI3, by omega⟩, ?_⟩⟩
                simp only [lb_X27_go_85, f_X27_go_155]
                rw [f_gR t27 (by decide), f5, Option.bind_some, y1, Option.bind_some, y2, Option.bind_some, i2_of (a := (p : Int)) (by omega) (by omega), i2_of (a := s 2 152) (by omega) (by omega), if_pos (by omega), f_gI t27 (by decide), Option.bind_some, head cc, f1, Option.bind_some]
                dsimp only
                rw [if_pos (by rw [b01_z]; exact c1), f_gR t27 (by decide), f0, Option.bind_some, f_gR t27 (by decide), f1', Option.bind_some, f_ld t9 (by decide) (by omega) (by rw [l9]; omega) (by rw [l9]; decide), Option.bind_some, e9, m1, Option.bind_some, m2, Option.bind_some, i2_of (a := owed _ _ _) (by omega) (by omega), if_neg c2, Option.bind_some, f_sto t9 (by decide) (by omega) (by rw [l9]; omega) (by rw [l9]; decide), Option.bind_some, Int.toNat_natCast, f_ce (by rw [hT_wI]; exact t27) (by decide), Option.bind_some, eo]
                have x1' : rg_X27_go E n (some h.1) ((k : Int) + 1) ((used ||| 2 ^ p : Nat) : Int) (wI g (h.1 + 9) k p) = some g2 := x1
                rw [x1', Option.bind_some]
                simp
          · refine ⟨g, Or.inr ⟨R, by unfold rbG; rw [if_neg cc], hJ', ?_⟩⟩
            simp only [lb_X27_go_85]
            rw [f_gR t27 (by decide), f5, Option.bind_some, y1, Option.bind_some, y2, Option.bind_some, i2_of (a := (p : Int)) (by omega) (by omega), i2_of (a := s 2 152) (by omega) (by omega), if_pos (by omega), f_gI t27 (by decide), Option.bind_some]
            have nlt : ¬ i2 (k : Int) < i2 (hI g h.1 3) := by
              cases R with
              | none => exact absurd rfl cc
              | some t =>
                obtain ⟨sz, bits, fr⟩ := t
                obtain ⟨b3, -⟩ := b1
                obtain ⟨v2, -⟩ := v1
                have hc' : ¬ decide (k < sz) = true := cc
                rw [decide_eq_true_eq] at hc'
                rw [b3, i2_of (a := (k : Int)) (by omega) (by omega), i2_of (a := (sz : Int)) (by omega) (by omega)]
                omega
            rw [if_neg nlt]
            rfl) (by
          rintro R g ⟨hJ, -⟩
          have H1 := H.keep hJ.1.1
          obtain ⟨y1, y2⟩ := c_ppl H1
          obtain ⟨-, -, ⟨t27, f0, f1', f2, f5⟩, -⟩ := id hJ.1
          refine ⟨_, hJ, ?_⟩
          simp only [lb_X27_go_85]
          rw [f_gR t27 (by decide), f5, Option.bind_some, y1, Option.bind_some, y2, Option.bind_some, i2_of (a := (((s 2 152).toNat : Nat) : Int)) (by omega) (by omega), i2_of (a := s 2 152) (by omega) (by omega), if_neg (by omega)]
          rfl) ((s 2 152).toNat - ((row 0).toNat + 1)) ((row 0).toNat + 1) R g (by omega) ⟨hJ, by omega⟩
      rw [rb_prune] at w1
      refine ⟨g', ?_, w1⟩
      obtain ⟨S, M, p1, b1, v1⟩ := hJ
      obtain ⟨-, -, ⟨t27, f0, f1', f2, f5⟩, -, -, ⟨t9, l9⟩, -⟩ := id S
      have e0 := p1 0 (by omega)
      unfold f_X27_go_76 f_X27_go_85
      rw [f_gR t27 (by decide), f1', Option.bind_some, f_ld t9 (by decide) (by decide) (by rw [l9]; decide) (by rw [l9]; decide), Option.bind_some, show hI g (h.1 + 9) (0 : Int).toNat = row 0 from e0, show row 0 + 1 = (((row 0).toNat + 1 : Nat) : Int) by omega]
      exact w2
    obtain ⟨S, M, p1, b1, v1⟩ := id hJ
    obtain ⟨kp, -, ⟨t27, f0, f1', f2, f5⟩, -, -, ⟨t9, l9⟩, ⟨t10, l10⟩⟩ := id S
    have e0 : Hid (hI g (h.1 + 9) 0 = row 0) := p1 0 (by omega)
    have ek : Hid (hI g (h.1 + 9) ((k : Int) - 1).toNat = row (k - 1)) := by
      show hI g (h.1 + 9) ((k : Int) - 1).toNat = row (k - 1)
      rw [show ((k : Int) - 1).toNat = k - 1 by omega]
      exact p1 (k - 1) (by omega)
    have ob := owed_b hK.2.2.2.2 (row (k - 1)) (row 0)
    obtain ⟨m1, m2⟩ := c_mat (E := E) (p := row (k - 1)) (q := row 0) S M (by omega) (by omega)
    have no : ¬ (1 < k ∧ 0 < owed (s 2) (row (k - 1)) (row 0) ∧ rbB k used R = true) → ∃ g', f_X27_go_76 E (rg_X27_go E n) (some h.1) k used g = some g' ∧ RcI x s h k row (ringT (s 2) (n + 1) k used row R) g' := by
      intro c
      obtain ⟨g', w1, w2⟩ := loop R _ hJ
      refine ⟨g', w1, ?_⟩
      unfold ringT rbT
      rw [if_neg c]
      exact w2
    have yes : (1 < k ∧ 0 < owed (s 2) (row (k - 1)) (row 0) ∧ rbB k used R = true) → ∃ g', f_X27_go_52 E (rg_X27_go E n) (some h.1) k used g = some g' ∧ RcI x s h k row (ringT (s 2) (n + 1) k used row R) g' := by
      intro c
      obtain ⟨g1, eg1⟩ : ∃ g1, g1 = wI (wI g h.1 3 k) h.1 4 used := ⟨_, rfl⟩
      have S1 : RgS x h g1 := by rw [eg1]; exact (S.wI hx (Nat.le_refl _)).wI hx (Nat.le_refl _)
      obtain ⟨kp1, z1, ⟨t27', f0', f1'', f2', f5'⟩, w4, w5, ⟨t9', l9'⟩, ⟨t10', l10'⟩⟩ := id S1
      have S2 : RgS x h (cpH g1 (h.1 + 9) (h.1 + 10) 0 0 k) := by
        refine ⟨Kp_cpn kp1 hx (by omega), z1, ?_, ?_, fun j hj => ?_, ?_, ?_⟩
        · rw [hT_cp, hR_cp_ne (by omega), hR_cp_ne (by omega), hR_cp_ne (by omega), hR_cp_ne (by omega)]; exact ⟨t27', f0', f1'', f2', f5'⟩
        · rw [hT_cp, hL_cp]; exact w4
        · rw [hR_cp_ne (by omega), hT_cp, hL_cp]; exact w5 j hj
        · rw [hT_cp, hL_cp]; exact ⟨t9', l9'⟩
        · rw [hT_cp, hL_cp]; exact ⟨t10', l10'⟩
      have i9 : ∀ j, hI g1 (h.1 + 9) j = hI g (h.1 + 9) j := fun j => by rw [eg1, hI_wI_ne (by omega), hI_wI_ne (by omega)]
      obtain ⟨g', w1, w2⟩ := loop (some (k, used, row)) (cpH g1 (h.1 + 9) (h.1 + 10) 0 0 k) (by
        refine ⟨S2, fun a b ha hb => ?_, fun j hj => ?_, ⟨?_, ?_, fun j hj => ?_⟩, ⟨⟨by omega, by omega⟩, hu, hr⟩⟩
        · rw [hI_cp_ne (by omega), eg1, hI_wI_ne (by omega), hI_wI_ne (by omega)]; exact M a b ha hb
        · rw [hI_cp_ne (by omega), i9]; exact p1 j hj
        · rw [hI_cp_ne (by omega), eg1, hI_wI_ne (by omega), hI_wI_eq]
        · rw [hI_cp_ne (by omega), eg1, hI_wI_eq]
        · rw [hI_cp, if_pos ⟨rfl, by omega, by omega⟩, i9, show 0 + (j - 0) = j by omega]; exact p1 j hj)
      refine ⟨g', ?_, ?_⟩
      · unfold f_X27_go_52
        have cpe : ax_cp E g1 ax_anyP (some (h.1 + 9)) 100 0 (some (h.1 + 10)) 0 (k : Int) = some (cpH g1 (h.1 + 9) (h.1 + 10) (0 : Int).toNat (0 : Int).toNat ((k : Int)).toNat) := f_cpI t9' t10' (by decide) (by rw [l9']; decide) (by rw [l10']; decide) (by decide) (by decide) (by omega) (by rw [l9']; omega) (by rw [l10']; omega)
        rw [f_pI t27 (by decide), Option.bind_some, f_pI (by rw [hT_wI]; exact t27) (by decide), Option.bind_some, ← eg1, f_gR t27' (by decide), f1'', Option.bind_some, f_gR t27' (by decide), f2', Option.bind_some, cpe, Option.bind_some, Int.toNat_natCast]
        exact w1
      · unfold ringT rbT
        rw [if_pos c]
        exact w2
    show ∃ g', f_X27_go E (rg_X27_go E n) (some h.1) k used g = some g' ∧ _
    unfold f_X27_go
    rw [show i2 1 = 1 by decide, i2_of (a := (k : Int)) (by omega) (by omega)]
    by_cases c1 : 1 < k
    · rw [if_pos (by omega), f_gR t27 (by decide), f0, Option.bind_some, f_gR t27 (by decide), f1', Option.bind_some, f_ld t9 (by decide) (by omega) (by rw [l9]; omega) (by rw [l9]; decide), Option.bind_some, ek.out, m1, Option.bind_some, Option.bind_some, f_ld t9 (by decide) (by decide) (by rw [l9]; decide) (by rw [l9]; decide), Option.bind_some, show hI g (h.1 + 9) (0 : Int).toNat = row 0 from e0.out, m2, Option.bind_some, i2_of (a := owed _ _ _) (by omega) (by omega)]
      by_cases c2 : 0 < owed (s 2) (row (k - 1)) (row 0)
      · rw [if_pos c2, f_gI t27 (by decide), Option.bind_some]
        cases R with
        | none =>
          have b1' : hI g h.1 3 = 100000000 := b1
          rw [b1', show i2 100000000 = 100000000 by decide, if_pos (by omega)]
          exact yes ⟨c1, c2, rfl⟩
        | some t =>
          obtain ⟨sz, bits, fr⟩ := t
          obtain ⟨b3, b4, -⟩ := b1
          obtain ⟨v2, v3, -⟩ := v1
          rw [b3, i2_of (a := (sz : Int)) (by omega) (by omega)]
          by_cases c3 : k < sz
          · rw [if_pos (by omega)]
            exact yes ⟨c1, c2, by show decide (_ ∨ _) = true; rw [decide_eq_true_eq]; exact Or.inl c3⟩
          · rw [if_neg (by omega), Option.bind_some, i2_of (a := (sz : Int)) (by omega) (by omega)]
            by_cases c4 : k = sz
            · rw [if_pos (by omega), f_gI t27 (by decide), Option.bind_some, b4, i2_of (a := (used : Int)) (by omega) (by omega), i2_of (a := (bits : Int)) (by omega) (by omega)]
              by_cases c5 : used < bits
              · rw [if_pos (by omega)]
                exact yes ⟨c1, c2, by show decide (_ ∨ _) = true; rw [decide_eq_true_eq]; exact Or.inr ⟨c4, c5⟩⟩
              · rw [if_neg (by omega)]
                exact no (fun z => by have z3 : decide (_ ∨ _) = true := z.2.2; rw [decide_eq_true_eq] at z3; omega)
            · rw [if_neg (by omega)]
              exact no (fun z => by have z3 : decide (_ ∨ _) = true := z.2.2; rw [decide_eq_true_eq] at z3; omega)
      · rw [if_neg c2]
        exact no (fun z => c2 z.2.1)
    · rw [if_neg (by omega)]
      exact no (fun z => c1 z.1)
end
