/-! Rings: what is meant; the model -/
set_option maxRecDepth 100000
abbrev RB : Type := Option (Nat × Nat × (Nat → Int))
def rbU (row : Nat → Int) (k : Nat) (p : Int) : Nat → Int := fun j => if j = k then p else row j
def rbB (k used : Nat) (R : RB) : Bool := match R with
  | none => true
  | some (sz, bits, _) => decide (k < sz ∨ (k = sz ∧ used < bits))
/-- a ring found, if there is one -/
def rbT (K : Rw) (k used : Nat) (row : Nat → Int) (R : RB) : RB := if 1 < k ∧ 0 < owed K (row (k - 1)) (row 0) ∧ rbB k used R = true then some (k, used, row) else R
def rbF (K : Rw) (go : Nat → Nat → (Nat → Int) → RB → RB) (k used : Nat) (row : Nat → Int) (R : RB) (p : Nat) : RB ⊕ RB := .inl (if used >>> p % 2 = 1 ∨ owed K (row (k - 1)) p = 0 then R else go (k + 1) (used ||| 2 ^ p) (rbU row k p) R)
def ringT (K : Rw) : Nat → Nat → Nat → (Nat → Int) → RB → RB
  | 0, _, _, _, R => R
  | f + 1, k, used, row, R => runF (rbF K (ringT K f) k used row) id ((K 152).toNat - ((row 0).toNat + 1)) ((row 0).toNat + 1) (rbT K k used row R)
def ringS (K : Rw) : RB := runF (fun R (p : Nat) => (.inl (ringT K 64 1 (2 ^ p) (fun _ => (p : Int)) R) : RB ⊕ RB)) id (K 152).toNat 0 none
def rbV (n : Int) (R : RB) : Prop := match R with
  | none => True
  | some (sz, bits, fr) => (2 ≤ sz ∧ sz ≤ 7) ∧ bits < 128 ∧ ∀ j, j < sz → 0 ≤ fr j ∧ fr j < n
theorem rbT_V {n : Int} {K : Rw} {k used : Nat} {row : Nat → Int} {R : RB} (h : rbV n R) (hk : k ≤ 7) (hu : used < 128) (hr : ∀ j, j < k → 0 ≤ row j ∧ row j < n) : rbV n (rbT K k used row R) := by
  unfold rbT
  split
  · rename_i c
    exact ⟨⟨by omega, hk⟩, hu, hr⟩
  · exact h
theorem set_f3 : al7 (fun st => al7 (fun p => bitB st p || (decide (st ||| 2 ^ p < 128) && Nat.beq (onN (st ||| 2 ^ p)) (onN st + 1))) 7) 128 = true := by decide +kernel
theorem set_f4 : al7 (fun n => al7 (fun st => decide (2 ^ n ≤ st) || al7 (fun p => decide (n ≤ p) || decide (st ||| 2 ^ p < 2 ^ n)) 7) 128) 8 = true := by decide +kernel
theorem onN_eq (n : Nat) : onN n = ones16 n := by
  show ((n >>> 0 % 2 + n >>> 1 % 2 + (n >>> 2 % 2 + n >>> 3 % 2)) + (n >>> 4 % 2 + n >>> 5 % 2 + (n >>> 6 % 2 + n >>> 7 % 2))) + ((n >>> 8 % 2 + n >>> 9 % 2 + (n >>> 10 % 2 + n >>> 11 % 2)) + (n >>> 12 % 2 + n >>> 13 % 2 + (n >>> 14 % 2 + n >>> 15 % 2))) = _
  unfold ones16
  rw [Nat.shiftRight_zero]
  omega
theorem set_or {st p : Nat} (hs : st < 128) (hp : p < 7) (hb : ¬ st >>> p % 2 = 1) : st ||| 2 ^ p < 128 ∧ ones16 (st ||| 2 ^ p) = ones16 st + 1 := by
  have h := al7_e _ (al7_e _ set_f3 st hs) p hp
  have hb' : bitB st p = false := by
    cases e : bitB st p with
    | false => rfl
    | true => exact absurd (bitB_iff.mp e) hb
  rw [hb'] at h
  simp only [Bool.false_or, Bool.and_eq_true, decide_eq_true_eq] at h
  refine ⟨h.1, ?_⟩
  rw [← onN_eq, ← onN_eq]
  exact Nat.eq_of_beq_eq_true h.2
theorem set_f5 : al7 (fun st => decide (onN st ≤ 7)) 128 = true := by decide +kernel
theorem set_f6 : al7 (fun p => Nat.beq (onN (2 ^ p)) 1 && decide (2 ^ p < 128)) 7 = true := by decide +kernel
theorem ones_7 {st : Nat} (h : st < 128) : ones16 st ≤ 7 := by
  have := al7_e _ set_f5 st h
  rw [decide_eq_true_eq, onN_eq] at this
  exact this
theorem ones_p {p : Nat} (h : p < 7) : ones16 (2 ^ p) = 1 ∧ 2 ^ p < 128 := by
  have := al7_e _ set_f6 p h
  rw [Bool.and_eq_true, decide_eq_true_eq] at this
  rw [← onN_eq]
  exact ⟨Nat.eq_of_beq_eq_true this.1, this.2⟩
section
variable {E : ax_E} {m : Nat} {s : Sg} {h : ax_H}
def rbR (R : RB) (a b : Int) (F : Rw) : Prop := match R with
  | none => a = 0
  | some (sz, bits, fr) => a = sz ∧ b = bits ∧ ∀ j : Nat, j < sz → F j = fr j
/-- the model while it looks for rings -/
def RgI (m : Nat) (s : Sg) (h : ax_H) (k : Nat) (row : Nat → Int) (R : RB) (g : ax_H) : Prop := ∃ s', g = mdl m s' h ∧ Ew s s' ∧ (∀ j : Nat, j < k → s' 24 j = row j) ∧ rbR R (s' 0 43) (s' 0 44) (s' 25) ∧ rbV (s 2 152) R
theorem m_tries (hG : G32 s) (hK : KB (s 2)) : ∀ (n k used : Nat) (row : Nat → Int) (R : RB) (g : ax_H), 8 ≤ n + k → 1 ≤ k → used < 128 → ones16 used = k → (∀ j, j < k → 0 ≤ row j ∧ row j < s 2 152) → RgI m s h k row R g → ∃ g', rg_X5_triesRing E n (some m) k used g = some g' ∧ RgI m s h k row (ringT (s 2) n k used row R) g' := by
  have h71 := hK.2.2.2.2.1
  have hn := hK.1
  intro n
  induction n with
  | zero =>
    intro k used row R g hf h1 hu ho
    have := ones_7 hu
    omega
  | succ n ih =>
    intro k used row R g hf h1 hu ho hr hI
    have k7 := ones_7 hu
    have r0 := hr 0 (by omega)
    have rk := hr (k - 1) (by omega)
    have ow : ∀ (s1 : Sg) (p q : Int), Ew s s1 → i2 p = p → i2 q = q → f_X5_owed E (some m) p q (mdl m s1 h) = some (owed (s 2) p q, mdl m s1 h) := fun s1 p q e hp hq => by
      have := m_owed (E := E) (m := m) (h := h) (p := p) (q := q) (e.2.2 hG) (by rw [e.k]; exact h71.1) (by rw [e.k]; exact h71.2) hp hq
      rw [e.k] at this
      exact this
    -- the loop
    have loop : ∀ (R : RB) (g : ax_H), RgI m s h k row R g → ∃ g', f_X5_triesRing_98 E (rg_X5_triesRing E n) (some m) k used (row (k - 1)) g = some g' ∧ RgI m s h k row (runF (rbF (s 2) (ringT (s 2) n) k used row) id ((s 2 152).toNat - ((row 0).toNat + 1)) ((row 0).toNat + 1) R) g' := by
      intro R g hI
      obtain ⟨g', w1, w2⟩ := it_runI (body := fun y : Int × ax_H => lb_X5_triesRing_108 E (rg_X5_triesRing E n) (some m) k used (row (k - 1)) y.1 y.2) (fun (_ : RB) (p : Nat) g => ((p : Int), g)) (fun (_ : RB) g => g) (I := fun p R g => RgI m s h k row R g ∧ (row 0).toNat + 1 ≤ p) (P := fun R g => RgI m s h k row R g) (f := rbF (s 2) (ringT (s 2) n) k used row) (fin := id) (s 2 152).toNat (by
          rintro p R g hp ⟨hI, hp0⟩
          have hI' := hI
          obtain ⟨s1, rfl, q1, p1, b1, v1⟩ := hI
          have hk2 := q1.k
          have f1 : ∀ g : ax_H, f_X5_isIn E (used : Int) (p : Int) g = some (b01 (used >>> p % 2 = 1), g) := fun g => m_isIn (by omega) (by omega)
          have ob := owed_b hK.2.2.2.2 (row (k - 1)) p
          by_cases c1 : used >>> p % 2 = 1
          · refine ⟨_, Or.inl ⟨R, by unfold rbF; rw [if_pos (Or.inl c1)], ⟨hI', by omega⟩, ?_⟩⟩
            simp only [lb_X5_triesRing_108, f_X5_triesRing_160]
            rw [md_ce, Option.bind_some, m_people, Option.bind_some, hk2]
            dsimp only
            rw [i2_of (a := (p : Int)) (by omega) (by omega), i2_of (a := s 2 152) (by omega) (by omega), if_pos (by omega), f1, Option.bind_some]
            dsimp only
            rw [if_neg (by rw [b01_z]; exact fun z => z c1)]
            simp
          · by_cases c2 : owed (s 2) (row (k - 1)) p = 0
            · refine ⟨_, Or.inl ⟨R, by unfold rbF; rw [if_pos (Or.inr c2)], ⟨hI', by omega⟩, ?_⟩⟩
              simp only [lb_X5_triesRing_108, f_X5_triesRing_160]
              rw [md_ce, Option.bind_some, m_people, Option.bind_some, hk2]
              dsimp only
              rw [i2_of (a := (p : Int)) (by omega) (by omega), i2_of (a := s 2 152) (by omega) (by omega), if_pos (by omega), f1, Option.bind_some]
              dsimp only
              rw [if_pos (by rw [b01_z]; exact c1), md_ce, Option.bind_some, ow s1 _ _ q1 (i2_of (by omega) (by omega)) (i2_of (by omega) (by omega)), Option.bind_some, c2]
              dsimp only
              rw [if_pos (by decide)]
              simp
            · obtain ⟨u1', u2'⟩ := set_or hu (by omega) c1
              have k8 := ones_7 u1'
              have st24 : ax_sto (mdl m s1 h) (some (m + 24)) 100 (k : Int) (p : Int) = some (mdl m (sw s1 24 (u1 (s1 24) k p)) h) := md_sto24 (by omega) (by omega)
              have eo : ax_or (used : Int) (ax_shl 1 (p : Int)) = ((used ||| 2 ^ p : Nat) : Int) := by
                have pp := ones_p (p := p) (by omega)
                rw [shl1 (by omega), or_nat (by omega) (by omega)]
              have hI2 : RgI m s h (k + 1) (rbU row k p) R (mdl m (sw s1 24 (u1 (s1 24) k p)) h) := by
                refine ⟨_, rfl, q1.trans (Ew_u (by unfold RpO; omega) (by decide) (q1.2.2 hG) (i2_of (by omega) (by omega))), fun j hj => ?_, ?_, v1⟩
                · rw [sw_eq]
                  unfold rbU
                  by_cases cj : j = k
                  · subst cj; rw [u1_eq, if_pos rfl]
                  · rw [u1_ne _ (by omega), if_neg cj]; exact p1 j (by omega)
                · rw [sw_ne _ (by decide), sw_ne _ (by decide)]; exact b1
              obtain ⟨g2, x1, x2⟩ := ih (k + 1) (used ||| 2 ^ p) (rbU row k p) R _ (by omega) (by omega) u1' (by omega) (fun j hj => by
                unfold rbU
                by_cases cj : j = k
                · rw [if_pos cj]; omega
                · rw [if_neg cj]; exact hr j (by omega)) hI2
              have hI3 : RgI m s h k row (ringT (s 2) n (k + 1) (used ||| 2 ^ p) (rbU row k p) R) g2 := by
                obtain ⟨s2, y1, y2, y3, y4, y5⟩ := x2
                refine ⟨s2, y1, y2, fun j hj => ?_, y4, y5⟩
                rw [y3 j (by omega)]
                unfold rbU
                rw [if_neg (by omega)]
              refine ⟨g2, Or.inl ⟨_, by unfold rbF; rw [if_neg (fun z => z.elim c1 c2)], ⟨hI3, by omega⟩, ?_⟩⟩
              simp only [lb_X5_triesRing_108, f_X5_triesRing_160]
              rw [md_ce, Option.bind_some, m_people, Option.bind_some, hk2]
              dsimp only
              rw [i2_of (a := (p : Int)) (by omega) (by omega), i2_of (a := s 2 152) (by omega) (by omega), if_pos (by omega), f1, Option.bind_some]
              dsimp only
              rw [if_pos (by rw [b01_z]; exact c1), md_ce, Option.bind_some, ow s1 _ _ q1 (i2_of (by omega) (by omega)) (i2_of (by omega) (by omega)), Option.bind_some]
              dsimp only
              rw [i2_of (a := owed _ _ _) (by omega) (by omega), if_neg c2, md_gR41, Option.bind_some, st24, Option.bind_some, md_ce, Option.bind_some, eo]
              have x1' : rg_X5_triesRing E n (some m) ((k : Int) + 1) ((used ||| 2 ^ p : Nat) : Int) (mdl m (sw s1 24 (u1 (s1 24) k p)) h) = some g2 := x1
              rw [x1', Option.bind_some]
              simp) (by
          rintro R g ⟨hI, -⟩
          have hI' := hI
          obtain ⟨s1, rfl, q1, p1, b1, v1⟩ := hI
          have hk2 := q1.k
          refine ⟨_, hI', ?_⟩
          simp only [lb_X5_triesRing_108]
          rw [md_ce, Option.bind_some, m_people, Option.bind_some, hk2]
          dsimp only
          rw [i2_of (a := (((s 2 152).toNat : Nat) : Int)) (by omega) (by omega), i2_of (a := s 2 152) (by omega) (by omega), if_neg (by omega)]
          rfl) ((s 2 152).toNat - ((row 0).toNat + 1)) ((row 0).toNat + 1) R g (by omega) ⟨hI, by omega⟩
      refine ⟨g', ?_, w1⟩
      obtain ⟨s1, rfl, q1, p1, b1, v1⟩ := hI
      have e0 := p1 0 (by omega)
      unfold f_X5_triesRing_98 f_X5_triesRing_108
      rw [md_gR41, Option.bind_some, md_ld24 (by decide) (by decide), Option.bind_some, show s1 24 0 = row 0 from e0, show row 0 + 1 = (((row 0).toNat + 1 : Nat) : Int) by omega]
      exact w2
    obtain ⟨s1, rfl, q1, p1, b1, v1⟩ := hI
    have e0 : Hid (s1 24 0 = row 0) := p1 0 (by omega)
    have ek : Hid (s1 24 ((k : Int) - 1) = row (k - 1)) := by
      show s1 24 ((k : Int) - 1) = row (k - 1)
      have := p1 (k - 1) (by omega)
      rw [← this]
      congr 1
      omega
    have ob := owed_b hK.2.2.2.2 (row (k - 1)) (row 0)
    have no : ¬ (1 < k ∧ 0 < owed (s 2) (row (k - 1)) (row 0) ∧ rbB k used R = true) → ∃ g', f_X5_triesRing_98 E (rg_X5_triesRing E n) (some m) k used (row (k - 1)) (mdl m s1 h) = some g' ∧ RgI m s h k row (ringT (s 2) (n + 1) k used row R) g' := by
      intro c
      obtain ⟨g', w1, w2⟩ := loop R _ ⟨s1, rfl, q1, p1, b1, v1⟩
      refine ⟨g', w1, ?_⟩
      unfold ringT rbT
      rw [if_neg c]
      exact w2
    have yes : (1 < k ∧ 0 < owed (s 2) (row (k - 1)) (row 0) ∧ rbB k used R = true) → ∃ g', f_X5_triesRing_59 E (rg_X5_triesRing E n) (some m) k used (row (k - 1)) (mdl m s1 h) = some g' ∧ RgI m s h k row (ringT (s 2) (n + 1) k used row R) g' := by
      intro c
      obtain ⟨s2, es2⟩ : ∃ s2, s2 = sw (sw s1 0 (u1 (s1 0) 43 k)) 0 (u1 ((sw s1 0 (u1 (s1 0) 43 k)) 0) 44 used) := ⟨_, rfl⟩
      have q2 : Ew s s2 := by
        rw [es2]
        exact q1.trans ((Ew_0 (k := 43) (by unfold RpK; omega) (i2_of (by omega) (by omega))).trans (Ew_0 (k := 44) (by unfold RpK; omega) (i2_of (by omega) (by omega))))
      have z43 : Hid (s2 0 43 = k) := by show s2 0 43 = k; rw [es2, sw_eq, u1_ne _ (by decide), sw_eq, u1_eq]
      have z44 : Hid (s2 0 44 = used) := by show s2 0 44 = used; rw [es2, sw_eq, u1_eq]
      have z24 : s2 24 = s1 24 := by rw [es2, sw_ne _ (by decide), sw_ne _ (by decide)]
      have lp := it_traj (body := fun y : Int × ax_H => lb_X5_triesRing_72 E (rg_X5_triesRing E n) (some m) k used (row (k - 1)) y.1 y.2) (fun j => ((j : Int), mdl m (sw s2 25 (cpR (s2 25) 0 (s2 24) j)) h)) k (r := (f_X5_triesRing_98 E (rg_X5_triesRing E n) (some m) k used (row (k - 1)) (mdl m (sw s2 25 (cpR (s2 25) 0 (s2 24) k)) h)).getD (0, 0, fun _ => none))
      obtain ⟨g', w1, w2⟩ := loop (some (k, used, row)) (mdl m (sw s2 25 (cpR (s2 25) 0 (s2 24) k)) h) (by
        refine ⟨_, rfl, q2.trans (Ew_o (by unfold RpO; omega) (by decide) (cpR_32 (q2.2.2 hG 25) (q2.2.2 hG 24))), fun j hj => ?_, ⟨?_, ?_, fun j hj => ?_⟩, ⟨⟨by omega, by omega⟩, hu, hr⟩⟩
        · rw [sw_ne _ (by decide), z24]; exact p1 j hj
        · rw [sw_ne _ (by decide)]; exact z43.out
        · rw [sw_ne _ (by decide)]; exact z44.out
        · rw [sw_eq, cpR_in (by omega), z24, show (j : Int) - 0 = j by omega]; exact p1 j hj)
      rw [w1] at lp
      refine ⟨g', ?_, ?_⟩
      · have p43 : ax_pI (mdl m s1 h) (some m) 5 43 (k : Int) = some (mdl m (sw s1 0 (u1 (s1 0) 43 k)) h) := md_pI43
        have p44 : ax_pI (mdl m (sw s1 0 (u1 (s1 0) 43 k)) h) (some m) 5 44 (used : Int) = some (mdl m s2 h) := by rw [es2]; exact md_pI44
        unfold f_X5_triesRing_59 f_X5_triesRing_72
        rw [p43, Option.bind_some, p44, Option.bind_some]
        have e := lp (fun j hj => by
          simp only [lb_X5_triesRing_72]
          rw [i2_of (a := (j : Int)) (by omega) (by omega), i2_of (a := (k : Int)) (by omega) (by omega), if_pos (by omega), md_gR42, Option.bind_some, md_gR41, Option.bind_some, md_ld24 (by omega) (by omega), Option.bind_some, md_sto25 (by omega) (by omega), Option.bind_some, sw_eq, sw_sw, sw_ne _ (by decide), cpR_s (by omega) (by omega)]
          rfl) (by
          simp only [lb_X5_triesRing_72]
          rw [if_neg (Int.lt_irrefl _), w1]
          rfl)
        rw [show ((0 : Nat) : Int) = 0 from rfl, cpR_0, sw_self] at e
        exact e
      · unfold ringT rbT
        rw [if_pos c]
        exact w2
    show ∃ g', f_X5_triesRing E (rg_X5_triesRing E n) (some m) k used (mdl m s1 h) = some g' ∧ _
    unfold f_X5_triesRing
    rw [md_gR41, Option.bind_some, md_ld24 (by omega) (by omega), Option.bind_some, ek.out, show i2 1 = 1 by decide, i2_of (a := (k : Int)) (by omega) (by omega)]
    by_cases c1 : 1 < k
    · rw [if_pos (by omega), Option.bind_some, md_ld24 (by decide) (by decide), Option.bind_some, e0.out, md_ce, Option.bind_some, ow s1 _ _ q1 (i2_of (by omega) (by omega)) (i2_of (by omega) (by omega)), Option.bind_some]
      dsimp only
      rw [i2_of (a := owed _ _ _) (by omega) (by omega)]
      by_cases c2 : 0 < owed (s 2) (row (k - 1)) (row 0)
      · rw [if_pos c2, md_gI43, Option.bind_some]
        unfold rbR at b1
        unfold rbV at v1
        cases R with
        | none =>
          have b1' : s1 0 43 = 0 := b1
          rw [b1', if_pos (by decide)]
          exact yes ⟨c1, c2, rfl⟩
        | some t =>
          obtain ⟨sz, bits, fr⟩ := t
          obtain ⟨b43, b44, -⟩ := b1
          obtain ⟨v2, v3, -⟩ := v1
          rw [b43, i2_of (a := (sz : Int)) (by omega) (by omega), if_neg (by omega), Option.bind_some, i2_of (a := (sz : Int)) (by omega) (by omega)]
          by_cases c3 : k < sz
          · rw [if_pos (by omega)]
            exact yes ⟨c1, c2, by show decide (_ ∨ _) = true; rw [decide_eq_true_eq]; exact Or.inl c3⟩
          · rw [if_neg (by omega), Option.bind_some, i2_of (a := (sz : Int)) (by omega) (by omega)]
            by_cases c4 : k = sz
            · rw [if_pos (by omega), md_gI44, Option.bind_some, b44, i2_of (a := (used : Int)) (by omega) (by omega), i2_of (a := (bits : Int)) (by omega) (by omega)]
              by_cases c5 : used < bits
              · rw [if_pos (by omega)]
                exact yes ⟨c1, c2, by show decide (_ ∨ _) = true; rw [decide_eq_true_eq]; exact Or.inr ⟨c4, c5⟩⟩
              · rw [if_neg (by omega)]
                exact no (fun z => by have z3 : decide (_ ∨ _) = true := z.2.2; rw [decide_eq_true_eq] at z3; omega)
            · rw [if_neg (by omega)]
              exact no (fun z => by have z3 : decide (_ ∨ _) = true := z.2.2; rw [decide_eq_true_eq] at z3; omega)
      · rw [if_neg c2]
        exact no (fun z => c2 z.2.1)
    · rw [if_neg (by omega)]
      exact no (fun z => c1 z.1)
end
