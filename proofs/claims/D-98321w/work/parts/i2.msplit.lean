/-! Tokens: the model splits the tape -/
set_option maxRecDepth 100000
/-- nothing but tokens has changed -/
def SpE (s s' : Sg) : Prop := (∀ o : Nat, o ≠ 0 → o ≠ 9 → o ≠ 10 → o ≠ 11 → s' o = s o) ∧ (∀ k : Int, k ≠ 16 → s' 0 k = s 0 k) ∧ (G32 s → G32 s')
theorem SpE.refl (s : Sg) : SpE s s := ⟨fun _ _ _ _ _ => rfl, fun _ _ => rfl, id⟩
theorem SpE.trans {s s1 s2 : Sg} (p : SpE s s1) (q : SpE s1 s2) : SpE s s2 := ⟨fun o a b c d => (q.1 o a b c d).trans (p.1 o a b c d), fun k h => (q.2.1 k h).trans (p.2.1 k h), fun g => q.2.2 (p.2.2 g)⟩
theorem SpE.u {s : Sg} {o : Nat} {k v : Int} (ho : o = 9 ∨ o = 10 ∨ o = 11) (hv : i2 v = v) : SpE s (sw s o (u1 (s o) k v)) := ⟨fun p a b c d => sw_ne _ (by omega), fun j _ => by rw [sw_ne _ (by omega)], fun g => G32_sw g (u1_32 (g o) hv)⟩
theorem SpE.u0 {s : Sg} {v : Int} (hv : i2 v = v) : SpE s (sw s 0 (u1 (s 0) 16 v)) := ⟨fun p a b c d => sw_ne _ a, fun j hj => by rw [sw_eq, u1_ne _ hj], fun g => G32_sw g (u1_32 (g 0) hv)⟩
def TkI (s : Sg) (T : Rw) (N : Nat) (i : Nat) (s' : Sg) : Prop := SpE s s' ∧ s' 0 16 = i ∧ ∀ j : Nat, j < i → s' 9 j = tkC T N j ∧ s' 10 j = tkV T N j ∧ s' 11 j = pos T N j
section
variable {E : ax_E} {m : Nat} {s s1 : Sg} {h : ax_H}
theorem m_isSmall {v : Int} (hv : i2 v = v) : f_X5_isSmall E v h = some (b01 (isLet v = true), h) := by
  have e : (isLet v = true) = (97 ≤ v ∧ v ≤ 122) := by unfold isLet; rw [decide_eq_true_eq]
  unfold f_X5_isSmall f_X5_isSmall_16
  rw [hv, show i2 97 = 97 by decide, show i2 122 = 122 by decide]
  by_cases c1 : v < 97
  · rw [if_pos c1, b01_f (by rw [e]; omega)]
  · rw [if_neg c1]
    by_cases c2 : 122 < v
    · rw [if_pos c2, b01_f (by rw [e]; omega)]
    · rw [if_neg c2, b01_t (by rw [e]; omega)]
theorem m_isDigit {v : Int} (hv : i2 v = v) : f_X5_isDigit E v h = some (b01 (isDig v = true), h) := by
  have e : (isDig v = true) = (48 ≤ v ∧ v ≤ 57) := by unfold isDig; rw [decide_eq_true_eq]
  unfold f_X5_isDigit f_X5_isDigit_16
  rw [hv, show i2 48 = 48 by decide, show i2 57 = 57 by decide]
  by_cases c1 : v < 48
  · rw [if_pos c1, b01_f (by rw [e]; omega)]
  · rw [if_neg c1]
    by_cases c2 : 57 < v
    · rw [if_pos c2, b01_f (by rw [e]; omega)]
    · rw [if_neg c2, b01_t (by rw [e]; omega)]
theorem nu_b {T : Rw} {k : Nat} : ∀ n : Nat, (∀ q, q < n → isDig (T ((k + q : Nat) : Int)) = true) → 0 ≤ foldN (nuS T k) n 0 ∧ foldN (nuS T k) n 0 ≤ 10000009 := by
  intro n
  induction n with
  | zero => intro _; show (0 : Int) ≤ 0 ∧ (0 : Int) ≤ 10000009; decide
  | succ n ih =>
    intro h
    have q := ih (fun q hq => h q (by omega))
    have d := h n (by omega)
    unfold isDig at d
    rw [decide_eq_true_eq] at d
    have es : foldN (nuS T k) (n + 1) 0 = nuS T k (foldN (nuS T k) n 0) n := rfl
    rw [es]
    generalize foldN (nuS T k) n 0 = v at q
    show 0 ≤ (if 1000000 < v then v else 10 * v + T ((k + n : Nat) : Int) - 48) ∧ _ ≤ _
    show 0 ≤ (if 1000000 < v then v else 10 * v + T ((k + n : Nat) : Int) - 48) ∧ (if 1000000 < v then v else 10 * v + T ((k + n : Nat) : Int) - 48) ≤ 10000009
    split <;> omega
theorem wdF_b (X : List Int) : ∀ (L : List (List Int)) (w : Int), 0 ≤ w → 0 ≤ wdF X L w ∧ wdF X L w ≤ w + L.length := by
  intro L
  induction L with
  | nil => intro w h; show (0 : Int) ≤ 0 ∧ (0 : Int) ≤ w + ((0 : Nat) : Int); omega
  | cons y L ih =>
    intro w h
    have q := ih (w + 1) (by omega)
    show 0 ≤ (if y = X then w else wdF X L (w + 1)) ∧ (if y = X then w else wdF X L (w + 1)) ≤ w + ((L.length + 1 : Nat) : Int)
    split <;> omega
theorem and255_b {v : Int} (h : -128 ≤ v ∧ v ≤ 127) : 0 ≤ ax_and v 255 ∧ ax_and v 255 ≤ 255 := by
  have f : al7 (fun n => decide (0 ≤ ax_and ((n : Int) - 128) 255 ∧ ax_and ((n : Int) - 128) 255 ≤ 255)) 256 = true := by decide +kernel
  have q := of_decide_eq_true (al7_e _ f (v + 128).toNat (by omega))
  rw [show (((v + 128).toNat : Nat) : Int) - 128 = v by omega] at q
  exact q
theorem tkC_b {T : Rw} (hT : ∀ k : Int, 0 ≤ k → k < 400 → -128 ≤ T k ∧ T k ≤ 127) {N i : Nat} (hN : N ≤ 400) (h : pos T N i < N) : 0 ≤ tkC T N i ∧ tkC T N i ≤ 355 := by
  unfold tkC
  split
  · have q := wdF_b (tkL T (pos T N i) (tnd T N (pos T N i))) wdL 1 (by decide)
    have l : wdL.length = 29 := by decide
    rw [l] at q
    omega
  · split
    · decide
    · have q := and255_b (hT (pos T N i) (by omega) (by omega))
      omega
/-- a token is told: place, number, code -/
theorem m_tok (hG : G32 s) (V : TpV s) {T : Rw} (eT : T = s 7) {N k i : Nat} (hN : N ≤ 400) (hk : k < N) (hi : i ≤ k) (ep : pos T N i = k) (I : TkI s T N i s1) : ∃ s2, f_X5_splits_100 E (some m) N k (T k) (tnd T N k) (mdl m s1 h) = some (.inl ((tnd T N k : Int), mdl m s2 h)) ∧ TkI s T N (i + 1) s2 := by
  obtain ⟨q1, i16, rr⟩ := I
  have g1 := q1.2.2 hG
  have vt := V.1
  rw [← eT] at vt
  have tk := vt (k : Int) (by omega) (by omega)
  have t7 : s1 7 = T := by rw [q1.1 7 (by decide) (by decide) (by decide) (by decide), eT]
  have V1 : TpV s1 := by
    refine ⟨fun j a b => by rw [t7]; exact vt j a b, fun j hj => ?_⟩
    rw [q1.1 6 (by decide) (by decide) (by decide) (by decide)]
    exact V.2 j hj
  have tb := tnd_b (T := T) hk
  obtain ⟨to, eto⟩ : ∃ to, to = tnd T N k := ⟨_, rfl⟩
  rw [← eto] at tb ⊢
  obtain ⟨sa, esa⟩ : ∃ sa, sa = sw s1 11 (u1 (s1 11) i k) := ⟨_, rfl⟩
  obtain ⟨sb, esb⟩ : ∃ sb, sb = sw sa 10 (u1 (sa 10) i 0) := ⟨_, rfl⟩
  have ta : ax_sto (mdl m s1 h) (some (m + 11)) 100 (i : Int) (k : Int) = some (mdl m sa h) := by rw [esa]; exact md_sto11 (by omega) (by omega)
  have tb' : ax_sto (mdl m sa h) (some (m + 10)) 100 (i : Int) 0 = some (mdl m sb h) := by rw [esb]; exact md_sto10 (by omega) (by omega)
  have za : SpE s1 sa := by rw [esa]; exact SpE.u (by omega) (i2_of (by omega) (by omega))
  have zb : SpE s1 sb := by rw [esb]; exact za.trans (SpE.u (by omega) (by decide))
  have a16 : sa 0 16 = i := by rw [esa, sw_ne _ (by decide)]; exact i16
  have b16 : sb 0 16 = i := by rw [esb, sw_ne _ (by decide)]; exact a16
  have b7 : sb 7 = T := by rw [zb.1 7 (by decide) (by decide) (by decide) (by decide)]; exact t7
  have Vb : TpV sb := by
    refine ⟨fun j a b => by rw [b7]; exact vt j a b, fun j hj => ?_⟩
    rw [zb.1 6 (by decide) (by decide) (by decide) (by decide)]
    exact V1.2 j hj
  have cb := tkC_b (T := T) vt hN (i := i) (by omega)
  -- behind the code
  have fin : ∃ s2, f_X5_splits_165 E (some m) N k (T k) to (some (m + 9)) i (tkC T N i) (mdl m sb h) = some (.inl ((to : Int), mdl m s2 h)) ∧ TkI s T N (i + 1) s2 := by
    obtain ⟨sc, esc⟩ : ∃ sc, sc = sw sb 9 (u1 (sb 9) i (tkC T N i)) := ⟨_, rfl⟩
    have tc : ax_sto (mdl m sb h) (some (m + 9)) 100 (i : Int) (tkC T N i) = some (mdl m sc h) := by rw [esc]; exact md_sto9 (by omega) (by omega)
    have zc : SpE s1 sc := by rw [esc]; exact zb.trans (SpE.u (by omega) (i2_of (by omega) (by omega)))
    have c16 : sc 0 16 = i := by rw [esc, sw_ne _ (by decide)]; exact b16
    have c10 : sc 10 i = 0 := by rw [esc, sw_ne _ (by decide), esb, sw_eq, u1_eq]
    have c7 : sc 7 = T := by rw [zc.1 7 (by decide) (by decide) (by decide) (by decide)]; exact t7
    have iTk : i2 (T k) = T k := i2_of (by omega) (by omega)
    obtain ⟨nv, env⟩ : ∃ nv : Int, nv = tkV T N i := ⟨_, rfl⟩
    -- the last state
    obtain ⟨sd, esd⟩ : ∃ sd, sd = sw sc 10 (u1 (sc 10) i nv) := ⟨_, rfl⟩
    have d16 : sd 0 16 = i := by rw [esd, sw_ne _ (by decide)]; exact c16
    have last : ∀ x : Int, x = to → f_X5_splits_247 E (some m) N x (mdl m sd h) = some (.inl ((to : Int), mdl m (sw sd 0 (u1 (sd 0) 16 ((i : Int) + 1))) h)) := by
      intro x hx
      have p16 : ax_pI (mdl m sd h) (some m) 5 16 ((i : Int) + 1) = some (mdl m (sw sd 0 (u1 (sd 0) 16 ((i : Int) + 1))) h) := md_pI16
      unfold f_X5_splits_247
      rw [md_gI16, Option.bind_some, d16, p16, Option.bind_some, hx]
    have loop : f_X5_splits_169 E (some m) N (T k) to k (mdl m sc h) = some (.inl ((to : Int), mdl m (sw sd 0 (u1 (sd 0) 16 ((i : Int) + 1))) h)) := by
      unfold f_X5_splits_169
      by_cases cd : isDig (T k) = true
      · have dg : ∀ q, q < to - k → isDig (T ((k + q : Nat) : Int)) = true := by
          intro q hq
          by_cases cq : q = 0
          · subst cq; exact cd
          · have nl : ¬ isLet (T k) = true := by
              unfold isLet isDig at *
              rw [decide_eq_true_eq] at cd ⊢
              omega
            have et : to = runP isDig T N 401 (k + 1) := by rw [eto]; unfold tnd; rw [if_neg nl, if_pos cd]
            exact ((runP_ge isDig T N 401 (k + 1)).2.2 (k + q) (by omega) (by omega)).2
        have ev : nv = foldN (nuS T k) (to - k) 0 := by rw [env]; unfold tkV; rw [ep, if_pos cd, ← eto]
        have e0 : mdl m sc h = mdl m (sw sc 10 (u1 (sc 10) i (foldN (nuS T k) 0 0))) h := by
          show mdl m sc h = mdl m (sw sc 10 (u1 (sc 10) i 0)) h
          rw [← c10, u1_self, sw_self]
        have tr := it_traj (body := fun y : Int × ax_H => lb_X5_splits_169 E (some m) N (T k) to y.1 y.2) (fun q => (((k + q : Nat) : Int), mdl m (sw sc 10 (u1 (sc 10) i (foldN (nuS T k) q 0))) h)) (to - k) (r := .inl ((to : Int), mdl m (sw sd 0 (u1 (sd 0) 16 ((i : Int) + 1))) h)) (fun q hq => by
          have nb := nu_b (T := T) (k := k) q (fun j hj => dg j (by omega))
          have es : foldN (nuS T k) (q + 1) 0 = nuS T k (foldN (nuS T k) q 0) q := rfl
          have tq := vt ((k + q : Nat) : Int) (by omega) (by omega)
          have o16 : sw sc 10 (u1 (sc 10) i (foldN (nuS T k) q 0)) 0 16 = i := by rw [sw_ne _ (by decide)]; exact c16
          dsimp only
          unfold lb_X5_splits_169 f_X5_splits_240
          rw [i2_of (a := ((k + q : Nat) : Int)) (by omega) (by omega), i2_of (a := (to : Int)) (by omega) (by omega), if_pos (by omega), m_isDigit iTk, Option.bind_some]
          dsimp only
          rw [if_neg (by rw [b01_z]; exact fun z => z cd), md_gR14, Option.bind_some, md_gI16, Option.bind_some, o16, Option.bind_some, Option.bind_some, md_ld10 (by omega) (by omega), Option.bind_some, sw_eq, u1_eq, show i2 1000000 = 1000000 by decide, i2_of (a := foldN (nuS T k) q 0) (by omega) (by omega)]
          have st : ∀ v : Int, ax_sto (mdl m (sw sc 10 (u1 (sc 10) i (foldN (nuS T k) q 0))) h) (some (m + 10)) 100 (i : Int) v = some (mdl m (sw sc 10 (u1 (sc 10) i v)) h) := by
            intro v
            rw [md_sto10 (by omega) (by omega), sw_eq, sw_sw, u1_u1]
          have ldv : ax_ld E (mdl m (sw sc 10 (u1 (sc 10) i (foldN (nuS T k) q 0))) h) (some (m + 10)) 100 (i : Int) = some (foldN (nuS T k) q 0) := by rw [md_ld10 (by omega) (by omega), sw_eq, u1_eq]
          by_cases c6 : 1000000 < foldN (nuS T k) q 0
          · have e1 : foldN (nuS T k) (q + 1) 0 = foldN (nuS T k) q 0 := by rw [es]; exact if_pos c6
            rw [if_pos c6, Option.bind_some, Option.bind_some, ldv, Option.bind_some, st, Option.bind_some, e1, show ((k + (q + 1) : Nat) : Int) = ((k + q : Nat) : Int) + 1 by omega]
          · have e1 : foldN (nuS T k) (q + 1) 0 = 10 * foldN (nuS T k) q 0 + T ((k + q : Nat) : Int) - 48 := by rw [es]; exact if_neg c6
            rw [if_neg c6, Option.bind_some, Option.bind_some, ldv, Option.bind_some, md_gR9t, Option.bind_some, md_ld7 (by omega) (by omega), Option.bind_some, sw_ne _ (by decide), c7, st, Option.bind_some, e1, show ((k + (q + 1) : Nat) : Int) = ((k + q : Nat) : Int) + 1 by omega]) (by
          dsimp only
          unfold lb_X5_splits_169
          rw [show ((k + (to - k) : Nat) : Int) = (to : Int) by omega, if_neg (Int.lt_irrefl _), ← ev, ← esd, last _ rfl]
          rfl)
        rw [e0]
        exact tr
      · have ev : nv = 0 := by rw [env]; unfold tkV; rw [ep, if_neg cd]
        have e0 : sc = sd := by rw [esd, ev, ← c10, u1_self, sw_self]
        refine it_done ?_
        dsimp only
        unfold lb_X5_splits_169
        rw [i2_of (a := (k : Int)) (by omega) (by omega), i2_of (a := (to : Int)) (by omega) (by omega), if_pos (by omega), m_isDigit iTk, Option.bind_some]
        dsimp only
        rw [if_pos (by rw [b01_z]; exact cd), e0, last _ rfl]
        rfl
    have nvb : 0 ≤ nv ∧ nv ≤ 10000009 := by
      rw [env]
      unfold tkV
      rw [ep]
      by_cases cd : isDig (T k) = true
      · rw [if_pos cd, ← eto]
        refine nu_b (T := T) (k := k) (to - k) (fun q hq => ?_)
        by_cases cq : q = 0
        · subst cq; exact cd
        · have nl : ¬ isLet (T k) = true := by
            unfold isLet isDig at *
            rw [decide_eq_true_eq] at cd ⊢
            omega
          have et : to = runP isDig T N 401 (k + 1) := by rw [eto]; unfold tnd; rw [if_neg nl, if_pos cd]
          exact ((runP_ge isDig T N 401 (k + 1)).2.2 (k + q) (by omega) (by omega)).2
      · rw [if_neg cd]; decide
    refine ⟨sw sd 0 (u1 (sd 0) 16 ((i : Int) + 1)), ?_, ?_, ?_, fun j hj => ?_⟩
    · unfold f_X5_splits_165
      rw [tc, Option.bind_some]
      exact loop
    · refine q1.trans (zc.trans (SpE.trans ?_ (SpE.u0 (i2_of (by omega) (by omega)))))
      rw [esd]
      exact SpE.u (by omega) (i2_of (by omega) (by omega))
    · rw [sw_eq, u1_eq]; omega
    · rw [sw_ne _ (by decide), sw_ne _ (by decide), sw_ne _ (by decide), esd, sw_ne (o := 10) (p := 9) _ (by decide), sw_eq, sw_ne (o := 10) (p := 11) _ (by decide)]
      have x9 : sc 9 = u1 (s1 9) i (tkC T N i) := by rw [esc, sw_eq, esb, sw_ne _ (by decide), esa, sw_ne _ (by decide)]
      have x10 : ∀ z : Int, z ≠ i → sc 10 z = s1 10 z := fun z hz => by rw [esc, sw_ne _ (by decide), esb, sw_eq, u1_ne _ hz, esa, sw_ne _ (by decide)]
      have x11 : sc 11 = u1 (s1 11) i k := by rw [esc, sw_ne _ (by decide), esb, sw_ne _ (by decide), esa, sw_eq]
      rw [x9, x11]
      by_cases cj : j = i
      · subst cj
        rw [u1_eq, u1_eq, u1_eq, ep, env]
        exact ⟨rfl, rfl, rfl⟩
      · rw [u1_ne _ (by omega), u1_ne _ (by omega), u1_ne _ (by omega), x10 _ (by omega)]
        exact rr j (by omega)
  obtain ⟨s2, p2, I2⟩ := fin
  refine ⟨s2, ?_, I2⟩
  unfold f_X5_splits_100
  have iTk : i2 (T k) = T k := i2_of (by omega) (by omega)
  rw [md_gR15, Option.bind_some, md_gI16, Option.bind_some, i16, ta, Option.bind_some, md_gR14, Option.bind_some, md_gI16, Option.bind_some, a16, tb', Option.bind_some, md_gR13, Option.bind_some, md_gI16, Option.bind_some, b16, m_isSmall iTk, Option.bind_some]
  dsimp only
  by_cases cl : isLet (T k) = true
  · have ec : tkC T N i = wdF (tkL T k to) wdL 1 := by unfold tkC; rw [ep, if_pos cl, ← eto]
    rw [if_neg (by rw [b01_z]; exact fun z => z cl), md_ce, Option.bind_some, m_wordOf Vb (by omega) (by omega), Option.bind_some, b7, ← ec]
    exact p2
  · rw [if_pos (by rw [b01_z]; exact cl), m_isDigit iTk, Option.bind_some]
    dsimp only
    by_cases cd : isDig (T k) = true
    · have ec : tkC T N i = 50 := by unfold tkC; rw [ep, if_neg cl, if_pos cd]
      rw [if_neg (by rw [b01_z]; exact fun z => z cd), ← ec]
      exact p2
    · have ec : tkC T N i = 100 + ax_and (T k) 255 := by unfold tkC; rw [ep, if_neg cl, if_neg cd]
      rw [if_pos (by rw [b01_z]; exact cd), ← ec]
      exact p2
end
section
variable {E : ax_E} {m : Nat} {s s1 : Sg} {h : ax_H}
/-- a token's end is looked for -/
theorem m_tokS (hG : G32 s) (V : TpV s) {T : Rw} (eT : T = s 7) {N k i : Nat} (hN : N ≤ 400) (hk : k < N) (hi : i ≤ k) (ep : pos T N i = k) (h32 : T k ≠ 32) (I : TkI s T N i s1) : ∃ s2, lb_X5_splits_7 E (some m) N k (mdl m s1 h) = some (.inl ((tnd T N k : Int), mdl m s2 h)) ∧ TkI s T N (i + 1) s2 := by
  have vt := V.1
  rw [← eT] at vt
  have tk := vt (k : Int) (by omega) (by omega)
  have t7 : s1 7 = T := by rw [I.1.1 7 (by decide) (by decide) (by decide) (by decide), eT]
  have iT : ∀ j : Nat, j < 400 → i2 (T j) = T j := fun j hj => by have := vt (j : Int) (by omega) (by omega); exact i2_of (by omega) (by omega)
  have ld : ∀ j : Nat, j < 400 → ax_ld E (mdl m s1 h) (some (m + 7)) 101 (j : Int) = some (T j) := fun j hj => by rw [md_ld7 (by omega) (by omega), t7]
  obtain ⟨s2, p2, I2⟩ := m_tok (E := E) (m := m) (h := h) hG V eT hN hk hi ep I
  refine ⟨s2, ?_, I2⟩
  have head : ∀ W, (if isLet (T k) = true then f_X5_splits_43 E (some m) N k (T k) ((k : Int) + 1) (mdl m s1 h) else f_X5_splits_68 E (some m) N k (T k) ((k : Int) + 1) (mdl m s1 h)) = W → lb_X5_splits_7 E (some m) N k (mdl m s1 h) = W := by
    intro W hW
    unfold lb_X5_splits_7
    rw [i2_of (a := (k : Int)) (by omega) (by omega), i2_of (a := (N : Int)) (by omega) (by omega), if_pos (by omega), md_gR9t, Option.bind_some, ld k (by omega), Option.bind_some, iT k (by omega), show i2 32 = 32 by decide, if_neg h32, m_isSmall (iT k (by omega)), Option.bind_some]
    dsimp only
    rw [← hW]
    by_cases c : isLet (T k) = true
    · rw [if_neg (by rw [b01_z]; exact fun z => z c), if_pos c]
    · rw [if_pos (by rw [b01_z]; exact c), if_neg c]
  -- a run of letters, of digits
  have runL : isLet (T k) = true → f_X5_splits_43 E (some m) N k (T k) ((k : Int) + 1) (mdl m s1 h) = some (.inl ((tnd T N k : Int), mdl m s2 h)) := by
    intro c
    have et : tnd T N k = runP isLet T N 401 (k + 1) := by unfold tnd; rw [if_pos c]
    obtain ⟨r1, r2, r3⟩ := runP_ge isLet T N 401 (k + 1)
    have r4 := runP_end isLet T N 401 (k + 1) (by omega)
    rw [← et] at r1 r2 r3 r4
    have nd : ¬ isDig (T k) = true := by
      unfold isLet at c
      unfold isDig
      rw [decide_eq_true_eq] at c ⊢
      omega
    have f68 : f_X5_splits_68 E (some m) N k (T k) (tnd T N k) (mdl m s1 h) = some (.inl ((tnd T N k : Int), mdl m s2 h)) := by
      unfold f_X5_splits_68
      rw [m_isDigit (iT k (by omega)), Option.bind_some]
      dsimp only
      rw [if_pos (by rw [b01_z]; exact nd)]
      exact p2
    have tr := it_traj (body := fun y : Int × ax_H => lb_X5_splits_43 E (some m) N k (T k) y.1 y.2) (fun q => (((k + 1 + q : Nat) : Int), mdl m s1 h)) (tnd T N k - (k + 1)) (r := .inl ((tnd T N k : Int), mdl m s2 h)) (fun q hq => by
      obtain ⟨z1, z2⟩ := r3 (k + 1 + q) (by omega) (by omega)
      dsimp only
      unfold lb_X5_splits_43
      rw [i2_of (a := ((k + 1 + q : Nat) : Int)) (by omega) (by omega), i2_of (a := (N : Int)) (by omega) (by omega), if_pos (by omega), md_gR9t, Option.bind_some, ld _ (by omega), Option.bind_some, m_isSmall (iT _ (by omega)), Option.bind_some]
      dsimp only
      rw [if_neg (by rw [b01_z]; exact fun z => z z2), show ((k + 1 + (q + 1) : Nat) : Int) = ((k + 1 + q : Nat) : Int) + 1 by omega]) (by
      dsimp only
      rw [show ((k + 1 + (tnd T N k - (k + 1)) : Nat) : Int) = (tnd T N k : Int) by omega]
      unfold lb_X5_splits_43
      rw [i2_of (a := (tnd T N k : Int)) (by omega) (by omega), i2_of (a := (N : Int)) (by omega) (by omega)]
      by_cases cn : tnd T N k < N
      · rw [if_pos (by omega), md_gR9t, Option.bind_some, ld _ (by omega), Option.bind_some, m_isSmall (iT _ (by omega)), Option.bind_some]
        dsimp only
        rw [if_pos (by rw [b01_z]; exact fun z => r4 ⟨cn, z⟩), f68]
        rfl
      · rw [if_neg (by omega), f68]
        rfl)
    unfold f_X5_splits_43
    exact tr
  have runD : isDig (T k) = true → f_X5_splits_75 E (some m) N k (T k) ((k : Int) + 1) (mdl m s1 h) = some (.inl ((tnd T N k : Int), mdl m s2 h)) := by
    intro c
    have nl : ¬ isLet (T k) = true := by
      unfold isDig at c
      unfold isLet
      rw [decide_eq_true_eq] at c ⊢
      omega
    have et : tnd T N k = runP isDig T N 401 (k + 1) := by unfold tnd; rw [if_neg nl, if_pos c]
    obtain ⟨r1, r2, r3⟩ := runP_ge isDig T N 401 (k + 1)
    have r4 := runP_end isDig T N 401 (k + 1) (by omega)
    rw [← et] at r1 r2 r3 r4
    have tr := it_traj (body := fun y : Int × ax_H => lb_X5_splits_75 E (some m) N k (T k) y.1 y.2) (fun q => (((k + 1 + q : Nat) : Int), mdl m s1 h)) (tnd T N k - (k + 1)) (r := .inl ((tnd T N k : Int), mdl m s2 h)) (fun q hq => by
      obtain ⟨z1, z2⟩ := r3 (k + 1 + q) (by omega) (by omega)
      dsimp only
      unfold lb_X5_splits_75
      rw [i2_of (a := ((k + 1 + q : Nat) : Int)) (by omega) (by omega), i2_of (a := (N : Int)) (by omega) (by omega), if_pos (by omega), md_gR9t, Option.bind_some, ld _ (by omega), Option.bind_some, m_isDigit (iT _ (by omega)), Option.bind_some]
      dsimp only
      rw [if_neg (by rw [b01_z]; exact fun z => z z2), show ((k + 1 + (q + 1) : Nat) : Int) = ((k + 1 + q : Nat) : Int) + 1 by omega]) (by
      dsimp only
      rw [show ((k + 1 + (tnd T N k - (k + 1)) : Nat) : Int) = (tnd T N k : Int) by omega]
      unfold lb_X5_splits_75
      rw [i2_of (a := (tnd T N k : Int)) (by omega) (by omega), i2_of (a := (N : Int)) (by omega) (by omega)]
      by_cases cn : tnd T N k < N
      · rw [if_pos (by omega), md_gR9t, Option.bind_some, ld _ (by omega), Option.bind_some, m_isDigit (iT _ (by omega)), Option.bind_some]
        dsimp only
        rw [if_pos (by rw [b01_z]; exact fun z => r4 ⟨cn, z⟩), p2]
        rfl
      · rw [if_neg (by omega), p2]
        rfl)
    unfold f_X5_splits_75
    exact tr
  refine head _ ?_
  by_cases c : isLet (T k) = true
  · rw [if_pos c]; exact runL c
  · rw [if_neg c]
    unfold f_X5_splits_68
    rw [m_isDigit (iT k (by omega)), Option.bind_some]
    dsimp only
    by_cases c2 : isDig (T k) = true
    · rw [if_neg (by rw [b01_z]; exact fun z => z c2)]; exact runD c2
    · rw [if_pos (by rw [b01_z]; exact c2)]
      have et : tnd T N k = k + 1 := by unfold tnd; rw [if_neg c, if_neg c2]
      rw [et] at p2 ⊢
      exact p2
/-- the tape split into tokens -/
def TkF (s : Sg) (T : Rw) (N : Nat) (s' : Sg) : Prop := SpE s s' ∧ s' 0 16 = toks T N ∧ ∀ j : Nat, j ≤ toks T N → s' 9 j = cT T N j ∧ s' 10 j = wT T N j ∧ s' 11 j = pos T N j
theorem m_splits (hG : G32 s) (V : TpV s) {T : Rw} (eT : T = s 7) {N : Nat} (hN : N ≤ 400) : ∃ s2, f_X5_splits E (some m) N (mdl m s h) = some (mdl m s2 h) ∧ TkF s T N s2 := by
  obtain ⟨t1, t2, t3⟩ := toks_e (T := T) hN
  have vt := V.1
  rw [← eT] at vt
  have key : ∀ (d k i : Nat) (s1 : Sg), N - k ≤ d → k ≤ N → i ≤ k → skp T N k = pos T N i → (∀ j, j < i → pos T N j < N) → TkI s T N i s1 → ∃ s2, ax_iter (fun y : Int × ax_H => lb_X5_splits_7 E (some m) N y.1 y.2) ((k : Int), mdl m s1 h) = some (mdl m s2 h) ∧ TkF s T N s2 := by
    intro d
    induction d with
    | zero =>
      intro k i s1 hd hk hik hs hp I
      have ek : k = N := by omega
      subst ek
      have e1 : skp T k k = k := runP_stop (by omega)
      rw [e1] at hs
      have ei : i = toks T k := by
        have a := pos_toks (T := T) (N := k) (i := i) hN
        by_cases c : i < toks T k
        · have := a.mpr c; omega
        · by_cases c0 : toks T k < i
          · have := hp (toks T k) c0; omega
          · omega
      obtain ⟨q1, i16, rr⟩ := I
      have g1 := q1.2.2 hG
      obtain ⟨sa, esa⟩ : ∃ sa, sa = sw s1 11 (u1 (s1 11) i k) := ⟨_, rfl⟩
      obtain ⟨sb, esb⟩ : ∃ sb, sb = sw sa 9 (u1 (sa 9) i 0) := ⟨_, rfl⟩
      obtain ⟨sc, esc⟩ : ∃ sc, sc = sw sb 10 (u1 (sb 10) i 0) := ⟨_, rfl⟩
      have ta : ax_sto (mdl m s1 h) (some (m + 11)) 100 (i : Int) (k : Int) = some (mdl m sa h) := by rw [esa]; exact md_sto11 (by omega) (by omega)
      have tb : ax_sto (mdl m sa h) (some (m + 9)) 100 (i : Int) 0 = some (mdl m sb h) := by rw [esb]; exact md_sto9 (by omega) (by omega)
      have tc : ax_sto (mdl m sb h) (some (m + 10)) 100 (i : Int) 0 = some (mdl m sc h) := by rw [esc]; exact md_sto10 (by omega) (by omega)
      have a16 : sa 0 16 = i := by rw [esa, sw_ne _ (by decide)]; exact i16
      have b16 : sb 0 16 = i := by rw [esb, sw_ne _ (by decide)]; exact a16
      have c16 : sc 0 16 = i := by rw [esc, sw_ne _ (by decide)]; exact b16
      refine ⟨sc, it_done ?_, ?_, by rw [c16, ei], fun j hj => ?_⟩
      · dsimp only
        unfold lb_X5_splits_7
        rw [if_neg (Int.lt_irrefl _), md_gR15, Option.bind_some, md_gI16, Option.bind_some, i16, ta, Option.bind_some, md_gR13, Option.bind_some, md_gI16, Option.bind_some, a16, tb, Option.bind_some, md_gR14, Option.bind_some, md_gI16, Option.bind_some, b16, tc, Option.bind_some]
        rfl
      · refine q1.trans (SpE.trans (s1 := sa) ?_ (SpE.trans (s1 := sb) ?_ ?_))
        · rw [esa]; exact SpE.u (by omega) (i2_of (by omega) (by omega))
        · rw [esb]; exact SpE.u (by omega) (by decide)
        · rw [esc]; exact SpE.u (by omega) (by decide)
      · have x9 : sc 9 = u1 (s1 9) i 0 := by rw [esc, sw_ne _ (by decide), esb, sw_eq, esa, sw_ne _ (by decide)]
        have x10 : sc 10 = u1 (s1 10) i 0 := by rw [esc, sw_eq, esb, sw_ne _ (by decide), esa, sw_ne _ (by decide)]
        have x11 : sc 11 = u1 (s1 11) i k := by rw [esc, sw_ne _ (by decide), esb, sw_ne _ (by decide), esa, sw_eq]
        rw [x9, x10, x11]
        unfold cT wT cut
        by_cases cj : j = i
        · subst cj
          rw [u1_eq, u1_eq, u1_eq, if_neg (by omega), if_neg (by omega)]
          exact ⟨rfl, rfl, by rw [← hs]⟩
        · obtain ⟨y1, y2, y3⟩ := rr j (by omega)
          rw [u1_ne _ (by omega), u1_ne _ (by omega), u1_ne _ (by omega), if_pos (by omega), if_pos (by omega)]
          dsimp only
          rw [Int.toNat_natCast]
          exact ⟨y1, y2, y3⟩
    | succ d ih =>
      intro k i s1 hd hk hik hs hp I
      by_cases cn : k = N
      · exact ih k i s1 (by omega) hk hik hs hp I
      · have tk := vt (k : Int) (by omega) (by omega)
        have t7 : s1 7 = T := by rw [I.1.1 7 (by decide) (by decide) (by decide) (by decide), eT]
        by_cases c : T k = 32
        · have e1 : skp T N (k + 1) = skp T N k := (runP_st (f := 400) (by omega) ⟨by omega, decide_eq_true c⟩).symm
          obtain ⟨s2, p2, F⟩ := ih (k + 1) i s1 (by omega) (by omega) (by omega) (e1.trans hs) hp I
          refine ⟨s2, ?_, F⟩
          refine (it_step (body := fun y : Int × ax_H => lb_X5_splits_7 E (some m) N y.1 y.2) (s := ((k : Int), mdl m s1 h)) (s' := (((k + 1 : Nat) : Int), mdl m s1 h)) ?_).trans p2
          dsimp only
          unfold lb_X5_splits_7
          rw [i2_of (a := (k : Int)) (by omega) (by omega), i2_of (a := (N : Int)) (by omega) (by omega), if_pos (by omega), md_gR9t, Option.bind_some, md_ld7 (by omega) (by omega), Option.bind_some, t7, c, if_pos rfl]
          rfl
        · have e1 : skp T N k = k := runP_stop (fun z => c (of_decide_eq_true z.2))
          have ep : pos T N i = k := hs.symm.trans e1
          obtain ⟨s2, p2, I2⟩ := m_tokS (E := E) (m := m) (h := h) hG V eT hN (by omega) hik ep c I
          have tb := tnd_b (T := T) (N := N) (k := k) (by omega)
          obtain ⟨s3, p3, F⟩ := ih (tnd T N k) (i + 1) s2 (by omega) tb.2 (by omega) (by rw [pos_s (by omega), ep]) (fun j hj => by
            by_cases cj : j = i
            · subst cj; omega
            · exact hp j (by omega)) I2
          exact ⟨s3, (it_step (body := fun y : Int × ax_H => lb_X5_splits_7 E (some m) N y.1 y.2) (s := ((k : Int), mdl m s1 h)) p2).trans p3, F⟩
  obtain ⟨s0, es0⟩ : ∃ s0, s0 = sw s 0 (u1 (s 0) 16 0) := ⟨_, rfl⟩
  have p16 : ax_pI (mdl m s h) (some m) 5 16 0 = some (mdl m s0 h) := by rw [es0]; exact md_pI16
  obtain ⟨s2, p2, F⟩ := key N 0 0 s0 (by omega) (Nat.zero_le _) (Nat.le_refl _) rfl (fun j hj => absurd hj (Nat.not_lt_zero j)) ⟨by rw [es0]; exact SpE.u0 (by decide), by rw [es0, sw_eq, u1_eq]; rfl, fun j hj => absurd hj (Nat.not_lt_zero j)⟩
  refine ⟨s2, ?_, F⟩
  unfold f_X5_splits f_X5_splits_7
  rw [p16, Option.bind_some]
  exact p2
end
