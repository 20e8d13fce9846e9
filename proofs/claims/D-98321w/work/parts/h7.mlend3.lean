/-! Lendings: the model, whole -/
set_option maxRecDepth 100000
section
variable {E : ax_E} {m : Nat} {s s1 : Sg} {h : ax_H} {K : Rw} {a : LsE}
theorem LmR.w20 {F : Rw} (R : LmR K a s1) : LmR K a (sw s1 20 F) := by
  obtain ⟨k1, r34, rr⟩ := R
  refine ⟨by rw [sw_ne _ (by decide)]; exact k1, by rw [sw_ne _ (by decide)]; exact r34, fun j hj => ?_⟩
  rw [sw_ne _ (by decide), sw_ne _ (by decide), sw_ne _ (by decide), sw_ne _ (by decide)]
  exact rr j hj
/-- a set's rows are counted -/
theorem m_lfil1 (H0 : KW K) (V : leV K (K 153).toNat a) (R : LmR K a s1) (g1 : G32 s1) {i sum : Int} {st : Nat} (hs : st < 2 ^ a.1) (T : LmT K a s1 (st + 1)) : ∃ s2, lb_X5_lendings_65 E (some m) i sum ((2 ^ a.1 - 1 : Nat) : Int) st (mdl m s1 h) = some (.inl ((st : Int) + (-1), mdl m s2 h)) ∧ Ew s1 s2 ∧ LmR K a s2 ∧ LmT K a s2 st := by
  have n8 := H0.2.2.1.1
  have a8 := V.1
  have p8 : 2 ^ a.1 ≤ 256 := Nat.pow_le_pow_right (show 0 < 2 by decide) (show a.1 ≤ 8 by omega)
  have hm := fun st w (h : mayS K a st w = true) => mayS_b st w h
  obtain ⟨b, eb⟩ : ∃ b : Int, b = if st = 2 ^ a.1 - 1 then 1 else 0 := ⟨_, rfl⟩
  obtain ⟨F, eF⟩ : ∃ F : Nat → Int, F = fun w => if mayS K a st w = true then rdS a.1 (mayS K a) (st ||| 2 ^ w) else 0 := ⟨_, rfl⟩
  have eR : rdS a.1 (mayS K a) st = b + sm a.1 F := by rw [eb, eF]; exact rdS_eq (n := a.1) (by omega) hm hs
  have rb := rdS_b (n := a.1) (by omega) hm hs
  obtain ⟨S, eS⟩ : ∃ S : Nat → Sg, S = fun k => sw s1 20 (u1 (s1 20) st (b + sm k F)) := ⟨_, rfl⟩
  have RS : ∀ k, LmR K a (S k) := fun k => by rw [eS]; exact R.w20
  have v20 : ∀ k, S k 20 = u1 (s1 20) st (b + sm k F) := fun k => by rw [eS]; exact sw_eq _ _ _
  have put : ∀ k (v : Int), ax_sto (mdl m (S k) h) (some (m + 20)) 100 (st : Int) v = some (mdl m (sw s1 20 (u1 (s1 20) st v)) h) := by
    intro k v
    rw [md_sto20 (by omega) (by omega), v20, u1_u1, eS]
    dsimp only
    rw [sw_sw]
  have inn := it_traj (body := fun y : Int × ax_H => lb_X5_lendings_91 E (some m) i sum ((2 ^ a.1 - 1 : Nat) : Int) st y.1 y.2) (fun k => ((k : Int), mdl m (S k) h)) a.1 (r := .inl ((st : Int) + (-1), mdl m (S a.1) h)) (fun k hk => by
    have e2 : sm (k + 1) F = sm k F + F k := rfl
    have nx : mdl m (S (k + 1)) h = mdl m (sw s1 20 (u1 (s1 20) st (b + sm k F + F k))) h := by rw [eS, Int.add_assoc, ← e2]
    dsimp only
    unfold lb_X5_lendings_91 f_X5_lendings_135
    rw [md_gI34, Option.bind_some, (RS k).2.1, i2_of (a := (k : Int)) (by omega) (by omega), i2_of (a := (a.1 : Int)) (by omega) (by omega), if_pos (by omega), md_gR33, Option.bind_some, md_ld20 (by omega) (by omega), Option.bind_some, v20, u1_eq, md_ce, Option.bind_some, m_may H0 V (RS k) (by omega) hk, Option.bind_some]
    dsimp only
    by_cases c : mayS K a st k = true
    · have hb := hm st k c
      have hl := or_lt hs hk
      have hg := or_gt hb
      have eo : ax_or (st : Int) (ax_shl 1 (k : Int)) = ((st ||| 2 ^ k : Nat) : Int) := by
        have := pow_256 (w := k) (by omega)
        rw [shl1 (by omega), or_nat (by omega) (by omega)]
      have eFk : F k = rdS a.1 (mayS K a) (st ||| 2 ^ k) := by rw [eF]; exact if_pos c
      rw [if_neg (by rw [b01_z]; exact fun z => z c), md_gR33, Option.bind_some, eo, md_ld20 (by omega) (by omega), Option.bind_some, v20, u1_ne _ (by omega), T _ (by omega) hl, ← eFk, put, Option.bind_some, nx]
      rfl
    · have eFk : F k = 0 := by rw [eF]; exact if_neg c
      rw [if_pos (by rw [b01_z]; exact c), ← eFk, put, Option.bind_some, nx]
      rfl) (by
    dsimp only
    unfold lb_X5_lendings_91
    rw [md_gI34, Option.bind_some, (RS a.1).2.1, if_neg (Int.lt_irrefl _)]
    rfl)
  have e0 : mdl m (S 0) h = mdl m (sw s1 20 (u1 (s1 20) st b)) h := by
    rw [eS]
    dsimp only
    rw [show sm 0 F = 0 from rfl, Int.add_zero]
  have put1 : ∀ v : Int, ax_sto (mdl m s1 h) (some (m + 20)) 100 (st : Int) v = some (mdl m (sw s1 20 (u1 (s1 20) st v)) h) := fun v => md_sto20 (by omega) (by omega)
  have run : f_X5_lendings_87 E (some m) i sum ((2 ^ a.1 - 1 : Nat) : Int) st (some (m + 20)) st b (mdl m s1 h) = some (.inl ((st : Int) + (-1), mdl m (S a.1) h)) := by
    unfold f_X5_lendings_87 f_X5_lendings_91
    rw [put1, Option.bind_some, ← e0]
    exact inn
  refine ⟨S a.1, ?_, ?_, RS a.1, fun st' h1 h2 => ?_⟩
  · unfold lb_X5_lendings_65
    rw [i2_of (a := (st : Int)) (by omega) (by omega), i2_of (a := ((2 ^ a.1 - 1 : Nat) : Int)) (by omega) (by omega), if_neg (by omega), md_gR33, Option.bind_some]
    by_cases c : st = 2 ^ a.1 - 1
    · rw [if_pos c] at eb
      rw [eb] at run
      rw [if_pos (by omega)]
      exact run
    · rw [if_neg c] at eb
      rw [eb] at run
      rw [if_neg (by omega)]
      exact run
  · rw [eS]
    exact Ew_u (by unfold RpO; decide) (by decide) g1 (i2_of (by omega) (by omega))
  · rw [v20]
    by_cases c : st' = st
    · subst c; rw [u1_eq, eR]
    · rw [u1_ne _ (by omega)]; exact T st' (by omega) h2
theorem m_lfill (H0 : KW K) (V : leV K (K 153).toNat a) {i sum : Int} : ∀ (c : Nat) (s1 : Sg), c ≤ 2 ^ a.1 → LmR K a s1 → G32 s1 → LmT K a s1 c → ∃ s2, Ew s1 s2 ∧ G32 s2 ∧ LmR K a s2 ∧ LmT K a s2 0 ∧ ∀ r, lb_X5_lendings_65 E (some m) i sum ((2 ^ a.1 - 1 : Nat) : Int) (-1) (mdl m s2 h) = some (.inr r) → ax_iter (fun y : Int × ax_H => lb_X5_lendings_65 E (some m) i sum ((2 ^ a.1 - 1 : Nat) : Int) y.1 y.2) ((c : Int) - 1, mdl m s1 h) = some r := by
  intro c
  induction c with
  | zero =>
    intro s1 _ R g T
    exact ⟨s1, Ew.refl s1, g, R, T, fun r hr => it_done hr⟩
  | succ c ih =>
    intro s1 hc R g T
    obtain ⟨s2, p2, e2, R2, T2⟩ := m_lfil1 (E := E) (m := m) (h := h) (i := i) (sum := sum) H0 V R g (st := c) (by omega) T
    obtain ⟨s3, e3, g3, R3, T3, k3⟩ := ih s2 (by omega) R2 (e2.2.2 g) T2
    refine ⟨s3, e2.trans e3, g3, R3, T3, fun r hr => ?_⟩
    rw [show ((c + 1 : Nat) : Int) - 1 = (c : Int) by omega]
    have q := k3 r hr
    rw [show (c : Int) - 1 = (c : Int) + (-1) by omega] at q
    exact (it_step (body := fun y : Int × ax_H => lb_X5_lendings_65 E (some m) i sum ((2 ^ a.1 - 1 : Nat) : Int) y.1 y.2) (s := ((c : Int), mdl m s1 h)) p2).trans q
theorem gre_lt {n : Nat} {may : Nat → Nat → Bool} (hn : n ≤ 8) (hm : ∀ st w, may st w = true → ¬ st >>> w % 2 = 1) : ∀ (j st : Nat), ones16 st + (j + 1) ≤ n → st < 2 ^ n → rdS n may st ≠ 0 → gre n may j st < n := by
  have p8 : 2 ^ n ≤ 256 := Nat.pow_le_pow_right (show 0 < 2 by decide) hn
  intro j
  induction j with
  | zero =>
    intro st ho hs hR
    have hne : st ≠ 2 ^ n - 1 := fun z => by
      have := (on_all hn hs).mpr z
      omega
    have q := (lwF_ex n 0 (rd_ex hn hm hs hne hR)).2.1
    show lwF (grG n may st) n 0 < n
    omega
  | succ j ih =>
    intro st ho hs hR
    have hne : st ≠ 2 ^ n - 1 := fun z => by
      have := (on_all hn hs).mpr z
      omega
    obtain ⟨-, w2, w3, -⟩ := lwF_ex n 0 (rd_ex hn hm hs hne hR)
    have w3' : may st (lwF (grG n may st) n 0) = true ∧ rdS n may (st ||| 2 ^ lwF (grG n may st) n 0) ≠ 0 := by
      unfold grG at w3 ⊢
      rw [Bool.and_eq_true, decide_eq_true_eq] at w3
      exact w3
    show gre n may j (st ||| 2 ^ lwF (grG n may st) n 0) < n
    exact ih _ (by rw [on_or (by omega) (by omega) (hm _ _ w3'.1)]; omega) (or_lt hs (by omega)) w3'.2
theorem m_lendP {i N : Int} (V : VW N s) (hi : i2 i = i) : ∃ s', f_X5_lendings E (some m) i (mdl m s h) = some (lendP s i, mdl m s' h) ∧ Ew s s' := by
  have hG := V.1.1
  have H0 := V.2.1
  have n8 := H0.2.2.1.1
  obtain ⟨g', w1, w2⟩ := m_lists (E := E) (m := m) (h := h) hG H0
  unfold f_X5_lendings f_X5_lendings_21 lendP
  rw [md_ce, Option.bind_some, w1, Option.bind_some]
  cases eL : leS (s 2) with
  | none =>
    rw [eL] at w2
    obtain ⟨s1, rfl, q1⟩ := w2
    dsimp only
    rw [if_pos (by decide)]
    exact ⟨s1, rfl, q1⟩
  | some a =>
    rw [eL] at w2
    obtain ⟨s1, rfl, q1, e34, rr⟩ := w2
    have lv := leS_V n8.1 eL
    have a8 := lv.1
    have R : LmR (s 2) a s1 := ⟨q1.k, e34, rr⟩
    have g1 := q1.2.2 hG
    have p8 : 2 ^ a.1 ≤ 256 := Nat.pow_le_pow_right (show 0 < 2 by decide) (show a.1 ≤ 8 by omega)
    have p1 : 1 ≤ 2 ^ a.1 := Nat.one_le_two_pow
    have hm := fun st w (h : mayS (s 2) a st w = true) => mayS_b st w h
    dsimp only
    rw [if_neg (by decide), md_gI34, Option.bind_some, e34, m_lies hi (by decide) (i2_of (by omega) (by omega)), Option.bind_some]
    by_cases c : 0 ≤ i ∧ i ≤ 2 + (a.1 : Int)
    · rw [if_neg (by rw [b01_z]; exact fun z => z c), if_neg (fun z => z c), md_gI34, Option.bind_some, e34]
      have eA : ax_shl 1 (a.1 : Int) - 1 = ((2 ^ a.1 - 1 : Nat) : Int) := by rw [shl1 (by omega)]; omega
      rw [eA]
      obtain ⟨s2, e2, g2, R2, T2, run⟩ := m_lfill (E := E) (m := m) (h := h) (i := i) (sum := sm a.1 a.2.1) H0 lv (2 ^ a.1) s1 (Nat.le_refl _) R g1 (fun st h1 h2 => by omega)
      have rb := rdS_b (n := a.1) (by omega) hm (st := 0) (by omega)
      have t0 := T2 0 (Nat.le_refl _) (by omega)
      have last : lb_X5_lendings_65 E (some m) i (sm a.1 a.2.1) ((2 ^ a.1 - 1 : Nat) : Int) (-1) (mdl m s2 h) = some (.inr (if i < 3 then (if i = 0 then (a.1 : Int) else if i = 1 then sm a.1 a.2.1 else rdS a.1 (mayS (s 2) a) 0) else if rdS a.1 (mayS (s 2) a) 0 = 0 then -1 else a.2.2 (gre a.1 (mayS (s 2) a) (i - 3).toNat 0), mdl m s2 h)) := by
        unfold lb_X5_lendings_65
        rw [show i2 (-1) = -1 by decide, if_pos (show (-1 : Int) < 0 by decide), hi, show i2 3 = 3 by decide, show i2 1 = 1 by decide]
        have ld0 : ax_ld E (mdl m s2 h) (some (m + 20)) 100 0 = some (rdS a.1 (mayS (s 2) a) 0) := by rw [md_ld20 (by decide) (by decide)]; exact congrArg some t0
        by_cases c3 : i < 3
        · rw [if_pos c3, if_pos c3]
          by_cases c0 : i = 0
          · rw [if_pos c0, if_pos c0, md_gI34, Option.bind_some, R2.2.1]
            rfl
          · rw [if_neg c0, if_neg c0]
            by_cases c1 : i = 1
            · rw [if_pos c1, if_pos c1]
              rfl
            · rw [if_neg c1, if_neg c1, md_gR33, Option.bind_some, ld0, Option.bind_some]
              rfl
        · rw [if_neg c3, if_neg c3, md_gR33, Option.bind_some, ld0, Option.bind_some, i2_of (a := rdS a.1 (mayS (s 2) a) 0) (by omega) (by omega)]
          by_cases cr : rdS a.1 (mayS (s 2) a) 0 = 0
          · rw [if_pos cr, if_pos cr]
            rfl
          · rw [if_neg cr, if_neg cr]
            obtain ⟨j, ej⟩ : ∃ j : Nat, (j : Int) + 3 = i := ⟨(i - 3).toNat, by omega⟩
            have gr := m_greedy (E := E) (m := m) (h := h) H0 lv R2 T2 (i := i) (by omega) (j + 1) 0 0 3 (by omega) (by decide) (by rw [show ones16 0 = 0 from rfl]; omega) (by omega) cr (fun z => by omega)
            unfold f_X5_lendings_201
            have gr' : ax_iter (fun y : Int × Int × Int × ax_H => lb_X5_lendings_201 E (some m) i y.1 y.2.1 y.2.2.1 y.2.2.2) (0, 0, 3, mdl m s2 h) = some (s2 19 (gre a.1 (mayS (s 2) a) j 0 : Int), mdl m s2 h) := gr
            -- the j-th of the first row is one of them
            have gb : gre a.1 (mayS (s 2) a) j 0 < a.1 := gre_lt (n := a.1) (by omega) hm j 0 (by rw [show ones16 0 = 0 from rfl]; omega) (by omega) cr
            rw [gr', (R2.2.2 _ gb).2.2.2, show (i - 3).toNat = j by omega]
            rfl
      refine ⟨s2, ?_, q1.trans e2⟩
      have sums := it_traj (body := fun y : Int × Int × ax_H => lb_X5_lendings_37 E (some m) i y.1 ((2 ^ a.1 - 1 : Nat) : Int) y.2.1 y.2.2) (fun k => (sm k a.2.1, (k : Int), mdl m s1 h)) a.1 (r := (if i < 3 then (if i = 0 then (a.1 : Int) else if i = 1 then sm a.1 a.2.1 else rdS a.1 (mayS (s 2) a) 0) else if rdS a.1 (mayS (s 2) a) 0 = 0 then -1 else a.2.2 (gre a.1 (mayS (s 2) a) (i - 3).toNat 0), mdl m s2 h)) (fun k hk => by
        dsimp only
        unfold lb_X5_lendings_37
        rw [md_gI34, Option.bind_some, e34, i2_of (a := (k : Int)) (by omega) (by omega), i2_of (a := (a.1 : Int)) (by omega) (by omega), if_pos (by omega), md_gR31, Option.bind_some, md_ld18 (by omega) (by omega), Option.bind_some, (rr k hk).2.2.1]
        rfl) (by
        dsimp only
        unfold lb_X5_lendings_37 f_X5_lendings_65
        rw [md_gI34, Option.bind_some, e34, if_neg (Int.lt_irrefl _)]
        have q := run _ last
        rw [show ((2 ^ a.1 : Nat) : Int) - 1 = ((2 ^ a.1 - 1 : Nat) : Int) by omega] at q
        rw [q]
        rfl)
      exact sums
    · rw [if_pos (by rw [b01_z]; exact c), if_pos c]
      exact ⟨s1, rfl, q1⟩
end
