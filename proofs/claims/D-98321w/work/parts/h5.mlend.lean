/-! Lendings: the model lists them -/
set_option maxRecDepth 100000
/-- so many visits: what is known of them -/
theorem vis_b {K : Rw} (H0 : KW K) {v : Nat} (hv : (v : Int) < K 153) : (0 ≤ K (87 + 4 * (v : Int)) ∧ K (87 + 4 * (v : Int)) < K 152) ∧ (0 ≤ K (87 + 4 * (v : Int) + 1) ∧ K (87 + 4 * (v : Int) + 1) < K 152) ∧ K (87 + 4 * (v : Int)) ≠ K (87 + 4 * (v : Int) + 1) ∧ (1 ≤ K (87 + 4 * (v : Int) + 2) ∧ K (87 + 4 * (v : Int) + 2) ≤ 3) := by
  obtain ⟨a, b, c, d, -⟩ := H0.2.2.1.2 (v : Int) (by omega) hv
  exact ⟨a, b, c, d⟩
theorem dpF_b {K : Rw} (H0 : KW K) (v : Nat) : ∀ o : Nat, (o : Int) ≤ K 153 → ((foldN (dpF K v) o (1, 0)).1 = 0 ∨ (foldN (dpF K v) o (1, 0)).1 = 1) ∧ 0 ≤ (foldN (dpF K v) o (1, 0)).2 ∧ (foldN (dpF K v) o (1, 0)).2 ≤ 3 := by
  intro o
  induction o with
  | zero => intro _; show ((1 : Int) = 0 ∨ (1 : Int) = 1) ∧ (0 : Int) ≤ 0 ∧ (0 : Int) ≤ 3; decide
  | succ o ih =>
    intro h
    have q := ih (by omega)
    have b := (vis_b H0 (v := o) (by omega)).2.2.2
    have es : foldN (dpF K v) (o + 1) (1, 0) = dpF K v (foldN (dpF K v) o (1, 0)) o := rfl
    rw [es]
    generalize foldN (dpF K v) o (1, 0) = a at q
    unfold dpF
    split
    · refine ⟨?_, ?_⟩
      · dsimp only
        split
        · exact Or.inl rfl
        · split
          · exact Or.inl rfl
          · exact Or.inr rfl
      · dsimp only; omega
    · exact q
section
variable {E : ax_E} {m : Nat} {s : Sg} {h : ax_H}
theorem m_isAlike {s1 : Sg} {K : Rw} (H0 : KW K) (k1 : s1 2 = K) {v o : Nat} (hv : (v : Int) < K 153) (ho : (o : Int) < K 153) : f_X5_isAlike E (some m) v o (mdl m s1 h) = some (b01 (alk K v o = true), mdl m s1 h) := by
  have n8 := H0.2.2.1.1
  have h7 := H0.1.1
  obtain ⟨a1, a2, -⟩ := vis_b H0 hv
  obtain ⟨b1, b2, -⟩ := vis_b H0 ho
  have e : (alk K v o = true) = (K (87 + 4 * (v : Int)) = K (87 + 4 * (o : Int)) ∧ K (87 + 4 * (v : Int) + 1) = K (87 + 4 * (o : Int) + 1)) := by unfold alk; rw [decide_eq_true_eq]
  unfold f_X5_isAlike f_X5_isAlike_58
  rw [md_gR2, Option.bind_some, md_ld2 (by omega) (by omega), Option.bind_some, Option.bind_some, md_ld2 (by omega) (by omega), Option.bind_some, k1, i2_of (a := K (87 + 4 * (v : Int))) (by omega) (by omega), i2_of (a := K (87 + 4 * (o : Int))) (by omega) (by omega)]
  by_cases c1 : K (87 + 4 * (v : Int)) = K (87 + 4 * (o : Int))
  · rw [if_pos c1, Option.bind_some, md_ld2 (by omega) (by omega), Option.bind_some, Option.bind_some, md_ld2 (by omega) (by omega), Option.bind_some, k1, i2_of (a := K (87 + 4 * (v : Int) + 1)) (by omega) (by omega), i2_of (a := K (87 + 4 * (o : Int) + 1)) (by omega) (by omega)]
    by_cases c2 : K (87 + 4 * (v : Int) + 1) = K (87 + 4 * (o : Int) + 1)
    · rw [if_pos c2, b01_t (by rw [e]; exact ⟨c1, c2⟩)]
    · rw [if_neg c2, b01_f (by rw [e]; exact fun z => c2 z.2)]
  · rw [if_neg c1, b01_f (by rw [e]; exact fun z => c1 z.1)]
/-- the model with so many lendings listed -/
def LmI (m : Nat) (s : Sg) (h : ax_H) (a : LsE) (g : ax_H) : Prop := ∃ s', g = mdl m s' h ∧ Ew s s' ∧ s' 0 34 = a.1 ∧ ∀ j : Nat, j < a.1 → s' 16 j = lrS (s 2) a j ∧ s' 17 j = tkS (s 2) a j ∧ s' 18 j = a.2.1 j ∧ s' 19 j = a.2.2 j
theorem m_lists (hG : G32 s) (H0 : KW (s 2)) : ∃ g', f_X5_listsLendings E (some m) (mdl m s h) = some ((match leS (s 2) with | none => 0 | some _ => 1), g') ∧ (match leS (s 2) with | none => ∃ s', g' = mdl m s' h ∧ Ew s s' | some a => LmI m s h a g') := by
  have n8 := H0.2.2.1.1
  have h7 := H0.1.1
  obtain ⟨n, hn⟩ : ∃ n : Nat, (n : Int) = s 2 153 := ⟨(s 2 153).toNat, by omega⟩
  obtain ⟨K, eK⟩ : ∃ K, K = s 2 := ⟨_, rfl⟩
  obtain ⟨s0, es0⟩ : ∃ s0, s0 = sw s 0 (u1 (s 0) 34 0) := ⟨_, rfl⟩
  have p34 : ax_pI (mdl m s h) (some m) 5 34 0 = some (mdl m s0 h) := by rw [es0]; exact md_pI
  have q0 : Ew s s0 := by rw [es0]; exact Ew_0 (by unfold RpK; decide) (by decide)
  have I0 : LmI m s h (0, (fun _ => 0), (fun _ => 0)) (mdl m s0 h) := ⟨s0, rfl, q0, by rw [es0, sw_eq, u1_eq]; rfl, fun j hj => absurd hj (Nat.not_lt_zero j)⟩
  obtain ⟨g', w1, w2⟩ := it_runI (body := fun y : Int × ax_H => lb_X5_listsLendings_7 E (some m) y.1 y.2) (fun (_ : LsE) (v : Nat) g => ((v : Int), g)) (fun (r : Option LsE) g => ((match r with | none => (0 : Int) | some _ => 1), g)) (I := fun v a g => LmI m s h a g ∧ leV (s 2) v a) (P := fun r g => match r with | none => ∃ s', g = mdl m s' h ∧ Ew s s' | some a => LmI m s h a g) (f := lsF (s 2)) (fin := some) n (by
    rintro v a g hv ⟨hI, hV⟩
    have hI' := hI
    obtain ⟨s1, rfl, q1, e34, rr⟩ := hI
    have g1 := q1.2.2 hG
    have k1 : s1 2 = K := q1.k.trans eK.symm
    rw [← eK] at hn
    rw [← eK] at H0 n8 h7
    rw [← eK] at hV rr
    have av := hV.1
    obtain ⟨vb1, vb2, vb3, vb4⟩ := vis_b H0 (v := v) (by omega)
    -- the inner loop
    have T : ∀ o : Nat, o < n → lb_X5_listsLendings_26 E (some m) v (foldN (dpF K v) o (1, 0)).1 (foldN (dpF K v) o (1, 0)).2 o (mdl m s1 h) = some (.inl ((foldN (dpF K v) (o + 1) (1, 0)).1, (foldN (dpF K v) (o + 1) (1, 0)).2, ((o + 1 : Nat) : Int), mdl m s1 h)) := by
      intro o ho
      obtain ⟨fb1, fb2, fb3⟩ := dpF_b H0 v o (by omega)
      obtain ⟨ob1, ob2, ob3, ob4⟩ := vis_b H0 (v := o) (by omega)
      have es : foldN (dpF K v) (o + 1) (1, 0) = dpF K v (foldN (dpF K v) o (1, 0)) o := rfl
      rw [es]
      generalize foldN (dpF K v) o (1, 0) = b at fb1 fb2 fb3
      have ldr : ax_ld E (mdl m s1 h) (some (m + 2)) 100 (87 + 4 * (o : Int) + 2) = some (K (87 + 4 * (o : Int) + 2)) := by rw [md_ld2 (by omega) (by omega), k1]
      have i1 : i2 b.1 = b.1 := by rcases fb1 with z | z <;> rw [z] <;> decide
      have s67 : ∀ t : Int, f_X5_listsLendings_67 E (some m) v b.2 o t (mdl m s1 h) = some (.inl (t, max b.2 (K (87 + 4 * (o : Int) + 2)), ((o + 1 : Nat) : Int), mdl m s1 h)) := by
        intro t
        unfold f_X5_listsLendings_67 f_X5_listsLendings_104 f_X5_listsLendings_105
        rw [md_gR2, Option.bind_some, ldr, Option.bind_some, i2_of (a := b.2) (by omega) (by omega), i2_of (a := K (87 + 4 * (o : Int) + 2)) (by omega) (by omega)]
        by_cases c : b.2 < K (87 + 4 * (o : Int) + 2)
        · rw [if_pos c, Option.bind_some, ldr, Option.bind_some, show max b.2 (K (87 + 4 * (o : Int) + 2)) = K (87 + 4 * (o : Int) + 2) by omega]
          rfl
        · rw [if_neg c, show max b.2 (K (87 + 4 * (o : Int) + 2)) = b.2 by omega]
          rfl
      unfold lb_X5_listsLendings_26 f_X5_listsLendings_66
      rw [md_gR2, Option.bind_some, md_ld2 (by decide) (by decide), Option.bind_some, k1, ← hn, i2_of (a := (o : Int)) (by omega) (by omega), i2_of (a := (n : Int)) (by omega) (by omega), if_pos (by omega), md_ce, Option.bind_some, m_isAlike H0 k1 (by omega) (by omega), Option.bind_some]
      dsimp only
      unfold dpF
      by_cases c : alk K v o = true
      · rw [if_neg (by rw [b01_z]; exact fun z => z c), if_pos c, i1, i2_of (a := (v : Int)) (by omega) (by omega)]
        by_cases c1 : b.1 = 0
        · rw [if_pos c1, if_pos c1]; exact s67 0
        · rw [if_neg c1, if_neg c1]
          by_cases c2 : o < v
          · rw [if_pos (by omega), if_pos c2]; exact s67 0
          · rw [if_neg (by omega), if_neg c2]; exact s67 1
      · rw [if_pos (by rw [b01_z]; exact c), if_neg c]
        unfold f_X5_listsLendings_105
        rfl
    have eM : foldN (dpF K v) n (1, 0) = dpS K v := by unfold dpS; rw [show (K 153).toNat = n by omega]
    have inn := it_to (body := fun y : Int × Int × Int × ax_H => lb_X5_listsLendings_26 E (some m) v y.1 y.2.1 y.2.2.1 y.2.2.2) (fun o => ((foldN (dpF K v) o (1, 0)).1, (foldN (dpF K v) o (1, 0)).2, (o : Int), mdl m s1 h)) n (fun o ho => T o ho)
    obtain ⟨mb1, mb2, mb3⟩ := dpF_b H0 v n (by omega)
    rw [eM] at inn mb1 mb2 mb3
    have head : lb_X5_listsLendings_7 E (some m) v (mdl m s1 h) = f_X5_listsLendings_26 E (some m) v 1 0 0 (mdl m s1 h) := by
      unfold lb_X5_listsLendings_7
      rw [md_gR2, Option.bind_some, md_ld2 (by decide) (by decide), Option.bind_some, k1, ← hn, i2_of (a := (v : Int)) (by omega) (by omega), i2_of (a := (n : Int)) (by omega) (by omega), if_pos (by omega)]
    have red : ∀ W, lb_X5_listsLendings_26 E (some m) v (dpS K v).1 (dpS K v).2 n (mdl m s1 h) = some (.inr W) → lb_X5_listsLendings_7 E (some m) v (mdl m s1 h) = some W := by
      intro W hW
      rw [head]
      unfold f_X5_listsLendings_26
      exact inn.trans (it_done hW)
    have i1 : i2 (dpS K v).1 = (dpS K v).1 := by rcases mb1 with z | z <;> rw [z] <;> decide
    rw [← eK]
    by_cases c0 : (dpS K v).1 = 0
    · refine ⟨_, Or.inl ⟨a, by unfold lsF; rw [if_pos c0], ⟨hI', ⟨by omega, fun j hj => by have := hV.2 j hj; omega⟩⟩, red _ ?_⟩⟩
      unfold lb_X5_listsLendings_26 f_X5_listsLendings_238
      rw [md_gR2, Option.bind_some, md_ld2 (by decide) (by decide), Option.bind_some, k1, ← hn, if_neg (Int.lt_irrefl _), i1, if_pos c0]
      rfl
    · obtain ⟨s2, p2, q2⟩ := m_needOf (E := E) (m := m) (h := h) (s := s1) (vi := K (87 + 4 * (v : Int))) (ho := K (87 + 4 * (v : Int) + 1)) (room := (dpS K v).2) g1 (by rw [k1]; exact H0.1) (by rw [k1]; exact H0.2.1) (by rw [k1]; exact vb2) (by rw [k1]; exact vb1) (by omega)
      rw [k1] at p2
      have nb := need_b K (K (87 + 4 * (v : Int))) (K (87 + 4 * (v : Int) + 1)) (dpS K v).2
      have eN : needS K (K (87 + 4 * (v : Int))) (K (87 + 4 * (v : Int) + 1)) (dpS K v).2 = needV K v := rfl
      rw [eN] at p2 nb
      have k2 : s2 2 = K := q2.k.trans k1
      have g2 := q2.2.2 g1
      have ldv : ∀ s4 : Sg, s4 2 = K → ax_ld E (mdl m s4 h) (some (m + 2)) 100 (87 + 4 * (v : Int)) = some (K (87 + 4 * (v : Int))) := fun s4 e => by rw [md_ld2 (by omega) (by omega), e]
      have ldh : ∀ s4 : Sg, s4 2 = K → ax_ld E (mdl m s4 h) (some (m + 2)) 100 (87 + 4 * (v : Int) + 1) = some (K (87 + 4 * (v : Int) + 1)) := fun s4 e => by rw [md_ld2 (by omega) (by omega), e]
      have I2 : LmI m s h a (mdl m s2 h) := by
        refine ⟨s2, rfl, q1.trans q2.ew, by rw [q2.2.1 34 (by decide) (by decide) (by decide) (by decide)]; exact e34, fun j hj => ?_⟩
        rw [q2.1 16 (by decide) (by decide), q2.1 17 (by decide) (by decide), q2.1 18 (by decide) (by decide), q2.1 19 (by decide) (by decide), ← eK]
        exact rr j hj
      have pre : ∀ W, (if needV K v = -1 then (some (0, mdl m s2 h) : Option (Int × ax_H)).map Sum.inr else if needV K v = 0 then f_X5_listsLendings_238 E (some m) v (mdl m s2 h) else
          (ax_gR E (mdl m s2 h) (some m) 5 29).bind fun v9 =>
          (ax_gI E (mdl m s2 h) (some m) 5 34).bind fun v10 =>
          (ax_gR E (mdl m s2 h) (some m) 5 2).bind fun v11 =>
          (ax_ld E (mdl m s2 h) v11 100 (87 + (4 * (v : Int)))).bind fun v12 =>
          (ax_sto (mdl m s2 h) v9 100 v10 v12).bind fun h13 =>
          (ax_gR E h13 (some m) 5 30).bind fun v14 =>
          (ax_gI E h13 (some m) 5 34).bind fun v15 =>
          (ax_gR E h13 (some m) 5 2).bind fun v16 =>
          (ax_ld E h13 v16 100 ((87 + (4 * (v : Int))) + 1)).bind fun v17 =>
          (ax_sto h13 v14 100 v15 v17).bind fun h18 =>
          (ax_gR E h18 (some m) 5 31).bind fun v19 =>
          (ax_gI E h18 (some m) 5 34).bind fun v20 =>
          (ax_sto h18 v19 100 v20 (needV K v)).bind fun h21 =>
          (ax_gR E h21 (some m) 5 32).bind fun v22 =>
          (ax_gI E h21 (some m) 5 34).bind fun v23 =>
          (ax_sto h21 v22 100 v23 (v : Int)).bind fun h24 =>
          (ax_gI E h24 (some m) 5 34).bind fun v25 =>
          (ax_pI h24 (some m) 5 34 (v25 + 1)).bind fun h26 =>
          f_X5_listsLendings_238 E (some m) v h26) = some W → lb_X5_listsLendings_7 E (some m) v (mdl m s1 h) = some W := by
        intro W hW
        refine red _ ?_
        unfold lb_X5_listsLendings_26
        rw [md_gR2, Option.bind_some, md_ld2 (by decide) (by decide), Option.bind_some, k1, ← hn, if_neg (Int.lt_irrefl _), i1, if_neg c0, Option.bind_some, ldv s1 k1, Option.bind_some, Option.bind_some, ldh s1 k1, Option.bind_some, md_ce, Option.bind_some, p2, Option.bind_some]
        dsimp only
        rw [i2_of (a := needV K v) (by omega) (by omega), show i2 (-1) = -1 by decide, hW]
        rfl
      by_cases c1 : needV K v = -1
      · refine ⟨mdl m s2 h, Or.inr ⟨none, by unfold lsF; rw [if_neg c0, if_pos c1], ⟨s2, rfl, q1.trans q2.ew⟩, pre _ ?_⟩⟩
        rw [if_pos c1]
        rfl
      · by_cases c2 : needV K v = 0
        · refine ⟨mdl m s2 h, Or.inl ⟨a, by unfold lsF; rw [if_neg c0, if_neg c1, if_pos c2], ⟨I2, ⟨by omega, fun j hj => by have := hV.2 j hj; omega⟩⟩, pre _ ?_⟩⟩
          rw [if_neg c1, if_pos c2]
          rfl
        · have es : lsF K a v = .inl (a.1 + 1, rbU a.2.1 a.1 (needV K v), rbU a.2.2 a.1 v) := by unfold lsF; rw [if_neg c0, if_neg c1, if_neg c2]
          have V2 := lsF_V hV es
          have f34 : s2 0 34 = a.1 := by rw [q2.2.1 34 (by decide) (by decide) (by decide) (by decide)]; exact e34
          obtain ⟨s3, es3⟩ : ∃ s3, s3 = sw s2 16 (u1 (s2 16) a.1 (K (87 + 4 * (v : Int)))) := ⟨_, rfl⟩
          obtain ⟨s4, es4⟩ : ∃ s4, s4 = sw s3 17 (u1 (s3 17) a.1 (K (87 + 4 * (v : Int) + 1))) := ⟨_, rfl⟩
          obtain ⟨s5, es5⟩ : ∃ s5, s5 = sw s4 18 (u1 (s4 18) a.1 (needV K v)) := ⟨_, rfl⟩
          obtain ⟨s6, es6⟩ : ∃ s6, s6 = sw s5 19 (u1 (s5 19) a.1 v) := ⟨_, rfl⟩
          obtain ⟨s7, es7⟩ : ∃ s7, s7 = sw s6 0 (u1 (s6 0) 34 ((a.1 : Int) + 1)) := ⟨_, rfl⟩
          have t3 : ax_sto (mdl m s2 h) (some (m + 16)) 100 (a.1 : Int) (K (87 + 4 * (v : Int))) = some (mdl m s3 h) := by rw [es3]; exact md_sto16 (by omega) (by omega)
          have t4 : ax_sto (mdl m s3 h) (some (m + 17)) 100 (a.1 : Int) (K (87 + 4 * (v : Int) + 1)) = some (mdl m s4 h) := by rw [es4]; exact md_sto17 (by omega) (by omega)
          have t5 : ax_sto (mdl m s4 h) (some (m + 18)) 100 (a.1 : Int) (needV K v) = some (mdl m s5 h) := by rw [es5]; exact md_sto18 (by omega) (by omega)
          have t6 : ax_sto (mdl m s5 h) (some (m + 19)) 100 (a.1 : Int) (v : Int) = some (mdl m s6 h) := by rw [es6]; exact md_sto19 (by omega) (by omega)
          have t7 : ax_pI (mdl m s6 h) (some m) 5 34 ((a.1 : Int) + 1) = some (mdl m s7 h) := by rw [es7]; exact md_pI
          have g3 : G32 s3 := by rw [es3]; exact G32_sw g2 (u1_32 (g2 16) (i2_of (by omega) (by omega)))
          have g4 : G32 s4 := by rw [es4]; exact G32_sw g3 (u1_32 (g3 17) (i2_of (by omega) (by omega)))
          have g5 : G32 s5 := by rw [es5]; exact G32_sw g4 (u1_32 (g4 18) (i2_of (by omega) (by omega)))
          have g6 : G32 s6 := by rw [es6]; exact G32_sw g5 (u1_32 (g5 19) (i2_of (by omega) (by omega)))
          have e3 : Ew s2 s3 := by rw [es3]; exact Ew_u (by unfold RpO; decide) (by decide) g2 (i2_of (by omega) (by omega))
          have e4 : Ew s3 s4 := by rw [es4]; exact Ew_u (by unfold RpO; decide) (by decide) g3 (i2_of (by omega) (by omega))
          have e5 : Ew s4 s5 := by rw [es5]; exact Ew_u (by unfold RpO; decide) (by decide) g4 (i2_of (by omega) (by omega))
          have e6 : Ew s5 s6 := by rw [es6]; exact Ew_u (by unfold RpO; decide) (by decide) g5 (i2_of (by omega) (by omega))
          have e7 : Ew s6 s7 := by rw [es7]; exact Ew_0 (by unfold RpK; decide) (i2_of (by omega) (by omega))
          have z3 : s3 0 34 = a.1 := by rw [es3, sw_ne _ (by decide)]; exact f34
          have z4 : s4 0 34 = a.1 := by rw [es4, sw_ne _ (by decide)]; exact z3
          have z5 : s5 0 34 = a.1 := by rw [es5, sw_ne _ (by decide)]; exact z4
          have z6 : s6 0 34 = a.1 := by rw [es6, sw_ne _ (by decide)]; exact z5
          have k3 : s3 2 = K := e3.k.trans k2
          refine ⟨mdl m s7 h, Or.inl ⟨_, es, ⟨⟨s7, rfl, (q1.trans q2.ew).trans (((e3.trans e4).trans e5).trans (e6.trans e7)), by rw [es7, sw_eq, u1_eq]; rfl, fun j hj => ?_⟩, V2⟩, pre _ ?_⟩⟩
          · have x16 : s7 16 = u1 (s2 16) a.1 (K (87 + 4 * (v : Int))) := by rw [es7, sw_ne _ (by decide), es6, sw_ne _ (by decide), es5, sw_ne _ (by decide), es4, sw_ne _ (by decide), es3, sw_eq]
            have x17 : s7 17 = u1 (s2 17) a.1 (K (87 + 4 * (v : Int) + 1)) := by rw [es7, sw_ne _ (by decide), es6, sw_ne _ (by decide), es5, sw_ne _ (by decide), es4, sw_eq, es3, sw_ne _ (by decide)]
            have x18 : s7 18 = u1 (s2 18) a.1 (needV K v) := by rw [es7, sw_ne _ (by decide), es6, sw_ne _ (by decide), es5, sw_eq, es4, sw_ne _ (by decide), es3, sw_ne _ (by decide)]
            have x19 : s7 19 = u1 (s2 19) a.1 v := by rw [es7, sw_ne _ (by decide), es6, sw_eq, es5, sw_ne _ (by decide), es4, sw_ne _ (by decide), es3, sw_ne _ (by decide)]
            rw [x16, x17, x18, x19, ← eK]
            unfold lrS tkS
            dsimp only at hj ⊢
            unfold rbU
            by_cases cj : j = a.1
            · subst cj
              rw [u1_eq, u1_eq, u1_eq, u1_eq, if_pos rfl, if_pos rfl]
              exact ⟨rfl, rfl, rfl, rfl⟩
            · rw [u1_ne _ (by omega), u1_ne _ (by omega), u1_ne _ (by omega), u1_ne _ (by omega), if_neg cj, if_neg cj, q2.1 16 (by decide) (by decide), q2.1 17 (by decide) (by decide), q2.1 18 (by decide) (by decide), q2.1 19 (by decide) (by decide)]
              exact rr j (by omega)
          · rw [if_neg c1, if_neg c2, md_gR29, Option.bind_some, md_gI34, Option.bind_some, f34, md_gR2, Option.bind_some, ldv s2 k2, Option.bind_some, t3, Option.bind_some, md_gR30, Option.bind_some, md_gI34, Option.bind_some, z3, md_gR2, Option.bind_some, ldh s3 k3, Option.bind_some, t4, Option.bind_some, md_gR31, Option.bind_some, md_gI34, Option.bind_some, z4, t5, Option.bind_some, md_gR32, Option.bind_some, md_gI34, Option.bind_some, z5, t6, Option.bind_some, md_gI34, Option.bind_some, z6, t7, Option.bind_some]
            rfl) (by
    rintro a g ⟨hI, -⟩
    refine ⟨g, hI, ?_⟩
    obtain ⟨s1, rfl, q1, -⟩ := hI
    have k1 : s1 2 = s 2 := q1.k
    dsimp only
    unfold lb_X5_listsLendings_7
    rw [md_gR2, Option.bind_some, md_ld2 (by decide) (by decide), Option.bind_some, k1, ← hn, if_neg (Int.lt_irrefl _)]
    rfl) n 0 (0, (fun _ => 0), (fun _ => 0)) (mdl m s0 h) (by omega) ⟨I0, ⟨Nat.le_refl _, fun j hj => absurd hj (Nat.not_lt_zero j)⟩⟩
  have eL : runF (lsF (s 2)) some n 0 (0, (fun _ => 0), (fun _ => 0)) = leS (s 2) := by unfold leS; rw [show (s 2 153).toNat = n by omega]
  rw [eL] at w1 w2
  refine ⟨g', ?_, w1⟩
  unfold f_X5_listsLendings f_X5_listsLendings_7
  rw [p34, Option.bind_some]
  exact w2
end
