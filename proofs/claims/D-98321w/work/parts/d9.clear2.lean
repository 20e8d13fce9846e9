/-! Rings cleared for a try: the model -/
set_option maxRecDepth 100000
section
variable {E : ax_E} {m : Nat} {s : Sg} {h : ax_H}
theorem m_ccIn {K' : Rw} {o : Nat} {a0 : Int} {g : ax_H} (hG : G32 s) (hn : 0 ≤ s 2 152 ∧ s 2 152 ≤ 7) (h52 : K' 152 = s 2 152) (hG' : K32 K') (hK' : KB K') (hK : KB (s 2)) (hL' : LsV K') (ho : (o : Int) < s 2 152) (hI : CtI m s h K' g) : ∃ g', f_X5_cleared_124 E (some m) a0 o 0 g = some (.inl (runF (R := Int) (fun a v => .inl (ccF (s 2) K' o a v)) id (s 2 152).toNat 0 a0, (o : Int) + 1, g')) ∧ CtI m s h K' g' := by
  unfold f_X5_cleared_124
  obtain ⟨g', w1, w2⟩ := it_runI (body := fun y : Int × Int × ax_H => lb_X5_cleared_124 E (some m) y.1 o y.2.1 y.2.2) (fun (a : Int) (p : Nat) g => (a, (p : Int), g)) (fun (r : Int) g => Sum.inl (r, (o : Int) + 1, g)) (I := fun _ _ g => CtI m s h K' g) (P := fun _ g => CtI m s h K' g) (f := fun a v => (.inl (ccF (s 2) K' o a v) : Int ⊕ Int)) (fin := id) (s 2 152).toNat (by
      rintro v a _ hv hI
      have hI' := hI
      obtain ⟨s1, rfl, q1, p5, p1⟩ := hI
      have hk2 : s1 2 = K' := by rw [q1.k, sw_eq]
      have hG1 := q1.2.2 (G32_sw hG hG')
      by_cases c : o = v
      · refine ⟨_, Or.inl ⟨_, rfl, hI', ?_⟩⟩
        simp only [lb_X5_cleared_124, f_X5_cleared_169, f_X5_cleared_170]
        rw [md_ce, Option.bind_some, m_people, Option.bind_some, hk2, h52]
        dsimp only
        rw [i2_of (a := (v : Int)) (by omega) (by omega), i2_of (a := s 2 152) (by omega) (by omega), if_pos (by omega), i2_of (a := (o : Int)) (by omega) (by omega), if_pos (by omega)]
        unfold ccF
        rw [if_neg (fun z => z.1 c)]
        simp
      · obtain ⟨s2, e2, q2⟩ := m_deepNow (E := E) (m := m) (s := s1) (h := h) (ow := (o : Int)) (vi := (v : Int)) hG1 (by rw [hk2]; exact hK') (by rw [hk2]; exact hL') (by rw [hk2, h52]; omega) (by rw [hk2, h52]; omega)
        rw [hk2] at e2
        have db := deepS_b hK' (o := o) (v := v) (by omega)
        have db2 := deepS_b hK (o := o) (v := v) (by omega)
        have v26 : s2 26 (7 * (o : Int) + v) = deepS (s 2) o v := by rw [q2.1 26 (by decide) (by decide)]; exact p1 o v (by omega) (by omega) c
        refine ⟨mdl m s2 h, Or.inl ⟨_, rfl, ⟨s2, rfl, q1.trans q2.ew, fun i i0 i1 => by rw [q2.1 5 (by decide) (by decide)]; exact p5 i i0 i1, fun a b ha hb hne => by rw [q2.1 26 (by decide) (by decide)]; exact p1 a b ha hb hne⟩, ?_⟩⟩
        simp only [lb_X5_cleared_124, f_X5_cleared_169, f_X5_cleared_170]
        rw [md_ce, Option.bind_some, m_people, Option.bind_some, hk2, h52]
        dsimp only
        rw [i2_of (a := (v : Int)) (by omega) (by omega), i2_of (a := s 2 152) (by omega) (by omega), if_pos (by omega), i2_of (a := (o : Int)) (by omega) (by omega), if_neg (by omega), md_ce, Option.bind_some, e2, Option.bind_some]
        dsimp only
        rw [md_gR45, Option.bind_some, md_ld26 (by omega) (by omega), Option.bind_some, v26, i2_of (a := deepS K' o v) (by omega) (by omega), i2_of (a := deepS (s 2) o v) (by omega) (by omega)]
        unfold ccF
        by_cases c2 : deepS K' o v < deepS (s 2) o v
        · rw [if_pos c2, if_pos ⟨c, c2⟩]; simp
        · rw [if_neg c2, if_neg (fun z => c2 z.2)]; simp) (by
      rintro a _ hI
      have hI' := hI
      obtain ⟨s1, rfl, q1, p5, p1⟩ := hI
      have hk2 : s1 2 = K' := by rw [q1.k, sw_eq]
      refine ⟨_, hI', ?_⟩
      simp only [lb_X5_cleared_124]
      rw [md_ce, Option.bind_some, m_people, Option.bind_some, hk2, h52]
      dsimp only
      rw [i2_of (a := (((s 2 152).toNat : Nat) : Int)) (by omega) (by omega), i2_of (a := s 2 152) (by omega) (by omega), if_neg (by omega)]
      rfl) (s 2 152).toNat 0 a0 g (by omega) hI
  exact ⟨g', w2, w1⟩
theorem m_cc {K' : Rw} {g : ax_H} (hG : G32 s) (hn : 0 ≤ s 2 152 ∧ s 2 152 ≤ 7) (hG' : K32 K') (hK' : KB K') (hK : KB (s 2)) (hL' : LsV K') (hu : ∀ i, (i < 7 ∨ 73 ≤ i) → K' i = s 2 i) (hI : CtI m s h K' g) : ∃ s', f_X5_cleared_112 E (some m) 0 0 g = some (ccS (s 2) K', mdl m s' h) ∧ Ew s s' := by
  have h52 : K' 152 = s 2 152 := hu 152 (by decide)
  unfold f_X5_cleared_112
  obtain ⟨g', w1, w2⟩ := it_runI (body := fun y : Int × Int × ax_H => lb_X5_cleared_112 E (some m) y.1 y.2.1 y.2.2) (fun (a : Int) (p : Nat) g => (a, (p : Int), g)) (fun (r : Int) g => (r, g)) (I := fun _ _ g => CtI m s h K' g) (P := fun _ g => ∃ s', g = mdl m s' h ∧ Ew s s') (f := fun a o => (.inl (runF (R := Int) (fun a v => .inl (ccF (s 2) K' o a v)) id (s 2 152).toNat 0 a) : Int ⊕ Int)) (fin := id) (s 2 152).toNat (by
      rintro o a _ ho hI
      obtain ⟨g2, x1, x2⟩ := m_ccIn (E := E) (a0 := a) (o := o) hG hn h52 hG' hK' hK hL' (by omega) hI
      obtain ⟨s1, rfl, q1, p5, p1⟩ := hI
      have hk2 : s1 2 = K' := by rw [q1.k, sw_eq]
      refine ⟨g2, Or.inl ⟨_, rfl, x2, ?_⟩⟩
      simp only [lb_X5_cleared_112]
      rw [md_ce, Option.bind_some, m_people, Option.bind_some, hk2, h52]
      dsimp only
      rw [i2_of (a := (o : Int)) (by omega) (by omega), i2_of (a := s 2 152) (by omega) (by omega), if_pos (by omega), x1]
      rfl) (by
      rintro a _ ⟨s1, rfl, q1, p5, p1⟩
      have hk2 : s1 2 = K' := by rw [q1.k, sw_eq]
      have hG1 := q1.2.2 (G32_sw hG hG')
      have eb : cpR (s1 2) 0 (fun i => s1 5 (73 * 9 + i)) 73 = s 2 := by
        funext j
        by_cases c : 0 ≤ j ∧ j < 73
        · rw [cpR_in (by omega)]
          have := p5 j c.1 c.2
          rw [show 73 * 9 + (j - 0) = 657 + j by omega]
          exact this
        · rw [cpR_out (by omega), hk2]
          exact hu j (by omega)
      have tb := m_takesBack (E := E) (m := m) (s := s1) (h := h) (k := 9) (by decide) (by decide)
      rw [eb] at tb
      have ew := Ew_sw (o := 2) (F := s 2) q1 (by decide) hG1 (hG 2)
      rw [sw_sw, sw_self] at ew
      refine ⟨_, ⟨_, rfl, ew⟩, ?_⟩
      simp only [lb_X5_cleared_112]
      rw [md_ce, Option.bind_some, m_people, Option.bind_some, hk2, h52]
      dsimp only
      rw [i2_of (a := (((s 2 152).toNat : Nat) : Int)) (by omega) (by omega), i2_of (a := s 2 152) (by omega) (by omega), if_neg (by omega), md_ce, Option.bind_some, tb, Option.bind_some]
      rfl) (s 2 152).toNat 0 0 g (by omega) hI
  obtain ⟨s', rfl, q⟩ := w1
  exact ⟨s', w2, q⟩
theorem m_cleared {w : Int} (hG : G32 s) (hK : KB (s 2)) (hL : LsV (s 2)) (hw : i2 w = w) : ∃ s', f_X5_cleared E (some m) w (mdl m s h) = some (clearedP s w, mdl m s' h) ∧ Ew s s' := by
  have hn := hK.1
  obtain ⟨g', w1, s1, rfl, q1, -, b1, v1⟩ := m_findsRing (E := E) (m := m) (h := h) hG hK
  have hk2 := q1.k
  have hG1 := q1.2.2 hG
  unfold f_X5_cleared f_X5_cleared_20
  rw [md_ce, Option.bind_some, w1, Option.bind_some, md_gI43, Option.bind_some]
  cases hr : ringS (s 2) with
  | none =>
    rw [hr] at b1
    have b1' : s1 0 43 = 0 := b1
    have e : clearedP s w = -1 := by unfold clearedP; rw [hr]
    rw [e, b1', if_pos (by decide)]
    exact ⟨s1, rfl, q1⟩
  | some t =>
    obtain ⟨sz, bits, fr⟩ := t
    rw [hr] at b1 v1
    have b1' := b1
    have v1' := v1
    obtain ⟨b43, -, bf⟩ := b1
    obtain ⟨v2, -, vf⟩ := v1
    have e : clearedP s w = if 0 ≤ w ∧ w ≤ 1 then (if w = 0 then rlS (s 2) fr sz else ccS (s 2) (clN fr sz (rlS (s 2) fr sz) sz (s 2))) else -1 := by unfold clearedP; rw [hr]
    have rb := rlS_b hK.2.2.2.2 fr v2.1
    have rl := m_ringLeast (E := E) (m := m) (s := s1) (h := h) (sz := sz) (bits := bits) (fr := fr) hG1 (by rw [hk2]; exact hK) b1' (by rw [hk2]; exact v1')
    rw [hk2] at rl
    have rl' : f_X5_ringLeast E (some m) (mdl m s1 h) = some (rlS (s 2) fr sz, mdl m s1 h) := rl
    rw [e, b43, i2_of (a := (sz : Int)) (by omega) (by omega), if_neg (by omega), m_lies hw (by decide) (by decide), Option.bind_some]
    by_cases c1 : 0 ≤ w ∧ w ≤ 1
    · rw [if_neg (by rw [b01_z]; exact fun z => z c1), if_pos c1, md_ce, Option.bind_some, rl', Option.bind_some, hw]
      dsimp only
      by_cases c2 : w = 0
      · rw [if_pos c2, if_pos c2]
        exact ⟨s1, rfl, q1⟩
      · rw [if_neg c2, if_neg c2]
        obtain ⟨c1', c2', c3'⟩ := cl_all (fr := fr) (sz := sz) (v := rlS (s 2) fr sz) hK.2.2.2.2 (hG 2) rb.1 sz
        obtain ⟨K', eK⟩ : ∃ K', K' = clN fr sz (rlS (s 2) fr sz) sz (s 2) := ⟨_, rfl⟩
        rw [← eK] at c1' c2' c3' ⊢
        have hKc : KB K' := hK.low (fun i hi => c3' i (Or.inr hi)) c1'
        have hLc : LsV K' := hL.low (fun i hi => c3' i (Or.inr hi))
        unfold f_X5_cleared_35
        obtain ⟨g2, ⟨s2, rfl, q2⟩, x2⟩ := it_runI (body := fun y : Int × ax_H => lb_X5_cleared_35 E (some m) (rlS (s 2) fr sz) y.1 y.2) (fun (_ : Unit) (p : Nat) g => ((p : Int), g)) (fun (_ : Unit) g => (ccS (s 2) K', g)) (I := fun o _ g => ClI m s h sz bits fr (fun a _ => a < o) g) (P := fun _ g => ∃ s', g = mdl m s' h ∧ Ew s s') (f := fun _ _ => (.inl () : Unit ⊕ Unit)) (fin := id) (s 2 152).toNat (by
            rintro o _ _ ho hI
            obtain ⟨g2, x1, x2⟩ := m_fill (E := E) (x2 := rlS (s 2) fr sz) (o := o) hG hK hL (by omega) hI
            obtain ⟨s3, rfl, q3, r3, p3⟩ := hI
            refine ⟨g2, Or.inl ⟨(), rfl, x2, ?_⟩⟩
            simp only [lb_X5_cleared_35]
            rw [md_ce, Option.bind_some, m_people, Option.bind_some, q3.k]
            dsimp only
            rw [i2_of (a := (o : Int)) (by omega) (by omega), i2_of (a := s 2 152) (by omega) (by omega), if_pos (by omega), x1]
            rfl) (by
            rintro _ _ ⟨s3, rfl, q3, r3, p3⟩
            have hk3 := q3.k
            have hG3 := q3.2.2 hG
            obtain ⟨s4, es4⟩ : ∃ s4, s4 = sw s3 5 (cpR (s3 5) (73 * 9) (s3 2) 73) := ⟨_, rfl⟩
            have la := m_laysAside (E := E) (m := m) (s := s3) (h := h) (k := 9) (by decide) (by decide)
            rw [← es4] at la
            have h5 : ∀ i, i2 (cpR (s3 5) (73 * 9) (s3 2) 73 i) = cpR (s3 5) (73 * 9) (s3 2) 73 i := cpR_32 (hG3 5) (hG3 2)
            have q4 : Ew s s4 := by rw [es4]; exact q3.trans (Ew_o (by unfold RpO; omega) (by decide) h5)
            have hG4 := q4.2.2 hG
            have cl := m_clears (E := E) (m := m) (s := s4) (h := h) (sz := sz) (bits := bits) (fr := fr) (v := rlS (s 2) fr sz) hG4 (by rw [q4.k]; exact hK) (by rw [es4, sw_ne _ (by decide), sw_ne _ (by decide)]; exact r3) (by rw [q4.k]; exact v1') rb.1 (i2_of (by omega) (by omega))
            rw [q4.k, ← eK] at cl
            have ct : CtI m s h K' (mdl m (sw s4 2 K') h) := by
              refine ⟨_, rfl, Ew_sw q4 (by decide) hG4 c2', fun i i0 i1 => ?_, fun a b ha hb hne => ?_⟩
              · rw [sw_ne _ (by decide), es4, sw_eq, cpR_in (by omega), hk3]
                congr 1
                omega
              · rw [sw_ne _ (by decide), es4, sw_ne _ (by decide)]
                exact p3 a b ha hb (by omega) hne
            obtain ⟨s5, y1, y2⟩ := m_cc (E := E) hG hn c2' hKc hK hLc c3' ct
            refine ⟨_, ⟨s5, rfl, y2⟩, ?_⟩
            simp only [lb_X5_cleared_35]
            rw [md_ce, Option.bind_some, m_people, Option.bind_some, hk3]
            dsimp only
            rw [i2_of (a := (((s 2 152).toNat : Nat) : Int)) (by omega) (by omega), i2_of (a := s 2 152) (by omega) (by omega), if_neg (by omega), md_ce, Option.bind_some, la, Option.bind_some, md_ce, Option.bind_some, cl, Option.bind_some, y1]
            rfl) (s 2 152).toNat 0 () (mdl m s1 h) (by omega) ⟨s1, rfl, q1, b1', fun a b ha hb hp hne => absurd hp (by omega)⟩
        exact ⟨s2, x2, q2⟩
    · rw [if_pos (by rw [b01_z]; exact c1), if_neg c1]
      exact ⟨s1, rfl, q1⟩
end
