/-! Rings cleared: the model -/
set_option maxRecDepth 100000
def rlS (K : Rw) (fr : Nat → Int) (sz : Nat) : Int := rlN K fr sz 100000000 sz
def clearS (s : Sg) : Int × Sg := match ringS (s 2) with
  | none => (-3, s)
  | some (sz, _, fr) => (rlS (s 2) fr sz, sw (keepsS s 5) 2 (clN fr sz (rlS (s 2) fr sz) sz (s 2)))
def ccF (K K' : Rw) (o : Nat) (a : Int) (v : Nat) : Int := a + (if o ≠ v ∧ deepS K' o v < deepS K o v then 1 else 0)
def ccS (K K' : Rw) : Int := runF (R := Int) (fun a o => .inl (runF (R := Int) (fun a v => .inl (ccF K K' o a v)) id (K 152).toNat 0 a)) id (K 152).toNat 0 0
def clearedP (s : Sg) (w : Int) : Int := match ringS (s 2) with
  | none => -1
  | some (sz, _, fr) => if 0 ≤ w ∧ w ≤ 1 then (if w = 0 then rlS (s 2) fr sz else ccS (s 2) (clN fr sz (rlS (s 2) fr sz) sz (s 2))) else -1
theorem rlS_b {n : Int} {K : Rw} (H : RV n K) (fr : Nat → Int) {sz : Nat} (h : 2 ≤ sz) : 0 ≤ rlS K fr sz ∧ rlS K fr sz ≤ 159984 := by
  have := rl_b H fr sz (c := 100000000) (by decide) sz
  unfold rlS
  omega
theorem Ew.r0 {s s' : Sg} (e : Ew s s') : s' 0 28 = s 0 28 := e.2.1 28 (by unfold RpK; omega)
theorem Ew.o {s s' : Sg} (e : Ew s s') {o : Nat} (h : RpO o) : s' o = s o := e.1 o h
theorem Ew_keep1 {s s' : Sg} {w : Int} (e : Ew s s') (hG : G32 s) (hG' : G32 s') (hw : i2 w = w) (h0 : 0 ≤ s 0 28 ∧ s 0 28 ≤ 16) : Ew (keep1 s w) (keep1 s' w) := by
  unfold keep1
  rw [e.r0, e.o (show RpO 14 by unfold RpO; decide), e.k]
  exact Ew_u0 (Ew_sw e (by decide) hG' (u1_32 (cpR_32 (hG 14) (hG 2)) hw)) (G32_sw hG' (u1_32 (cpR_32 (hG 14) (hG 2)) hw)) (i2_of (by omega) (by omega))
theorem Ew_shif1 {s s' : Sg} (e : Ew s s') (hG : G32 s) (hG' : G32 s') (h0 : 0 ≤ s 0 28 ∧ s 0 28 ≤ 16) : Ew (shif1 s) (shif1 s') := by
  unfold shif1
  rw [e.r0, e.o (show RpO 14 by unfold RpO; decide)]
  exact Ew_u0 (Ew_sw e (by decide) hG' (cpR_32 (hG 14) (fun j => hG 14 (j + 74)))) (G32_sw hG' (cpR_32 (hG 14) (fun j => hG 14 (j + 74)))) (i2_of (by omega) (by omega))
theorem Ew_keeps {s s' : Sg} {w : Int} (e : Ew s s') (hG : G32 s) (hG' : G32 s') (hw : i2 w = w) (h0 : 0 ≤ s 0 28 ∧ s 0 28 ≤ 16) : Ew (keepsS s w) (keepsS s' w) := by
  unfold keepsS
  rw [e.r0]
  split
  · have h1 := shif1_28 s
    have e2 := Ew_shif1 e hG hG' h0
    have h2 : 0 ≤ s' 0 28 ∧ s' 0 28 ≤ 16 := by rw [e.r0]; exact h0
    exact Ew_keep1 e2 (shif1_32 hG h0) (shif1_32 hG' h2) hw (by omega)
  · exact Ew_keep1 e hG hG' hw h0
section
variable {E : ax_E} {m : Nat} {s : Sg} {h : ax_H}
theorem m_clear (hG : G32 s) (hK : KB (s 2)) (hU : UnV s) (hR : ∀ k : Int, 0 ≤ k → k < 7 → 0 ≤ s 1 k ∧ s 1 k ≤ 1000000000) : ∃ s', f_X5_clear E (some m) (mdl m s h) = some ((telP (clearS s)).1, mdl m s' h) ∧ Ew (telP (clearS s)).2 s' := by
  obtain ⟨g', w1, s1, rfl, q1, -, b1, v1⟩ := m_findsRing (E := E) (m := m) (h := h) hG hK
  have hk2 := q1.k
  have hG1 := q1.2.2 hG
  unfold f_X5_clear telP telM
  rw [md_ce, Option.bind_some, w1, Option.bind_some, md_gI43, Option.bind_some]
  cases hr : ringS (s 2) with
  | none =>
    rw [hr] at b1
    have b1' : s1 0 43 = 0 := b1
    have e : clearS s = (-3, s) := by unfold clearS; rw [hr]
    have r3 := hR (3 : Int)
    rw [e, b1', if_pos (by decide), md_ce, Option.bind_some, m_refuses (by decide) (by decide), Option.bind_some]
    refine ⟨_, rfl, ?_⟩
    dsimp only
    rw [if_pos (by decide)]
    exact Ew_ref q1 hG1 (by decide) (i2_of (by have := r3 (by decide) (by decide); rw [show -(-3 : Int) = 3 by decide]; omega) (by have := r3 (by decide) (by decide); rw [show -(-3 : Int) = 3 by decide]; omega))
  | some t =>
    obtain ⟨sz, bits, fr⟩ := t
    rw [hr] at b1 v1
    have b1' := b1
    have v1' := v1
    obtain ⟨b43, -, bf⟩ := b1
    obtain ⟨v2, -, vf⟩ := v1
    have e : clearS s = (rlS (s 2) fr sz, sw (keepsS s 5) 2 (clN fr sz (rlS (s 2) fr sz) sz (s 2))) := by unfold clearS; rw [hr]
    have rb := rlS_b hK.2.2.2.2 fr v2.1
    have hU1 : UnV s1 := by
      unfold UnV
      rw [q1.r0, q1.k, q1.o (show RpO 14 by unfold RpO; decide)]
      exact hU
    have rl := m_ringLeast (E := E) (m := m) (s := s1) (h := h) (sz := sz) (bits := bits) (fr := fr) hG1 (by rw [hk2]; exact hK) b1' (by rw [hk2]; exact v1')
    rw [hk2] at rl
    have ek2 : keepsS s1 5 2 = s 2 := (keeps_2 s1 5).trans hk2
    have ek0 : ∀ k : Int, k ≠ 28 → keepsS s1 5 0 k = s1 0 k := by
      intro k hk
      unfold keepsS keep1 shif1
      split
      · rw [sw_eq, u1_ne _ hk, sw_eq, u1_ne _ hk]
      · rw [sw_eq, u1_ne _ hk]
    have ek25 : keepsS s1 5 25 = s1 25 := by
      unfold keepsS keep1 shif1
      split
      · rw [sw_ne _ (by decide), sw_ne _ (by decide), sw_ne _ (by decide), sw_ne _ (by decide)]
      · rw [sw_ne _ (by decide), sw_ne _ (by decide)]
    have hG2 := keeps_32 (w := 5) hG1 (by decide) hU1.1
    have cl := m_clears (E := E) (m := m) (s := keepsS s1 5) (h := h) (sz := sz) (bits := bits) (fr := fr) (v := rlS (s 2) fr sz) hG2 (by rw [ek2]; exact hK) (by rw [ek0 43 (by decide), ek0 44 (by decide), ek25]; exact b1') (by rw [ek2]; exact v1') rb.1 (i2_of (by omega) (by omega))
    rw [ek2] at cl
    have ek := Ew_keeps (w := 5) q1 hG hG1 (by decide) hU.1
    obtain ⟨c1, c2, c3⟩ := cl_all (fr := fr) (sz := sz) (v := rlS (s 2) fr sz) hK.2.2.2.2 (hG 2) rb.1 sz
    have rl' : f_X5_ringLeast E (some m) (mdl m s1 h) = some (rlS (s 2) fr sz, mdl m s1 h) := rl
    rw [e, b43, i2_of (a := (sz : Int)) (by omega) (by omega), if_neg (by omega), md_ce, Option.bind_some, rl', Option.bind_some]
    dsimp only
    rw [md_ce, Option.bind_some, m_keeps hG1 hU1.1.1 hU1.1.2, Option.bind_some, md_ce, Option.bind_some, cl, Option.bind_some, md_ce, Option.bind_some, m_good, Option.bind_some]
    refine ⟨_, rfl, ?_⟩
    rw [if_neg (by omega)]
    exact Ew_good (Ew_sw ek (by decide) hG2 c2) (G32_sw hG2 c2)
/-- the model's row of how deep all get -/
def ClI (m : Nat) (s : Sg) (h : ax_H) (sz bits : Nat) (fr : Nat → Int) (P : Nat → Nat → Prop) (g : ax_H) : Prop := ∃ s', g = mdl m s' h ∧ Ew s s' ∧ rbR (some (sz, bits, fr)) (s' 0 43) (s' 0 44) (s' 25) ∧ ∀ a b : Nat, (a : Int) < s 2 152 → (b : Int) < s 2 152 → P a b → a ≠ b → s' 26 (7 * (a : Int) + b) = deepS (s 2) a b
theorem deepS_b {K : Rw} (hK : KB K) {o v : Nat} (ho : (o : Int) < K 152) : 0 ≤ deepS K o v ∧ deepS K o v ≤ 3 := by
  have b := owed_b hK.2.2.2.2 o v
  exact deep_b hK (by omega) b.1
theorem m_fill {sz bits : Nat} {fr : Nat → Int} {x2 : Int} {o : Nat} {g : ax_H} (hG : G32 s) (hK : KB (s 2)) (hL : LsV (s 2)) (ho : (o : Int) < s 2 152) (hI : ClI m s h sz bits fr (fun a _ => a < o) g) : ∃ g', f_X5_cleared_46 E (some m) x2 o 0 g = some (.inl ((o : Int) + 1, g')) ∧ ClI m s h sz bits fr (fun a _ => a < o + 1) g' := by
  have hn := hK.1
  unfold f_X5_cleared_46
  obtain ⟨g', w1, w2⟩ := it_runI (body := fun y : Int × ax_H => lb_X5_cleared_46 E (some m) x2 o y.1 y.2) (fun (_ : Unit) (p : Nat) g => ((p : Int), g)) (fun (_ : Unit) g => Sum.inl ((o : Int) + 1, g)) (I := fun v _ g => ClI m s h sz bits fr (fun a b => a < o ∨ (a = o ∧ b < v)) g) (P := fun _ g => ClI m s h sz bits fr (fun a _ => a < o + 1) g) (f := fun _ _ => (.inl () : Unit ⊕ Unit)) (fin := id) (s 2 152).toNat (by
      rintro v _ _ hv ⟨s1, rfl, q1, r1, p1⟩
      have hk2 := q1.k
      have hG1 := q1.2.2 hG
      by_cases c : o = v
      · have st26 : ax_sto (mdl m s1 h) (some (m + 26)) 100 (7 * (o : Int) + v) 0 = some (mdl m (sw s1 26 (u1 (s1 26) (7 * (o : Int) + v) 0)) h) := md_sto26 (by omega) (by omega)
        refine ⟨_, Or.inl ⟨(), rfl, ⟨sw s1 26 (u1 (s1 26) (7 * (o : Int) + v) 0), rfl, q1.trans (Ew_u (by unfold RpO; omega) (by decide) hG1 (by decide)), ?_, fun a b ha hb hp hne => ?_⟩, ?_⟩⟩
        · rw [sw_ne _ (by decide), sw_ne _ (by decide)]; exact r1
        · rw [sw_eq, u1_ne _ (by omega)]; exact p1 a b ha hb (by omega) hne
        · simp only [lb_X5_cleared_46, f_X5_cleared_83]
          rw [md_ce, Option.bind_some, m_people, Option.bind_some, hk2]
          dsimp only
          rw [i2_of (a := (v : Int)) (by omega) (by omega), i2_of (a := s 2 152) (by omega) (by omega), if_pos (by omega), md_gR45, Option.bind_some, i2_of (a := (o : Int)) (by omega) (by omega), if_pos (by omega), st26, Option.bind_some]
          simp
      · obtain ⟨s2, e2, q2⟩ := m_deepNow (E := E) (m := m) (s := s1) (h := h) (ow := (o : Int)) (vi := (v : Int)) hG1 (by rw [hk2]; exact hK) (by rw [hk2]; exact hL) (by rw [hk2]; omega) (by rw [hk2]; omega)
        rw [hk2] at e2
        have db := deepS_b hK (o := o) (v := v) ho
        have st26 : ax_sto (mdl m s2 h) (some (m + 26)) 100 (7 * (o : Int) + v) (deepS (s 2) o v) = some (mdl m (sw s2 26 (u1 (s2 26) (7 * (o : Int) + v) (deepS (s 2) o v))) h) := md_sto26 (by omega) (by omega)
        refine ⟨_, Or.inl ⟨(), rfl, ⟨sw s2 26 (u1 (s2 26) (7 * (o : Int) + v) (deepS (s 2) o v)), rfl, (q1.trans q2.ew).trans (Ew_u (by unfold RpO; omega) (by decide) (q2.2.2 hG1) (i2_of (by omega) (by omega))), ?_, fun a b ha hb hp hne => ?_⟩, ?_⟩⟩
        · rw [sw_ne _ (by decide), sw_ne _ (by decide), q2.2.1 43 (by decide) (by decide) (by decide) (by decide), q2.2.1 44 (by decide) (by decide) (by decide) (by decide), q2.1 25 (by decide) (by decide)]
          exact r1
        · rw [sw_eq]
          by_cases ca : a = o ∧ b = v
          · obtain ⟨rfl, rfl⟩ := ca
            rw [u1_eq]
          · rw [u1_ne _ (by omega), q2.1 26 (by decide) (by decide)]; exact p1 a b ha hb (by omega) hne
        · simp only [lb_X5_cleared_46, f_X5_cleared_83]
          rw [md_ce, Option.bind_some, m_people, Option.bind_some, hk2]
          dsimp only
          rw [i2_of (a := (v : Int)) (by omega) (by omega), i2_of (a := s 2 152) (by omega) (by omega), if_pos (by omega), md_gR45, Option.bind_some, i2_of (a := (o : Int)) (by omega) (by omega), if_neg (by omega), md_ce, Option.bind_some, e2, Option.bind_some]
          dsimp only
          rw [st26, Option.bind_some]
          simp) (by
      rintro _ _ ⟨s1, rfl, q1, r1, p1⟩
      have hk2 := q1.k
      refine ⟨_, ⟨s1, rfl, q1, r1, fun a b ha hb hp hne => p1 a b ha hb (by omega) hne⟩, ?_⟩
      simp only [lb_X5_cleared_46]
      rw [md_ce, Option.bind_some, m_people, Option.bind_some, hk2]
      dsimp only
      rw [i2_of (a := (((s 2 152).toNat : Nat) : Int)) (by omega) (by omega), i2_of (a := s 2 152) (by omega) (by omega), if_neg (by omega)]
      rfl) (s 2 152).toNat 0 () g (by omega) (by
      obtain ⟨s1, y1, y2, y3, y4⟩ := hI
      exact ⟨s1, y1, y2, y3, fun a b ha hb hp hne => y4 a b ha hb (by omega) hne⟩)
  exact ⟨g', w2, w1⟩
/-- the model while debts are cleared for a try -/
def CtI (m : Nat) (s : Sg) (h : ax_H) (K' : Rw) (g : ax_H) : Prop := ∃ s', g = mdl m s' h ∧ Ew (sw s 2 K') s' ∧ (∀ i : Int, 0 ≤ i → i < 73 → s' 5 (657 + i) = s 2 i) ∧ ∀ a b : Nat, (a : Int) < s 2 152 → (b : Int) < s 2 152 → a ≠ b → s' 26 (7 * (a : Int) + b) = deepS (s 2) a b
end
