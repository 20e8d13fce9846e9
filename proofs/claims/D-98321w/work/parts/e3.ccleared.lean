/-! Rings cleared for a try: the component; what holds then -/
set_option maxRecDepth 100000
section
variable {E : ax_E} {h : ax_H} {x t dl dv ds du : Nat} {s : Sg}
/-- heaps with a row of books on paper -/
def CpI (x : Nat) (h : ax_H) (c z : Nat) (K' : Rw) (g : ax_H) : Prop := Kp x h g ∧ (h.1 ≤ g.1 ∧ g.1 ≤ h.1 + c ∧ h.2.1 ≤ g.2.1 ∧ g.2.1 ≤ h.2.1 + z) ∧ BK g (x + 23) K'
theorem CpI.ev {c z : Nat} {K' : Rw} {g g' : ax_H} (J : CpI x h c z K' g) (e : EvS x g g') : CpI x h c z K' g' := by
  obtain ⟨k, q, B⟩ := J
  exact ⟨k.trans e.1, by rw [e.2.1, e.2.2.1]; exact q, B.ev e (Or.inr (by omega))⟩
theorem c_ccIn {K' : Rw} {o c z : Nat} {a0 : Int} {g : ax_H} (H : REP E h x t dl dv ds du s) (hG : G32 s) (hK : KB (s 2)) (hG' : K32 K') (hK' : KB K') (hu : ∀ i, 73 ≤ i → K' i = s 2 i) (ho : (o : Int) < s 2 152) (J : CpI x h c z K' g) : ∃ g', f_X0_cleared_76 E (some x) a0 o 0 g = some (.inl (runF (R := Int) (fun a v => .inl (ccF (s 2) K' o a v)) id (s 2 152).toNat 0 a0, (o : Int) + 1, g')) ∧ CpI x h c z K' g' := by
  have hn := hK.1
  have h52 : K' 152 = s 2 152 := hu 152 (by decide)
  unfold f_X0_cleared_76
  obtain ⟨g', w1, w2⟩ := it_runI (body := fun y : Int × Int × ax_H => lb_X0_cleared_76 E (some x) y.1 o y.2.1 y.2.2) (fun (a : Int) (p : Nat) g => (a, (p : Int), g)) (fun (r : Int) g => Sum.inl (r, (o : Int) + 1, g)) (I := fun _ _ g => CpI x h c z K' g) (P := fun _ g => CpI x h c z K' g) (f := fun a v => (.inl (ccF (s 2) K' o a v) : Int ⊕ Int)) (fin := id) (s 2 152).toNat (by
      rintro v a g hv J
      have H1 := H.keep J.1
      obtain ⟨y1, y2⟩ := c_ppl H1
      by_cases c : o = v
      · refine ⟨_, Or.inl ⟨_, rfl, J, ?_⟩⟩
        simp only [lb_X0_cleared_76, f_X0_cleared_129, f_X0_cleared_130]
        rw [y1, Option.bind_some, y2, Option.bind_some, i2_of (a := (v : Int)) (by omega) (by omega), i2_of (a := s 2 152) (by omega) (by omega), if_pos (by omega), i2_of (a := (o : Int)) (by omega) (by omega), if_pos (by omega)]
        unfold ccF
        rw [if_neg (fun z => z.1 c)]
        simp
      · obtain ⟨g1, e2, q2⟩ := c_deep (E := E) (K := K') (ow := (o : Int)) (vi := (v : Int)) H1 hG hK hK' hG' hu J.2.2 (by omega) (by omega)
        have J1 := J.ev q2
        have H2 := H.keep J1.1
        obtain ⟨g2, e3, q3⟩ := c_deep (E := E) (K := s 2) (ow := (o : Int)) (vi := (v : Int)) H2 hG hK hK (hG 2) (fun _ _ => rfl) H2.bk (by omega) (by omega)
        have J2 := J1.ev q3
        have db := deepS_b hK' (o := o) (v := v) (by omega)
        have db2 := deepS_b hK (o := o) (v := v) (by omega)
        have r13 : ax_gR E g (some x) 0 13 = some (some (x + 23)) := (c_paper (E := E) H1 hK).1
        refine ⟨g2, Or.inl ⟨_, rfl, J2, ?_⟩⟩
        simp only [lb_X0_cleared_76, f_X0_cleared_129, f_X0_cleared_130]
        rw [y1, Option.bind_some, y2, Option.bind_some, i2_of (a := (v : Int)) (by omega) (by omega), i2_of (a := s 2 152) (by omega) (by omega), if_pos (by omega), i2_of (a := (o : Int)) (by omega) (by omega), if_neg (by omega), r13, Option.bind_some, f_ce H1.2.1.1 (by decide), Option.bind_some, e2, Option.bind_some]
        dsimp only
        rw [f_ce H2.2.1.1 (by decide), Option.bind_some, c_books H2, Option.bind_some]
        dsimp only
        rw [f_ce H2.2.1.1 (by decide), Option.bind_some, e3, Option.bind_some]
        dsimp only
        rw [i2_of (a := deepS K' o v) (by omega) (by omega), i2_of (a := deepS (s 2) o v) (by omega) (by omega)]
        unfold ccF
        by_cases c2 : deepS K' o v < deepS (s 2) o v
        · rw [if_pos c2, if_pos ⟨c, c2⟩]; simp
        · rw [if_neg c2, if_neg (fun z => c2 z.2)]; simp) (by
      rintro a g J
      have H1 := H.keep J.1
      obtain ⟨y1, y2⟩ := c_ppl H1
      refine ⟨_, J, ?_⟩
      simp only [lb_X0_cleared_76]
      rw [y1, Option.bind_some, y2, Option.bind_some, i2_of (a := (((s 2 152).toNat : Nat) : Int)) (by omega) (by omega), i2_of (a := s 2 152) (by omega) (by omega), if_neg (by omega)]
      rfl) (s 2 152).toNat 0 a0 g (by omega) J
  exact ⟨g', w2, w1⟩
theorem c_cc {K' : Rw} {c z : Nat} {g : ax_H} (H : REP E h x t dl dv ds du s) (hG : G32 s) (hK : KB (s 2)) (hG' : K32 K') (hK' : KB K') (hu : ∀ i, 73 ≤ i → K' i = s 2 i) (J : CpI x h c z K' g) : ∃ g', f_X0_cleared_61 E (some x) 0 0 g = some (ccS (s 2) K', g') ∧ CpI x h c z K' g' := by
  have hn := hK.1
  unfold f_X0_cleared_61
  obtain ⟨g', w1, w2⟩ := it_runI (body := fun y : Int × Int × ax_H => lb_X0_cleared_61 E (some x) y.1 y.2.1 y.2.2) (fun (a : Int) (p : Nat) g => (a, (p : Int), g)) (fun (r : Int) g => (r, g)) (I := fun _ _ g => CpI x h c z K' g) (P := fun _ g => CpI x h c z K' g) (f := fun a o => (.inl (runF (R := Int) (fun a v => .inl (ccF (s 2) K' o a v)) id (s 2 152).toNat 0 a) : Int ⊕ Int)) (fin := id) (s 2 152).toNat (by
      rintro o a g ho J
      have H1 := H.keep J.1
      obtain ⟨y1, y2⟩ := c_ppl H1
      obtain ⟨g2, x1, x2⟩ := c_ccIn (E := E) (a0 := a) (o := o) H hG hK hG' hK' hu (by omega) J
      refine ⟨g2, Or.inl ⟨_, rfl, x2, ?_⟩⟩
      simp only [lb_X0_cleared_61]
      rw [y1, Option.bind_some, y2, Option.bind_some, i2_of (a := (o : Int)) (by omega) (by omega), i2_of (a := s 2 152) (by omega) (by omega), if_pos (by omega), x1]
      rfl) (by
      rintro a g J
      have H1 := H.keep J.1
      obtain ⟨y1, y2⟩ := c_ppl H1
      refine ⟨_, J, ?_⟩
      simp only [lb_X0_cleared_61]
      rw [y1, Option.bind_some, y2, Option.bind_some, i2_of (a := (((s 2 152).toNat : Nat) : Int)) (by omega) (by omega), i2_of (a := s 2 152) (by omega) (by omega), if_neg (by omega)]
      rfl) (s 2 152).toNat 0 0 g (by omega) J
  exact ⟨g', w2, w1⟩
theorem c_cleared {w : Int} (H : REP E h x t dl dv ds du s) (hG : G32 s) (hK : KB (s 2)) (hw : i2 w = w) (e1 : h.1 + 11 ≤ E.1.1) (e2 : h.2.1 + 76 ≤ E.1.2) : ∃ h', f_X0_cleared E (some x) w h = some (clearedP s w, h') ∧ REP E h' x t dl dv ds du s ∧ Blk x 30 300 h h' := by
  obtain ⟨p1, p2, p3, g, p4, J⟩ := c_newRing H hG hK e1 e2
  have bw := i2_lh hw
  have hx := H.1.1.1
  have hn := hK.1
  have kp := J.1.1
  obtain ⟨z1, z2⟩ := J.1.2.1
  have H1 := H.keep kp
  have t27 := J.1.2.2.1.1
  have fin0 : REP E g x t dl dv ds du s ∧ Blk x 30 300 h g := ⟨H1, ⟨by omega, by omega, by omega, by omega, fun b b1 b2 => kp.2.2.2.2.2.2 b b1 b2⟩⟩
  unfold f_X0_cleared f_X0_cleared_30 clearedP
  rw [p1, Option.bind_some]
  dsimp only
  rw [p2, Option.bind_some, p3, Option.bind_some]
  dsimp only
  rw [Option.bind_some, p4, Option.bind_some, f_ce t27 (by decide), Option.bind_some, c_is27 J, Option.bind_some]
  dsimp only
  cases hr : ringS (s 2) with
  | none =>
    rw [if_pos rfl, if_pos (by decide)]
    exact ⟨g, rfl, fin0⟩
  | some tt =>
    obtain ⟨sz, bits, fr⟩ := tt
    rw [hr] at J
    have D := J.rd
    have v1 := D.2.2.2.2.2.2.2.1
    have rb := rlS_b hK.2.2.2.2 fr v1.1
    rw [if_neg (show ¬ (some (sz, bits, fr) : RB) = none from fun z => by cases z), if_neg (show ¬ i2 1 = 0 by decide), hw, c_in (by omega) (by decide) (by decide), Option.bind_some]
    show ∃ h', _ = some (if 0 ≤ w ∧ w ≤ 1 then (if w = 0 then rlS (s 2) fr sz else ccS (s 2) (clN fr sz (rlS (s 2) fr sz) sz (s 2))) else -1, h') ∧ _
    by_cases c1 : 0 ≤ w ∧ w ≤ 1
    · rw [if_neg (by rw [b01_z]; exact fun z => z c1), if_pos c1]
      by_cases c2 : w = 0
      · rw [if_pos c2, if_pos c2, f_ce t27 (by decide), Option.bind_some, c_least hK.2.2.2.2 hn.2 D, Option.bind_some]
        exact ⟨g, rfl, fin0⟩
      · rw [if_neg c2, if_neg c2]
        obtain ⟨r13, t23, g1, q1, B1, y1⟩ := c_paper (E := E) H1 hK
        have D1 : RdI h.1 (s 2) (s 2 152) sz fr g1 := by
          obtain ⟨-, -, -, -, -, -, g1', q1', B1', O1'⟩ : True ∧ True ∧ True ∧ True ∧ True ∧ True ∧ ∃ g1', f_X2_as E (some (x + 23)) (some (t + 4)) g = some (some (x + 23), g1') ∧ BK g1' (x + 23) (s 2) ∧ OnS (x + 23) 6 g g1' := by
            have h71 := hK.2.2.2.2.1
            obtain ⟨a1, a2, -, -, -, -, -, -, -, a23, -⟩ := H1.2.1
            obtain ⟨q1, q2, q3⟩ := H1.1.1
            obtain ⟨g1, p1, B1, O1⟩ := c_as (E := E) (a := x + 23) a23 H1.bk (by omega) h71.1 h71.2
            exact ⟨trivial, trivial, trivial, trivial, trivial, trivial, g1, p1, B1, O1⟩
          have : g1' = g1 := by
            rw [q1] at q1'
            exact ((Prod.mk.injEq _ _ _ _).mp (Option.some.inj q1')).2.symm
          subst this
          exact D.fr (fun a h1 h2 => O1'.1.2.2 a (Or.inr (by omega)))
        obtain ⟨g2, x1, x2, x3⟩ := c_clrB (E := E) (b := x + 23) hK.2.2.2.2 hn.2 D1 hK.2.2.2.2 (hG 2) B1 (by omega)
        obtain ⟨cl1, cl2, cl3⟩ := cl_all (fr := fr) (sz := sz) (v := rlS (s 2) fr sz) hK.2.2.2.2 (hG 2) rb.1 sz
        have hKc : KB (clN fr sz (rlS (s 2) fr sz) sz (s 2)) := hK.low (fun i hi => cl3 i (Or.inr hi)) cl1
        have J2 : CpI x h 11 76 (clN fr sz (rlS (s 2) fr sz) sz (s 2)) g2 := by
          refine ⟨(kp.trans y1.1).trans (Kp_on (Or.inl rfl) x3), ?_, x2⟩
          rw [x3.1.1, x3.1.2.1, y1.2.1, y1.2.2]
          omega
        obtain ⟨g3, w1, w2⟩ := c_cc (E := E) H hG hK cl2 hKc (fun i hi => cl3 i (Or.inr hi)) J2
        refine ⟨g3, ?_, H.keep w2.1, ⟨by have := w2.2.1; omega, by have := w2.2.1; omega, by have := w2.2.1; omega, by have := w2.2.1; omega, fun b b1 b2 => w2.1.2.2.2.2.2.2 b b1 b2⟩⟩
        rw [r13, Option.bind_some, f_ce H1.2.1.1 (by decide), Option.bind_some, c_books H1, Option.bind_some]
        dsimp only
        rw [f_ce t23 (by decide), Option.bind_some, q1, Option.bind_some, f_ce D1.1.1 (by decide), Option.bind_some, x1, Option.bind_some, w1]
    · rw [if_pos (by rw [b01_z]; exact c1), if_neg c1]
      exact ⟨g, rfl, fin0⟩
end
theorem ringS_V {s : Sg} (hG : G32 s) (hK : KB (s 2)) : rbV (s 2 152) (ringS (s 2)) := by
  obtain ⟨g', w1, s1, e, q1, -, b1, v1⟩ := m_findsRing (E := ((0, 0), (fun _ => none), fun _ => 0)) (m := 0) (h := (0, 0, fun _ => none)) hG hK
  exact v1
theorem clearS_VW {n : Int} {s : Sg} (H : VW n s) : VW n (clearS s).2 ∧ (-6 < (clearS s).1 ∧ (clearS s).1 ≤ 1000000) := by
  have v := ringS_V H.1.1 H.1.2.1
  unfold clearS
  cases hr : ringS (s 2) with
  | none => exact ⟨H, by dsimp only; omega⟩
  | some tt =>
    obtain ⟨sz, bits, fr⟩ := tt
    rw [hr] at v
    have hR := H.1.2.1.2.2.2.2
    have rb := rlS_b hR fr v.1.1
    obtain ⟨a, b, c⟩ := cl_all (fr := fr) (sz := sz) (v := rlS (s 2) fr sz) hR (H.1.1 2) rb.1 sz
    refine ⟨H.low (VS_act H.1 (by decide) a b (fun i hi => c i (Or.inr hi))) (Low_act (fun i hi => c i (Or.inr hi))), ?_⟩
    dsimp only
    omega
