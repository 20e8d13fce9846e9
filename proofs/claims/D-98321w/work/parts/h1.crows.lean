/-! Rows of some things: the component's search -/
set_option maxRecDepth 100000
section
variable {E : ax_E} {h : ax_H} {a t k : Nat} {L : List (Nat × Nat)} {v : Int} {r : Option Nat}
theorem f_cs (e : hT h a = t) (e9 : t ≠ 999) (el : L.lookup t = some k) : ax_cs E h (some a) L = some (hC h a, k) := by
  simp only [ax_cs, f_rd (by omega : hT h a ≠ 999)]
  show (L.lookup (hT h a)).map (fun k => (hC h a, k)) = _
  rw [e, el]
  rfl
theorem f_ws (e : hT h a = t) (e9 : t ≠ 999) (el : L.lookup t = some k) : ax_ws h (some a) L = some ((a, hC h a), k) := by
  simp only [ax_ws, h_some (by omega : hT h a ≠ 999)]
  show (L.lookup (hT h a)).map (fun k => ((a, hC h a), k)) = _
  rw [e, el]
  rfl
theorem f_gIs (e : hT h a = t) (e9 : t ≠ 999) (el : L.lookup t = some k) : ax_gIs E h (some a) L = some (hI h a k) := by
  unfold ax_gIs
  rw [f_cs e e9 el]
  rfl
theorem f_gRs (e : hT h a = t) (e9 : t ≠ 999) (el : L.lookup t = some k) : ax_gRs E h (some a) L = some (hR h a k) := by
  unfold ax_gRs
  rw [f_cs e e9 el]
  rfl
theorem f_pIs (e : hT h a = t) (e9 : t ≠ 999) (el : L.lookup t = some k) : ax_pIs h (some a) L v = some (wI h a k v) := by
  unfold ax_pIs
  rw [f_ws e e9 el]
  rfl
theorem f_pRs (e : hT h a = t) (e9 : t ≠ 999) (el : L.lookup t = some k) : ax_pRs h (some a) L r = some (wR h a k r) := by
  unfold ax_pRs
  rw [f_ws e e9 el]
  rfl
end
/-- nothing has changed but books b, what is asked of, what clauses told -/
def RwFr (x b : Nat) (g g' : ax_H) : Prop := Kp x g g' ∧ (g'.1 = g.1 ∧ g'.2.1 = g.2.1) ∧ ∀ c, c ≠ x + 15 → c ≠ x + 16 → (c < b ∨ b + 6 ≤ c) → hT g c ≠ 15 → g'.2.2 c = g.2.2 c
theorem EvS.rf {x b : Nat} {g g' : ax_H} (e : EvS x g g') : RwFr x b g g' := ⟨e.1, ⟨e.2.1, e.2.2.1⟩, fun c c1 c2 _ c4 => e.2.2.2 c c1 c2 c4⟩
theorem OnS.rf {x b : Nat} {g g' : ax_H} (O : OnS b 6 g g') (hb : ∃ i, i < 9 ∧ b = x + 30 + 6 * i) : RwFr x b g g' := ⟨Kp_on (Or.inr hb) O, ⟨O.1.1, O.1.2.1⟩, fun c _ _ c3 _ => O.1.2.2 c c3⟩
theorem RwFr.trans {x b : Nat} {g g1 g2 : ax_H} (p : RwFr x b g g1) (q : RwFr x b g1 g2) : RwFr x b g g2 := by
  refine ⟨p.1.trans q.1, ⟨q.2.1.1.trans p.2.1.1, q.2.1.2.trans p.2.1.2⟩, fun c c1 c2 c3 c4 => ?_⟩
  have e := p.2.2 c c1 c2 c3 c4
  exact (q.2.2 c c1 c2 c3 (by unfold hT; rw [hC_eq e]; exact c4)).trans e
/-- the object that goes through the rows, and its arrays -/
def RwS (x : Nat) (h0 : ax_H) (r tg fa ra N1 N2 n : Nat) (RR : Nat → Option Nat) (II : Nat → Int) (Zs : Nat → Prop) (zc : Nat → Option ax_C) (g : ax_H) : Prop := Kp x h0 g ∧ (g.1 = N1 ∧ g.2.1 = N2) ∧ (hT g r = tg ∧ hI g r 0 = n ∧ ∀ j, hR g r j = RR j) ∧ (hT g fa = 100 ∧ hL g fa = n) ∧ (hT g ra = 100 ∧ hL g ra = n) ∧ (∀ c, Zs c → g.2.2 c = zc c) ∧ ∀ j, j ≠ 3 → hI g r j = II j
/-- what is fixed of it -/
def RwC (x : Nat) (h0 : ax_H) (r tg fa ra n : Nat) (RR : Nat → Option Nat) (Zs : Nat → Prop) (zc : Nat → Option ax_C) : Prop := x + 116 ≤ h0.1 ∧ (h0.1 ≤ r ∧ h0.1 ≤ fa ∧ h0.1 ≤ ra) ∧ (r ≠ fa ∧ r ≠ ra ∧ fa ≠ ra) ∧ (RR 1 = some fa ∧ RR 2 = some ra ∧ RR 4 = some x) ∧ (tg = 30 ∨ tg = 31) ∧ n ≤ 8 ∧ ∀ c, Zs c → (h0.1 ≤ c ∧ c ≠ r ∧ c ≠ fa ∧ c ≠ ra) ∧ ∀ g : ax_H, g.2.2 c = zc c → hT g c ≠ 15
section
variable {E : ax_E} {h0 g g' : ax_H} {x t dl dv ds du r tg fa ra N1 N2 n : Nat} {s : Sg} {RR : Nat → Option Nat} {II : Nat → Int} {Zs : Nat → Prop} {zc : Nat → Option ax_C}
theorem RwS.fr {b : Nat} (C : RwC x h0 r tg fa ra n RR Zs zc) (S : RwS x h0 r tg fa ra N1 N2 n RR II Zs zc g) (hb : b + 6 ≤ x + 116) (e : RwFr x b g g') : RwS x h0 r tg fa ra N1 N2 n RR II Zs zc g' ∧ (∀ j, hI g' r j = hI g r j) ∧ (∀ j, hI g' fa j = hI g fa j) ∧ (∀ j, hI g' ra j = hI g ra j) := by
  obtain ⟨c1, ⟨c2, c3, c4⟩, ⟨c5, c6, c7⟩, c8, c9, c10, c11⟩ := C
  obtain ⟨s1, s2, ⟨s3, s4, s5⟩, ⟨s6, s7⟩, ⟨s8, s9⟩, s10, s11⟩ := S
  obtain ⟨e1, ⟨e2, e3⟩, e4⟩ := e
  obtain ⟨r1, r2, r3, r4⟩ := ceq (e4 r (by omega) (by omega) (by omega) (by omega))
  obtain ⟨f1, f2, f3, f4⟩ := ceq (e4 fa (by omega) (by omega) (by omega) (by omega))
  obtain ⟨a1, a2, a3, a4⟩ := ceq (e4 ra (by omega) (by omega) (by omega) (by omega))
  refine ⟨⟨s1.trans e1, ⟨e2.trans s2.1, e3.trans s2.2⟩, ⟨r1.trans s3, (r3 0).trans s4, fun j => (r4 j).trans (s5 j)⟩, ⟨f1.trans s6, f2.trans s7⟩, ⟨a1.trans s8, a2.trans s9⟩, fun c hc => ?_, fun j hj => (r3 j).trans (s11 j hj)⟩, r3, f3, a3⟩
  obtain ⟨⟨y1, y2, y3, y4⟩, y5⟩ := c11 c hc
  have q := s10 c hc
  exact (e4 c (by omega) (by omega) (by omega) (y5 g q)).trans q
/-- an int of the object, or of one of its arrays, is written -/
theorem RwS.wr {c k : Nat} {v : Int} (C : RwC x h0 r tg fa ra n RR Zs zc) (S : RwS x h0 r tg fa ra N1 N2 n RR II Zs zc g) (hc : (c = r ∧ k = 3) ∨ c = fa ∨ c = ra) : RwS x h0 r tg fa ra N1 N2 n RR II Zs zc (wI g c k v) := by
  obtain ⟨c1, ⟨c2, c3, c4⟩, ⟨c5, c6, c7⟩, c8, c9, c10, c11⟩ := C
  obtain ⟨s1, s2, ⟨s3, s4, s5⟩, ⟨s6, s7⟩, ⟨s8, s9⟩, s10, s11⟩ := S
  refine ⟨Kp_wIn s1 c1 (by omega), s2, ⟨by rw [hT_wI]; exact s3, by rw [hI_wI_ne (by omega)]; exact s4, fun j => by rw [hR_wI]; exact s5 j⟩, ⟨by rw [hT_wI]; exact s6, by rw [hL_wI]; exact s7⟩, ⟨by rw [hT_wI]; exact s8, by rw [hL_wI]; exact s9⟩, fun z hz => ?_, fun j hj => by rw [hI_wI_ne (by omega)]; exact s11 j hj⟩
  obtain ⟨⟨y1, y2, y3, y4⟩, -⟩ := c11 z hz
  exact (hC_wI_ne (by omega)).trans (s10 z hz)
theorem RwS.cpy {k : Nat} (C : RwC x h0 r tg fa ra n RR Zs zc) (S : RwS x h0 r tg fa ra N1 N2 n RR II Zs zc g) : RwS x h0 r tg fa ra N1 N2 n RR II Zs zc (cpH g ra fa 0 0 k) := by
  obtain ⟨c1, ⟨c2, c3, c4⟩, ⟨c5, c6, c7⟩, c8, c9, c10, c11⟩ := C
  obtain ⟨s1, s2, ⟨s3, s4, s5⟩, ⟨s6, s7⟩, ⟨s8, s9⟩, s10, s11⟩ := S
  refine ⟨Kp_cpn s1 c1 (by omega), s2, ⟨by rw [hT_cp]; exact s3, by rw [hI_cp_ne (by omega)]; exact s4, fun j => by rw [hR_cp_ne (by omega)]; exact s5 j⟩, ⟨by rw [hT_cp]; exact s6, by rw [hL_cp]; exact s7⟩, ⟨by rw [hT_cp]; exact s8, by rw [hL_cp]; exact s9⟩, fun z hz => ?_, fun j hj => by rw [hI_cp_ne (by omega)]; exact s11 j hj⟩
  obtain ⟨⟨y1, y2, y3, y4⟩, -⟩ := c11 z hz
  exact (hC_cp_ne (by omega)).trans (s10 z hz)
/-- how far the rows have been gone through -/
def PcI (x : Nat) (h0 : ax_H) (r tg fa ra N1 N2 n : Nat) (RR : Nat → Option Nat) (II : Nat → Int) (Zs : Nat → Prop) (zc : Nat → Option ax_C) (k : Nat) (row : Nat → Int) (Ks : Nat → Rw) (A : PA) (g : ax_H) : Prop := RwS x h0 r tg fa ra N1 N2 n RR II Zs zc g ∧ hI g r 3 = A.1 ∧ (A.1 ≠ 0 → ∀ j, j < n → hI g fa j = A.2 j) ∧ (∀ j, j < k → hI g ra j = row j) ∧ ∀ j, j ≤ k → BK g (x + 30 + 6 * j) (Ks j)
theorem lk30 (htg : tg = 30 ∨ tg = 31) (k : Nat) : ([(30, k), (31, k)] : List (Nat × Nat)).lookup tg = some k := by
  rcases htg with e | e <;> subst e <;> rfl
/-- a row is whole -/
theorem c_rowsEnd {gg : Option Nat → Int → Int → ax_H → Option ax_H} {used : Int} {row : Nat → Int} {Ks : Nat → Rw} {A : PA} (C : RwC x h0 r tg fa ra n RR Zs zc) (hA : 0 ≤ A.1 ∧ A.1 ≤ 20000000) (I : PcI x h0 r tg fa ra N1 N2 n RR II Zs zc n row Ks A g) : ∃ g', f_X29_go E gg (some r) n used g = some g' ∧ PcI x h0 r tg fa ra N1 N2 n RR II Zs zc n row Ks (rwEnd row A) g' := by
  obtain ⟨S, i1, i2', i3, i4⟩ := I
  obtain ⟨c1, ⟨c2, c3, c4⟩, ⟨c5, c6, c7⟩, ⟨q1, q2, q4⟩, c9, c10, c11⟩ := id C
  obtain ⟨s1, s2, ⟨s3, s4, s5⟩, ⟨s6, s7⟩, ⟨s8, s9⟩, s10⟩ := id S
  have t9 : tg ≠ 999 := by omega
  have S1 : RwS x h0 r tg fa ra N1 N2 n RR II Zs zc (wI g r 3 (A.1 + 1)) := S.wr C (Or.inl ⟨rfl, rfl⟩)
  have T1 := S1.2.2.1.1
  unfold f_X29_go
  rw [f_gIs s3 t9 (lk30 c9 0), Option.bind_some, s4, if_pos rfl, f_gIs s3 t9 (lk30 c9 3), Option.bind_some, i1, f_pIs s3 t9 (lk30 c9 3), Option.bind_some, i2_of (a := A.1) (by omega) (by omega)]
  have bb : ∀ (g2 : ax_H), (∀ c, c < h0.1 → g2.2.2 c = g.2.2 c) → ∀ j, j ≤ n → BK g2 (x + 30 + 6 * j) (Ks j) := fun g2 e j hj => (i4 j hj).fr (fun a a1 a2 => e a (by omega))
  by_cases c : A.1 = 0
  · rw [if_pos c, f_gRs T1 t9 (lk30 c9 2), Option.bind_some, S1.2.2.1.2.2, q2, f_gRs T1 t9 (lk30 c9 1), Option.bind_some, S1.2.2.1.2.2, q1, f_gIs T1 t9 (lk30 c9 0), Option.bind_some, S1.2.2.1.2.1, f_cpI S1.2.2.2.2.1.1 S1.2.2.2.1.1 (by decide) (by rw [S1.2.2.2.2.1.2]; omega) (by rw [S1.2.2.2.1.2]; omega) (by decide) (by decide) (by omega) (by rw [S1.2.2.2.2.1.2]; omega) (by rw [S1.2.2.2.1.2]; omega), Option.bind_some]
    refine ⟨_, rfl, S1.cpy C, ?_, fun _ j hj => ?_, fun j hj => ?_, bb _ (fun c hc => (hC_cp_ne (by omega)).trans (hC_wI_ne (by omega)))⟩
    · rw [hI_cp_ne (by omega), hI_wI_eq]; rfl
    · show _ = (if A.1 = 0 then row else A.2) j
      rw [if_pos c, hI_cp, if_pos (show fa = fa ∧ (0 : Int).toNat ≤ j ∧ j < (0 : Int).toNat + ((n : Nat) : Int).toNat from ⟨rfl, Nat.zero_le _, by rw [Int.toNat_natCast]; show j < 0 + n; omega⟩), hI_wI_ne (by omega)]
      show hI g ra (0 + (j - 0)) = _
      rw [show 0 + (j - 0) = j by omega]
      exact i3 j hj
    · rw [hI_cp_ne (by omega), hI_wI_ne (by omega)]; exact i3 j hj
  · rw [if_neg c]
    refine ⟨_, rfl, S1, ?_, fun _ j hj => ?_, fun j hj => ?_, bb _ (fun c hc => hC_wI_ne (by omega))⟩
    · rw [hI_wI_eq]; rfl
    · show _ = (if A.1 = 0 then row else A.2) j
      rw [if_neg c, hI_wI_ne (by omega)]
      exact i2' c j hj
    · rw [hI_wI_ne (by omega)]; exact i3 j hj
/-- what a thing of a row does to books -/
def RwD (E : ax_E) (x : Nat) (s : Sg) (h0 : ax_H) (r tg fa ra N1 N2 n : Nat) (RR : Nat → Option Nat) (II : Nat → Int) (Zs : Nat → Prop) (zc : Nat → Option ax_C) (d : Rw → Nat → Option Rw) : Prop := ∀ (g : ax_H) (lev : Nat) (K : Rw) (w : Nat), RwS x h0 r tg fa ra N1 N2 n RR II Zs zc g → lev < 9 → BK g (x + 30 + 6 * lev) K → MoV (s 2) K → w < n → ∃ g', (if tg = 30 then f_X30_does E (some r) (some (x + 30 + 6 * lev)) w g else if tg = 31 then f_X31_does E (some r) (some (x + 30 + 6 * lev)) w g else none) = some (b01 ((d K w).isSome = true), g') ∧ RwFr x (x + 30 + 6 * lev) g g' ∧ ∀ K', d K w = some K' → BK g' (x + 30 + 6 * lev) K' ∧ MoV (s 2) K'
theorem c_rows {d : Rw → Nat → Option Rw} (H : REP E h0 x t dl dv ds du s) (C : RwC x h0 r tg fa ra n RR Zs zc) (D : RwD E x s h0 r tg fa ra N1 N2 n RR II Zs zc d) : ∀ (f k used : Nat) (row : Nat → Int) (Ks : Nat → Rw) (A : PA) (g : ax_H), n + 1 ≤ f + k → k ≤ n → used < 256 → (∀ j, j ≤ k → MoV (s 2) (Ks j)) → 0 ≤ A.1 → A.1 + ((n ^ (n - k) : Nat) : Int) ≤ 20000000 → PcI x h0 r tg fa ra N1 N2 n RR II Zs zc k row Ks A g → ∃ g', rg_X29_go E f (some r) k used g = some g' ∧ PcI x h0 r tg fa ra N1 N2 n RR II Zs zc k row Ks (rowsT n d f k used row (Ks k) A) g' := by
  obtain ⟨c1, ⟨c2, c3, c4⟩, ⟨c5, c6, c7⟩, ⟨z1, z2, z4⟩, c9, c10, c11⟩ := id C
  have t9 : tg ≠ 999 := by omega
  intro f
  induction f with
  | zero => intro k used row Ks A g hf hk; omega
  | succ f ih =>
    intro k used row Ks A g hf hk hu V hA hB I
    show ∃ g', f_X29_go E (rg_X29_go E f) (some r) k used g = some g' ∧ _
    by_cases c : k = n
    · unfold rowsT
      rw [if_pos c]
      subst c
      exact c_rowsEnd (E := E) C (by omega) I
    · unfold rowsT
      rw [if_neg c]
      obtain ⟨P, eP⟩ : ∃ P : Nat, P = n ^ (n - (k + 1)) := ⟨_, rfl⟩
      obtain ⟨g', ⟨w1, -⟩, w2⟩ := it_runI (body := fun y : Int × ax_H => lb_X29_go_42 E (rg_X29_go E f) (some r) k used y.1 y.2) (fun (_ : PA) (w : Nat) g => ((w : Int), g)) (fun (_ : PA) g => g) (I := fun w B g => PcI x h0 r tg fa ra N1 N2 n RR II Zs zc k row Ks B g ∧ (0 ≤ B.1 ∧ B.1 ≤ A.1 + (w : Int) * (P : Int))) (P := fun B g => PcI x h0 r tg fa ra N1 N2 n RR II Zs zc k row Ks B g ∧ True) (f := rwF d (rowsT n d f) k used row (Ks k)) (fin := id) n (by
        rintro w B g hw ⟨hI, hb0, hb1⟩
        have st := pow_st (k := k) (w := w) (n := n) (by omega) hw
        rw [← eP] at st
        have st2 : ((w : Int) + 1) * (P : Int) = (w : Int) * (P : Int) + (P : Int) := by rw [Int.add_mul, Int.one_mul]
        have cw : ((w + 1 : Nat) : Int) * (P : Int) = (w : Int) * (P : Int) + (P : Int) := by rw [← st2]; rfl
        have hI' := hI
        obtain ⟨S, i1, i2', i3, i4⟩ := hI
        obtain ⟨s1, s2, ⟨s3, s4, s5⟩, ⟨s6, s7⟩, ⟨s8, s9⟩, s10⟩ := id S
        have R := H.keep s1
        have f1 : ∀ g : ax_H, f_X0_has E (used : Int) (w : Int) g = some (b01 (used >>> w % 2 = 1), g) := fun g => c_bit (by omega) (by omega)
        by_cases b1 : used >>> w % 2 = 1
        · refine ⟨g, Or.inl ⟨B, by unfold rwF; rw [if_pos b1], ⟨hI', hb0, by rw [cw]; omega⟩, ?_⟩⟩
          simp only [lb_X29_go_42, f_X29_go_111]
          rw [f_gIs s3 t9 (lk30 c9 0), Option.bind_some, s4, i2_of (a := (w : Int)) (by omega) (by omega), i2_of (a := (n : Int)) (by omega) (by omega), if_pos (by omega), f1, Option.bind_some]
          dsimp only
          rw [if_neg (by rw [b01_z]; exact fun z => z b1)]
          simp
        · have rt := R.2.1
          obtain ⟨t29, l29⟩ := rt.2.2.2.2.2.2.2.2.2.2.1
          have st29 := rt.2.2.2.2.2.2.2.2.2.2.2
          have r14 := rt.2.2.1.2.2.2.2.2.2.2.2
          have Bk := i4 k (Nat.le_refl _)
          have Vk := V k (Nat.le_refl _)
          have h71 := Vk.1.1.2.2.2.2.1
          obtain ⟨g1, p1, B1, O1⟩ := c_as (E := E) (a := x + 30 + 6 * (k + 1)) (b := x + 30 + 6 * k) (st29 (k + 1) (by omega)).2 Bk (Or.inr (by omega)) h71.1 h71.2
          have F1 : RwFr x (x + 30 + 6 * (k + 1)) g g1 := O1.rf ⟨k + 1, by omega, rfl⟩
          obtain ⟨S1, _, _, _⟩ := S.fr C (by omega) F1
          obtain ⟨g2, p2, F2, k2⟩ := D g1 (k + 1) (Ks k) w S1 (by omega) B1 Vk hw
          have F := F1.trans F2
          obtain ⟨S2, j1, j2, j3⟩ := S.fr C (by omega) F
          have bk2 : ∀ j, j ≤ k → BK g2 (x + 30 + 6 * j) (Ks j) := by
            intro j hj
            obtain ⟨⟨t0, -, ⟨t1, t2, t3, t4, t5⟩, -⟩, -⟩ := id (i4 j hj)
            refine (i4 j hj).fr (fun a a1 a2 => F.2.2 a (by omega) (by omega) (by omega) ?_)
            have : a = x + 30 + 6 * j ∨ a = x + 30 + 6 * j + 1 ∨ a = x + 30 + 6 * j + 2 ∨ a = x + 30 + 6 * j + 3 ∨ a = x + 30 + 6 * j + 4 ∨ a = x + 30 + 6 * j + 5 := by omega
            rcases this with e | e | e | e | e | e <;> subst e <;> omega
          have I2 : PcI x h0 r tg fa ra N1 N2 n RR II Zs zc k row Ks B g2 := ⟨S2, (j1 3).trans i1, fun c j hj => (j2 j).trans (i2' c j hj), fun j hj => (j3 j).trans (i3 j hj), bk2⟩
          have T1 := S1.2.2.1.1
          -- the first part of the body
          have pre : ∀ W, (if i2 (b01 ((d (Ks k) w).isSome = true)) = 0 then f_X29_go_111 E (rg_X29_go E f) (some r) k used w g2 else (ax_gRs E g2 (some r) [(30, 2), (31, 2)]).bind fun v11 => (ax_sto g2 v11 100 k w).bind fun h12 => (ax_dp E h12 (some r) fun t => if t = 30 ∨ t = 31 then rg_X29_go E f (some r) ((k : Int) + 1) (ax_or used (ax_shl 1 w)) h12 else none).bind fun h13 => f_X29_go_111 E (rg_X29_go E f) (some r) k used w h13) = W → lb_X29_go_42 E (rg_X29_go E f) (some r) k used w g = W := by
            intro W hW
            unfold lb_X29_go_42
            rw [f_gIs s3 t9 (lk30 c9 0), Option.bind_some, s4, i2_of (a := (w : Int)) (by omega) (by omega), i2_of (a := (n : Int)) (by omega) (by omega), if_pos (by omega), f1, Option.bind_some]
            dsimp only
            rw [if_pos (by rw [b01_z]; exact b1), f_gRs s3 t9 (lk30 c9 4), Option.bind_some, s5, z4, f_gR rt.1 (by decide), r14, Option.bind_some, f_ldR t29 (by decide) (by omega) (by rw [l29]; omega) (by rw [l29]; decide), Option.bind_some, show ((k : Int) + 1).toNat = k + 1 by omega, (st29 (k + 1) (by omega)).1, Option.bind_some, f_gR rt.1 (by decide), r14, Option.bind_some, f_ldR t29 (by decide) (by omega) (by rw [l29]; omega) (by rw [l29]; decide), Option.bind_some, Int.toNat_natCast, (st29 k (by omega)).1, f_ce (st29 (k + 1) (by omega)).2.1 (by decide), Option.bind_some, p1, Option.bind_some]
            dsimp only
            rw [f_dp T1 t9, p2, Option.bind_some]
            exact hW
          cases eD : d (Ks k) w with
          | none =>
            refine ⟨g2, Or.inl ⟨B, by unfold rwF; rw [if_neg b1, eD], ⟨I2, hb0, by rw [cw]; omega⟩, pre _ ?_⟩⟩
            rw [eD, if_pos (by rw [b01_z]; simp)]
            unfold f_X29_go_111
            simp
          | some K' =>
            obtain ⟨B2, V2⟩ := k2 K' eD
            obtain ⟨g3, e3⟩ : ∃ g3, g3 = wI g2 ra k w := ⟨_, rfl⟩
            have S3 : RwS x h0 r tg fa ra N1 N2 n RR II Zs zc g3 := by rw [e3]; exact S2.wr C (Or.inr (Or.inr rfl))
            have n3 : ∀ c, c ≠ ra → g3.2.2 c = g2.2.2 c := fun c hc => by rw [e3]; exact hC_wI_ne hc
            have eo : ax_or (used : Int) (ax_shl 1 (w : Int)) = ((used ||| 2 ^ w : Nat) : Int) := by
              have := pow_256 (w := w) (by omega)
              rw [shl1 (by omega), or_nat (by omega) (by omega)]
            obtain ⟨Ks', eKs⟩ : ∃ Ks' : Nat → Rw, Ks' = fun j => if j = k + 1 then K' else Ks j := ⟨_, rfl⟩
            have ek1 : Ks' (k + 1) = K' := by rw [eKs]; exact if_pos rfl
            have ekj : ∀ j, j ≤ k → Ks' j = Ks j := fun j hj => by rw [eKs]; exact if_neg (by omega)
            have I3 : PcI x h0 r tg fa ra N1 N2 n RR II Zs zc (k + 1) (rbU row k w) Ks' B g3 := by
              refine ⟨S3, ?_, fun c j hj => ?_, fun j hj => ?_, fun j hj => ?_⟩
              · rw [e3, hI_wI_ne (by omega)]; exact I2.2.1
              · rw [e3, hI_wI_ne (by omega)]; exact I2.2.2.1 c j hj
              · rw [e3]
                unfold rbU
                by_cases cj : j = k
                · subst cj; rw [hI_wI_eq, if_pos rfl]
                · rw [hI_wI_ne (by omega), if_neg cj]; exact I2.2.2.2.1 j (by omega)
              · by_cases cj : j = k + 1
                · subst cj
                  rw [ek1]
                  exact B2.fr (fun a a1 a2 => n3 a (by omega))
                · rw [ekj j (by omega)]
                  exact (bk2 j (by omega)).fr (fun a a1 a2 => n3 a (by omega))
            have rb := rows_b n d f (k + 1) (used ||| 2 ^ w) (rbU row k w) K' B (by omega) hb0
            rw [← eP] at rb
            obtain ⟨g4, w4, ⟨y1, y2, y3, y4, y5⟩⟩ := ih (k + 1) (used ||| 2 ^ w) (rbU row k w) Ks' B g3 (by omega) (by omega) (or_256 hu (pow_256 (by omega))) (fun j hj => by
              by_cases cj : j = k + 1
              · rw [cj, ek1]; exact V2
              · rw [ekj j (by omega)]; exact V j (by omega)) hb0 (by rw [← eP]; omega) I3
            rw [ek1] at y2 y3
            refine ⟨g4, Or.inl ⟨_, by unfold rwF; rw [if_neg b1, eD], ⟨⟨y1, y2, y3, fun j hj => ?_, fun j hj => ?_⟩, by omega, by rw [cw]; omega⟩, pre _ ?_⟩⟩
            · rw [y4 j (by omega)]
              unfold rbU
              rw [if_neg (by omega)]
            · rw [← ekj j hj]; exact y5 j (by omega)
            · have w4' : rg_X29_go E f (some r) ((k : Int) + 1) ((used ||| 2 ^ w : Nat) : Int) g3 = some g4 := w4
              rw [eD, if_neg (by rw [b01_z]; simp), f_gRs S2.2.2.1.1 t9 (lk30 c9 2), Option.bind_some, S2.2.2.1.2.2, z2, f_sto S2.2.2.2.2.1.1 (by decide) (by omega) (by rw [S2.2.2.2.2.1.2]; omega) (by rw [S2.2.2.2.2.1.2]; omega), Option.bind_some, Int.toNat_natCast, ← e3, f_dp S3.2.2.1.1 t9, if_pos c9, eo, w4', Option.bind_some]
              unfold f_X29_go_111
              simp) (by
        rintro B g ⟨hI, -⟩
        refine ⟨g, ⟨hI, trivial⟩, ?_⟩
        obtain ⟨S, -⟩ := hI
        simp only [lb_X29_go_42]
        rw [f_gIs S.2.2.1.1 t9 (lk30 c9 0), Option.bind_some, S.2.2.1.2.1, if_neg (Int.lt_irrefl _)]
        rfl) n 0 A g (by omega) ⟨I, hA, by rw [show ((0 : Nat) : Int) = 0 from rfl, Int.zero_mul]; omega⟩
      refine ⟨g', ?_, w1⟩
      obtain ⟨S, -⟩ := I
      unfold f_X29_go f_X29_go_42
      rw [f_gIs S.2.2.1.1 t9 (lk30 c9 0), Option.bind_some, S.2.2.1.2.1, i2_of (a := (k : Int)) (by omega) (by omega), i2_of (a := (n : Int)) (by omega) (by omega), if_neg (by omega)]
      exact w2
end
