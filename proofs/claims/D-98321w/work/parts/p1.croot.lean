/-! The component is born: all of it -/
set_option maxRecDepth 100000
/-- the component as it is at first -/
def Rt0 (Z : Nat) (g : ax_H) (x : Nat) : Prop := RtS g x (x + 1) ∧ (hI g x 7 = 0 ∧ hI g x 8 = -1 ∧ hI g x 9 = 0 ∧ hI g x 10 = -1 ∧ hI g x 12 = 0) ∧ hR g x 17 = none ∧ (hR g (x + 13) 0 = none ∧ hR g (x + 13) 1 = none) ∧ (hT g (x + 14) = 42 ∧ hR g (x + 14) 1 = some Z ∧ hI g (x + 14) 2 = 0) ∧ (∀ k, hI g (x + 21) k = 0) ∧ (∀ k, hI g (x + 22) k = 0) ∧ St0 Z g (x + 1)
theorem f_nl {E : ax_E} {g : ax_H} (a : g.1 + 1 ≤ E.1.1) (b : g.2.1 + 3 ≤ E.1.2) : ax_nw E g 42 0 3 = some (g.1, nwH g 42 0 3) ∧ f_J2_init E (some g.1) (nwH g 42 0 3) = some (nl (E.2.2 0) g) := by
  refine ⟨f_nw a b, ?_⟩
  unfold f_J2_init f_J1_init f_J0_init ax_cst nl
  rw [Option.bind_some, Option.bind_some, Option.bind_some, Option.bind_some, f_pI hT_nw_eq (by decide), Option.bind_some, Option.bind_some, Option.bind_some, f_pR (by rw [hT_wI]; exact hT_nw_eq) (by decide), Option.bind_some]
theorem St0.fr {Z s : Nat} {g g' : ax_H} (H : St0 Z g s) (e : ∀ c, s ≤ c → c < s + 12 → g'.2.2 c = g.2.2 c) : St0 Z g' s := by
  have q : ∀ c, s ≤ c → c < s + 12 → hC g' c = hC g c := fun c c1 c2 => hC_eq (e c c1 c2)
  obtain ⟨a, b, c, d, f1, f2⟩ := H
  have q0 := q s (by omega) (by omega)
  have q10 := q (s + 10) (by omega) (by omega)
  have q11 := q (s + 11) (by omega) (by omega)
  refine ⟨?_, ?_, fun i hi => ?_, d.fr (fun a a1 a2 => e a (by omega) (by omega)), ?_, ?_⟩
  · unfold hT hR at *; rw [q0]; exact a
  · unfold hI at *; rw [q0]; exact b
  · have := c i hi
    have qi := q (s + 1 + i) (by omega) (by omega)
    unfold hT hR hI at *; rw [qi]; exact this
  · unfold hT hL hI at *; rw [q10]; exact f1
  · unfold hT hL hI at *; rw [q11]; exact f2
theorem b_lt {A x c d : Nat} (n : A = x + c) (hc : d < c) : x + d < A := by omega
theorem b_lx {A x c : Nat} (n : A = x + c) (hc : 0 < c) : x < A := by omega
theorem b_rm {A x c r d e : Nat} (n : A = x + c) (i : x + r ≤ e) (hc : c + d ≤ r) : A + d ≤ e := by omega
theorem b_n0 {x d : Nat} (hc : 0 < d) : x + d ≠ x := by omega
theorem b_nn {x d e : Nat} (hc : d ≠ e) : x + d ≠ x + e := by omega
theorem b_ad {A x c d e : Nat} (n : A = x + c) (hc : c + d = e) : A + d = x + e := by omega
theorem b_le {A x c d e : Nat} (n : A = x + c) (hc : c + d ≤ e) : A + d ≤ x + e := by omega
theorem b_rg {x a b c : Nat} (h1 : x + a ≤ c) (h2 : c < x + b) (ha : 0 < a) (hb : b ≤ 29) : c ≠ x ∧ c ≠ x + 29 := by omega
/-- hidden from omega -/
def TZ (g : ax_H) (x : Nat) : Prop := hT g x = 0
def TI (g : ax_H) (x : Nat) : Prop := hI g x 7 = 0 ∧ hI g x 8 = -1 ∧ hI g x 9 = 0 ∧ hI g x 10 = -1 ∧ hI g x 12 = 0
def TY (g : ax_H) (x : Nat) : Prop := hT g (x + 29) = 107 ∧ hL g (x + 29) = 9
set_option maxHeartbeats 4000000 in
theorem c_root {E : ax_E} {h : ax_H} (r1 : h.1 + 84 ≤ E.1.1) (r2 : h.2.1 + 1700 ≤ E.1.2) : ∃ g, f_X0_init E (some h.1) (nwH h 0 0 18) = some g ∧ g.1 = h.1 + 84 ∧ g.2.1 ≤ h.2.1 + 1700 ∧ (∀ c, c < h.1 → g.2.2 c = h.2.2 c) ∧ Rt0 (E.2.2 0) g h.1 := by
  obtain ⟨x, ex⟩ : ∃ x, x = h.1 := ⟨_, rfl⟩
  obtain ⟨Z, eZ⟩ : ∃ Z, Z = E.2.2 0 := ⟨_, rfl⟩
  rw [← ex] at r1 ⊢
  rw [← eZ]
  obtain ⟨A0, e0⟩ : ∃ g, g = nwH h 0 0 18 := ⟨_, rfl⟩
  rw [← e0]
  have n0 : A0.1 = x + 1 := by rw [e0, ex]; rfl
  have m0 : A0.2.1 = h.2.1 + 18 := by rw [e0]; rfl
  have t0 : TZ A0 x := by show hT A0 x = 0; rw [e0, ex]; exact hT_nw_eq
  have i0 : ∀ j, hI A0 x j = 0 := fun j => by rw [e0, ex]; exact hI_nw_eq
  have q0 : ∀ j, hR A0 x j = none := fun j => by rw [e0, ex]; exact hR_nw_eq
  have f0 : ∀ c, c < x → A0.2.2 c = h.2.2 c := fun c hc => by rw [e0, hC_nw_ne (by rw [← ex]; exact Nat.ne_of_lt hc)]
  obtain ⟨s1, s2, s3, s4⟩ := stH_0 (Z := Z) (h := A0)
  have X1 : Ext A0 (stH Z A0) := ⟨by rw [s1]; exact Nat.le_add_right _ _, by rw [s2]; exact Nat.le_add_right _ _, s3⟩
  obtain ⟨A1, e1⟩ : ∃ g, g = wR (stH Z A0) x 0 (some A0.1) := ⟨_, rfl⟩
  have p1 := b_pR (k := 0) X1 (x := x) (b_lx n0 (by decide)) t0
  rw [← e1] at p1
  obtain ⟨F1, t1', i1', q1, c1⟩ := b_fld (k := 0) X1 (x := x) (b_lx n0 (by decide))
  rw [← e1] at F1 t1' i1' q1 c1
  have t1 : TZ A1 x := t1'.trans t0
  clear t1'
  have i1 := fun j => (i1' j).trans (i0 j)
  have n1 : A1.1 = x + 13 := by rw [e1]; show (stH Z A0).1 = _; rw [s1]; exact b_ad n0 (by decide)
  have m1 : A1.2.1 = h.2.1 + 132 := by rw [e1]; show (stH Z A0).2.1 = _; rw [s2]; exact b_ad m0 (by decide)
  have X2 : Ext A1 (nwH A1 105 2 2) := Ext_nw (Ext.refl _)
  obtain ⟨A2, e2⟩ : ∃ g, g = wR (nwH A1 105 2 2) x 1 (some A1.1) := ⟨_, rfl⟩
  have p2 := b_pR (k := 1) X2 (x := x) (b_lx n1 (by decide)) t1
  rw [← e2] at p2
  obtain ⟨F2, t2', i2', q2, c2⟩ := b_fld (k := 1) X2 (x := x) (b_lx n1 (by decide))
  rw [← e2] at F2 t2' i2' q2 c2
  have t2 : TZ A2 x := t2'.trans t1
  clear t2'
  have i2 := fun j => (i2' j).trans (i1 j)
  have n2 : A2.1 = x + 14 := by rw [e2]; show A1.1 + 1 = _; exact b_ad n1 (by decide)
  have m2 : A2.2.1 = h.2.1 + 134 := by rw [e2]; show A1.2.1 + 2 = _; exact b_ad m1 (by decide)
  have X3 : Ext A2 (nl Z A2) := Ext_wR (Ext_wI (Ext_nw (Ext.refl _)) (Nat.le_refl _)) (Nat.le_refl _)
  obtain ⟨A3, e3⟩ : ∃ g, g = wR (nl Z A2) x 2 (some A2.1) := ⟨_, rfl⟩
  have p3 := b_pR (k := 2) X3 (x := x) (b_lx n2 (by decide)) t2
  rw [← e3] at p3
  obtain ⟨F3, t3', i3', q3, c3⟩ := b_fld (k := 2) X3 (x := x) (b_lx n2 (by decide))
  rw [← e3] at F3 t3' i3' q3 c3
  have t3 : TZ A3 x := t3'.trans t2
  clear t3'
  have i3 := fun j => (i3' j).trans (i2 j)
  have n3 : A3.1 = x + 15 := by rw [e3]; show A2.1 + 1 = _; exact b_ad n2 (by decide)
  have m3 : A3.2.1 = h.2.1 + 137 := by rw [e3]; show A2.2.1 + 3 = _; exact b_ad m2 (by decide)
  have X4 : Ext A3 (wR (nwH (nwH A3 3 0 2) 103 10 10) A3.1 0 (some (A3.1 + 1))) := Ext_wR (Ext_nw (Ext_nw (Ext.refl _))) (Nat.le_refl _)
  obtain ⟨A4, e4⟩ : ∃ g, g = wR (wR (nwH (nwH A3 3 0 2) 103 10 10) A3.1 0 (some (A3.1 + 1))) x 3 (some A3.1) := ⟨_, rfl⟩
  have p4 := b_pR (k := 3) X4 (x := x) (b_lx n3 (by decide)) t3
  rw [← e4] at p4
  obtain ⟨F4, t4', i4', q4, c4⟩ := b_fld (k := 3) X4 (x := x) (b_lx n3 (by decide))
  rw [← e4] at F4 t4' i4' q4 c4
  have t4 : TZ A4 x := t4'.trans t3
  clear t4'
  have i4 := fun j => (i4' j).trans (i3 j)
  have n4 : A4.1 = x + 17 := by rw [e4]; show A3.1 + 2 = _; exact b_ad n3 (by decide)
  have m4 : A4.2.1 = h.2.1 + 149 := by rw [e4]; show A3.2.1 + 12 = _; exact b_ad m3 (by decide)
  have X5 : Ext A4 (wR (nwH (nwH A4 3 0 2) 103 10 10) A4.1 0 (some (A4.1 + 1))) := Ext_wR (Ext_nw (Ext_nw (Ext.refl _))) (Nat.le_refl _)
  obtain ⟨A5, e5⟩ : ∃ g, g = wR (wR (nwH (nwH A4 3 0 2) 103 10 10) A4.1 0 (some (A4.1 + 1))) x 4 (some A4.1) := ⟨_, rfl⟩
  have p5 := b_pR (k := 4) X5 (x := x) (b_lx n4 (by decide)) t4
  rw [← e5] at p5
  obtain ⟨F5, t5', i5', q5, c5⟩ := b_fld (k := 4) X5 (x := x) (b_lx n4 (by decide))
  rw [← e5] at F5 t5' i5' q5 c5
  have t5 : TZ A5 x := t5'.trans t4
  clear t5'
  have i5 := fun j => (i5' j).trans (i4 j)
  have n5 : A5.1 = x + 19 := by rw [e5]; show A4.1 + 2 = _; exact b_ad n4 (by decide)
  have m5 : A5.2.1 = h.2.1 + 161 := by rw [e5]; show A4.2.1 + 12 = _; exact b_ad m4 (by decide)
  have X6 : Ext A5 (wR (nwH (nwH A5 4 0 1) 106 0 0) A5.1 0 (some (A5.1 + 1))) := Ext_wR (Ext_nw (Ext_nw (Ext.refl _))) (Nat.le_refl _)
  obtain ⟨A6, e6⟩ : ∃ g, g = wR (wR (nwH (nwH A5 4 0 1) 106 0 0) A5.1 0 (some (A5.1 + 1))) x 5 (some A5.1) := ⟨_, rfl⟩
  have p6 := b_pR (k := 5) X6 (x := x) (b_lx n5 (by decide)) t5
  rw [← e6] at p6
  obtain ⟨F6, t6', i6', q6, c6⟩ := b_fld (k := 5) X6 (x := x) (b_lx n5 (by decide))
  rw [← e6] at F6 t6' i6' q6 c6
  have t6 : TZ A6 x := t6'.trans t5
  clear t6'
  have i6 := fun j => (i6' j).trans (i5 j)
  have n6 : A6.1 = x + 21 := by rw [e6]; show A5.1 + 2 = _; exact b_ad n5 (by decide)
  have m6 : A6.2.1 = h.2.1 + 162 := by rw [e6]; show A5.2.1 + 1 = _; exact b_ad m5 (by decide)
  have X7 : Ext A6 (nwH A6 100 7 7) := Ext_nw (Ext.refl _)
  obtain ⟨A7, e7⟩ : ∃ g, g = wR (nwH A6 100 7 7) x 6 (some A6.1) := ⟨_, rfl⟩
  have p7 := b_pR (k := 6) X7 (x := x) (b_lx n6 (by decide)) t6
  rw [← e7] at p7
  obtain ⟨F7, t7', i7', q7, c7⟩ := b_fld (k := 6) X7 (x := x) (b_lx n6 (by decide))
  rw [← e7] at F7 t7' i7' q7 c7
  have t7 : TZ A7 x := t7'.trans t6
  clear t7'
  have i7 := fun j => (i7' j).trans (i6 j)
  have n7 : A7.1 = x + 22 := by rw [e7]; show A6.1 + 1 = _; exact b_ad n6 (by decide)
  have m7 : A7.2.1 = h.2.1 + 169 := by rw [e7]; show A6.2.1 + 7 = _; exact b_ad m6 (by decide)
  obtain ⟨A8, e8⟩ : ∃ g, g = wI (wI A7 x 8 (-1)) x 10 (-1) := ⟨_, rfl⟩
  have n8 : A8.1 = x + 22 := by rw [e8]; exact n7
  have m8 : A8.2.1 = A7.2.1 := by rw [e8]; rfl
  rw [m7] at m8
  have t8 : TZ A8 x := by show hT A8 x = 0; rw [e8, hT_wI, hT_wI]; exact t7
  have q8 : ∀ j, hR A8 x j = hR A7 x j := fun j => by rw [e8, hR_wI, hR_wI]
  have c8 : ∀ c, c ≠ x → A8.2.2 c = A7.2.2 c := fun c hc => by rw [e8, hC_wI_ne hc, hC_wI_ne hc]
  have F8 : BFr x A7 A8 := ⟨by rw [e8]; exact Nat.le_refl _, fun c _ hc => c8 c hc⟩
  have i8 : TI A8 x := by
    unfold TI
    rw [e8]
    refine ⟨?_, ?_, ?_, hI_wI_eq, ?_⟩
    · rw [hI_wI_ne (Or.inr (by decide)), hI_wI_ne (Or.inr (by decide))]; exact i7 7
    · rw [hI_wI_ne (Or.inr (by decide)), hI_wI_eq]
    · rw [hI_wI_ne (Or.inr (by decide)), hI_wI_ne (Or.inr (by decide))]; exact i7 9
    · rw [hI_wI_ne (Or.inr (by decide)), hI_wI_ne (Or.inr (by decide))]; exact i7 12
  have X9 : Ext A8 (nwH A8 101 400 400) := Ext_nw (Ext.refl _)
  obtain ⟨A9, e9⟩ : ∃ g, g = wR (nwH A8 101 400 400) x 11 (some A8.1) := ⟨_, rfl⟩
  have p9 := b_pR (k := 11) X9 (x := x) (b_lx n8 (by decide)) t8
  rw [← e9] at p9
  obtain ⟨F9, t9', i9', q9, c9⟩ := b_fld (k := 11) X9 (x := x) (b_lx n8 (by decide))
  rw [← e9] at F9 t9' i9' q9 c9
  have t9 : TZ A9 x := t9'.trans t8
  clear t9'
  have i9 := i9'
  have n9 : A9.1 = x + 23 := by rw [e9]; show A8.1 + 1 = _; exact b_ad n8 (by decide)
  have m9 : A9.2.1 = h.2.1 + 569 := by rw [e9]; show A8.2.1 + 400 = _; exact b_ad m8 (by decide)
  have X10 : Ext A9 (newB A9) := newB_ext
  obtain ⟨A10, e10⟩ : ∃ g, g = wR (newB A9) x 13 (some A9.1) := ⟨_, rfl⟩
  have p10 := b_pR (k := 13) X10 (x := x) (b_lx n9 (by decide)) t9
  rw [← e10] at p10
  obtain ⟨F10, t10', i10', q10, c10⟩ := b_fld (k := 13) X10 (x := x) (b_lx n9 (by decide))
  rw [← e10] at F10 t10' i10' q10 c10
  have t10 : TZ A10 x := t10'.trans t9
  clear t10'
  have i10 := i10'
  have n10 : A10.1 = x + 29 := by rw [e10]; show A9.1 + 6 = _; exact b_ad n9 (by decide)
  have m10 : A10.2.1 = h.2.1 + 651 := by rw [e10]; show (newB A9).2.1 = _; rw [newB_2]; exact b_ad m9 (by decide)
  have X11 : Ext A10 (nwH A10 107 9 9) := Ext_nw (Ext.refl _)
  obtain ⟨A11, e11⟩ : ∃ g, g = wR (nwH A10 107 9 9) x 14 (some A10.1) := ⟨_, rfl⟩
  have p11 := b_pR (k := 14) X11 (x := x) (b_lx n10 (by decide)) t10
  rw [← e11] at p11
  obtain ⟨F11, t11', i11', q11, c11⟩ := b_fld (k := 14) X11 (x := x) (b_lx n10 (by decide))
  rw [← e11] at F11 t11' i11' q11 c11
  have t11 : TZ A11 x := t11'.trans t10
  clear t11'
  have i11 := i11'
  have n11 : A11.1 = x + 30 := by rw [e11]; show A10.1 + 1 = _; exact b_ad n10 (by decide)
  have m11 : A11.2.1 = h.2.1 + 660 := by rw [e11]; show A10.2.1 + 9 = _; exact b_ad m10 (by decide)
  have rx : ∀ j, hR A11 x j = if j = 14 then some A10.1 else if j = 13 then some A9.1 else if j = 11 then some A8.1 else if j = 6 then some A6.1 else if j = 5 then some A5.1 else if j = 4 then some A4.1 else if j = 3 then some A3.1 else if j = 2 then some A2.1 else if j = 1 then some A1.1 else if j = 0 then some A0.1 else none := by
    intro j
    rw [q11, q10, q9, q8, q7, q6, q5, q4, q3, q2, q1, q0]
  have y0 : TY A11 x := by
    unfold TY
    have := c11 (x + 29) (b_n0 (by decide))
    unfold hT hL
    rw [hC_eq this, ← show A10.1 = x + 29 from n10]
    exact ⟨hT_nw_eq, hL_nw_eq⟩
  have L := c_lpB (E := E) (y := x + 29) t11 (by rw [rx, if_pos rfl, n10]) (b_lx n11 (by decide)) (b_lt n11 (by decide)) (b_n0 (by decide)).symm y0.1 y0.2 (b_rm n11 r1 (by decide)) (b_rm m11 r2 (by decide))
  refine ⟨lpB (x + 29) A11 9, ?_, by rw [lpB_1]; exact b_ad n11 (by decide), by rw [lpB_2]; exact b_le m11 (by decide), ?_, ?_⟩
  · unfold f_X0_init
    obtain ⟨a1, b1⟩ := c_newStreet (E := E) (h := A0) (b_rm n0 r1 (by decide)) (b_rm m0 r2 (by decide))
    rw [← eZ] at b1
    rw [Option.bind_some, a1, Option.bind_some]
    dsimp only
    rw [Option.bind_some, b1, Option.bind_some, p1, Option.bind_some]
    rw [f_na (i := 2) (by decide) (by decide) (b_rm n1 r1 (by decide)) (b_rm m1 r2 (by decide)), Option.bind_some]
    dsimp only
    rw [show (2 : Int).toNat = 2 from rfl, p2, Option.bind_some]
    obtain ⟨a3, b3⟩ := f_nl (E := E) (g := A2) (b_rm n2 r1 (by decide)) (b_rm m2 r2 (by decide))
    rw [← eZ] at b3
    rw [a3, Option.bind_some]
    dsimp only
    rw [Option.bind_some, b3, Option.bind_some, p3, Option.bind_some]
    have b4 : f_X3_init E (some A3.1) (nwH A3 3 0 2) = some (wR (nwH (nwH A3 3 0 2) 103 10 10) A3.1 0 (some (A3.1 + 1))) := by
      unfold f_X3_init
      rw [Option.bind_some, f_na (i := 10) (by decide) (by decide) (by show A3.1 + 2 ≤ _; exact b_rm n3 r1 (by decide)) (by show A3.2.1 + 12 ≤ _; exact b_rm m3 r2 (by decide)), Option.bind_some]
      dsimp only
      rw [f_pR (by rw [hT_nw_ne (Nat.ne_of_lt (Nat.lt_succ_self _))]; exact hT_nw_eq) (by decide), Option.bind_some]
      rfl
    rw [f_nw (b_rm n3 r1 (by decide)) (b_rm m3 r2 (by decide)), Option.bind_some]
    dsimp only
    rw [Option.bind_some, b4, Option.bind_some, p4, Option.bind_some]
    have b5 : f_X3_init E (some A4.1) (nwH A4 3 0 2) = some (wR (nwH (nwH A4 3 0 2) 103 10 10) A4.1 0 (some (A4.1 + 1))) := by
      unfold f_X3_init
      rw [Option.bind_some, f_na (i := 10) (by decide) (by decide) (by show A4.1 + 2 ≤ _; exact b_rm n4 r1 (by decide)) (by show A4.2.1 + 12 ≤ _; exact b_rm m4 r2 (by decide)), Option.bind_some]
      dsimp only
      rw [f_pR (by rw [hT_nw_ne (Nat.ne_of_lt (Nat.lt_succ_self _))]; exact hT_nw_eq) (by decide), Option.bind_some]
      rfl
    rw [f_nw (b_rm n4 r1 (by decide)) (b_rm m4 r2 (by decide)), Option.bind_some]
    dsimp only
    rw [Option.bind_some, b5, Option.bind_some, p5, Option.bind_some]
    rw [f_nw (b_rm n5 r1 (by decide)) (b_rm m5 r2 (by decide)), Option.bind_some]
    dsimp only
    rw [f_na (i := 0) (by decide) (by decide) (by show A5.1 + 2 ≤ _; exact b_rm n5 r1 (by decide)) (by show A5.2.1 + 1 ≤ _; exact b_rm m5 r2 (by decide)), Option.bind_some]
    dsimp only
    have b6 : f_X4_init E (some A5.1) (some (nwH A5 4 0 1).1) (nwH (nwH A5 4 0 1) 106 0 0) = some (wR (nwH (nwH A5 4 0 1) 106 0 0) A5.1 0 (some (A5.1 + 1))) := by
      unfold f_X4_init
      rw [Option.bind_some, f_pR (by rw [hT_nw_ne (Nat.ne_of_lt (Nat.lt_succ_self _))]; exact hT_nw_eq) (by decide), Option.bind_some]
      rfl
    rw [Option.bind_some, show (0 : Int).toNat = 0 from rfl, b6, Option.bind_some, p6, Option.bind_some]
    rw [f_na (i := 7) (by decide) (by decide) (b_rm n6 r1 (by decide)) (b_rm m6 r2 (by decide)), Option.bind_some]
    dsimp only
    rw [show (7 : Int).toNat = 7 from rfl, p7, Option.bind_some, f_pI t7 (by decide), Option.bind_some, f_pI (by rw [hT_wI]; exact t7) (by decide), Option.bind_some, ← e8]
    rw [f_na (i := 400) (by decide) (by decide) (b_rm n8 r1 (by decide)) (b_rm m8 r2 (by decide)), Option.bind_some]
    dsimp only
    rw [show (400 : Int).toNat = 400 from rfl, p9, Option.bind_some]
    obtain ⟨a9, b9⟩ := c_newB (E := E) (h := A9) (b_rm n9 r1 (by decide)) (b_rm m9 r2 (by decide))
    rw [a9, Option.bind_some]
    dsimp only
    rw [Option.bind_some, b9, Option.bind_some, p10, Option.bind_some]
    rw [f_na (i := 9) (by decide) (by decide) (b_rm n10 r1 (by decide)) (b_rm m10 r2 (by decide)), Option.bind_some]
    dsimp only
    rw [show (9 : Int).toNat = 9 from rfl, p11, Option.bind_some]
    exact L
  · intro c hc
    have G : BFr x A0 A11 := F1.trans (F2.trans (F3.trans (F4.trans (F5.trans (F6.trans (F7.trans (F8.trans (F9.trans (F10.trans F11)))))))))
    rw [lpB_ne (Nat.lt_trans hc (b_lx n11 (by decide))) (Nat.ne_of_lt (Nat.lt_of_lt_of_le hc (Nat.le_add_right _ _))), G.2 c (Nat.lt_trans hc (b_lx n0 (by decide))) (Nat.ne_of_lt hc), f0 c hc]
  · have fin : ∀ c, c < A11.1 → c ≠ x + 29 → hC (lpB (x + 29) A11 9) c = hC A11 c := fun c c1 c2 => hC_eq (lpB_ne c1 c2)
    have G1 : BFr x A1 A11 := F2.trans (F3.trans (F4.trans (F5.trans (F6.trans (F7.trans (F8.trans (F9.trans (F10.trans (F11)))))))))
    have G2 : BFr x A2 A11 := F3.trans (F4.trans (F5.trans (F6.trans (F7.trans (F8.trans (F9.trans (F10.trans (F11))))))))
    have G3 : BFr x A3 A11 := F4.trans (F5.trans (F6.trans (F7.trans (F8.trans (F9.trans (F10.trans (F11)))))))
    have G4 : BFr x A4 A11 := F5.trans (F6.trans (F7.trans (F8.trans (F9.trans (F10.trans (F11))))))
    have G5 : BFr x A5 A11 := F6.trans (F7.trans (F8.trans (F9.trans (F10.trans (F11)))))
    have G6 : BFr x A6 A11 := F7.trans (F8.trans (F9.trans (F10.trans (F11))))
    have G7 : BFr x A7 A11 := F8.trans (F9.trans (F10.trans (F11)))
    have G8 : BFr x A8 A11 := F9.trans (F10.trans (F11))
    have G9 : BFr x A9 A11 := F10.trans (F11)
    have G10 : BFr x A10 A11 := F11
    have Y : ∀ (n : ax_H) (c : Nat), BFr x n A11 → c < n.1 → c ≠ x → c ≠ x + 29 → hC (lpB (x + 29) A11 9) c = hC n c := fun n c G h1 h2 h3 => (fin c (Nat.lt_of_lt_of_le h1 G.1) h3).trans (hC_eq (G.2 c h1 h2))
    have x0 := fin x (b_lx n11 (by decide)) (b_n0 (by decide)).symm
    have c13 := (Y A2 (x + 13) G2 (b_lt n2 (by decide)) (b_n0 (by decide)) (b_nn (by decide))).trans (hC_eq (c2 _ (b_n0 (by decide))))
    have c14 := (Y A3 (x + 14) G3 (b_lt n3 (by decide)) (b_n0 (by decide)) (b_nn (by decide))).trans (hC_eq (c3 _ (b_n0 (by decide))))
    have c15 := (Y A4 (x + 15) G4 (b_lt n4 (by decide)) (b_n0 (by decide)) (b_nn (by decide))).trans (hC_eq (c4 _ (b_n0 (by decide))))
    have c16 := (Y A4 (x + 16) G4 (b_lt n4 (by decide)) (b_n0 (by decide)) (b_nn (by decide))).trans (hC_eq (c4 _ (b_n0 (by decide))))
    have c17 := (Y A5 (x + 17) G5 (b_lt n5 (by decide)) (b_n0 (by decide)) (b_nn (by decide))).trans (hC_eq (c5 _ (b_n0 (by decide))))
    have c18 := (Y A5 (x + 18) G5 (b_lt n5 (by decide)) (b_n0 (by decide)) (b_nn (by decide))).trans (hC_eq (c5 _ (b_n0 (by decide))))
    have c19 := (Y A6 (x + 19) G6 (b_lt n6 (by decide)) (b_n0 (by decide)) (b_nn (by decide))).trans (hC_eq (c6 _ (b_n0 (by decide))))
    have c20 := (Y A6 (x + 20) G6 (b_lt n6 (by decide)) (b_n0 (by decide)) (b_nn (by decide))).trans (hC_eq (c6 _ (b_n0 (by decide))))
    have c21 := (Y A7 (x + 21) G7 (b_lt n7 (by decide)) (b_n0 (by decide)) (b_nn (by decide))).trans (hC_eq (c7 _ (b_n0 (by decide))))
    have c22 := (Y A9 (x + 22) G9 (b_lt n9 (by decide)) (b_n0 (by decide)) (b_nn (by decide))).trans (hC_eq (c9 _ (b_n0 (by decide))))
    obtain ⟨z1, z2, z3⟩ := lpB_y (y := x + 29) (g := A11) (n := 9) (b_lt n11 (by decide))
    obtain ⟨F, eF⟩ : ∃ F, F = lpB (x + 29) A11 9 := ⟨_, rfl⟩
    rw [← eF] at x0 c13 c14 c15 c16 c17 c18 c19 c20 c21 c22 z1 z2 z3 ⊢
    have n3' : A3.1 = x + 15 := n3
    refine ⟨⟨?_, ?_, ?_, ?_, ?_, ?_, ?_, ?_, ?_, ?_, ?_, ?_⟩, ?_, ?_, ?_, ?_, ?_, ?_, ?_⟩
    · unfold hT; rw [x0]; exact t11
    · unfold hR; rw [x0]; show hR A11 x 0 = _; rw [rx, n0]; rfl
    · have rr : ∀ j, hR F x j = hR A11 x j := fun j => by unfold hR; rw [x0]
      rw [rr, rr, rr, rr, rr, rr, rr, rr, rr, rx, rx, rx, rx, rx, rx, rx, rx, rx, n1, n2, n3, n4, n5, n6, n8, n9, n10]
      exact ⟨rfl, rfl, rfl, rfl, rfl, rfl, rfl, rfl, rfl⟩
    · unfold hT hL; rw [c13, ← n1]; exact ⟨hT_nw_eq, hL_nw_eq⟩
    · unfold hT hL hR; rw [c15, c16, ← n3]
      exact ⟨by show hT (wR (nwH (nwH A3 3 0 2) 103 10 10) A3.1 0 (some (A3.1 + 1))) A3.1 = 3; rw [hT_wR, hT_nw_ne (Nat.ne_of_lt (Nat.lt_succ_self _))]; exact hT_nw_eq, by show hR (wR (nwH (nwH A3 3 0 2) 103 10 10) A3.1 0 (some (A3.1 + 1))) A3.1 0 = _; rw [hR_wR_eq, n3], by rw [show x + 16 = (nwH A3 3 0 2).1 from (b_ad n3 (by decide)).symm]; show hT (wR (nwH (nwH A3 3 0 2) 103 10 10) A3.1 0 (some (A3.1 + 1))) (nwH A3 3 0 2).1 = 103; rw [hT_wR]; exact hT_nw_eq, by rw [show x + 16 = (nwH A3 3 0 2).1 from (b_ad n3 (by decide)).symm]; show hL (wR (nwH (nwH A3 3 0 2) 103 10 10) A3.1 0 (some (A3.1 + 1))) (nwH A3 3 0 2).1 = 10; rw [hL_wR]; exact hL_nw_eq⟩
    · unfold hT hL hR; rw [c17, c18, ← n4]
      exact ⟨by show hT (wR (nwH (nwH A4 3 0 2) 103 10 10) A4.1 0 (some (A4.1 + 1))) A4.1 = 3; rw [hT_wR, hT_nw_ne (Nat.ne_of_lt (Nat.lt_succ_self _))]; exact hT_nw_eq, by show hR (wR (nwH (nwH A4 3 0 2) 103 10 10) A4.1 0 (some (A4.1 + 1))) A4.1 0 = _; rw [hR_wR_eq, n4], by rw [show x + 18 = (nwH A4 3 0 2).1 from (b_ad n4 (by decide)).symm]; show hT (wR (nwH (nwH A4 3 0 2) 103 10 10) A4.1 0 (some (A4.1 + 1))) (nwH A4 3 0 2).1 = 103; rw [hT_wR]; exact hT_nw_eq, by rw [show x + 18 = (nwH A4 3 0 2).1 from (b_ad n4 (by decide)).symm]; show hL (wR (nwH (nwH A4 3 0 2) 103 10 10) A4.1 0 (some (A4.1 + 1))) (nwH A4 3 0 2).1 = 10; rw [hL_wR]; exact hL_nw_eq⟩
    · unfold hT hL hR; rw [c19, c20, ← n5]
      exact ⟨by show hT (wR (nwH (nwH A5 4 0 1) 106 0 0) A5.1 0 (some (A5.1 + 1))) A5.1 = 4; rw [hT_wR, hT_nw_ne (Nat.ne_of_lt (Nat.lt_succ_self _))]; exact hT_nw_eq, by show hR (wR (nwH (nwH A5 4 0 1) 106 0 0) A5.1 0 (some (A5.1 + 1))) A5.1 0 = _; rw [hR_wR_eq, n5], by rw [show x + 20 = (nwH A5 4 0 1).1 from (b_ad n5 (by decide)).symm]; show hT (wR (nwH (nwH A5 4 0 1) 106 0 0) A5.1 0 (some (A5.1 + 1))) (nwH A5 4 0 1).1 = 106; rw [hT_wR]; exact hT_nw_eq, by rw [show x + 20 = (nwH A5 4 0 1).1 from (b_ad n5 (by decide)).symm]; show hL (wR (nwH (nwH A5 4 0 1) 106 0 0) A5.1 0 (some (A5.1 + 1))) (nwH A5 4 0 1).1 = 0; rw [hL_wR]; exact hL_nw_eq⟩
    · unfold hT hL; rw [c21, ← n6]; exact ⟨hT_nw_eq, hL_nw_eq⟩
    · unfold hT hL; rw [c22, ← n8]; exact ⟨hT_nw_eq, hL_nw_eq⟩
    · have B := newB_BS (h := A9)
      rw [n9] at B
      refine B.fr (fun a a1 a2 => ?_)
      have w := b_rg a1 (show a < x + 29 from a2) (by decide) (by decide)
      have w1 : a < A10.1 := by rw [n10]; exact a2
      rw [eF, lpB_ne (Nat.lt_of_lt_of_le w1 F11.1) w.2, F11.2 a w1 w.1, c10 a w.1]
    · rw [z1, z2]; exact y0
    · intro i hi
      rw [z3, if_pos hi, eF]
      have B := (lpB_BK (y := x + 29) (g := A11) (n := 9) (b_lt n11 (by decide)) hi).1
      rw [n11] at B ⊢
      exact ⟨rfl, B⟩
    · have ii : ∀ j, hI F x j = hI A8 x j := fun j => by
        unfold hI; rw [x0]; show hI A11 x j = hI A8 x j; rw [i11', i10', i9']
      rw [ii, ii, ii, ii, ii]
      exact i8
    · unfold hR; rw [x0]; show hR A11 x 17 = _; rw [rx]; rfl
    · unfold hR; rw [c13, ← n1]; exact ⟨hR_nw_eq, hR_nw_eq⟩
    · have w : hC F (x + 14) = hC (nl Z A2) A2.1 := by rw [c14, n2]
      unfold hT hR hI; rw [w]
      refine ⟨?_, ?_, ?_⟩
      · show hT (nl Z A2) A2.1 = 42
        unfold nl; rw [hT_wR, hT_wI]; exact hT_nw_eq
      · show hR (nl Z A2) A2.1 1 = some Z
        unfold nl; rw [hR_wR_eq]
      · show hI (nl Z A2) A2.1 2 = 0
        unfold nl; rw [hI_wR, hI_wI_ne (Or.inr (by decide))]; exact hI_nw_eq
    · intro k; unfold hI; rw [c21, ← n6]; exact hI_nw_eq
    · intro k; unfold hI; rw [c22, ← n8]; exact hI_nw_eq
    · rw [n0] at s4
      refine s4.fr (fun c c1' c2' => ?_)
      have w := b_rg c1' (show c < x + 13 from c2') (by decide) (by decide)
      have w1 : c < A1.1 := by rw [n1]; exact c2'
      rw [eF, lpB_ne (Nat.lt_of_lt_of_le w1 G1.1) w.2, G1.2 c w1 w.1, c1 c w.1]
