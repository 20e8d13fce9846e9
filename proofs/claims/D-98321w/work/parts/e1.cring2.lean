/-! A ring looked for: the component -/
set_option maxRecDepth 100000
/-- an array of seven arrays of seven numbers, new -/
def nmH (h : ax_H) : ax_H := (h.1 + 8, h.2.1 + 56, fun q => if q = h.1 then some (111, 7, (fun _ => 0), fun j => if j < 7 then some (h.1 + 1 + j) else none) else if h.1 < q ∧ q < h.1 + 8 then some (100, 7, (fun _ => 0), fun _ => none) else h.2.2 q)
theorem f_nm {E : ax_E} {h : ax_H} (e1 : h.1 + 8 ≤ E.1.1) (e2 : h.2.1 + 56 ≤ E.1.2) : ax_nm E h 7 7 = some (h.1, nmH h) := by
  unfold ax_nm
  have e : i2 7 = 7 := by decide
  rw [e, if_pos ⟨by decide, by decide, by decide, by decide, by show h.1 + 1 + 7 ≤ _; omega, by show h.2.1 + (7 + 7 * 7) ≤ _; omega⟩]
  rfl
theorem nm_C {h : ax_H} {b : Nat} : (nmH h).2.2 b = if b = h.1 then some (111, 7, (fun _ => 0), fun j => if j < 7 then some (h.1 + 1 + j) else none) else if h.1 < b ∧ b < h.1 + 8 then some (100, 7, (fun _ => 0), fun _ => none) else h.2.2 b := rfl
theorem nm_ne {h : ax_H} {b : Nat} (hb : b < h.1 ∨ h.1 + 8 ≤ b) : (nmH h).2.2 b = h.2.2 b := by rw [nm_C, if_neg (by omega), if_neg (by omega)]
theorem nm_0 {h : ax_H} : hC (nmH h) h.1 = (111, 7, (fun _ => 0), fun j => if j < 7 then some (h.1 + 1 + j) else none) := by
  unfold hC
  rw [nm_C, if_pos rfl]
  rfl
theorem nm_in {h : ax_H} {b : Nat} (h1 : h.1 < b) (h2 : b < h.1 + 8) : hC (nmH h) b = (100, 7, (fun _ => 0), fun _ => none) := by
  unfold hC
  rw [nm_C, if_neg (by omega), if_pos ⟨h1, h2⟩]
  rfl
def owedP (K : Rw) (n : Nat) (p q : Int) : Int := sm n (fun k => if K (7 + 4 * (k : Int)) = p ∧ K (7 + 4 * (k : Int) + 1) = q then K (7 + 4 * (k : Int) + 2) else 0)
/-- the heap when the ring's object and arrays are there -/
def rgH (x : Nat) (h : ax_H) : ax_H := wI (wR (nwH (wR (nwH (wR (nmH (wR (nwH h 27 0 6) h.1 5 (some x))) h.1 0 (some (h.1 + 1))) 100 7 7) h.1 1 (some (h.1 + 9))) 100 7 7) h.1 2 (some (h.1 + 10))) h.1 3 100000000
theorem rgH_C {x : Nat} {h : ax_H} {b : Nat} (hb : b < h.1) : (rgH x h).2.2 b = h.2.2 b := by
  unfold rgH
  rw [hC_wI_ne (by omega), hC_wR_ne (by omega), hC_nw_ne (by show b ≠ h.1 + 1 + 8 + 1; omega), hC_wR_ne (by omega), hC_nw_ne (by show b ≠ h.1 + 1 + 8; omega), hC_wR_ne (by omega), nm_ne (Or.inl (by show b < h.1 + 1; omega)), hC_wR_ne (by omega), hC_nw_ne (by omega)]
theorem rgH_r {x : Nat} {h : ax_H} : hT (rgH x h) h.1 = 27 ∧ hR (rgH x h) h.1 0 = some (h.1 + 1) ∧ hR (rgH x h) h.1 1 = some (h.1 + 9) ∧ hR (rgH x h) h.1 2 = some (h.1 + 10) ∧ hR (rgH x h) h.1 5 = some x := by
  have a1 : h.1 ≠ h.1 + 1 + 8 + 1 := by omega
  have a2 : h.1 ≠ h.1 + 1 + 8 := by omega
  have e : hC (nmH (wR (nwH h 27 0 6) h.1 5 (some x))) h.1 = hC (wR (nwH h 27 0 6) h.1 5 (some x)) h.1 := hC_eq (nm_ne (Or.inl (by show h.1 < h.1 + 1; omega)))
  have eT : hT (nmH (wR (nwH h 27 0 6) h.1 5 (some x))) h.1 = 27 := by
    unfold hT
    rw [e]
    show hT (wR (nwH h 27 0 6) h.1 5 (some x)) h.1 = 27
    rw [hT_wR, hT_nw_eq]
  have eR : hR (nmH (wR (nwH h 27 0 6) h.1 5 (some x))) h.1 5 = some x := by
    unfold hR
    rw [e]
    show hR (wR (nwH h 27 0 6) h.1 5 (some x)) h.1 5 = some x
    rw [hR_wR_eq]
  unfold rgH
  refine ⟨?_, ?_, ?_, ?_, ?_⟩
  · rw [hT_wI, hT_wR, hT_nw_ne a1, hT_wR, hT_nw_ne a2, hT_wR, eT]
  · rw [hR_wI, hR_wR_ne (by omega), hR_nw_ne a1, hR_wR_ne (by omega), hR_nw_ne a2, hR_wR_eq]
  · rw [hR_wI, hR_wR_ne (by omega), hR_nw_ne a1, hR_wR_eq]
  · rw [hR_wI, hR_wR_eq]
  · rw [hR_wI, hR_wR_ne (by omega), hR_nw_ne a1, hR_wR_ne (by omega), hR_nw_ne a2, hR_wR_ne (by omega), eR]
theorem rgH_m {x : Nat} {h : ax_H} {b : Nat} (h1 : h.1 + 1 ≤ b) (h2 : b < h.1 + 9) : hC (rgH x h) b = if b = h.1 + 1 then (111, 7, (fun _ => 0), fun j => if j < 7 then some (h.1 + 1 + 1 + j) else none) else (100, 7, (fun _ => 0), fun _ => none) := by
  have a1 : b ≠ h.1 + 1 + 8 + 1 := by omega
  have a2 : b ≠ h.1 + 1 + 8 := by omega
  have e : hC (rgH x h) b = hC (nmH (wR (nwH h 27 0 6) h.1 5 (some x))) b := by
    unfold rgH
    refine hC_eq ?_
    rw [hC_wI_ne (by omega), hC_wR_ne (by omega), hC_nw_ne a1, hC_wR_ne (by omega), hC_nw_ne a2, hC_wR_ne (by omega)]
  rw [e]
  by_cases c : b = h.1 + 1
  · rw [if_pos c]
    subst c
    exact nm_0
  · rw [if_neg c]
    exact nm_in (by show h.1 + 1 < b; omega) (by show b < h.1 + 1 + 8; omega)
theorem rgH_9 {x : Nat} {h : ax_H} : hT (rgH x h) (h.1 + 9) = 100 ∧ hL (rgH x h) (h.1 + 9) = 7 ∧ hT (rgH x h) (h.1 + 10) = 100 ∧ hL (rgH x h) (h.1 + 10) = 7 := by
  have a1 : h.1 + 9 ≠ h.1 + 1 + 8 + 1 := by omega
  unfold rgH
  refine ⟨?_, ?_, ?_, ?_⟩
  · rw [hT_wI, hT_wR, hT_nw_ne a1, hT_wR]
    exact hT_nw_eq
  · rw [hL_wI, hL_wR, hL_nw_ne a1, hL_wR]
    exact hL_nw_eq
  · rw [hT_wI, hT_wR]
    exact hT_nw_eq
  · rw [hL_wI, hL_wR]
    exact hL_nw_eq
theorem rgH_S {x : Nat} {h : ax_H} (hx : x + 116 ≤ h.1) : RgS x h (rgH x h) ∧ RgM h (rgH x h) (fun _ _ => 0) ∧ hI (rgH x h) h.1 3 = 100000000 := by
  obtain ⟨r1, r2, r3, r4, r5⟩ := rgH_r (x := x) (h := h)
  obtain ⟨n1, n2, n3, n4⟩ := rgH_9 (x := x) (h := h)
  have kp : Kp x h (rgH x h) := Kp_ext (Kp.refl x h) hx (by show h.1 ≤ h.1 + 1 + 8 + 1 + 1; omega) (by show h.2.1 ≤ h.2.1 + 6 + 56 + 7 + 7; omega) (fun b hb => rgH_C hb)
  refine ⟨⟨kp, ⟨rfl, rfl⟩, ⟨r1, r2, r3, r4, r5⟩, ?_, fun j hj => ?_, ⟨n1, n2⟩, ⟨n3, n4⟩⟩, fun p q hp hq => ?_, ?_⟩
  · unfold hT hL
    rw [rgH_m (by omega) (by omega), if_pos rfl]
    exact ⟨rfl, rfl⟩
  · refine ⟨?_, ?_, ?_⟩
    · unfold hR
      rw [rgH_m (by omega) (by omega), if_pos rfl]
      show (if j < 7 then some (h.1 + 1 + 1 + j) else none) = _
      rw [if_pos hj]
    · unfold hT
      rw [rgH_m (by omega) (by omega), if_neg (by omega)]
    · unfold hL
      rw [rgH_m (by omega) (by omega), if_neg (by omega)]
  · unfold hI
    rw [rgH_m (by omega) (by omega), if_neg (by omega)]
  · unfold rgH
    exact hI_wI_eq
section
variable {E : ax_E} {h : ax_H} {x t dl dv ds du : Nat} {s : Sg}
theorem c_newRing (H : REP E h x t dl dv ds du s) (hG : G32 s) (hK : KB (s 2)) (e1 : h.1 + 11 ≤ E.1.1) (e2 : h.2.1 + 76 ≤ E.1.2) : ax_nw E h 27 0 6 = some (h.1, nwH h 27 0 6) ∧ ax_ce E (nwH h 27 0 6) (some x) 0 = some (hC (nwH h 27 0 6) x) ∧ f_X0_books E (some x) (nwH h 27 0 6) = some (some (t + 4), nwH h 27 0 6) ∧ ∃ g, f_X27_init E (some h.1) (some x) (some (t + 4)) (nwH h 27 0 6) = some g ∧ RcI x s h 0 (fun _ => 0) (ringS (s 2)) g := by
  have hx := H.1.1.1
  have hn := hK.1
  have h71 := hK.2.2.2.2.1
  have H0 := H.keep (Kp_nw (t := 27) (n := 0) (sl := 6) (Kp.refl x h) hx)
  refine ⟨f_nw (by omega) (by omega), f_ce H0.2.1.1 (by decide), c_books H0, ?_⟩
  obtain ⟨S0, M0, i3⟩ := rgH_S (x := x) (h := h) hx
  have pre : f_X27_init E (some h.1) (some x) (some (t + 4)) (nwH h 27 0 6) = f_X27_init_45 E (some h.1) (some x) (some (t + 4)) 0 (rgH x h) := by
    unfold f_X27_init
    have t0 : hT (nwH h 27 0 6) h.1 = 27 := hT_nw_eq
    have e : hC (nmH (wR (nwH h 27 0 6) h.1 5 (some x))) h.1 = hC (wR (nwH h 27 0 6) h.1 5 (some x)) h.1 := hC_eq (nm_ne (Or.inl (by show h.1 < h.1 + 1; omega)))
    have t1 : hT (nmH (wR (nwH h 27 0 6) h.1 5 (some x))) h.1 = 27 := by
      unfold hT
      rw [e]
      show hT (wR (nwH h 27 0 6) h.1 5 (some x)) h.1 = 27
      rw [hT_wR]
      exact t0
    have a2 : h.1 ≠ (wR (nmH (wR (nwH h 27 0 6) h.1 5 (some x))) h.1 0 (some (h.1 + 1))).1 := by show h.1 ≠ h.1 + 1 + 8; omega
    have a1 : h.1 ≠ (wR (nwH (wR (nmH (wR (nwH h 27 0 6) h.1 5 (some x))) h.1 0 (some (h.1 + 1))) 100 7 7) h.1 1 (some (h.1 + 9))).1 := by show h.1 ≠ h.1 + 1 + 8 + 1; omega
    rw [f_pR t0 (by decide), Option.bind_some, Option.bind_some, f_nm (by show h.1 + 1 + 8 ≤ _; omega) (by show h.2.1 + 6 + 56 ≤ _; omega), Option.bind_some]
    dsimp only
    have w1 : (wR (nwH h 27 0 6) h.1 5 (some x)).1 = h.1 + 1 := rfl
    rw [w1, f_pR t1 (by decide), Option.bind_some, f_na (i := 7) (by decide) (by decide) (by show h.1 + 1 + 8 + 1 ≤ _; omega) (by show h.2.1 + 6 + 56 + 7 ≤ _; omega), Option.bind_some]
    dsimp only
    have w2 : (wR (nmH (wR (nwH h 27 0 6) h.1 5 (some x))) h.1 0 (some (h.1 + 1))).1 = h.1 + 9 := rfl
    rw [w2, f_pR (by
      have q : hT (nwH (wR (nmH (wR (nwH h 27 0 6) h.1 5 (some x))) h.1 0 (some (h.1 + 1))) 100 (7 : Int).toNat (7 : Int).toNat) h.1 = 27 := by rw [hT_nw_ne a2, hT_wR]; exact t1
      exact q) (by decide), Option.bind_some, f_na (i := 7) (by decide) (by decide) (by show h.1 + 1 + 8 + 1 + 1 ≤ _; omega) (by show h.2.1 + 6 + 56 + 7 + 7 ≤ _; omega), Option.bind_some]
    dsimp only
    have w3 : (wR (nwH (wR (nmH (wR (nwH h 27 0 6) h.1 5 (some x))) h.1 0 (some (h.1 + 1))) 100 (7 : Int).toNat (7 : Int).toNat) h.1 1 (some (h.1 + 9))).1 = h.1 + 10 := rfl
    rw [w3]
    have t4 : hT (nwH (wR (nwH (wR (nmH (wR (nwH h 27 0 6) h.1 5 (some x))) h.1 0 (some (h.1 + 1))) 100 (7 : Int).toNat (7 : Int).toNat) h.1 1 (some (h.1 + 9))) 100 (7 : Int).toNat (7 : Int).toNat) h.1 = 27 := by
      show hT (nwH (wR (nwH (wR (nmH (wR (nwH h 27 0 6) h.1 5 (some x))) h.1 0 (some (h.1 + 1))) 100 7 7) h.1 1 (some (h.1 + 9))) 100 7 7) h.1 = 27
      rw [hT_nw_ne a1, hT_wR, hT_nw_ne a2, hT_wR]
      exact t1
    rw [f_pR t4 (by decide), Option.bind_some, f_pI (by rw [hT_wR]; exact t4) (by decide), Option.bind_some]
    rfl
  rw [pre]
  unfold f_X27_init_45
  obtain ⟨g', w1, w2⟩ := it_runI (body := fun y : Int × ax_H => lb_X27_init_45 E (some h.1) (some x) (some (t + 4)) y.1 y.2) (fun (_ : Unit) (p : Nat) g => ((p : Int), g)) (fun (_ : Unit) g => g) (I := fun k _ g => RgS x h g ∧ RgM h g (owedP (s 2) k) ∧ hI g h.1 3 = 100000000) (P := fun _ g => RcI x s h 0 (fun _ => 0) (ringS (s 2)) g) (f := fun _ _ => (.inl () : Unit ⊕ Unit)) (fin := id) (s 2 71).toNat (by
      rintro k _ g hk ⟨S, M, j3⟩
      have H1 := H.keep S.1
      obtain ⟨⟨u0, ⟨u1', u2', u3', u4', u5'⟩, ⟨v1', v2', v3', v4', v5'⟩, l1, l2, l3, l4, l5⟩, ⟨B1, B2⟩, B3, B4⟩ := H1.bk
      obtain ⟨b1, b2, b3, -⟩ := B4 k (by omega)
      obtain ⟨rv1, rv2, -, rv4, -⟩ := hK.2.2.2.2.2.2.2 k (by omega) (by omega)
      obtain ⟨-, -, ⟨t27, f0, -⟩, -, rr, -⟩ := id S
      obtain ⟨m1, m2⟩ := c_mat (E := E) (p := s 2 (7 + 4 * (k : Int))) (q := s 2 (7 + 4 * (k : Int) + 1)) S M (by omega) (by omega)
      obtain ⟨-, r2, r3⟩ := rr (s 2 (7 + 4 * (k : Int))).toNat (by omega)
      have M' : RgM h (wI g (h.1 + 2 + (s 2 (7 + 4 * (k : Int))).toNat) (s 2 (7 + 4 * (k : Int) + 1)).toNat (owedP (s 2) k (s 2 (7 + 4 * (k : Int))) (s 2 (7 + 4 * (k : Int) + 1)) + s 2 (7 + 4 * (k : Int) + 2))) (owedP (s 2) (k + 1)) := by
        intro p q hp hq
        have e : owedP (s 2) (k + 1) p q = owedP (s 2) k p q + (if s 2 (7 + 4 * (k : Int)) = p ∧ s 2 (7 + 4 * (k : Int) + 1) = q then s 2 (7 + 4 * (k : Int) + 2) else 0) := rfl
        rw [e]
        by_cases c : s 2 (7 + 4 * (k : Int)) = p ∧ s 2 (7 + 4 * (k : Int) + 1) = q
        · rw [if_pos c, c.1, c.2, Int.toNat_natCast, Int.toNat_natCast, hI_wI_eq]
        · rw [if_neg c, hI_wI_ne (by omega), M p q hp hq]
          omega
      refine ⟨_, Or.inl ⟨(), rfl, ⟨S.wI hx (by omega), M', by rw [hI_wI_ne (by omega)]; exact j3⟩, ?_⟩⟩
      simp only [lb_X27_init_45]
      rw [f_gI u0 (by decide), B1, Option.bind_some, i2_of (a := (k : Int)) (by omega) (by omega), i2_of (a := s 2 71) (by omega) (by omega), if_pos (by omega), f_gR t27 (by decide), f0, Option.bind_some, f_gR u0 (by decide), u2', Option.bind_some, f_ld v2' (by decide) (by omega) (by rw [l2]; omega) (by rw [l2]; decide), Option.bind_some, Int.toNat_natCast, b1, m1, Option.bind_some, f_gR u0 (by decide), u3', Option.bind_some, f_ld v3' (by decide) (by omega) (by rw [l3]; omega) (by rw [l3]; decide), Option.bind_some, Int.toNat_natCast, b2, m2, Option.bind_some, f_gR u0 (by decide), u4', Option.bind_some, f_ld v4' (by decide) (by omega) (by rw [l4]; omega) (by rw [l4]; decide), Option.bind_some, Int.toNat_natCast, b3, f_sto r2 (by decide) (by omega) (by rw [r3]; omega) (by rw [r3]; decide), Option.bind_some]
      rfl) (by
      rintro _ g ⟨S, M, j3⟩
      have H1 := H.keep S.1
      have B := H1.bk
      have M1 : RgM h g (owed (s 2)) := M
      obtain ⟨g', y1, y2⟩ := it_runI (body := fun y : Int × ax_H => lb_X27_init_88 E (some h.1) (some x) y.1 y.2) (fun (_ : RB) (p : Nat) g => ((p : Int), g)) (fun (_ : RB) g => g) (I := fun _ R g => RcI x s h 0 (fun _ => 0) R g) (P := fun R g => RcI x s h 0 (fun _ => 0) R g) (f := fun R (p : Nat) => (.inl (ringT (s 2) 64 1 (2 ^ p) (fun _ => (p : Int)) R) : RB ⊕ RB)) (fin := id) (s 2 152).toNat (by
          rintro p R g hp ⟨S, M, -, b1, v1⟩
          have H1 := H.keep S.1
          obtain ⟨z1, z2⟩ := c_ppl H1
          obtain ⟨-, -, ⟨t27, f0, f1', f2, f5⟩, -, -, ⟨t9, l9⟩, -⟩ := id S
          obtain ⟨o1, o2⟩ := ones_p (p := p) (by omega)
          obtain ⟨g2, x1, x2⟩ := c_tries (E := E) H hK 64 1 (2 ^ p) (fun _ => (p : Int)) R (wI g (h.1 + 9) 0 p) (by decide) (by decide) o2 o1 (fun j hj => by show 0 ≤ (p : Int) ∧ (p : Int) < _; omega) ⟨S.wI hx (by omega), fun a b ha hb => by rw [hI_wI_ne (by omega)]; exact M a b ha hb, fun j hj => by
              have : j = 0 := by omega
              subst this
              rw [hI_wI_eq], by
              have z3 : hI (wI g (h.1 + 9) 0 p) h.1 3 = hI g h.1 3 := hI_wI_ne (by omega)
              have z4 : hI (wI g (h.1 + 9) 0 p) h.1 4 = hI g h.1 4 := hI_wI_ne (by omega)
              have z10 : hI (wI g (h.1 + 9) 0 p) (h.1 + 10) = hI g (h.1 + 10) := by funext j; exact hI_wI_ne (by omega)
              rw [z3, z4, z10]
              exact b1, v1⟩
          obtain ⟨y2, y3, -, y4, y5⟩ := x2
          refine ⟨g2, Or.inl ⟨_, rfl, ⟨y2, y3, fun j hj => absurd hj (by omega), y4, y5⟩, ?_⟩⟩
          simp only [lb_X27_init_88, fn_X27_go]
          rw [z1, Option.bind_some, z2, Option.bind_some, i2_of (a := (p : Int)) (by omega) (by omega), i2_of (a := s 2 152) (by omega) (by omega), if_pos (by omega), f_gR t27 (by decide), f1', Option.bind_some, f_sto t9 (by decide) (by decide) (by rw [l9]; decide) (by rw [l9]; decide), Option.bind_some, f_ce (by rw [hT_wI]; exact t27) (by decide), Option.bind_some, shl1 (by omega)]
          have x1' : rg_X27_go E 64 (some h.1) 1 ((2 ^ p : Nat) : Int) (wI g (h.1 + 9) (0 : Int).toNat p) = some g2 := x1
          rw [x1', Option.bind_some]
          simp) (by
          rintro R g hJ
          have H1 := H.keep hJ.1.1
          obtain ⟨z1, z2⟩ := c_ppl H1
          refine ⟨_, hJ, ?_⟩
          simp only [lb_X27_init_88]
          rw [z1, Option.bind_some, z2, Option.bind_some, i2_of (a := (((s 2 152).toNat : Nat) : Int)) (by omega) (by omega), i2_of (a := s 2 152) (by omega) (by omega), if_neg (by omega)]
          rfl) (s 2 152).toNat 0 none g (by omega) ⟨S, M1, fun j hj => absurd hj (by omega), j3, trivial⟩
      refine ⟨g', y1, ?_⟩
      simp only [lb_X27_init_45, f_X27_init_88]
      rw [f_gI B.1.1 (by decide), B.2.1.1, Option.bind_some, i2_of (a := (((s 2 71).toNat : Nat) : Int)) (by omega) (by omega), i2_of (a := s 2 71) (by omega) (by omega), if_neg (by omega)]
      exact congrArg (Option.map (Sum.inr (α := Int × ax_H))) y2) (s 2 71).toNat 0 () (rgH x h) (by omega) ⟨S0, M0, i3⟩
  exact ⟨g', w2, w1⟩
end
