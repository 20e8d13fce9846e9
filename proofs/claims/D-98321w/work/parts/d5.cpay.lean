/-! Payments: the component -/
set_option maxRecDepth 100000
def nt74 (a b : Int) : Int := b + ax_ushr a 1
def nt62 (a b : Int) : Int := if i2 4 < i2 a then nt74 (ax_ushr a 2) (b + 2) else nt74 a b
def nt49 (a b : Int) : Int := if i2 16 < i2 a then nt62 (ax_ushr a 4) (b + 4) else nt62 a b
def nt34 (a b : Int) : Int := if i2 256 < i2 a then nt49 (ax_ushr a 8) (b + 8) else nt49 a b
def ntE (x : Int) : Int := if 0 < i2 (ax_and (ax_xor x (-1)) (x - 1)) then (if i2 65536 < i2 (ax_and (ax_xor x (-1)) (x - 1)) then nt34 (ax_ushr (ax_and (ax_xor x (-1)) (x - 1)) 16) (1 + 16) else nt34 (ax_and (ax_xor x (-1)) (x - 1)) 1) else ax_and (ax_and (ax_xor x (-1)) (x - 1)) 32
theorem c_ntz {E : ax_E} {x : Int} {h : ax_H} : f_J16_numberOfTrailingZeros E x h = some (ntE x, h) := by
  have a62 : ∀ a b : Int, f_J16_numberOfTrailingZeros_62 E a b h = some (nt62 a b, h) := by
    intro a b
    unfold f_J16_numberOfTrailingZeros_62 f_J16_numberOfTrailingZeros_74 nt62 nt74
    split <;> rfl
  have a49 : ∀ a b : Int, f_J16_numberOfTrailingZeros_49 E a b h = some (nt49 a b, h) := by
    intro a b
    unfold f_J16_numberOfTrailingZeros_49 nt49
    split <;> exact a62 _ _
  have a34 : ∀ a b : Int, f_J16_numberOfTrailingZeros_34 E a b h = some (nt34 a b, h) := by
    intro a b
    unfold f_J16_numberOfTrailingZeros_34 nt34
    split <;> exact a49 _ _
  unfold f_J16_numberOfTrailingZeros ntE
  split
  · split <;> exact a34 _ _
  · rfl
def ntN (st : Nat) : Nat := match bitB st 0 with
  | true => 0
  | false => match bitB st 1 with
    | true => 1
    | false => match bitB st 2 with
      | true => 2
      | false => match bitB st 3 with
        | true => 3
        | false => match bitB st 4 with
          | true => 4
          | false => match bitB st 5 with
            | true => 5
            | false => 6
theorem set_f2 : al7 (fun st => Nat.beq st 0 || (decide (ntE (st : Int) = (ntN st : Int)) && decide (ntN st < 7) && bitB st (ntN st) && decide (ax_and (st : Int) ((st : Int) - 1) = ((st - 2 ^ ntN st : Nat) : Int)))) 128 = true := by decide +kernel
theorem set_low {st : Nat} (h0 : st ≠ 0) (hs : st < 128) : ntE (st : Int) = (ntN st : Int) ∧ ntN st < 7 ∧ st >>> ntN st % 2 = 1 ∧ ax_and (st : Int) ((st : Int) - 1) = ((st - 2 ^ ntN st : Nat) : Int) := by
  have h := al7_e _ set_f2 st hs
  have e : Nat.beq st 0 = false := by
    cases hb : Nat.beq st 0 with
    | false => rfl
    | true => exact absurd (Nat.eq_of_beq_eq_true hb) h0
  rw [e] at h
  simp only [Bool.false_or, Bool.and_eq_true, decide_eq_true_eq] at h
  exact ⟨h.1.1.1, h.1.1.2, bitB_iff.mp h.1.2, h.2⟩
theorem sm_upd {n l : Nat} {f g : Nat → Int} {c : Int} (hl : l < n) (h1 : f l = g l + c) (h2 : ∀ k, k < n → k ≠ l → f k = g k) : sm n f = sm n g + c := by
  induction n with
  | zero => omega
  | succ n ih =>
    simp only [sm]
    by_cases e : l = n
    · subst e
      rw [sm_congr (fun k hk => h2 k (by omega) (by omega)), h1]
      omega
    · rw [ih (by omega) (fun k hk => h2 k (by omega)), h2 n (by omega) (by omega)]
      omega
theorem pyB_s {K : Rw} {st : Nat} (h7 : 0 ≤ K 152 ∧ K 152 ≤ 7) (h0 : st ≠ 0) (hst : st < 2 ^ (K 152).toNat) : pyB K st = pyB K (st - 2 ^ ntN st) + balanceS K (ntN st) := by
  have pw : 2 ^ (K 152).toNat ≤ 128 := Nat.pow_le_pow_right (by decide) (show (K 152).toNat ≤ 7 by omega)
  obtain ⟨a1, a2, a3, a4⟩ := set_low h0 (by omega)
  obtain ⟨b1, b2, b3⟩ := set_bit (p := ntN st) (by omega) a2 a3
  have ln : ntN st < (K 152).toNat := (Nat.pow_lt_pow_iff_right (by decide)).mp (Nat.lt_of_le_of_lt b2 hst)
  refine sm_upd ln ?_ (fun k hk hne => ?_)
  · rw [if_pos a3, b3 _ a2, if_pos rfl, if_neg (by decide)]
    omega
  · rw [b3 k (by omega), if_neg hne]
theorem pyB_0 (K : Rw) : pyB K 0 = 0 := by
  unfold pyB
  refine sm_zero (fun k hk => ?_)
  rw [Nat.zero_shiftRight, if_neg (by decide)]
section
variable {E : ax_E} {h : ax_H} {x t dl dv ds du : Nat} {s : Sg}
def PyC (x : Nat) (h : ax_H) (K : Rw) (n : Nat) (g : ax_H) : Prop := Kp x h g ∧ (g.1 = h.1 + 2 ∧ g.2.1 = h.2.1 + 256) ∧ (hT g h.1 = 100 ∧ hL g h.1 = 128 ∧ hT g (h.1 + 1) = 100 ∧ hL g (h.1 + 1) = 128) ∧ (∀ j : Nat, j < n → hI g h.1 j = pyB K j ∧ hI g (h.1 + 1) j = pyG K j) ∧ ∀ j : Nat, n ≤ j → hI g (h.1 + 1) j = 0
theorem c_pyIn {st : Nat} {g : ax_H} (H : REP E h x t dl dv ds du s) (hG : G32 s) (hK : KB (s 2)) (h0 : st ≠ 0) (hst : st < 2 ^ (s 2 152).toNat) (hJ : PyC x h (s 2) st g) : ∃ g', lb_X0_payments_23 E (some x) (s 2 152) (some h.1) (some (h.1 + 1)) st g = some (.inl ((st : Int) + 1, g')) ∧ PyC x h (s 2) (st + 1) g' := by
  have hx := H.1.1.1
  have h71 := hK.2.2.2.2.1
  have hn := hK.1
  have pw : 2 ^ (s 2 152).toNat ≤ 128 := Nat.pow_le_pow_right (by decide) (show (s 2 152).toNat ≤ 7 by omega)
  have pe : Hid (i2 (ax_shl 1 (s 2 152)) = ((2 ^ (s 2 152).toNat : Nat) : Int)) := by
    show i2 (ax_shl 1 (s 2 152)) = ((2 ^ (s 2 152).toNat : Nat) : Int)
    have e : s 2 152 = (((s 2 152).toNat : Nat) : Int) := by omega
    rw [e, shl1 (by omega), Int.toNat_natCast]
    exact i2_of (by omega) (by omega)
  have ps := pyB_s (K := s 2) hn h0 hst
  obtain ⟨n1, n2, n3, n4⟩ := set_low h0 (by omega)
  have n1' : Hid (ntE (st : Int) = (ntN st : Int)) := n1
  have n4' : Hid (ax_and (st : Int) ((st : Int) - 1) = ((st - 2 ^ ntN st : Nat) : Int)) := n4
  clear n1 n4
  obtain ⟨-, b2, -⟩ := set_bit (p := ntN st) (by omega) n2 n3
  have pl : 1 ≤ 2 ^ ntN st := Nat.one_le_two_pow
  obtain ⟨kp, ⟨z1, z2⟩, ⟨t1, l1, t2, l2⟩, v, w⟩ := hJ
  have H1 := H.keep kp
  have B := H1.bk
  have lb : -2000000 ≤ pyB (s 2) st ∧ pyB (s 2) st ≤ 2000000 := pyB_b hK st _ (Nat.le_refl _)
  -- the sums
  obtain ⟨g1, hg1⟩ : ∃ g1, g1 = wI g h.1 st (pyB (s 2) st) := ⟨_, rfl⟩
  have kp1 : Kp x h g1 := by rw [hg1]; exact Kp_wIn kp hx (Nat.le_refl _)
  have pre : lb_X0_payments_23 E (some x) (s 2 152) (some h.1) (some (h.1 + 1)) st g = f_X0_payments_64 E (some x) (s 2 152) (some h.1) (some (h.1 + 1)) st 0 g1 := by
    unfold lb_X0_payments_23
    rw [i2_of (a := (st : Int)) (by omega) (by omega), pe.out, if_pos (by omega), c_ntz, Option.bind_some]
    dsimp only
    rw [n4'.out, f_ld t1 (by decide) (by omega) (by rw [l1]; omega) (by rw [l1]; decide), Option.bind_some, Int.toNat_natCast, (v (st - 2 ^ ntN st) (by omega)).1, f_ce H1.2.1.1 (by decide), Option.bind_some, c_books H1, Option.bind_some]
    dsimp only
    rw [f_ce B.1.1 (by decide), Option.bind_some, n1'.out, c_balance B (hG 2) h71.1 h71.2 (i2_of (by omega) (by omega)), Option.bind_some]
    dsimp only
    rw [f_sto t1 (by decide) (by omega) (by rw [l1]; omega) (by rw [l1]; decide), Option.bind_some, Int.toNat_natCast, ← ps, ← hg1]
  have T1 : hT g1 h.1 = 100 ∧ hL g1 h.1 = 128 ∧ hT g1 (h.1 + 1) = 100 ∧ hL g1 (h.1 + 1) = 128 := by rw [hg1, hT_wI, hL_wI, hT_wI, hL_wI]; exact ⟨t1, l1, t2, l2⟩
  obtain ⟨g', w1, w2⟩ := it_runI (body := fun y : Int × ax_H => lb_X0_payments_64 E (some x) (s 2 152) (some h.1) (some (h.1 + 1)) st y.1 y.2) (fun (_ : Unit) (k : Nat) g => ((k : Int), g)) (fun (_ : Unit) g => Sum.inl ((st : Int) + 1, g)) (I := fun k _ g => Kp x h g ∧ (g.1 = h.1 + 2 ∧ g.2.1 = h.2.1 + 256) ∧ (hT g h.1 = 100 ∧ hL g h.1 = 128 ∧ hT g (h.1 + 1) = 100 ∧ hL g (h.1 + 1) = 128) ∧ ((∀ j : Nat, j ≤ st → hI g h.1 j = pyB (s 2) j) ∧ ∀ j : Nat, j < st → hI g (h.1 + 1) j = pyG (s 2) j) ∧ (∀ j : Nat, st < j → hI g (h.1 + 1) j = 0) ∧ hI g (h.1 + 1) st = pyM (pyG (s 2)) st k) (P := fun _ g => PyC x h (s 2) (st + 1) g) (f := fun _ _ => (.inl () : Unit ⊕ Unit)) (fin := id) (s 2 152).toNat (by
      rintro k _ g2 hk ⟨q1, q2, ⟨q3, q4, q5, q6⟩, ⟨q7, q8⟩, q9, q10⟩
      have f1 : ∀ g : ax_H, f_X0_has E (st : Int) (k : Int) g = some (b01 (st >>> k % 2 = 1), g) := fun g => c_bit (by omega) (by omega)
      by_cases c : st >>> k % 2 = 1
      · obtain ⟨b1, b2, -⟩ := set_bit (st := st) (p := k) (by omega) (by omega) c
        have b1' : Hid (ax_and (st : Int) (ax_xor (ax_shl 1 (k : Int)) (-1)) = ((st - 2 ^ k : Nat) : Int)) := b1
        clear b1
        have h2 : 1 ≤ 2 ^ k := Nat.one_le_two_pow
        have mb := pyM_b (G := pyG (s 2)) h0 (fun j hj => pyG_b (s 2) j (by omega)) k
        have gb := pyG_b (s 2) (st - 2 ^ k) (by omega)
        have eM : pyM (pyG (s 2)) st (k + 1) = max (pyM (pyG (s 2)) st k) (pyG (s 2) (st - 2 ^ k)) := by
          show (if st >>> k % 2 = 1 then _ else _) = _
          rw [if_pos c]
          rfl
        refine ⟨wI g2 (h.1 + 1) st (max (pyM (pyG (s 2)) st k) (pyG (s 2) (st - 2 ^ k))), Or.inl ⟨(), rfl, ⟨Kp_wIn q1 hx (by omega), q2, by rw [hT_wI, hL_wI, hT_wI, hL_wI]; exact ⟨q3, q4, q5, q6⟩, ⟨fun j hj => ?_, fun j hj => ?_⟩, fun j hj => ?_, ?_⟩, ?_⟩⟩
        · rw [hI_wI_ne (by omega)]; exact q7 j hj
        · rw [hI_wI_ne (by omega)]; exact q8 j hj
        · rw [hI_wI_ne (by omega)]; exact q9 j hj
        · rw [hI_wI_eq, eM]
        · simp only [lb_X0_payments_64, f_X0_payments_102]
          rw [i2_of (a := (k : Int)) (by omega) (by omega), i2_of (a := s 2 152) (by omega) (by omega), if_pos (by omega), f1, Option.bind_some]
          dsimp only
          rw [if_neg (by rw [b01_z]; exact fun z => z c), f_ld q5 (by decide) (by omega) (by rw [q6]; omega) (by rw [q6]; decide), Option.bind_some, Int.toNat_natCast, q10, b1'.out, f_ld q5 (by decide) (by omega) (by rw [q6]; omega) (by rw [q6]; decide), Option.bind_some, Int.toNat_natCast, q8 _ (by omega), c_max2 (i2_of (by omega) (by omega)) (i2_of (by omega) (by omega)), Option.bind_some]
          dsimp only
          rw [f_sto q5 (by decide) (by omega) (by rw [q6]; omega) (by rw [q6]; decide), Option.bind_some, Int.toNat_natCast]
          simp
      · refine ⟨g2, Or.inl ⟨(), rfl, ⟨q1, q2, ⟨q3, q4, q5, q6⟩, ⟨q7, q8⟩, q9, ?_⟩, ?_⟩⟩
        · rw [q10]
          show _ = (if st >>> k % 2 = 1 then _ else _)
          rw [if_neg c]
          rfl
        · simp only [lb_X0_payments_64, f_X0_payments_102]
          rw [i2_of (a := (k : Int)) (by omega) (by omega), i2_of (a := s 2 152) (by omega) (by omega), if_pos (by omega), f1, Option.bind_some]
          dsimp only
          rw [if_pos (by rw [b01_z]; exact c)]
          simp) (by
      rintro _ g2 ⟨q1, q2, ⟨q3, q4, q5, q6⟩, ⟨q7, q8⟩, q9, q10⟩
      have ge := pyG_eq (s 2) h0 (by omega)
      refine ⟨wI g2 (h.1 + 1) st (pyG (s 2) st), ⟨Kp_wIn q1 hx (by omega), q2, by rw [hT_wI, hL_wI, hT_wI, hL_wI]; exact ⟨q3, q4, q5, q6⟩, fun j hj => ⟨?_, ?_⟩, fun j hj => ?_⟩, ?_⟩
      · rw [hI_wI_ne (by omega)]; exact q7 j (by omega)
      · by_cases cj : j = st
        · subst cj; rw [hI_wI_eq]
        · rw [hI_wI_ne (by omega)]; exact q8 j (by omega)
      · rw [hI_wI_ne (by omega)]; exact q9 j (by omega)
      · simp only [lb_X0_payments_64, f_X0_payments_125]
        rw [i2_of (a := (((s 2 152).toNat : Nat) : Int)) (by omega) (by omega), i2_of (a := s 2 152) (by omega) (by omega), if_neg (by omega), f_ld q5 (by decide) (by omega) (by rw [q6]; omega) (by rw [q6]; decide), Option.bind_some, Int.toNat_natCast, q10, f_ld q3 (by decide) (by omega) (by rw [q4]; omega) (by rw [q4]; decide), Option.bind_some, Int.toNat_natCast, q7 st (Nat.le_refl _), i2_of (a := pyB (s 2) st) (by omega) (by omega)]
        by_cases c2 : pyB (s 2) st = 0
        · rw [if_pos c2] at ge
          rw [if_pos c2, f_sto q5 (by decide) (by omega) (by rw [q6]; omega) (by rw [q6]; decide), Option.bind_some, Int.toNat_natCast, ge]
          rfl
        · rw [if_neg c2] at ge
          rw [if_neg c2, f_sto q5 (by decide) (by omega) (by rw [q6]; omega) (by rw [q6]; decide), Option.bind_some, Int.toNat_natCast, ge]
          rfl) (s 2 152).toNat 0 () g1 (by omega) ⟨kp1, by rw [hg1]; exact ⟨z1, z2⟩, T1, ⟨fun j hj => by
            rw [hg1]
            by_cases cj : j = st
            · subst cj; rw [hI_wI_eq]
            · rw [hI_wI_ne (by omega)]; exact (v j (by omega)).1, fun j hj => by rw [hg1, hI_wI_ne (by omega)]; exact (v j hj).2⟩, fun j hj => by rw [hg1, hI_wI_ne (by omega)]; exact w j (by omega), by rw [hg1, hI_wI_ne (by omega), w st (Nat.le_refl _)]; rfl⟩
  exact ⟨g', pre.trans w2, w1⟩
theorem c_payments (H : REP E h x t dl dv ds du s) (hG : G32 s) (hK : KB (s 2)) (x1 : h.1 + 2 ≤ E.1.1) (x2 : h.2.1 + 256 ≤ E.1.2) : ∃ h', f_X0_payments E (some x) h = some (payP s, h') ∧ REP E h' x t dl dv ds du s ∧ Blk x 8 300 h h' := by
  have hx := H.1.1.1
  have hn := hK.1
  have pw : 2 ^ (s 2 152).toNat ≤ 128 := Nat.pow_le_pow_right (by decide) (show (s 2 152).toNat ≤ 7 by omega)
  have pw1 : 1 ≤ 2 ^ (s 2 152).toNat := Nat.one_le_two_pow
  have ps : Hid (ax_shl 1 (s 2 152) = ((2 ^ (s 2 152).toNat : Nat) : Int)) := by
    show ax_shl 1 (s 2 152) = ((2 ^ (s 2 152).toNat : Nat) : Int)
    have e : s 2 152 = (((s 2 152).toNat : Nat) : Int) := by omega
    rw [e, shl1 (by omega), Int.toNat_natCast]
  have pk : Hid (i2 ((2 ^ (s 2 152).toNat : Nat) : Int) = ((2 ^ (s 2 152).toNat : Nat) : Int)) := i2_of (by omega) (by omega)
  obtain ⟨y1, y2⟩ := c_ppl H
  unfold f_X0_payments f_X0_payments_23
  rw [y1, Option.bind_some, y2, Option.bind_some, f_na (i := 128) (by decide) (by decide) (by omega) (by show _ + 128 ≤ _; omega), Option.bind_some]
  dsimp only
  rw [f_na (i := 128) (by decide) (by decide) (by show h.1 + 1 + 1 ≤ _; omega) (by show h.2.1 + 128 + 128 ≤ _; omega), Option.bind_some]
  obtain ⟨g', v1, v2⟩ := it_runI (body := fun y : Int × ax_H => lb_X0_payments_23 E (some x) (s 2 152) (some h.1) (some (h.1 + 1)) y.1 y.2) (fun (_ : Unit) (k : Nat) g => ((k : Int), g)) (fun (_ : Unit) g => (payP s, g)) (I := fun k _ g => 1 ≤ k ∧ PyC x h (s 2) k g) (P := fun _ g => ∃ n, PyC x h (s 2) n g) (f := fun _ _ => (.inl () : Unit ⊕ Unit)) (fin := id) (2 ^ (s 2 152).toNat) (by
      rintro k _ g hk ⟨k1, hJ⟩
      obtain ⟨g2, y1, y2⟩ := c_pyIn (E := E) (st := k) H hG hK (by omega) hk hJ
      exact ⟨g2, Or.inl ⟨(), rfl, ⟨by omega, y2⟩, y1⟩⟩) (by
      rintro _ g ⟨k1, hJ⟩
      refine ⟨g, ⟨_, hJ⟩, ?_⟩
      obtain ⟨kp, ⟨z1, z2⟩, ⟨t1, l1, t2, l2⟩, v, w⟩ := hJ
      simp only [lb_X0_payments_23]
      rw [ps.out, pk.out, if_neg (Int.lt_irrefl _), i2_of (a := s 2 152) (by omega) (by omega)]
      unfold payP
      by_cases c : s 2 152 = 0
      · rw [if_pos c, c]
        rfl
      · rw [if_neg c, show ((2 ^ (s 2 152).toNat : Nat) : Int) - 1 = ((2 ^ (s 2 152).toNat - 1 : Nat) : Int) by omega, f_ld t2 (by decide) (by omega) (by rw [l2]; omega) (by rw [l2]; decide), Option.bind_some, Int.toNat_natCast, (v (2 ^ (s 2 152).toNat - 1) (by omega)).2]
        rfl) (2 ^ (s 2 152).toNat - 1) 1 () (nwH (nwH h 100 128 128) 100 128 128) (by omega) ⟨by omega, Kp_nw (Kp_nw (Kp.refl x h) hx) hx, ⟨rfl, rfl⟩, ⟨(hT_nw_ne (show h.1 ≠ (nwH h 100 128 128).1 by rw [nw_1]; omega)).trans hT_nw_eq, (hL_nw_ne (show h.1 ≠ (nwH h 100 128 128).1 by rw [nw_1]; omega)).trans hL_nw_eq, hT_nw_eq, hL_nw_eq⟩, fun j hj => by
        have : j = 0 := by omega
        subst this
        exact ⟨(hI_nw_ne (show h.1 ≠ (nwH h 100 128 128).1 by rw [nw_1]; omega)).trans (hI_nw_eq.trans (pyB_0 (s 2)).symm), hI_nw_eq⟩, fun j hj => hI_nw_eq⟩
  obtain ⟨n, kp, ⟨z1, z2⟩, -⟩ := v1
  exact ⟨g', v2, H.keep kp, by omega, by omega, by omega, by omega, fun b b1 b2 => kp.2.2.2.2.2.2 b b1 b2⟩
end
