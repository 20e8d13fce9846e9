/-! Thieves: the component -/
set_option maxRecDepth 100000
section
variable {E : ax_E} {h : ax_H} {x t dl dv ds du : Nat} {s : Sg}
/-- heaps in which costs are laid, in an array behind all -/
def ThC (x : Nat) (h : ax_H) (T : Nat → Int) (n : Nat) (g : ax_H) : Prop := Kp x h g ∧ (g.1 = h.1 + 1 ∧ g.2.1 = h.2.1 + 16) ∧ (hT g h.1 = 100 ∧ hL g h.1 = 16) ∧ ∀ j : Nat, j < n → hI g h.1 j = T j
theorem ThC.ev {T : Nat → Int} {n : Nat} {g g' : ax_H} (H : ThC x h T n g) (hx : x + 116 ≤ h.1) (e : EvS x g g') : ThC x h T n g' := by
  obtain ⟨k, ⟨s1, s2⟩, ⟨t1, t2⟩, v⟩ := H
  have q := hC_eq (e.2.2.2 h.1 (by omega) (by omega) (by omega))
  unfold hT hL hI at *
  refine ⟨k.trans e.1, ⟨by rw [e.2.1, s1], by rw [e.2.2.1, s2]⟩, ?_⟩
  unfold hT hL hI
  rw [q]
  exact ⟨⟨t1, t2⟩, v⟩
def thO1 (o : Option (Int × Nat)) : Int := match o with
  | none => 100000000
  | some (c, _) => c
def thO2 (o : Option (Int × Nat)) : Int := match o with
  | none => -1
  | some (_, st) => st
def thV (o : Option (Int × Nat)) : Prop := match o with
  | none => True
  | some (c, st) => st < 65536 ∧ 0 ≤ c ∧ c ≤ 160000
theorem c_thIn {th ho room w may : Int} {st : Nat} {o : Option (Int × Nat)} {g : ax_H} (H : REP E h x t dl dv ds du s) (hG : G32 s) (hK : KB (s 2)) (h1 : 0 ≤ ho ∧ ho < s 2 152) (h2 : 0 ≤ th ∧ th < s 2 152) (hr : i2 room = room) (hst : st < 65536) (hv : thV o) (hJ : ThC x h (fun k => soldS (s 2) k) (s 2 71).toNat g) : ∃ g', f_X0_thief_183 E (some x) th ho room w (s 2 71) may (thO1 o) (thO2 o) (some h.1) (owed (s 2) ho th) (owed (s 2) th ho) st 0 0 0 g = some (.inl (thO1 (thG (s 2) th ho room o st), thO2 (thG (s 2) th ho room o st), (st : Int) + 1, g')) ∧ ThC x h (fun k => soldS (s 2) k) (s 2 71).toNat g' ∧ thV (thG (s 2) th ho room o st) := by
  have hx := H.1.1.1
  have H1 := H.keep hJ.1
  have h71 := hK.2.2.2.2.1
  have hn := hK.1
  have cb := thCost_b hK st
  have mb := thMore_b hK st
  have o1 := owed_b hK.2.2.2.2 ho th
  have o2 := owed_b hK.2.2.2.2 th ho
  have B := H1.bk
  unfold f_X0_thief_183
  have no : thV o → ¬ thB o (thCost (s 2) st) st = true → ∃ g', f_X0_thief_280 E (some x) th ho room w (s 2 71) may (thO1 o) (thO2 o) (some h.1) (owed (s 2) ho th) (owed (s 2) th ho) st (thCost (s 2) st) (thMore (s 2) st) g = some (.inl (thO1 (thG (s 2) th ho room o st), thO2 (thG (s 2) th ho room o st), (st : Int) + 1, g')) ∧ ThC x h (fun k => soldS (s 2) k) (s 2 71).toNat g' ∧ thV (thG (s 2) th ho room o st) := by
    intro hv hb
    unfold f_X0_thief_280 f_X0_thief_281 f_X0_thief_323 thG
    rw [if_pos (show i2 0 = 0 by decide), if_neg (fun z => hb z.1)]
    exact ⟨g, rfl, hJ, hv⟩
  have yes : thV o → thB o (thCost (s 2) st) st = true → ∃ g', f_X0_thief_276 E (some x) th ho room w (s 2 71) may (thO1 o) (thO2 o) (some h.1) (owed (s 2) ho th) (owed (s 2) th ho) st (thCost (s 2) st) (thMore (s 2) st) g = some (.inl (thO1 (thG (s 2) th ho room o st), thO2 (thG (s 2) th ho room o st), (st : Int) + 1, g')) ∧ ThC x h (fun k => soldS (s 2) k) (s 2 71).toNat g' ∧ thV (thG (s 2) th ho room o st) := by
    intro hv hb
    obtain ⟨g2, e2, q2⟩ := c_deepBy (E := E) (K := s 2) (ow := ho) (vi := th) (oe := owed (s 2) ho th + thMore (s 2) st) (ba := owed (s 2) th ho) H1 hG hK hK (fun i _ => rfl) h1 h2 (by omega) (by omega)
    have db := deep_b hK (ow := ho) (vi := th) (oe := owed (s 2) ho th + thMore (s 2) st) (ba := owed (s 2) th ho) h1 (by omega)
    have T2 : ThC x h (fun k => soldS (s 2) k) (s 2 71).toNat g2 := hJ.ev hx q2
    unfold f_X0_thief_276 f_X0_thief_281 f_X0_thief_323 thG
    rw [if_neg (show ¬ i2 1 = 0 by decide), f_ce H1.2.1.1 (by decide), Option.bind_some, c_books H1, Option.bind_some]
    dsimp only
    rw [f_gI B.1.1 (by decide), Option.bind_some, f_ce H1.2.1.1 (by decide), Option.bind_some, B.2.1.2, e2, Option.bind_some]
    dsimp only
    rw [i2_of (a := deepByS _ _ _ _ _) (by omega) (by omega), hr]
    by_cases c : deepByS (s 2) ho th (owed (s 2) ho th + thMore (s 2) st) (owed (s 2) th ho) < room
    · rw [if_pos c, if_neg (fun z => by omega)]
      exact ⟨g2, rfl, T2, hv⟩
    · rw [if_neg c, if_pos ⟨hb, by omega⟩]
      exact ⟨g2, rfl, T2, hst, cb⟩
  have key : ∃ g', lb_X0_thief_183 E (some x) th ho room w (s 2 71) may (thO1 o) (thO2 o) (some h.1) (owed (s 2) ho th) (owed (s 2) th ho) st (thCost (s 2) st) (thMore (s 2) st) (s 2 71).toNat g = some (.inr (.inl (thO1 (thG (s 2) th ho room o st), thO2 (thG (s 2) th ho room o st), (st : Int) + 1, g'))) ∧ ThC x h (fun k => soldS (s 2) k) (s 2 71).toNat g' ∧ thV (thG (s 2) th ho room o st) := by
    unfold lb_X0_thief_183
    rw [i2_of (a := (((s 2 71).toNat : Nat) : Int)) (by omega) (by omega), i2_of (a := s 2 71) (by omega) (by omega), if_neg (by omega), i2_of (a := thCost (s 2) st) (by omega) (by omega)]
    have go : ∀ {F : Option ((Int × Int × Int × ax_H) ⊕ (Int × ax_H))}, (∃ g', F = some (.inl (thO1 (thG (s 2) th ho room o st), thO2 (thG (s 2) th ho room o st), (st : Int) + 1, g')) ∧ ThC x h (fun k => soldS (s 2) k) (s 2 71).toNat g' ∧ thV (thG (s 2) th ho room o st)) → ∃ g', F.map (Sum.inr (α := Int × Int × Int × ax_H)) = some (.inr (.inl (thO1 (thG (s 2) th ho room o st), thO2 (thG (s 2) th ho room o st), (st : Int) + 1, g'))) ∧ ThC x h (fun k => soldS (s 2) k) (s 2 71).toNat g' ∧ thV (thG (s 2) th ho room o st) := by
      rintro F ⟨g', w1, w2⟩
      rw [w1]
      exact ⟨g', rfl, w2⟩
    apply go
    cases o with
    | none =>
      rw [if_pos (by show _ < i2 100000000; rw [show i2 100000000 = 100000000 by decide]; omega)]
      exact yes trivial rfl
    | some cs =>
      obtain ⟨c0, s0⟩ := cs
      have rr : s0 < 65536 ∧ 0 ≤ c0 ∧ c0 ≤ 160000 := hv
      obtain ⟨r65, r0, r16⟩ := rr
      have ec : i2 (thO1 (some (c0, s0))) = c0 := i2_of (by show _ ≤ c0; omega) (by show c0 ≤ _; omega)
      have es : thO2 (some (c0, s0)) = (s0 : Int) := rfl
      have tb : thB (some (c0, s0)) (thCost (s 2) st) st = decide (thCost (s 2) st < c0 ∨ (thCost (s 2) st = c0 ∧ ones16 st < ones16 s0)) := rfl
      rw [ec]
      by_cases c1 : thCost (s 2) st < c0
      · rw [if_pos c1]
        exact yes hv (by rw [tb, decide_eq_true_eq]; omega)
      · rw [if_neg c1]
        by_cases c2 : thCost (s 2) st = c0
        · have q1 := ones_le st
          have q2 := ones_le s0
          rw [if_pos c2, c_bitCount (by omega), Option.bind_some]
          dsimp only
          have bs : f_J16_bitCount E (thO2 (some (c0, s0))) g = some (((ones16 s0 : Nat) : Int), g) := c_bitCount r65
          rw [bs, Option.bind_some]
          dsimp only
          rw [i2_of (a := ((ones16 st : Nat) : Int)) (by omega) (by omega), i2_of (a := ((ones16 s0 : Nat) : Int)) (by omega) (by omega)]
          by_cases c3 : ones16 st < ones16 s0
          · rw [if_pos (by omega)]
            exact yes hv (by rw [tb, decide_eq_true_eq]; omega)
          · rw [if_neg (by omega)]
            exact no hv (by rw [tb, decide_eq_true_eq]; omega)
        · rw [if_neg c2]
          exact no hv (by rw [tb, decide_eq_true_eq]; omega)
  obtain ⟨g', w1, w2⟩ := key
  refine ⟨g', ?_, w2⟩
  have e := it_traj (body := fun y : Int × Int × Int × ax_H => lb_X0_thief_183 E (some x) th ho room w (s 2 71) may (thO1 o) (thO2 o) (some h.1) (owed (s 2) ho th) (owed (s 2) th ho) st y.1 y.2.1 y.2.2.1 y.2.2.2) (fun k => (thSum (fun k => soldS (s 2) k) k st, thSum (fun k => s 2 (7 + 4 * (k : Int) + 2)) k st, (k : Int), g)) (s 2 71).toNat (r := .inl (thO1 (thG (s 2) th ho room o st), thO2 (thG (s 2) th ho room o st), (st : Int) + 1, g')) ?_ w1
  · exact e
  · intro k hk
    have f1 : ∀ g : ax_H, f_X0_has E (st : Int) (k : Int) g = some (b01 (st >>> k % 2 = 1), g) := fun g => c_bit (by omega) (by omega)
    obtain ⟨⟨u0, ⟨u1', u2', u3', u4', u5'⟩, ⟨v1', v2', v3', v4', v5'⟩, w1, w2, w3, w4, w5⟩, ⟨B1, B2⟩, B3, B4⟩ := id B
    obtain ⟨-, -, b4, -⟩ := B4 k (by omega)
    obtain ⟨-, -, ⟨t1, t2⟩, tv⟩ := id hJ
    have tk : hI g h.1 k = soldS (s 2) k := tv k hk
    simp only [lb_X0_thief_183, f_X0_thief_211, f_X0_thief_240]
    rw [i2_of (a := (k : Int)) (by omega) (by omega), i2_of (a := s 2 71) (by omega) (by omega), if_pos (by omega), f1, Option.bind_some]
    dsimp only
    rw [thSum_s, thSum_s]
    by_cases c : st >>> k % 2 = 1
    · rw [if_neg (by rw [b01_z]; exact fun z => z c), f_ld t1 (by decide) (by omega) (by rw [t2]; omega) (by rw [t2]; decide), Option.bind_some, f1, Option.bind_some, Int.toNat_natCast, tk]
      dsimp only
      rw [if_neg (by rw [b01_z]; exact fun z => z c), f_ce H1.2.1.1 (by decide), Option.bind_some, c_books H1, Option.bind_some]
      dsimp only
      rw [f_gR u0 (by decide), u4', Option.bind_some, f_ld v4' (by decide) (by omega) (by rw [w4]; omega) (by rw [w4]; decide), Option.bind_some, Int.toNat_natCast, b4, if_pos c, if_pos c]
      simp
    · rw [if_pos (by rw [b01_z]; exact c), f1, Option.bind_some]
      dsimp only
      rw [if_pos (by rw [b01_z]; exact c), if_neg c, if_neg c]
      simp
theorem th_end {w : Int} {g : ax_H} {o : Option (Int × Nat)} (hv : thV o) (hw : i2 w = w) : (if i2 (thO2 o) = i2 (-1) then some (-1, g) else if i2 w = 0 then some (thO1 o, g) else some (thO2 o, g)) = some (thE w o, g) := by
  cases o with
  | none => rfl
  | some cs =>
    obtain ⟨c, st⟩ := cs
    have hv' : st < 65536 ∧ 0 ≤ c ∧ c ≤ 160000 := hv
    have e2 : i2 (thO2 (some (c, st))) = (st : Int) := i2_of (by show _ ≤ (st : Int); omega) (by show (st : Int) ≤ _; omega)
    rw [e2, show i2 (-1) = -1 by decide, if_neg (by omega), hw]
    show _ = some (if w = 0 then c else (st : Int), g)
    by_cases c4 : w = 0
    · rw [if_pos c4, if_pos c4]; rfl
    · rw [if_neg c4, if_neg c4]; rfl
theorem c_thief {th ho room w : Int} (H : REP E h x t dl dv ds du s) (hG : G32 s) (hK : KB (s 2)) (ht : i2 th = th) (hh : i2 ho = ho) (hr : i2 room = room) (hw : i2 w = w) (x1 : h.1 + 1 ≤ E.1.1) (x2 : h.2.1 + 16 ≤ E.1.2) : ∃ h', f_X0_thief E (some x) th ho room w h = some (thiefP s th ho room w, h') ∧ REP E h' x t dl dv ds du s ∧ Blk x 8 110 h h' := by
  have hx := H.1.1.1
  have hn := hK.1
  have a1 := H.2.1.1
  have h71 := hK.2.2.2.2.1
  have pw := pow16 (n := (s 2 71).toNat) (by omega)
  have pe : Hid (i2 (ax_shl 1 (s 2 71)) = ((2 ^ (s 2 71).toNat : Nat) : Int)) := by
    show i2 (ax_shl 1 (s 2 71)) = ((2 ^ (s 2 71).toNat : Nat) : Int)
    have e : s 2 71 = (((s 2 71).toNat : Nat) : Int) := by omega
    rw [e, shl1 (by omega), Int.toNat_natCast]
    exact i2_of (by omega) (by omega)
  have pk : Hid (i2 ((2 ^ (s 2 71).toNat : Nat) : Int) = ((2 ^ (s 2 71).toNat : Nat) : Int)) := i2_of (by omega) (by omega)
  have bw := i2_lh hw
  unfold f_X0_thief f_X0_thief_27 thiefP
  rw [f_ce a1 (by decide), Option.bind_some, c_areTwo H hK ht hh, Option.bind_some]
  by_cases c1 : ((0 ≤ th ∧ th ≤ s 2 152 - 1) ∧ (0 ≤ ho ∧ ho ≤ s 2 152 - 1) ∧ th ≠ ho)
  · rw [if_neg (by rw [b01_z]; exact fun z => z c1), c_isRoom hr, Option.bind_some]
    by_cases c2 : 1 ≤ room ∧ room ≤ 3
    · rw [if_neg (by rw [b01_z]; exact fun z => z c2), hw, c_in (by omega) (by decide) (by decide), Option.bind_some]
      by_cases c3 : 0 ≤ w ∧ w ≤ 1
      · rw [if_neg (by rw [b01_z]; exact fun z => z c3), if_pos ⟨c1, c2, c3⟩, f_ce a1 (by decide), Option.bind_some, c_books H, Option.bind_some]
        dsimp only
        have h1 : 0 ≤ ho ∧ ho < s 2 152 := by omega
        have h2 : 0 ≤ th ∧ th < s 2 152 := by omega
        rw [f_gI H.bk.1.1 (by decide), H.bk.2.1.1, Option.bind_some, f_na (i := 16) (by decide) (by decide) x1 x2, Option.bind_some]
        dsimp only
        unfold f_X0_thief_58
        obtain ⟨g', q, e1⟩ := it_runI (body := fun y : Int × Int × ax_H => lb_X0_thief_58 E (some x) th ho room w (s 2 71) y.1 100000000 (-1) (some h.1) y.2.1 y.2.2) (fun a (k : Nat) g => (a, (k : Int), g)) (fun r g => (r, g)) (I := fun k a g => a = foldN (thM (s 2) th ho) k 0 ∧ ThC x h (fun k => soldS (s 2) k) k g) (P := fun r g => r = thE w (thS (s 2) th ho room) ∧ ThC x h (fun k => soldS (s 2) k) (s 2 71).toNat g) (f := fun a k => (.inl (thM (s 2) th ho a k) : Int ⊕ Int)) (fin := fun _ => thE w (thS (s 2) th ho room)) (s 2 71).toNat (by
          rintro k a g hk ⟨ha, hJ⟩
          have H1 := H.keep hJ.1
          have B := H1.bk
          obtain ⟨g2, e2, q2⟩ := c_soldFor (E := E) (b := t + 4) (d := (k : Int)) H1 hG hK hK (hG 2) (fun i _ => rfl) B H1.tb (by omega)
          have T2 := hJ.ev hx q2
          obtain ⟨kk, ⟨s1, s2⟩, ⟨t1, t2⟩, v⟩ := T2
          have T3 : ThC x h (fun k => soldS (s 2) k) (k + 1) (wI g2 h.1 k (soldS (s 2) k)) := by
            refine ⟨Kp_wIn kk hx (Nat.le_refl _), ⟨s1, s2⟩, ⟨by rw [hT_wI]; exact t1, by rw [hL_wI]; exact t2⟩, fun j hj => ?_⟩
            by_cases c : j = k
            · subst c; rw [hI_wI_eq]
            · rw [hI_wI_ne (Or.inr c)]; exact v j (by omega)
          have H3 := H.keep T3.1
          obtain ⟨⟨u0, ⟨u1', u2', u3', u4', u5'⟩, ⟨v1', v2', v3', v4', v5'⟩, w1, w2, w3, w4, w5⟩, ⟨B1, B2⟩, B3, B4⟩ := H3.bk
          obtain ⟨b1, b2, -, -⟩ := B4 k (by omega)
          have rv := hK.2.2.2.2.2.2.2 k (by omega) (by omega)
          refine ⟨_, Or.inl ⟨_, rfl, ⟨by rw [ha]; rfl, T3⟩, ?_⟩⟩
          simp only [lb_X0_thief_58, f_X0_thief_117, f_X0_thief_118]
          rw [i2_of (a := (k : Int)) (by omega) (by omega), i2_of (a := s 2 71) (by omega) (by omega), if_pos (by omega), f_ce H1.2.1.1 (by decide), Option.bind_some, c_books H1, Option.bind_some]
          dsimp only
          rw [f_ce H1.2.1.1 (by decide), Option.bind_some, e2, Option.bind_some]
          dsimp only
          rw [f_sto t1 (by decide) (by omega) (by rw [t2]; omega) (by rw [t2]; decide), Option.bind_some, Int.toNat_natCast, f_ce H3.2.1.1 (by decide), Option.bind_some, c_books H3, Option.bind_some]
          dsimp only
          rw [f_gR u0 (by decide), u2', Option.bind_some, f_ld v2' (by decide) (by omega) (by rw [w2]; omega) (by rw [w2]; decide), Option.bind_some, Int.toNat_natCast, b1, i2_of (a := s 2 (7 + 4 * (k : Int))) (by omega) (by omega), i2_of (a := ho) (by omega) (by omega)]
          unfold thM
          by_cases c1 : s 2 (7 + 4 * (k : Int)) = ho
          · rw [if_pos c1, f_ce H3.2.1.1 (by decide), Option.bind_some, c_books H3, Option.bind_some]
            dsimp only
            rw [f_gR u0 (by decide), u3', Option.bind_some, f_ld v3' (by decide) (by omega) (by rw [w3]; omega) (by rw [w3]; decide), Option.bind_some, Int.toNat_natCast, b2, i2_of (a := s 2 (7 + 4 * (k : Int) + 1)) (by omega) (by omega), i2_of (a := th) (by omega) (by omega)]
            by_cases c2 : s 2 (7 + 4 * (k : Int) + 1) = th
            · rw [if_pos c2, if_neg (fun z => z.2 c2)]; simp
            · rw [if_neg c2, if_pos ⟨c1, c2⟩]; simp
          · rw [if_neg c1, if_neg (fun z => c1 z.1)]; simp) (by
          rintro a g ⟨ha, hJ⟩
          have H1 := H.keep hJ.1
          have B := H1.bk
          have em : Hid (a = thMay (s 2) th ho) := ha
          clear ha
          obtain ⟨g', ⟨w1, w3⟩, w2⟩ := it_runI (body := fun y : Int × Int × Int × ax_H => lb_X0_thief_152 E (some x) th ho room w (s 2 71) (thMay (s 2) th ho) y.1 y.2.1 (some h.1) (owed (s 2) ho th) (owed (s 2) th ho) y.2.2.1 y.2.2.2) (fun (o : Option (Int × Nat)) (k : Nat) g => (thO1 o, thO2 o, (k : Int), g)) (fun (r : Option (Int × Nat)) g => (thE w r, g)) (I := fun _ o g => thV o ∧ ThC x h (fun k => soldS (s 2) k) (s 2 71).toNat g) (P := fun r g => thV r ∧ ThC x h (fun k => soldS (s 2) k) (s 2 71).toNat g) (f := thF (s 2) th ho room) (fin := id) (2 ^ (s 2 71).toNat) (by
              rintro k o g hk ⟨hv, hJ⟩
              obtain ⟨g2, v1, v2, v3⟩ := c_thIn (E := E) (w := w) (may := thMay (s 2) th ho) (st := k) H hG hK h1 h2 hr (by omega) hv hJ
              by_cases c : i2 (ax_and (k : Int) (ax_xor (thMay (s 2) th ho) (-1))) = 0
              · refine ⟨g2, Or.inl ⟨_, by unfold thF; rw [if_pos c], ⟨v3, v2⟩, ?_⟩⟩
                simp only [lb_X0_thief_152]
                rw [pe.out, i2_of (a := (k : Int)) (by omega) (by omega), if_pos (by omega), if_pos c, v1]
                simp
              · refine ⟨_, Or.inl ⟨_, by unfold thF; rw [if_neg c], ⟨hv, hJ⟩, ?_⟩⟩
                simp only [lb_X0_thief_152, f_X0_thief_323]
                rw [pe.out, i2_of (a := (k : Int)) (by omega) (by omega), if_pos (by omega), if_neg c]
                simp) (by
              rintro o g ⟨hv, hJ⟩
              refine ⟨_, ⟨hv, hJ⟩, ?_⟩
              simp only [lb_X0_thief_152]
              rw [pe.out, pk.out, if_neg (Int.lt_irrefl _), th_end hv hw]
              rfl) (2 ^ (s 2 71).toNat) 0 none g (by omega) ⟨trivial, hJ⟩
          refine ⟨g', ⟨rfl, w3⟩, ?_⟩
          simp only [lb_X0_thief_58, f_X0_thief_152]
          rw [i2_of (a := (((s 2 71).toNat : Nat) : Int)) (by omega) (by omega), i2_of (a := s 2 71) (by omega) (by omega), if_neg (by omega), f_ce H1.2.1.1 (by decide), Option.bind_some, c_books H1, Option.bind_some]
          dsimp only
          rw [f_ce B.1.1 (by decide), Option.bind_some, c_owes B (hG 2) h71.1 h71.2 (i2_of (by omega) (by omega)) (i2_of (by omega) (by omega)), Option.bind_some]
          dsimp only
          rw [f_ce H1.2.1.1 (by decide), Option.bind_some, c_books H1, Option.bind_some]
          dsimp only
          rw [f_ce B.1.1 (by decide), Option.bind_some, c_owes B (hG 2) h71.1 h71.2 (i2_of (by omega) (by omega)) (i2_of (by omega) (by omega)), Option.bind_some]
          dsimp only
          rw [em.out]
          have w1' := congrArg (Option.map (Sum.inr (α := Int × Int × ax_H))) w2
          exact w1') (s 2 71).toNat 0 0 (nwH h 100 16 16) (by omega) ⟨rfl, Kp_nw (Kp.refl x h) hx, ⟨rfl, rfl⟩, ⟨hT_nw_eq, hL_nw_eq⟩, fun j hj => absurd hj (by omega)⟩
        obtain ⟨q1, q2⟩ := q
        refine ⟨g', ?_, H.keep q2.1, ?_⟩
        · rw [q1] at e1
          exact e1
        · obtain ⟨k, ⟨s1, s2⟩, -⟩ := q2
          exact ⟨by omega, by omega, by omega, by omega, fun b b1 b2 => k.2.2.2.2.2.2 b b1 b2⟩
      · rw [if_pos (by rw [b01_z]; exact c3), if_neg (fun z => c3 z.2.2)]
        exact ⟨h, rfl, H, (Blk.refl x h).up (by decide) (by decide)⟩
    · rw [if_pos (by rw [b01_z]; exact c2), if_neg (fun z => c2 z.2.1)]
      exact ⟨h, rfl, H, (Blk.refl x h).up (by decide) (by decide)⟩
  · rw [if_pos (by rw [b01_z]; exact c1), if_neg (fun z => c1 z.1)]
    exact ⟨h, rfl, H, (Blk.refl x h).up (by decide) (by decide)⟩
end
