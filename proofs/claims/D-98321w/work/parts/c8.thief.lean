/-! Thieves: the model -/
set_option maxRecDepth 100000
/-- loops that count, with what holds of what is gathered and of the heap -/
theorem it_runI {A R S T U : Type} {body : T → Option (T ⊕ U)} (enc : A → Nat → S → T) (out : R → S → U) {I : Nat → A → S → Prop} {P : R → S → Prop} {f : A → Nat → A ⊕ R} {fin : A → R} (n : Nat) (hs : ∀ (k : Nat) a g, k < n → I k a g → ∃ g', ((∃ a', f a k = .inl a' ∧ I (k + 1) a' g' ∧ body (enc a k g) = some (.inl (enc a' (k + 1) g'))) ∨ ∃ r, f a k = .inr r ∧ P r g' ∧ body (enc a k g) = some (.inr (out r g')))) (he : ∀ a g, I n a g → ∃ g', P (fin a) g' ∧ body (enc a n g) = some (.inr (out (fin a) g'))) : ∀ (j k : Nat) a g, k + j = n → I k a g → ∃ g', P (runF f fin j k a) g' ∧ ax_iter body (enc a k g) = some (out (runF f fin j k a) g') := by
  intro j
  induction j with
  | zero =>
    intro k a g e q
    have : k = n := by omega
    subst this
    obtain ⟨g', q', e'⟩ := he a g q
    exact ⟨g', q', it_done e'⟩
  | succ j ih =>
    intro k a g e q
    obtain ⟨g', c⟩ := hs k a g (by omega) q
    rcases c with ⟨a', f1, v1, b1⟩ | ⟨r, f1, p1, b1⟩
    · obtain ⟨g2, q2, e2⟩ := ih (k + 1) a' g' (by omega) v1
      rw [runF_l f1]
      exact ⟨g2, q2, (it_step b1).trans e2⟩
    · rw [runF_r f1]
      exact ⟨g', p1, it_done b1⟩
def thM (K : Rw) (th ho : Int) (a : Int) (k : Nat) : Int := ax_or a (if K (7 + 4 * (k : Int)) = ho ∧ K (7 + 4 * (k : Int) + 1) ≠ th then ax_shl 1 k else 0)
def thMay (K : Rw) (th ho : Int) : Int := foldN (thM K th ho) (K 71).toNat 0
def thSum (T : Nat → Int) (n st : Nat) : Int := sm n (fun k => if st >>> k % 2 = 1 then T k else 0)
def thCost (K : Rw) (st : Nat) : Int := thSum (fun k => soldS K k) (K 71).toNat st
def thMore (K : Rw) (st : Nat) : Int := thSum (fun k => K (7 + 4 * (k : Int) + 2)) (K 71).toNat st
def thB (o : Option (Int × Nat)) (c : Int) (st : Nat) : Bool := match o with
  | none => true
  | some (c0, s0) => decide (c < c0 ∨ (c = c0 ∧ ones16 st < ones16 s0))
def thG (K : Rw) (th ho room : Int) (o : Option (Int × Nat)) (st : Nat) : Option (Int × Nat) := if thB o (thCost K st) st = true ∧ room ≤ deepByS K ho th (owed K ho th + thMore K st) (owed K th ho) then some (thCost K st, st) else o
def thF (K : Rw) (th ho room : Int) (o : Option (Int × Nat)) (st : Nat) : Option (Int × Nat) ⊕ Option (Int × Nat) := .inl (if i2 (ax_and (st : Int) (ax_xor (thMay K th ho) (-1))) = 0 then thG K th ho room o st else o)
def thS (K : Rw) (th ho room : Int) : Option (Int × Nat) := runF (thF K th ho room) id (2 ^ (K 71).toNat) 0 none
def thE (w : Int) (o : Option (Int × Nat)) : Int := match o with
  | none => -1
  | some (c, st) => if w = 0 then c else st
def thiefP (s : Sg) (th ho room w : Int) : Int := if ((0 ≤ th ∧ th ≤ s 2 152 - 1) ∧ (0 ≤ ho ∧ ho ≤ s 2 152 - 1) ∧ th ≠ ho) ∧ (1 ≤ room ∧ room ≤ 3) ∧ (0 ≤ w ∧ w ≤ 1) then thE w (thS (s 2) th ho room) else -1
theorem thSum_b {T : Nat → Int} {n st : Nat} (hT : ∀ k, k < n → 0 ≤ T k ∧ T k ≤ 9999) : 0 ≤ thSum T n st ∧ thSum T n st ≤ 9999 * n := by
  unfold thSum
  have h1 := sm_ge (n := n) (f := fun k => if st >>> k % 2 = 1 then T k else 0) (c := 0) (fun k hk => by have := hT k hk; split <;> omega)
  have h2 := sm_le (n := n) (f := fun k => if st >>> k % 2 = 1 then T k else 0) (c := 9999) (fun k hk => by have := hT k hk; split <;> omega)
  omega
theorem thCost_b {K : Rw} (hK : KB K) (st : Nat) : 0 ≤ thCost K st ∧ thCost K st ≤ 160000 := by
  have h71 := hK.2.2.2.2.1
  have := thSum_b (T := fun k => soldS K k) (n := (K 71).toNat) (st := st) (fun k hk => sold_b (by have := (hK.2.2.2.2.2.2.2 k (by omega) (by omega)).2.2.2.1; omega))
  unfold thCost
  omega
theorem thMore_b {K : Rw} (hK : KB K) (st : Nat) : 0 ≤ thMore K st ∧ thMore K st ≤ 160000 := by
  have h71 := hK.2.2.2.2.1
  have := thSum_b (T := fun k => K (7 + 4 * (k : Int) + 2)) (n := (K 71).toNat) (st := st) (fun k hk => by have := (hK.2.2.2.2.2.2.2 k (by omega) (by omega)).2.2.2.1; omega)
  unfold thMore
  omega
theorem thSum_s (T : Nat → Int) (n st : Nat) : thSum T (n + 1) st = thSum T n st + (if st >>> n % 2 = 1 then T n else 0) := rfl
def thR (o : Option (Int × Nat)) (a b : Int) : Prop := match o with
  | none => b = -1
  | some (c, st) => a = c ∧ b = st ∧ st < 65536 ∧ 0 ≤ c ∧ c ≤ 160000
section
variable {E : ax_E} {m : Nat} {s : Sg} {h : ax_H}
/-- the model while it looks for a thief's best way -/
def ThI (m : Nat) (s : Sg) (h : ax_H) (n : Nat) (o : Option (Int × Nat)) (g : ax_H) : Prop := ∃ s', g = mdl m s' h ∧ Ew s s' ∧ (∀ j : Nat, j < n → s' 23 j = soldS (s 2) j) ∧ thR o (s' 0 38) (s' 0 39)
theorem m_thIn {th ho room may : Int} {st : Nat} {o : Option (Int × Nat)} {g : ax_H} (hG : G32 s) (hK : KB (s 2)) (hL : LsV (s 2)) (h1 : 0 ≤ ho ∧ ho < s 2 152) (h2 : 0 ≤ th ∧ th < s 2 152) (hr : i2 room = room) (hst : st < 65536) (hI : ThI m s h (s 2 71).toNat o g) : ∃ g', f_X5_findsThief_138 E (some m) th ho room may (owed (s 2) ho th) (owed (s 2) th ho) st 0 0 0 g = some (.inl ((st : Int) + 1, g')) ∧ ThI m s h (s 2 71).toNat (thG (s 2) th ho room o st) g' := by
  obtain ⟨s1, rfl, e1, p1, r1⟩ := hI
  have hk2 := e1.k
  have hG1 := e1.2.2 hG
  have h71 := hK.2.2.2.2.1
  have cb := thCost_b hK st
  have mb := thMore_b hK st
  have o1 := owed_b hK.2.2.2.2 ho th
  have o2 := owed_b hK.2.2.2.2 th ho
  unfold f_X5_findsThief_138
  have no : ∀ g : ax_H, f_X5_findsThief_288 E (some m) th ho room may (owed (s 2) ho th) (owed (s 2) th ho) st g = some (.inl ((st : Int) + 1, g)) := fun g => rfl
  have yes : thB o (thCost (s 2) st) st = true → ∃ g', f_X5_findsThief_256 E (some m) th ho room may (owed (s 2) ho th) (owed (s 2) th ho) st (thMore (s 2) st) (thCost (s 2) st) (mdl m s1 h) = some (.inl ((st : Int) + 1, g')) ∧ ThI m s h (s 2 71).toNat (thG (s 2) th ho room o st) g' := by
    intro hb
    obtain ⟨s2, e2, q2⟩ := m_deepBy (E := E) (m := m) (h := h) (ow := ho) (vi := th) (oe := owed (s 2) ho th + thMore (s 2) st) (ba := owed (s 2) th ho) hG1 (by rw [hk2]; exact hK) (by rw [hk2]; exact hL) (by rw [hk2]; exact h1) (by rw [hk2]; exact h2) (by omega) (by omega)
    rw [hk2] at e2
    have db := deep_b hK (ow := ho) (vi := th) (oe := owed (s 2) ho th + thMore (s 2) st) (ba := owed (s 2) th ho) h1 (by omega)
    unfold f_X5_findsThief_256 thG
    rw [md_ce, Option.bind_some, e2, Option.bind_some]
    dsimp only
    rw [i2_of (a := deepByS _ _ _ _ _) (by omega) (by omega), hr]
    by_cases c : deepByS (s 2) ho th (owed (s 2) ho th + thMore (s 2) st) (owed (s 2) th ho) < room
    · rw [if_pos c, if_neg (fun z => by omega), no]
      refine ⟨_, rfl, s2, rfl, e1.trans q2.ew, fun j hj => ?_, ?_⟩
      · rw [q2.1 23 (by decide) (by decide)]; exact p1 j hj
      · rw [q2.2.1 38 (by decide) (by decide) (by decide) (by decide), q2.2.1 39 (by decide) (by decide) (by decide) (by decide)]; exact r1
    · have p39 : ax_pI (mdl m s2 h) (some m) 5 39 (st : Int) = some (mdl m (sw s2 0 (u1 (s2 0) 39 st)) h) := md_pI39
      have p38 : ax_pI (mdl m (sw s2 0 (u1 (s2 0) 39 st)) h) (some m) 5 38 (thCost (s 2) st) = some (mdl m (sw (sw s2 0 (u1 (s2 0) 39 st)) 0 (u1 ((sw s2 0 (u1 (s2 0) 39 st)) 0) 38 (thCost (s 2) st))) h) := md_pI38
      rw [if_neg c, if_pos ⟨hb, by omega⟩, p39, Option.bind_some, p38, Option.bind_some, no]
      refine ⟨_, rfl, _, rfl, (e1.trans q2.ew).trans ((Ew_0 (k := 39) (v := st) (by unfold RpK; omega) (i2_of (by omega) (by omega))).trans (Ew_0 (k := 38) (v := thCost (s 2) st) (by unfold RpK; omega) (i2_of (by omega) (by omega)))), fun j hj => ?_, ?_⟩
      · rw [sw_ne _ (by decide), sw_ne _ (by decide), q2.1 23 (by decide) (by decide)]; exact p1 j hj
      · refine ⟨?_, ?_, hst, cb⟩
        · rw [sw_eq, u1_eq]
        · rw [sw_eq, u1_ne _ (by decide), sw_eq, u1_eq]
  have key : ∃ g', lb_X5_findsThief_138 E (some m) th ho room may (owed (s 2) ho th) (owed (s 2) th ho) st (thMore (s 2) st) (thCost (s 2) st) (s 2 71).toNat (mdl m s1 h) = some (.inr (.inl ((st : Int) + 1, g'))) ∧ ThI m s h (s 2 71).toNat (thG (s 2) th ho room o st) g' := by
    unfold lb_X5_findsThief_138
    rw [md_ce, Option.bind_some, m_debts, Option.bind_some, hk2]
    dsimp only
    rw [i2_of (a := (((s 2 71).toNat : Nat) : Int)) (by omega) (by omega), i2_of (a := s 2 71) (by omega) (by omega), if_neg (by omega), md_gI39, Option.bind_some, show i2 (-1) = -1 by decide, i2_of (a := thCost (s 2) st) (by omega) (by omega)]
    cases o with
    | none =>
      have r1' : s1 0 39 = -1 := r1
      obtain ⟨g', w1, w2⟩ := yes rfl
      rw [r1', show i2 (-1) = -1 by decide, if_pos rfl, w1]
      exact ⟨g', rfl, w2⟩
    | some cs =>
      obtain ⟨c0, s0⟩ := cs
      have rr : s1 0 38 = c0 ∧ s1 0 39 = s0 ∧ s0 < 65536 ∧ 0 ≤ c0 ∧ c0 ≤ 160000 := r1
      obtain ⟨r38, r39, r65, r0, r16⟩ := rr
      have sk : ThI m s h (s 2 71).toNat (some (c0, s0)) (mdl m s1 h) := ⟨s1, rfl, e1, p1, r1⟩
      rw [r39, i2_of (a := (s0 : Int)) (by omega) (by omega), if_neg (by omega), md_gI38, Option.bind_some, r38, i2_of (a := c0) (by omega) (by omega)]
      by_cases c1 : c0 < thCost (s 2) st
      · rw [if_pos c1, no]
        have hn : ¬ thB (some (c0, s0)) (thCost (s 2) st) st = true := by
          show ¬ decide (_ ∨ _) = true
          rw [decide_eq_true_eq]
          omega
        refine ⟨_, rfl, ?_⟩
        unfold thG
        rw [if_neg (fun z => hn z.1)]
        exact sk
      · rw [if_neg c1, Option.bind_some, i2_of (a := c0) (by omega) (by omega)]
        by_cases c2 : thCost (s 2) st = c0
        · rw [if_pos c2, m_ones (by omega), Option.bind_some]
          dsimp only
          rw [md_gI39, Option.bind_some, r39, m_ones (by omega), Option.bind_some]
          dsimp only
          have q1 := ones_le st
          have q2 := ones_le s0
          rw [i2_of (a := ((ones16 st : Nat) : Int)) (by omega) (by omega), i2_of (a := ((ones16 s0 : Nat) : Int)) (by omega) (by omega)]
          by_cases c3 : ones16 st < ones16 s0
          · obtain ⟨g', w1, w2⟩ := yes (by show decide (_ ∨ _) = true; rw [decide_eq_true_eq]; omega)
            rw [if_pos (by omega), w1]
            exact ⟨g', rfl, w2⟩
          · rw [if_neg (by omega), no]
            have hn : ¬ thB (some (c0, s0)) (thCost (s 2) st) st = true := by
              show ¬ decide (_ ∨ _) = true
              rw [decide_eq_true_eq]
              omega
            refine ⟨_, rfl, ?_⟩
            unfold thG
            rw [if_neg (fun z => hn z.1)]
            exact sk
        · rw [if_neg c2]
          obtain ⟨g', w1, w2⟩ := yes (by show decide (_ ∨ _) = true; rw [decide_eq_true_eq]; omega)
          rw [w1]
          exact ⟨g', rfl, w2⟩
  obtain ⟨g', w1, w2⟩ := key
  refine ⟨g', ?_, w2⟩
  have e := it_traj (body := fun x : Int × Int × Int × ax_H => lb_X5_findsThief_138 E (some m) th ho room may (owed (s 2) ho th) (owed (s 2) th ho) st x.1 x.2.1 x.2.2.1 x.2.2.2) (fun k => (thSum (fun k => s 2 (7 + 4 * (k : Int) + 2)) k st, thSum (fun k => soldS (s 2) k) k st, (k : Int), mdl m s1 h)) (s 2 71).toNat (r := .inl ((st : Int) + 1, g')) ?_ w1
  · exact e
  · intro k hk
    have f1 : ∀ g : ax_H, f_X5_isIn E (st : Int) (k : Int) g = some (b01 (st >>> k % 2 = 1), g) := fun g => m_isIn (by omega) (by omega)
    simp only [lb_X5_findsThief_138, f_X5_findsThief_177, f_X5_findsThief_203]
    rw [md_ce, Option.bind_some, m_debts, Option.bind_some, hk2]
    dsimp only
    rw [i2_of (a := (k : Int)) (by omega) (by omega), i2_of (a := s 2 71) (by omega) (by omega), if_pos (by omega), f1, Option.bind_some]
    dsimp only
    rw [thSum_s, thSum_s]
    by_cases c : st >>> k % 2 = 1
    · rw [if_neg (by rw [b01_z]; exact fun z => z c), md_gR2, Option.bind_some, md_ld2 (by omega) (by omega), Option.bind_some, f1, Option.bind_some]
      dsimp only
      rw [if_neg (by rw [b01_z]; exact fun z => z c), md_gR40, Option.bind_some, md_ld23 (by omega) (by omega), Option.bind_some, p1 k hk, if_pos c, if_pos c, hk2]
      simp
    · rw [if_pos (by rw [b01_z]; exact c), f1, Option.bind_some]
      dsimp only
      rw [if_pos (by rw [b01_z]; exact c), if_neg c, if_neg c]
      simp
end
