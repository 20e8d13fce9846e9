/-! searches and sums, on both sides; THE MODEL: needs, doors, a day -/
set_option maxRecDepth 100000
def findF (p : Int → Bool) : Nat → Int → Int
  | 0, _ => -1
  | n + 1, x => if p x then x else findF p n (x + 1)
theorem it_find {S : Type} {body : Int × S → Option ((Int × S) ⊕ (Int × S))} {Q : S → Prop} {p : Int → Bool} : ∀ (n : Nat) (x : Int) (g : S), Q g → (∀ k g, x ≤ k → k < x + n → Q g → ∃ g', Q g' ∧ body (k, g) = some (if p k then .inr (k, g') else .inl (k + 1, g'))) → (∀ g, Q g → body (x + n, g) = some (.inr (-1, g))) → ∃ g', ax_iter body (x, g) = some (findF p n x, g') ∧ Q g' := by
  intro n
  induction n with
  | zero =>
    intro x g hq _ he
    refine ⟨g, it_done ?_, hq⟩
    have := he g hq
    rwa [show x + ((0 : Nat) : Int) = x by omega] at this
  | succ n ih =>
    intro x g hq hs he
    obtain ⟨g1, q1, e1⟩ := hs x g (by omega) (by omega) hq
    unfold findF
    cases hp : p x with
    | true =>
      rw [hp] at e1
      exact ⟨g1, it_done e1, q1⟩
    | false =>
      rw [hp] at e1
      obtain ⟨g', e2, q2⟩ := ih (x + 1) g1 q1 (fun k g h1 h2 h3 => hs k g (by omega) (by omega) h3) (fun g h => by
        have := he g h
        rwa [show x + ((n + 1 : Nat) : Int) = x + 1 + (n : Int) by omega] at this)
      exact ⟨g', (it_step e1).trans e2, q2⟩
def foldN {A : Type} (f : A → Nat → A) : Nat → A → A
  | 0, a => a
  | n + 1, a => f (foldN f n a) n
theorem it_fold {A S : Type} {body : A × Int × S → Option ((A × Int × S) ⊕ (A × S))} {Q : S → Prop} {f : A → Nat → A} (n : Nat) (a : A) (g : S) (hq : Q g) (hs : ∀ (k : Nat) g, k < n → Q g → ∃ g', Q g' ∧ body (foldN f k a, (k : Int), g) = some (.inl (f (foldN f k a) k, (k : Int) + 1, g'))) (he : ∀ b g, Q g → body (b, (n : Int), g) = some (.inr (b, g))) : ∃ g', ax_iter body (a, 0, g) = some (foldN f n a, g') ∧ Q g' := by
  have main := it_up (body := body) n (fun k st => st.1 = foldN f k a ∧ st.2.1 = (k : Int) ∧ Q st.2.2) (fun r => r.1 = foldN f n a ∧ Q r.2) ?_ ?_ (s := (a, 0, g)) ⟨rfl, rfl, hq⟩
  · obtain ⟨⟨v, g'⟩, e1, e2, e3⟩ := main
    simp only at e2 e3
    exact ⟨g', by rw [e1, e2], e3⟩
  · rintro k ⟨b, i, g⟩ hk ⟨rfl, rfl, hq⟩
    obtain ⟨g', q', e⟩ := hs k g hk hq
    exact ⟨_, e, rfl, by simp, q'⟩
  · rintro ⟨b, i, g⟩ ⟨rfl, rfl, hq⟩
    exact ⟨_, he _ g hq, rfl, hq⟩
def needS (K : Rw) (vi ho room : Int) : Int := findF (fun x => decide (room ≤ deepByS K ho vi (owed K ho vi + x) (owed K vi ho))) 1000 0
def shutS (K : Rw) (ow vi room : Int) : Int := findF (fun x => decide (deepByS K ow vi (owed K ow vi - x) (owed K vi ow) < room)) (owed K ow vi + 1).toNat 0
def doorsB (K : Rw) (v : Int) : Int := foldN (fun a (o : Nat) => ax_or a (if (o : Int) = v then 0 else if 0 < deepS K o v then ax_shl 1 o else 0)) (K 152).toNat 0
theorem deep_b {K : Rw} (hK : KB K) {ow vi oe ba : Int} (h1 : 0 ≤ ow ∧ ow < K 152) (h : 0 ≤ oe) : 0 ≤ deepByS K ow vi oe ba ∧ deepByS K ow vi oe ba ≤ 3 := by
  obtain ⟨r1, r2⟩ := hK.2.2.2.1 ow h1.1 h1.2
  unfold deepByS
  split
  · omega
  · have hdv : 0 ≤ oe.tdiv 100 := by
      rw [Int.tdiv_eq_ediv_of_nonneg h]
      omega
    have := fold_range (e := envL K ow vi oe ba (-1) (-1)) (hd := 1) (hi := K (73 + 2 * ow)) (by omega) (lawNow K) (if oe = 0 then 0 else min (K (73 + 2 * ow)) (1 + oe.tdiv 100)) (by split <;> omega)
    omega
section
variable {E : ax_E} {m : Nat} {s : Sg} {h : ax_H}
/-- the model, but for where it goes -/
def MdE (m : Nat) (s : Sg) (h g : ax_H) : Prop := ∃ s', g = mdl m s' h ∧ Es s s'
theorem m_needOf {vi ho room : Int} (hG : G32 s) (hK : KB (s 2)) (hL : LsV (s 2)) (h1 : 0 ≤ ho ∧ ho < s 2 152) (h2 : 0 ≤ vi ∧ vi < s 2 152) (h3 : 0 ≤ room ∧ room ≤ 100) : ∃ s', f_X5_needOf E (some m) vi ho room (mdl m s h) = some (needS (s 2) vi ho room, mdl m s' h) ∧ Es s s' := by
  have hn := hK.1
  have d1 := hK.2.2.2.2.1
  have b1 := owed_b hK.2.2.2.2 ho vi
  have b2 := owed_b hK.2.2.2.2 vi ho
  have n999 : i2 999 = 999 := by decide
  obtain ⟨g', e1, s', rfl, q⟩ := it_find (body := fun x : Int × ax_H => lb_X5_needOf_19 E (some m) vi ho room (owed (s 2) ho vi) (owed (s 2) vi ho) x.1 x.2) (Q := MdE m s h) (p := fun x => decide (room ≤ deepByS (s 2) ho vi (owed (s 2) ho vi + x) (owed (s 2) vi ho))) 1000 0 (mdl m s h) ⟨s, rfl, Es.refl s⟩ (by
      rintro k _ k0 k1 ⟨s1, rfl, q1⟩
      have hk2 := q1.k
      obtain ⟨s2, e2, q2⟩ := m_deepBy (E := E) (m := m) (h := h) (ow := ho) (vi := vi) (oe := owed (s 2) ho vi + k) (ba := owed (s 2) vi ho) (q1.2.2 hG) (by rw [hk2]; exact hK) (by rw [hk2]; exact hL) (by rw [hk2]; exact h1) (by rw [hk2]; exact h2) (by omega) (by omega)
      have hdb := deep_b hK (vi := vi) (oe := owed (s 2) ho vi + k) (ba := owed (s 2) vi ho) h1 (by omega)
      refine ⟨_, ⟨s2, rfl, q1.trans q2⟩, ?_⟩
      simp only [lb_X5_needOf_19]
      rw [n999, i2_of (by omega) (by omega), if_neg (by omega), md_ce, Option.bind_some, e2, Option.bind_some, hk2, i2_of (by omega) (by omega), i2_of (by omega) (by omega)]
      by_cases hd : room ≤ deepByS (s 2) ho vi (owed (s 2) ho vi + k) (owed (s 2) vi ho)
      · rw [if_neg (by omega)]
        simp [hd]
      · rw [if_pos (by omega)]
        simp [hd]) (by
      rintro _ ⟨s1, rfl, q1⟩
      simp only [lb_X5_needOf_19]
      rw [n999, i2_of (by omega) (by omega), if_pos (by omega)]
      rfl)
  refine ⟨s', ?_, q⟩
  unfold f_X5_needOf f_X5_needOf_19
  simp only [md_ce, Option.bind_some, m_owed hG d1.1 d1.2 (i2_of (show -2147483648 ≤ ho by omega) (by omega)) (i2_of (show -2147483648 ≤ vi by omega) (by omega)), m_owed hG d1.1 d1.2 (i2_of (show -2147483648 ≤ vi by omega) (by omega)) (i2_of (show -2147483648 ≤ ho by omega) (by omega))]
  exact e1
theorem m_shutBy {ow vi room : Int} (hG : G32 s) (hK : KB (s 2)) (hL : LsV (s 2)) (h1 : 0 ≤ ow ∧ ow < s 2 152) (h2 : 0 ≤ vi ∧ vi < s 2 152) (h3 : 0 ≤ room ∧ room ≤ 100) : ∃ s', f_X5_shutBy E (some m) ow vi room (mdl m s h) = some (shutS (s 2) ow vi room, mdl m s' h) ∧ Es s s' := by
  have hn := hK.1
  have d1 := hK.2.2.2.2.1
  have b1 := owed_b hK.2.2.2.2 ow vi
  have b2 := owed_b hK.2.2.2.2 vi ow
  obtain ⟨g', e1, s', rfl, q⟩ := it_find (body := fun x : Int × ax_H => lb_X5_shutBy_19 E (some m) ow vi room (owed (s 2) ow vi) (owed (s 2) vi ow) x.1 x.2) (Q := MdE m s h) (p := fun x => decide (deepByS (s 2) ow vi (owed (s 2) ow vi - x) (owed (s 2) vi ow) < room)) (owed (s 2) ow vi + 1).toNat 0 (mdl m s h) ⟨s, rfl, Es.refl s⟩ (by
      rintro k _ k0 k1 ⟨s1, rfl, q1⟩
      have hk2 := q1.k
      obtain ⟨s2, e2, q2⟩ := m_deepBy (E := E) (m := m) (h := h) (ow := ow) (vi := vi) (oe := owed (s 2) ow vi - k) (ba := owed (s 2) vi ow) (q1.2.2 hG) (by rw [hk2]; exact hK) (by rw [hk2]; exact hL) (by rw [hk2]; exact h1) (by rw [hk2]; exact h2) (by omega) (by omega)
      have hdb := deep_b hK (vi := vi) (oe := owed (s 2) ow vi - k) (ba := owed (s 2) vi ow) h1 (by omega)
      refine ⟨_, ⟨s2, rfl, q1.trans q2⟩, ?_⟩
      simp only [lb_X5_shutBy_19]
      rw [i2_of (by omega) (by omega), i2_of (by omega) (by omega), if_neg (by omega), md_ce, Option.bind_some, e2, Option.bind_some, hk2, i2_of (by omega) (by omega), i2_of (by omega) (by omega)]
      by_cases hd : deepByS (s 2) ow vi (owed (s 2) ow vi - k) (owed (s 2) vi ow) < room
      · rw [if_pos hd]
        simp [hd]
      · rw [if_neg hd]
        simp [hd]) (by
      rintro _ ⟨s1, rfl, q1⟩
      simp only [lb_X5_shutBy_19]
      rw [i2_of (by omega) (by omega), i2_of (by omega) (by omega), if_pos (by omega)]
      rfl)
  refine ⟨s', ?_, q⟩
  unfold f_X5_shutBy f_X5_shutBy_19
  simp only [md_ce, Option.bind_some, m_owed hG d1.1 d1.2 (i2_of (show -2147483648 ≤ ow by omega) (by omega)) (i2_of (show -2147483648 ≤ vi by omega) (by omega)), m_owed hG d1.1 d1.2 (i2_of (show -2147483648 ≤ vi by omega) (by omega)) (i2_of (show -2147483648 ≤ ow by omega) (by omega))]
  exact e1
theorem m_doorsOf {v : Int} (hG : G32 s) (hK : KB (s 2)) (hL : LsV (s 2)) (h2 : 0 ≤ v ∧ v < s 2 152) : ∃ s', f_X5_doorsOf E (some m) v (mdl m s h) = some (doorsB (s 2) v, mdl m s' h) ∧ Es s s' := by
  have hn := hK.1
  have hR := hK.2.2.2.2
  obtain ⟨g', e1, s', rfl, q⟩ := it_fold (body := fun x : Int × Int × ax_H => lb_X5_doorsOf_4 E (some m) v x.1 x.2.1 x.2.2) (Q := MdE m s h) (f := fun a (o : Nat) => ax_or a (if (o : Int) = v then 0 else if 0 < deepS (s 2) o v then ax_shl 1 o else 0)) (s 2 152).toNat 0 (mdl m s h) ⟨s, rfl, Es.refl s⟩ (by
      rintro k _ k1 ⟨s1, rfl, q1⟩
      have hk2 := q1.k
      have w1 := owed_b hR k v
      have w2 := owed_b hR v k
      have hdb := deep_b hK (ow := k) (vi := v) (oe := owed (s 2) k v) (ba := owed (s 2) v k) (by omega) (by omega)
      simp only [lb_X5_doorsOf_4]
      rw [md_ce, Option.bind_some, m_people, Option.bind_some, hk2, i2_of (by omega) (by omega), i2_of (by omega) (by omega), if_pos (by omega), i2_of (by omega) (by omega)]
      unfold f_X5_doorsOf_33 f_X5_doorsOf_34
      by_cases hkv : (k : Int) = v
      · refine ⟨_, ⟨s1, rfl, q1⟩, ?_⟩
        rw [if_pos hkv, if_pos hkv]
      · obtain ⟨s2, e2, q2⟩ := m_deepNow (E := E) (m := m) (h := h) (ow := k) (vi := v) (q1.2.2 hG) (by rw [hk2]; exact hK) (by rw [hk2]; exact hL) (by rw [hk2]; omega) (by rw [hk2]; exact h2)
        refine ⟨_, ⟨s2, rfl, q1.trans q2⟩, ?_⟩
        rw [if_neg hkv, if_neg hkv, md_ce, Option.bind_some, e2, Option.bind_some, hk2]
        rw [i2_of (by unfold deepS; omega) (by unfold deepS; omega)]
        split <;> rfl) (by
      rintro b _ ⟨s1, rfl, q1⟩
      simp only [lb_X5_doorsOf_4]
      rw [md_ce, Option.bind_some, m_people, Option.bind_some, q1.k, i2_of (by omega) (by omega), i2_of (by omega) (by omega), if_neg (by omega)]
      rfl)
  refine ⟨s', ?_, q⟩
  exact e1
end
