/-! Whether all scuffs are so: both sides -/
set_option maxRecDepth 100000
/-- what one owes in books as they lie in the heap -/
def hOw (h : ax_H) (b : Nat) (p q : Int) : Int := sm (hI h b 5).toNat (fun k => if hI h (b + 2) k = p ∧ hI h (b + 3) k = q then hI h (b + 4) k else 0)
/-- books of which it is known what one owes, and the day -/
def PpW (h : ax_H) (b : Nat) (da : Int) (W : Int → Int → Int) : Prop := BS h b ∧ hI h b 6 = da ∧ (0 ≤ hI h b 5 ∧ hI h b 5 ≤ 17) ∧ (∀ k : Nat, (k : Int) < hI h b 5 → i2 (hI h (b + 2) k) = hI h (b + 2) k ∧ i2 (hI h (b + 3) k) = hI h (b + 3) k) ∧ ∀ p q, hOw h b p q = W p q
def soF (K : Rw) (W : Int → Int → Int) (k : Nat) : Bool := decide (K (119 + 4 * (k : Int) + 2) ≤ deepByS K (K (119 + 4 * (k : Int) + 1)) (K (119 + 4 * (k : Int))) (W (K (119 + 4 * (k : Int) + 1)) (K (119 + 4 * (k : Int)))) (W (K (119 + 4 * (k : Int))) (K (119 + 4 * (k : Int) + 1))) ↔ K (119 + 4 * (k : Int) + 3) = 1)
def soS (K : Rw) (W : Int → Int → Int) : Int := runF (fun (_ : Unit) k => if soF K W k = true then (.inl () : Unit ⊕ Int) else .inr 0) (fun _ => 1) (K 154).toNat 0 ()
def moreW (K : Rw) (d c v : Int) (p q : Int) : Int := owed K p q + (if d = p ∧ c = q then v else 0)
theorem soS_01 (K : Rw) (W : Int → Int → Int) : soS K W = 0 ∨ soS K W = 1 := by
  have : ∀ (j k : Nat), runF (fun (_ : Unit) k => if soF K W k = true then (.inl () : Unit ⊕ Int) else .inr 0) (fun _ => 1) j k () = 0 ∨ runF (fun (_ : Unit) k => if soF K W k = true then (.inl () : Unit ⊕ Int) else .inr 0) (fun _ => 1) j k () = 1 := by
    intro j
    induction j with
    | zero => intro k; exact Or.inr rfl
    | succ j ih =>
      intro k
      by_cases c : soF K W k = true
      · rw [runF_l (a' := ()) (by rw [if_pos c])]
        exact ih (k + 1)
      · rw [runF_r (r := 0) (by rw [if_neg c])]
        exact Or.inl rfl
  exact this _ _
section
variable {E : ax_E} {m : Nat} {s : Sg} {h : ax_H}
theorem m_areSo {d c v : Int} (hG : G32 s) (hK : KB (s 2)) (hL : LsV (s 2)) (hF : FoV (s 2) 119 154 1) (hd : i2 d = d) (hc : i2 c = c) (hv : -10000 ≤ v ∧ v ≤ 10000) (hW : ∀ p q, 0 ≤ moreW (s 2) d c v p q) : ∃ s', f_X5_areSo E (some m) d c v (mdl m s h) = some (soS (s 2) (moreW (s 2) d c v), mdl m s' h) ∧ Es s s' := by
  have hn := hK.1
  have h71 := hK.2.2.2.2.1
  obtain ⟨f8, fo⟩ := hF
  unfold f_X5_areSo f_X5_areSo_3
  obtain ⟨g', ⟨s', rfl, q⟩, e1⟩ := it_run (body := fun st : Int × ax_H => lb_X5_areSo_3 E (some m) d c v st.1 st.2) (fun (_ : Unit) (k : Nat) g => ((k : Int), g)) (fun (r : Int) g => (r, g)) (Q := MdE m s h) (V := fun _ _ => True) (f := fun (_ : Unit) k => if soF (s 2) (moreW (s 2) d c v) k = true then (.inl () : Unit ⊕ Int) else .inr 0) (fin := fun _ => 1) (s 2 154).toNat (by
      rintro k _ _ hk - ⟨s1, rfl, q1⟩
      have hk2 := q1.k
      have hG1 := q1.2.2 hG
      obtain ⟨b1, b2, b3, b4, b5⟩ := fo k (by omega) (by omega)
      obtain ⟨vi, hvi⟩ : ∃ vi, vi = s 2 (119 + 4 * (k : Int)) := ⟨_, rfl⟩
      obtain ⟨ho, hho⟩ : ∃ ho, ho = s 2 (119 + 4 * (k : Int) + 1) := ⟨_, rfl⟩
      have w1 := hW ho vi
      have w2 := hW vi ho
      have o1 := owed_b hK.2.2.2.2 ho vi
      have o2 := owed_b hK.2.2.2.2 vi ho
      have ow1 : ∀ p q : Int, i2 p = p → i2 q = q → f_X5_owed E (some m) p q (mdl m s1 h) = some (owed (s 2) p q, mdl m s1 h) := fun p q hp hq => by
        have := m_owed (E := E) (m := m) (h := h) (p := p) (q := q) hG1 (by rw [hk2]; exact h71.1) (by rw [hk2]; exact h71.2) hp hq
        rw [hk2] at this
        exact this
      have wb : ∀ p q, moreW (s 2) d c v p q ≤ 200000 := by
        intro p q
        have := owed_b hK.2.2.2.2 p q
        unfold moreW
        split <;> omega
      have x1 := wb ho vi
      have x2 := wb vi ho
      obtain ⟨s2, e2, q2⟩ := m_deepBy (E := E) (m := m) (h := h) (ow := ho) (vi := vi) (oe := moreW (s 2) d c v ho vi) (ba := moreW (s 2) d c v vi ho) hG1 (by rw [hk2]; exact hK) (by rw [hk2]; exact hL) (by rw [hk2]; omega) (by rw [hk2]; omega) (by omega) (by omega)
      rw [hk2] at e2
      have db := deep_b hK (ow := ho) (vi := vi) (oe := moreW (s 2) d c v ho vi) (ba := moreW (s 2) d c v vi ho) (by omega) (by omega)
      have hk3 : s2 2 = s 2 := q2.k.trans hk2
      have ivi : i2 vi = vi := i2_of (by omega) (by omega)
      have iho : i2 ho = ho := i2_of (by omega) (by omega)
      have i0 : i2 0 = 0 := by decide
      have i1 : i2 1 = 1 := by decide
      have so : soF (s 2) (moreW (s 2) d c v) k = decide (s 2 (119 + 4 * (k : Int) + 2) ≤ deepByS (s 2) ho vi (moreW (s 2) d c v ho vi) (moreW (s 2) d c v vi ho) ↔ s 2 (119 + 4 * (k : Int) + 3) = 1) := by rw [hvi, hho]; rfl
      have f159 : ∀ a b : Int, (a = 0 ∨ a = 1) → (b = 0 ∨ b = 1) → ∀ g : ax_H, f_X5_areSo_159 E (some m) d c v k a b g = if a = b then some (.inl ((k : Int) + 1, g)) else some (.inr (0, g)) := by
        intro a b ha hb g
        unfold f_X5_areSo_159
        rw [i2_of (a := a) (by omega) (by omega), i2_of (a := b) (by omega) (by omega)]
        rfl
      have f136 : ∀ a : Int, (a = 0 ∨ a = 1) → f_X5_areSo_136 E (some m) d c v k a (mdl m s2 h) = if (a = 1 ↔ s 2 (119 + 4 * (k : Int) + 3) = 1) then some (.inl ((k : Int) + 1, mdl m s2 h)) else some (.inr (0, mdl m s2 h)) := by
        intro a ha
        unfold f_X5_areSo_136
        rw [md_gR2, Option.bind_some, md_ld2 (by omega) (by omega), Option.bind_some, hk3, i2_of (a := s 2 (119 + 4 * (k : Int) + 3)) (by omega) (by omega), i1]
        by_cases cc : s 2 (119 + 4 * (k : Int) + 3) = 1
        · rw [if_pos cc, f159 a 1 ha (Or.inr rfl)]
          by_cases ca : a = 1
          · rw [if_pos ca, if_pos (iff_of_true ca cc)]
          · rw [if_neg ca, if_neg (fun z => ca (z.mpr cc))]
        · rw [if_neg cc, f159 a 0 ha (Or.inl rfl)]
          by_cases ca : a = 1
          · rw [if_neg (by omega), if_neg (fun z => cc (z.mp ca))]
          · rw [if_pos (by omega), if_pos (iff_of_false ca cc)]
      have f99 : ∀ a b x7 : Int, x7 = moreW (s 2) d c v ho vi → a + b = moreW (s 2) d c v vi ho → f_X5_areSo_99 E (some m) d c v k vi ho x7 a b (mdl m s1 h) = if soF (s 2) (moreW (s 2) d c v) k = true then some (.inl ((k : Int) + 1, mdl m s2 h)) else some (.inr (0, mdl m s2 h)) := by
        intro a b x7 e7 eab
        unfold f_X5_areSo_99
        rw [e7, eab, md_ce, Option.bind_some, e2, Option.bind_some]
        dsimp only
        rw [md_gR2, Option.bind_some, md_ld2 (by omega) (by omega), Option.bind_some, hk3, i2_of (a := deepByS _ _ _ _ _) (by omega) (by omega), i2_of (a := s 2 (119 + 4 * (k : Int) + 2)) (by omega) (by omega), so]
        by_cases cc : deepByS (s 2) ho vi (moreW (s 2) d c v ho vi) (moreW (s 2) d c v vi ho) < s 2 (119 + 4 * (k : Int) + 2)
        · rw [if_pos cc, f136 0 (Or.inl rfl)]
          by_cases c3 : s 2 (119 + 4 * (k : Int) + 3) = 1
          · rw [if_neg (fun z => absurd (z.mpr c3) (by decide)), if_neg (by rw [decide_eq_true_eq]; intro z; have := z.mpr c3; omega)]
          · rw [if_pos (iff_of_false (by decide) c3), if_pos (by rw [decide_eq_true_eq]; exact iff_of_false (by omega) c3)]
        · rw [if_neg cc, f136 1 (Or.inr rfl)]
          by_cases c3 : s 2 (119 + 4 * (k : Int) + 3) = 1
          · rw [if_pos (iff_of_true rfl c3), if_pos (by rw [decide_eq_true_eq]; exact iff_of_true (by omega) c3)]
          · rw [if_neg (fun z => c3 (z.mp rfl)), if_neg (by rw [decide_eq_true_eq]; intro z; exact c3 (z.mp (by omega)))]
      have f71 : ∀ a b : Int, a + b = moreW (s 2) d c v ho vi → f_X5_areSo_71 E (some m) d c v k vi ho a b (mdl m s1 h) = if soF (s 2) (moreW (s 2) d c v) k = true then some (.inl ((k : Int) + 1, mdl m s2 h)) else some (.inr (0, mdl m s2 h)) := by
        intro a b eab
        unfold f_X5_areSo_71 f_X5_areSo_98
        rw [md_ce, Option.bind_some, ow1 vi ho ivi iho, Option.bind_some, hd, hc, ivi, iho]
        by_cases c1 : d = vi
        · rw [if_pos c1]
          by_cases c2 : c = ho
          · rw [if_pos c2]
            exact f99 _ _ _ eab (by unfold moreW; rw [if_pos ⟨c1, c2⟩])
          · rw [if_neg c2]
            exact f99 _ _ _ eab (by unfold moreW; rw [if_neg (fun z => c2 z.2)])
        · rw [if_neg c1]
          exact f99 _ _ _ eab (by unfold moreW; rw [if_neg (fun z => c1 z.1)])
      have main : lb_X5_areSo_3 E (some m) d c v k (mdl m s1 h) = if soF (s 2) (moreW (s 2) d c v) k = true then some (.inl ((k : Int) + 1, mdl m s2 h)) else some (.inr (0, mdl m s2 h)) := by
        unfold lb_X5_areSo_3 f_X5_areSo_70
        rw [md_gR2, Option.bind_some, md_ld2 (by decide) (by decide), Option.bind_some, hk2, i2_of (a := (k : Int)) (by omega) (by omega), i2_of (a := s 2 154) (by omega) (by omega), if_pos (by omega), Option.bind_some, md_ld2 (by omega) (by omega), Option.bind_some, Option.bind_some, md_ld2 (by omega) (by omega), Option.bind_some, hk2, ← hvi, ← hho, md_ce, Option.bind_some, ow1 ho vi iho ivi, Option.bind_some, hd, hc, ivi, iho]
        by_cases c1 : d = ho
        · rw [if_pos c1]
          by_cases c2 : c = vi
          · rw [if_pos c2]
            exact f71 _ _ (by unfold moreW; rw [if_pos ⟨c1, c2⟩])
          · rw [if_neg c2]
            exact f71 _ _ (by unfold moreW; rw [if_neg (fun z => c2 z.2)])
        · rw [if_neg c1]
          exact f71 _ _ (by unfold moreW; rw [if_neg (fun z => c1 z.1)])
      refine ⟨_, ⟨s2, rfl, q1.trans q2⟩, ?_⟩
      by_cases cs : soF (s 2) (moreW (s 2) d c v) k = true
      · rw [if_pos cs] at main
        exact Or.inl ⟨(), by rw [if_pos cs], trivial, main⟩
      · rw [if_neg cs] at main
        exact Or.inr ⟨0, by rw [if_neg cs], main⟩) (by
      rintro _ _ - ⟨s1, rfl, q1⟩
      have hk2 := q1.k
      refine ⟨_, ⟨s1, rfl, q1⟩, ?_⟩
      simp only [lb_X5_areSo_3]
      rw [md_gR2, Option.bind_some, md_ld2 (by decide) (by decide), Option.bind_some, hk2, i2_of (by omega) (by omega), i2_of (a := s 2 154) (by omega) (by omega), if_neg (by omega)]
      rfl) (s 2 154).toNat 0 () (mdl m s h) (by omega) trivial ⟨s, rfl, Es.refl s⟩
  exact ⟨s', e1, q⟩
end
section
variable {E : ax_E} {h h' : ax_H} {x t dl dv ds du b : Nat} {s : Sg} {K : Rw} {da : Int} {W : Int → Int → Int}
theorem PpW.ev (H : PpW h b da W) (e : EvS x h h') (hb : b + 6 ≤ x + 15 ∨ x + 17 ≤ b) : PpW h' b da W := by
  obtain ⟨H1, H2, H3, H4, H5⟩ := H
  obtain ⟨t0, -, ⟨t1, t2, t3, t4, t5⟩, -⟩ := id H1
  have g : ∀ a, b ≤ a → a < b + 6 → h'.2.2 a = h.2.2 a := by
    intro a a1 a2
    refine e.2.2.2 a (by omega) (by omega) ?_
    have : a = b ∨ a = b + 1 ∨ a = b + 2 ∨ a = b + 3 ∨ a = b + 4 ∨ a = b + 5 := by omega
    rcases this with e | e | e | e | e | e <;> subst e <;> omega
  have e0 := hC_eq (g b (by omega) (by omega))
  have e2 := hC_eq (g (b + 2) (by omega) (by omega))
  have e3 := hC_eq (g (b + 3) (by omega) (by omega))
  have e4 := hC_eq (g (b + 4) (by omega) (by omega))
  refine ⟨H1.fr g, ?_⟩
  unfold hOw hI at *
  rw [e0, e2, e3, e4]
  exact ⟨H2, H3, H4, H5⟩
theorem c_owesW {p q : Int} (H : PpW h b da W) (hp : i2 p = p) (hq : i2 q = q) : f_X2_owes E (some b) p q h = some (W p q, h) := by
  obtain ⟨⟨t0, ⟨r0, r1, r2, r3, r4⟩, ⟨t1, t2, t3, t4, t5⟩, l1, l2, l3, l4, l5⟩, H2, H3, H4, H5⟩ := H
  rw [← H5]
  have e := it_traj (body := fun s : Int × Int × ax_H => lb_X2_owes_5 E (some b) p q s.1 s.2.1 s.2.2) (fun n => (sm n (fun k => if hI h (b + 2) k = p ∧ hI h (b + 3) k = q then hI h (b + 4) k else 0), (n : Int), h)) (hI h b 5).toNat (r := (hOw h b p q, h)) ?_ ?_
  · exact e
  · intro k hk
    obtain ⟨k1, k2⟩ := H4 k (by omega)
    simp only [lb_X2_owes_5, f_X2_owes_37, f_X2_is, f_X2_is_24]
    rw [f_gI t0 (by decide), Option.bind_some, i2_of (a := (k : Int)) (by omega) (by omega), i2_of (a := hI h b 5) (by omega) (by omega), if_pos (by omega), f_ce t0 (by decide), Option.bind_some, f_gR t0 (by decide), r1, Option.bind_some, f_ld t2 (by decide) (by omega) (by omega) (by omega), Option.bind_some, Int.toNat_natCast, k1, hp]
    by_cases c1 : hI h (b + 2) k = p
    · rw [if_pos c1, f_gR t0 (by decide), r2, Option.bind_some, f_ld t3 (by decide) (by omega) (by omega) (by omega), Option.bind_some, Int.toNat_natCast, k2, hq]
      by_cases c2 : hI h (b + 3) k = q
      · rw [if_pos c2, Option.bind_some, if_neg (show ¬ i2 1 = 0 by decide), f_gR t0 (by decide), r3, Option.bind_some, f_ld t4 (by decide) (by omega) (by omega) (by omega), Option.bind_some, Int.toNat_natCast]
        simp only [sm, c1, c2, and_self, if_true]
        simp
      · rw [if_neg c2, Option.bind_some, if_pos (show i2 0 = 0 by decide)]
        simp only [sm, c2, and_false, if_false]
        simp
    · rw [if_neg c1, Option.bind_some, if_pos (show i2 0 = 0 by decide)]
      simp only [sm, c1, false_and, if_false]
      simp
  · simp only [lb_X2_owes_5]
    rw [f_gI t0 (by decide), Option.bind_some, i2_of (a := (((hI h b 5).toNat : Nat) : Int)) (by omega) (by omega), i2_of (a := hI h b 5) (by omega) (by omega), if_neg (by omega)]
    rfl
theorem c_deepW {ow vi : Int} (H : REP E h x t dl dv ds du s) (hG : G32 s) (hK : KB (s 2)) (P : PpW h b (s 2 72) W) (h1 : 0 ≤ ow ∧ ow < s 2 152) (h2 : 0 ≤ vi ∧ vi < s 2 152) (w1 : 0 ≤ W ow vi ∧ W ow vi ≤ 500000) (w2 : 0 ≤ W vi ow ∧ W vi ow ≤ 500000) : ∃ h', f_X0_deepIn E (some x) (some b) ow vi 0 h = some (deepByS (s 2) ow vi (W ow vi) (W vi ow), h') ∧ EvS x h h' := by
  have hn := hK.1
  obtain ⟨h', e1, e2⟩ := c_deepBy (E := E) (K := s 2) (oe := W ow vi) (ba := W vi ow) H hG hK hK (fun _ _ => rfl) h1 h2 (by omega) (by omega)
  refine ⟨h', ?_, e2⟩
  have t0 := P.1.1
  unfold f_X0_deepIn
  rw [f_ce t0 (by decide), Option.bind_some, c_owesW P (i2_of (by omega) (by omega)) (i2_of (by omega) (by omega)), Option.bind_some]
  simp only [f_ce t0 (by decide : (2:Nat) ≠ 999), Option.bind_some]
  rw [c_owesW P (i2_of (by omega) (by omega)) (i2_of (by omega) (by omega)), Option.bind_some]
  simp only [f_gI t0 (by decide : (2:Nat) ≠ 999), P.2.1, Option.bind_some, f_ce H.2.1.1 (by decide : (0:Nat) ≠ 999), Int.add_zero, e1]
theorem c_isScuffed (H : REP E h x t dl dv ds du s) (hG : G32 s) (hK : KB (s 2)) (hF : FoV (s 2) 119 154 1) (P : PpW h b (s 2 72) W) (hb : b + 6 ≤ x + 15 ∨ x + 17 ≤ b) (hW : ∀ p q, 0 ≤ W p q ∧ W p q ≤ 500000) : ∃ h', f_X0_isScuffed E (some x) (some b) h = some (soS (s 2) W, h') ∧ EvS x h h' := by
  have hn := hK.1
  obtain ⟨f8, fo⟩ := hF
  unfold f_X0_isScuffed f_X0_isScuffed_2
  obtain ⟨g', q, e1⟩ := it_run (body := fun st : Int × ax_H => lb_X0_isScuffed_2 E (some x) (some b) st.1 st.2) (fun (_ : Unit) (k : Nat) g => ((k : Int), g)) (fun (r : Int) g => (r, g)) (Q := fun g => EvS x h g) (V := fun _ _ => True) (f := fun (_ : Unit) k => if soF (s 2) W k = true then (.inl () : Unit ⊕ Int) else .inr 0) (fin := fun _ => 1) (s 2 154).toNat (by
      rintro k _ g hk - q1
      have H1 := H.keep q1.1
      have P1 := P.ev q1 hb
      obtain ⟨b1, b2, b3, b4, b5⟩ := fo k (by omega) (by omega)
      obtain ⟨t0, t1, t2, t3, -⟩ := H1.tt
      have l3 := H1.2.2.2.2.1.2.2.2.2.2.2.2
      obtain ⟨u, e2, fz, tu, i0, i1, i2', i3⟩ := c_get (i := (k : Int)) l3 (by decide) (by omega) (by omega)
      rw [Int.toNat_natCast] at i0 i1 i2' i3
      have w1 := hW (s 2 (119 + 4 * (k : Int) + 1)) (s 2 (119 + 4 * (k : Int)))
      have w2 := hW (s 2 (119 + 4 * (k : Int))) (s 2 (119 + 4 * (k : Int) + 1))
      obtain ⟨g2, e3, q2⟩ := c_deepW (E := E) (ow := s 2 (119 + 4 * (k : Int) + 1)) (vi := s 2 (119 + 4 * (k : Int))) H1 hG hK P1 b2 b1 w1 w2
      have db := deep_b hK (ow := s 2 (119 + 4 * (k : Int) + 1)) (vi := s 2 (119 + 4 * (k : Int))) (oe := W (s 2 (119 + 4 * (k : Int) + 1)) (s 2 (119 + 4 * (k : Int)))) (ba := W (s 2 (119 + 4 * (k : Int))) (s 2 (119 + 4 * (k : Int) + 1))) b2 w1.1
      have ux : u ≠ x + 15 ∧ u ≠ x + 16 := by have := fz.2.2; unfold Mut at this; omega
      have eu := hC_eq (q2.2.2.2 u ux.1 ux.2 (by omega))
      have tu2 : hT g2 u = 32 := by unfold hT at tu ⊢; rw [eu]; exact tu
      have iu2 : ∀ k, hI g2 u k = hI g u k := by intro k; unfold hI; rw [eu]
      refine ⟨_, q1.trans q2, ?_⟩
      have main : lb_X0_isScuffed_2 E (some x) (some b) k g = if soF (s 2) W k = true then some (.inl ((k : Int) + 1, g2)) else some (.inr (0, g2)) := by
        unfold lb_X0_isScuffed_2 f_X0_isScuffed_57
        rw [f_gR H1.2.1.1 (by decide), H1.2.1.2.1, Option.bind_some, f_gR t0 (by decide), t3, Option.bind_some, f_ce l3.1 (by decide), Option.bind_some, c_size l3, Option.bind_some]
        dsimp only
        rw [i2_of (a := (k : Int)) (by omega) (by omega), i2_of (a := s 2 154) (by omega) (by omega), if_pos (by omega), f_gR H1.2.1.1 (by decide), H1.2.1.2.1, Option.bind_some, f_gR t0 (by decide), t3, Option.bind_some, f_ce l3.1 (by decide), Option.bind_some, e2, Option.bind_some]
        have cc : ax_cc E g (some u) 32 = some () := by
          show Option.map (fun _ => ()) (ax_ce E g (some u) 32) = some ()
          rw [f_ce tu (by decide)]
          rfl
        dsimp only
        rw [cc, Option.bind_some, f_gI tu (by decide), Option.bind_some, f_gI tu (by decide), Option.bind_some, i0, i1, f_ce H1.2.1.1 (by decide), Option.bind_some, e3, Option.bind_some]
        dsimp only
        rw [f_gI tu2 (by decide), iu2, i2', Option.bind_some, f_gI tu2 (by decide), iu2, i3, Option.bind_some, Option.bind_some, i2_of (a := deepByS _ _ _ _ _) (by omega) (by omega), i2_of (a := s 2 (119 + 4 * (k : Int) + 2)) (by omega) (by omega), i2_of (a := s 2 (119 + 4 * (k : Int) + 3)) (by omega) (by omega), show i2 0 = 0 by decide, show i2 1 = 1 by decide]
        unfold soF
        by_cases c1 : deepByS (s 2) (s 2 (119 + 4 * (k : Int) + 1)) (s 2 (119 + 4 * (k : Int))) (W (s 2 (119 + 4 * (k : Int) + 1)) (s 2 (119 + 4 * (k : Int)))) (W (s 2 (119 + 4 * (k : Int))) (s 2 (119 + 4 * (k : Int) + 1))) < s 2 (119 + 4 * (k : Int) + 2)
        · rw [if_pos c1]
          by_cases c3 : s 2 (119 + 4 * (k : Int) + 3) = 1
          · rw [if_neg (by omega), if_neg (by rw [decide_eq_true_eq]; intro z; have := z.mpr c3; omega)]
            rfl
          · rw [if_pos (by omega), if_pos (by rw [decide_eq_true_eq]; exact iff_of_false (by omega) c3)]
        · rw [if_neg c1]
          by_cases c3 : s 2 (119 + 4 * (k : Int) + 3) = 1
          · rw [if_pos (by omega), if_pos (by rw [decide_eq_true_eq]; exact iff_of_true (by omega) c3)]
          · rw [if_neg (by omega), if_neg (by rw [decide_eq_true_eq]; intro z; exact c3 (z.mp (by omega)))]
            rfl
      by_cases cs : soF (s 2) W k = true
      · rw [if_pos cs] at main
        exact Or.inl ⟨(), by rw [if_pos cs], trivial, main⟩
      · rw [if_neg cs] at main
        exact Or.inr ⟨0, by rw [if_neg cs], main⟩) (by
      rintro _ g - q1
      have H1 := H.keep q1.1
      obtain ⟨t0, t1, t2, t3, -⟩ := H1.tt
      have l3 := H1.2.2.2.2.1.2.2.2.2.2.2.2
      refine ⟨_, q1, ?_⟩
      simp only [lb_X0_isScuffed_2]
      rw [f_gR H1.2.1.1 (by decide), H1.2.1.2.1, Option.bind_some, f_gR t0 (by decide), t3, Option.bind_some, f_ce l3.1 (by decide), Option.bind_some, c_size l3, Option.bind_some]
      dsimp only
      rw [i2_of (by omega) (by omega), i2_of (a := s 2 154) (by omega) (by omega), if_neg (by omega)]
      rfl) (s 2 154).toNat 0 () h (by omega) trivial (EvS.refl x h)
  exact ⟨g', e1, q⟩
end
