/-! Both are born: they stand for the same rows -/
set_option maxRecDepth 100000
theorem sF_2 : sF 2 = u1 (fun _ => 0) 156 (-1) := rfl
theorem sF_0 : sF 0 = u1 (u1 (fun _ => 0) 12 (-1)) 47 (-1) := rfl
theorem sF_6 : sF 6 = wd 147 := rfl
theorem sF_o {o : Nat} (h0 : o ≠ 0) (h2 : o ≠ 2) (h6 : o ≠ 6) : sF o = fun _ => 0 := by
  unfold sF S47 S12 S7
  rw [sw_ne _ h2, sw_ne _ h0, sw_ne _ h0, sw_ne _ h6]
theorem sF_32 : G32 sF := by
  intro o i
  by_cases h0 : o = 0
  · subst h0
    rw [sF_0]
    exact u1_32 (u1_32 (fun _ => by decide) (by decide)) (by decide) i
  · by_cases h2 : o = 2
    · subst h2
      rw [sF_2]
      exact u1_32 (fun _ => by decide) (by decide) i
    · by_cases h6 : o = 6
      · subst h6
        rw [sF_6]
        unfold wd
        by_cases c : 0 ≤ i ∧ i < ((147 : Nat) : Int)
        · rw [if_pos c]
          have : ∀ k : Nat, k < 147 → i2 (wrd.getD k 0) = wrd.getD k 0 := by decide +kernel
          exact this i.toNat (by omega)
        · rw [if_neg c]
          decide
      · rw [sF_o h0 h2 h6]
        show i2 0 = 0
        decide
theorem sF_RV : RV (sF 2 152) (sF 2) := by
  rw [sF_2]
  refine ⟨by decide, by decide, fun p p0 p1 => ?_, fun d d0 d1 => ?_⟩
  · rw [u1_ne _ (by omega)]
    decide
  · rw [show u1 (fun _ => 0) 156 (-1) 71 = (0 : Int) from rfl] at d1
    omega
theorem sF_KW : KW (sF 2) := by
  refine ⟨⟨by rw [sF_2]; decide, by rw [sF_2]; decide, Or.inl (by rw [sF_2]; decide), fun p p0 p1 => ?_, sF_RV⟩, fun t t0 t1 => ?_, ⟨by rw [sF_2]; decide, fun k k0 k1 => ?_⟩, ⟨by rw [sF_2]; decide, fun k k0 k1 => ?_⟩⟩
  · rw [sF_2, show u1 (fun _ => 0) 156 (-1) 152 = (0 : Int) from rfl] at p1
    omega
  · rw [sF_2, show u1 (fun _ => 0) 156 (-1) 155 = (0 : Int) from rfl] at t1
    omega
  · rw [sF_2, show u1 (fun _ => 0) 156 (-1) 153 = (0 : Int) from rfl] at k1
    omega
  · rw [sF_2, show u1 (fun _ => 0) 156 (-1) 154 = (0 : Int) from rfl] at k1
    omega
theorem sF_VW : VW 0 sF := by
  refine ⟨⟨sF_32, sF_KW.1, sF_KW.2.1, ⟨by rw [sF_0]; decide, fun k k0 k1 => ?_⟩, fun k k0 k1 => ?_⟩, sF_KW, fun k k0 k1 => Or.inl ?_, by rw [sF_0]; decide, fun k k0 k1 => ?_, fun k hk => ?_, by rw [sF_0]; decide⟩
  · rw [sF_0, show u1 (u1 (fun _ => 0) 12 (-1)) 47 (-1) 28 = (0 : Int) from rfl] at k1
    omega
  · rw [sF_o (by decide) (by decide) (by decide)]
    show (0 : Int) ≤ 0 ∧ (0 : Int) ≤ 0
    decide
  · rw [sF_o (by decide) (by decide) (by decide)]
  · rw [sF_o (by decide) (by decide) (by decide)]
    show (-128 : Int) ≤ 0 ∧ (0 : Int) ≤ 127
    decide
  · rw [sF_6]
    unfold wd
    rw [if_pos (by omega), Int.toNat_natCast]
theorem mdF_lt (k : Nat) : mdF k < 32 := by
  unfold mdF
  split <;> decide
theorem cm_mdl {m c : Nat} {s : Sg} {h : ax_H} : mdl m s (cm m 32 32 s c h) = cm m 32 32 s c h := by
  refine bk_same (fun o ho => ?_)
  rw [cm_at ho]
  have e : mdRn m 32 o = mdR m o := by
    funext k
    have := mdF_lt k
    unfold mdRn mdR
    by_cases a : o = 0
    · rw [if_pos a, if_pos a]
      by_cases b : mdF k = 0
      · rw [if_pos (Or.inl b), if_pos b]
      · rw [if_neg (by omega), if_neg b]
    · rw [if_neg a, if_neg a]
  rw [e]
  rfl
theorem Rt0.fr {Z x : Nat} {g g' : ax_H} (H : Rt0 Z g x) (e : ∀ c, x ≤ c → c < x + 84 → g'.2.2 c = g.2.2 c) : Rt0 Z g' x := by
  have q : ∀ c, x ≤ c → c < x + 84 → hC g' c = hC g c := fun c c1 c2 => hC_eq (e c c1 c2)
  obtain ⟨a, b, c, d, f1, f2, f3, f4⟩ := H
  have q0 := q x (by omega) (by omega)
  have q13 := q (x + 13) (by omega) (by omega)
  have q14 := q (x + 14) (by omega) (by omega)
  have q21 := q (x + 21) (by omega) (by omega)
  have q22 := q (x + 22) (by omega) (by omega)
  refine ⟨a.sh (fun p hp => shq.of (e p (by omega) (by omega))), ?_, ?_, ?_, ?_, ?_, ?_, f4.fr (fun p p1 p2 => e p (by omega) (by omega))⟩
  · unfold hI at *; rw [q0]; exact b
  · unfold hR at *; rw [q0]; exact c
  · unfold hR at *; rw [q13]; exact d
  · unfold hT hR hI at *; rw [q14]; exact f1
  · unfold hI at *; rw [q21]; exact f2
  · unfold hI at *; rw [q22]; exact f3
theorem BS.tags {h : ax_H} {b a : Nat} (H : BS h b) (h1 : b ≤ a) (h2 : a < b + 6) : hT h a ≠ 15 := by
  obtain ⟨t0, -, ⟨t1, t2, t3, t4, t5⟩, -⟩ := H
  have : a = b ∨ a = b + 1 ∨ a = b + 2 ∨ a = b + 3 ∨ a = b + 4 ∨ a = b + 5 := by omega
  rcases this with e | e | e | e | e | e <;> subst e <;> omega
theorem Rt0.tags {Z x a : Nat} {g : ax_H} (H : Rt0 Z g x) (h1 : x ≤ a) (h2 : a < x + 84) : hT g a ≠ 15 := by
  obtain ⟨⟨a1, -, -, a4, a5, a6, a7, a8, a9, a10, a11, a12⟩, -, -, -, f1, -, -, ⟨s1, -, s3, s4, s5, s6⟩⟩ := H
  have c : a = x ∨ a = x + 1 ∨ (x + 2 ≤ a ∧ a < x + 5) ∨ (x + 5 ≤ a ∧ a < x + 11) ∨ a = x + 11 ∨ a = x + 12 ∨ a = x + 13 ∨ a = x + 14 ∨ a = x + 15 ∨ a = x + 16 ∨ a = x + 17 ∨ a = x + 18 ∨ a = x + 19 ∨ a = x + 20 ∨ a = x + 21 ∨ a = x + 22 ∨ (x + 23 ≤ a ∧ a < x + 29) ∨ a = x + 29 ∨ x + 30 ≤ a := by omega
  rcases c with e | e | e | e | e | e | e | e | e | e | e | e | e | e | e | e | e | e | e
  · rw [e, a1]; decide
  · rw [e, s1.1]; decide
  · have := (s3 (a - (x + 2)) (by omega)).1
    rw [show x + 1 + 1 + (a - (x + 2)) = a by omega] at this
    rw [this]; decide
  · exact s4.1.tags (by omega) (by omega)
  · rw [e, show x + 11 = x + 1 + 10 by omega, s5.1]; decide
  · rw [e, show x + 12 = x + 1 + 11 by omega, s6.1]; decide
  · rw [e, a4.1]; decide
  · rw [e, f1.1]; decide
  · rw [e, a5.1]; decide
  · rw [e, a5.2.2.1]; decide
  · rw [e, a6.1]; decide
  · rw [e, a6.2.2.1]; decide
  · rw [e, a7.1]; decide
  · rw [e, a7.2.2.1]; decide
  · rw [e, a8.1]; decide
  · rw [e, a9.1]; decide
  · exact a10.tags (by omega) (by omega)
  · rw [e, a11.1]; decide
  · exact (a12 ((a - x - 30) / 6) (by omega)).2.tags (by omega) (by omega)
/-- both are born -/
theorem born {E : ax_E} {h g : ax_H} {x c : Nat} (hE : Ek E x) (lo : ∀ a, a < x → g.2.2 a = none) (R : Rt0 (E.2.2 0) g x) : INV E x 0 sF (cm (x + 84) 32 32 sF c g) := by
  obtain ⟨F, eF⟩ : ∃ F, F = cm (x + 84) 32 32 sF c g := ⟨_, rfl⟩
  have e : ∀ c', c' < x + 84 → F.2.2 c' = g.2.2 c' := fun c' hc => by rw [eF]; exact cm_out (Or.inl hc)
  have R' : Rt0 (E.2.2 0) F x := R.fr (fun q _ q2 => e q q2)
  have tg : ∀ a, x ≤ a → a < x + 116 → hT F a ≠ 15 := by
    intro a h1 h2
    by_cases c1 : a < x + 84
    · exact R'.tags h1 c1
    · obtain ⟨o, rfl⟩ : ∃ o, a = x + 84 + o := ⟨a - (x + 84), by omega⟩
      have ho : o < 32 := by omega
      rw [eF]
      unfold hT
      rw [hC_of (cm_at ho)]
      show mdT o ≠ 15
      unfold mdT
      split
      · decide
      · split
        · decide
        · split
          · decide
          · split <;> decide
  have n : F.1 = x + 116 := by rw [eF]; rfl
  refine ⟨⟨x + 1, E.2.2 0, E.2.2 0, E.2.2 0, E.2.2 0, ?_⟩, sF_VW, cm_mdl⟩
  rw [← eF]
  obtain ⟨a, b, c, d, f1, f2, f3, ⟨s1, s2, s3, s4, s5, s6⟩⟩ := R'
  have ls : ∀ (q : Nat) (i : Int) (cap : Nat) (P : Nat → Nat → Prop), (hT F q = 42 ∧ hR F q 1 = some (E.2.2 0) ∧ hI F q 2 = 0) → i = 0 → LsN E F q (E.2.2 0) i cap P := by
    intro q i cap P w e0
    subst e0
    exact ⟨w.1, w.2.1, w.2.2, by decide, Or.inl ⟨rfl, rfl⟩, fun k hk => by omega⟩
  refine ⟨⟨⟨by omega, Or.inl rfl, by omega⟩, ⟨Or.inl rfl, Or.inl rfl, Or.inl rfl, Or.inl rfl⟩, ⟨Or.inr rfl, Or.inr rfl, Or.inr rfl, Or.inr rfl, Or.inr rfl, Or.inr rfl⟩, ⟨fun q hq => (e q (by omega)).trans (lo q hq), tg⟩, hE.1⟩, a, ?_, ⟨fun k hk => ?_, fun k hk => ?_⟩, ⟨s1, ?_, ?_, ⟨s5.1, s5.2.1, fun p hp => ?_⟩, ⟨s6.1, s6.2.1, fun p hp => ?_⟩, ls _ _ _ _ (s3 0 (by decide)) rfl, ls _ _ _ _ (s3 1 (by decide)) rfl, ls _ _ _ _ (s3 2 (by decide)) rfl⟩, ls _ _ _ _ f1 rfl, fun k hk => Or.inl ⟨?_, ?_⟩, Or.inl ⟨c, rfl⟩⟩
  · exact b
  · rw [f2, sF_o (by decide) (by decide) (by decide)]
  · rw [f3, sF_o (by decide) (by decide) (by decide)]
  · exact s2
  · refine s4.congr ?_ ?_ ?_ ?_
    · rfl
    · rfl
    · intro p h1 h2
      rw [sF_2, u1_ne _ (by omega)]
    · intro i h1 h2
      rw [sF_2, u1_ne _ (by omega)]
  · rw [sF_2, show u1 (fun _ => 0) 156 (-1) 152 = (0 : Int) from rfl] at hp
    omega
  · rw [sF_2, show u1 (fun _ => 0) 156 (-1) 152 = (0 : Int) from rfl] at hp
    omega
  · rw [sF_o (by decide) (by decide) (by decide)]
  · have : k = 0 ∨ k = 1 := by omega
    rcases this with e1 | e1 <;> subst e1
    · exact d.1
    · exact d.2
