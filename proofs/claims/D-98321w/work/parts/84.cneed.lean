/-! THE COMPONENT: needs, doors, people -/
set_option maxRecDepth 100000
section
variable {E : ax_E} {h h' : ax_H} {x t dl dv ds du b : Nat} {s : Sg} {K : Rw}
theorem REP.bk (H : REP E h x t dl dv ds du s) : BK h (t + 4) (s 2) := H.2.2.2.2.1.2.2.1
theorem REP.tb (H : REP E h x t dl dv ds du s) : t + 4 + 6 ≤ x + 15 ∨ x + 17 ≤ t + 4 := by
  have := H.1.1
  omega
theorem c_books (H : REP E h x t dl dv ds du s) : f_X0_books E (some x) h = some (some (t + 4), h) := by
  obtain ⟨-, ⟨a1, a2, -⟩, -, -, ⟨⟨b1, -, -, -, b4, -⟩, -⟩, -⟩ := H
  unfold f_X0_books
  rw [f_gR a1 (by decide), a2, Option.bind_some, f_gR b1 (by decide), b4]
  rfl
theorem c_in {v lo hi : Int} (h1 : -9000000000 ≤ v ∧ v ≤ 9000000000) (h2 : -9000000000 ≤ lo ∧ lo ≤ 9000000000) (h3 : -9000000000 ≤ hi ∧ hi ≤ 9000000000) : f_X0_in E v lo hi h = some (b01 (lo ≤ v ∧ v ≤ hi), h) := by
  unfold f_X0_in f_X0_in_17
  rw [cmp_of (by omega) (by omega) (by omega) (by omega), cmp_of (by omega) (by omega) (by omega) (by omega)]
  by_cases a : v < lo
  · rw [if_pos (by rw [if_neg (by omega), if_neg (by omega)]; decide), b01_f (by omega)]
  · rw [if_neg (by split; decide; rw [if_pos (by omega)]; decide)]
    by_cases c : hi < v
    · rw [if_pos (by rw [if_pos c]; decide), b01_f (by omega)]
    · rw [if_neg (by rw [if_neg c]; split <;> decide), b01_t (by omega)]
theorem c_isPerson {p : Int} (H : REP E h x t dl dv ds du s) (hK : KB (s 2)) (hp : i2 p = p) : f_X0_isPerson E (some x) p h = some (b01 (0 ≤ p ∧ p ≤ s 2 152 - 1), h) := by
  obtain ⟨-, ⟨a1, a2, -⟩, -, -, ⟨⟨b1, -⟩, ⟨b6, -⟩, -⟩, -⟩ := H
  have hl := i2_lh hp
  have hn := hK.1
  unfold f_X0_isPerson
  rw [f_gR a1 (by decide), a2, Option.bind_some, f_gI b1 (by decide), b6, Option.bind_some, hp, i2_of (by omega) (by omega), c_in (by omega) (by omega) (by omega), Option.bind_some, if_pos (by rw [b01_or]; trivial)]
theorem c_areTwo {p q : Int} (H : REP E h x t dl dv ds du s) (hK : KB (s 2)) (hp : i2 p = p) (hq : i2 q = q) : f_X0_areTwo E (some x) p q h = some (b01 ((0 ≤ p ∧ p ≤ s 2 152 - 1) ∧ (0 ≤ q ∧ q ≤ s 2 152 - 1) ∧ p ≠ q), h) := by
  have a1 := H.2.1.1
  unfold f_X0_areTwo f_X0_areTwo_25
  rw [f_ce a1 (by decide), Option.bind_some, c_isPerson H hK hp, Option.bind_some]
  by_cases e1 : 0 ≤ p ∧ p ≤ s 2 152 - 1
  · rw [if_neg (by rw [b01_z]; simp [e1]), f_ce a1 (by decide), Option.bind_some, c_isPerson H hK hq, Option.bind_some]
    by_cases e2 : 0 ≤ q ∧ q ≤ s 2 152 - 1
    · rw [if_neg (by rw [b01_z]; simp [e2]), hp, hq]
      by_cases e3 : p = q
      · rw [if_pos e3]
        exact congrArg (fun v => some (v, h)) (b01_f (fun z => z.2.2 e3)).symm
      · rw [if_neg e3]
        exact congrArg (fun v => some (v, h)) (b01_t ⟨e1, e2, e3⟩).symm
    · rw [if_pos (by rw [b01_z]; exact e2)]
      exact congrArg (fun v => some (v, h)) (b01_f (fun z => e2 z.2.1)).symm
  · rw [if_pos (by rw [b01_z]; exact e1)]
    exact congrArg (fun v => some (v, h)) (b01_f (fun z => e1 z.1)).symm
theorem c_needOf {vi ho room : Int} (H : REP E h x t dl dv ds du s) (hG : G32 s) (hK : KB (s 2)) (h1 : 0 ≤ ho ∧ ho < s 2 152) (h2 : 0 ≤ vi ∧ vi < s 2 152) (h3 : 0 ≤ room ∧ room ≤ 100) : ∃ h', f_X0_needOf E (some x) vi ho room h = some (needS (s 2) vi ho room, h') ∧ EvS x h h' := by
  have hn := hK.1
  have d1 := hK.2.2.2.2.1
  have b1 := owed_b hK.2.2.2.2 ho vi
  have b2 := owed_b hK.2.2.2.2 vi ho
  have n999 : i2 999 = 999 := by decide
  obtain ⟨g', e1, q⟩ := it_find (body := fun y : Int × ax_H => lb_X0_needOf_25 E (some x) vi ho room (owed (s 2) ho vi) (owed (s 2) vi ho) y.1 y.2) (Q := fun g => EvS x h g) (p := fun y => decide (room ≤ deepByS (s 2) ho vi (owed (s 2) ho vi + y) (owed (s 2) vi ho))) 1000 0 h (EvS.refl x h) (by
      intro k g k0 k1 q1
      have Hg := H.keep q1.1
      obtain ⟨g2, e2, q2⟩ := c_deepBy (E := E) (K := s 2) (ow := ho) (vi := vi) (oe := owed (s 2) ho vi + k) (ba := owed (s 2) vi ho) Hg hG hK hK (fun _ _ => rfl) h1 h2 (by omega) (by omega)
      have hdb := deep_b hK (vi := vi) (oe := owed (s 2) ho vi + k) (ba := owed (s 2) vi ho) h1 (by omega)
      have B := Hg.bk
      refine ⟨g2, q1.trans q2, ?_⟩
      simp only [lb_X0_needOf_25]
      rw [n999, i2_of (by omega) (by omega), if_neg (by omega), f_ce Hg.2.1.1 (by decide), Option.bind_some, c_books Hg, Option.bind_some, f_gI B.1.1 (by decide), B.2.1.2, Option.bind_some, f_ce Hg.2.1.1 (by decide), Option.bind_some, e2, Option.bind_some, i2_of (by omega) (by omega), i2_of (by omega) (by omega)]
      by_cases hd : room ≤ deepByS (s 2) ho vi (owed (s 2) ho vi + k) (owed (s 2) vi ho)
      · rw [if_neg (by omega)]
        simp [hd]
      · rw [if_pos (by omega)]
        simp [hd]) (by
      intro g q1
      simp only [lb_X0_needOf_25]
      rw [n999, i2_of (by omega) (by omega), if_pos (by omega)]
      rfl)
  refine ⟨g', ?_, q⟩
  have B := H.bk
  have hK3 : K32 (s 2) := hG 2
  unfold f_X0_needOf f_X0_needOf_25
  simp only [f_ce H.2.1.1 (by decide : (0:Nat) ≠ 999), Option.bind_some, c_books H, f_ce B.1.1 (by decide : (2:Nat) ≠ 999), c_owes B hK3 d1.1 d1.2 (i2_of (show -2147483648 ≤ ho by omega) (by omega)) (i2_of (show -2147483648 ≤ vi by omega) (by omega)), c_owes B hK3 d1.1 d1.2 (i2_of (show -2147483648 ≤ vi by omega) (by omega)) (i2_of (show -2147483648 ≤ ho by omega) (by omega))]
  exact e1
theorem c_shutOf {ow vi room : Int} (H : REP E h x t dl dv ds du s) (hG : G32 s) (hK : KB (s 2)) (h1 : 0 ≤ ow ∧ ow < s 2 152) (h2 : 0 ≤ vi ∧ vi < s 2 152) (h3 : 0 ≤ room ∧ room ≤ 100) : ∃ h', f_X0_shutOf E (some x) ow vi room h = some (shutS (s 2) ow vi room, h') ∧ EvS x h h' := by
  have hn := hK.1
  have d1 := hK.2.2.2.2.1
  have b1 := owed_b hK.2.2.2.2 ow vi
  have b2 := owed_b hK.2.2.2.2 vi ow
  obtain ⟨g', e1, q⟩ := it_find (body := fun y : Int × ax_H => lb_X0_shutOf_25 E (some x) ow vi room (owed (s 2) ow vi) (owed (s 2) vi ow) y.1 y.2) (Q := fun g => EvS x h g) (p := fun y => decide (deepByS (s 2) ow vi (owed (s 2) ow vi - y) (owed (s 2) vi ow) < room)) (owed (s 2) ow vi + 1).toNat 0 h (EvS.refl x h) (by
      intro k g k0 k1 q1
      have Hg := H.keep q1.1
      obtain ⟨g2, e2, q2⟩ := c_deepBy (E := E) (K := s 2) (ow := ow) (vi := vi) (oe := owed (s 2) ow vi - k) (ba := owed (s 2) vi ow) Hg hG hK hK (fun _ _ => rfl) h1 h2 (by omega) (by omega)
      have hdb := deep_b hK (vi := vi) (oe := owed (s 2) ow vi - k) (ba := owed (s 2) vi ow) h1 (by omega)
      have B := Hg.bk
      refine ⟨g2, q1.trans q2, ?_⟩
      simp only [lb_X0_shutOf_25]
      rw [i2_of (by omega) (by omega), i2_of (by omega) (by omega), if_neg (by omega), f_ce Hg.2.1.1 (by decide), Option.bind_some, c_books Hg, Option.bind_some, f_gI B.1.1 (by decide), B.2.1.2, Option.bind_some, f_ce Hg.2.1.1 (by decide), Option.bind_some, e2, Option.bind_some, i2_of (by omega) (by omega), i2_of (by omega) (by omega)]
      by_cases hd : deepByS (s 2) ow vi (owed (s 2) ow vi - k) (owed (s 2) vi ow) < room
      · rw [if_pos hd]
        simp [hd]
      · rw [if_neg hd]
        simp [hd]) (by
      intro g q1
      simp only [lb_X0_shutOf_25]
      rw [i2_of (by omega) (by omega), i2_of (by omega) (by omega), if_pos (by omega)]
      rfl)
  refine ⟨g', ?_, q⟩
  have B := H.bk
  have hK3 : K32 (s 2) := hG 2
  unfold f_X0_shutOf f_X0_shutOf_25
  simp only [f_ce H.2.1.1 (by decide : (0:Nat) ≠ 999), Option.bind_some, c_books H, f_ce B.1.1 (by decide : (2:Nat) ≠ 999), c_owes B hK3 d1.1 d1.2 (i2_of (show -2147483648 ≤ ow by omega) (by omega)) (i2_of (show -2147483648 ≤ vi by omega) (by omega)), c_owes B hK3 d1.1 d1.2 (i2_of (show -2147483648 ≤ vi by omega) (by omega)) (i2_of (show -2147483648 ≤ ow by omega) (by omega))]
  exact e1
theorem c_doorsOf {v : Int} (H : REP E h x t dl dv ds du s) (hG : G32 s) (hKB : KB (s 2)) (hK : KB K) (hK3 : K32 K) (hu : ∀ i, 73 ≤ i → K i = s 2 i) (hB : BK h b K) (hb : b + 6 ≤ x + 15 ∨ x + 17 ≤ b) (h2 : 0 ≤ v ∧ v < K 152) : ∃ h', f_X0_doorsOf E (some x) (some b) v h = some (doorsB K v, h') ∧ EvS x h h' := by
  have hn := hK.1
  have hR := hK.2.2.2.2
  have hu152 := hu 152 (by omega)
  obtain ⟨g', e1, q⟩ := it_fold (body := fun y : Int × Int × ax_H => lb_X0_doorsOf_5 E (some x) (some b) v y.1 y.2.1 y.2.2) (Q := fun g => EvS x h g) (f := fun a (o : Nat) => ax_or a (if (o : Int) = v then 0 else if 0 < deepS K o v then ax_shl 1 o else 0)) (K 152).toNat 0 h (EvS.refl x h) (by
      intro k g k1 q1
      have Hg := H.keep q1.1
      have Bg := hB.ev q1 hb
      have w1 := owed_b hR k v
      have w2 := owed_b hR v k
      have hdb := deep_b hK (ow := k) (vi := v) (oe := owed K k v) (ba := owed K v k) (by omega) (by omega)
      obtain ⟨-, ⟨a1, a2, -⟩, -, -, ⟨⟨b1, -⟩, ⟨b6, -⟩, -⟩, -⟩ := id Hg
      simp only [lb_X0_doorsOf_5]
      rw [f_gR a1 (by decide), a2, Option.bind_some, f_gI b1 (by decide), b6, Option.bind_some, i2_of (by omega) (by omega), i2_of (by omega) (by omega), if_pos (by omega), i2_of (by omega) (by omega)]
      unfold f_X0_doorsOf_43 f_X0_doorsOf_44
      by_cases hkv : (k : Int) = v
      · refine ⟨g, q1, ?_⟩
        rw [if_pos hkv, if_pos hkv]
      · obtain ⟨g2, e2, q2⟩ := c_deep (E := E) (ow := k) (vi := v) Hg hG hKB hK hK3 hu Bg (by omega) h2
        refine ⟨g2, q1.trans q2, ?_⟩
        rw [if_neg hkv, if_neg hkv, f_ce a1 (by decide), Option.bind_some, e2, Option.bind_some]
        rw [i2_of (by unfold deepS; omega) (by unfold deepS; omega)]
        split <;> rfl) (by
      intro bb g q1
      have Hg := H.keep q1.1
      obtain ⟨-, ⟨a1, a2, -⟩, -, -, ⟨⟨b1, -⟩, ⟨b6, -⟩, -⟩, -⟩ := Hg
      simp only [lb_X0_doorsOf_5]
      rw [f_gR a1 (by decide), a2, Option.bind_some, f_gI b1 (by decide), b6, Option.bind_some, i2_of (by omega) (by omega), i2_of (by omega) (by omega), if_neg (by omega)]
      rfl)
  exact ⟨g', e1, q⟩
end
