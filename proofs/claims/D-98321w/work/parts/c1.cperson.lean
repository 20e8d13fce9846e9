/-! A person told: the component -/
set_option maxRecDepth 100000
section
variable {E : ax_E} {h h1 : ax_H} {x t dl dv ds du : Nat} {s : Sg}
theorem c_undclr {c z : Nat} (H : REP E h1 x t dl dv ds du s) (hE : Ek E x) (b : Blk x c z h h1) : ∃ g, f_J2_clear E (some (x + 14)) h1 = some g ∧ REP E g x t dl dv ds du (sw s 0 (u1 (s 0) 28 0)) ∧ Blk x c z h g := by
  have tl := H.1.1
  have L := H.2.2.2.2.2.1
  obtain ⟨d1, d2⟩ := H.du1 hE
  obtain ⟨g, q1, q2, q3, q4, q5, q6, q7⟩ := c_clear (E := E) (P' := DnN (Frz h1 x t dl dv ds du) h1 (s 14)) L (by decide) (Ne.symm d2)
  have hz : ∀ a, a < x → a ≠ du ∨ s 0 28 = 0 := by
    intro a ha
    rcases L.2.2.2.2.1 with w | w
    · exact Or.inr w.1
    · left
      rcases H.1.2.1.2.2.2 with y | y
      · exact absurd y (H.1.k0 w.1)
      · have := y.1
        omega
  refine ⟨g, q1, ?_, ?_⟩
  · refine H.und (by rw [q3]; exact Nat.le_refl _) (fun a ha => q5 a (by omega) (hz a ha)) (fun a _ _ z3 z4 => q5 a z3 (Or.inl z4)) (by rw [q2.1]; decide) (Or.inl rfl) ?_ ?_
    · obtain ⟨k1, k2, k3, k4, k5, k6⟩ := q2
      rw [sw_eq, u1_eq]
      exact ⟨k1, k2, k3, k4, k5, fun k hk => absurd hk (by omega)⟩
    · refine ⟨?_, ?_, ?_, ?_, ?_, ?_, ?_, ?_, ?_, ?_, ?_, ?_, ?_, ?_⟩ <;> first | exact sw_ne _ (by decide) | (rw [sw_eq, u1_ne _ (by decide)])
  · obtain ⟨y1, y2, y3, y4, y5⟩ := b
    refine ⟨by omega, by omega, by omega, by omega, fun a z1 z2 => (q5 a (by omega) ?_).trans (y5 a z1 z2)⟩
    rcases H.1.2.1.2.2.2 with y | y
    · left
      have := hE.1
      omega
    · left
      have := y.1
      omega
/-- the answer alone is written -/
theorem c_stat {v : Int} {c z : Nat} (H : REP E h1 x t dl dv ds du s) (b : Blk x c z h h1) : REP E (wI h1 x 7 v) x t dl dv ds du (sw s 0 (u1 (s 0) 0 v)) ∧ Blk x c z h (wI h1 x 7 v) := by
  refine ⟨H.root (Or.inl rfl) ?_ ?_ ?_, ?_⟩
  · obtain ⟨r1, r2, r3, r4, r5⟩ := H.2.2.1
    refine ⟨?_, ?_, ?_, ?_, ?_⟩
    · rw [hI_wI_eq, sw_eq, u1_eq]
    · rw [hI_wI_ne (by omega), sw_eq, u1_ne _ (by decide)]; exact r2
    · rw [hI_wI_ne (by omega), sw_eq, u1_ne _ (by decide)]; exact r3
    · rw [hI_wI_ne (by omega), sw_eq, u1_ne _ (by decide)]; exact r4
    · rw [hI_wI_ne (by omega), sw_eq, u1_ne _ (by decide)]; exact r5
  · obtain ⟨r1, r2⟩ := H.2.2.2.1
    refine ⟨fun k hk => ?_, fun k hk => ?_⟩
    · rw [hI_wI_ne (by omega), sw_ne _ (by decide)]; exact r1 k hk
    · rw [hI_wI_ne (by omega), sw_ne _ (by decide)]; exact r2 k hk
  · refine ⟨?_, ?_, ?_, ?_, ?_, ?_, ?_, ?_, ?_⟩ <;> first | exact sw_ne _ (by decide) | (rw [sw_eq, u1_ne _ (by decide)])
  · obtain ⟨y1, y2, y3, y4, y5⟩ := b
    exact ⟨y1, y2, y3, y4, fun a z1 z2 => (hC_wI_ne (by omega)).trans (y5 a z1 z2)⟩
theorem c_was {v : Int} {c z : Nat} (H : REP E h1 x t dl dv ds du s) (hE : Ek E x) (b : Blk x c z h h1) : ∃ h', f_X0_was E (some x) v h1 = some (v, h') ∧ REP E h' x t dl dv ds du (sSet s) ∧ Blk x c z h h' := by
  have a1 := H.2.1.1
  obtain ⟨-, -, ⟨-, a14, -⟩, -⟩ := id H.2.1
  have L := H.2.2.2.2.2.1
  obtain ⟨g, p1, H2, b2⟩ := c_undclr H hE b
  obtain ⟨H3, b3⟩ := c_stat (v := 0) H2 b2
  unfold f_X0_was
  rw [f_gR a1 (by decide), a14, Option.bind_some, f_ce L.1 (by decide), Option.bind_some, p1, Option.bind_some, f_pI H2.2.1.1 (by decide), Option.bind_some]
  refine ⟨_, rfl, ?_, b3⟩
  rw [sw_eq, sw_sw] at H3
  exact H3
theorem c_canBe {w v : Int} (hw : i2 w = w) (hv : i2 v = v) : f_X0_canBe E w v h = some (b01 (if w = 0 then 0 ≤ v ∧ v ≤ 9999 else if w = 1 then 1 ≤ v ∧ v ≤ 3 else w = 2 ∧ 0 ≤ v ∧ v ≤ 99), h) := by
  have b := i2_lh hv
  unfold f_X0_canBe
  rw [hw, hv]
  by_cases c0 : w = 0
  · simp only [if_pos c0]
    rw [c_in (by omega) (by decide) (by decide), Option.bind_some]
    simp only [b01_or, if_true]
  · simp only [if_neg c0]
    by_cases c1 : w = 1
    · simp only [if_pos c1]
      rw [c_isRoom hv, Option.bind_some]
      simp only [b01_or, if_true]
    · simp only [if_neg c1]
      by_cases c2 : w = 2
      · simp only [if_pos c2]
        rw [c_in (by omega) (by decide) (by decide), Option.bind_some]
        simp only [b01_or, if_true, c2, true_and]
      · rw [if_neg c2, b01_f (fun z => c2 z.1)]
theorem c_can0 {v : Int} (hv : i2 v = v) : f_X0_canBe E 0 v h = some (b01 (0 ≤ v ∧ v ≤ 9999), h) := by
  rw [c_canBe (by decide) hv]
  simp only [if_pos (rfl : (0 : Int) = 0), if_true]
theorem c_can1 {v : Int} (hv : i2 v = v) : f_X0_canBe E 1 v h = some (b01 (1 ≤ v ∧ v ≤ 3), h) := by
  rw [c_canBe (by decide) hv]
  simp only [if_pos (rfl : (1 : Int) = 1), if_true, if_neg (show ¬ (1 : Int) = 0 by decide)]
theorem c_can2 {v : Int} (hv : i2 v = v) : f_X0_canBe E 2 v h = some (b01 (0 ≤ v ∧ v ≤ 99), h) := by
  rw [c_canBe (by decide) hv]
  simp only [if_neg (show ¬ (2 : Int) = 1 by decide), if_neg (show ¬ (2 : Int) = 0 by decide), true_and]
/-- cells of the street that may be written -/
theorem OnS_st {a k : Nat} {v : Int} {g : ax_H} (p : OnS t 12 h g) (ha : t ≤ a ∧ a < t + 12) : OnS t 12 h (wI g a k v) := OnS_wI p ha
theorem c_personP {a b c : Int} (H : REP E h x t dl dv ds du s) (hE : Ek E x) (hG : G32 s) (hK : KB (s 2)) (h53 : s 2 153 ≤ 8 ∧ s 2 154 ≤ 8) (ha : i2 a = a) (hb : i2 b = b) (hc : i2 c = c) : ∃ h', f_X0_person E (some x) a b c h = some ((setP (personS s a b c)).1, h') ∧ REP E h' x t dl dv ds du (setP (personS s a b c)).2 ∧ Blk x 8 110 h h' := by
  have a1 := H.2.1.1
  have rx := H.2.1.2.1
  have tl := H.1.1
  have hn := hK.1
  have b0 := (Blk.refl x h).up (c' := 8) (z' := 110) (by decide) (by decide)
  obtain ⟨⟨t0, t1, t2, t3, t4, t5, t6⟩, ⟨i6, i7, i8⟩, B, ⟨e1, e2, e3⟩, ⟨f1, f2, f3⟩, -⟩ := id H.2.2.2.2.1
  have neg : ∀ k : Int, -7 < k → k < 0 → personS s a b c = (k, s) → ∃ (h' : ax_H), ((ax_ce E h (some x) 0).bind fun _ => (f_X0_tell E (some x) k h).bind fun q1 => some (q1.1, q1.2)) = some ((setP (personS s a b c)).1, h') ∧ REP E h' x t dl dv ds du (setP (personS s a b c)).2 ∧ Blk x 8 110 h h' := by
    intro k k0 k1 e
    obtain ⟨g, v1, v2, v3⟩ := c_told (v := k) H b0 k0 (by omega)
    refine ⟨g, ?_, ?_, v3⟩
    · rw [e, f_ce a1 (by decide), Option.bind_some, v1, Option.bind_some]
      rfl
    · rw [e]
      unfold setP setM
      unfold telM at v2
      rw [if_pos k1] at v2 ⊢
      exact v2
  unfold f_X0_person f_X0_person_24
  rw [c_can0 ha, Option.bind_some]
  by_cases c1 : 0 ≤ a ∧ a ≤ 9999
  · rw [if_neg (by rw [b01_z]; simp [c1]), c_can1 hb, Option.bind_some]
    by_cases c2 : 1 ≤ b ∧ b ≤ 3
    · rw [if_neg (by rw [b01_z]; simp [c2]), c_can2 hc, Option.bind_some]
      by_cases c3 : 0 ≤ c ∧ c ≤ 99
      · rw [if_neg (by rw [b01_z]; simp [c3])]
        dsimp only
        rw [f_gR a1 (by decide), rx, Option.bind_some, f_gI t0 (by decide), i6, Option.bind_some, hG, show i2 7 = 7 by decide]
        by_cases c4 : s 2 152 = 7
        · rw [if_pos c4]
          exact neg _ (by decide) (by decide) (by unfold personS; rw [if_neg (fun z => z ⟨c1, c2, c3⟩), if_pos c4])
        · obtain ⟨n, en⟩ : ∃ n : Nat, s 2 152 = n := ⟨(s 2 152).toNat, by omega⟩
          have eS : personS s a b c = (s 2 152, sw s 2 (personR (s 2) a b c)) := by unfold personS; rw [if_neg (fun z => z ⟨c1, c2, c3⟩), if_neg c4]
          obtain ⟨u0, ⟨u1', u2', u3', u4', u5'⟩, ⟨v1', v2', v3', v4', v5'⟩, w1, w2, w3, w4, w5⟩ := B.1
          rw [if_neg c4, f_ce a1 (by decide), Option.bind_some, c_books H, Option.bind_some]
          dsimp only
          have O : OnS t 12 h (wI (wI (wI (wI h (t + 4 + 1) n a) (t + 10) n b) (t + 11) n c) t 6 (s 2 152 + 1)) := OnS_wI (OnS_wI (OnS_wI (OnS_wI (OnS.refl _ _ _) (by omega)) (by omega)) (by omega)) (by omega)
          obtain ⟨g, eg⟩ : ∃ g, g = wI (wI (wI (wI h (t + 4 + 1) n a) (t + 10) n b) (t + 11) n c) t 6 (s 2 152 + 1) := ⟨_, rfl⟩
          have P : ∀ i, personR (s 2) a b c i = if i = 152 then s 2 152 + 1 else if i = 73 + 2 * s 2 152 + 1 then c else if i = 73 + 2 * s 2 152 then b else if i = s 2 152 then a else s 2 i := fun i => rfl
          have pn : ∀ i, i ≠ 152 → i ≠ 73 + 2 * s 2 152 + 1 → i ≠ 73 + 2 * s 2 152 → i ≠ s 2 152 → personR (s 2) a b c i = s 2 i := fun i j1 j2 j3 j4 => by rw [P, if_neg j1, if_neg j2, if_neg j3, if_neg j4]
          have H2 : REP E g x t dl dv ds du (sw s 2 (personR (s 2) a b c)) := by
            rw [eg]
            refine H.st O ?_ ⟨?_, ?_, ?_⟩ ?_ ?_ ?_ h53 (fun i j1 j2 j3 j4 => pn i j3 (by omega) (by omega) (by omega))
            · obtain ⟨B0, ⟨B1, B2⟩, B3, B4⟩ := B
              refine ⟨B0.wI.wI.wI.wI, ⟨?_, ?_⟩, fun p hp => ?_, fun k hk => ?_⟩
              · rw [hI_wI_ne (by omega), hI_wI_ne (by omega), hI_wI_ne (by omega), hI_wI_ne (by omega), pn 71 (by decide) (by omega) (by omega) (by omega)]; exact B1
              · rw [hI_wI_ne (by omega), hI_wI_ne (by omega), hI_wI_ne (by omega), hI_wI_ne (by omega), pn 72 (by decide) (by omega) (by omega) (by omega)]; exact B2
              · rw [hI_wI_ne (by omega), hI_wI_ne (by omega), hI_wI_ne (by omega)]
                by_cases ep : p = n
                · subst ep
                  rw [hI_wI_eq, P, if_neg (by omega), if_neg (by omega), if_neg (by omega), if_pos en.symm]
                · rw [hI_wI_ne (by omega), pn _ (by omega) (by omega) (by omega) (by omega)]
                  exact B3 p hp
              · have h71 := hK.2.2.2.2.1
                rw [pn 71 (by decide) (by omega) (by omega) (by omega)] at hk
                rw [hI_wI_ne (by omega), hI_wI_ne (by omega), hI_wI_ne (by omega), hI_wI_ne (by omega), hI_wI_ne (by omega), hI_wI_ne (by omega), hI_wI_ne (by omega), hI_wI_ne (by omega), hI_wI_ne (by omega), hI_wI_ne (by omega), hI_wI_ne (by omega), hI_wI_ne (by omega), hI_wI_ne (by omega), hI_wI_ne (by omega), hI_wI_ne (by omega), hI_wI_ne (by omega), pn _ (by omega) (by omega) (by omega) (by omega), pn _ (by omega) (by omega) (by omega) (by omega), pn _ (by omega) (by omega) (by omega) (by omega), pn _ (by omega) (by omega) (by omega) (by omega)]
                exact B4 k hk
            · rw [hI_wI_eq, P, if_pos rfl]
            · rw [hI_wI_ne (by omega), hI_wI_ne (by omega), hI_wI_ne (by omega), hI_wI_ne (by omega), pn 151 (by decide) (by omega) (by omega) (by omega)]; exact i7
            · rw [hI_wI_ne (by omega), hI_wI_ne (by omega), hI_wI_ne (by omega), hI_wI_ne (by omega), pn 156 (by decide) (by omega) (by omega) (by omega)]; exact i8
            · intro p hp
              rw [P, if_pos rfl] at hp
              rw [hI_wI_ne (by omega), hI_wI_ne (by omega)]
              by_cases ep : p = n
              · subst ep
                rw [hI_wI_eq, P, if_neg (by omega), if_neg (by omega), if_pos (by omega)]
              · rw [hI_wI_ne (by omega), hI_wI_ne (by omega), pn _ (by omega) (by omega) (by omega) (by omega)]
                exact e3 p (by omega)
            · intro p hp
              rw [P, if_pos rfl] at hp
              rw [hI_wI_ne (by omega)]
              by_cases ep : p = n
              · subst ep
                rw [hI_wI_eq, P, if_neg (by omega), if_pos (by omega)]
              · rw [hI_wI_ne (by omega), hI_wI_ne (by omega), hI_wI_ne (by omega), pn _ (by omega) (by omega) (by omega) (by omega)]
                exact f3 p (by omega)
            · intro q z1 z2
              rw [hC_wI_ne (by omega), hC_wI_ne (by omega), hC_wI_ne (by omega), hC_wI_ne (by omega)]
          have b2 : Blk x 8 110 h g := by rw [eg]; exact (O.blk (by omega)).up (by decide) (by decide)
          obtain ⟨g3, y1, y2, y3⟩ := c_settled (v := s 2 152) H2 hE b2 (by omega) (by omega)
          refine ⟨g3, ?_, ?_, y3⟩
          · rw [eS]
            unfold setP
            dsimp only
            rw [f_gR u0 (by decide), u1', Option.bind_some, en, f_sto v1' (by decide) (by omega) (by rw [w1]; omega) (by rw [w1]; decide), Option.bind_some, Int.toNat_natCast]
            rw [f_gR (by rw [hT_wI]; exact a1) (by decide), hR_wI, rx, Option.bind_some, f_gR (by rw [hT_wI]; exact t0) (by decide), hR_wI, t5, Option.bind_some, f_sto (by rw [hT_wI]; exact e1) (by decide) (by omega) (by rw [hL_wI, e2]; omega) (by rw [hL_wI, e2]; decide), Option.bind_some, Int.toNat_natCast]
            rw [f_gR (by rw [hT_wI, hT_wI]; exact a1) (by decide), hR_wI, hR_wI, rx, Option.bind_some, f_gR (by rw [hT_wI, hT_wI]; exact t0) (by decide), hR_wI, hR_wI, t6, Option.bind_some, f_sto (by rw [hT_wI, hT_wI]; exact f1) (by decide) (by omega) (by rw [hL_wI, hL_wI, f2]; omega) (by rw [hL_wI, hL_wI, f2]; decide), Option.bind_some, Int.toNat_natCast]
            rw [f_gR (by rw [hT_wI, hT_wI, hT_wI]; exact a1) (by decide), hR_wI, hR_wI, hR_wI, rx, Option.bind_some, f_gI (by rw [hT_wI, hT_wI, hT_wI]; exact t0) (by decide), hI_wI_ne (by omega), hI_wI_ne (by omega), hI_wI_ne (by omega), i6, Option.bind_some, f_pI (by rw [hT_wI, hT_wI, hT_wI]; exact t0) (by decide), Option.bind_some, ← eg, f_ce H2.2.1.1 (by decide), Option.bind_some, ← en, y1, Option.bind_some]
          · rw [eS]
            exact y2
      · rw [if_pos (by rw [b01_z]; exact c3)]
        exact neg _ (by decide) (by decide) (by unfold personS; rw [if_pos (fun z => c3 z.2.2)])
    · rw [if_pos (by rw [b01_z]; exact c2)]
      exact neg _ (by decide) (by decide) (by unfold personS; rw [if_pos (fun z => c2 z.2.1)])
  · rw [if_pos (by rw [b01_z]; exact c1)]
    exact neg _ (by decide) (by decide) (by unfold personS; rw [if_pos (fun z => c1 z.1)])
end
/-! what holds then -/
theorem KW_person {K : Rw} {a b c : Int} (H : KW K) (h7 : K 152 ≠ 7) (ha : 0 ≤ a ∧ a ≤ 9999) (hb : 1 ≤ b ∧ b ≤ 3) (hc : 0 ≤ c ∧ c ≤ 99) : KW (personR K a b c) := by
  obtain ⟨⟨k1, k2, k3, k4, k5⟩, lv, fv, fs⟩ := H
  have P : ∀ i, personR K a b c i = if i = 152 then K 152 + 1 else if i = 73 + 2 * K 152 + 1 then c else if i = 73 + 2 * K 152 then b else if i = K 152 then a else K i := fun i => rfl
  have pn : ∀ i, i ≠ 152 → i ≠ 73 + 2 * K 152 + 1 → i ≠ 73 + 2 * K 152 → i ≠ K 152 → personR K a b c i = K i := fun i j1 j2 j3 j4 => by rw [P, if_neg j1, if_neg j2, if_neg j3, if_neg j4]
  have p52 : personR K a b c 152 = K 152 + 1 := by rw [P, if_pos rfl]
  have rv : RV (K 152 + 1) (personR K a b c) := by
    obtain ⟨a1, a2, a3, a4⟩ := k5
    refine ⟨by rw [pn 71 (by decide) (by omega) (by omega) (by omega)]; exact a1, by rw [pn 72 (by decide) (by omega) (by omega) (by omega)]; exact a2, fun p p0 p1 => ?_, fun d d0 d1 => ?_⟩
    · by_cases ep : p = K 152
      · rw [P, if_neg (by omega), if_neg (by omega), if_neg (by omega), if_pos ep]; exact ha
      · rw [pn p (by omega) (by omega) (by omega) ep]; exact a3 p p0 p1
    · rw [pn 71 (by decide) (by omega) (by omega) (by omega)] at d1
      rw [pn _ (by omega) (by omega) (by omega) (by omega), pn _ (by omega) (by omega) (by omega) (by omega), pn _ (by omega) (by omega) (by omega) (by omega), pn _ (by omega) (by omega) (by omega) (by omega)]
      obtain ⟨b1, b2, b3, b4, b5⟩ := a4 d d0 d1
      exact ⟨by omega, by omega, b3, b4, b5⟩
  have fo : ∀ a' c' hi, FoV K a' c' hi → (a' = 87 ∧ c' = 153 ∨ a' = 119 ∧ c' = 154) → FoV (personR K a b c) a' c' hi := by
    intro a' c' hi f hac
    obtain ⟨f1, f2⟩ := f
    refine ⟨by rw [pn c' (by omega) (by omega) (by omega) (by omega)]; exact f1, fun k j0 j1 => ?_⟩
    rw [pn c' (by omega) (by omega) (by omega) (by omega)] at j1
    rw [p52, pn _ (by omega) (by omega) (by omega) (by omega), pn _ (by omega) (by omega) (by omega) (by omega), pn _ (by omega) (by omega) (by omega) (by omega), pn _ (by omega) (by omega) (by omega) (by omega)]
    obtain ⟨b1, b2, b3, b4, b5⟩ := f2 k j0 j1
    exact ⟨by omega, by omega, b3, b4, b5⟩
  refine ⟨⟨by omega, by rw [pn 151 (by decide) (by omega) (by omega) (by omega)]; exact k2, by rw [pn 156 (by decide) (by omega) (by omega) (by omega), pn 155 (by decide) (by omega) (by omega) (by omega)]; exact k3, fun p p0 p1 => ?_, by rw [p52]; exact rv⟩, lv.congr (fun i hi => pn i (by omega) (by omega) (by omega) (by omega)), fo _ _ _ fv (Or.inl ⟨rfl, rfl⟩), fo _ _ _ fs (Or.inr ⟨rfl, rfl⟩)⟩
  by_cases ep : p = K 152
  · rw [P, if_neg (by omega), if_neg (by omega), if_pos (by omega), P, if_neg (by omega), if_pos (by omega)]; exact ⟨hb, hc⟩
  · rw [pn _ (by omega) (by omega) (by omega) (by omega), pn _ (by omega) (by omega) (by omega) (by omega)]; exact k4 p p0 (by omega)
theorem personS_VW {n a b c : Int} {s : Sg} (H : VW n s) (ha : i2 a = a) (hb : i2 b = b) (hc : i2 c = c) : VW n (personS s a b c).2 ∧ (-6 < (personS s a b c).1 ∧ (personS s a b c).1 ≤ 9) := by
  have hn := H.1.2.1.1
  unfold personS
  split
  · exact ⟨H, by dsimp only; omega⟩
  · split
    · exact ⟨H, by dsimp only; omega⟩
    · rename_i c1 c2
      have c1' := Classical.not_not.mp c1
      refine ⟨H.row (KW_person H.2.1 c2 c1'.1 c1'.2.1 c1'.2.2) ?_ (H.1.2.2.2.1.sw2 ?_), ?_⟩
      · unfold personR
        exact u1_32' (u1_32' (u1_32' (u1_32' (H.1.1 2) ha) hb) hc) (i2_of (by omega) (by omega))
      · unfold personR
        rw [u1_eq]
        omega
      · dsimp only
        omega
