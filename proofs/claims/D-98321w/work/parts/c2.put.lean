/-! A fact put: both sides -/
set_option maxRecDepth 100000
def putR (K : Rw) (p w v : Int) : Rw := u1 K (if w = 0 then p else 73 + 2 * p + w - 1) v
def putS (s : Sg) (p w v : Int) : Int × Sg := if ¬ (if w = 0 then 0 ≤ v ∧ v ≤ 9999 else if w = 1 then 1 ≤ v ∧ v ≤ 3 else w = 2 ∧ 0 ≤ v ∧ v ≤ 99) then (-1, s) else if ¬ (0 ≤ p ∧ p ≤ s 2 152 - 1) then (-2, s) else (s 2 (if w = 0 then p else 73 + 2 * p + w - 1), sw s 2 (putR (s 2) p w v))
theorem put_w {w v : Int} (h : if w = 0 then 0 ≤ v ∧ v ≤ 9999 else if w = 1 then 1 ≤ v ∧ v ≤ 3 else w = 2 ∧ 0 ≤ v ∧ v ≤ 99) : (w = 0 ∧ 0 ≤ v ∧ v ≤ 9999) ∨ (w = 1 ∧ 1 ≤ v ∧ v ≤ 3) ∨ (w = 2 ∧ 0 ≤ v ∧ v ≤ 99) := by
  by_cases c0 : w = 0
  · rw [if_pos c0] at h
    exact Or.inl ⟨c0, h⟩
  · rw [if_neg c0] at h
    by_cases c1 : w = 1
    · rw [if_pos c1] at h
      exact Or.inr (Or.inl ⟨c1, h⟩)
    · rw [if_neg c1] at h
      exact Or.inr (Or.inr h)
theorem put_old {K : Rw} {p w : Int} (hK : KB K) (hw : w = 0 ∨ w = 1 ∨ w = 2) (hp : 0 ≤ p ∧ p ≤ K 152 - 1) : 0 ≤ K (if w = 0 then p else 73 + 2 * p + w - 1) ∧ K (if w = 0 then p else 73 + 2 * p + w - 1) ≤ 9999 := by
  have hn := hK.1
  have a := hK.2.2.2.1 p (by omega) (by omega)
  have b := hK.2.2.2.2.2.2.1 p (by omega) (by omega)
  rcases hw with rfl | rfl | rfl
  · rw [if_pos rfl]; exact b
  · rw [if_neg (by decide), show 73 + 2 * p + 1 - 1 = 73 + 2 * p by omega]; omega
  · rw [if_neg (by decide), show 73 + 2 * p + 2 - 1 = 73 + 2 * p + 1 by omega]; omega
section
variable {E : ax_E} {m : Nat} {s : Sg} {h : ax_H}
theorem m_putP {p w v : Int} (hG : G32 s) (hK : KB (s 2)) (hp : i2 p = p) (hw : i2 w = w) (hv : i2 v = v) : f_X5_put E (some m) p w v (mdl m s h) = some ((setP (putS s p w v)).1, mdl m (setP (putS s p w v)).2 h) := by
  have hn := hK.1
  unfold f_X5_put putS setP setM
  rw [m_isFact hw hv, Option.bind_some]
  by_cases c1 : (if w = 0 then 0 ≤ v ∧ v ≤ 9999 else if w = 1 then 1 ≤ v ∧ v ≤ 3 else w = 2 ∧ 0 ≤ v ∧ v ≤ 99)
  · rw [if_neg (by rw [b01_z]; exact fun z => z c1), md_ce, Option.bind_some, m_isPerson hG hp hn.1, Option.bind_some]
    simp only [if_neg (show ¬ ¬ _ from fun z => z c1)]
    by_cases c2 : 0 ≤ p ∧ p ≤ s 2 152 - 1
    · rw [if_neg (by rw [b01_z]; exact fun z => z c2)]
      simp only [if_neg (show ¬ ¬ _ from fun z => z c2)]
      have cc := put_w c1
      have po := put_old (w := w) hK (by omega) c2
      have ep : ∀ g : ax_H, f_X5_placeOf E p w g = some ((if w = 0 then p else 73 + 2 * p + w - 1), g) := fun g => m_placeOf hw
      have pl : 0 ≤ (if w = 0 then p else 73 + 2 * p + w - 1) ∧ (if w = 0 then p else 73 + 2 * p + w - 1) < 5764 := by split <;> omega
      unfold putR
      generalize (if w = 0 then p else 73 + 2 * p + w - 1) = q at *
      simp (disch := first | omega | assumption | exact hG _ _ | (refine i2_ofp ?_; omega)) only [ep, f_X5_put, md_ce, md_gR2, md_ld2, md_sto2, m_settled, Option.bind_some, Option.map_some, sw_eq, sw_ne, u1_eq, u1_ne, u1_u1, sw_sw, i2_of, if_pos, if_neg, true_or, or_true, if_true, if_false]
    · rw [if_pos (by rw [b01_z]; exact c2)]
      simp only [if_pos c2]
      rw [md_ce, Option.bind_some, m_refuses (by decide) (by decide), Option.bind_some, if_pos (by decide)]
  · rw [if_pos (by rw [b01_z]; exact c1)]
    simp only [if_pos c1]
    rw [md_ce, Option.bind_some, m_refuses (by decide) (by decide), Option.bind_some, if_pos (by decide)]
end
section
variable {E : ax_E} {h : ax_H} {x t dl dv ds du : Nat} {s : Sg}
/-- where a fact of all people lies -/
def fctA (t : Nat) (w : Int) : Nat := if w = 0 then t + 4 + 1 else if w = 1 then t + 10 else t + 11
theorem c_factsOf {w : Int} (H : REP E h x t dl dv ds du s) (hw : i2 w = w) : f_X0_factsOf E (some x) w h = some (some (fctA t w), h) := by
  have a1 := H.2.1.1
  have rx := H.2.1.2.1
  obtain ⟨t0, t1, t2, t3, t4, t5, t6⟩ := H.tt
  have B := H.bk
  unfold f_X0_factsOf fctA
  rw [hw, show i2 1 = 1 by decide]
  by_cases c0 : w = 0
  · rw [if_pos c0, if_pos c0, f_ce a1 (by decide), Option.bind_some, c_books H, Option.bind_some]
    dsimp only
    rw [f_gR B.1.1 (by decide), B.1.2.1.1, Option.bind_some]
  · rw [if_neg c0, if_neg c0]
    by_cases c1 : w = 1
    · rw [if_pos c1, if_pos c1, f_gR a1 (by decide), rx, Option.bind_some, f_gR t0 (by decide), t5, Option.bind_some]
    · rw [if_neg c1, if_neg c1, f_gR a1 (by decide), rx, Option.bind_some, f_gR t0 (by decide), t6, Option.bind_some]
theorem c_putP {p w v : Int} (H : REP E h x t dl dv ds du s) (hE : Ek E x) (hG : G32 s) (hK : KB (s 2)) (h53 : s 2 153 ≤ 8 ∧ s 2 154 ≤ 8) (hp : i2 p = p) (hw : i2 w = w) (hv : i2 v = v) : ∃ h', f_X0_put E (some x) p w v h = some ((setP (putS s p w v)).1, h') ∧ REP E h' x t dl dv ds du (setP (putS s p w v)).2 ∧ Blk x 8 110 h h' := by
  have a1 := H.2.1.1
  have rx := H.2.1.2.1
  have tl := H.1.1
  have hn := hK.1
  have b0 := (Blk.refl x h).up (c' := 8) (z' := 110) (by decide) (by decide)
  obtain ⟨⟨t0, t1, t2, t3, t4, t5, t6⟩, ⟨i6, i7, i8⟩, B, ⟨e1, e2, e3⟩, ⟨f1, f2, f3⟩, -⟩ := id H.2.2.2.2.1
  have neg : ∀ k : Int, -7 < k → k < 0 → putS s p w v = (k, s) → ∃ (h' : ax_H), ((ax_ce E h (some x) 0).bind fun _ => (f_X0_tell E (some x) k h).bind fun q1 => some (q1.1, q1.2)) = some ((setP (putS s p w v)).1, h') ∧ REP E h' x t dl dv ds du (setP (putS s p w v)).2 ∧ Blk x 8 110 h h' := by
    intro k k0 k1 e
    obtain ⟨g, v1, v2, v3⟩ := c_told (v := k) H b0 k0 (by omega)
    refine ⟨g, ?_, ?_, v3⟩
    · rw [e, f_ce a1 (by decide), Option.bind_some, v1, Option.bind_some]
      rfl
    · rw [e]
      unfold setP setM
      unfold telM at v2
      rw [if_pos k1] at v2 ⊢
      exact v2
  unfold f_X0_put
  rw [c_canBe hw hv, Option.bind_some]
  by_cases c1 : (if w = 0 then 0 ≤ v ∧ v ≤ 9999 else if w = 1 then 1 ≤ v ∧ v ≤ 3 else w = 2 ∧ 0 ≤ v ∧ v ≤ 99)
  · rw [if_neg (by rw [b01_z]; exact fun z => z c1), f_ce a1 (by decide), Option.bind_some, c_isPerson H hK hp, Option.bind_some]
    by_cases c2 : 0 ≤ p ∧ p ≤ s 2 152 - 1
    · rw [if_neg (by rw [b01_z]; exact fun z => z c2)]
      obtain ⟨n, en⟩ : ∃ n : Nat, p = n := ⟨p.toNat, by omega⟩
      have cc := put_w c1
      have po := put_old (w := w) hK (by omega) c2
      have eS : putS s p w v = (s 2 (if w = 0 then p else 73 + 2 * p + w - 1), sw s 2 (putR (s 2) p w v)) := by unfold putS; rw [if_neg (fun z => z c1), if_neg (fun z => z c2)]
      obtain ⟨u0, ⟨u1', u2', u3', u4', u5'⟩, ⟨v1', v2', v3', v4', v5'⟩, w1, w2, w3, w4, w5⟩ := B.1
      obtain ⟨B0, ⟨B1, B2⟩, B3, B4⟩ := id B
      have fT : hT h (fctA t w) = 100 := by unfold fctA; split; exact v1'; split; exact e1; exact f1
      have fL : hL h (fctA t w) = 7 := by unfold fctA; split; exact w1; split; exact e2; exact f2
      have fI : hI h (fctA t w) n = s 2 (if w = 0 then p else 73 + 2 * p + w - 1) := by
        unfold fctA
        rcases cc with z | z | z
        · rw [if_pos z.1, if_pos z.1, en]; exact B3 n (by omega)
        · rw [if_neg (show ¬ w = 0 by omega), if_pos z.1, if_neg (show ¬ w = 0 by omega), en, show 73 + 2 * (n : Int) + w - 1 = 73 + 2 * n by omega]; exact e3 n (by omega)
        · rw [if_neg (show ¬ w = 0 by omega), if_neg (show ¬ w = 1 by omega), if_neg (show ¬ w = 0 by omega), en, show 73 + 2 * (n : Int) + w - 1 = 73 + 2 * n + 1 by omega]; exact f3 n (by omega)
      have fr : t ≤ fctA t w ∧ fctA t w < t + 12 ∧ (w = 0 ∧ fctA t w = t + 5 ∨ w = 1 ∧ fctA t w = t + 10 ∨ w = 2 ∧ fctA t w = t + 11) := by
        unfold fctA
        rcases cc with z | z | z
        · rw [if_pos z.1]; omega
        · rw [if_neg (by omega), if_pos z.1]; omega
        · rw [if_neg (by omega), if_neg (by omega)]; omega
      have O : OnS t 12 h (wI h (fctA t w) n v) := OnS_wI (OnS.refl _ _ _) (by omega)
      have pn : ∀ i, i ≠ (if w = 0 then p else 73 + 2 * p + w - 1) → putR (s 2) p w v i = s 2 i := fun i hi => u1_ne _ hi
      have pe : putR (s 2) p w v (if w = 0 then p else 73 + 2 * p + w - 1) = v := u1_eq _ _ _
      have pl : (w = 0 ∧ (if w = 0 then p else 73 + 2 * p + w - 1) = p) ∨ (w = 1 ∧ (if w = 0 then p else 73 + 2 * p + w - 1) = 73 + 2 * p) ∨ (w = 2 ∧ (if w = 0 then p else 73 + 2 * p + w - 1) = 73 + 2 * p + 1) := by split <;> omega
      obtain ⟨q, eq⟩ : ∃ q, q = (if w = 0 then p else 73 + 2 * p + w - 1) := ⟨_, rfl⟩
      rw [← eq] at pn pe pl fI eS po
      have H2 : REP E (wI h (fctA t w) n v) x t dl dv ds du (sw s 2 (putR (s 2) p w v)) := by
        refine H.st O ⟨B0.wI, ⟨?_, ?_⟩, fun k hk => ?_, fun k hk => ?_⟩ ⟨?_, ?_, ?_⟩ (fun k hk => ?_) (fun k hk => ?_) (fun a z1 z2 => hC_wI_ne (by omega)) h53 (fun i j1 j2 j3 j4 => pn i (by omega))
        · rw [hI_wI_ne (by omega), pn 71 (by omega)]; exact B1
        · rw [hI_wI_ne (by omega), pn 72 (by omega)]; exact B2
        · by_cases ek : w = 0 ∧ k = n
          · have : q = k := by omega
            rw [show fctA t w = t + 4 + 1 by omega, ek.2, hI_wI_eq, show ((n : Nat) : Int) = q by omega, pe]
          · rw [hI_wI_ne (by omega), pn _ (by omega)]; exact B3 k hk
        · have h71 := hK.2.2.2.2.1
          rw [pn 71 (by omega)] at hk
          rw [hI_wI_ne (by omega), hI_wI_ne (by omega), hI_wI_ne (by omega), hI_wI_ne (by omega), pn _ (by omega), pn _ (by omega), pn _ (by omega), pn _ (by omega)]
          exact B4 k hk
        · rw [hI_wI_ne (by omega), pn 152 (by omega)]; exact i6
        · rw [hI_wI_ne (by omega), pn 151 (by omega)]; exact i7
        · rw [hI_wI_ne (by omega), pn 156 (by omega)]; exact i8
        · rw [pn 152 (by omega)] at hk
          by_cases ek : w = 1 ∧ k = n
          · rw [show fctA t w = t + 10 by omega, ek.2, hI_wI_eq, show 73 + 2 * ((n : Nat) : Int) = q by omega, pe]
          · rw [hI_wI_ne (by omega), pn _ (by omega)]; exact e3 k hk
        · rw [pn 152 (by omega)] at hk
          by_cases ek : w = 2 ∧ k = n
          · rw [show fctA t w = t + 11 by omega, ek.2, hI_wI_eq, show 73 + 2 * ((n : Nat) : Int) + 1 = q by omega, pe]
          · rw [hI_wI_ne (by omega), pn _ (by omega)]; exact f3 k hk
      have b2 : Blk x 8 110 h (wI h (fctA t w) n v) := (O.blk (by omega)).up (by decide) (by decide)
      obtain ⟨g3, y1, y2, y3⟩ := c_was (v := s 2 q) H2 hE b2
      refine ⟨g3, ?_, ?_, y3⟩
      · rw [eS]
        unfold setP
        dsimp only
        rw [f_ce a1 (by decide), Option.bind_some, c_factsOf H hw, Option.bind_some]
        dsimp only
        rw [f_ld fT (by decide) (by omega) (by rw [fL]; omega) (by rw [fL]; decide), Option.bind_some, f_ce a1 (by decide), Option.bind_some, c_factsOf H hw, Option.bind_some]
        dsimp only
        rw [f_sto fT (by decide) (by omega) (by rw [fL]; omega) (by rw [fL]; decide), Option.bind_some, en, Int.toNat_natCast, f_ce H2.2.1.1 (by decide), Option.bind_some, fI, y1, Option.bind_some]
      · rw [eS]
        unfold setP setM
        dsimp only
        rw [if_neg (by omega)]
        exact y2
    · rw [if_pos (by rw [b01_z]; exact c2)]
      exact neg _ (by decide) (by decide) (by unfold putS; rw [if_neg (fun z => z c1), if_pos c2])
  · rw [if_pos (by rw [b01_z]; exact c1)]
    exact neg _ (by decide) (by decide) (by unfold putS; rw [if_pos c1])
end
theorem putS_VW {n p w v : Int} {s : Sg} (H : VW n s) (hv : i2 v = v) : VW n (putS s p w v).2 ∧ (-6 < (putS s p w v).1 ∧ (putS s p w v).1 ≤ 9999) := by
  have hn := H.1.2.1.1
  unfold putS
  by_cases c1 : (if w = 0 then 0 ≤ v ∧ v ≤ 9999 else if w = 1 then 1 ≤ v ∧ v ≤ 3 else w = 2 ∧ 0 ≤ v ∧ v ≤ 99)
  · rw [if_neg (show ¬ ¬ _ from fun z => z c1)]
    split
    · exact ⟨H, by dsimp only; omega⟩
    · rename_i c2
      have cc := put_w c1
      have c2' := Classical.not_not.mp c2
      have po := put_old (w := w) H.1.2.1 (by omega) c2'
      have pl : (w = 0 ∧ (if w = 0 then p else 73 + 2 * p + w - 1) = p) ∨ (w = 1 ∧ (if w = 0 then p else 73 + 2 * p + w - 1) = 73 + 2 * p) ∨ (w = 2 ∧ (if w = 0 then p else 73 + 2 * p + w - 1) = 73 + 2 * p + 1) := by split <;> omega
      unfold putR
      generalize (if w = 0 then p else 73 + 2 * p + w - 1) = q at *
      refine ⟨H.row ?_ (u1_32' (H.1.1 2) hv) (H.1.2.2.2.1.sw2 (by rw [u1_ne _ (by omega)]; exact Int.le_refl _)), by dsimp only; omega⟩
      obtain ⟨⟨k1, k2, k3, k4, a1, a2, a3, a4⟩, lv, fv, fs⟩ := H.2.1
      refine ⟨⟨?_, ?_, ?_, fun i i0 i1 => ?_, ⟨?_, ?_, fun i i0 i1 => ?_, fun d d0 d1 => ?_⟩⟩, lv.congr (fun i hi => u1_ne _ (by omega)), fv.congr (u1_ne _ (by omega)) (u1_ne _ (by omega)) (fun i _ _ => u1_ne _ (by omega)), fs.congr (u1_ne _ (by omega)) (u1_ne _ (by omega)) (fun i _ _ => u1_ne _ (by omega))⟩
      · rw [u1_ne _ (by omega)]; exact k1
      · rw [u1_ne _ (by omega)]; exact k2
      · rw [u1_ne _ (by omega), u1_ne _ (by omega)]; exact k3
      · rw [u1_ne _ (by omega)] at i1
        have := k4 i i0 i1
        unfold u1
        split <;> split <;> omega
      · rw [u1_ne _ (by omega)]; exact a1
      · rw [u1_ne _ (by omega)]; exact a2
      · have := a3 i i0 i1
        unfold u1
        split <;> omega
      · rw [u1_ne _ (by omega)] at d1
        rw [u1_ne _ (by omega), u1_ne _ (by omega), u1_ne _ (by omega), u1_ne _ (by omega), u1_ne _ (by omega)]
        exact a4 d d0 d1
  · rw [if_pos c1]
    exact ⟨H, by dsimp only; omega⟩
