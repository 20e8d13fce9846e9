/-! Secrets, what can be denied: the component -/
set_option maxRecDepth 100000
section
variable {E : ax_E} {h h' : ax_H} {x t dl dv ds du b : Nat} {s : Sg} {K : Rw}
theorem BK.pp (B : BK h b K) (hK : K32 K) (h0 : 0 ≤ K 71) (h1 : K 71 ≤ 16) : PpW h b (K 72) (owed K) := by
  obtain ⟨B0, ⟨B1, B2⟩, B3, B4⟩ := B
  refine ⟨B0, B2, by rw [B1]; omega, fun k hk => ?_, fun p q => ?_⟩
  · rw [B1] at hk
    obtain ⟨k1, k2, -⟩ := B4 k hk
    rw [k1, k2]
    exact ⟨hK _, hK _⟩
  · unfold hOw owed
    rw [B1]
    refine sm_congr (fun k hk => ?_)
    obtain ⟨k1, k2, k3, -⟩ := B4 k (by omega)
    rw [k1, k2, k3]
theorem c_addW {d c v : Int} (hB : BK h b K) (hK : K32 K) (h0 : 0 ≤ K 71) (h1 : K 71 ≤ 16) (hd : i2 d = d) (hc : i2 c = c) : ∃ h', f_X2_add E (some b) d c v h = some h' ∧ PpW h' b (K 72) (moreW K d c v) ∧ OnS b 6 h h' := by
  have hB0 := hB
  obtain ⟨⟨t0, ⟨r0, r1, r2, r3, r4⟩, ⟨t1, t2, t3, t4, t5⟩, l1, l2, l3, l4, l5⟩, ⟨c5, c6⟩, cp, ck⟩ := hB
  obtain ⟨n, hn⟩ : ∃ n : Nat, K 71 = n := ⟨(K 71).toNat, by omega⟩
  refine ⟨wI (wI (wI (wI (wI h (b + 2) (K 71).toNat d) (b + 3) (K 71).toNat c) (b + 4) (K 71).toNat v) b 5 (K 71 + 1)) (b + 5) (K 71).toNat (K 72), ?_, ?_, ?_⟩
  · unfold f_X2_add
    simp (disch := first | assumption | omega | (simp only [hT_wI, hL_wI]; first | assumption | omega)) only [f_gR, f_gI, f_sto, f_pI, hR_wI, hI_wI_ne, r1, r2, r3, r4, c5, c6, Option.bind_some]
  · rw [hn, Int.toNat_natCast]
    have e5 : hI (wI (wI (wI (wI (wI h (b + 2) n d) (b + 3) n c) (b + 4) n v) b 5 ((n : Int) + 1)) (b + 5) n (K 72)) b 5 = ((n + 1 : Nat) : Int) := by
      rw [hI_wI_ne (by omega), hI_wI_eq]
      omega
    have e2 : ∀ k, hI (wI (wI (wI (wI (wI h (b + 2) n d) (b + 3) n c) (b + 4) n v) b 5 ((n : Int) + 1)) (b + 5) n (K 72)) (b + 2) k = if k = n then d else hI h (b + 2) k := by
      intro k
      rw [hI_wI_ne (by omega), hI_wI_ne (by omega), hI_wI_ne (by omega), hI_wI_ne (by omega), hI_wI]
      by_cases e : k = n
      · rw [if_pos ⟨rfl, e⟩, if_pos e]
      · rw [if_neg (fun z => e z.2), if_neg e]
    have e3 : ∀ k, hI (wI (wI (wI (wI (wI h (b + 2) n d) (b + 3) n c) (b + 4) n v) b 5 ((n : Int) + 1)) (b + 5) n (K 72)) (b + 3) k = if k = n then c else hI h (b + 3) k := by
      intro k
      rw [hI_wI_ne (by omega), hI_wI_ne (by omega), hI_wI_ne (by omega), hI_wI]
      by_cases e : k = n
      · rw [if_pos ⟨rfl, e⟩, if_pos e]
      · rw [if_neg (fun z => e z.2), if_neg e, hI_wI_ne (by omega)]
    have e4 : ∀ k, hI (wI (wI (wI (wI (wI h (b + 2) n d) (b + 3) n c) (b + 4) n v) b 5 ((n : Int) + 1)) (b + 5) n (K 72)) (b + 4) k = if k = n then v else hI h (b + 4) k := by
      intro k
      rw [hI_wI_ne (by omega), hI_wI_ne (by omega), hI_wI]
      by_cases e : k = n
      · rw [if_pos ⟨rfl, e⟩, if_pos e]
      · rw [if_neg (fun z => e z.2), if_neg e, hI_wI_ne (by omega), hI_wI_ne (by omega)]
    refine ⟨hB0.1.wI.wI.wI.wI.wI, ?_, by rw [e5]; omega, fun k hk => ?_, fun p q => ?_⟩
    · rw [hI_wI_ne (by omega), hI_wI_ne (by omega), hI_wI_ne (by omega), hI_wI_ne (by omega), hI_wI_ne (by omega)]
      exact c6
    · rw [e5] at hk
      rw [e2, e3]
      by_cases e : k = n
      · rw [if_pos e, if_pos e]; exact ⟨hd, hc⟩
      · rw [if_neg e, if_neg e]
        obtain ⟨k1, k2, -⟩ := ck k (by omega)
        rw [k1, k2]
        exact ⟨hK _, hK _⟩
    · unfold hOw moreW
      rw [e5, Int.toNat_natCast]
      simp only [sm]
      rw [e2 n, e3 n, e4 n, if_pos rfl, if_pos rfl, if_pos rfl]
      congr 1
      unfold owed
      rw [hn, Int.toNat_natCast]
      refine sm_congr (fun k hk => ?_)
      obtain ⟨k1, k2, k3, -⟩ := ck k (by omega)
      have kn : ¬ k = n := by clear e5; omega
      rw [e2, e3, e4, if_neg kn, if_neg kn, if_neg kn, k1, k2, k3]
  · exact OnS_wI (OnS_wI (OnS_wI (OnS_wI (OnS_wI (OnS.refl _ _ _) (by omega)) (by omega)) (by omega)) (by omega)) (by omega)
/-- heaps in which only what may be has changed -/
def KpZ (x : Nat) (h g : ax_H) : Prop := Kp x h g ∧ g.1 = h.1 ∧ g.2.1 = h.2.1
theorem KpZ.blk {g : ax_H} (q : KpZ x h g) : Blk x 8 110 h g := ⟨by rw [q.2.1]; exact Nat.le_refl _, by rw [q.2.1]; omega, by rw [q.2.2]; exact Nat.le_refl _, by rw [q.2.2]; omega, fun b b1 b2 => q.1.2.2.2.2.2.2 b b1 b2⟩
/-- the street's books laid on paper -/
theorem c_paper {g : ax_H} (H1 : REP E g x t dl dv ds du s) (hK : KB (s 2)) : ax_gR E g (some x) 0 13 = some (some (x + 23)) ∧ hT g (x + 23) = 2 ∧ ∃ g1, f_X2_as E (some (x + 23)) (some (t + 4)) g = some (some (x + 23), g1) ∧ BK g1 (x + 23) (s 2) ∧ KpZ x g g1 := by
  have h71 := hK.2.2.2.2.1
  obtain ⟨a1, a2, ⟨-, -, -, -, -, -, -, a13, -⟩, -, -, -, -, -, -, a23, -⟩ := H1.2.1
  obtain ⟨q1, q2, q3⟩ := H1.1.1
  obtain ⟨g1, p1, B1, O1⟩ := c_as (E := E) (a := x + 23) a23 H1.bk (by omega) h71.1 h71.2
  exact ⟨by rw [f_gR a1 (by decide), a13], a23.1, g1, p1, B1, Kp_on (Or.inl rfl) O1, O1.1.1, O1.1.2.1⟩
theorem c_secret {i : Int} (H : REP E h x t dl dv ds du s) (hG : G32 s) (hK : KB (s 2)) (hF : FoV (s 2) 119 154 1) (hi : i2 i = i) : ∃ h', f_X0_secret E (some x) i h = some (secretP s i, h') ∧ REP E h' x t dl dv ds du s ∧ Blk x 8 110 h h' := by
  have h71 := hK.2.2.2.2.1
  have hn := hK.1
  unfold f_X0_secret f_X0_secret_4 secretP
  by_cases c0 : i < -1
  · rw [if_pos c0]
    have e : lb_X0_secret_4 E (some x) i 0 0 h = some (.inr (-1, h)) := by
      simp only [lb_X0_secret_4, f_X0_secret_105]
      rw [if_pos (by decide), hi, show i2 (-1) = -1 by decide, if_pos c0, if_neg (by omega)]
      rfl
    have e2 := it_done (body := fun st : Int × Int × ax_H => lb_X0_secret_4 E (some x) i st.1 st.2.1 st.2.2) (s := (0, 0, h)) e
    exact ⟨h, e2, H, (Blk.refl x h).up (by decide) (by decide)⟩
  · rw [if_neg c0]
    obtain ⟨g', q, e1⟩ := it_run (body := fun st : Int × Int × ax_H => lb_X0_secret_4 E (some x) i st.1 st.2.1 st.2.2) (fun n (k : Nat) g => (n, (k : Int), g)) (fun r g => (r, g)) (Q := KpZ x h) (V := fun k n => 0 ≤ n ∧ n ≤ k) (f := seF s i) (fin := fun n => if i = -1 then n else -1) 490 (by
      rintro k n g hk hv q1
      have H1 := H.keep q1.1
      have a1 := H1.2.1.1
      have t1 : (k : Int).tdiv 10 = (k : Int) / 10 := Int.tdiv_eq_ediv_of_nonneg (by omega)
      have t2 : ((k : Int) / 10).tdiv 7 = (k : Int) / 10 / 7 := Int.tdiv_eq_ediv_of_nonneg (by omega)
      have t5 : (k : Int) / 10 / 7 = (k : Int) / 70 := by omega
      have t3 : ((k : Int) / 10).tmod 7 = (k : Int) / 10 % 7 := Int.tmod_eq_emod_of_nonneg (by omega)
      have t4 : (k : Int).tmod 10 = (k : Int) % 10 := Int.tmod_eq_emod_of_nonneg (by omega)
      have two := c_areTwo (E := E) (p := (k : Int) / 70) (q := (k : Int) / 10 % 7) H1 hK (i2_of (by omega) (by omega)) (i2_of (by omega) (by omega))
      simp only [lb_X0_secret_4, f_X0_secret_99]
      rw [i2_of (a := (k : Int)) (by omega) (by omega), show i2 490 = 490 by decide, if_pos (by omega), hi, show i2 (-1) = -1 by decide, if_neg c0, show i2 10 = 10 by decide, if_neg (by decide), show i2 7 = 7 by decide, if_neg (by decide), if_neg (by decide), if_neg (by decide), t1, i2_of (a := (k : Int) / 10) (by omega) (by omega), t2, t3, t4, t5, f_ce a1 (by decide), Option.bind_some, two, Option.bind_some]
      by_cases c1 : ((0 ≤ (k : Int) / 70 ∧ (k : Int) / 70 ≤ s 2 152 - 1) ∧ (0 ≤ (k : Int) / 10 % 7 ∧ (k : Int) / 10 % 7 ≤ s 2 152 - 1) ∧ (k : Int) / 70 ≠ (k : Int) / 10 % 7)
      · obtain ⟨p1, p2, g1, p3, B1, z1⟩ := c_paper (E := E) H1 hK
        obtain ⟨g2, p4, P2, O2⟩ := c_addW (E := E) (d := (k : Int) / 70) (c := (k : Int) / 10 % 7) (v := 20 * ((k : Int) % 10 + 1)) B1 (hG 2) h71.1 h71.2 (i2_of (by omega) (by omega)) (i2_of (by omega) (by omega))
        have k2 : Kp x h g2 := (q1.1.trans z1.1).trans (Kp_on (Or.inl rfl) O2)
        have H2 := H.keep k2
        obtain ⟨g3, p5, z3⟩ := c_isScuffed (E := E) (W := seW s k) H2 hG hK hF P2 (Or.inr (by omega)) (se_w hK.2.2.2.2 (by omega))
        have r13 : ax_gR E g2 (some x) 0 13 = some (some (x + 23)) := (c_paper (E := E) H2 hK).1
        refine ⟨g3, ⟨k2.trans z3.1, by rw [z3.2.1, O2.1.1, z1.2.1, q1.2.1], by rw [z3.2.2.1, O2.1.2.1, z1.2.2, q1.2.2]⟩, ?_⟩
        rw [if_neg (by rw [b01_z]; exact fun z => z c1), p1, Option.bind_some, f_ce a1 (by decide), Option.bind_some, c_books H1, Option.bind_some]
        dsimp only
        rw [f_ce p2 (by decide), Option.bind_some, p3, Option.bind_some, if_neg (by decide), f_ce B1.1.1 (by decide), Option.bind_some, p4, Option.bind_some, r13, Option.bind_some, f_ce H2.2.1.1 (by decide), Option.bind_some, p5, Option.bind_some]
        dsimp only
        have w01 := soS_01 (s 2) (seW s k)
        rw [i2_of (a := soS _ _) (by omega) (by omega)]
        by_cases c2 : soS (s 2) (seW s k) = 0
        · have nb : ¬ seB s k = true := by unfold seB; rw [decide_eq_true_eq]; intro z; have := z.2; omega
          exact Or.inl ⟨n, by unfold seF; rw [if_neg nb], by omega, by rw [if_pos c2]; simp⟩
        · have yb : seB s k = true := by unfold seB; rw [decide_eq_true_eq]; exact ⟨c1, by omega⟩
          rw [if_neg c2, i2_of (a := n) (by omega) (by omega)]
          by_cases c3 : n = i
          · exact Or.inr ⟨(k : Int), by unfold seF; rw [if_pos yb, if_pos c3], by rw [if_pos c3]; rfl⟩
          · exact Or.inl ⟨n + 1, by unfold seF; rw [if_pos yb, if_neg c3], by omega, by rw [if_neg c3]; simp⟩
      · have nb : ¬ seB s k = true := by unfold seB; rw [decide_eq_true_eq]; exact fun z => c1 z.1
        refine ⟨_, q1, Or.inl ⟨n, by unfold seF; rw [if_neg nb], by omega, ?_⟩⟩
        rw [if_pos (by rw [b01_z]; exact c1)]
        simp) (by
      rintro n g hv q1
      refine ⟨_, q1, ?_⟩
      simp only [lb_X0_secret_4, f_X0_secret_105]
      rw [if_neg (by decide), hi, show i2 (-1) = -1 by decide]
      by_cases c : i = -1
      · rw [if_pos c, if_pos c]; rfl
      · rw [if_neg c, if_neg c]; rfl) 490 0 0 h (by omega) (by omega) ⟨Kp.refl x h, rfl, rfl⟩
    exact ⟨g', e1, H.keep q.1, q.blk⟩
theorem c_denied (H : REP E h x t dl dv ds du s) (hG : G32 s) (hK : KB (s 2)) (hF : FoV (s 2) 119 154 1) : ∃ h', f_X0_denied E (some x) h = some (deniedP s, h') ∧ REP E h' x t dl dv ds du s ∧ Blk x 8 110 h h' := by
  have h71 := hK.2.2.2.2.1
  have hn := hK.1
  unfold f_X0_denied f_X0_denied_4 deniedP
  obtain ⟨g', q, e1⟩ := it_run (body := fun st : Int × Int × ax_H => lb_X0_denied_4 E (some x) st.1 st.2.1 st.2.2) (fun n (k : Nat) g => (n, (k : Int), g)) (fun r g => (r, g)) (Q := KpZ x h) (V := fun _ _ => True) (f := fun a k => (.inl (deF (s 2) a k) : Int ⊕ Int)) (fin := id) (s 2 71).toNat (by
      rintro k a g hk - q1
      have H1 := H.keep q1.1
      have a1 := H1.2.1.1
      have B := H1.bk
      obtain ⟨p1, p2, g1, p3, B1, z1⟩ := c_paper (E := E) H1 hK
      obtain ⟨g2, p4, B2, O2⟩ := c_drop (E := E) (d := (k : Int)) B1 (by omega) (by omega) h71.2
      have r71 : removesS (s 2) k 71 = s 2 71 - 1 := by
        unfold removesS
        rw [cpR_out (by omega), u1_eq]
      have r72 : removesS (s 2) k 72 = s 2 72 := by
        unfold removesS
        rw [cpR_out (by omega), u1_ne _ (by decide)]
      have P2 := B2.pp (removes_32 (hG 2) h71.1 h71.2) (by omega) (by omega)
      rw [r72] at P2
      have eW : owed (removesS (s 2) k) = moreW (s 2) (s 2 (7 + 4 * (k : Int))) (s 2 (7 + 4 * (k : Int) + 1)) (- s 2 (7 + 4 * (k : Int) + 2)) := by
        funext p q
        exact owed_removes h71.2 (by omega) p q
      rw [eW] at P2
      have k2 : Kp x h g2 := (q1.1.trans z1.1).trans (Kp_on (Or.inl rfl) O2)
      have H2 := H.keep k2
      obtain ⟨g3, p5, z3⟩ := c_isScuffed (E := E) H2 hG hK hF P2 (Or.inr (by omega)) (de_w hK.2.2.2.2 (by omega))
      have r13 : ax_gR E g2 (some x) 0 13 = some (some (x + 23)) := (c_paper (E := E) H2 hK).1
      have w01 := soS_01 (s 2) (moreW (s 2) (s 2 (7 + 4 * (k : Int))) (s 2 (7 + 4 * (k : Int) + 1)) (- s 2 (7 + 4 * (k : Int) + 2)))
      refine ⟨g3, ⟨k2.trans z3.1, by rw [z3.2.1, O2.1.1, z1.2.1, q1.2.1], by rw [z3.2.2.1, O2.1.2.1, z1.2.2, q1.2.2]⟩, Or.inl ⟨_, rfl, trivial, ?_⟩⟩
      simp only [lb_X0_denied_4, f_X0_denied_49]
      rw [f_ce a1 (by decide), Option.bind_some, c_books H1, Option.bind_some]
      dsimp only
      rw [f_gI B.1.1 (by decide), B.2.1.1, Option.bind_some, i2_of (a := (k : Int)) (by omega) (by omega), i2_of (a := s 2 71) (by omega) (by omega), if_pos (by omega), p1, Option.bind_some, f_ce a1 (by decide), Option.bind_some, c_books H1, Option.bind_some]
      dsimp only
      rw [f_ce p2 (by decide), Option.bind_some, p3, Option.bind_some, f_ce B1.1.1 (by decide), Option.bind_some, p4, Option.bind_some, r13, Option.bind_some, f_ce H2.2.1.1 (by decide), Option.bind_some, p5, Option.bind_some]
      dsimp only
      rw [i2_of (a := soS _ _) (by omega) (by omega)]
      unfold deF
      by_cases c2 : soS (s 2) (moreW (s 2) (s 2 (7 + 4 * (k : Int))) (s 2 (7 + 4 * (k : Int) + 1)) (- s 2 (7 + 4 * (k : Int) + 2))) = 0
      · rw [if_pos c2, if_pos c2]; simp
      · rw [if_neg c2, if_neg c2]; simp) (by
      rintro n g - q1
      have H1 := H.keep q1.1
      have a1 := H1.2.1.1
      have B := H1.bk
      refine ⟨_, q1, ?_⟩
      simp only [lb_X0_denied_4]
      rw [f_ce a1 (by decide), Option.bind_some, c_books H1, Option.bind_some]
      dsimp only
      rw [f_gI B.1.1 (by decide), B.2.1.1, Option.bind_some, i2_of (a := (((s 2 71).toNat : Nat) : Int)) (by omega) (by omega), i2_of (a := s 2 71) (by omega) (by omega), if_neg (by omega)]
      rfl) (s 2 71).toNat 0 0 h (by omega) trivial ⟨Kp.refl x h, rfl, rfl⟩
  exact ⟨g', e1, H.keep q.1, q.blk⟩
end
