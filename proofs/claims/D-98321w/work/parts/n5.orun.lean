/-! Orders: the component runs one, once -/
set_option maxRecDepth 100000
section
variable {E : ax_E} {h h' g : ax_H} {x t dl dv ds du b tg a k : Nat} {s : Sg} {n d r v : Int} {C : Od} {Fz : Nat → Prop}
theorem doneS_ew {hd : Int} {q : Int × Sg} (V : VW n q.2) (h1 : 0 ≤ q.1 ∧ q.1 ≤ 1000000) (h2 : 0 ≤ q.2 0 48 ∧ q.2 0 48 ≤ 1000000) : Ew q.2 (doneS hd q) := by
  refine ⟨fun o ho => ?_, fun k hk => ?_, fun _ => (doneS_VW (hd := hd) V h1 h2).1.1⟩
  · unfold RpO at ho
    unfold doneS
    rw [sw_ne _ (by omega)]
  · unfold RpK at hk
    unfold doneS
    rw [sw_eq, u1_ne _ (by omega)]
    split
    · rfl
    · rw [u1_ne _ (by omega)]
theorem resO_keep (B : OdB C) (V : VW n s) (Dv : DoV d s) (hd : d ≤ 100000) : VW n (resO C s).2 ∧ Ac s (resO C s).2 ∧ (∀ k : Int, k ≠ 28 → (resO C s).2 0 k = s 0 k) ∧ -7 < (resO C s).1 ∧ (resO C s).1 ≤ 1000000 := by
  have hK := V.1.2.1
  unfold resO
  cases hS : sumO C (evO s) with
  | none => exact ⟨V, Ac.refl s, fun _ _ => rfl, by show -7 < (-3 : Int) ∧ (-3 : Int) ≤ 1000000; decide⟩
  | some q =>
    have qb := sumO_b B (EB_evO hK Dv hd) hS
    have iv : i2 q.2.2 = q.2.2 := i2_of (by omega) (by omega)
    have k := actS_keep (hd := C.1) (a := q.1) (b := q.2.1) (v := q.2.2) hK
    have rb := actS_b (hd := C.1) (a := q.1) (b := q.2.1) hK iv
    exact ⟨actS_VW V iv, k.1, k.2, rb.1, rb.2.1⟩
/-- its test holds -/
theorem c_run43 (H : REP E g x t dl dv ds du s) (hE : Ek E x) (V : VW n s) (D : DoC g x s) (Dv : DoV d s) (hd : d ≤ 100000) (B : OdB C) (hb : Frz g x t dl dv ds du b ∧ x + 116 ≤ b) (N : OdN Fz g x b C) (hFz : ∀ c, Fz c → c ≠ x + 17 ∧ c ≠ x + 18 ∧ c ≠ b) (e1 : g.1 + 8 ≤ E.1.1) (e2 : g.2.1 + 1700 ≤ E.1.2) : ∃ (du' : Nat) (h' : ax_H), f_X20_run_43 E (some b) g = some (if (resO C s).1 < 0 then ordC (resO C s).1 else 0, h') ∧ REP E h' x t dl dv ds du' (if (resO C s).1 < 0 then (resO C s).2 else doneS C.1 (resO C s)) ∧ DoC h' x (if (resO C s).1 < 0 then (resO C s).2 else doneS C.1 (resO C s)) ∧ RKo x t dl dv ds du du' g h' ∧ Blk x 8 110 g h' := by
  have hbx := hb.2
  obtain ⟨rk1, rk2, rk3, rk4, rk5⟩ := resO_keep B V Dv hd
  obtain ⟨tg, etg⟩ : ∃ tg, tg = hT g b := ⟨_, rfl⟩
  have htg : tg = 21 ∨ tg = 23 ∨ tg = 24 := by
    rcases N.2 with ⟨-, -, z, -⟩ | ⟨-, z, -⟩
    · exact Or.inl (etg.trans z)
    · rw [etg, z]
      split
      · exact Or.inr (Or.inl rfl)
      · exact Or.inr (Or.inr rfl)
  have t9 : tg ≠ 999 := by omega
  obtain ⟨kk, ek⟩ : ∃ kk, kk = (if tg = 21 then 2 else 6) := ⟨_, rfl⟩
  obtain ⟨g1, eg⟩ : ∃ g1, g1 = wI g b kk 0 := ⟨_, rfl⟩
  have c1 : ∀ a, a ≠ b → g1.2.2 a = g.2.2 a := fun a ha => by rw [eg]; exact hC_wI_ne ha
  have nb : ¬ NO g b := by
    unfold NO
    rw [← etg]
    omega
  have H1 : REP E g1 x t dl dv ds du s := by rw [eg]; exact H.wb hbx nb
  have s1 : g1.1 = g.1 ∧ g1.2.1 = g.2.1 := by rw [eg]; exact ⟨rfl, rfl⟩
  have tb1 : hT g1 b = tg := by rw [eg, hT_wI]; exact etg.symm
  have R1 : ∀ k, hR g1 b k = hR g b k := fun k => by rw [eg, hR_wI]
  have D1 : DoC g1 x s := by
    unfold DoC at *
    rw [eg, hI_wI_ne (by omega), hI_wI_ne (by omega)]
    exact D
  have fr : ∀ a, Fz a → Fz a ∧ eqT (hC g a) (hC g1 a) := fun a ha => ⟨ha, eqT.of (c1 a (hFz a ha).2.2)⟩
  have K1 : RKo x t dl dv ds du du g g1 := RKo_one (b := b) (fun c _ _ q => c1 c q) ⟨tb1.trans etg, R1, by rw [eg, hL_wI], fun k q1 q2 => by
    rw [eg]
    refine hI_wI_ne (Or.inr ?_)
    rw [ek]
    rw [← etg] at q1 q2
    rcases htg with z | z | z
    · rw [if_pos z]; exact q1 z
    · rw [if_neg (by omega)]; exact q2 (Or.inl z)
    · rw [if_neg (by omega)]; exact q2 (Or.inr z)⟩
  have bl1 : Blk x 0 0 g g1 := ⟨by omega, by omega, by omega, by omega, fun c _ _ => c1 c (by omega)⟩
  have hb1 : Frz g1 x t dl dv ds du b := (K1.frz (by omega) hb.1).1
  have gx : ∀ h4 : ax_H, hT h4 b = tg → hR h4 b (if tg = 21 then 3 else 7) = some x → ax_gRs E h4 (some b) [(21, 3), (23, 7), (24, 7)] = some (some x) := fun h4 q1 q2 => by rw [f_gRs q1 t9 (lk3 htg 3 7), q2]
  have rx : hR g1 b (if tg = 21 then 3 else 7) = some x := by
    rw [R1]
    rcases N.2 with ⟨-, -, z1, z2, -⟩ | ⟨-, z1, -, z2, -⟩
    · rw [if_pos (etg.trans z1)]; exact z2
    · rw [if_neg (by rw [etg, z1]; split <;> decide)]; exact z2
  -- what it does
  have act : ∃ (du' : Nat) (h4 : ax_H), (ax_dp E g1 (some b) fun t => if t = 21 then f_X21_does E (some b) g1 else if t = 23 ∨ t = 24 then f_X22_does E (some b) g1 else none) = some ((resO C s).1, h4) ∧ REP E h4 x t dl dv ds du' (resO C s).2 ∧ (hI h4 x 15 = s 0 48 ∧ hI h4 x 16 = if C.1 = 26 ∨ (resO C s).1 < 0 then s 0 49 else (resO C s).1) ∧ RKo x t dl dv ds du du' g1 h4 ∧ Blk x 8 110 g1 h4 := by
    rw [f_dp tb1 t9]
    rcases N.2 with ⟨n1, n0, n2, n3, n4, n5, -⟩ | ⟨n1, n2, n3, n4, n5, n6, n7, -⟩
    · have e21 : tg = 21 := etg.trans n2
      have er : resO C s = waitO s := by
        unfold resO sumO
        rw [n0]
        show actS s C.1 0 0 0 = _
        unfold actS
        rw [if_pos n1]
      obtain ⟨du', h4, l1, l2, l3, l4⟩ := c_waitNowF (E := E) H1 hE V.1.1 V.1.2.1 V.1.2.2.2.1 (by omega) (by omega)
      have xs := ceq l4.2.2
      rw [if_pos e21, er, if_pos (Or.inl n1)]
      refine ⟨du', h4, ?_, l2, ⟨(xs.2.2.1 15).trans D1.1, (xs.2.2.1 16).trans D1.2⟩, l4.o, l3⟩
      unfold f_X21_does
      rw [f_gR (tb1.trans e21) (by decide), Option.bind_some, R1, n4, f_ce H1.2.1.1 (by decide), Option.bind_some, l1, Option.bind_some]
    · have t2 : tg = 23 ∨ tg = 24 := by rw [etg, n2]; split; exact Or.inl rfl; exact Or.inr rfl
      obtain ⟨s1', s2', s3', m1, m2, m3, m4, m5, m6⟩ := n7
      obtain ⟨du', h4, l1, l2, l3, l4, l5⟩ := c_odo22 (E := E) (C := C) (Fz := Fz) H1 hE V D1 Dv hd B ⟨hb1, hbx⟩ n1 (tb1.trans (etg.trans n2)) ⟨(R1 3).trans n3, (R1 7).trans n4, (R1 8).trans n5⟩ ⟨s1', s2', s3', (R1 0).trans m1, (R1 1).trans m2, (R1 2).trans m3, m4.fr fr, m5.fr fr, m6.fr fr⟩ hFz (by
        rw [eg, ek, if_neg (by omega)]
        exact hI_wI_eq) (by omega) (by omega)
      rw [if_neg (by omega), if_pos t2]
      refine ⟨du', h4, l1, l2, ⟨l3.1, l3.2.trans ?_⟩, l4, l5⟩
      by_cases c : (resO C s).1 < 0
      · rw [if_pos c, if_pos (Or.inr c)]
      · rw [if_neg c, if_neg (by omega)]
  obtain ⟨du', h4, a1, a2, a3, a4, a5⟩ := act
  have p43 : f_X20_run_43 E (some b) g = if (resO C s).1 < 0 then (if (resO C s).1 = -5 then some (-5, h4) else some (-3, h4)) else some (0, wI h4 x 15 (hI h4 x 15 + 1)) := by
    have ar : ax_gRs E h4 (some b) [(21, 3), (23, 7), (24, 7)] = some (some x) := by
      have q := a4.2 b hb1
      exact gx h4 (q.1.trans tb1) ((congrFun q.2.2.1 _).trans rx)
    unfold f_X20_run_43
    rw [if_pos (Or.inl rfl), f_pIs etg.symm t9 (lk3 htg 2 6), ← ek, Option.bind_some, ← eg, a1, Option.bind_some]
    dsimp only
    rw [i2_of (a := (resO C s).1) (by omega) (by omega), show i2 (-5) = -5 by decide, ar, Option.bind_some, f_gI a2.2.1.1 (by decide), Option.bind_some, f_pI a2.2.1.1 (by decide), Option.bind_some]
  have b5 : Blk x 8 110 g h4 := (bl1.trans a5).up (by decide) (by decide)
  by_cases c : (resO C s).1 < 0
  · rw [p43, if_pos c, if_pos c, if_pos c]
    refine ⟨du', h4, ?_, a2, ⟨a3.1.trans (rk3 48 (by decide)).symm, ?_⟩, K1.trans a4 (by omega), b5⟩
    · unfold ordC
      rw [if_neg (show ¬ (resO C s).1 = 0 by omega)]
      by_cases c5 : (resO C s).1 = -5
      · rw [if_pos c5, if_pos c5]
      · rw [if_neg c5, if_neg c5]
    · rw [a3.2, if_pos (Or.inr c), rk3 49 (by decide)]
  · rw [p43, if_neg c, if_neg c, if_neg c]
    have h48 : 0 ≤ (resO C s).2 0 48 ∧ (resO C s).2 0 48 ≤ 1000000 := by
      rw [rk3 48 (by decide)]
      have := Dv.1
      omega
    have w := doneS_ew (hd := C.1) rk1 ⟨by omega, rk5⟩ h48
    refine ⟨du', _, rfl, (a2.keep (Kp_x (by decide))).ew w, ⟨?_, ?_⟩, (K1.trans a4 (by omega)).trans RKo_x (by have := b5.1; omega), (b5.trans (Blk_x trivial)).up (by decide) (by decide)⟩
    · rw [hI_wI_eq, a3.1]
      unfold doneS
      rw [sw_eq, u1_eq, rk3 48 (by decide)]
    · rw [hI_wI_ne (by omega), a3.2]
      unfold doneS
      rw [sw_eq, u1_ne _ (by decide)]
      by_cases c26 : C.1 = 26
      · rw [if_pos (Or.inl c26), if_pos c26, rk3 49 (by decide)]
      · rw [if_neg (by omega), if_neg c26, u1_eq]
/-- once -/
theorem c_orun (H : REP E h x t dl dv ds du s) (hE : Ek E x) (V : VW n s) (D : DoC h x s) (Dv : DoV d s) (hd : d ≤ 100000) (B : OdB C) (hb : Frz h x t dl dv ds du b ∧ x + 116 ≤ b) (N : OdN Fz h x b C) (hFz : ∀ c, Fz c → c ≠ x + 17 ∧ c ≠ x + 18 ∧ c ≠ b) (e1 : h.1 + 8 ≤ E.1.1) (e2 : h.2.1 + 1700 ≤ E.1.2) : ∃ (du' : Nat) (h' : ax_H), f_X20_run E (some b) h = some ((onceS C s).1, h') ∧ REP E h' x t dl dv ds du' (onceS C s).2 ∧ DoC h' x (onceS C s).2 ∧ RKo x t dl dv ds du du' h h' ∧ Blk x 8 110 h h' := by
  have hG := V.1.1
  have hK := V.1.2.1
  have hbx := hb.2
  obtain ⟨tg, etg⟩ : ∃ tg, tg = hT h b := ⟨_, rfl⟩
  have htg : tg = 21 ∨ tg = 23 ∨ tg = 24 := by
    rcases N.2 with ⟨-, -, z, -⟩ | ⟨-, z, -⟩
    · exact Or.inl (etg.trans z)
    · rw [etg, z]
      split
      · exact Or.inr (Or.inl rfl)
      · exact Or.inr (Or.inr rfl)
  have t9 : tg ≠ 999 := by omega
  have rx : hR h b (if tg = 21 then 3 else 7) = some x := by
    rcases N.2 with ⟨-, -, z1, z2, -⟩ | ⟨-, z1, -, z2, -⟩
    · rw [if_pos (etg.trans z1)]; exact z2
    · rw [if_neg (by rw [etg, z1]; split <;> decide)]; exact z2
  have O : OdX h x b tg := ⟨htg, etg.symm, rx⟩
  obtain ⟨h1, p1, H1, D1, c1, s1, s2, A1⟩ := c_setNow H hG hK O hbx D
  have cb := ceq (c1 b (by omega) (by omega))
  have O1 : OdX h1 x b tg := O.same (c1 b (by omega) (by omega))
  have fr1 : ∀ a, Fz a → Fz a ∧ eqT (hC h a) (hC h1 a) := fun a ha => ⟨ha, eqT.of (c1 a (hFz a ha).1 (hFz a ha).2.1)⟩
  have N1 : OdN Fz h1 x b C := N.fr fr1 ⟨cb.1, cb.2.2.2, fun _ => cb.2.2.1 1, fun _ => cb.2.2.1 5⟩
  have K1 : RKo x t dl dv ds du du h h1 := ⟨Or.inl rfl, fun a ha => eqO_of (c1 a (by have m := ha.2.2; unfold Mut at m; omega) (by have m := ha.2.2; unfold Mut at m; omega))⟩
  have bl1 : Blk x 0 0 h h1 := ⟨by omega, by omega, by omega, by omega, fun c _ _ => c1 c (by omega) (by omega)⟩
  have hb1 : Frz h1 x t dl dv ds du b := (K1.frz (by omega) hb.1).1
  -- its test
  obtain ⟨tr, etr⟩ : ∃ tr, tr = hR h1 b (if tg = 21 then 0 else 4) := ⟨_, rfl⟩
  have tst : (tr = none ∧ C.2.2.2 = fun _ => some true) ∨ ∃ u, tr = some u ∧ TestN 1 Fz h1 x 28 u C.2.2.2 := by
    rcases N1.2 with ⟨-, -, z1, -, -, -, z2⟩ | ⟨-, z1, -, -, -, -, -, z2⟩
    · rw [etr, if_pos (O1.2.1.symm.trans z1)]; exact z2
    · rw [etr, if_neg (by rw [← O1.2.1, z1]; split <;> decide)]; exact z2
  rw [onceS_res]
  have run43 : ∀ g : ax_H, REP E g x t dl dv ds du s → DoC g x s → OdN Fz g x b C → RKo x t dl dv ds du du h g → Blk x 0 0 h g → C.2.2.2 (evO s) = some true → ∃ (du' : Nat) (h' : ax_H), f_X20_run_43 E (some b) g = some ((if C.2.2.2 (evO s) = some true then (if (resO C s).1 < 0 then (ordC (resO C s).1, (resO C s).2) else (0, doneS C.1 (resO C s))) else (0, s) : Int × Sg).1, h') ∧ REP E h' x t dl dv ds du' (if C.2.2.2 (evO s) = some true then (if (resO C s).1 < 0 then (ordC (resO C s).1, (resO C s).2) else (0, doneS C.1 (resO C s))) else (0, s) : Int × Sg).2 ∧ DoC h' x (if C.2.2.2 (evO s) = some true then (if (resO C s).1 < 0 then (ordC (resO C s).1, (resO C s).2) else (0, doneS C.1 (resO C s))) else (0, s) : Int × Sg).2 ∧ RKo x t dl dv ds du du' h h' ∧ Blk x 8 110 h h' := by
    intro g Hg Dg Ng Kg Bg ht
    obtain ⟨du', h', q1, q2, q3, q4, q5⟩ := c_run43 (E := E) (d := d) Hg hE V Dg Dv hd B ⟨(Kg.frz Bg.1 hb.1).1, hbx⟩ Ng hFz (by have := Bg.2.1; omega) (by have := Bg.2.2.2.1; omega)
    rw [if_pos ht]
    refine ⟨du', h', ?_, ?_, ?_, Kg.trans q4 Bg.1, (Bg.trans q5).up (by decide) (by decide)⟩
    · rw [q1]
      by_cases c : (resO C s).1 < 0
      · rw [if_pos c, if_pos c]
      · rw [if_neg c, if_neg c]
    · by_cases c : (resO C s).1 < 0
      · rw [if_pos c] at q2 ⊢; exact q2
      · rw [if_neg c] at q2 ⊢; exact q2
    · by_cases c : (resO C s).1 < 0
      · rw [if_pos c] at q3 ⊢; exact q3
      · rw [if_neg c] at q3 ⊢; exact q3
  have gt : ax_gRs E h1 (some b) [(21, 0), (23, 4), (24, 4)] = some tr := by rw [f_gRs O1.2.1 t9 (lk3 htg 0 4), etr]
  unfold f_X20_run
  rw [f_dp etg.symm t9, if_pos htg, p1, Option.bind_some, gt, Option.bind_some]
  rcases tst with ⟨t1, t2⟩ | ⟨u, t1, t2⟩
  · rw [if_pos t1]
    exact run43 h1 H1 D1 N1 K1 bl1 (by rw [t2])
  · have T1 := tc17 H1
    have ev := evT_x (c_test A1 (EB_evO hK Dv hd) 64 28 u C.2.2.2 (by decide) t2)
    obtain ⟨H2, D2, c2, s3, s4⟩ := evX_rep (C.2.2.2 (evO s)) H1 D1
    have v2 := evX_1 (C.2.2.2 (evO s)) A1.2.1
    obtain ⟨h2, e2'⟩ : ∃ h2, h2 = evX h1 (x + 17) (C.2.2.2 (evO s)) := ⟨_, rfl⟩
    rw [← e2'] at ev H2 D2 c2 s3 s4 v2
    have O2 : OdX h2 x b tg := O1.same (c2 b (by omega))
    have T2 := tc17 H2
    have cb2 := ceq (c2 b (by omega))
    have N2 : OdN Fz h2 x b C := N1.fr (fun a ha => ⟨ha, eqT.of (c2 a (hFz a ha).1)⟩) ⟨cb2.1, cb2.2.2.2, fun _ => cb2.2.2.1 1, fun _ => cb2.2.2.1 5⟩
    have K2 : RKo x t dl dv ds du du h h2 := ⟨Or.inl rfl, fun a ha => (K1.2 a ha).trans (eqO_of (c2 a (by have m := ha.2.2; unfold Mut at m; omega)))⟩
    have bl2 : Blk x 0 0 h h2 := ⟨by omega, by omega, by omega, by omega, fun c q1 q2 => (c2 c (by omega)).trans (c1 c (by omega) (by omega))⟩
    rw [if_neg (by rw [t1]; exact fun z => by cases z), t1, Option.bind_some, O1.g, Option.bind_some, f_gR T1.1 (by decide), Option.bind_some, T1.2.1, ev, Option.bind_some]
    dsimp only
    by_cases ct : C.2.2.2 (evO s) = some true
    · have w0 : hI h2 (x + 17) 1 = 0 := by rw [v2, ct]; rfl
      rw [show tv (C.2.2.2 (evO s)) = 1 from if_pos ct, if_neg (by decide), O2.g, Option.bind_some, f_gR T2.1 (by decide), Option.bind_some, T2.2.1, f_gI T2.2.2.1 (by decide), Option.bind_some, w0, if_pos (by decide)]
      exact run43 h2 H2 D2 N2 K2 bl2 ct
    · rw [show tv (C.2.2.2 (evO s)) = 0 from if_neg ct, if_pos (by decide), if_neg ct]
      unfold f_X20_run_41
      exact ⟨du, h2, rfl, H2, D2, K2, bl2.up (by decide) (by decide)⟩
end
