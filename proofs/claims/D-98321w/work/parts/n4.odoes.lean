/-! Orders: the component lends, repays, waits -/
set_option maxRecDepth 100000
/-- the same but for whether an order is off -/
def eqO (c c' : ax_C) : Prop := c'.1 = c.1 ∧ c'.2.1 = c.2.1 ∧ c'.2.2.2 = c.2.2.2 ∧ ∀ k, (c.1 = 15 → k ≠ 3) → (c.1 = 21 → k ≠ 2) → (c.1 = 23 ∨ c.1 = 24 → k ≠ 6) → c'.2.2.1 k = c.2.2.1 k
theorem eqO.refl (c : ax_C) : eqO c c := ⟨rfl, rfl, rfl, fun _ _ _ _ => rfl⟩
theorem eqO.trans {c c1 c2 : ax_C} (p : eqO c c1) (q : eqO c1 c2) : eqO c c2 := ⟨q.1.trans p.1, q.2.1.trans p.2.1, q.2.2.1.trans p.2.2.1, fun k h1 h2 h3 => (q.2.2.2 k (by rw [p.1]; exact h1) (by rw [p.1]; exact h2) (by rw [p.1]; exact h3)).trans (p.2.2.2 k h1 h2 h3)⟩
theorem eqO_T {c c' : ax_C} (e : eqT c c') : eqO c c' := ⟨e.1, e.2.1, e.2.2.1, fun k h1 _ _ => e.2.2.2 k h1⟩
theorem eqO_of {h h' : ax_H} {a : Nat} (e : h'.2.2 a = h.2.2 a) : eqO (hC h a) (hC h' a) := eqO_T (eqT.of e)
theorem eqO_no {h h' : ax_H} {a : Nat} (e : eqO (hC h a) (hC h' a)) (n : NO h a) : eqT (hC h a) (hC h' a) := by
  obtain ⟨n1, n2, n3⟩ := n
  exact ⟨e.1, e.2.1, e.2.2.1, fun k hk => e.2.2.2 k hk (fun z => absurd z n1) (fun z => by rcases z with z | z; exact absurd z n2; exact absurd z n3)⟩
def RKo (x t dl dv ds du du' : Nat) (h h' : ax_H) : Prop := (du' = du ∨ h.1 ≤ du') ∧ ∀ a, Frz h x t dl dv ds du a → eqO (hC h a) (hC h' a)
theorem RKo.frz {x t dl dv ds du du' a : Nat} {h h' : ax_H} (p : RKo x t dl dv ds du du' h h') (hl : h.1 ≤ h'.1) (ha : Frz h x t dl dv ds du a) : Frz h' x t dl dv ds du' a ∧ eqO (hC h a) (hC h' a) := by
  obtain ⟨p1, p2⟩ := p
  refine ⟨?_, p2 a ha⟩
  obtain ⟨a1, a2, a3⟩ := ha
  refine ⟨a1, by omega, ?_⟩
  unfold Mut at a3 ⊢
  omega
theorem RKo.trans {x t dl dv ds du du1 du2 : Nat} {h h1 h2 : ax_H} (p : RKo x t dl dv ds du du1 h h1) (q : RKo x t dl dv ds du1 du2 h1 h2) (hl : h.1 ≤ h1.1) : RKo x t dl dv ds du du2 h h2 := ⟨by have := p.1; have := q.1; omega, fun a ha => (p.2 a ha).trans (q.2 a (p.frz hl ha).1)⟩
theorem FzK.o {x t dl dv ds du du' : Nat} {h h' : ax_H} (p : FzK x t dl dv ds du du' h h') : RKo x t dl dv ds du du' h h' := ⟨p.1, fun a ha => eqO_T (p.2.1 a ha)⟩
section
variable {E : ax_E} {h h' : ax_H} {x t dl dv ds du b tg a k : Nat} {s : Sg} {n d r v : Int} {C : Od} {Fz : Nat → Prop}
/-- only what is asked of, and whether an order is off, was written -/
theorem RKo_one (c : ∀ c, c ≠ x + 17 → c ≠ x + 18 → c ≠ b → h'.2.2 c = h.2.2 c) (e : hT h' b = hT h b ∧ (∀ k, hR h' b k = hR h b k) ∧ hL h' b = hL h b ∧ ∀ k, (hT h b = 21 → k ≠ 2) → (hT h b = 23 ∨ hT h b = 24 → k ≠ 6) → hI h' b k = hI h b k) : RKo x t dl dv ds du du h h' := by
  refine ⟨Or.inl rfl, fun a ha => ?_⟩
  by_cases z : a = b
  · subst z
    exact ⟨e.1, e.2.2.1, funext e.2.1, fun k _ h2 h3 => e.2.2.2 k h2 h3⟩
  · have m := ha.2.2
    unfold Mut at m
    exact eqO_of (c a (by omega) (by omega) z)
theorem Kp_x (hk : k ≠ 7 ∧ k ≠ 8 ∧ k ≠ 9 ∧ k ≠ 10 ∧ k ≠ 12) : Kp x h (wI h x k v) := ⟨Nat.le_refl _, Nat.le_refl _, fun a ha => hC_wI_ne (by omega), fun a h1 _ _ => eqT.of (hC_wI_ne (by omega)), fun a _ _ => shq.wI a, ⟨hI_wI_ne (by omega), hI_wI_ne (by omega), hI_wI_ne (by omega), hI_wI_ne (by omega), hI_wI_ne (by omega)⟩, fun a h1 _ => hC_wI_ne (by omega)⟩
theorem RKo_x : RKo x t dl dv ds du du h (wI h x k v) := ⟨Or.inl rfl, fun a ha => eqO_of (hC_wI_ne (by intro z; subst z; exact ha.2.2 (Or.inl (by omega))))⟩
theorem Blk_x (hk : True) : Blk x 0 0 h (wI h x k v) := ⟨Nat.le_refl _, Nat.le_refl _, Nat.le_refl _, Nat.le_refl _, fun b _ _ => hC_wI_ne (by omega)⟩
/-- what an order answers -/
def resO (C : Od) (s : Sg) : Int × Sg := match sumO C (evO s) with
  | none => (-3, s)
  | some q => actS s C.1 q.1 q.2.1 q.2.2
theorem onceS_res (C : Od) (s : Sg) : onceS C s = if C.2.2.2 (evO s) = some true then (if (resO C s).1 < 0 then (ordC (resO C s).1, (resO C s).2) else (0, doneS C.1 (resO C s))) else (0, s) := by
  unfold onceS resO
  split
  · cases sumO C (evO s) with
    | none => rfl
    | some q => rfl
  · rfl
theorem c_does46 (htg : tg = 23 ∨ tg = 24) (tb : hT h b = tg) (r3 : hR h b 3 = some x) (tx : hT h x = 0) (hr : -7 < r ∧ r ≤ 1000000) : f_X22_does_46 E (some b) r h = some (r, wI h x 16 (if r < 0 then hI h x 16 else r)) := by
  unfold f_X22_does_46 f_X22_does_69
  rw [f_gRs tb (by omega) (lk2 htg 3), r3, Option.bind_some, i2_of (a := r) (by omega) (by omega)]
  by_cases c : r < 0
  · rw [if_pos c, if_pos c, Option.bind_some, f_gI tx (by decide), Option.bind_some, f_pI tx (by decide), Option.bind_some]
  · rw [if_neg c, if_neg c, f_pI tx (by decide), Option.bind_some]
/-- an order to lend or repay -/
theorem c_odo22 (H : REP E h x t dl dv ds du s) (hE : Ek E x) (V : VW n s) (D : DoC h x s) (Dv : DoV d s) (hd : d ≤ 100000) (B : OdB C) (hb : Frz h x t dl dv ds du b ∧ x + 116 ≤ b) (htg : C.1 = 24 ∨ C.1 = 25) (tb : hT h b = (if C.1 = 24 then 23 else 24)) (r3 : hR h b 3 = some x ∧ hR h b 7 = some x ∧ hR h b 8 = some x) (sm : ∃ s1 s2 s3, hR h b 0 = some s1 ∧ hR h b 1 = some s2 ∧ hR h b 2 = some s3 ∧ SumN 1 Fz h x 50 s1 C.2.1.1 ∧ SumN 1 Fz h x 50 s2 C.2.1.2.1 ∧ SumN 1 Fz h x 50 s3 C.2.1.2.2) (hFz : ∀ c, Fz c → c ≠ x + 17 ∧ c ≠ x + 18 ∧ c ≠ b) (off : hI h b 6 = 0) (e1 : h.1 + 8 ≤ E.1.1) (e2 : h.2.1 + 1700 ≤ E.1.2) : ∃ (du' : Nat) (h' : ax_H), f_X22_does E (some b) h = some ((resO C s).1, h') ∧ REP E h' x t dl dv ds du' (resO C s).2 ∧ (hI h' x 15 = s 0 48 ∧ hI h' x 16 = if (resO C s).1 < 0 then s 0 49 else (resO C s).1) ∧ RKo x t dl dv ds du du' h h' ∧ Blk x 8 110 h h' := by
  have hG := V.1.1
  have hK := V.1.2.1
  have hE' := EB_evO hK Dv hd
  obtain ⟨tg, etg⟩ : ∃ tg, tg = (if C.1 = 24 then 23 else 24) := ⟨_, rfl⟩
  rw [← etg] at tb
  have t2 : tg = 23 ∨ tg = 24 := by rw [etg]; split; exact Or.inl rfl; exact Or.inr rfl
  have t9 : tg ≠ 999 := by omega
  have hbx := hb.2
  obtain ⟨s1, s2, s3, k1, k2, k3, S1, S2, S3⟩ := sm
  have O : OdX h x b tg := ⟨Or.inr t2, tb, by rw [if_neg (by omega)]; exact r3.2.1⟩
  have frS : ∀ {g : ax_H} {u : Nat} {F : Dn}, (∀ c, c ≠ x + 17 → c ≠ x + 18 → c ≠ b → g.2.2 c = h.2.2 c) → SumN 1 Fz h x 50 u F → SumN 1 Fz g x 50 u F := fun c S => SumN.fr (fun q hq => ⟨hq, eqT.of (c q (hFz q hq).1 (hFz q hq).2.1 (hFz q hq).2.2)⟩) _ _ _ S
  obtain ⟨h1, p1, H1, D1, c1, z1, y1, tb1, R1, I1, o1, l1⟩ := c_oof (E := E) (a := s1) H hG hK O t2 hbx D Dv hd S1 hFz (Or.inl off)
  have O1 : OdX h1 x b tg := ⟨O.1, tb1.trans O.2.1, (R1 _).trans O.2.2⟩
  have w1 : hI h1 b 6 = 0 ∨ hI h1 b 6 = 1 := by rw [o1]; split; exact Or.inl rfl; exact Or.inr rfl
  obtain ⟨h2, p2, H2, D2, c2, z2, y2, tb2, R2, I2, o2, l2⟩ := c_oof (E := E) (a := s2) H1 hG hK O1 t2 hbx D1 Dv hd (frS c1 S2) hFz w1
  have c2' : ∀ c, c ≠ x + 17 → c ≠ x + 18 → c ≠ b → h2.2.2 c = h.2.2 c := fun c q1 q2 q3 => (c2 c q1 q2 q3).trans (c1 c q1 q2 q3)
  have O2 : OdX h2 x b tg := ⟨O.1, tb2.trans O1.2.1, (R2 _).trans O1.2.2⟩
  have w2 : hI h2 b 6 = 0 ∨ hI h2 b 6 = 1 := by rw [o2]; split; exact Or.inl rfl; exact Or.inr rfl
  obtain ⟨h3, p3, H3, D3, c3, z3, y3, tb3, R3, I3, o3, l3⟩ := c_oof (E := E) (a := s3) H2 hG hK O2 t2 hbx D2 Dv hd (frS c2' S3) hFz w2
  have c3' : ∀ c, c ≠ x + 17 → c ≠ x + 18 → c ≠ b → h3.2.2 c = h.2.2 c := fun c q1 q2 q3 => (c3 c q1 q2 q3).trans (c2' c q1 q2 q3)
  have O3 : OdX h3 x b tg := ⟨O.1, tb3.trans O2.2.1, (R3 _).trans O2.2.2⟩
  have w3 : hI h3 b 6 = 0 ∨ hI h3 b 6 = 1 := by rw [o3]; split; exact Or.inl rfl; exact Or.inr rfl
  have RR : ∀ k, hR h3 b k = hR h b k := fun k => by rw [R3, R2, R1]
  have TB : hT h3 b = hT h b := by rw [tb3, tb2, tb1]
  have sz : h3.1 = h.1 ∧ h3.2.1 = h.2.1 := by omega
  have b84 : ∀ c, x + 84 ≤ c → c < x + 116 → h3.2.2 c = h.2.2 c := fun c q1 q2 => c3' c (by omega) (by omega) (by omega)
  have K3 : RKo x t dl dv ds du du h h3 := by
    refine ⟨Or.inl rfl, fun a ha => ?_⟩
    by_cases z : a = b
    · subst z
      have L3 : hL h3 a = hL h a := by rw [l3, l2, l1]
      exact ⟨TB, L3, funext RR, fun k _ _ h3' => by
        have k6 := h3' (by rw [show (hC h a).1 = tg from tb]; exact t2)
        exact (I3 k k6).trans ((I2 k k6).trans (I1 k k6))⟩
    · have m := ha.2.2
      unfold Mut at m
      exact eqO_of (c3' a (by omega) (by omega) z)
  -- the end: the latest is told
  have fin : ∀ (r : Int) (du' : Nat) (h4 : ax_H) (s' : Sg), (resO C s) = (r, s') → -7 < r → r ≤ 9999 → REP E h4 x t dl dv ds du' s' → (hI h4 x 15 = s 0 48 ∧ hI h4 x 16 = s 0 49) → hT h4 b = tg → hR h4 b 3 = some x → RKo x t dl dv ds du du' h h4 → Blk x 8 110 h h4 → ∃ (du'' : Nat) (h' : ax_H), f_X22_does_46 E (some b) r h4 = some ((resO C s).1, h') ∧ REP E h' x t dl dv ds du'' (resO C s).2 ∧ (hI h' x 15 = s 0 48 ∧ hI h' x 16 = if (resO C s).1 < 0 then s 0 49 else (resO C s).1) ∧ RKo x t dl dv ds du du'' h h' ∧ Blk x 8 110 h h' := by
    intro r du' h4 s' er r0 r1 H4 d4 t4 x4 K4 B4
    rw [er]
    refine ⟨du', _, c_does46 t2 t4 x4 H4.2.1.1 ⟨r0, by omega⟩, H4.keep (Kp_x (by decide)), ⟨by rw [hI_wI_ne (by omega)]; exact d4.1, ?_⟩, K4.trans RKo_x B4.1, (B4.trans (Blk_x trivial)).up (by decide) (by decide)⟩
    rw [hI_wI_eq]
    by_cases c : r < 0
    · rw [if_pos c, if_pos c]; exact d4.2
    · rw [if_neg c, if_neg c]
  have bl3 : Blk x 8 110 h h3 := (show Blk x 0 0 h h3 from ⟨by omega, by omega, by omega, by omega, b84⟩).up (by decide) (by decide)
  have i1 : ¬ i2 1 = 0 := by decide
  have dpO : ∀ (g : ax_H) (u : Option Nat), hT g b = tg → (ax_dp E g (some b) fun t => if t = 23 ∨ t = 24 then f_X20_of E (some b) u g else none) = f_X20_of E (some b) u g := fun g u hg => by rw [f_dp hg t9, if_pos t2]
  have pre : f_X22_does E (some b) h = if i2 (hI h3 b 6) = 0 then (ax_dp E h3 (some b) fun t => if t = 23 then f_X23_does E (some b) (if hI h b 6 = 0 then (C.2.1.1 (evO s)).getD (-1) else -1) (if hI h1 b 6 = 0 then (C.2.1.2.1 (evO s)).getD (-1) else -1) (if hI h2 b 6 = 0 then (C.2.1.2.2 (evO s)).getD (-1) else -1) h3 else if t = 24 then f_X24_does E (some b) (if hI h b 6 = 0 then (C.2.1.1 (evO s)).getD (-1) else -1) (if hI h1 b 6 = 0 then (C.2.1.2.1 (evO s)).getD (-1) else -1) (if hI h2 b 6 = 0 then (C.2.1.2.2 (evO s)).getD (-1) else -1) h3 else none).bind fun q8 => f_X22_does_46 E (some b) q8.1 q8.2 else f_X22_does_46 E (some b) (-3) h3 := by
    unfold f_X22_does f_X20_isOff
    rw [f_gRs tb t9 (lk2 t2 0), k1, Option.bind_some, dpO h _ tb, p1, Option.bind_some]
    dsimp only
    rw [f_gRs O1.2.1 t9 (lk2 t2 1), R1, k2, Option.bind_some, dpO h1 _ O1.2.1, p2, Option.bind_some]
    dsimp only
    rw [f_gRs O2.2.1 t9 (lk2 t2 2), R2, R1, k3, Option.bind_some, dpO h2 _ O2.2.1, p3, Option.bind_some]
    dsimp only
    rw [f_dp O3.2.1 t9, if_pos t2, f_gIs O3.2.1 t9 (lk3 O.1 2 6), if_neg (show ¬ tg = 21 by omega), Option.bind_some, if_pos w3, Option.bind_some]
  rw [pre]
  cases hS : sumO C (evO s) with
  | none =>
    have er : resO C s = (-3, s) := by unfold resO; rw [hS]
    have o3' : hI h3 b 6 = 1 := by
      rw [o3]
      refine if_neg (fun z => ?_)
      rw [o2] at z
      by_cases q2 : hI h1 b 6 = 0 ∧ (C.2.1.2.1 (evO s)).isSome = true
      · have q1 := q2.1
        rw [o1] at q1
        by_cases q0 : hI h b 6 = 0 ∧ (C.2.1.1 (evO s)).isSome = true
        · obtain ⟨a', ha⟩ := Option.isSome_iff_exists.mp q0.2
          obtain ⟨b', hb'⟩ := Option.isSome_iff_exists.mp q2.2
          obtain ⟨v', hv⟩ := Option.isSome_iff_exists.mp z.2
          unfold sumO at hS
          rw [ha, hb', hv] at hS
          cases hS
        · rw [if_neg q0] at q1
          cases q1
      · have q1 := z.1
        rw [if_neg q2] at q1
        cases q1
    rw [if_neg (by rw [o3']; exact i1)]
    exact fin (-3) du h3 s er (by decide) (by decide) H3 ⟨D3.1, D3.2⟩ O3.2.1 ((RR 3).trans r3.1) K3 bl3
  | some q =>
    have hS' := hS
    unfold sumO at hS'
    obtain ⟨a', ha, hS2⟩ := Option.bind_eq_some_iff.mp hS'
    obtain ⟨b', hb', hS3⟩ := Option.bind_eq_some_iff.mp hS2
    obtain ⟨v', hv, hS4⟩ := Option.map_eq_some_iff.mp hS3
    have qb := sumO_b B hE' hS
    rw [← hS4] at qb
    dsimp only at qb
    have er : resO C s = actS s C.1 a' b' v' := by unfold resO; rw [hS, ← hS4]
    have o1' : hI h1 b 6 = 0 := by rw [o1]; exact if_pos ⟨off, by rw [ha]; rfl⟩
    have o2' : hI h2 b 6 = 0 := by rw [o2]; exact if_pos ⟨o1', by rw [hb']; rfl⟩
    have o3' : hI h3 b 6 = 0 := by rw [o3]; exact if_pos ⟨o2', by rw [hv]; rfl⟩
    have ia : i2 a' = a' := i2_of (by omega) (by omega)
    have ib : i2 b' = b' := i2_of (by omega) (by omega)
    have iv : i2 v' = v' := i2_of (by omega) (by omega)
    have rb := actS_b (hd := C.1) (a := a') (b := b') hK iv
    have e1' : h3.1 + 8 ≤ E.1.1 := by omega
    have e2' : h3.2.1 + 1700 ≤ E.1.2 := by omega
    have hU := V.1.2.2.2.1
    rw [if_pos (by rw [o3']; decide), if_pos off, if_pos o1', if_pos o2', ha, hb', hv, f_dp O3.2.1 t9]
    dsimp only [Option.getD_some]
    have r8 : hR h3 b 8 = some x := (RR 8).trans r3.2.2
    have hb3 : Frz h3 x t dl dv ds du b := (K3.frz (by omega) hb.1).1
    by_cases c24 : C.1 = 24
    · have et : tg = 23 := by rw [etg, if_pos c24]
      have ea : actS s C.1 a' b' v' = lendS s a' b' v' := by unfold actS; rw [if_neg (by omega), if_pos c24]
      obtain ⟨du', h4, l1', l2', l3', l4'⟩ := c_lendNowF (E := E) H3 hE hG hK hU ia ib iv e1' e2'
      have xs := ceq l4'.2.2
      have be := l4'.2.1 b hb3
      rw [if_pos et]
      unfold f_X23_does
      rw [f_gR (by rw [O3.2.1]; exact et) (by decide), Option.bind_some, r8, f_ce H3.2.1.1 (by decide), Option.bind_some, l1', Option.bind_some, Option.bind_some]
      rw [ea] at er rb
      exact fin _ du' h4 _ er rb.1 (rb.2.2 (by omega)) l2' ⟨(xs.2.2.1 15).trans D3.1, (xs.2.2.1 16).trans D3.2⟩ (be.hT.trans O3.2.1) ((be.hR 3).trans ((RR 3).trans r3.1)) (K3.trans l4'.o (by omega)) (((show Blk x 0 0 h h3 from ⟨by omega, by omega, by omega, by omega, b84⟩).trans l3').up (by decide) (by decide))
    · have et : tg = 24 := by rw [etg, if_neg c24]
      have ea : actS s C.1 a' b' v' = repayO s a' b' v' := by unfold actS; rw [if_neg (by omega), if_neg c24]
      obtain ⟨du', h4, l1', l2', l3', l4'⟩ := c_repayNowF (E := E) H3 hE hG hK hU ia ib iv e1' e2'
      have xs := ceq l4'.2.2
      have be := l4'.2.1 b hb3
      rw [if_neg (by omega), if_pos et]
      unfold f_X24_does
      rw [f_gR (by rw [O3.2.1]; exact et) (by decide), Option.bind_some, r8, f_ce H3.2.1.1 (by decide), Option.bind_some, l1', Option.bind_some, Option.bind_some]
      rw [ea] at er rb
      exact fin _ du' h4 _ er rb.1 (rb.2.2 (by omega)) l2' ⟨(xs.2.2.1 15).trans D3.1, (xs.2.2.1 16).trans D3.2⟩ (be.hT.trans O3.2.1) ((be.hR 3).trans ((RR 3).trans r3.1)) (K3.trans l4'.o (by omega)) (((show Blk x 0 0 h h3 from ⟨by omega, by omega, by omega, by omega, b84⟩).trans l3').up (by decide) (by decide))
end
