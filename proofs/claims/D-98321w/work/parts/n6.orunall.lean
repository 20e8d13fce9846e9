/-! Orders: the component runs all -/
set_option maxRecDepth 100000
def RI (E : ax_E) (x t dl dv ds du0 : Nat) (g0 g : ax_H) (du : Nat) (n : Int) (d : Nat) (s : Sg) : Prop := REP E g x t dl dv ds du s ∧ OdV n d s ∧ DoC g x s ∧ RKo x t dl dv ds du0 du g0 g ∧ Blk x (8 * d) (110 * d) g0 g
theorem RI.up {E : ax_E} {x t dl dv ds du0 du d d' : Nat} {g0 g : ax_H} {n : Int} {s : Sg} (I : RI E x t dl dv ds du0 g0 g du n d s) (h : d ≤ d') : RI E x t dl dv ds du0 g0 g du n d' s := ⟨I.1, ⟨I.2.1.1, I.2.1.2.up (by omega)⟩, I.2.2.1, I.2.2.2.1, I.2.2.2.2.up (by omega) (by omega)⟩
section
variable {Fz : Nat → Prop} {h g : ax_H} {x a : Nat} {C : Od}
theorem OdN.no (H : OdN Fz h x a C) : OdN (FN Fz h) h x a C := by
  obtain ⟨b, H⟩ := H
  refine ⟨b, ?_⟩
  rcases H with ⟨h1, h0, h2, h3, h4, h5, h6⟩ | ⟨h1, h2, h3, h4, h5, h6, ⟨s1, s2, s3, k1, k2, k3, k4, k5, k6⟩, h7⟩
  · refine Or.inl ⟨h1, h0, h2, h3, h4, h5, ?_⟩
    rcases h6 with z | ⟨t, z1, z2⟩
    · exact Or.inl z
    · exact Or.inr ⟨t, z1, z2.no⟩
  · refine Or.inr ⟨h1, h2, h3, h4, h5, h6, ⟨s1, s2, s3, k1, k2, k3, k4.no, k5.no, k6.no⟩, ?_⟩
    rcases h7 with z | ⟨t, z1, z2⟩
    · exact Or.inl z
    · exact Or.inr ⟨t, z1, z2.no⟩
theorem OdN.ord (H : OdN Fz h x a C) : ¬ NO h a := by
  unfold NO
  rcases H.2 with ⟨-, -, z, -⟩ | ⟨-, z, -⟩
  · rw [z]; decide
  · rw [z]
    split <;> decide
theorem OdN.B (H : OdN Fz h x a C) : OdB C := by
  obtain ⟨b, H⟩ := H
  have fc : FB (fun _ => some 0) := fun e' _ v hv => by cases hv; exact ⟨by decide, by decide⟩
  rcases H with ⟨h1, h0, -⟩ | ⟨h1, h2, h3, h4, h5, h6, ⟨s1, s2, s3, k1, k2, k3, k4, k5, k6⟩, h7⟩
  · refine ⟨?_, ?_, ?_, b, Or.inr (Or.inr h1), fun _ => h0⟩
    · rw [h0]; exact fc
    · rw [h0]; exact fc
    · rw [h0]; exact fc
  · exact ⟨k4.fb _ _ _, k5.fb _ _ _, k6.fb _ _ _, b, by omega, fun z => by omega⟩
end
section
variable {E : ax_E} {x t dl dv ds du0 u lo hi j b : Nat} {g0 : ax_H} {n : Int} {C : Od}
theorem c_f10 {h : ax_H} {du : Nat} {s : Sg} {v : Int} (H : REP E h x t dl dv ds du s) : REP E (wI h x 10 v) x t dl dv ds du (sw s 0 (u1 (s 0) 47 v)) := by
  refine H.root (Or.inl rfl) ?_ ?_ (Sam_0 s (by decide) (by decide))
  · obtain ⟨r1, r2, r3, r4, r5⟩ := H.2.2.1
    refine ⟨?_, ?_, ?_, ?_, ?_⟩
    · rw [hI_wI_ne (by omega), sw_eq, u1_ne _ (by decide)]; exact r1
    · rw [hI_wI_ne (by omega), sw_eq, u1_ne _ (by decide)]; exact r2
    · rw [hI_wI_ne (by omega), sw_eq, u1_ne _ (by decide)]; exact r3
    · rw [hI_wI_eq, sw_eq, u1_eq]
    · rw [hI_wI_ne (by omega), sw_eq, u1_ne _ (by decide)]; exact r5
  · obtain ⟨r1, r2⟩ := H.2.2.2.1
    refine ⟨fun k hk => ?_, fun k hk => ?_⟩
    · rw [hI_wI_ne (by omega), sw_ne _ (by decide)]; exact r1 k hk
    · rw [hI_wI_ne (by omega), sw_ne _ (by decide)]; exact r2 k hk
/-- an order as it is now -/
theorem OdN.now {g : ax_H} {du : Nat} (K : RKo x t dl dv ds du0 du g0 g) (hz : ∀ a, lo ≤ a → a < hi → Frz g0 x t dl dv ds du0 a) (hb : lo ≤ b ∧ b < hi) (N : OdN (fun a => RnF lo hi a ∧ NO g0 a) g0 x b C) : OdN (fun a => RnF lo hi a ∧ NO g0 a) g x b C := by
  have q := K.2 b (hz b hb.1 hb.2)
  have qI : ∀ k, (hT g0 b = 21 → k ≠ 2) → (hT g0 b = 23 ∨ hT g0 b = 24 → k ≠ 6) → hT g0 b ≠ 15 → hI g b k = hI g0 b k := fun k h1 h2 h3 => q.2.2.2 k (fun z => absurd z h3) h1 h2
  have tb := N.ord
  unfold NO at tb
  refine N.fr (fun a ha => ⟨ha, eqO_no (K.2 a (hz a ha.1.1 ha.1.2)) ha.2⟩) ⟨q.1, fun k => congrFun q.2.2.1 k, fun z => qI 1 (fun _ => by decide) (fun _ => by decide) (by omega), fun z => qI 5 (fun y => by omega) (fun _ => by decide) (by omega)⟩
theorem c_times (hE : Ek E x) (hlo : x + 116 ≤ lo) (hz : ∀ a, lo ≤ a → a < hi → Frz g0 x t dl dv ds du0 a) (hu : lo ≤ u ∧ u < hi) (tu : hT g0 u = 110) (lu : hL g0 u ≤ 12 ∧ j < hL g0 u) (rb : hR g0 u j = some b) (hb : lo ≤ b ∧ b < hi) (N : OdN (fun a => RnF lo hi a ∧ NO g0 a) g0 x b C) (e1 : g0.1 + 2100 ≤ E.1.1) (e2 : g0.2.1 + 30000 ≤ E.1.2) : ∀ (m : Nat) (q : Int) (d : Nat) (s : Sg) (g : ax_H) (du : Nat), 0 ≤ q → q + m = C.2.2.1 → RI E x t dl dv ds du0 g0 g du n d s → d + m ≤ 250 → ∃ (du' : Nat) (g' : ax_H), f_X0_runAll_10 E (some x) (some u) j q g = some (if (timesS C m s).1 = 0 then .inl ((j : Int) + 1, g') else .inr ((timesS C m s).1, wI g' x 10 j)) ∧ RI E x t dl dv ds du0 g0 g' du' n (d + m) (timesS C m s).2 := by
  have B := N.B
  have bt := N.1
  have no110 : NO g0 u := NO.of tu (by decide)
  intro m
  induction m with
  | zero =>
    intro q d s g du q0 hq I hd
    have Ng := OdN.now I.2.2.2.1 hz hb N
    have eu := eqO_no (I.2.2.2.1.2 u (hz u hu.1 hu.2)) no110
    have tb := Ng.ord
    obtain ⟨tg, etg⟩ : ∃ tg, tg = hT g b := ⟨_, rfl⟩
    have htg : tg = 21 ∨ tg = 23 ∨ tg = 24 := by unfold NO at tb; omega
    have ti : ax_gIs E g (some b) [(21, 1), (23, 5), (24, 5)] = some C.2.2.1 := by
      rw [f_gIs etg.symm (by omega) (lk3 htg 1 5)]
      rcases Ng.2 with ⟨-, -, z1, -, -, z2, -⟩ | ⟨-, z1, -, -, -, z2, -⟩
      · rw [if_pos (etg.trans z1), z2]
      · rw [if_neg (by rw [etg, z1]; split <;> decide), z2]
    refine ⟨du, g, ?_, I.up (by omega)⟩
    unfold f_X0_runAll_10
    rw [show (timesS C 0 s).1 = 0 from rfl, if_pos rfl]
    refine it_done ?_
    dsimp only
    unfold lb_X0_runAll_10
    rw [f_ldR (eu.hT.trans tu) (by decide) (by omega) (by rw [eu.hL]; omega) (by rw [eu.hL]; omega), Option.bind_some, Int.toNat_natCast, eu.hR, rb, ti, Option.bind_some, show q = C.2.2.1 by omega, if_neg (Int.lt_irrefl _)]
    rfl
  | succ m ih =>
    intro q d s g du q0 hq I hd
    have Ng := OdN.now I.2.2.2.1 hz hb N
    have eu := eqO_no (I.2.2.2.1.2 u (hz u hu.1 hu.2)) no110
    have tb := Ng.ord
    obtain ⟨tg, etg⟩ : ∃ tg, tg = hT g b := ⟨_, rfl⟩
    have htg : tg = 21 ∨ tg = 23 ∨ tg = 24 := by unfold NO at tb; omega
    have ti : ax_gIs E g (some b) [(21, 1), (23, 5), (24, 5)] = some C.2.2.1 := by
      rw [f_gIs etg.symm (by omega) (lk3 htg 1 5)]
      rcases Ng.2 with ⟨-, -, z1, -, -, z2, -⟩ | ⟨-, z1, -, -, -, z2, -⟩
      · rw [if_pos (etg.trans z1), z2]
      · rw [if_neg (by rw [etg, z1]; split <;> decide), z2]
    obtain ⟨I1, ⟨V, Dv⟩, D, K, Bl⟩ := id I
    have b1 := Bl.2.1
    have b2 := Bl.2.2.2.1
    obtain ⟨du', g', p1, p2, p3, p4, p5⟩ := c_orun (E := E) (d := (d : Int)) I1 hE V D Dv (by omega) B ⟨(K.frz Bl.1 (hz b hb.1 hb.2)).1, by omega⟩ Ng (fun c hc => ⟨by have := hc.1.1; omega, by have := hc.1.1; omega, fun z => N.ord (z ▸ hc.2)⟩) (by omega) (by omega)
    obtain ⟨w1, w2, w3⟩ := onceS_V (n := n) B ⟨V, Dv⟩ (by omega)
    have I' : RI E x t dl dv ds du0 g0 g' du' n (d + 1) (onceS C s).2 := ⟨p2, by rw [show ((d + 1 : Nat) : Int) = (d : Int) + 1 by omega]; exact w1, p3, K.trans p4 Bl.1, (Bl.trans p5).up (by omega) (by omega)⟩
    have st : lb_X0_runAll_10 E (some x) (some u) j q g = if (onceS C s).1 = 0 then some (.inl (q + 1, g')) else some (.inr (.inr ((onceS C s).1, wI g' x 10 j))) := by
      unfold lb_X0_runAll_10
      rw [f_ldR (eu.hT.trans tu) (by decide) (by omega) (by rw [eu.hL]; omega) (by rw [eu.hL]; omega), Option.bind_some, Int.toNat_natCast, eu.hR, rb, ti, Option.bind_some, i2_of (a := q) (by omega) (by omega), i2_of (a := C.2.2.1) (by omega) (by omega), if_pos (by omega), Option.bind_some, f_dp etg.symm (by omega), if_pos htg, p1, Option.bind_some]
      dsimp only
      rw [i2_of (a := (onceS C s).1) (by omega) (by omega)]
      by_cases c : (onceS C s).1 = 0
      · rw [if_pos c, if_pos c]
      · rw [if_neg c, if_neg c, f_pI p2.2.1.1 (by decide), Option.bind_some]
        rfl
    unfold timesS
    by_cases c : (onceS C s).1 = 0
    · rw [if_pos c] at st
      rw [if_pos c]
      obtain ⟨du2, g2, r1, r2⟩ := ih (q + 1) (d + 1) (onceS C s).2 g' du' (by omega) (by omega) I' (by omega)
      refine ⟨du2, g2, ?_, by rw [show d + (m + 1) = d + 1 + m by omega]; exact r2⟩
      unfold f_X0_runAll_10 at r1 ⊢
      exact (it_step (body := fun s : Int × ax_H => lb_X0_runAll_10 E (some x) (some u) j s.1 s.2) (s := (q, g)) st).trans r1
    · rw [if_neg c] at st
      rw [if_neg c]
      refine ⟨du', g', ?_, I'.up (by omega)⟩
      unfold f_X0_runAll_10
      exact (it_done (body := fun s : Int × ax_H => lb_X0_runAll_10 E (some x) (some u) j s.1 s.2) (s := (q, g)) st).trans (congrArg some (if_neg c).symm)
end
