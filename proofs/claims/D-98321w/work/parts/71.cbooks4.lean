/-! THE COMPONENT: balances; books copied, made anew -/
set_option maxRecDepth 100000
/-- new books -/
def newB (h : ax_H) : ax_H := wR (nwH (wR (nwH (wR (nwH (wR (nwH (wR (nwH (nwH h 2 0 7) 100 7 7) h.1 0 (some (h.1 + 1))) 100 17 17) h.1 1 (some (h.1 + 2))) 100 17 17) h.1 2 (some (h.1 + 3))) 100 17 17) h.1 3 (some (h.1 + 4))) 100 17 17) h.1 4 (some (h.1 + 5))
/-- nothing that was there has changed -/
def Ext (h h' : ax_H) : Prop := h.1 ≤ h'.1 ∧ h.2.1 ≤ h'.2.1 ∧ ∀ a, a < h.1 → h'.2.2 a = h.2.2 a
theorem Ext.refl (h : ax_H) : Ext h h := ⟨Nat.le_refl _, Nat.le_refl _, fun _ _ => rfl⟩
theorem Ext.trans {h h1 h2 : ax_H} (p : Ext h h1) (q : Ext h1 h2) : Ext h h2 := ⟨by have := p.1; have := q.1; omega, by have := p.2.1; have := q.2.1; omega, fun a ha => (q.2.2 a (by have := p.1; omega)).trans (p.2.2 a ha)⟩
theorem Ext_nw {h h1 : ax_H} {t n sl : Nat} (p : Ext h h1) : Ext h (nwH h1 t n sl) := p.trans ⟨Nat.le_succ _, Nat.le_add_right _ _, fun a ha => hC_nw_ne (by omega)⟩
theorem Ext_wR {h h1 : ax_H} {a k : Nat} {r : Option Nat} (p : Ext h h1) (ha : h.1 ≤ a) : Ext h (wR h1 a k r) := ⟨p.1, p.2.1, fun b hb => (hC_wR_ne (by omega)).trans (p.2.2 b hb)⟩
theorem Ext_wI {h h1 : ax_H} {a k : Nat} {v : Int} (p : Ext h h1) (ha : h.1 ≤ a) : Ext h (wI h1 a k v) := ⟨p.1, p.2.1, fun b hb => (hC_wI_ne (by omega)).trans (p.2.2 b hb)⟩
theorem Ext_cp {h h1 : ax_H} {s d sp dp n : Nat} (p : Ext h h1) (ha : h.1 ≤ d) : Ext h (cpH h1 s d sp dp n) := ⟨p.1, p.2.1, fun b hb => (hC_cp_ne (by omega)).trans (p.2.2 b hb)⟩
theorem Ext_on {h h1 h2 : ax_H} {b n : Nat} (p : Ext h h1) (ha : h.1 ≤ b) (q : On b n h1 h2) : Ext h h2 := ⟨by rw [q.1]; exact p.1, by rw [q.2.1]; exact p.2.1, fun c hc => (q.2.2 c (Or.inl (by omega))).trans (p.2.2 c hc)⟩
section
variable {E : ax_E} {h h' : ax_H} {a b : Nat} {K : Rw} {n : Int}
theorem newB_1 : (newB h).1 = h.1 + 6 := rfl
theorem newB_2 : (newB h).2.1 = h.2.1 + 82 := by
  show h.2.1 + 7 + 7 + 17 + 17 + 17 + 17 = _
  omega
theorem newB_ext : Ext h (newB h) := by
  unfold newB
  exact Ext_wR (Ext_nw (Ext_wR (Ext_nw (Ext_wR (Ext_nw (Ext_wR (Ext_nw (Ext_wR (Ext_nw (Ext_nw (Ext.refl h))) (Nat.le_refl _))) (Nat.le_refl _))) (Nat.le_refl _))) (Nat.le_refl _))) (Nat.le_refl _)
theorem newB_BS : BS (newB h) h.1 := by
  unfold newB BS
  simp only [hT_wR, hT_nw, hL_wR, hL_nw, hR_wR, hR_nw, nw_1, wR_1]
  refine ⟨?_, ⟨?_, ?_, ?_, ?_, ?_⟩, ⟨?_, ?_, ?_, ?_, ?_⟩, ?_, ?_, ?_, ?_, ?_⟩ <;> simp <;> first | omega | ((repeat' split) <;> omega)
theorem newB_0 (k j : Nat) (hk : k < 6) : hI (newB h) (h.1 + k) j = 0 := by
  unfold newB
  simp only [hI_wR, hI_nw, nw_1, wR_1]
  have : k = 0 ∨ k = 1 ∨ k = 2 ∨ k = 3 ∨ k = 4 ∨ k = 5 := by omega
  rcases this with e | e | e | e | e | e <;> subst e <;> simp
theorem newB_BK : BK (newB h) h.1 (fun _ => 0) := by
  refine ⟨newB_BS, ⟨newB_0 0 5 (by decide), newB_0 0 6 (by decide)⟩, fun p hp => newB_0 1 p (by decide), fun k hk => ⟨newB_0 2 k (by decide), newB_0 3 k (by decide), newB_0 4 k (by decide), newB_0 5 k (by decide)⟩⟩
theorem c_newB (h1 : h.1 + 6 ≤ E.1.1) (h2 : h.2.1 + 82 ≤ E.1.2) : ax_nw E h 2 0 7 = some (h.1, nwH h 2 0 7) ∧ f_X2_init E (some h.1) (nwH h 2 0 7) = some (newB h) := by
  refine ⟨f_nw (by omega) (by omega), ?_⟩
  unfold f_X2_init
  have t0 : ∀ (g : ax_H) (t n sl : Nat), hT g h.1 = 2 → h.1 < g.1 → hT (nwH g t n sl) h.1 = 2 := by
    intro g t n sl e e2
    rw [hT_nw_ne (by omega)]
    exact e
  have z7 : (7 : Int).toNat = 7 := rfl
  have z17 : (17 : Int).toNat = 17 := rfl
  have a0 : hT (nwH h 2 0 7) h.1 = 2 := hT_nw_eq
  rw [Option.bind_some, f_na (by omega) (by omega) (by rw [nw_1]; omega) (by rw [nw_2, z7]; omega), Option.bind_some, z7, f_pR (t0 _ _ _ _ a0 (by rw [nw_1]; omega)) (by decide), Option.bind_some]
  rw [f_na (by omega) (by omega) (by rw [wR_1, nw_1, nw_1]; omega) (by rw [wR_2, nw_2, nw_2, z17]; omega), Option.bind_some, z17, f_pR (t0 _ _ _ _ (by rw [hT_wR]; exact t0 _ _ _ _ a0 (by rw [nw_1]; omega)) (by rw [wR_1, nw_1, nw_1]; omega)) (by decide), Option.bind_some]
  rw [f_na (by omega) (by omega) (by rw [wR_1, nw_1, wR_1, nw_1, nw_1]; omega) (by rw [wR_2, nw_2, wR_2, nw_2, nw_2, z17]; omega), Option.bind_some, z17, f_pR (t0 _ _ _ _ (by rw [hT_wR]; exact t0 _ _ _ _ (by rw [hT_wR]; exact t0 _ _ _ _ a0 (by rw [nw_1]; omega)) (by rw [wR_1, nw_1, nw_1]; omega)) (by rw [wR_1, nw_1, wR_1, nw_1, nw_1]; omega)) (by decide), Option.bind_some]
  rw [f_na (by omega) (by omega) (by rw [wR_1, nw_1, wR_1, nw_1, wR_1, nw_1, nw_1]; omega) (by rw [wR_2, nw_2, wR_2, nw_2, wR_2, nw_2, nw_2, z17]; omega), Option.bind_some, z17, f_pR (t0 _ _ _ _ (by rw [hT_wR]; exact t0 _ _ _ _ (by rw [hT_wR]; exact t0 _ _ _ _ (by rw [hT_wR]; exact t0 _ _ _ _ a0 (by rw [nw_1]; omega)) (by rw [wR_1, nw_1, nw_1]; omega)) (by rw [wR_1, nw_1, wR_1, nw_1, nw_1]; omega)) (by rw [wR_1, nw_1, wR_1, nw_1, wR_1, nw_1, nw_1]; omega)) (by decide), Option.bind_some]
  rw [f_na (by omega) (by omega) (by rw [wR_1, nw_1, wR_1, nw_1, wR_1, nw_1, wR_1, nw_1, nw_1]; omega) (by rw [wR_2, nw_2, wR_2, nw_2, wR_2, nw_2, wR_2, nw_2, nw_2, z17]; omega), Option.bind_some, z17, f_pR (t0 _ _ _ _ (by rw [hT_wR]; exact t0 _ _ _ _ (by rw [hT_wR]; exact t0 _ _ _ _ (by rw [hT_wR]; exact t0 _ _ _ _ (by rw [hT_wR]; exact t0 _ _ _ _ a0 (by rw [nw_1]; omega)) (by rw [wR_1, nw_1, nw_1]; omega)) (by rw [wR_1, nw_1, wR_1, nw_1, nw_1]; omega)) (by rw [wR_1, nw_1, wR_1, nw_1, wR_1, nw_1, nw_1]; omega)) (by rw [wR_1, nw_1, wR_1, nw_1, wR_1, nw_1, wR_1, nw_1, nw_1]; omega)) (by decide), Option.bind_some]
  rfl
theorem c_balance {p : Int} (hB : BK h b K) (hK : K32 K) (h0 : 0 ≤ K 71) (hd : K 71 ≤ 16) (hp : i2 p = p) : f_X2_balance E (some b) p h = some (balanceS K p, h) := by
  obtain ⟨⟨t0, ⟨r0, r1, r2, r3, r4⟩, ⟨t1, t2, t3, t4, t5⟩, l1, l2, l3, l4, l5⟩, ⟨c5, c6⟩, cp, ck⟩ := hB
  have e := it_traj (body := fun s : Int × Int × ax_H => lb_X2_balance_4 E (some b) p s.1 s.2.1 s.2.2) (fun n => (sm n (fun k => if K (7 + 4 * (k : Int) + 1) = p then K (7 + 4 * (k : Int) + 2) else if K (7 + 4 * (k : Int)) = p then - K (7 + 4 * (k : Int) + 2) else 0), (n : Int), h)) (K 71).toNat (r := (balanceS K p, h)) ?_ ?_
  · exact e
  · intro k hk
    obtain ⟨k1, k2, k3, k4⟩ := ck k (by omega)
    simp (disch := first | assumption | omega | (refine i2_ofp ?_; omega)) only [lb_X2_balance_4, f_X2_balance_53, f_gI, f_ce, f_gR, f_ld, r1, r2, r3, c5, hK _, hp, Option.bind_some, Int.toNat_natCast, i2_of, k1, k2, k3]
    rw [if_pos (by omega)]
    by_cases a1 : K (7 + 4 * (k : Int) + 1) = p
    · rw [if_pos a1]
      simp [sm, a1]
    · rw [if_neg a1]
      by_cases a2 : K (7 + 4 * (k : Int)) = p
      · rw [if_pos a2]
        simp [sm, a1, a2]
      · rw [if_neg a2]
        simp [sm, a1, a2]
  · simp (disch := first | assumption | omega | (refine i2_ofp ?_; omega)) only [lb_X2_balance_4, f_gI, c5, hK _, Option.bind_some, i2_of, Option.map_some]
    rw [if_neg (by omega)]
    rfl
theorem c_as (hS : BS h a) (hB : BK h b K) (hd : a + 6 ≤ b ∨ b + 6 ≤ a) (h0 : 0 ≤ K 71) (h1 : K 71 ≤ 16) : ∃ h', f_X2_as E (some a) (some b) h = some (some a, h') ∧ BK h' a K ∧ OnS a 6 h h' := by
  obtain ⟨u0, ⟨s0, s1, s2, s3, s4⟩, ⟨u1, u2, u3, u4, u5⟩, m1, m2, m3, m4, m5⟩ := id hS
  obtain ⟨⟨t0, ⟨r0, r1, r2, r3, r4⟩, ⟨t1, t2, t3, t4, t5⟩, l1, l2, l3, l4, l5⟩, ⟨c5, c6⟩, cp, ck⟩ := hB
  refine ⟨wI (wI (cpH (cpH (cpH (cpH (cpH h (b + 1) (a + 1) 0 0 7) (b + 2) (a + 2) 0 0 (K 71).toNat) (b + 3) (a + 3) 0 0 (K 71).toNat) (b + 4) (a + 4) 0 0 (K 71).toNat) (b + 5) (a + 5) 0 0 (K 71).toNat) a 5 (K 71)) a 6 (K 72), ?_, ?_, ?_⟩
  · unfold f_X2_as f_X2_move
    simp (disch := first | assumption | omega | (simp only [hT_wI, hL_wI, hT_cp, hL_cp]; first | assumption | omega)) only [f_gR, f_gI, f_ce, f_pI, f_cpI, hR_wI, hI_cp_ne, hI_wI_ne, hR_cp_ne, r0, r1, r2, r3, r4, s0, s1, s2, s3, s4, c5, c6, Option.bind_some]
    rfl
  · refine ⟨(((((hS.cp (by omega)).cp (by omega)).cp (by omega)).cp (by omega)).cp (by omega)).wI.wI, ?_, fun p hp => ?_, fun k hk => ?_⟩
    · rw [hI_wI_eq, hI_wI_ne (by omega), hI_wI_eq]
      exact ⟨rfl, rfl⟩
    · rw [hI_wI_ne (by omega), hI_wI_ne (by omega), hI_cp_ne (by omega), hI_cp_ne (by omega), hI_cp_ne (by omega), hI_cp_ne (by omega), hI_cp, if_pos (by omega), show 0 + (p - 0) = p by omega]
      exact cp p hp
    · obtain ⟨k1, k2, k3, k4⟩ := ck k hk
      refine ⟨?_, ?_, ?_, ?_⟩
      · rw [hI_wI_ne (by omega), hI_wI_ne (by omega), hI_cp_ne (by omega), hI_cp_ne (by omega), hI_cp_ne (by omega), hI_cp, if_pos (by omega), show 0 + (k - 0) = k by omega, hI_cp_ne (by omega)]
        exact k1
      · rw [hI_wI_ne (by omega), hI_wI_ne (by omega), hI_cp_ne (by omega), hI_cp_ne (by omega), hI_cp, if_pos (by omega), show 0 + (k - 0) = k by omega, hI_cp_ne (by omega), hI_cp_ne (by omega)]
        exact k2
      · rw [hI_wI_ne (by omega), hI_wI_ne (by omega), hI_cp_ne (by omega), hI_cp, if_pos (by omega), show 0 + (k - 0) = k by omega, hI_cp_ne (by omega), hI_cp_ne (by omega), hI_cp_ne (by omega)]
        exact k3
      · rw [hI_wI_ne (by omega), hI_wI_ne (by omega), hI_cp, if_pos (by omega), show 0 + (k - 0) = k by omega, hI_cp_ne (by omega), hI_cp_ne (by omega), hI_cp_ne (by omega), hI_cp_ne (by omega)]
        exact k4
  · refine OnS_wI (OnS_wI (OnS_cp (OnS_cp (OnS_cp (OnS_cp (OnS_cp (OnS.refl _ _ _) (by omega) u1) (by omega) ?_) (by omega) ?_) (by omega) ?_) (by omega) ?_) (by omega)) (by omega)
    · rw [hT_cp]; exact u2
    · rw [hT_cp, hT_cp]; exact u3
    · rw [hT_cp, hT_cp, hT_cp]; exact u4
    · rw [hT_cp, hT_cp, hT_cp, hT_cp]; exact u5
end
