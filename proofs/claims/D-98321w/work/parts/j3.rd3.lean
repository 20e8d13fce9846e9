/-! The component's reader: what is taken, what must be -/
set_option maxRecDepth 100000
theorem tc_l {α β γ : Type} {g : α → Option γ} {f : β → Option γ} {z : α} : ax_tc g (some (.inl z)) f = g z := rfl
theorem tc_r {α β γ : Type} {g : α → Option γ} {f : β → Option γ} {y : β} : ax_tc g (some (.inr y)) f = f y := rfl
/-- Wrong, at a token; so much has grown -/
def RdW (T : Rw) (N i p : Nat) (pl : Int) (g : ax_H) (t : Int) (c z : Int) (r : Nat × ax_H) : Prop := hT r.2 r.1 = 8 ∧ hI r.2 r.1 6 = pos T N t.toNat ∧ RdR i p pl g r.2 ∧ (r.2.1 : Int) ≤ g.1 + c ∧ (r.2.2.1 : Int) ≤ g.2.1 + z
/-- room for what can still be read -/
def RmR (E : ax_E) (g : ax_H) (lv : Int) : Prop := (g.1 : Int) + 16 * (51 - lv) + 32 ≤ E.1.1 ∧ (g.2.1 : Int) + 32 * (51 - lv) + 64 ≤ E.1.2
theorem RdW.of {T : Rw} {N i p : Nat} {pl pl2 : Int} {g g1 : ax_H} {t c z c2 z2 : Int} {r : Nat × ax_H} (W : RdW T N i p pl2 g1 t c2 z2 r) (R : RdR i p pl g g1) (hp : pl ≤ pl2) (h1 : (g1.1 : Int) + c2 ≤ g.1 + c) (h2 : (g1.2.1 : Int) + z2 ≤ g.2.1 + z) : RdW T N i p pl g t c z r := ⟨W.1, W.2.1, R.trans W.2.2.1 hp, by have := W.2.2.2.1; omega, by have := W.2.2.2.2; omega⟩
theorem lk8 (k : Nat) : ([(46, k), (8, k)] : List (Nat × Nat)).lookup 8 = some k := rfl
theorem c_init8 {E : ax_E} {h : ax_H} {a : Nat} (e : hT h a = 8) : ∃ h', f_J7_init_2 E (some a) none none 0 0 h = some h' ∧ hT h' a = 8 ∧ (∀ c, c ≠ a → h'.2.2 c = h.2.2 c) ∧ h'.1 = h.1 ∧ h'.2.1 = h.2.1 := by
  unfold f_J7_init_2 f_J6_init_3 ax_cso
  obtain ⟨h1, e1⟩ : ∃ h1, h1 = wR h a 0 (some a) := ⟨_, rfl⟩
  have t1 : hT h1 a = 8 := by rw [e1, hT_wR]; exact e
  obtain ⟨h2, e2⟩ : ∃ h2, h2 = wR h1 a 1 (ax_opt (E.2.2 2)) := ⟨_, rfl⟩
  have t2 : hT h2 a = 8 := by rw [e2, hT_wR]; exact t1
  obtain ⟨h3, e3⟩ : ∃ h3, h3 = wR h2 a 2 (ax_opt (E.2.2 3)) := ⟨_, rfl⟩
  have t3 : hT h3 a = 8 := by rw [e3, hT_wR]; exact t2
  obtain ⟨h4, e4⟩ : ∃ h4, h4 = wR h3 a 1 none := ⟨_, rfl⟩
  have t4 : hT h4 a = 8 := by rw [e4, hT_wR]; exact t3
  obtain ⟨h5, e5⟩ : ∃ h5, h5 = wR h4 a 3 none := ⟨_, rfl⟩
  have t5 : hT h5 a = 8 := by rw [e5, hT_wR]; exact t4
  obtain ⟨h6, e6⟩ : ∃ h6, h6 = wR h5 a 0 none := ⟨_, rfl⟩
  have t6 : hT h6 a = 8 := by rw [e6, hT_wR]; exact t5
  obtain ⟨h7, e7⟩ : ∃ h7, h7 = wR h6 a 2 none := ⟨_, rfl⟩
  have t7 : hT h7 a = 8 := by rw [e7, hT_wR]; exact t6
  refine ⟨h7, ?_, t7, fun c hc => ?_, by rw [e7, e6, e5, e4, e3, e2, e1]; rfl, by rw [e7, e6, e5, e4, e3, e2, e1]; rfl⟩
  · rw [Option.bind_some, Option.bind_some, f_pRs e (by decide) (lk8 0), Option.bind_some, ← e1, Option.bind_some, f_pRs t1 (by decide) (lk8 1), Option.bind_some, ← e2, Option.bind_some, f_pRs t2 (by decide) (lk8 2), Option.bind_some, ← e3, if_pos (by decide), f_pRs t3 (by decide) (lk8 1), Option.bind_some, ← e4, f_pRs t4 (by decide) (lk8 3), Option.bind_some, ← e5, f_pRs t5 (by decide) (lk8 0), Option.bind_some, ← e6, if_pos (by decide), f_pRs t6 (by decide) (lk8 2), Option.bind_some, ← e7, Option.bind_some]
  · rw [e7, hC_wR_ne hc, e6, hC_wR_ne hc, e5, hC_wR_ne hc, e4, hC_wR_ne hc, e3, hC_wR_ne hc, e2, hC_wR_ne hc, e1, hC_wR_ne hc]
section
variable {E : ax_E} {T : Rw} {N x i p w tg k : Nat} {lv dp pl : Int} {g g' : ax_H}
theorem must_ok {v : Int} (hv : ¬ i2 v = 0) : f_X6_must E (some i) v g = some (.inr g) := by
  unfold f_X6_must
  rw [if_neg hv]
theorem must_no {v : Int} (G : RdC E T N x i p w tg k lv dp pl g) (hv : i2 v = 0) (r1 : g.1 + 1 ≤ E.1.1) (r2 : g.2.1 + 7 ≤ E.1.2) : ∃ r, f_X6_must E (some i) v g = some (.inl r) ∧ RdW T N i p pl g k 1 7 r := by
  obtain ⟨F, g0, -⟩ := G
  have hg := F.2.1
  obtain ⟨h1, e1⟩ : ∃ h1, h1 = nwH g 8 0 7 := ⟨_, rfl⟩
  have t1 : hT h1 g.1 = 8 := by rw [e1]; exact hT_nw_eq
  have c1 : ∀ c, c ≠ g.1 → h1.2.2 c = g.2.2 c := fun c hc => by rw [e1]; exact hC_nw_ne hc
  have ti : hT h1 i = tg := by rw [e1, hT_nw_ne (by omega)]; exact F.2.2.2.2.2.2.2.2.2.1
  have i0 : hI h1 i 0 = pos T N k := by rw [e1, hI_nw_ne (by omega)]; exact g0
  obtain ⟨h2, q1, q2, q3, q4, q5⟩ := c_init8 (E := E) t1
  obtain ⟨h3, e3⟩ : ∃ h3, h3 = wI h2 g.1 6 (pos T N k : Int) := ⟨_, rfl⟩
  have t3 : hT h3 g.1 = 8 := by rw [e3, hT_wI]; exact q2
  refine ⟨(g.1, h3), ?_, t3, by rw [e3]; exact hI_wI_eq, ⟨?_, ?_, fun c c0 c2 c3 => ?_, fun j _ => ?_⟩, ?_, ?_⟩
  · unfold f_X6_must f_X8_init
    rw [if_pos hv, f_nw r1 r2, Option.bind_some]
    dsimp only
    rw [← e1, f_gIs ti F.t9 (lk7 F.1 0), Option.bind_some, i0, Option.bind_some, Option.bind_some, q1, Option.bind_some, f_pI q2 (by decide), Option.bind_some, ← e3, Option.bind_some, Option.bind_some, f_ce t3 (by decide), Option.bind_some]
  · rw [e3, wI_1, q4, e1, nw_1]; omega
  · rw [e3, wI_2, q5, e1, nw_2]; omega
  · rw [e3, hC_wI_ne (by omega), q3 c (by omega), c1 c (by omega)]
  · have y : h3.2.2 p = g.2.2 p := by rw [e3, hC_wI_ne (by omega), q3 p (by omega), c1 p (by omega)]
    exact (ceq y).2.2.2 j
  · show ((h3.1 : Nat) : Int) ≤ _
    rw [e3, wI_1, q4, e1, nw_1]; omega
  · show ((h3.2.1 : Nat) : Int) ≤ _
    rw [e3, wI_2, q5, e1, nw_2]; omega
theorem c_accept {j : Nat} (G : RdC E T N x i p w tg k lv dp pl g) (hj : j < 44) : ∃ g', f_X6_accept E (some i) (some (E.2.2 (10 + j))) g = some (b01 (cT T N k = tc j), g') ∧ RdC E T N x i p w tg (if cT T N k = tc j then k + 1 else k) lv dp pl g' ∧ RdN' i p pl g g' := by
  have F := G.1
  unfold f_X6_accept f_X6_accept_14
  rw [F.dsp, c_isWord G hj, Option.bind_some]
  dsimp only
  by_cases c : cT T N k = tc j
  · obtain ⟨g', r1, r2, r3⟩ := c_nxt G
    rw [if_neg (by rw [b01_z]; simp [c]), F.dsp, r1, Option.bind_some, if_pos (by rw [b01_or]; trivial), if_pos c]
    exact ⟨g', rfl, r2, r3⟩
  · rw [if_pos (by rw [b01_z]; exact c), if_pos (by rw [b01_or]; trivial), if_neg c]
    exact ⟨g, rfl, G, RdN'.refl _ _ _ _⟩
theorem c_rleaf (G : RdC E T N x i p w tg k lv dp pl g) (hl : 0 ≤ lv ∧ lv < 50) : ∃ g', f_X6_leaf E (some i) g = some (.inr g') ∧ RdC E T N x i p w tg k (lv + 1) dp pl g' ∧ RdN' i p pl g g' := by
  obtain ⟨F, -, -, g2, -⟩ := id G
  refine ⟨wI g i 2 (lv + 1), ?_, RdG.w2 G, RdN'_w⟩
  unfold f_X6_leaf f_X6_leaf_15
  rw [F.gI, Option.bind_some, g2, i2_of (a := lv) (by omega) (by omega), show i2 50 = 50 by decide, if_pos hl.2, F.dsp, must_ok (by decide), tc_r, F.gI, Option.bind_some, g2, F.pI, Option.bind_some]
theorem c_rleafN (G : RdC E T N x i p w tg k lv dp pl g) (hl : lv = 50) (r1 : g.1 + 1 ≤ E.1.1) (r2 : g.2.1 + 7 ≤ E.1.2) : ∃ r, f_X6_leaf E (some i) g = some (.inl r) ∧ RdW T N i p pl g k 1 7 r := by
  obtain ⟨F, -, -, g2, -⟩ := id G
  obtain ⟨r, m1, m2⟩ := must_no (v := 0) G (by decide) r1 r2
  refine ⟨r, ?_, m2⟩
  unfold f_X6_leaf f_X6_leaf_15
  rw [F.gI, Option.bind_some, g2, hl, if_neg (by decide), F.dsp, m1, tc_l]
theorem c_open (G : RdC E T N x i p w tg k lv dp pl g) (hd : 0 ≤ dp ∧ dp < 8) : ∃ g', f_X6_open E (some i) g = some (.inr g') ∧ RdC E T N x i p w tg (k + 1) lv (dp + 1) pl g' ∧ RdN' i p pl g g' := by
  obtain ⟨F, -, -, -, g3, -⟩ := id G
  have G1 : RdC E T N x i p w tg k lv (dp + 1) pl (wI g i 3 (dp + 1)) := RdG.w3 G
  obtain ⟨g', r1, r2, r3⟩ := c_nxt G1
  refine ⟨g', ?_, r2, RdN'_w.trans r3⟩
  unfold f_X6_open f_X6_open_15
  rw [F.gI, Option.bind_some, g3, i2_of (a := dp) (by omega) (by omega), show i2 8 = 8 by decide, if_pos hd.2, F.dsp, must_ok (by decide), tc_r, F.gI, Option.bind_some, g3, F.pI, Option.bind_some, G1.1.dsp, r1, Option.bind_some]
theorem c_openN (G : RdC E T N x i p w tg k lv dp pl g) (hd : dp = 8) (r1 : g.1 + 1 ≤ E.1.1) (r2 : g.2.1 + 7 ≤ E.1.2) : ∃ r, f_X6_open E (some i) g = some (.inl r) ∧ RdW T N i p pl g k 1 7 r := by
  obtain ⟨F, -, -, -, g3, -⟩ := id G
  obtain ⟨r, m1, m2⟩ := must_no (v := 0) G (by decide) r1 r2
  refine ⟨r, ?_, m2⟩
  unfold f_X6_open f_X6_open_15
  rw [F.gI, Option.bind_some, g3, hd, if_neg (by decide), F.dsp, m1, tc_l]
theorem c_close {j : Nat} (G : RdC E T N x i p w tg k lv dp pl g) (hj : j < 44) (c : cT T N k = tc j) : ∃ g', f_X6_close E (some i) (some (E.2.2 (10 + j))) g = some (.inr g') ∧ RdC E T N x i p w tg (k + 1) lv (dp - 1) pl g' ∧ RdN' i p pl g g' := by
  obtain ⟨g1, r1, r2, r3⟩ := c_accept G hj
  rw [if_pos c] at r2
  obtain ⟨F1, -, -, -, g3, -⟩ := id r2
  refine ⟨wI g1 i 3 (dp - 1), ?_, RdG.w3 r2, r3.trans RdN'_w⟩
  unfold f_X6_close
  rw [G.1.dsp, r1, Option.bind_some]
  dsimp only
  rw [F1.dsp, must_ok (by rw [b01_z]; simp [c]), tc_r, F1.gI, Option.bind_some, g3, F1.pI, Option.bind_some]
theorem c_closeN {j : Nat} (G : RdC E T N x i p w tg k lv dp pl g) (hj : j < 44) (c : ¬ cT T N k = tc j) (q1 : g.1 + 1 ≤ E.1.1) (q2 : g.2.1 + 7 ≤ E.1.2) : ∃ r, f_X6_close E (some i) (some (E.2.2 (10 + j))) g = some (.inl r) ∧ RdW T N i p pl g k 1 7 r := by
  obtain ⟨g1, r1, r2, r3⟩ := c_accept G hj
  rw [if_neg c] at r2
  obtain ⟨r, m1, m2⟩ := must_no (v := b01 (cT T N k = tc j)) r2 (by rw [b01_z]; exact c) (by rw [r3.2.1]; exact q1) (by rw [r3.2.2]; exact q2)
  refine ⟨r, ?_, m2.of r3.1 (Int.le_refl _) (by rw [r3.2.1]; omega) (by rw [r3.2.2]; omega)⟩
  unfold f_X6_close
  rw [G.1.dsp, r1, Option.bind_some]
  dsimp only
  rw [r2.1.dsp, m1, tc_l]
/-- which of some texts -/
def whS (c : Int) (B : Nat) : Nat → Nat → Int
  | 0, _ => -1
  | f + 1, k => if c = tc (B + k) then k else whS c B f (k + 1)
theorem c_which {q B n : Nat} (G : RdC E T N x i p w tg k lv dp pl g) (h1 : hT g q = 108) (h2 : hL g q = n) (h3 : ∀ k, k < n → hR g q k = some (E.2.2 (10 + (B + k)))) (hn : B + n ≤ 44) : f_X6_which E (some i) (some q) g = some (whS (cT T N k) B n 0, g) := by
  have F := G.1
  have lp : ∀ (f t : Nat), t + f = n → ax_iter (fun s : Int × ax_H => lb_X6_which_2 E (some i) (some q) s.1 s.2) ((t : Int), g) = some (whS (cT T N k) B f t, g) := by
    intro f
    induction f with
    | zero =>
      intro t e
      refine it_done ?_
      dsimp only
      unfold lb_X6_which_2
      rw [f_len h1 (by decide), Option.bind_some, h2, i2_of (a := (t : Int)) (by omega) (by omega), i2_of (a := (n : Int)) (by omega) (by omega), if_neg (by omega)]
      rfl
    | succ f ih =>
      intro t e
      have st : lb_X6_which_2 E (some i) (some q) (t : Int) g = if cT T N k = tc (B + t) then (some ((t : Int), g)).map Sum.inr else some (.inl ((t : Int) + 1, g)) := by
        unfold lb_X6_which_2
        rw [f_len h1 (by decide), Option.bind_some, h2, i2_of (a := (t : Int)) (by omega) (by omega), i2_of (a := (n : Int)) (by omega) (by omega), if_pos (by omega), f_ldR h1 (by decide) (by omega) (by rw [h2]; omega) (by rw [h2]; omega), Option.bind_some, Int.toNat_natCast, h3 t (by omega), F.dsp, c_isWord G (by omega), Option.bind_some]
        dsimp only
        by_cases c : cT T N k = tc (B + t)
        · rw [if_neg (by rw [b01_z]; simp [c]), if_pos c]
        · rw [if_pos (by rw [b01_z]; exact c), if_neg c]
      unfold whS
      by_cases c : cT T N k = tc (B + t)
      · rw [if_pos c] at st ⊢
        exact it_done st
      · rw [if_neg c] at st ⊢
        exact (it_step (body := fun s : Int × ax_H => lb_X6_which_2 E (some i) (some q) s.1 s.2) (s := ((t : Int), g)) st).trans (ih (t + 1) (by omega))
  unfold f_X6_which f_X6_which_2
  exact lp n 0 (by omega)
theorem wh_law (c : Int) : whS c 0 10 0 = if 9 ≤ c ∧ c ≤ 18 then c - 9 else -1 := by
  by_cases h : 9 ≤ c ∧ c ≤ 18
  · rw [if_pos h]
    have : c = 9 ∨ c = 10 ∨ c = 11 ∨ c = 12 ∨ c = 13 ∨ c = 14 ∨ c = 15 ∨ c = 16 ∨ c = 17 ∨ c = 18 := by omega
    rcases this with e | e | e | e | e | e | e | e | e | e <;> subst e <;> decide +kernel
  · rw [if_neg h]
    have e : ∀ j, j < 10 → ¬ c = tc (0 + j) := fun j hj z => by
      have f : al7 (fun j => decide (9 ≤ tc (0 + j) ∧ tc (0 + j) ≤ 18)) 10 = true := by decide +kernel
      have := of_decide_eq_true (al7_e _ f j hj)
      omega
    unfold whS whS whS whS whS whS whS whS whS whS whS
    rw [if_neg (e 0 (by decide)), if_neg (e 1 (by decide)), if_neg (e 2 (by decide)), if_neg (e 3 (by decide)), if_neg (e 4 (by decide)), if_neg (e 5 (by decide)), if_neg (e 6 (by decide)), if_neg (e 7 (by decide)), if_neg (e 8 (by decide)), if_neg (e 9 (by decide))]
theorem wh_head (c : Int) : whS c 10 4 0 = if 1 ≤ c ∧ c ≤ 4 then c - 1 else -1 := by
  by_cases h : 1 ≤ c ∧ c ≤ 4
  · rw [if_pos h]
    have : c = 1 ∨ c = 2 ∨ c = 3 ∨ c = 4 := by omega
    rcases this with e | e | e | e <;> subst e <;> decide +kernel
  · rw [if_neg h]
    have e : ∀ j, j < 4 → ¬ c = tc (10 + j) := fun j hj z => by
      have f : al7 (fun j => decide (1 ≤ tc (10 + j) ∧ tc (10 + j) ≤ 4)) 4 = true := by decide +kernel
      have := of_decide_eq_true (al7_e _ f j hj)
      omega
    unfold whS whS whS whS whS
    rw [if_neg (e 0 (by decide)), if_neg (e 1 (by decide)), if_neg (e 2 (by decide)), if_neg (e 3 (by decide))]
theorem wh_ord (c : Int) : whS c 15 6 0 = if c = 17 then 0 else if 19 ≤ c ∧ c ≤ 23 then c - 18 else -1 := by
  by_cases h : c = 17 ∨ 19 ≤ c ∧ c ≤ 23
  · have : c = 17 ∨ c = 19 ∨ c = 20 ∨ c = 21 ∨ c = 22 ∨ c = 23 := by omega
    rcases this with e | e | e | e | e | e <;> subst e <;> decide +kernel
  · rw [if_neg (by omega), if_neg (by omega)]
    have e : ∀ j, j < 6 → ¬ c = tc (15 + j) := fun j hj z => by
      have f : al7 (fun j => decide (tc (15 + j) = 17 ∨ (19 ≤ tc (15 + j) ∧ tc (15 + j) ≤ 23))) 6 = true := by decide +kernel
      have := of_decide_eq_true (al7_e _ f j hj)
      omega
    unfold whS whS whS whS whS whS whS
    rw [if_neg (e 0 (by decide)), if_neg (e 1 (by decide)), if_neg (e 2 (by decide)), if_neg (e 3 (by decide)), if_neg (e 4 (by decide)), if_neg (e 5 (by decide))]
end
