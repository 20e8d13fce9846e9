/-! The component's reader: what it is, and what it sees -/
set_option maxRecDepth 100000
/-- a text among what is only read -/
def StrE (E : ax_E) (x a : Nat) (L : List Int) : Prop := a < x ∧ ∃ (c d : ax_C) (b : Nat), E.2.1 a = some c ∧ E.2.1 b = some d ∧ b < x ∧ c.1 = 51 ∧ c.2.2.2 0 = some b ∧ c.2.2.1 1 = 0 ∧ d.1 = 101 ∧ d.2.1 = L.length ∧ ∀ k, k < L.length → d.2.2.1 k = L.getD k 0
def TxtE (E : ax_E) (x : Nat) : Prop := ∀ j, j < 44 → StrE E x (E.2.2 (10 + j)) (tx j)
def nd (T : Rw) (N k : Nat) : Nat := if k < N then tnd T N k else N
def wB (tg : Nat) : Nat := if tg = 7 then 0 else 15
def wLn (tg : Nat) : Nat := if tg = 7 then 10 else 6
/-- what is fixed of a reader -/
def RdF (E : ax_E) (T : Rw) (N x i p w tg : Nat) (g : ax_H) : Prop := (tg = 7 ∨ tg = 25) ∧ (x + 116 ≤ i ∧ x + 116 ≤ p ∧ x + 116 ≤ w ∧ i ≠ p ∧ i ≠ w ∧ p ≠ w ∧ i < g.1 ∧ p < g.1 ∧ w < g.1) ∧ (∀ a, a < x → g.2.2 a = none) ∧ (hT g x = 0 ∧ hR g x 11 = some (x + 22) ∧ hI g x 12 = N) ∧ (hT g (x + 22) = 101 ∧ hL g (x + 22) = 400 ∧ ∀ k : Nat, k < N → hI g (x + 22) k = T k) ∧ (N ≤ 400 ∧ ∀ k : Int, 0 ≤ k → k < 400 → -128 ≤ T k ∧ T k ≤ 127) ∧ TxtE E x ∧ (hT g p = 109 ∧ hL g p = 50) ∧ (hT g w = 108 ∧ hL g w = wLn tg ∧ ∀ k, k < wLn tg → hR g w k = some (E.2.2 (10 + (wB tg + k)))) ∧ (hT g i = tg ∧ hR g i 5 = some p ∧ hR g i 6 = some w ∧ hR g i 7 = some x ∧ (tg = 25 → hR g i 9 = some x) ∧ hR g i 8 = some (i + 3) ∧ (tg = 7 → hR g i 9 = some (i + 4)))
/-- a reader that stands at a token; how many leaves, brackets, how high the pile -/
def RdG (E : ax_E) (T : Rw) (N x i p w tg : Nat) (a b lv dp pl : Int) (g : ax_H) : Prop := RdF E T N x i p w tg g ∧ hI g i 0 = a ∧ hI g i 1 = b ∧ hI g i 2 = lv ∧ hI g i 3 = dp ∧ hI g i 4 = pl
def RdC (E : ax_E) (T : Rw) (N x i p w tg k : Nat) (lv dp pl : Int) (g : ax_H) : Prop := RdG E T N x i p w tg (pos T N k) (nd T N (pos T N k)) lv dp pl g
/-- what reading keeps: all that stood, but the reader and its pile; the pile so high -/
def RdR (i p : Nat) (pl : Int) (g g' : ax_H) : Prop := g.1 ≤ g'.1 ∧ g.2.1 ≤ g'.2.1 ∧ (∀ a, a < g.1 → a ≠ i → a ≠ p → g'.2.2 a = g.2.2 a) ∧ ∀ j : Nat, (j : Int) < pl → hR g' p j = hR g p j
theorem RdR.refl (i p : Nat) (pl : Int) (g : ax_H) : RdR i p pl g g := ⟨Nat.le_refl _, Nat.le_refl _, fun _ _ _ _ => rfl, fun _ _ => rfl⟩
theorem RdR.trans {i p : Nat} {pl pl2 : Int} {g g1 g2 : ax_H} (a : RdR i p pl g g1) (b : RdR i p pl2 g1 g2) (h : pl ≤ pl2) : RdR i p pl g g2 := ⟨Nat.le_trans a.1 b.1, Nat.le_trans a.2.1 b.2.1, fun c c1 c2 c3 => (b.2.2.1 c (Nat.lt_of_lt_of_le c1 a.1) c2 c3).trans (a.2.2.1 c c1 c2 c3), fun j hj => (b.2.2.2 j (by omega)).trans (a.2.2.2 j hj)⟩
section
variable {E : ax_E} {g g' : ax_H} {a t k : Nat}
theorem lo_ce {c : ax_C} (h0 : g.2.2 a = none) (e : E.2.1 a = some c) (ht : c.1 = t) : ax_ce E g (some a) t = some c := by
  have q : ax_rd E g a = some c := by unfold ax_rd; rw [h0]; exact e
  simp only [ax_ce, q]
  exact if_pos ht
theorem shr_0 {n : Nat} (hn : n < 2147483648) : ax_shr (n : Int) 0 = n := by
  have q := shr_nat (n := n) (k := 0) hn (by decide)
  rw [Nat.shiftRight_zero] at q
  exact q
theorem c_len51 {x : Nat} {L : List Int} (S : StrE E x a L) (lo : ∀ a, a < x → g.2.2 a = none) (hL' : L.length ≤ 10) : (∃ c, ax_ce E g (some a) 51 = some c) ∧ f_J11_length E (some a) g = some ((L.length : Int), g) := by
  obtain ⟨s0, c, d, b, s1, s2, s3, s4, s5, s6, s7, s8, s9⟩ := S
  have q1 := lo_ce (g := g) (lo a s0) s1 s4
  have q2 := lo_ce (g := g) (lo b s3) s2 s7
  refine ⟨⟨c, q1⟩, ?_⟩
  unfold f_J11_length f_J11_coder ax_gR ax_gI ax_len
  rw [q1, Option.map_some, Option.bind_some, s5, q2, Option.map_some, Option.bind_some, Option.bind_some, if_neg (by decide), Option.map_some, Option.bind_some, s6, if_pos (by decide), Option.bind_some, s8]
  dsimp only
  rw [shr_0 (by omega)]
theorem c_chr51 {x : Nat} {L : List Int} (S : StrE E x a L) (lo : ∀ a, a < x → g.2.2 a = none) (hL' : L.length ≤ 10) (hk : k < L.length) (hb : 0 ≤ L.getD k 0 ∧ L.getD k 0 ≤ 127) : f_J11_charAt E (some a) k g = some (L.getD k 0, g) := by
  obtain ⟨s0, c, d, b, s1, s2, s3, s4, s5, s6, s7, s8, s9⟩ := S
  have q1 := lo_ce (g := g) (lo a s0) s1 s4
  have q2 := lo_ce (g := g) (lo b s3) s2 s7
  have ld : ax_ld E g (some b) 101 (k : Int) = some (L.getD k 0) := by
    unfold ax_ld
    rw [q2, Option.bind_some, i2_of (a := (k : Int)) (by omega) (by omega), if_pos (by rw [s8]; omega), Int.toNat_natCast, s9 k hk]
  have len : ax_len E g (some b) 101 = some (L.length : Int) := by
    unfold ax_len
    rw [q2]
    show some ((d.2.1 : Nat) : Int) = _
    rw [s8]
  have i1 : f_J11_isLatin1 E (some a) g = some (1, g) := by
    unfold f_J11_isLatin1 ax_gI
    rw [if_neg (by decide), q1, Option.map_some, Option.bind_some, s6, if_pos (by decide)]
  have ck : f_J11_checkIndex E (k : Int) (L.length : Int) g = some g := by
    unfold f_J11_checkIndex f_J5_checkIndex ax_cso
    rw [Option.bind_some, i2_of (a := (k : Int)) (by omega) (by omega), i2_of (a := (L.length : Int)) (by omega) (by omega), if_neg (by omega), if_pos (by omega), Option.bind_some]
  have ce : f_J12_charAt E (some b) k g = some (L.getD k 0, g) := by
    unfold f_J12_charAt
    rw [len, Option.bind_some, ck, Option.bind_some, ld, Option.bind_some, and255 (by omega) hb.2, Int.emod_eq_of_lt (by omega) (by omega), Int.emod_eq_of_lt (by omega) (by omega), if_pos (by omega)]
  unfold f_J11_charAt
  rw [q1, Option.bind_some, i1, Option.bind_some, if_neg (show ¬ i2 ((1 : Int), g).1 = 0 by exact (by decide : ¬ i2 1 = 0))]
  unfold ax_gR
  rw [q1, Option.map_some, Option.bind_some, s5, ce, Option.bind_some, if_pos (by omega)]
theorem f_letter {v : Int} (hv : i2 v = v) : f_X0_isLetter E v g = some (b01 (isLet v = true), g) := by
  have e : (isLet v = true) = (97 ≤ v ∧ v ≤ 122) := by unfold isLet; rw [decide_eq_true_eq]
  unfold f_X0_isLetter f_X0_isLetter_16
  rw [hv, show i2 97 = 97 by decide, show i2 122 = 122 by decide]
  by_cases c1 : v < 97
  · rw [if_pos c1, b01_f (by rw [e]; omega)]
  · rw [if_neg c1]
    by_cases c2 : 122 < v
    · rw [if_pos c2, b01_f (by rw [e]; omega)]
    · rw [if_neg c2, b01_t (by rw [e]; omega)]
theorem f_digit {v : Int} (hv : i2 v = v) : f_X0_isDigit E v g = some (b01 (isDig v = true), g) := by
  have e : (isDig v = true) = (48 ≤ v ∧ v ≤ 57) := by unfold isDig; rw [decide_eq_true_eq]
  unfold f_X0_isDigit f_X0_isDigit_16
  rw [hv, show i2 48 = 48 by decide, show i2 57 = 57 by decide]
  by_cases c1 : v < 48
  · rw [if_pos c1, b01_f (by rw [e]; omega)]
  · rw [if_neg c1]
    by_cases c2 : 57 < v
    · rw [if_pos c2, b01_f (by rw [e]; omega)]
    · rw [if_neg c2, b01_t (by rw [e]; omega)]
end
section
variable {E : ax_E} {T : Rw} {N x i p w tg k : Nat} {a b lv dp pl : Int} {g g' : ax_H}
/-- the fixed things stay -/
theorem RdF.keep (F : RdF E T N x i p w tg g) (R : RdR i p pl g g') (hi : hT g' i = hT g i ∧ ∀ j, hR g' i j = hR g i j) (hp : hT g' p = hT g p ∧ hL g' p = hL g p) : RdF E T N x i p w tg g' := by
  obtain ⟨f1, ⟨p1, p2, p3, p4, p5, p6, p7, p8, p9⟩, f3, ⟨x1, x2, x3⟩, ⟨t1, t2, t3⟩, f6, f7, ⟨l1, l2⟩, ⟨w1, w2, w3⟩, ⟨i1, i2', i3, i4, i5, i6, i7⟩⟩ := F
  obtain ⟨r1, r2, r3, r4⟩ := R
  obtain ⟨u1', u2, u3, u4⟩ := ceq (r3 x (by omega) (by omega) (by omega))
  obtain ⟨v1, v2, v3, v4⟩ := ceq (r3 (x + 22) (by omega) (by omega) (by omega))
  obtain ⟨y1, y2, y3, y4⟩ := ceq (r3 w p9 (Ne.symm p5) (Ne.symm p6))
  exact ⟨f1, ⟨p1, p2, p3, p4, p5, p6, by omega, by omega, by omega⟩, fun c hc => (r3 c (by omega) (by omega) (by omega)).trans (f3 c hc), ⟨u1'.trans x1, (u4 11).trans x2, (u3 12).trans x3⟩, ⟨v1.trans t1, v2.trans t2, fun k hk => (v3 k).trans (t3 k hk)⟩, f6, f7, ⟨hp.1.trans l1, hp.2.trans l2⟩, ⟨y1.trans w1, y2.trans w2, fun k hk => (y4 k).trans (w3 k hk)⟩, ⟨hi.1.trans i1, (hi.2 5).trans i2', (hi.2 6).trans i3, (hi.2 7).trans i4, fun h => (hi.2 9).trans (i5 h), (hi.2 8).trans i6, fun h => (hi.2 9).trans (i7 h)⟩⟩
theorem RdR_wI {v : Int} {q : Nat} : RdR i p pl g (wI g i q v) := ⟨Nat.le_refl _, Nat.le_refl _, fun c _ c2 _ => hC_wI_ne c2, fun _ _ => hR_wI⟩
theorem RdF.wr {v : Int} {q : Nat} (F : RdF E T N x i p w tg g) : RdF E T N x i p w tg (wI g i q v) := F.keep (pl := 0) RdR_wI ⟨hT_wI, fun _ => hR_wI⟩ ⟨hT_wI, hL_wI⟩
theorem RdG.w0 {v : Int} (G : RdG E T N x i p w tg a b lv dp pl g) : RdG E T N x i p w tg v b lv dp pl (wI g i 0 v) := by
  obtain ⟨F, g0, g1, g2, g3, g4⟩ := G
  exact ⟨F.wr, hI_wI_eq, by rw [hI_wI_ne (by omega)]; exact g1, by rw [hI_wI_ne (by omega)]; exact g2, by rw [hI_wI_ne (by omega)]; exact g3, by rw [hI_wI_ne (by omega)]; exact g4⟩
theorem RdG.w1 {v : Int} (G : RdG E T N x i p w tg a b lv dp pl g) : RdG E T N x i p w tg a v lv dp pl (wI g i 1 v) := by
  obtain ⟨F, g0, g1, g2, g3, g4⟩ := G
  exact ⟨F.wr, by rw [hI_wI_ne (by omega)]; exact g0, hI_wI_eq, by rw [hI_wI_ne (by omega)]; exact g2, by rw [hI_wI_ne (by omega)]; exact g3, by rw [hI_wI_ne (by omega)]; exact g4⟩
theorem RdG.w2 {v : Int} (G : RdG E T N x i p w tg a b lv dp pl g) : RdG E T N x i p w tg a b v dp pl (wI g i 2 v) := by
  obtain ⟨F, g0, g1, g2, g3, g4⟩ := G
  exact ⟨F.wr, by rw [hI_wI_ne (by omega)]; exact g0, by rw [hI_wI_ne (by omega)]; exact g1, hI_wI_eq, by rw [hI_wI_ne (by omega)]; exact g3, by rw [hI_wI_ne (by omega)]; exact g4⟩
theorem RdG.w3 {v : Int} (G : RdG E T N x i p w tg a b lv dp pl g) : RdG E T N x i p w tg a b lv v pl (wI g i 3 v) := by
  obtain ⟨F, g0, g1, g2, g3, g4⟩ := G
  exact ⟨F.wr, by rw [hI_wI_ne (by omega)]; exact g0, by rw [hI_wI_ne (by omega)]; exact g1, by rw [hI_wI_ne (by omega)]; exact g2, hI_wI_eq, by rw [hI_wI_ne (by omega)]; exact g4⟩
theorem RdG.w4 {v : Int} (G : RdG E T N x i p w tg a b lv dp pl g) : RdG E T N x i p w tg a b lv dp v (wI g i 4 v) := by
  obtain ⟨F, g0, g1, g2, g3, g4⟩ := G
  exact ⟨F.wr, by rw [hI_wI_ne (by omega)]; exact g0, by rw [hI_wI_ne (by omega)]; exact g1, by rw [hI_wI_ne (by omega)]; exact g2, by rw [hI_wI_ne (by omega)]; exact g3, hI_wI_eq⟩
theorem lk7 (htg : tg = 7 ∨ tg = 25) (k : Nat) : ([(25, k), (7, k)] : List (Nat × Nat)).lookup tg = some k := by
  rcases htg with e | e <;> subst e <;> rfl
theorem RdF.t9 (F : RdF E T N x i p w tg g) : tg ≠ 999 := by
  have := F.1
  omega
theorem RdF.gI (F : RdF E T N x i p w tg g) (q : Nat) : ax_gIs E g (some i) [(25, q), (7, q)] = some (hI g i q) := f_gIs F.2.2.2.2.2.2.2.2.2.1 F.t9 (lk7 F.1 q)
theorem RdF.gR (F : RdF E T N x i p w tg g) (q : Nat) : ax_gRs E g (some i) [(25, q), (7, q)] = some (hR g i q) := f_gRs F.2.2.2.2.2.2.2.2.2.1 F.t9 (lk7 F.1 q)
theorem RdF.pI (F : RdF E T N x i p w tg g) (q : Nat) (v : Int) : ax_pIs g (some i) [(25, q), (7, q)] v = some (wI g i q v) := f_pIs F.2.2.2.2.2.2.2.2.2.1 F.t9 (lk7 F.1 q)
theorem RdF.gX (F : RdF E T N x i p w tg g) : ax_gRs E g (some i) [(25, 7), (7, 7)] = some (some x) := by rw [F.gR, F.2.2.2.2.2.2.2.2.2.2.2.2.1]
theorem RdF.gN (F : RdF E T N x i p w tg g) : ax_gI E g (some x) 0 12 = some (N : Int) := by rw [f_gI F.2.2.2.1.1 (by decide), F.2.2.2.1.2.2]
theorem RdF.gT (F : RdF E T N x i p w tg g) : ax_gR E g (some x) 0 11 = some (some (x + 22)) := by rw [f_gR F.2.2.2.1.1 (by decide), F.2.2.2.1.2.1]
theorem RdF.ld (F : RdF E T N x i p w tg g) {q : Nat} (hq : q < N) : ax_ld E g (some (x + 22)) 101 (q : Int) = some (T q) := by
  have t := F.2.2.2.2.1
  have n := F.2.2.2.2.2.1.1
  rw [f_ld t.1 (by decide) (by omega) (by rw [t.2.1]; omega) (by rw [t.2.1]; decide), Int.toNat_natCast, t.2.2 q hq]
theorem RdF.tb (F : RdF E T N x i p w tg g) {q : Nat} (hq : q < N) : -128 ≤ T q ∧ T q ≤ 127 := F.2.2.2.2.2.1.2 q (by omega) (by have := F.2.2.2.2.2.1.1; omega)
theorem RdF.dsp {β : Type} {X : Option β} (F : RdF E T N x i p w tg g) : ax_dp E g (some i) (fun t => if t = 25 ∨ t = 7 then X else none) = X := by
  rw [f_dp F.2.2.2.2.2.2.2.2.2.1 F.t9]
  exact if_pos (by have := F.1; omega)
end
