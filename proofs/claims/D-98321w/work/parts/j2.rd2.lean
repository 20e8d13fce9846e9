/-! The component's reader: words, the next token -/
set_option maxRecDepth 100000
/-- nothing has grown -/
def RdN' (i p : Nat) (pl : Int) (g g' : ax_H) : Prop := RdR i p pl g g' ∧ g'.1 = g.1 ∧ g'.2.1 = g.2.1
theorem RdN'.refl (i p : Nat) (pl : Int) (g : ax_H) : RdN' i p pl g g := ⟨RdR.refl _ _ _ _, rfl, rfl⟩
theorem RdN'.trans {i p : Nat} {pl : Int} {g g1 g2 : ax_H} (a : RdN' i p pl g g1) (b : RdN' i p pl g1 g2) : RdN' i p pl g g2 := ⟨a.1.trans b.1 (Int.le_refl _), b.2.1.trans a.2.1, b.2.2.trans a.2.2⟩
theorem RdN'_w {i p q : Nat} {pl v : Int} {g : ax_H} : RdN' i p pl g (wI g i q v) := ⟨RdR_wI, rfl, rfl⟩
section
variable {E : ax_E} {T : Rw} {N x i p w tg k : Nat} {lv dp pl : Int} {g g' : ax_H}
theorem c_isWordG {a b r : Nat} {L : List Int} (G : RdG E T N x i p w tg a b lv dp pl g) (hab : a ≤ b) (hb : b ≤ N) (S : StrE E x r L) (l1 : L.length ≤ 10) (lb : ∀ k, k < L.length → 0 ≤ L.getD k 0 ∧ L.getD k 0 ≤ 127) : f_X6_isWord E (some i) (some r) g = some (b01 (tkL T a b = L), g) := by
  obtain ⟨F, g0, g1, -⟩ := G
  have lo := F.2.2.1
  obtain ⟨⟨c51, e51⟩, el⟩ := c_len51 S lo l1
  have n4 := F.2.2.2.2.2.1.1
  have ll := tkL_len T a b
  unfold f_X6_isWord
  rw [F.gI, Option.bind_some, F.gI, Option.bind_some, e51, Option.bind_some, el, Option.bind_some, g0, g1, i2_of (a := (b : Int) - (a : Int)) (by omega) (by omega), i2_of (a := (L.length : Int)) (by omega) (by omega)]
  by_cases c : (b : Int) - (a : Int) = (L.length : Int)
  · rw [if_pos c]
    have cmp : ∀ (j t : Nat), t + j = L.length → (∀ q, q < t → (tkL T a b).getD q 0 = L.getD q 0) → ax_iter (fun s : Int × ax_H => lb_X6_isWord_20 E (some i) (some r) s.1 s.2) ((t : Int), g) = some (b01 (tkL T a b = L), g) := by
      intro j
      induction j with
      | zero =>
        intro t e hq
        refine it_done ?_
        dsimp only
        unfold lb_X6_isWord_20
        rw [e51, Option.bind_some, el, Option.bind_some, i2_of (a := (t : Int)) (by omega) (by omega), i2_of (a := (L.length : Int)) (by omega) (by omega), if_neg (by omega), b01_t (list_eq (by omega) (fun q hq' => hq q (by omega)))]
        rfl
      | succ j ih =>
        intro t e hq
        have ta := F.tb (q := a + t) (by omega)
        have tl := lb t (by omega)
        have at' := tkL_at (T := T) (a := a) (b := b) (t := t) (by omega)
        have st : lb_X6_isWord_20 E (some i) (some r) (t : Int) g = if T ((a + t : Nat) : Int) = L.getD t 0 then some (.inl ((t : Int) + 1, g)) else (some (0, g)).map Sum.inr := by
          unfold lb_X6_isWord_20
          rw [e51, Option.bind_some, el, Option.bind_some, i2_of (a := (t : Int)) (by omega) (by omega), i2_of (a := (L.length : Int)) (by omega) (by omega), if_pos (by omega), F.gX, Option.bind_some, F.gT, Option.bind_some, F.gI, Option.bind_some, g0, show (a : Int) + (t : Int) = ((a + t : Nat) : Int) by omega, F.ld (by omega), Option.bind_some, e51, Option.bind_some, c_chr51 S lo l1 (by omega) tl, Option.bind_some, i2_of (a := T ((a + t : Nat) : Int)) (by omega) (by omega), i2_of (a := L.getD t 0) (by omega) (by omega)]
        by_cases c2 : T ((a + t : Nat) : Int) = L.getD t 0
        · rw [if_pos c2] at st
          refine (it_step (body := fun s : Int × ax_H => lb_X6_isWord_20 E (some i) (some r) s.1 s.2) (s := ((t : Int), g)) st).trans (ih (t + 1) (by omega) (fun q hq' => ?_))
          by_cases cq : q = t
          · subst cq; rw [at']; exact c2
          · exact hq q (by omega)
        · rw [if_neg c2] at st
          refine it_done (st.trans ?_)
          rw [b01_f (fun z => c2 (by rw [← at', z]))]
          rfl
    have q := cmp L.length 0 (by omega) (fun q hq => absurd hq (Nat.not_lt_zero q))
    exact q
  · rw [if_neg c, b01_f (fun z => c (by rw [z] at ll; omega))]
theorem nd_b (k : Nat) (h : k ≤ N) : k ≤ nd T N k ∧ nd T N k ≤ N := by
  unfold nd
  split
  · rename_i c
    have := tnd_b (T := T) c
    omega
  · omega
theorem tc_pos {j : Nat} (hj : j < 44) : 1 ≤ tc j := by
  have f2 := al7_e _ tx_f2 j hj
  simp only [Bool.or_eq_true, Bool.and_eq_true, decide_eq_true_eq] at f2
  have l := tx_len hj
  rcases f2 with f | f
  · exact f.1.1.1
  · have := tx_b hj (k := 0) (by omega)
    omega
theorem c_isWord {j : Nat} (G : RdC E T N x i p w tg k lv dp pl g) (hj : j < 44) : f_X6_isWord E (some i) (some (E.2.2 (10 + j))) g = some (b01 (cT T N k = tc j), g) := by
  have F := G.1
  have n4 := F.2.2.2.2.2.1
  have q := c_isWordG (r := E.2.2 (10 + j)) G (nd_b _ (pos_le k)).1 (nd_b _ (pos_le k)).2 (F.2.2.2.2.2.2.1 j hj) (tx_len hj).2 (fun k hk => tx_b hj hk)
  rw [q]
  congr 2
  by_cases c : pos T N k < N
  · have t := tk_code n4.2 n4.1 hj c
    rw [show nd T N (pos T N k) = tnd T N (pos T N k) from if_pos c]
    by_cases c2 : cT T N k = tc j
    · rw [b01_t c2, b01_t (t.mpr c2)]
    · rw [b01_f c2, b01_f (fun z => c2 (t.mp z))]
  · have e := pos_le (T := T) (N := N) k
    have e2 : nd T N (pos T N k) = N := if_neg c
    have e3 : pos T N k = N := by omega
    have ck : cT T N k = 0 := by
      have := pos_toks (T := T) (i := k) n4.1
      unfold cT cut
      exact if_neg (by omega)
    have l := tx_len hj
    have z := tc_pos hj
    have ll := tkL_len T N N
    rw [e2, e3, ck, b01_f (show ¬ (0 : Int) = tc j by omega), b01_f (fun z => by rw [z] at ll; omega)]
theorem c_next117 {q : Nat} (Lb Db : Bool) (hq : q ≤ N) : ∀ (f e : Nat) (g1 : ax_H), RdG E T N x i p w tg q e lv dp pl g1 → N ≤ f + e → e ≤ N → ∃ g', ax_iter (fun s : ax_H => lb_X6_next_117 E (some i) (b01 (Lb = true)) (b01 (Db = true)) s) g1 = some g' ∧ RdG E T N x i p w tg q (runP (fun v => (Lb && isLet v) || (Db && isDig v)) T N f e : Nat) lv dp pl g' ∧ RdN' i p pl g1 g' := by
  have stop : ∀ (e : Nat) (g1 : ax_H), RdG E T N x i p w tg q e lv dp pl g1 → e ≤ N → ¬ (e < N ∧ ((Lb && isLet (T e)) || (Db && isDig (T e))) = true) → lb_X6_next_117 E (some i) (b01 (Lb = true)) (b01 (Db = true)) g1 = some (.inr g1) := by
    intro e g1 G he c
    obtain ⟨F, g0, e1, -⟩ := G
    have n4 := F.2.2.2.2.2.1.1
    unfold lb_X6_next_117
    rw [F.gI, Option.bind_some, F.gX, Option.bind_some, F.gN, Option.bind_some, e1, i2_of (a := (e : Int)) (by omega) (by omega), i2_of (a := (N : Int)) (by omega) (by omega)]
    by_cases ce : e < N
    · have ta := F.tb ce
      have ti : i2 (T (e : Int)) = T e := i2_of (by omega) (by omega)
      have nx : f_X6_next_153 E (some i) (b01 (Lb = true)) (b01 (Db = true)) g1 = some (.inr g1) := by
        unfold f_X6_next_153
        by_cases cd : Db = true
        · have : ¬ isDig (T e) = true := fun z => c ⟨ce, by rw [cd, z]; simp⟩
          rw [if_neg (by rw [b01_z]; simp [cd]), F.gX, Option.bind_some, F.gT, Option.bind_some, F.gI, Option.bind_some, e1, F.ld ce, Option.bind_some, f_digit ti, Option.bind_some, if_pos (by rw [b01_z]; exact this)]
          rfl
        · rw [if_pos (by rw [b01_z]; exact cd)]
          rfl
      rw [if_pos (by omega)]
      by_cases cl : Lb = true
      · have : ¬ isLet (T e) = true := fun z => c ⟨ce, by rw [cl, z]; simp⟩
        rw [if_neg (by rw [b01_z]; simp [cl]), Option.bind_some, F.gT, Option.bind_some, Option.bind_some, F.ld ce, Option.bind_some, f_letter ti, Option.bind_some, if_pos (by rw [b01_z]; exact this)]
        exact nx
      · rw [if_pos (by rw [b01_z]; exact cl)]
        exact nx
    · rw [if_neg (by omega)]
      rfl
  intro f
  induction f with
  | zero =>
    intro e g1 G hN he
    exact ⟨g1, it_done (stop e g1 G he (by omega)), G, RdN'.refl _ _ _ _⟩
  | succ f ih =>
    intro e g1 G hN he
    by_cases c : e < N ∧ ((Lb && isLet (T e)) || (Db && isDig (T e))) = true
    · have rp : runP (fun v => (Lb && isLet v) || (Db && isDig v)) T N (f + 1) e = runP (fun v => (Lb && isLet v) || (Db && isDig v)) T N f (e + 1) := if_pos c
      rw [rp]
      obtain ⟨g2, r1, r2, r3⟩ := ih (e + 1) (wI g1 i 1 ((e : Int) + 1)) G.w1 (by omega) (by omega)
      obtain ⟨F, g0, e1, -⟩ := G
      have n4 := F.2.2.2.2.2.1.1
      have ta := F.tb c.1
      have ti : i2 (T (e : Int)) = T e := i2_of (by omega) (by omega)
      have n5 : f_X6_next_175 E (some i) (b01 (Lb = true)) (b01 (Db = true)) g1 = some (.inl (wI g1 i 1 ((e : Int) + 1))) := by
        unfold f_X6_next_175
        rw [F.gI, Option.bind_some, e1, F.pI, Option.bind_some]
      have nx : ¬ (Lb = true ∧ isLet (T e) = true) → f_X6_next_153 E (some i) (b01 (Lb = true)) (b01 (Db = true)) g1 = some (.inl (wI g1 i 1 ((e : Int) + 1))) := by
        intro h
        have cd : Db = true ∧ isDig (T e) = true := by
          have c2 := c.2
          rw [Bool.or_eq_true, Bool.and_eq_true, Bool.and_eq_true] at c2
          rcases c2 with z | z
          · exact absurd z h
          · exact z
        unfold f_X6_next_153
        rw [if_neg (by rw [b01_z]; simp [cd.1]), F.gX, Option.bind_some, F.gT, Option.bind_some, F.gI, Option.bind_some, e1, F.ld c.1, Option.bind_some, f_digit ti, Option.bind_some, if_neg (by rw [b01_z]; simp [cd.2])]
        exact n5
      refine ⟨g2, (it_step ?_).trans r1, r2, RdN'_w.trans r3⟩
      unfold lb_X6_next_117
      rw [F.gI, Option.bind_some, F.gX, Option.bind_some, F.gN, Option.bind_some, e1, i2_of (a := (e : Int)) (by omega) (by omega), i2_of (a := (N : Int)) (by omega) (by omega), if_pos (by omega)]
      by_cases cl : Lb = true
      · rw [if_neg (by rw [b01_z]; simp [cl]), Option.bind_some, F.gT, Option.bind_some, Option.bind_some, F.ld c.1, Option.bind_some, f_letter ti, Option.bind_some]
        by_cases c3 : isLet (T e) = true
        · rw [if_neg (by rw [b01_z]; simp [c3])]
          exact n5
        · rw [if_pos (by rw [b01_z]; exact c3)]
          exact nx (fun z => c3 z.2)
      · rw [if_pos (by rw [b01_z]; exact cl)]
        exact nx (fun z => cl z.1)
    · have rp : runP (fun v => (Lb && isLet v) || (Db && isDig v)) T N (f + 1) e = e := if_neg c
      rw [rp]
      exact ⟨g1, it_done (stop e g1 G he c), G, RdN'.refl _ _ _ _⟩
theorem c_next52 {q : Nat} {b : Int} (G : RdG E T N x i p w tg q b lv dp pl g) (hq : q ≤ N) : ∃ g', f_X6_next_52 E (some i) g = some g' ∧ RdG E T N x i p w tg q (nd T N q : Nat) lv dp pl g' ∧ RdN' i p pl g g' := by
  have n4 := G.1.2.2.2.2.2.1.1
  have G1 := G.w1 (v := (q : Int))
  obtain ⟨g1, eg1⟩ : ∃ g1, g1 = wI g i 1 (q : Int) := ⟨_, rfl⟩
  have N1 : RdN' i p pl g g1 := by rw [eg1]; exact RdN'_w
  rw [← eg1] at G1
  obtain ⟨F, g0, g1', -⟩ := G
  obtain ⟨F1, h0, h1', -⟩ := id G1
  unfold f_X6_next_52
  rw [F.gI, Option.bind_some, g0, F.pI, Option.bind_some, ← eg1, F1.gI, Option.bind_some, h1', F1.gX, Option.bind_some, F1.gN, Option.bind_some, i2_of (a := (q : Int)) (by omega) (by omega), i2_of (a := (N : Int)) (by omega) (by omega)]
  by_cases c : q < N
  · have ta := F1.tb c
    have ti : i2 (T (q : Int)) = T q := i2_of (by omega) (by omega)
    obtain ⟨Lb, eL⟩ : ∃ b, b = isLet (T q) := ⟨_, rfl⟩
    obtain ⟨Db, eD⟩ : ∃ b, b = isDig (T q) := ⟨_, rfl⟩
    obtain ⟨g2, r1, r2, r3⟩ := c_next117 (E := E) (q := q) Lb Db hq 401 (q + 1) (wI g1 i 1 ((q : Int) + 1)) G1.w1 (by omega) (by omega)
    refine ⟨g2, ?_, ?_, N1.trans (RdN'_w.trans r3)⟩
    · rw [if_neg (by omega), Option.bind_some, F1.gT, Option.bind_some, Option.bind_some, F1.ld c, Option.bind_some, f_letter ti, Option.bind_some]
      dsimp only
      rw [F1.gX, Option.bind_some, F1.gT, Option.bind_some, F1.gI, Option.bind_some, h1', F1.ld c, Option.bind_some, f_digit ti, Option.bind_some]
      dsimp only
      rw [F1.gI, Option.bind_some, h1', F1.pI, Option.bind_some, ← eL, ← eD]
      exact r1
    · have e : nd T N q = runP (fun v => (Lb && isLet v) || (Db && isDig v)) T N 401 (q + 1) := by
        unfold nd tnd
        rw [if_pos c]
        by_cases cl : isLet (T q) = true
        · have cd : isDig (T q) = false := by
            unfold isLet at cl
            unfold isDig
            rw [decide_eq_true_eq] at cl
            exact decide_eq_false (by omega)
          rw [if_pos cl, eL, eD, cl, cd]
          congr 1 <;> (funext v; simp)
        · rw [if_neg cl]
          have cl' : isLet (T q) = false := by simpa using cl
          by_cases cd : isDig (T q) = true
          · rw [if_pos cd, eL, eD, cl', cd]
            congr 1 <;> (funext v; simp)
          · have cd' : isDig (T q) = false := by simpa using cd
            rw [if_neg cd, eL, eD, cl', cd']
            exact (runP_stop (by simp)).symm
      rw [e]
      exact r2
  · have e : nd T N q = N := if_neg c
    have e2 : q = N := by omega
    rw [if_pos (by omega)]
    exact ⟨g1, rfl, by rw [e]; rw [e2] at G1 ⊢; exact G1, N1⟩
theorem c_nextG {a b : Nat} (G : RdG E T N x i p w tg a b lv dp pl g) (hb : b ≤ N) : ∃ g', f_X6_next E (some i) g = some g' ∧ RdG E T N x i p w tg (skp T N b : Nat) (nd T N (skp T N b) : Nat) lv dp pl g' ∧ RdN' i p pl g g' := by
  have n4 := G.1.2.2.2.2.2.1.1
  have lp : ∀ (f q : Nat) (g1 : ax_H), RdG E T N x i p w tg q b lv dp pl g1 → N ≤ f + q → q ≤ N → ∃ g', ax_iter (fun s : ax_H => lb_X6_next_8 E (some i) s) g1 = some g' ∧ RdG E T N x i p w tg (runP (fun v => decide (v = 32)) T N f q : Nat) (nd T N (runP (fun v => decide (v = 32)) T N f q) : Nat) lv dp pl g' ∧ RdN' i p pl g1 g' := by
    have stop : ∀ (q : Nat) (g1 : ax_H), RdG E T N x i p w tg q b lv dp pl g1 → q ≤ N → ¬ (q < N ∧ decide (T q = 32) = true) → ∃ g', ax_iter (fun s : ax_H => lb_X6_next_8 E (some i) s) g1 = some g' ∧ RdG E T N x i p w tg q (nd T N q : Nat) lv dp pl g' ∧ RdN' i p pl g1 g' := by
      intro q g1 G1 hq c
      obtain ⟨g2, r1, r2, r3⟩ := c_next52 G1 hq
      obtain ⟨F, g0, -⟩ := G1
      refine ⟨g2, it_done ?_, r2, r3⟩
      unfold lb_X6_next_8
      rw [F.gI, Option.bind_some, F.gX, Option.bind_some, F.gN, Option.bind_some, g0, i2_of (a := (q : Int)) (by omega) (by omega), i2_of (a := (N : Int)) (by omega) (by omega)]
      by_cases cq : q < N
      · have ta := F.tb cq
        have ne : ¬ T q = 32 := fun z => c ⟨cq, by rw [z]; rfl⟩
        rw [if_pos (by omega), Option.bind_some, F.gT, Option.bind_some, Option.bind_some, F.ld cq, Option.bind_some, i2_of (a := T (q : Int)) (by omega) (by omega), show i2 32 = 32 by decide, if_neg ne, r1]
        rfl
      · rw [if_neg (by omega), r1]
        rfl
    intro f
    induction f with
    | zero =>
      intro q g1 G1 hN hq
      exact stop q g1 G1 hq (by omega)
    | succ f ih =>
      intro q g1 G1 hN hq
      by_cases c : q < N ∧ decide (T q = 32) = true
      · have rp : runP (fun v => decide (v = 32)) T N (f + 1) q = runP (fun v => decide (v = 32)) T N f (q + 1) := if_pos c
        rw [rp]
        obtain ⟨g2, r1, r2, r3⟩ := ih (q + 1) (wI g1 i 0 ((q : Int) + 1)) G1.w0 (by omega) (by omega)
        obtain ⟨F, g0, -⟩ := G1
        have ta := F.tb c.1
        have e32 := of_decide_eq_true c.2
        refine ⟨g2, (it_step ?_).trans r1, r2, RdN'_w.trans r3⟩
        unfold lb_X6_next_8
        rw [F.gI, Option.bind_some, F.gX, Option.bind_some, F.gN, Option.bind_some, g0, i2_of (a := (q : Int)) (by omega) (by omega), i2_of (a := (N : Int)) (by omega) (by omega), if_pos (by omega), Option.bind_some, F.gT, Option.bind_some, Option.bind_some, F.ld c.1, Option.bind_some, e32, if_pos rfl, Option.bind_some, F.pI, Option.bind_some]
      · have rp : runP (fun v => decide (v = 32)) T N (f + 1) q = q := if_neg c
        rw [rp]
        exact stop q g1 G1 hq c
  have G0 := G.w0 (v := (b : Int))
  obtain ⟨g2, r1, r2, r3⟩ := lp 401 b (wI g i 0 (b : Int)) G0 (by omega) hb
  obtain ⟨F, g0, g1, -⟩ := G
  refine ⟨g2, ?_, r2, RdN'_w.trans r3⟩
  unfold f_X6_next
  rw [F.gI, Option.bind_some, g1, F.pI, Option.bind_some]
  exact r1
theorem c_nxt (G : RdC E T N x i p w tg k lv dp pl g) : ∃ g', f_X6_next E (some i) g = some g' ∧ RdC E T N x i p w tg (k + 1) lv dp pl g' ∧ RdN' i p pl g g' := by
  obtain ⟨g', r1, r2, r3⟩ := c_nextG G (nd_b _ (pos_le k)).2
  refine ⟨g', r1, ?_, r3⟩
  have e : pos T N (k + 1) = skp T N (nd T N (pos T N k)) := by
    by_cases c : pos T N k < N
    · rw [pos_s c, show nd T N (pos T N k) = tnd T N (pos T N k) from if_pos c]
    · rw [pos_e c, show nd T N (pos T N k) = N from if_neg c]
      exact (runP_stop (by omega)).symm
  unfold RdC
  rw [e]
  exact r2
end
