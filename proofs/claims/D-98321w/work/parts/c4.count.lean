/-! What is told of numbers; loops that may end early -/
set_option maxRecDepth 100000
theorem ite_h {P : Prop} [Decidable P] {A B : Option (Int × ax_H)} {a b : Int} {h : ax_H} (h1 : P → A = some (a, h)) (h2 : ¬ P → B = some (b, h)) : (if P then A else B) = some (if P then a else b, h) := by
  by_cases c : P
  · rw [if_pos c, if_pos c]; exact h1 c
  · rw [if_neg c, if_neg c]; exact h2 c
def countP (s : Sg) (w : Int) : Int := if w = 0 then s 2 152 else if w = 1 then s 2 71 else if w = 2 then s 2 153 else if w = 3 then s 2 154 else if w = 4 then s 2 155 else if w = 5 then s 0 28 else if w = 6 then s 0 11 else if w = 7 then s 1 1 else if w = 8 then s 1 2 else if w = 9 then s 1 3 else if w = 10 then s 1 5 else if w = 11 then s 1 6 else if w = 12 then s 2 156 else if w = 13 then s 2 72 else if w = 14 then s 2 151 else -1
def drawnP (s : Sg) (p w : Int) : Int := if ¬ (0 ≤ p ∧ p ≤ s 0 59 - 1) then -1000000 else if w = 0 then s 29 p else if w = 1 then s 30 p else if w = 2 then s 31 p else -1000000
section
variable {E : ax_E} {m : Nat} {s : Sg} {h : ax_H}
theorem m_count {w : Int} (hw : i2 w = w) : f_X5_count E (some m) w (mdl m s h) = some (countP s w, mdl m s h) := by
  unfold f_X5_count f_X5_count_123 countP
  rw [hw]
  refine ite_h (fun c => ?_) (fun c0 => ite_h (fun c => ?_) (fun c1 => ite_h (fun c => ?_) (fun c2 => ite_h (fun c => ?_) (fun c3 => ite_h (fun c => ?_) (fun c4 => ite_h (fun c => ?_) (fun c5 => ite_h (fun c => ?_) (fun c6 => ite_h (fun c => ?_) (fun c7 => ite_h (fun c => ?_) (fun c8 => ite_h (fun c => ?_) (fun c9 => ite_h (fun c => ?_) (fun c10 => ite_h (fun c => ?_) (fun c11 => ite_h (fun c => ?_) (fun c12 => ite_h (fun c => ?_) (fun c13 => ite_h (fun c => ?_) (fun c14 => rfl))))))))))))))) <;> first | (rw [md_gI28]; rfl) | (rw [md_gI11]; rfl) | (rw [c, md_gR1, Option.bind_some, md_ld1 (by decide) (by decide)]; rfl) | (rw [md_gR1, Option.bind_some, md_ld1 (by decide) (by decide)]; rfl) | (rw [md_gR2, Option.bind_some, md_ld2 (by decide) (by decide)]; rfl) | (rw [md_ce, Option.bind_some, m_people]; rfl) | (rw [md_ce, Option.bind_some, m_debts]; rfl)
theorem m_blots : f_X5_blots E (some m) (mdl m s h) = some (s 0 6, mdl m s h) := by
  unfold f_X5_blots
  rw [md_gI6]
  rfl
theorem m_stopped : f_X5_stopped E (some m) (mdl m s h) = some (s 0 47, mdl m s h) := by
  unfold f_X5_stopped
  rw [md_gI47]
  rfl
theorem m_drawn {p w : Int} (hG : G32 s) (h7 : 0 ≤ s 0 59 ∧ s 0 59 ≤ 7) (hp : i2 p = p) (hw : i2 w = w) : f_X5_drawn E (some m) p w (mdl m s h) = some (drawnP s p w, mdl m s h) := by
  unfold f_X5_drawn drawnP
  rw [md_gI59, Option.bind_some, m_lies hp (by decide) (i2_of (by omega) (by omega)), Option.bind_some]
  by_cases c : 0 ≤ p ∧ p ≤ s 0 59 - 1
  · rw [if_neg (by rw [b01_z]; simp [c]), if_neg (show ¬ ¬ (0 ≤ p ∧ p ≤ s 0 59 - 1) from fun z => z c), hw]
    refine ite_h (fun c => ?_) (fun c0 => ite_h (fun c => ?_) (fun c1 => ite_h (fun c => ?_) (fun c2 => rfl)))
    · rw [md_gR56, Option.bind_some, md_ld29 (by omega) (by omega)]; rfl
    · rw [md_gR57, Option.bind_some, md_ld30 (by omega) (by omega)]; rfl
    · rw [md_gR58, Option.bind_some, md_ld31 (by omega) (by omega)]; rfl
  · rw [if_pos (by rw [b01_z]; exact c), if_pos c]
end
section
variable {E : ax_E} {h : ax_H} {x t dl dv ds du : Nat} {s : Sg}
theorem c_blots (H : REP E h x t dl dv ds du s) : f_X0_blots E (some x) h = some (s 0 6, h) := by
  unfold f_X0_blots
  rw [f_gI H.2.1.1 (by decide), H.2.2.1.2.2.1]
  rfl
theorem c_stopped (H : REP E h x t dl dv ds du s) : f_X0_stopped E (some x) h = some (s 0 47, h) := by
  unfold f_X0_stopped
  rw [f_gI H.2.1.1 (by decide), H.2.2.1.2.2.2.1]
  rfl
theorem c_count {w : Int} (H : REP E h x t dl dv ds du s) (hw : i2 w = w) : f_X0_count E (some x) w h = some (countP s w, h) := by
  obtain ⟨pl, rt, ri, ra, st, un, im, dr⟩ := H
  have H : REP E h x t dl dv ds du s := ⟨pl, rt, ri, ra, st, un, im, dr⟩
  obtain ⟨a1, a2, ⟨a3, a4, a5, a6, a7, a8, a9⟩, -, -, -, -, ⟨r1, r2⟩, -⟩ := rt
  obtain ⟨⟨t0, t1, t2, t3, t4, t5, t6⟩, ⟨i6, i7, i8⟩, B, -, -, l1, l2, l3⟩ := st
  have rf := ra.1
  have ref : ∀ k : Nat, k < 7 → ((ax_gR E h (some x) 0 6).bind fun v17 => (ax_ld E h v17 100 (k : Int)).bind fun v18 => some (v18, h)) = some (s 1 k, h) := by
    intro k hk
    rw [f_gR a1 (by decide), a8, Option.bind_some, f_ld r1 (by decide) (by omega) (by rw [r2]; omega) (by rw [r2]; decide), Option.bind_some, Int.toNat_natCast, rf k hk]
  unfold f_X0_count countP
  rw [hw]
  refine ite_h (fun c => ?_) (fun c0 => ite_h (fun c => ?_) (fun c1 => ite_h (fun c => ?_) (fun c2 => ite_h (fun c => ?_) (fun c3 => ite_h (fun c => ?_) (fun c4 => ite_h (fun c => ?_) (fun c5 => ite_h (fun c => ?_) (fun c6 => ite_h (fun c => ref 1 (by decide)) (fun c7 => ite_h (fun c => ref 2 (by decide)) (fun c8 => ite_h (fun c => ref 3 (by decide)) (fun c9 => ite_h (fun c => ref 5 (by decide)) (fun c10 => ite_h (fun c => ref 6 (by decide)) (fun c11 => ite_h (fun c => ?_) (fun c12 => ite_h (fun c => ?_) (fun c13 => ite_h (fun c => ?_) (fun c14 => rfl)))))))))))))))
  · rw [f_gR a1 (by decide), a2, Option.bind_some, f_gI t0 (by decide), i6]; rfl
  · rw [f_ce a1 (by decide), Option.bind_some, c_books H, Option.bind_some]
    dsimp only
    rw [f_gI B.1.1 (by decide), B.2.1.1]; rfl
  · rw [f_gR a1 (by decide), a2, Option.bind_some, f_gR t0 (by decide), t2, Option.bind_some, f_ce l2.1 (by decide), Option.bind_some, c_size l2]; rfl
  · rw [f_gR a1 (by decide), a2, Option.bind_some, f_gR t0 (by decide), t3, Option.bind_some, f_ce l3.1 (by decide), Option.bind_some, c_size l3]; rfl
  · rw [f_gR a1 (by decide), a2, Option.bind_some, f_gR t0 (by decide), t1, Option.bind_some, f_ce l1.1 (by decide), Option.bind_some, c_size l1]; rfl
  · rw [f_gR a1 (by decide), a4, Option.bind_some, f_ce un.1 (by decide), Option.bind_some, c_size un]; rfl
  · rw [f_gI a1 (by decide), ri.2.2.2.2]; rfl
  · rw [f_gR a1 (by decide), a2, Option.bind_some, f_gI t0 (by decide), i8]; rfl
  · rw [f_ce a1 (by decide), Option.bind_some, c_books H, Option.bind_some]
    dsimp only
    rw [f_gI B.1.1 (by decide), B.2.1.2]; rfl
  · rw [f_gR a1 (by decide), a2, Option.bind_some, f_gI t0 (by decide), i7]; rfl
theorem c_drawn {p w : Int} (H : REP E h x t dl dv ds du s) (hz : 0 ≤ s 0 59) (hp : i2 p = p) (hw : i2 w = w) : f_X0_drawn E (some x) p w h = some (drawnP s p w, h) := by
  have a1 := H.2.1.1
  have bp := i2_lh hp
  have bw := i2_lh hw
  unfold f_X0_drawn f_X0_drawn_47 drawnP
  rw [f_gR a1 (by decide), Option.bind_some]
  rcases H.2.2.2.2.2.2.2 with ⟨r, e⟩ | ⟨a, r, z, ta, la, l7, el⟩ | z
  · rw [r, if_pos rfl, if_pos (by omega)]
  · rw [r, if_neg (by simp), Option.bind_some]
    have e0 : (hL h a : Int) - 1 = s 0 59 - 1 := by omega
    rw [f_len ta (by decide), Option.bind_some, e0, hp, hw, i2_of (a := s 0 59 - 1) (by omega) (by omega), c_in (by omega) (by decide) (by omega), Option.bind_some]
    by_cases c : 0 ≤ p ∧ p ≤ s 0 59 - 1
    · rw [if_neg (by rw [b01_z]; simp [c]), if_neg (fun z => z c), c_in (by omega) (by decide) (by decide), Option.bind_some]
      by_cases c2 : 0 ≤ w ∧ w ≤ 2
      · obtain ⟨u, u1, u2, u3, u4, i0, i1, i2'⟩ := el p.toNat (by omega)
        have ep : ((p.toNat : Nat) : Int) = p := by omega
        rw [ep] at i0 i1 i2'
        rw [if_neg (by rw [b01_z]; simp [c2])]
        dsimp only
        rw [f_gR a1 (by decide), Option.bind_some, r, f_ldR ta (by decide) (by omega) (by omega) (by omega), Option.bind_some, u1, f_ld u3 (by decide) (by omega) (by rw [u4]; omega) (by rw [u4]; decide), Option.bind_some]
        have hw3 : w = 0 ∨ w = 1 ∨ w = 2 := by omega
        rcases hw3 with rfl | rfl | rfl
        · rw [if_pos rfl]; exact congrArg (fun v => some (v, h)) i0
        · rw [if_neg (by decide), if_pos rfl]; exact congrArg (fun v => some (v, h)) i1
        · rw [if_neg (by decide), if_neg (by decide), if_pos rfl]; exact congrArg (fun v => some (v, h)) i2'
      · rw [if_pos (by rw [b01_z]; exact c2), if_neg (by omega), if_neg (by omega), if_neg (by omega)]
    · rw [if_pos (by rw [b01_z]; exact c), if_pos c]
  · exact absurd hz (by rw [z]; decide)
end
/-! loops that count, with something gathered, that may end early -/
def runF {A R : Type} (f : A → Nat → A ⊕ R) (fin : A → R) : Nat → Nat → A → R
  | 0, _, a => fin a
  | n + 1, k, a => match f a k with
    | .inl a' => runF f fin n (k + 1) a'
    | .inr r => r
theorem it_run {A R S T U : Type} {body : T → Option (T ⊕ U)} (enc : A → Nat → S → T) (out : R → S → U) {Q : S → Prop} {V : Nat → A → Prop} {f : A → Nat → A ⊕ R} {fin : A → R} (n : Nat) (hs : ∀ (k : Nat) a g, k < n → V k a → Q g → ∃ g', Q g' ∧ ((∃ a', f a k = .inl a' ∧ V (k + 1) a' ∧ body (enc a k g) = some (.inl (enc a' (k + 1) g'))) ∨ ∃ r, f a k = .inr r ∧ body (enc a k g) = some (.inr (out r g')))) (he : ∀ a g, V n a → Q g → ∃ g', Q g' ∧ body (enc a n g) = some (.inr (out (fin a) g'))) : ∀ (j k : Nat) a g, k + j = n → V k a → Q g → ∃ g', Q g' ∧ ax_iter body (enc a k g) = some (out (runF f fin j k a) g') := by
  intro j
  induction j with
  | zero =>
    intro k a g e v q
    have : k = n := by omega
    subst this
    obtain ⟨g', q', e'⟩ := he a g v q
    exact ⟨g', q', it_done e'⟩
  | succ j ih =>
    intro k a g e v q
    obtain ⟨g', q', c⟩ := hs k a g (by omega) v q
    rcases c with ⟨a', f1, v1, b1⟩ | ⟨r, f1, b1⟩
    · obtain ⟨g2, q2, e2⟩ := ih (k + 1) a' g' (by omega) v1 q'
      refine ⟨g2, q2, ?_⟩
      rw [it_step b1, e2]
      have : runF f fin (j + 1) k a = runF f fin j (k + 1) a' := by
        show (match f a k with | .inl a' => runF f fin j (k + 1) a' | .inr r => r) = _
        rw [f1]
      rw [this]
    · refine ⟨g', q', ?_⟩
      rw [it_done b1]
      unfold runF
      rw [f1]
