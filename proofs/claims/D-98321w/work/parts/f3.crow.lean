/-! A row of debts from the tape: the component -/
set_option maxRecDepth 100000
section
variable {E : ax_E} {h h1 : ax_H} {x t dl dv ds du : Nat} {s : Sg}
theorem nb_le (i : Int) {n : Nat} (h : n < 2 ^ 31) : ax_nb i n ≤ 212 := by
  unfold ax_nb ax_txt
  exact index_text_bytes (Int32.ofInt i) h
theorem f_th {i : Int} {n : Nat} (hn : n < 2 ^ 31) (e1 : h.1 + 3 ≤ E.1.1) (e2 : h.2.1 + 222 ≤ E.1.2) : ax_th E h i n = some (h.1 + 2, (h.1 + 3, h.2.1 + (ax_nb i n + 10), h.2.2)) := by
  have b := nb_le i hn
  unfold ax_th
  exact if_pos ⟨e1, by omega, by omega, index_text_modelled (Int32.ofInt i) n⟩
/-- how many records were faulty -/
theorem c_blotted {v : Int} {c z : Nat} (H : REP E h1 x t dl dv ds du s) (b : Blk x c z h h1) : REP E (wI h1 x 9 v) x t dl dv ds du (sw s 0 (u1 (s 0) 6 v)) ∧ Blk x c z h (wI h1 x 9 v) := by
  refine ⟨H.root (Or.inl rfl) ?_ ?_ (Sam_0 s (by decide) (by decide)), ?_⟩
  · obtain ⟨r1, r2, r3, r4, r5⟩ := H.2.2.1
    refine ⟨?_, ?_, ?_, ?_, ?_⟩
    · rw [hI_wI_ne (by omega), sw_eq, u1_ne _ (by decide)]; exact r1
    · rw [hI_wI_ne (by omega), sw_eq, u1_ne _ (by decide)]; exact r2
    · rw [hI_wI_eq, sw_eq, u1_eq]
    · rw [hI_wI_ne (by omega), sw_eq, u1_ne _ (by decide)]; exact r4
    · rw [hI_wI_ne (by omega), sw_eq, u1_ne _ (by decide)]; exact r5
  · obtain ⟨r1, r2⟩ := H.2.2.2.1
    refine ⟨fun k hk => ?_, fun k hk => ?_⟩
    · rw [hI_wI_ne (by omega), sw_ne _ (by decide)]; exact r1 k hk
    · rw [hI_wI_ne (by omega), sw_ne _ (by decide)]; exact r2 k hk
  · obtain ⟨y1, y2, y3, y4, y5⟩ := b
    exact ⟨y1, y2, y3, y4, fun a z1 z2 => (hC_wI_ne (by omega)).trans (y5 a z1 z2)⟩
/-- a debt told, and which cells it moves -/
theorem c_debtO {p q a : Int} (H : REP E h x t dl dv ds du s) (hG : G32 s) (hK : KB (s 2)) (hp : i2 p = p) (hq : i2 q = q) (ha : i2 a = a) : ∃ h', f_X0_debtNow E (some x) p q a h = some ((debtS s p q a).1, h') ∧ REP E h' x t dl dv ds du (debtS s p q a).2 ∧ OnS (t + 4) 6 h h' := by
  have h71 := hK.2.2.2.2.1
  have a1 := H.2.1.1
  have B := H.bk
  have neg : ∀ v : Int, v < 0 → whyS s p q a = v → ∃ h', (some (v, h) : Option (Int × ax_H)) = some ((debtS s p q a).1, h') ∧ REP E h' x t dl dv ds du (debtS s p q a).2 ∧ OnS (t + 4) 6 h h' := by
    intro v hv e
    unfold debtS
    rw [e, if_pos hv]
    exact ⟨h, rfl, H, OnS.refl _ _ _⟩
  unfold f_X0_debtNow f_X0_debtNow_12 f_X0_debtNow_30
  rw [c_isAmount ha, Option.bind_some, hp, hq]
  by_cases c1 : 1 ≤ a ∧ a ≤ 9999
  · rw [if_neg (by rw [b01_z]; simp [c1])]
    by_cases c0 : p = q
    · rw [if_pos c0]
      exact neg _ (by decide) (by unfold whyS; rw [if_pos (Or.inr c0)])
    · have n1 : ¬ (¬ (1 ≤ a ∧ a ≤ 9999) ∨ p = q) := fun z => z.elim (fun y => y c1) c0
      rw [if_neg c0, f_ce a1 (by decide), Option.bind_some, c_isPerson H hK hp, Option.bind_some]
      by_cases c2 : 0 ≤ p ∧ p ≤ s 2 152 - 1
      · rw [if_neg (by rw [b01_z]; simp [c2]), f_ce a1 (by decide), Option.bind_some, c_isPerson H hK hq, Option.bind_some]
        by_cases c3 : 0 ≤ q ∧ q ≤ s 2 152 - 1
        · have n2 : ¬ ¬ ((0 ≤ p ∧ p ≤ s 2 152 - 1) ∧ (0 ≤ q ∧ q ≤ s 2 152 - 1)) := fun z => z ⟨c2, c3⟩
          rw [if_neg (by rw [b01_z]; simp [c3])]
          simp only [f_ce a1 (by decide : (0:Nat) ≠ 999), Option.bind_some, c_books H]
          rw [f_gI B.1.1 (by decide), Option.bind_some, B.2.1.1, hG, show i2 16 = 16 by decide]
          by_cases c4 : s 2 71 = 16
          · rw [if_pos c4]
            exact neg _ (by decide) (by unfold whyS; rw [if_neg n1, if_neg n2, if_pos c4])
          · rw [if_neg c4]
            obtain ⟨g, p1, B2, O2⟩ := c_add (E := E) (d := p) (c := q) (v := a) B h71.1 (by omega)
            have H2 := H.books O2 B2 (fun i hi => adds_up (by omega) i hi)
            have w0 : whyS s p q a = 0 := by unfold whyS; rw [if_neg n1, if_neg n2, if_neg c4]
            unfold debtS
            rw [w0, if_neg (by decide), f_ce B.1.1 (by decide), Option.bind_some, p1, Option.bind_some, f_ce H2.2.1.1 (by decide), Option.bind_some, c_books H2, Option.bind_some]
            dsimp only
            rw [f_gI B2.1.1 (by decide), Option.bind_some, B2.2.1.1, adds_71, show s 2 71 + 1 - 1 = s 2 71 by omega]
            exact ⟨g, rfl, H2, O2⟩
        · rw [if_pos (by rw [b01_z]; exact c3)]
          exact neg _ (by decide) (by unfold whyS; rw [if_neg n1, if_pos (fun z => c3 z.2)])
      · rw [if_pos (by rw [b01_z]; exact c2)]
        exact neg _ (by decide) (by unfold whyS; rw [if_neg n1, if_pos (fun z => c2 z.1)])
  · rw [if_pos (by rw [b01_z]; exact c1)]
    exact neg _ (by decide) (by unfold whyS; rw [if_pos (Or.inl c1)])
/-- bytes without their signs name the same people -/
theorem whyS_un {p q a : Int} (hn : 0 ≤ s 2 152 ∧ s 2 152 ≤ 7) (hp : -128 ≤ p ∧ p ≤ 127) (hq : -128 ≤ q ∧ q ≤ 127) : whyS s (p % 256) (q % 256) a = whyS s p q a := by
  have e1 : (p % 256 = q % 256) = (p = q) := propext ⟨fun z => by omega, fun z => by rw [z]⟩
  have e2 : (0 ≤ p % 256 ∧ p % 256 ≤ s 2 152 - 1) = (0 ≤ p ∧ p ≤ s 2 152 - 1) := propext ⟨fun z => by omega, fun z => by omega⟩
  have e3 : (0 ≤ q % 256 ∧ q % 256 ≤ s 2 152 - 1) = (0 ≤ q ∧ q ≤ s 2 152 - 1) := propext ⟨fun z => by omega, fun z => by omega⟩
  unfold whyS
  simp only [e1, e2, e3]
theorem debtS_un {p q a : Int} (hn : 0 ≤ s 2 152 ∧ s 2 152 ≤ 7) (hp : -128 ≤ p ∧ p ≤ 127) (hq : -128 ≤ q ∧ q ≤ 127) : debtS s (p % 256) (q % 256) a = debtS s p q a := by
  unfold debtS
  rw [whyS_un hn hp hq]
  by_cases c : whyS s p q a < 0
  · rw [if_pos c, if_pos c]
  · rw [if_neg c, if_neg c]
    have : (0 ≤ p ∧ p ≤ s 2 152 - 1) ∧ (0 ≤ q ∧ q ≤ s 2 152 - 1) := by
      unfold whyS at c
      split at c
      · exact absurd (by decide) c
      · split at c
        · exact absurd (by decide) c
        · rename_i z
          exact Decidable.not_not.mp z
    rw [show p % 256 = p by omega, show q % 256 = q by omega]
/-- the tape's bytes on a row of their own -/
def ByR (g : ax_H) (a n : Nat) (F : Rw) : Prop := hT g a = 101 ∧ hL g a = n ∧ ∀ i : Nat, i < n → hI g a i = F i
theorem c_byteAt {g : ax_H} {a n : Nat} {F : Rw} (A : ByR g a n F) (hn : n ≤ 400) {i : Int} (h0 : 0 ≤ i) (h1 : i < n) : f_X0_byteAt E (some a) i g = some (ax_and (F i) 255, g) := by
  unfold f_X0_byteAt
  rw [f_ld A.1 (by decide) h0 (by rw [A.2.1]; exact h1) (by rw [A.2.1]; omega), Option.bind_some, A.2.2 _ (by omega), show ((i.toNat : Nat) : Int) = i by omega]
theorem c_byteX {g : ax_H} {a n : Nat} {F : Rw} (A : ByR g a n F) (hn : n ≤ 400) {i : Int} (h0 : 0 ≤ i) (h1 : i < n) : fx_X0_byteAt E (some a) i g = some (.inr (ax_and (F i) 255, g)) := by
  unfold fx_X0_byteAt ax_ldX
  rw [f_ce A.1 (by decide), Option.bind_some, i2_of (by omega) (by omega), if_pos (show 0 ≤ i ∧ i < ((hC g a).2.1 : Int) from ⟨h0, by rw [show (hC g a).2.1 = n from A.2.1]; exact h1⟩), f_ld A.1 (by decide) h0 (by rw [A.2.1]; exact h1) (by rw [A.2.1]; omega), A.2.2 _ (by omega), show ((i.toNat : Nat) : Int) = i by omega]
  rfl
theorem c_byteT {g : ax_H} {a n : Nat} {F : Rw} (A : ByR g a n F) (hn : n ≤ 400) {i : Int} (h0 : (n : Int) ≤ i) (h1 : i ≤ 1000) (e1 : g.1 + 3 ≤ E.1.1) (e2 : g.2.1 + 222 ≤ E.1.2) : fx_X0_byteAt E (some a) i g = some (.inl (g.1 + 2, (g.1 + 3, g.2.1 + (ax_nb i n + 10), g.2.2))) := by
  unfold fx_X0_byteAt ax_ldX
  rw [f_ce A.1 (by decide), Option.bind_some, i2_of (by omega) (by omega), if_neg (show ¬ (0 ≤ i ∧ i < ((hC g a).2.1 : Int)) from fun z => by have z2 := z.2; rw [show (hC g a).2.1 = n from A.2.1] at z2; omega), show (hC g a).2.1 = n from A.2.1, f_th (by omega) e1 e2]
  rfl
end
