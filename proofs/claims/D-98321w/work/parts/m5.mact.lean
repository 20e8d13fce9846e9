/-! Orders: the model acts -/
set_option maxRecDepth 100000
/-- rows that differ in what is written while orders are gone along; where it stands among the orders -/
def Eo (q : Int) (A B : Rw) (s X : Sg) : Prop := (∀ o : Nat, RpO o → X o = s o) ∧ (∀ k : Int, (RpK k ∨ k = 48 ∨ k = 49) → X 0 k = s 0 k) ∧ G32 X ∧ X 0 50 = q ∧ X 5 = A ∧ X 15 = B
theorem Eo.k2 {q : Int} {A B : Rw} {s X : Sg} (e : Eo q A B s X) : X 2 = s 2 := e.1 2 (by unfold RpO; decide)
theorem Eo.k0 {q k : Int} {A B : Rw} {s X : Sg} (e : Eo q A B s X) (h : k = 48 ∨ k = 49 ∨ k = 28) : X 0 k = s 0 k := e.2.1 k (by unfold RpK; omega)
theorem Eo.er {q : Int} {A B : Rw} {s X Y : Sg} (e : Eo q A B s X) (p : Er X Y) : Eo q A B s Y := by
  obtain ⟨e1, e2, e3, e4, e5, e6⟩ := e
  obtain ⟨p1, p2, p3⟩ := p
  refine ⟨fun o h => ?_, fun k h => ?_, p3, (p2 50 (by decide) (by decide) (by decide) (by decide) (by decide) (by decide) (by decide) (by decide)).trans e4, (p1 5 (by decide) (by decide) (by decide) (by decide)).trans e5, (p1 15 (by decide) (by decide) (by decide) (by decide)).trans e6⟩
  · have h' := h
    unfold RpO at h'
    exact (p1 o (by omega) (by omega) (by omega) (by omega)).trans (e1 o h)
  · have h' := h
    unfold RpK at h'
    exact (p2 k (by omega) (by omega) (by omega) (by omega) (by omega) (by omega) (by omega) (by omega)).trans (e2 k h)
theorem Eo.es {q : Int} {A B : Rw} {s X Y : Sg} (e : Eo q A B s X) (p : Es X Y) : Eo q A B s Y := e.er (p.er e.2.2.1)
theorem Eo_sw {q : Int} {A B : Rw} {s X : Sg} {o : Nat} {F : Rw} (e : Eo q A B s X) (ho : o = 2 ∨ o = 14) (hF : ∀ i, i2 (F i) = F i) : Eo q A B (sw s o F) (sw X o F) := by
  obtain ⟨e1, e2, e3, e4, e5, e6⟩ := e
  refine ⟨fun p h => ?_, fun k h => ?_, G32_sw e3 hF, ?_, ?_, ?_⟩
  · by_cases c : p = o
    · subst c; rw [sw_eq, sw_eq]
    · rw [sw_ne _ c, sw_ne _ c]; exact e1 p h
  · rw [sw_ne _ (by omega), sw_ne _ (by omega)]; exact e2 k h
  · rw [sw_ne _ (by omega)]; exact e4
  · rw [sw_ne _ (by omega)]; exact e5
  · rw [sw_ne _ (by omega)]; exact e6
theorem Eo_u0 {q k v : Int} {A B : Rw} {s X : Sg} (e : Eo q A B s X) (hk : k ≠ 50) (hv : i2 v = v) : Eo q A B (sw s 0 (u1 (s 0) k v)) (sw X 0 (u1 (X 0) k v)) := by
  obtain ⟨e1, e2, e3, e4, e5, e6⟩ := e
  refine ⟨fun p h => ?_, fun j h => ?_, G32_sw e3 (u1_32 (e3 0) hv), ?_, ?_, ?_⟩
  · have h' := h
    unfold RpO at h'
    rw [sw_ne _ (by omega), sw_ne _ (by omega)]
    exact e1 p h
  · rw [sw_eq, sw_eq]
    by_cases c : j = k
    · subst c; rw [u1_eq, u1_eq]
    · rw [u1_ne _ c, u1_ne _ c]; exact e2 j h
  · rw [sw_eq, u1_ne _ (Ne.symm hk)]; exact e4
  · rw [sw_ne _ (by decide)]; exact e5
  · rw [sw_ne _ (by decide)]; exact e6
theorem Eo.ew {q : Int} {A B : Rw} {s X : Sg} (e : Eo q A B s X) : Ew s X := ⟨e.1, fun k h => e.2.1 k (Or.inl h), fun _ => e.2.2.1⟩
def sml (v : Int) : Int := if v < 0 ∨ 1000000 < v then -1 else v
section
variable {E : ax_E} {m : Nat} {s X : Sg} {h : ax_H} {q w n a b v hd : Int} {K A B : Rw}
theorem m_small (hv : -1000000000 ≤ v ∧ v ≤ 1000000000) : f_X5_small E v h = some (sml v, h) := by
  unfold f_X5_small f_X5_small_14 sml
  rw [cmp_of (by omega) (by omega) (by decide) (by decide), cmp_of (by omega) (by omega) (by decide) (by decide)]
  by_cases c1 : v < 0
  · rw [if_pos (by rw [if_neg (by omega), if_neg (by omega)]; decide), if_pos (Or.inl c1)]
  · rw [if_neg (by split; decide; rw [if_pos (by omega)]; decide)]
    by_cases c2 : 1000000 < v
    · rw [if_pos (by rw [if_pos c2]; decide), if_pos (Or.inr c2)]
    · rw [if_neg (by rw [if_neg c2]; split <;> decide), if_neg (by omega)]
theorem sml_32 (hv : -1000000000 ≤ v ∧ v ≤ 1000000000) : i2 (sml v) = sml v := by
  unfold sml
  split
  · decide
  · exact i2_of (by omega) (by omega)
theorem sml_a (hv : 1 ≤ sml v ∧ sml v ≤ 9999 ∨ 1 ≤ v ∧ v ≤ 9999) : sml v = v := by
  unfold sml at *
  split at hv
  · omega
  · rw [if_neg (by omega)]
theorem sml_p {k : Int} (hk : k ≤ 7) (hv : 0 ≤ sml v ∧ sml v ≤ k - 1 ∨ 0 ≤ v ∧ v ≤ k - 1) : sml v = v := by
  unfold sml at *
  split at hv
  · omega
  · rw [if_neg (by omega)]
theorem lend_sml (h7 : s 2 152 ≤ 7) : lendS s (sml a) (sml b) (sml v) = lendS s a b v := by
  unfold lendS
  by_cases c1 : 1 ≤ v ∧ v ≤ 9999
  · rw [sml_a (Or.inr c1), if_neg (not_not_intro c1), if_neg (not_not_intro c1)]
    by_cases c2 : (0 ≤ a ∧ a ≤ s 2 152 - 1) ∧ (0 ≤ b ∧ b ≤ s 2 152 - 1)
    · rw [sml_p h7 (Or.inr c2.1), sml_p h7 (Or.inr c2.2)]
    · have n2 : ¬ ((0 ≤ sml a ∧ sml a ≤ s 2 152 - 1) ∧ (0 ≤ sml b ∧ sml b ≤ s 2 152 - 1)) := fun z => c2 (by
        have z1 := sml_p h7 (Or.inl z.1)
        have z2 := sml_p h7 (Or.inl z.2)
        rw [z1, z2] at z
        exact z)
      rw [if_pos n2, if_pos c2]
  · have n1 : ¬ (1 ≤ sml v ∧ sml v ≤ 9999) := fun z => c1 (by
      have := sml_a (Or.inl z)
      rw [this] at z
      exact z)
    rw [if_pos n1, if_pos c1]
theorem repay_sml (h7 : s 2 152 ≤ 7) : repayO s (sml a) (sml b) (sml v) = repayO s a b v := by
  unfold repayO
  by_cases c1 : 1 ≤ v ∧ v ≤ 9999
  · rw [sml_a (Or.inr c1), if_neg (not_not_intro c1), if_neg (not_not_intro c1)]
    by_cases c2 : (0 ≤ a ∧ a ≤ s 2 152 - 1) ∧ (0 ≤ b ∧ b ≤ s 2 152 - 1)
    · rw [sml_p h7 (Or.inr c2.1), sml_p h7 (Or.inr c2.2)]
    · have n2 : ¬ ((0 ≤ sml a ∧ sml a ≤ s 2 152 - 1) ∧ (0 ≤ sml b ∧ sml b ≤ s 2 152 - 1)) := fun z => c2 (by
        have z1 := sml_p h7 (Or.inl z.1)
        have z2 := sml_p h7 (Or.inl z.2)
        rw [z1, z2] at z
        exact z)
      rw [if_pos n2, if_pos c2]
  · have n1 : ¬ (1 ≤ sml v ∧ sml v ≤ 9999) := fun z => c1 (by
      have := sml_a (Or.inl z)
      rw [this] at z
      exact z)
    rw [if_pos n1, if_pos c1]
theorem Eo_keep1 (e : Eo q A B s X) (hU : 0 ≤ s 0 28 ∧ s 0 28 ≤ 16) (hG : G32 s) (hw : i2 w = w) : Eo q A B (keep1 s w) (keep1 X w) := by
  have e28 := e.k0 (k := 28) (Or.inr (Or.inr rfl))
  have e14 : X 14 = s 14 := e.1 14 (by unfold RpO; decide)
  have z := Eo_u0 (k := 28) (v := s 0 28 + 1) (Eo_sw (o := 14) (F := u1 (cpR (s 14) (74 * s 0 28) (s 2) 73) (74 * s 0 28 + 73) w) e (Or.inr rfl) (u1_32 (cpR_32 (hG 14) (hG 2)) hw)) (by decide) (i2_of (by omega) (by omega))
  rw [sw_ne (p := 0) (o := 14) _ (by decide), sw_ne (p := 0) (o := 14) _ (by decide)] at z
  unfold keep1
  rw [e28, e14, e.k2]
  exact z
theorem Eo_shif1 (e : Eo q A B s X) (hU : 0 ≤ s 0 28 ∧ s 0 28 ≤ 16) (hG : G32 s) : Eo q A B (shif1 s) (shif1 X) := by
  have e28 := e.k0 (k := 28) (Or.inr (Or.inr rfl))
  have e14 : X 14 = s 14 := e.1 14 (by unfold RpO; decide)
  have z := Eo_u0 (k := 28) (v := s 0 28 - 1) (Eo_sw (o := 14) (F := cpR (s 14) 0 (fun j => s 14 (j + 74)) 1110) e (Or.inr rfl) (cpR_32 (hG 14) (fun j => hG 14 _))) (by decide) (i2_of (by omega) (by omega))
  rw [sw_ne (p := 0) (o := 14) _ (by decide), sw_ne (p := 0) (o := 14) _ (by decide)] at z
  unfold shif1
  rw [e28, e14]
  exact z
theorem Eo_keeps (e : Eo q A B s X) (hU : 0 ≤ s 0 28 ∧ s 0 28 ≤ 16) (hG : G32 s) (hw : i2 w = w) : Eo q A B (keepsS s w) (keepsS X w) := by
  have e28 := e.k0 (k := 28) (Or.inr (Or.inr rfl))
  unfold keepsS
  rw [e28]
  by_cases c : s 0 28 = 16
  · rw [if_pos c, if_pos c]
    exact Eo_keep1 (Eo_shif1 e hU hG) (by rw [shif1_28]; omega) (shif1_32 hG hU) hw
  · rw [if_neg c, if_neg c]
    exact Eo_keep1 e hU hG hw
theorem Eo_act (e : Eo q A B s X) (hU : 0 ≤ s 0 28 ∧ s 0 28 ≤ 16) (hG : G32 s) (hw : i2 w = w) (hK : ∀ i, i2 (K i) = K i) : Eo q A B (sw (keepsS s w) 2 K) (sw (keepsS X w) 2 K) := Eo_sw (Eo_keeps e hU hG hw) (Or.inl rfl) hK
/-- an act on both -/
theorem actS_Eo (e : Eo q A B s X) (V : VW n s) (hv : i2 v = v) : (actS X hd a b v).1 = (actS s hd a b v).1 ∧ Eo q A B (actS s hd a b v).2 (actS X hd a b v).2 := by
  have hU := V.1.2.2.2.1.1
  have hG := V.1.1
  have g := (actS_VW (hd := hd) (a := a) (b := b) V hv).1.1 2
  have e2 := e.k2
  unfold actS at g ⊢
  by_cases c26 : hd = 26
  · rw [if_pos c26] at g
    rw [if_pos c26, if_pos c26]
    unfold waitO at g ⊢
    rw [e2]
    by_cases c : s 2 72 = 999
    · rw [if_pos c, if_pos c]
      exact ⟨rfl, e⟩
    · rw [if_neg c] at g
      rw [if_neg c, if_neg c]
      dsimp only at g
      rw [sw_eq] at g
      exact ⟨rfl, Eo_act e hU hG (by decide) g⟩
  · rw [if_neg c26] at g
    rw [if_neg c26, if_neg c26]
    by_cases c24 : hd = 24
    · rw [if_pos c24] at g
      rw [if_pos c24, if_pos c24]
      unfold lendS at g ⊢
      rw [e2]
      by_cases c1 : ¬ (1 ≤ v ∧ v ≤ 9999)
      · rw [if_pos c1, if_pos c1]
        exact ⟨rfl, e⟩
      · rw [if_neg c1] at g
        rw [if_neg c1, if_neg c1]
        by_cases c2 : ¬ ((0 ≤ a ∧ a ≤ s 2 152 - 1) ∧ (0 ≤ b ∧ b ≤ s 2 152 - 1))
        · rw [if_pos c2, if_pos c2]
          exact ⟨rfl, e⟩
        · rw [if_neg c2] at g
          rw [if_neg c2, if_neg c2]
          by_cases c3 : ¬ (a ≠ b ∧ v ≤ s 2 a ∧ s 2 b + v ≤ 9999)
          · rw [if_pos c3, if_pos c3]
            exact ⟨rfl, e⟩
          · rw [if_neg c3] at g
            rw [if_neg c3, if_neg c3]
            by_cases c4 : s 2 71 = 16
            · rw [if_pos c4, if_pos c4]
              exact ⟨rfl, e⟩
            · rw [if_neg c4] at g
              rw [if_neg c4, if_neg c4]
              dsimp only at g
              rw [sw_eq] at g
              exact ⟨rfl, Eo_act e hU hG (by decide) g⟩
    · rw [if_neg c24] at g
      rw [if_neg c24, if_neg c24]
      unfold repayO at g ⊢
      rw [e2]
      by_cases c1 : ¬ (1 ≤ v ∧ v ≤ 9999)
      · rw [if_pos c1, if_pos c1]
        exact ⟨rfl, e⟩
      · rw [if_neg c1] at g
        rw [if_neg c1, if_neg c1]
        by_cases c2 : ¬ ((0 ≤ a ∧ a ≤ s 2 152 - 1) ∧ (0 ≤ b ∧ b ≤ s 2 152 - 1))
        · rw [if_pos c2, if_pos c2]
          exact ⟨rfl, e⟩
        · rw [if_neg c2] at g
          rw [if_neg c2, if_neg c2]
          by_cases c3 : canRepayS (s 2) a b v = 0
          · rw [if_pos c3, if_pos c3]
            exact ⟨rfl, e⟩
          · rw [if_neg c3] at g
            rw [if_neg c3, if_neg c3]
            dsimp only at g
            rw [sw_eq] at g
            exact ⟨rfl, Eo_act e hU hG (by decide) g⟩
theorem evO_Eo (e : Eo q A B s X) : evO X = evO s := by
  unfold evO
  rw [e.k2, e.k0 (k := 48) (Or.inl rfl), e.k0 (k := 49) (Or.inr (Or.inl rfl))]
end
