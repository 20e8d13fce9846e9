/-! What is only scratch of the model; what holds between calls -/
set_option maxRecDepth 100000
def RpO (o : Nat) : Prop := o = 1 ∨ o = 2 ∨ o = 3 ∨ o = 4 ∨ o = 6 ∨ o = 7 ∨ o = 14 ∨ o = 29 ∨ o = 30 ∨ o = 31
def RpK (k : Int) : Prop := k = 0 ∨ k = 6 ∨ k = 11 ∨ k = 12 ∨ k = 28 ∨ k = 47 ∨ k = 59
/-- rows that differ in scratch alone -/
def Ew (s s' : Sg) : Prop := (∀ o : Nat, RpO o → s' o = s o) ∧ (∀ k : Int, RpK k → s' 0 k = s 0 k) ∧ (G32 s → G32 s')
theorem Ew.refl (s : Sg) : Ew s s := ⟨fun _ _ => rfl, fun _ _ => rfl, id⟩
theorem Ew.trans {s s1 s2 : Sg} (p : Ew s s1) (q : Ew s1 s2) : Ew s s2 := ⟨fun o h => (q.1 o h).trans (p.1 o h), fun k h => (q.2.1 k h).trans (p.2.1 k h), fun g => q.2.2 (p.2.2 g)⟩
theorem Es.ew {s s' : Sg} (e : Es s s') : Ew s s' := ⟨fun o h => e.1 o (by unfold RpO at h; omega) (by unfold RpO at h; omega), fun k h => e.2.1 k (by unfold RpK at h; omega) (by unfold RpK at h; omega) (by unfold RpK at h; omega) (by unfold RpK at h; omega), e.2.2⟩
theorem Ew_0 {s : Sg} {k v : Int} (hk : ¬ RpK k) (hv : i2 v = v) : Ew s (sw s 0 (u1 (s 0) k v)) := ⟨fun o h => sw_ne _ (by unfold RpO at h; omega), fun j h => by rw [sw_eq]; exact u1_ne _ (fun e => hk (e ▸ h)), fun g => G32_sw g (u1_32 (g 0) hv)⟩
theorem Ew_o {s : Sg} {o : Nat} {F : Rw} (ho : ¬ RpO o) (h0 : o ≠ 0) (hF : ∀ i, i2 (F i) = F i) : Ew s (sw s o F) := ⟨fun p h => sw_ne _ (fun e => ho (e ▸ h)), fun j h => by rw [sw_ne _ (Ne.symm h0)], fun g => G32_sw g hF⟩
theorem Ew_u {s : Sg} {o : Nat} {k v : Int} (ho : ¬ RpO o) (h0 : o ≠ 0) (hG : G32 s) (hv : i2 v = v) : Ew s (sw s o (u1 (s o) k v)) := Ew_o ho h0 (u1_32 (hG o) hv)
theorem Ew.k {s s' : Sg} (e : Ew s s') : s' 2 = s 2 := e.1 2 (by unfold RpO; decide)
/-- what is on both sides is written alike -/
theorem Ew_sw {s s' : Sg} {o : Nat} {F : Rw} (e : Ew s s') (ho : o ≠ 0) (hG : G32 s') (hF : ∀ i, i2 (F i) = F i) : Ew (sw s o F) (sw s' o F) := by
  refine ⟨fun p h => ?_, fun k h => ?_, fun _ => G32_sw hG hF⟩
  · by_cases c : p = o
    · subst c; rw [sw_eq, sw_eq]
    · rw [sw_ne _ c, sw_ne _ c]; exact e.1 p h
  · rw [sw_ne _ (Ne.symm ho), sw_ne _ (Ne.symm ho)]; exact e.2.1 k h
theorem Ew_u0 {s s' : Sg} {k v : Int} (e : Ew s s') (hG : G32 s') (hv : i2 v = v) : Ew (sw s 0 (u1 (s 0) k v)) (sw s' 0 (u1 (s' 0) k v)) := by
  refine ⟨fun p h => ?_, fun j h => ?_, fun _ => G32_sw hG (u1_32 (hG 0) hv)⟩
  · rw [sw_ne _ (by unfold RpO at h; omega), sw_ne _ (by unfold RpO at h; omega)]; exact e.1 p h
  · rw [sw_eq, sw_eq]
    by_cases c : j = k
    · subst c; rw [u1_eq, u1_eq]
    · rw [u1_ne _ c, u1_ne _ c]; exact e.2.1 j h
theorem Ew_good {s s' : Sg} (e : Ew s s') (hG : G32 s') : Ew (sGood s) (sGood s') := Ew_u0 e hG (by decide)
theorem Ew_set {s s' : Sg} (e : Ew s s') (hG : G32 s') : Ew (sSet s) (sSet s') := by
  have a := Ew_u0 (k := 28) (v := 0) e hG (by decide)
  have b := Ew_u0 (k := 0) (v := 0) a (G32_sw hG (u1_32 (hG 0) (by decide))) (by decide)
  rw [sw_eq, sw_sw, sw_eq, sw_sw] at b
  exact b
theorem Ew_ref {s s' : Sg} {v : Int} (e : Ew s s') (hG : G32 s') (hv : i2 v = v) (hr : i2 (s 1 (-v) + 1) = s 1 (-v) + 1) : Ew (sRef s v) (sRef s' v) := by
  have e1 : s' 1 = s 1 := e.1 1 (by unfold RpO; decide)
  unfold sRef
  rw [e1]
  exact Ew_sw (Ew_u0 e hG hv) (by decide) (G32_sw hG (u1_32 (hG 0) hv)) (u1_32 (by rw [← e1]; exact hG 1) hr)
theorem Ew_tel {s s' : Sg} {v : Int} (e : Ew s s') (hG : G32 s') (h1 : -7 < v) (hr : ∀ k : Int, 0 ≤ k → k < 7 → 0 ≤ s 1 k ∧ s 1 k ≤ 1000000000) : Ew (telM s v) (telM s' v) := by
  unfold telM
  split
  · have := hr (-v) (by omega) (by omega)
    exact Ew_ref e hG (i2_of (by omega) (by omega)) (i2_of (by omega) (by omega))
  · exact Ew_good e hG
theorem Ew_setM {s s' : Sg} {v : Int} (e : Ew s s') (hG : G32 s') (h1 : -7 < v) (hr : ∀ k : Int, 0 ≤ k → k < 7 → 0 ≤ s 1 k ∧ s 1 k ≤ 1000000000) : Ew (setM s v) (setM s' v) := by
  unfold setM
  split
  · have := hr (-v) (by omega) (by omega)
    exact Ew_ref e hG (i2_of (by omega) (by omega)) (i2_of (by omega) (by omega))
  · exact Ew_set e hG
section
variable {E : ax_E} {h h' : ax_H} {x t dl dv ds du : Nat} {s s' : Sg}
theorem REP.ew (H : REP E h x t dl dv ds du s) (e : Ew s s') : REP E h x t dl dv ds du s' := by
  obtain ⟨e1, e2, -⟩ := e
  unfold RpO at e1
  unfold RpK at e2
  have r1 := e1 1 (by decide)
  have r2 := e1 2 (by decide)
  have r3 := e1 3 (by decide)
  have r4 := e1 4 (by decide)
  have r7 := e1 7 (by decide)
  have r14 := e1 14 (by decide)
  have r29 := e1 29 (by decide)
  have r30 := e1 30 (by decide)
  have r31 := e1 31 (by decide)
  unfold REP RiN RaN ImN DrN at H ⊢
  rw [r1, r2, r3, r4, r7, r14, r29, r30, r31, e2 0 (by decide), e2 12 (by decide), e2 6 (by decide), e2 47 (by decide), e2 11 (by decide), e2 28 (by decide), e2 59 (by decide)]
  exact H
/-- the model's block written anew -/
theorem REP.bl0 {s1 : Sg} (H : REP E h x t dl dv ds du s) : REP E (mdl (x + 84) s1 h) x t dl dv ds du s := by
  have ne : ∀ a, (a < x + 84 ∨ x + 116 ≤ a) → (mdl (x + 84) s1 h).2.2 a = h.2.2 a := fun a ha => bk_out (by omega)
  have tg : ∀ o, o < 32 → hT (mdl (x + 84) s1 h) (x + 84 + o) ≠ 15 := by
    intro o ho
    have e : (mdl (x + 84) s1 h).2.2 (x + 84 + o) = some (mdC (x + 84) s1 o) := bk_at ho
    unfold hT hC
    rw [e]
    show mdT o ≠ 15
    unfold mdT
    split
    · decide
    · split
      · decide
      · split
        · decide
        · split <;> decide
  obtain ⟨pl, rt, ri, ra, st, un, im, dr⟩ := H
  have h0 : ∀ d, hT h d = 104 → d ≠ E.2.2 0 := fun d hd => pl.k0 hd
  obtain ⟨⟨q1, q2, q3⟩, ⟨b1, b2, b3, b4⟩, bb, ⟨low, no⟩, ex⟩ := id pl
  have hf : ∀ a, Frz h x t dl dv ds du a → Frz (mdl (x + 84) s1 h) x t dl dv ds du a ∧ eqT (hC h a) (hC (mdl (x + 84) s1 h) a) := frz_of (by exact Nat.le_refl _) (fun a ha => ne a (by have h1 := ha.2.2; have h2 := ha.1; unfold Mut at h1; omega))
  have hd : ∀ d, Dok E h x t d → d ≠ E.2.2 0 → eqT (hC h d) (hC (mdl (x + 84) s1 h) d) := by
    intro d hd hn
    rcases hd with hd | hd
    · exact absurd hd hn
    · exact eqT.of (ne d (by omega))
  have sI : ∀ a k, (a < x + 84 ∨ x + 116 ≤ a) → hI (mdl (x + 84) s1 h) a k = hI h a k := by
    intro a k ha
    unfold hI
    rw [hC_eq (ne a ha)]
  have pl' : PlN E (mdl (x + 84) s1 h) x t dl dv ds du := ⟨⟨q1, q2, q3⟩, ⟨b1, b2, b3, b4⟩, bb, ⟨fun a ha => (ne a (by omega)).trans (low a ha), fun a a0 a1 => by
    by_cases c : a < x + 84
    · unfold hT
      rw [hC_eq (ne a (Or.inl c))]
      exact no a a0 a1
    · have := tg (a - (x + 84)) (by omega)
      rw [show x + 84 + (a - (x + 84)) = a by omega] at this
      exact this⟩, ex⟩
  refine ⟨pl', rt.sh (fun a ha => shq.of (ne a (by omega))), ?_, ?_, ?_, ?_, fun i hi => ?_, ?_⟩
  · obtain ⟨r1, r2, r3, r4, r5⟩ := ri
    refine ⟨?_, ?_, ?_, ?_, ?_⟩ <;> rw [sI x _ (by omega)] <;> assumption
  · refine ⟨fun k hk => ?_, fun k hk => ?_⟩
    · rw [sI _ _ (by omega)]; exact ra.1 k hk
    · rw [sI _ _ (by omega)]; exact ra.2 k hk
  · exact st.fr hf (fun a a0 a1 => eqT.of (ne a (by omega))) h0 (hd dl b1) (hd dv b2) (hd ds b3)
  · exact un.fr (eqT.of (ne _ (by omega))) (hd du b4) (h0 du) (fun i u hu2 => hu2.fr0 hf)
  · refine (im i hi).fr hf ?_ h0 rfl rfl
    exact (shq.of (ne (x + 13) (by omega))).2.2 (by rw [rt.2.2.2.1.1]; decide) i
  · refine dr.fr hf ?_ rfl rfl rfl rfl
    exact (shq.of (ne x (by omega))).2.2 (by rw [rt.1]; decide) 17
end
/-! what holds between calls -/
def FoV (K : Rw) (a c hi : Int) : Prop := (0 ≤ K c ∧ K c ≤ 8) ∧ ∀ k : Int, 0 ≤ k → k < K c → (0 ≤ K (a + 4 * k) ∧ K (a + 4 * k) < K 152) ∧ (0 ≤ K (a + 4 * k + 1) ∧ K (a + 4 * k + 1) < K 152) ∧ K (a + 4 * k) ≠ K (a + 4 * k + 1) ∧ (1 ≤ K (a + 4 * k + 2) ∧ K (a + 4 * k + 2) ≤ 3) ∧ (0 ≤ K (a + 4 * k + 3) ∧ K (a + 4 * k + 3) ≤ hi)
def KW (K : Rw) : Prop := KB K ∧ LsV K ∧ FoV K 87 153 999 ∧ FoV K 119 154 1
def imgK (s : Sg) (k : Int) : Rw := fun i => s 3 (5764 * k + i)
def wrd : List Int := [100, 101, 112, 116, 104, 32, 103, 114, 111, 119, 115, 32, 115, 101, 108, 108, 115, 32, 98, 97, 114, 115, 32, 105, 102, 32, 111, 114, 32, 97, 110, 100, 32, 110, 111, 116, 32, 111, 119, 110, 101, 114, 32, 118, 105, 115, 105, 116, 111, 114, 32, 111, 119, 101, 115, 32, 98, 97, 99, 107, 32, 114, 111, 111, 109, 115, 32, 119, 97, 114, 121, 32, 97, 109, 111, 117, 110, 116, 32, 97, 103, 101, 32, 100, 97, 121, 32, 109, 111, 111, 100, 32, 100, 101, 98, 116, 115, 32, 100, 111, 110, 101, 32, 108, 97, 115, 116, 32, 112, 117, 114, 115, 101, 32, 111, 119, 101, 100, 32, 108, 101, 110, 100, 32, 114, 101, 112, 97, 121, 32, 119, 97, 105, 116, 32, 116, 111, 32, 111, 102, 32, 116, 105, 109, 101, 115, 32]
theorem wrd_len : wrd.length = 147 := by decide
def VW (n : Int) (s : Sg) : Prop := VS n s ∧ KW (s 2) ∧ (∀ k : Int, 0 ≤ k → k < 2 → s 4 k = 0 ∨ (s 4 k = 1 ∧ KW (imgK s k))) ∧ (0 ≤ s 0 11 ∧ s 0 11 ≤ 400) ∧ (∀ k : Int, 0 ≤ k → k < 400 → -128 ≤ s 7 k ∧ s 7 k ≤ 127) ∧ (∀ k : Nat, k < 147 → s 6 k = wrd.getD k 0) ∧ (0 ≤ s 0 59 ∧ s 0 59 ≤ 7)
/-- rows between which nothing has moved but purses, debts, what can be undone, the answer -/
def Low (s s' : Sg) : Prop := (∀ o : Nat, (o = 3 ∨ o = 4 ∨ o = 6 ∨ o = 7) → s' o = s o) ∧ (s' 0 11 = s 0 11 ∧ s' 0 59 = s 0 59) ∧ ∀ i, 73 ≤ i → s' 2 i = s 2 i
theorem Low.refl (s : Sg) : Low s s := ⟨fun _ _ => rfl, ⟨rfl, rfl⟩, fun _ _ => rfl⟩
theorem Low.trans {s s1 s2 : Sg} (p : Low s s1) (q : Low s1 s2) : Low s s2 := ⟨fun o h => (q.1 o h).trans (p.1 o h), ⟨q.2.1.1.trans p.2.1.1, q.2.1.2.trans p.2.1.2⟩, fun i h => (q.2.2 i h).trans (p.2.2 i h)⟩
theorem FoV.low {K K' : Rw} {a c hi : Int} (H : FoV K a c hi) (ha : 73 ≤ a) (hc : 73 ≤ c) (hu : ∀ i, 73 ≤ i → K' i = K i) : FoV K' a c hi := by
  obtain ⟨f, g⟩ := H
  unfold FoV
  rw [hu c hc, hu 152 (by decide)]
  refine ⟨f, fun k k0 k1 => ?_⟩
  rw [hu _ (by omega), hu _ (by omega), hu _ (by omega), hu _ (by omega)]
  exact g k k0 k1
theorem VW.low {n n' : Int} {s s' : Sg} (H : VW n s) (V : VS n' s') (L : Low s s') : VW n' s' := by
  obtain ⟨-, ⟨k1, k2, k3, k4⟩, im, tp, by_, wo, dr⟩ := H
  obtain ⟨l1, l2, l3⟩ := L
  refine ⟨V, ⟨V.2.1, V.2.2.1, k3.low (by decide) (by decide) l3, k4.low (by decide) (by decide) l3⟩, fun k a b => ?_, by rw [l2.1]; exact tp, ?_, ?_, by rw [l2.2]; exact dr⟩
  · unfold imgK
    rw [l1 4 (by decide), l1 3 (by decide)]
    exact im k a b
  · rw [l1 7 (by decide)]; exact by_
  · rw [l1 6 (by decide)]; exact wo
theorem Low_tel (s : Sg) (v : Int) : Low s (telM s v) := by
  unfold telM sRef sGood
  split
  · refine ⟨fun o h => by rw [sw_ne _ (by omega), sw_ne _ (by omega)], ⟨by rw [sw_ne _ (by decide), sw_eq, u1_ne _ (by decide)], by rw [sw_ne _ (by decide), sw_eq, u1_ne _ (by decide)]⟩, fun i _ => by rw [sw_ne _ (by decide), sw_ne _ (by decide)]⟩
  · refine ⟨fun o h => by rw [sw_ne _ (by omega)], ⟨by rw [sw_eq, u1_ne _ (by decide)], by rw [sw_eq, u1_ne _ (by decide)]⟩, fun i _ => by rw [sw_ne _ (by decide)]⟩
theorem Low_set (s : Sg) (v : Int) : Low s (setM s v) := by
  unfold setM sSet
  split
  · rename_i c
    have := Low_tel s v
    unfold telM at this
    rw [if_pos c] at this
    exact this
  · refine ⟨fun o h => by rw [sw_ne _ (by omega)], ⟨by rw [sw_eq, u1_ne _ (by decide), u1_ne _ (by decide)], by rw [sw_eq, u1_ne _ (by decide), u1_ne _ (by decide)]⟩, fun i _ => by rw [sw_ne _ (by decide)]⟩
theorem Low_2 {s : Sg} {K : Rw} (h : ∀ i, 73 ≤ i → K i = s 2 i) : Low s (sw s 2 K) := ⟨fun o h => sw_ne _ (by omega), ⟨by rw [sw_ne _ (by decide)], by rw [sw_ne _ (by decide)]⟩, fun i hi => by rw [sw_eq]; exact h i hi⟩
theorem Low_keep1 (s : Sg) (w : Int) : Low s (keep1 s w) := by
  unfold keep1
  refine ⟨fun o h => by rw [sw_ne _ (by omega), sw_ne _ (by omega)], ⟨by rw [sw_eq, u1_ne _ (by decide)], by rw [sw_eq, u1_ne _ (by decide)]⟩, fun i _ => by rw [sw_ne _ (by decide), sw_ne _ (by decide)]⟩
theorem Low_shif1 (s : Sg) : Low s (shif1 s) := by
  unfold shif1
  refine ⟨fun o h => by rw [sw_ne _ (by omega), sw_ne _ (by omega)], ⟨by rw [sw_eq, u1_ne _ (by decide)], by rw [sw_eq, u1_ne _ (by decide)]⟩, fun i _ => by rw [sw_ne _ (by decide), sw_ne _ (by decide)]⟩
theorem Low_keeps (s : Sg) (w : Int) : Low s (keepsS s w) := by
  unfold keepsS
  split
  · exact (Low_shif1 s).trans (Low_keep1 _ w)
  · exact Low_keep1 s w
theorem Low_act {s : Sg} {w : Int} {K : Rw} (h : ∀ i, 73 ≤ i → K i = s 2 i) : Low s (sw (keepsS s w) 2 K) := (Low_keeps s w).trans (Low_2 (fun i hi => by rw [keeps_2]; exact h i hi))
theorem VW.es {n : Int} {s s' : Sg} (H : VW n s) (e : Ew s s') : VW n s' := by
  obtain ⟨⟨g, kb, lv, un, re⟩, kw, im, tp, by_, wo, dr⟩ := H
  obtain ⟨e1, e2, e3⟩ := e
  unfold RpO at e1
  unfold RpK at e2
  refine ⟨⟨e3 g, by rw [e1 2 (by decide)]; exact kb, by rw [e1 2 (by decide)]; exact lv, ?_, by rw [e1 1 (by decide)]; exact re⟩, by rw [e1 2 (by decide)]; exact kw, fun k a b => ?_, by rw [e2 11 (by decide)]; exact tp, by rw [e1 7 (by decide)]; exact by_, by rw [e1 6 (by decide)]; exact wo, by rw [e2 59 (by decide)]; exact dr⟩
  · unfold UnV
    rw [e2 28 (by decide), e1 2 (by decide), e1 14 (by decide)]
    exact un
  · unfold imgK
    rw [e1 4 (by decide), e1 3 (by decide)]
    exact im k a b
