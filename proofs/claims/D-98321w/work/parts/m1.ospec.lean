/-! Orders: what is meant -/
set_option maxRecDepth 100000
/-- what orders ask of: the day, how many debts, how many were run, the latest -/
def evO (s : Sg) : Ev := ((fun k => if k = 0 then s 2 72 else if k = 1 then s 2 71 else if k = 2 then s 0 48 else if k = 3 then s 0 49 else 0), purseS (s 2), owedS (s 2))
/-- an order's act -/
def actS (s : Sg) (hd a b v : Int) : Int × Sg := if hd = 26 then waitO s else if hd = 24 then lendS s a b v else repayO s a b v
def ordC (v : Int) : Int := if v = 0 then 0 else if v = -5 then -5 else -3
def doneS (hd : Int) (r : Int × Sg) : Sg := sw r.2 0 (u1 (if hd = 26 then r.2 0 else u1 (r.2 0) 49 r.1) 48 (r.2 0 48 + 1))
def sumO (C : Od) (e : Ev) : Option (Int × Int × Int) := (C.2.1.1 e).bind fun a => (C.2.1.2.1 e).bind fun b => (C.2.1.2.2 e).map fun v => (a, b, v)
/-- an order once -/
def onceS (C : Od) (s : Sg) : Int × Sg := if C.2.2.2 (evO s) = some true then (match sumO C (evO s) with
  | none => (-3, s)
  | some q => if (actS s C.1 q.1 q.2.1 q.2.2).1 < 0 then (ordC (actS s C.1 q.1 q.2.1 q.2.2).1, (actS s C.1 q.1 q.2.1 q.2.2).2) else (0, doneS C.1 (actS s C.1 q.1 q.2.1 q.2.2))) else (0, s)
def timesS (C : Od) : Nat → Sg → Int × Sg
  | 0, s => (0, s)
  | n + 1, s => if (onceS C s).1 = 0 then timesS C n (onceS C s).2 else onceS C s
def allS : List Od → Int → Sg → Int × Int × Sg
  | [], k, s => (0, k, s)
  | C :: L, k, s => if (timesS C C.2.2.1.toNat s).1 = 0 then allS L (k + 1) (timesS C C.2.2.1.toNat s).2 else ((timesS C C.2.2.1.toNat s).1, k, (timesS C C.2.2.1.toNat s).2)
/-- rows between which an act has been: purses, debts, the day, what can be undone; how many, the latest -/
def Ac (s s' : Sg) : Prop := (∀ o : Nat, o ≠ 0 → o ≠ 2 → o ≠ 14 → s' o = s o) ∧ (∀ k : Int, k ≠ 28 → k ≠ 48 → k ≠ 49 → s' 0 k = s 0 k) ∧ ∀ i, 73 ≤ i → s' 2 i = s 2 i
theorem Ac.refl (s : Sg) : Ac s s := ⟨fun _ _ _ _ => rfl, fun _ _ _ _ => rfl, fun _ _ => rfl⟩
theorem Ac.trans {s s1 s2 : Sg} (p : Ac s s1) (q : Ac s1 s2) : Ac s s2 := ⟨fun o h1 h2 h3 => (q.1 o h1 h2 h3).trans (p.1 o h1 h2 h3), fun k h1 h2 h3 => (q.2.1 k h1 h2 h3).trans (p.2.1 k h1 h2 h3), fun i h => (q.2.2 i h).trans (p.2.2 i h)⟩
theorem keeps_r (s : Sg) (w : Int) : (∀ o : Nat, o ≠ 0 → o ≠ 14 → keepsS s w o = s o) ∧ ∀ k : Int, k ≠ 28 → keepsS s w 0 k = s 0 k := by
  unfold keepsS keep1 shif1
  split
  · refine ⟨fun o h0 h1 => ?_, fun k hk => ?_⟩
    · rw [sw_ne _ h0, sw_ne _ h1, sw_ne _ h0, sw_ne _ h1]
    · rw [sw_eq, u1_ne _ hk, sw_eq, u1_ne _ hk]
  · refine ⟨fun o h0 h1 => ?_, fun k hk => ?_⟩
    · rw [sw_ne _ h0, sw_ne _ h1]
    · rw [sw_eq, u1_ne _ hk]
theorem act_keep {s : Sg} {w : Int} {K : Rw} (h : ∀ i, 73 ≤ i → K i = s 2 i) : Ac s (sw (keepsS s w) 2 K) ∧ ∀ k : Int, k ≠ 28 → sw (keepsS s w) 2 K 0 k = s 0 k := by
  obtain ⟨a, b⟩ := keeps_r s w
  refine ⟨⟨fun o h0 h2 h14 => by rw [sw_ne _ h2]; exact a o h0 h14, fun k h1 _ _ => by rw [sw_ne _ (by decide)]; exact b k h1, fun i hi => by rw [sw_eq]; exact h i hi⟩, fun k hk => by rw [sw_ne _ (by decide)]; exact b k hk⟩
section
variable {s : Sg} {n hd a b v : Int}
theorem wait_keep (H : KB (s 2)) : Ac s (waitO s).2 ∧ ∀ k : Int, k ≠ 28 → (waitO s).2 0 k = s 0 k := by
  have hR := H.2.2.2.2
  have h71 := hR.1
  unfold waitO
  split
  · exact ⟨Ac.refl s, fun _ _ => rfl⟩
  · unfold waitsS
    exact act_keep (fun i hi => waitT_up _ _ i (by omega) (by omega))
theorem lend_keep (H : KB (s 2)) : Ac s (lendS s a b v).2 ∧ ∀ k : Int, k ≠ 28 → (lendS s a b v).2 0 k = s 0 k := by
  have hn := H.1
  have hR := H.2.2.2.2
  have h71 := hR.1
  unfold lendS
  split
  · exact ⟨Ac.refl s, fun _ _ => rfl⟩
  · split
    · exact ⟨Ac.refl s, fun _ _ => rfl⟩
    · split
      · exact ⟨Ac.refl s, fun _ _ => rfl⟩
      · split
        · exact ⟨Ac.refl s, fun _ _ => rfl⟩
        · rename_i c1 c2 c3 c4
          have c2' : (0 ≤ a ∧ a ≤ s 2 152 - 1) ∧ (0 ≤ b ∧ b ≤ s 2 152 - 1) := by omega
          have e71 : payS (s 2) a b v 71 = s 2 71 := pay_u (by omega) (by omega) (by omega)
          refine act_keep (fun i hi => ?_)
          unfold lendsS addsS
          rw [u1_ne _ (by omega), u1_ne _ (by omega), u1_ne _ (by omega), u1_ne _ (by omega), u1_ne _ (by omega), pay_u (by omega) (by omega) (by omega)]
theorem repay_keep (H : KB (s 2)) : Ac s (repayO s a b v).2 ∧ ∀ k : Int, k ≠ 28 → (repayO s a b v).2 0 k = s 0 k := by
  have hn := H.1
  have hR := H.2.2.2.2
  have h71 := hR.1
  unfold repayO
  split
  · exact ⟨Ac.refl s, fun _ _ => rfl⟩
  · split
    · exact ⟨Ac.refl s, fun _ _ => rfl⟩
    · split
      · exact ⟨Ac.refl s, fun _ _ => rfl⟩
      · rename_i c1 c2 c3
        have c2' : (0 ≤ a ∧ a ≤ s 2 152 - 1) ∧ (0 ≤ b ∧ b ≤ s 2 152 - 1) := by omega
        exact act_keep (fun i hi => rep_up h71.2 (by omega) (by omega) i hi)
theorem actS_keep (H : KB (s 2)) : Ac s (actS s hd a b v).2 ∧ ∀ k : Int, k ≠ 28 → (actS s hd a b v).2 0 k = s 0 k := by
  unfold actS
  split
  · exact wait_keep H
  · split
    · exact lend_keep H
    · exact repay_keep H
theorem actS_VW (H : VW n s) (hv : i2 v = v) : VW n (actS s hd a b v).2 := by
  unfold actS
  split
  · exact waitO_VW H
  · split
    · exact lendS_VW H
    · exact repayO_VW H hv
theorem actS_b (H : KB (s 2)) (hv : i2 v = v) : -7 < (actS s hd a b v).1 ∧ (actS s hd a b v).1 ≤ 1000000 ∧ (hd ≠ 26 → (actS s hd a b v).1 ≤ 9999) := by
  unfold actS
  split
  · have := waitO_b H
    exact ⟨this.1, this.2, fun h => by omega⟩
  · split
    · have := lendS_b s a b v
      exact ⟨this.1, by omega, fun _ => this.2⟩
    · have := repayO_b (s := s) (p := a) (q := b) H hv
      exact ⟨this.1, by omega, fun _ => this.2⟩
/-- how many were run, the latest -/
def DoV (d : Int) (s : Sg) : Prop := (0 ≤ s 0 48 ∧ s 0 48 ≤ d) ∧ -1 ≤ s 0 49 ∧ s 0 49 ≤ 9999
theorem DoV.up {d d' : Int} (D : DoV d s) (h : d ≤ d') : DoV d' s := ⟨⟨D.1.1, Int.le_trans D.1.2 h⟩, D.2⟩
theorem EB_evO {d : Int} (H : KB (s 2)) (D : DoV d s) (hd' : d ≤ 100000) : EB (evO s) := by
  obtain ⟨a1, a2, a3, a4, a5⟩ := H
  obtain ⟨⟨d1, d2⟩, d3, d4⟩ := D
  have r1 := a5.1
  have r2 := a5.2.1
  refine ⟨fun k => ?_, fun p => ?_, fun p q => ?_⟩
  · simp only [evO]
    repeat' split
    all_goals omega
  · simp only [evO, purseS]
    split
    · rename_i hp
      have := a5.2.2.1 p (by omega) (by omega)
      omega
    · omega
  · have := owed_b a5 p q
    simp only [evO, owedS]
    split <;> omega
/-- who is nobody owes nothing -/
theorem owedS_eq {K : Rw} (H : RV (K 152) K) (p q : Int) : owed K p q = owedS K p q := by
  unfold owedS
  split
  · rfl
  · rename_i c
    unfold owed
    refine sm_zero (fun k hk => ?_)
    have h71 := H.1
    obtain ⟨e1, e2, e3, -⟩ := H.2.2.2 k (by omega) (by omega)
    split
    · rename_i z
      obtain ⟨z1, z2⟩ := z
      exfalso
      refine c ⟨⟨by omega, by omega⟩, ⟨by omega, by omega⟩, ?_⟩
      rw [← z1, ← z2]
      exact e3
    · rfl
theorem doneS_VW {r : Int × Sg} (H : VW n r.2) (h1 : 0 ≤ r.1 ∧ r.1 ≤ 1000000) (h2 : 0 ≤ r.2 0 48 ∧ r.2 0 48 ≤ 1000000) : VW n (doneS hd r) := by
  unfold doneS
  have g := H.1.1 0
  have h11 := H.2.2.2.1
  split
  · exact H.z0 (u1_32 g (i2_of (by omega) (by omega))) (by rw [u1_ne _ (by decide)]; exact h11) (u1_ne _ (by decide)) (u1_ne _ (by decide))
  · exact H.z0 (u1_32 (u1_32 g (i2_of (by omega) (by omega))) (i2_of (by omega) (by omega))) (by rw [u1_ne _ (by decide), u1_ne _ (by decide)]; exact h11) (by rw [u1_ne _ (by decide), u1_ne _ (by decide)]) (by rw [u1_ne _ (by decide), u1_ne _ (by decide)])
theorem doneS_Ac {s0 : Sg} {r : Int × Sg} (A : Ac s0 r.2) : Ac s0 (doneS hd r) := by
  obtain ⟨a1, a2, a3⟩ := A
  unfold doneS
  refine ⟨fun o h0 h2 h14 => by rw [sw_ne _ h0]; exact a1 o h0 h2 h14, fun k h1 h2 h3 => ?_, fun i hi => by rw [sw_ne _ (by decide)]; exact a3 i hi⟩
  rw [sw_eq, u1_ne _ h2]
  split
  · exact a2 k h1 h2 h3
  · rw [u1_ne _ h3]
    exact a2 k h1 h2 h3
theorem doneS_D {d : Int} {r : Int × Sg} (D : DoV d r.2) (h : 0 ≤ r.1 ∧ (hd ≠ 26 → r.1 ≤ 9999)) : DoV (d + 1) (doneS hd r) := by
  obtain ⟨⟨d1, d2⟩, d3, d4⟩ := D
  unfold DoV doneS
  rw [sw_eq, u1_eq, u1_ne _ (by decide)]
  split
  · omega
  · rename_i c
    have := h.2 c
    rw [u1_eq]
    omega
end
/-- what one order, all keep -/
def OdV (n d : Int) (s : Sg) : Prop := VW n s ∧ DoV d s
section
variable {s : Sg} {n d : Int} {C : Od}
def OdB (C : Od) : Prop := FB C.2.1.1 ∧ FB C.2.1.2.1 ∧ FB C.2.1.2.2 ∧ (1 ≤ C.2.2.1 ∧ C.2.2.1 ≤ 20) ∧ (C.1 = 24 ∨ C.1 = 25 ∨ C.1 = 26) ∧ (C.1 = 26 → C.2.1 = ((fun _ => some 0), (fun _ => some 0), (fun _ => some 0)))
theorem sumO_b (B : OdB C) {e : Ev} (he : EB e) {q : Int × Int × Int} (h : sumO C e = some q) : (-1000000000 ≤ q.1 ∧ q.1 ≤ 1000000000) ∧ (-1000000000 ≤ q.2.1 ∧ q.2.1 ≤ 1000000000) ∧ (-1000000000 ≤ q.2.2 ∧ q.2.2 ≤ 1000000000) := by
  unfold sumO at h
  obtain ⟨a, h1, h2⟩ := Option.bind_eq_some_iff.mp h
  obtain ⟨b, h3, h4⟩ := Option.bind_eq_some_iff.mp h2
  obtain ⟨v, h5, h6⟩ := Option.map_eq_some_iff.mp h4
  rw [← h6]
  exact ⟨B.1 e he a h1, B.2.1 e he b h3, B.2.2.1 e he v h5⟩
theorem onceS_V (B : OdB C) (H : OdV n d s) (hd' : d ≤ 100000) : OdV n (d + 1) (onceS C s).2 ∧ Ac s (onceS C s).2 ∧ ((onceS C s).1 = 0 ∨ (onceS C s).1 = -3 ∨ (onceS C s).1 = -5) := by
  obtain ⟨V, D⟩ := H
  have hK := V.1.2.1
  have up : DoV (d + 1) s := ⟨⟨D.1.1, by have := D.1.2; omega⟩, D.2⟩
  unfold onceS
  split
  · cases hS : sumO C (evO s) with
    | none => exact ⟨⟨V, up⟩, Ac.refl s, Or.inr (Or.inl rfl)⟩
    | some q =>
      have qb := sumO_b B (EB_evO hK D hd') hS
      have i3 : i2 q.2.2 = q.2.2 := i2_of (by omega) (by omega)
      have k := actS_keep (hd := C.1) (a := q.1) (b := q.2.1) (v := q.2.2) hK
      have w := actS_VW (hd := C.1) (a := q.1) (b := q.2.1) V i3
      have b := actS_b (hd := C.1) (a := q.1) (b := q.2.1) hK i3
      have D2 : DoV d (actS s C.1 q.1 q.2.1 q.2.2).2 := by
        unfold DoV at *
        rw [k.2 48 (by decide), k.2 49 (by decide)]
        exact D
      dsimp only
      split
      · refine ⟨⟨w, D2.up (by omega)⟩, k.1, ?_⟩
        show ordC _ = 0 ∨ ordC _ = -3 ∨ ordC _ = -5
        unfold ordC
        split
        · exact Or.inl rfl
        · split
          · exact Or.inr (Or.inr rfl)
          · exact Or.inr (Or.inl rfl)
      · have h48 := D2.1
        exact ⟨⟨doneS_VW w (by omega) (by omega), doneS_D D2 ⟨by omega, b.2.2⟩⟩, doneS_Ac k.1, Or.inl rfl⟩
  · exact ⟨⟨V, up⟩, Ac.refl s, Or.inl rfl⟩
theorem timesS_V (B : OdB C) : ∀ (m : Nat) (d : Int) (s : Sg), OdV n d s → d + m ≤ 100000 → OdV n (d + m) (timesS C m s).2 ∧ Ac s (timesS C m s).2 ∧ ((timesS C m s).1 = 0 ∨ (timesS C m s).1 = -3 ∨ (timesS C m s).1 = -5) := by
  intro m
  induction m with
  | zero =>
    intro d s H _
    refine ⟨?_, Ac.refl s, Or.inl rfl⟩
    show OdV n (d + ((0 : Nat) : Int)) s
    rw [show d + ((0 : Nat) : Int) = d by omega]
    exact H
  | succ m ih =>
    intro d s H hd
    obtain ⟨p, q, r⟩ := onceS_V B H (by omega)
    unfold timesS
    split
    · obtain ⟨p2, q2, r2⟩ := ih (d + 1) _ p (by omega)
      rw [show d + 1 + (m : Int) = d + ((m + 1 : Nat) : Int) by omega] at p2
      exact ⟨p2, q.trans q2, r2⟩
    · exact ⟨⟨p.1, ⟨⟨p.2.1.1, by have := p.2.1.2; omega⟩, p.2.2⟩⟩, q, r⟩
theorem allS_V : ∀ (L : List Od) (k d : Int) (s : Sg), (∀ C, C ∈ L → OdB C) → OdV n d s → d + 20 * L.length ≤ 100000 → OdV n (d + 20 * L.length) (allS L k s).2.2 ∧ Ac s (allS L k s).2.2 ∧ ((allS L k s).1 = 0 ∨ (allS L k s).1 = -3 ∨ (allS L k s).1 = -5) ∧ k ≤ (allS L k s).2.1 ∧ (allS L k s).2.1 ≤ k + L.length := by
  intro L
  induction L with
  | nil =>
    intro k d s _ H _
    refine ⟨?_, Ac.refl s, Or.inl rfl, Int.le_refl _, ?_⟩
    · show OdV n (d + 20 * ((0 : Nat) : Int)) s
      rw [show d + 20 * ((0 : Nat) : Int) = d by omega]
      exact H
    · show k ≤ k + ((0 : Nat) : Int)
      omega
  | cons C L ih =>
    intro k d s hB H hd
    have B := hB C (List.mem_cons_self)
    have bt := B.2.2.2.1
    rw [List.length_cons] at hd ⊢
    obtain ⟨p, q, r⟩ := timesS_V B C.2.2.1.toNat d s H (by omega)
    have up : OdV n (d + 20) (timesS C C.2.2.1.toNat s).2 := ⟨p.1, ⟨⟨p.2.1.1, by have := p.2.1.2; omega⟩, p.2.2⟩⟩
    unfold allS
    split
    · obtain ⟨p2, q2, r2, k1, k2⟩ := ih (k + 1) (d + 20) _ (fun C' h => hB C' (List.mem_cons_of_mem _ h)) up (by omega)
      rw [show d + 20 + 20 * (L.length : Int) = d + 20 * ((L.length + 1 : Nat) : Int) by omega] at p2
      exact ⟨p2, q.trans q2, r2, by omega, by omega⟩
    · exact ⟨⟨up.1, up.2.up (by omega)⟩, q, r, Int.le_refl _, by show k ≤ k + ((L.length + 1 : Nat) : Int); omega⟩
end
