/-! Orders: the component runs all, each as often as told -/
set_option maxRecDepth 100000
section
variable {E : ax_E} {x t dl dv ds du0 u lo hi : Nat} {g0 : ax_H} {n : Int}
theorem c_runRows (hE : Ek E x) (hlo : x + 116 ≤ lo) (hz : ∀ a, lo ≤ a → a < hi → Frz g0 x t dl dv ds du0 a) (hu : lo ≤ u ∧ u < hi) (tu : hT g0 u = 110) (e1 : g0.1 + 2100 ≤ E.1.1) (e2 : g0.2.1 + 30000 ≤ E.1.2) : ∀ (L : List Od) (j : Nat) (d : Nat) (s : Sg) (g : ax_H) (du : Nat), hL g0 u = j + L.length → j + L.length ≤ 12 → (∀ (i : Nat) (C : Od), L[i]? = some C → ∃ b, hR g0 u (j + i) = some b ∧ (lo ≤ b ∧ b < hi) ∧ OdN (fun a => RnF lo hi a ∧ NO g0 a) g0 x b C) → RI E x t dl dv ds du0 g0 g du n d s → d + 20 * L.length ≤ 250 → ∃ (du' : Nat) (g' : ax_H), f_X0_runAll_2 E (some x) (some u) j g = some (if (allS L j s).1 = 0 then (allS L j s).2.2 0 48 else (allS L j s).1, if (allS L j s).1 = 0 then g' else wI g' x 10 (allS L j s).2.1) ∧ RI E x t dl dv ds du0 g0 g' du' n (d + 20 * L.length) (allS L j s).2.2 := by
  have no110 : NO g0 u := NO.of tu (by decide)
  intro L
  induction L with
  | nil =>
    intro j d s g du hl h12 OL I hd
    have eu := eqO_no (I.2.2.2.1.2 u (hz u hu.1 hu.2)) no110
    have l0 : hL g0 u = j := hl
    refine ⟨du, g, ?_, I⟩
    have ea : allS [] (j : Int) s = (0, (j : Int), s) := rfl
    rw [ea]
    dsimp only
    rw [if_pos rfl, if_pos rfl]
    unfold f_X0_runAll_2
    refine it_done ?_
    dsimp only
    have h12' : j ≤ 12 := h12
    unfold lb_X0_runAll_2
    rw [f_len (eu.hT.trans tu) (by decide), Option.bind_some, eu.hL, l0, if_neg (Int.lt_irrefl _), f_gI I.1.2.1.1 (by decide), Option.bind_some, I.2.2.1.1]
    rfl
  | cons C L ih =>
    intro j d s g du hl h12 OL I hd
    have eu := eqO_no (I.2.2.2.1.2 u (hz u hu.1 hu.2)) no110
    rw [List.length_cons] at hl h12 hd ⊢
    obtain ⟨b, rb, hb, N⟩ := OL 0 C rfl
    rw [Nat.add_zero] at rb
    have bt := N.1
    obtain ⟨du', g', p1, p2⟩ := c_times (j := j) hE hlo hz hu tu ⟨by omega, by omega⟩ rb hb N e1 e2 C.2.2.1.toNat 0 d s g du (Int.le_refl 0) (by omega) I (by omega)
    have st : lb_X0_runAll_2 E (some x) (some u) j g = if (timesS C C.2.2.1.toNat s).1 = 0 then some (.inl ((j : Int) + 1, g')) else some (.inr ((timesS C C.2.2.1.toNat s).1, wI g' x 10 j)) := by
      unfold lb_X0_runAll_2
      rw [f_len (eu.hT.trans tu) (by decide), Option.bind_some, eu.hL, hl, i2_of (a := (j : Int)) (by omega) (by omega), i2_of (a := ((j + (L.length + 1) : Nat) : Int)) (by omega) (by omega), if_pos (by omega), p1]
      by_cases c : (timesS C C.2.2.1.toNat s).1 = 0
      · rw [if_pos c, if_pos c]
      · rw [if_neg c, if_neg c]
    have I' : RI E x t dl dv ds du0 g0 g' du' n (d + 20) (timesS C C.2.2.1.toNat s).2 := p2.up (by omega)
    by_cases c : (timesS C C.2.2.1.toNat s).1 = 0
    · rw [if_pos c] at st
      have ea : allS (C :: L) (j : Int) s = allS L ((j : Int) + 1) (timesS C C.2.2.1.toNat s).2 := by
        show (if _ then _ else _) = _
        rw [if_pos c]
      obtain ⟨du2, g2, r1, r2⟩ := ih (j + 1) (d + 20) (timesS C C.2.2.1.toNat s).2 g' du' (by omega) (by omega) (fun i D hD => by
        obtain ⟨b', y1, y2⟩ := OL (i + 1) D hD
        exact ⟨b', by rw [show j + 1 + i = j + (i + 1) by omega]; exact y1, y2⟩) I' (by omega)
      rw [show ((j + 1 : Nat) : Int) = (j : Int) + 1 by omega] at r1 r2
      rw [ea]
      refine ⟨du2, g2, ?_, by rw [show d + 20 * (L.length + 1) = d + 20 + 20 * L.length by omega]; exact r2⟩
      unfold f_X0_runAll_2 at r1 ⊢
      exact (it_step (body := fun s : Int × ax_H => lb_X0_runAll_2 E (some x) (some u) s.1 s.2) (s := ((j : Int), g)) st).trans r1
    · rw [if_neg c] at st
      have ea : allS (C :: L) (j : Int) s = ((timesS C C.2.2.1.toNat s).1, (j : Int), (timesS C C.2.2.1.toNat s).2) := by
        show (if _ then _ else _) = _
        rw [if_neg c]
      rw [ea]
      dsimp only
      rw [if_neg c]
      refine ⟨du', g', ?_, I'.up (by omega)⟩
      unfold f_X0_runAll_2
      refine (it_done (body := fun s : Int × ax_H => lb_X0_runAll_2 E (some x) (some u) s.1 s.2) (s := ((j : Int), g)) st).trans ?_
      rw [if_neg c]
theorem c_runAll {L : List Od} {s : Sg} (hE : Ek E x) (hlo : x + 116 ≤ lo) (hz : ∀ a, lo ≤ a → a < hi → Frz g0 x t dl dv ds du0 a) (O : OdL lo hi g0 x u L) (H : REP E g0 x t dl dv ds du0 s) (V : OdV n 0 s) (D : DoC g0 x s) (e1 : g0.1 + 2100 ≤ E.1.1) (e2 : g0.2.1 + 30000 ≤ E.1.2) : ∃ (du' : Nat) (g' : ax_H), f_X0_runAll E (some x) (some u) g0 = some (if (allS L 0 s).1 = 0 then (allS L 0 s).2.2 0 48 else (allS L 0 s).1, if (allS L 0 s).1 = 0 then g' else wI g' x 10 (allS L 0 s).2.1) ∧ RI E x t dl dv ds du0 g0 g' du' n 240 (allS L 0 s).2.2 := by
  obtain ⟨⟨o1, o2, o3, o4, o5⟩, oL⟩ := O
  have I0 : RI E x t dl dv ds du0 g0 g0 du0 n 0 s := ⟨H, V, D, ⟨Or.inl rfl, fun _ _ => eqO.refl _⟩, Blk.refl x g0⟩
  obtain ⟨du', g', r1, r2⟩ := c_runRows hE hlo hz ⟨o4, o5⟩ o1 e1 e2 L 0 0 s g0 du0 (by rw [o2, Nat.zero_add]) (by omega) (fun i C hC => by
    obtain ⟨b, y1, y2, y3⟩ := oL i C hC
    exact ⟨b, by rw [Nat.zero_add]; exact y1, y2, y3.no.fr (fun a ha => ⟨⟨ha.1.1, ha.2⟩, eqT.refl _⟩) ⟨rfl, fun _ => rfl, fun _ => rfl, fun _ => rfl⟩⟩) I0 (by omega)
  refine ⟨du', g', ?_, r2.up (by omega)⟩
  unfold f_X0_runAll
  exact r1
end
/-- what can be undone only grows -/
theorem keeps_28 (s : Sg) (w : Int) : keepsS s w 0 28 = if s 0 28 = 16 then 16 else s 0 28 + 1 := by
  unfold keepsS keep1 shif1
  by_cases c : s 0 28 = 16
  · rw [if_pos c, if_pos c, sw_eq, u1_eq, sw_eq, u1_eq, c]
    rfl
  · rw [if_neg c, if_neg c, sw_eq, u1_eq]
theorem actS_28 {s : Sg} {hd a b v : Int} (h : s 0 28 ≤ 16) : s 0 28 ≤ (actS s hd a b v).2 0 28 := by
  have k : ∀ (w : Int) (K : Rw), s 0 28 ≤ sw (keepsS s w) 2 K 0 28 := fun w K => by
    rw [sw_ne _ (by decide), keeps_28]
    split <;> omega
  unfold actS
  split
  · unfold waitO
    split
    · exact Int.le_refl _
    · exact k 4 (waitsS (s 2)).2
  · split
    · unfold lendS
      split
      · exact Int.le_refl _
      · split
        · exact Int.le_refl _
        · split
          · exact Int.le_refl _
          · split
            · exact Int.le_refl _
            · exact k 0 (lendsS (s 2) a b v)
    · unfold repayO
      split
      · exact Int.le_refl _
      · split
        · exact Int.le_refl _
        · split
          · exact Int.le_refl _
          · exact k 1 (repaysS (s 2) a b (canRepayS (s 2) a b v))
theorem onceS_28 {s : Sg} {C : Od} (h : s 0 28 ≤ 16) : s 0 28 ≤ (onceS C s).2 0 28 := by
  unfold onceS
  split
  · cases sumO C (evO s) with
    | none => exact Int.le_refl _
    | some q =>
      have k := actS_28 (hd := C.1) (a := q.1) (b := q.2.1) (v := q.2.2) h
      dsimp only
      split
      · exact k
      · show s 0 28 ≤ doneS _ _ 0 28
        unfold doneS
        rw [sw_eq, u1_ne _ (by decide)]
        split
        · exact k
        · rw [u1_ne _ (by decide)]; exact k
  · exact Int.le_refl _
theorem timesS_28 {n : Int} {C : Od} (B : OdB C) : ∀ (m : Nat) (d : Int) (s : Sg), OdV n d s → d + m ≤ 100000 → s 0 28 ≤ (timesS C m s).2 0 28 := by
  intro m
  induction m with
  | zero => intro d s _ _; exact Int.le_refl _
  | succ m ih =>
    intro d s V hd
    obtain ⟨p, -, -⟩ := onceS_V B V (by omega)
    have k := onceS_28 (C := C) V.1.1.2.2.2.1.1.2
    unfold timesS
    split
    · exact Int.le_trans k (ih (d + 1) _ p (by omega))
    · exact k
theorem allS_28 {n : Int} : ∀ (L : List Od) (k d : Int) (s : Sg), (∀ C, C ∈ L → OdB C) → OdV n d s → d + 20 * L.length ≤ 100000 → s 0 28 ≤ (allS L k s).2.2 0 28 := by
  intro L
  induction L with
  | nil => intro k d s _ _ _; exact Int.le_refl _
  | cons C L ih =>
    intro k d s hB V hd
    have B := hB C (List.mem_cons_self)
    have bt := B.2.2.2.1
    rw [List.length_cons] at hd
    have q := timesS_28 B C.2.2.1.toNat d s V (by omega)
    obtain ⟨p, -, -⟩ := timesS_V B C.2.2.1.toNat d s V (by omega)
    unfold allS
    split
    · exact Int.le_trans q (ih (k + 1) (d + 20) _ (fun C' h => hB C' (List.mem_cons_of_mem _ h)) ⟨p.1, p.2.up (by omega)⟩ (by omega))
    · exact q
