/-! THE COMPONENT: what the last clause of a head tells -/
set_option maxRecDepth 100000
section
variable {E : ax_E} {h : ax_H} {x q : Nat} {e : Ev} {Fz : Nat → Prop}
theorem c_tells {t : Nat} {L : List Cl} {hd wo : Int} (H : TxN Fz h x t L) (hA : AskN h q e) (hE : EB e) (hq : ¬ Fz q) (h1 : 1 ≤ hd) (h3 : hd ≤ 3) : ∃ h', f_X4_tells E (some t) (hd - 1) (some q) wo h = some (L.foldl (comT e hd) wo, h') ∧ Scr q h h' := by
  have main := it_up (body := fun s : Int × Int × ax_H => lb_X4_tells_6 E (some t) (hd - 1) (some q) s.1 s.2.1 s.2.2) L.length (fun k s => s.2.1 = (k : Int) ∧ Hid (s.1 = (L.take k).foldl (comT e hd) wo) ∧ Scr q h s.2.2) (fun r => Hid (r.1 = L.foldl (comT e hd) wo) ∧ Scr q h r.2) ?_ ?_ (s := (wo, 0, h)) ⟨rfl, rfl, Scr.refl q h⟩
  · obtain ⟨⟨v, h'⟩, e1, e2, e3⟩ := main
    refine ⟨h', ?_, e3⟩
    unfold f_X4_tells f_X4_tells_6
    rw [e1]
    have e2 := e2.out
    simp only at e2
    rw [e2]
  · rintro k ⟨told, i, g⟩ hk ⟨rfl, htold, S⟩
    simp only at htold S
    obtain ⟨hz, tt, c, r, hc, tc, lc, l12, hcl⟩ := H.fr (S.fz hq)
    obtain ⟨u, hu⟩ : ∃ u, L[k]? = some u := ⟨L[k], List.getElem?_eq_getElem hk⟩
    obtain ⟨b, rb, Hb⟩ := hcl k u hu
    have Hb0 := Hb
    obtain ⟨hzb, tb, ib, cb, -, -⟩ := Hb
    have hlen : i2 ((L.length : Nat) : Int) = L.length := i2_of (by omega) (by omega)
    have hfold : Hid ((L.take (k + 1)).foldl (comT e hd) wo = comT e hd told u) := by
      show _ = _
      rw [take_snoc hu, List.foldl_append, ← htold.out]
      rfl
    simp only [lb_X4_tells_6]
    rw [f_gR tt (by decide), r, Option.bind_some, f_len tc (by decide), Option.bind_some, lc, hlen, i2_of (by omega) (by omega), if_pos (by omega)]
    simp only [f_gR tt (by decide), r, Option.bind_some]
    rw [f_ldR tc (by decide) (by omega) (by omega) (by omega), Int.toNat_natCast, rb, Option.bind_some, f_gI tb (by decide), Option.bind_some, ib, i2_of (by omega) (by omega), i2_of (by omega) (by omega)]
    by_cases h4 : u.1 = hd
    · rw [if_pos (by omega)]
      rw [Option.bind_some, f_ce tb (by decide), Option.bind_some]
      obtain ⟨g1, e1, e2, e3⟩ := c_holds (E := E) (x := x) ((hA.scr S).ask) hE hq Hb0
      rw [e1, Option.bind_some]
      cases hv : hold u e with
      | none =>
        show ∃ w, (if i2 0 = 0 then _ else _) = some w ∧ _
        rw [if_pos i2_0]
        refine ⟨_, rfl, ?_, ?_, S.trans e2⟩
        · simp
        · show _ = _
          rw [hfold.out]
          unfold comT
          rw [if_pos h4, hv]
      | some v =>
        show ∃ w, (if i2 1 = 0 then _ else _) = some w ∧ _
        rw [if_neg (by decide)]
        obtain ⟨hz', tt', c', r', hc', tc', lc', -, hcl'⟩ := H.fr ((S.trans e2).fz hq)
        obtain ⟨b', rb', Hb'⟩ := hcl' k u hu
        have hcc : c' = c := by
          have z := (S.fz hq t H.1).2.2.2.1
          have z2 := ((S.trans e2).fz hq t H.1).2.2.2.1
          have y1 : hR g t 0 = hR h t 0 := congrFun z 0
          have y2 : hR g1 t 0 = hR h t 0 := congrFun z2 0
          rw [y1] at r
          rw [y2] at r'
          rw [r] at r'
          exact (Option.some.inj r').symm
        have hbb : b' = b := by
          subst hcc
          have z := (e2.fz hq c' hc).2.2.2.1
          have y1 : hR g1 c' k = hR g c' k := congrFun z k
          rw [y1, rb] at rb'
          exact (Option.some.inj rb').symm
        subst hcc hbb
        obtain ⟨-, tb', -⟩ := Hb'
        simp only [f_gR tt' (by decide), r', Option.bind_some]
        rw [f_ldR tc' (by decide) (by omega) (by omega) (by omega), Int.toNat_natCast, rb', Option.bind_some, f_gI tb' (by decide), Option.bind_some, e3 (by omega) v hv]
        refine ⟨_, rfl, ?_, ?_, S.trans e2⟩
        · simp
        · show _ = _
          rw [hfold.out]
          unfold comT
          rw [if_pos h4, hv]
    · rw [if_neg (by omega)]
      refine ⟨_, rfl, ?_, ?_, S⟩
      · simp
      · show _ = _
        rw [hfold.out]
        unfold comT
        rw [if_neg h4]
  · rintro ⟨told, i, g⟩ ⟨rfl, htold, S⟩
    simp only at htold S
    obtain ⟨hz, tt, c, r, hc, tc, lc, l12, hcl⟩ := H.fr (S.fz hq)
    have hlen : i2 ((L.length : Nat) : Int) = L.length := i2_of (by omega) (by omega)
    simp only [lb_X4_tells_6]
    rw [f_gR tt (by decide), r, Option.bind_some, f_len tc (by decide), Option.bind_some, lc, hlen, if_neg (by omega)]
    rw [List.take_length] at htold
    exact ⟨_, rfl, htold, S⟩
end
/-! against what is meant -/
theorem tellF_hold (e : Ev) (hd hi told : Int) (c : Cl) : tellF e hd hi told c = if c.1 = hd then (match hold c e with
  | some v => clampS v hi
  | none => told) else told := by
  unfold tellF hold
  split
  · cases h1 : c.2.2 e with
    | none => rfl
    | some b =>
      cases b with
      | false => rfl
      | true =>
        cases h2 : c.2.1 e <;> rfl
  · rfl
theorem clampS_eq {v hi : Int} (h : 0 ≤ hi) : clampS v hi = max 0 (min hi v) := by
  unfold clampS
  split
  · omega
  · split <;> omega
theorem clamp_fold {e : Ev} {hd hi : Int} (h : 0 ≤ hi) : ∀ (L : List Cl) (wo : Int), max 0 (min hi (L.foldl (comT e hd) wo)) = L.foldl (tellF e hd hi) (max 0 (min hi wo)) := by
  intro L
  induction L with
  | nil => intro wo; rfl
  | cons c L ih =>
    intro wo
    rw [List.foldl_cons, List.foldl_cons, ih]
    congr 1
    rw [tellF_hold]
    unfold comT
    split
    · cases hold c e with
      | none => rfl
      | some v => exact (clampS_eq h).symm
    · rfl
theorem tells_any {e : Ev} : ∀ (L : List Cl) (w : Int), (∀ c ∈ L, c.1 = 4 → c.2.1 = fun _ => some 1) → tellsS L e 4 1 w = if anyH L e then 1 else w := by
  intro L
  induction L with
  | nil => intro w _; rfl
  | cons c L ih =>
    intro w hL
    have e1 : tellsS (c :: L) e 4 1 w = tellsS L e 4 1 (tellF e 4 1 w c) := rfl
    have e2 : anyH (c :: L) e = ((decide (c.1 = 4) && (hold c e).isSome) || anyH L e) := rfl
    rw [e1, ih _ (fun d hd => hL d (List.mem_cons_of_mem _ hd)), e2, tellF_hold]
    by_cases h4 : c.1 = 4
    · rw [if_pos h4]
      cases hv : hold c e with
      | none => simp
      | some v =>
        have hv1 : v = 1 := by
          have := hL c List.mem_cons_self h4
          unfold hold at hv
          rw [this] at hv
          split at hv
          · exact (Option.some.inj hv).symm
          · cases hv
        subst hv1
        simp [h4, clampS]
    · rw [if_neg h4]
      simp [h4]
theorem fold_range {e : Ev} {hd hi : Int} (h : 0 ≤ hi) : ∀ (L : List Cl) (w : Int), (0 ≤ w ∧ w ≤ hi) → 0 ≤ tellsS L e hd hi w ∧ tellsS L e hd hi w ≤ hi := by
  intro L
  induction L with
  | nil => intro w hw; exact hw
  | cons c L ih =>
    intro w hw
    refine ih _ ?_
    rw [tellF_hold]
    split
    · cases hold c e with
      | none => exact hw
      | some v =>
        show 0 ≤ clampS v hi ∧ clampS v hi ≤ hi
        rw [clampS_eq h]
        omega
    · exact hw
theorem comT_b {e : Ev} (hE : EB e) {hd : Int} : ∀ (L : List Cl) (w : Int), (∀ c ∈ L, FB c.2.1) → (-1000000000 ≤ w ∧ w ≤ 1000000000) → -1000000000 ≤ L.foldl (comT e hd) w ∧ L.foldl (comT e hd) w ≤ 1000000000 := by
  intro L
  induction L with
  | nil => intro w _ hw; exact hw
  | cons c L ih =>
    intro w hL hw
    refine ih _ (fun d hd => hL d (List.mem_cons_of_mem _ hd)) ?_
    unfold comT
    split
    · cases hv : hold c e with
      | none => exact hw
      | some v =>
        unfold hold at hv
        split at hv
        · exact hL c List.mem_cons_self e hE v hv
        · cases hv
    · exact hw
theorem TxN.fb {Fz : Nat → Prop} {h : ax_H} {x a : Nat} {L : List Cl} (H : TxN Fz h x a L) : (∀ c ∈ L, FB c.2.1) ∧ ∀ c ∈ L, c.1 = 4 → c.2.1 = fun _ => some 1 := by
  obtain ⟨-, -, c, -, -, -, -, -, hcl⟩ := H
  refine ⟨fun u hu => ?_, fun u hu h4 => ?_⟩
  · obtain ⟨k, hk⟩ := List.mem_iff_getElem?.mp hu
    obtain ⟨b, -, -, -, -, -, hs, -⟩ := hcl k u hk
    rcases hs with ⟨-, -, hF⟩ | ⟨-, s, -, hF⟩
    · rw [hF]
      intro e he v hv
      cases hv
      omega
    · exact hF.fb _ _ _
  · obtain ⟨k, hk⟩ := List.mem_iff_getElem?.mp hu
    obtain ⟨b, -, -, -, -, -, hs, -⟩ := hcl k u hk
    rcases hs with ⟨-, -, hF⟩ | ⟨n, -⟩
    · exact hF
    · exact absurd h4 n
