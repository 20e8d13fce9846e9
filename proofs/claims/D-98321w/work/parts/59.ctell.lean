/-! THE COMPONENT: what texts tell, against what is meant -/
set_option maxRecDepth 100000
/-- what is asked of, its numbers -/
def AskN (h : ax_H) (q : Nat) (e : Ev) : Prop := hT h q = 3 ∧ ∃ qn, qn ≠ q ∧ hR h q 0 = some qn ∧ hT h qn = 103 ∧ hL h qn = 10 ∧ ∀ k : Nat, k < 10 → hI h qn k = e.1 k
theorem AskN.scr {h h' : ax_H} {q : Nat} {e : Ev} (H : AskN h q e) (S : Scr q h h') : AskN h' q e := by
  obtain ⟨t, qn, n, r, tn, ln, cn⟩ := H
  obtain ⟨-, -, s3, s4, s5, s6, s7⟩ := S
  have e2 := hC_eq ((s3 qn n).2 (by omega))
  refine ⟨s4.trans t, qn, n, (s6 0).trans r, ?_, ?_, ?_⟩
  · unfold hT at tn ⊢; rw [e2]; exact tn
  · unfold hL at ln ⊢; rw [e2]; exact ln
  · unfold hI at cn ⊢; rw [e2]; exact cn
theorem AskN.ask {E : ax_E} {x : Nat} {h : ax_H} {q : Nat} {e : Ev} (H : AskN h q e) : AskE 0 E (wI h q 1 0) x q e := by
  obtain ⟨t, qn, n, r, tn, ln, cn⟩ := H.scr (Scr.broken q h 0)
  exact ⟨t, hI_wI_eq, ⟨qn, r, tn, ln, fun k hk _ => cn k hk⟩, fun h => absurd rfl h, fun h => absurd rfl h⟩
theorem Scr.fz {q : Nat} {h h' : ax_H} {Fz : Nat → Prop} (S : Scr q h h') (hq : ¬ Fz q) : ∀ b, Fz b → Fz b ∧ eqT (hC h b) (hC h' b) := fun b hb => ⟨hb, (S.2.2.1 b (fun e => hq (e ▸ hb))).1⟩
/-- kept from omega's eyes -/
def Hid (p : Prop) : Prop := p
theorem Hid.out {p : Prop} (h : Hid p) : p := h
def anyH (L : List Cl) (e : Ev) : Bool := L.any (fun c => decide (c.1 = 4) && (hold c e).isSome)
def comT (e : Ev) (hd told : Int) (c : Cl) : Int := if c.1 = hd then (match hold c e with
  | some v => v
  | none => told) else told
theorem anyH_snoc (L : List Cl) (c : Cl) (e : Ev) : anyH (L ++ [c]) e = (anyH L e || (decide (c.1 = 4) && (hold c e).isSome)) := by
  unfold anyH
  simp
theorem take_snoc {α : Type} {L : List α} {k : Nat} {c : α} (h : L[k]? = some c) : L.take (k + 1) = L.take k ++ [c] := by
  rw [List.take_succ, h]
  rfl
section
variable {E : ax_E} {h : ax_H} {x q : Nat} {e : Ev} {Fz : Nat → Prop}
theorem c_has {t : Nat} {L : List Cl} (H : TxN Fz h x t L) (hA : AskN h q e) (hE : EB e) (hq : ¬ Fz q) : ∃ h', f_X4_has E (some t) 3 (some q) h = some (if anyH L e then 1 else 0, h') ∧ Scr q h h' := by
  have main := it_up (body := fun s : Int × ax_H => lb_X4_has_2 E (some t) 3 (some q) s.1 s.2) L.length (fun k s => s.1 = (k : Int) ∧ anyH (L.take k) e = false ∧ Scr q h s.2) (fun r => r.1 = (if anyH L e then 1 else 0) ∧ Scr q h r.2) ?_ ?_ (s := (0, h)) ⟨rfl, rfl, Scr.refl q h⟩
  · obtain ⟨⟨v, h'⟩, e1, e2, e3⟩ := main
    refine ⟨h', ?_, e3⟩
    unfold f_X4_has f_X4_has_2
    rw [e1]
    simp only at e2
    rw [e2]
  · rintro k ⟨i, g⟩ hk ⟨rfl, hany, S⟩
    obtain ⟨hz, tt, c, r, hc, tc, lc, l12, hcl⟩ := H.fr (S.fz hq)
    obtain ⟨u, hu⟩ : ∃ u, L[k]? = some u := ⟨L[k], List.getElem?_eq_getElem hk⟩
    obtain ⟨b, rb, Hb⟩ := hcl k u hu
    have Hb0 := Hb
    obtain ⟨hzb, tb, ib, cb, -, -⟩ := Hb
    have hlen : i2 ((L.length : Nat) : Int) = L.length := i2_of (by omega) (by omega)
    simp only [lb_X4_has_2]
    rw [f_gR tt (by decide), r, Option.bind_some, f_len tc (by decide), Option.bind_some, lc, hlen, i2_of (by omega) (by omega), if_pos (by omega)]
    simp only [f_gR tt (by decide), r, Option.bind_some]
    rw [f_ldR tc (by decide) (by omega) (by omega) (by omega), Int.toNat_natCast, rb, Option.bind_some, f_gI tb (by decide), Option.bind_some, ib, i2_of (by omega) (by omega)]
    rw [show i2 3 = 3 by decide]
    by_cases h4 : u.1 = 4
    · rw [if_pos (by omega)]
      rw [Option.bind_some, f_ce tb (by decide), Option.bind_some]
      obtain ⟨g1, e1, e2, -⟩ := c_holds (E := E) (x := x) ((hA.scr S).ask) hE hq Hb0
      rw [e1, Option.bind_some]
      cases hv : hold u e with
      | none =>
        show ∃ w, (if i2 0 = 0 then _ else _) = some w ∧ _
        rw [if_pos i2_0]
        refine ⟨_, rfl, ?_, ?_, S.trans e2⟩
        · simp
        · rw [take_snoc hu, anyH_snoc, hany, hv]
          simp
      | some v =>
        show ∃ w, (if i2 1 = 0 then _ else _) = some w ∧ _
        rw [if_neg (by decide)]
        refine ⟨_, rfl, ?_, S.trans e2⟩
        have ha : anyH L e = true := by
          unfold anyH
          rw [List.any_eq_true]
          exact ⟨u, List.mem_of_getElem? hu, by simp [h4, hv]⟩
        rw [ha]
        rfl
    · rw [if_neg (by omega)]
      refine ⟨_, rfl, ?_, ?_, S⟩
      · simp
      · rw [take_snoc hu, anyH_snoc, hany]
        simp [h4]
  · rintro ⟨i, g⟩ ⟨rfl, hany, S⟩
    obtain ⟨hz, tt, c, r, hc, tc, lc, l12, hcl⟩ := H.fr (S.fz hq)
    have hlen : i2 ((L.length : Nat) : Int) = L.length := i2_of (by omega) (by omega)
    simp only [lb_X4_has_2]
    rw [f_gR tt (by decide), r, Option.bind_some, f_len tc (by decide), Option.bind_some, lc, hlen, if_neg (by omega)]
    rw [List.take_length] at hany
    refine ⟨_, rfl, ?_, S⟩
    rw [hany]
    rfl
end
