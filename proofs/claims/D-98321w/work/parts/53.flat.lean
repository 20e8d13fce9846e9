/-! THE COMPONENT's heap, flat: of an address the tag, the length, the numbers, the references -/
set_option maxRecDepth 100000
def hC (h : ax_H) (a : Nat) : ax_C := (h.2.2 a).getD (999, 0, (fun _ => 0), (fun _ => none))
def hT (h : ax_H) (a : Nat) : Nat := (hC h a).1
def hL (h : ax_H) (a : Nat) : Nat := (hC h a).2.1
def hI (h : ax_H) (a k : Nat) : Int := (hC h a).2.2.1 k
def hR (h : ax_H) (a k : Nat) : Option Nat := (hC h a).2.2.2 k
def wI (h : ax_H) (a k : Nat) (v : Int) : ax_H := ax_set h a ((hC h a).1, (hC h a).2.1, va_up (hC h a).2.2.1 k v, (hC h a).2.2.2)
def wR (h : ax_H) (a k : Nat) (r : Option Nat) : ax_H := ax_set h a ((hC h a).1, (hC h a).2.1, (hC h a).2.2.1, va_up (hC h a).2.2.2 k r)
def nwH (h : ax_H) (t n sl : Nat) : ax_H := (h.1 + 1, h.2.1 + sl, va_up h.2.2 h.1 (some (t, n, (fun _ => 0), (fun _ => none))))
def cpH (h : ax_H) (a d sp dp n : Nat) : ax_H := ax_set h d ((hC h d).1, (hC h d).2.1, va_cpy (hC h a).2.2.1 (hC h d).2.2.1 sp dp n, va_cpy (hC h a).2.2.2 (hC h d).2.2.2 sp dp n)
section
variable {E : ax_E} {h : ax_H} {a b d t k j n : Nat} {v i : Int} {r : Option Nat}
theorem hC_set (h : ax_H) (a b : Nat) (c : ax_C) : hC (ax_set h a c) b = if b = a then c else hC h b := by
  unfold hC ax_set va_up
  by_cases e : b = a
  · simp [e]
  · simp [e]
theorem hT_wI : hT (wI h a k v) b = hT h b := by
  unfold hT wI
  rw [hC_set]
  split
  · rename_i e; rw [e]
  · rfl
theorem hL_wI : hL (wI h a k v) b = hL h b := by
  unfold hL wI
  rw [hC_set]
  split
  · rename_i e; rw [e]
  · rfl
theorem hR_wI : hR (wI h a k v) b j = hR h b j := by
  unfold hR wI
  rw [hC_set]
  split
  · rename_i e; rw [e]
  · rfl
theorem hI_wI : hI (wI h a k v) b j = if b = a ∧ j = k then v else hI h b j := by
  unfold hI wI
  rw [hC_set]
  by_cases e : b = a
  · subst e
    by_cases e2 : j = k
    · simp [e2, va_up]
    · simp [e2, va_up]
  · simp [e]
theorem hI_wI_eq : hI (wI h a k v) a k = v := by rw [hI_wI, if_pos ⟨rfl, rfl⟩]
theorem hI_wI_ne (e : b ≠ a ∨ j ≠ k) : hI (wI h a k v) b j = hI h b j := by rw [hI_wI, if_neg (by omega)]
theorem hT_wR : hT (wR h a k r) b = hT h b := by
  unfold hT wR
  rw [hC_set]
  split
  · rename_i e; rw [e]
  · rfl
theorem hL_wR : hL (wR h a k r) b = hL h b := by
  unfold hL wR
  rw [hC_set]
  split
  · rename_i e; rw [e]
  · rfl
theorem hI_wR : hI (wR h a k r) b j = hI h b j := by
  unfold hI wR
  rw [hC_set]
  split
  · rename_i e; rw [e]
  · rfl
theorem hR_wR : hR (wR h a k r) b j = if b = a ∧ j = k then r else hR h b j := by
  unfold hR wR
  rw [hC_set]
  by_cases e : b = a
  · subst e
    by_cases e2 : j = k
    · simp [e2, va_up]
    · simp [e2, va_up]
  · simp [e]
theorem hR_wR_eq : hR (wR h a k r) a k = r := by rw [hR_wR, if_pos ⟨rfl, rfl⟩]
theorem hR_wR_ne (e : b ≠ a ∨ j ≠ k) : hR (wR h a k r) b j = hR h b j := by rw [hR_wR, if_neg (by omega)]
theorem hC_wI_ne (e : b ≠ a) : (wI h a k v).2.2 b = h.2.2 b := va_up_ne _ _ e
theorem hC_wR_ne (e : b ≠ a) : (wR h a k r).2.2 b = h.2.2 b := va_up_ne _ _ e
theorem wI_1 : (wI h a k v).1 = h.1 := rfl
theorem wI_2 : (wI h a k v).2.1 = h.2.1 := rfl
theorem wR_1 : (wR h a k r).1 = h.1 := rfl
theorem wR_2 : (wR h a k r).2.1 = h.2.1 := rfl
theorem nw_1 : (nwH h t n k).1 = h.1 + 1 := rfl
theorem nw_2 : (nwH h t n k).2.1 = h.2.1 + k := rfl
theorem hC_nw : hC (nwH h t n k) b = if b = h.1 then (t, n, (fun _ => 0), (fun _ => none)) else hC h b := by
  unfold hC nwH va_up
  by_cases e : b = h.1
  · simp [e]
  · simp [e]
theorem hC_nw_ne (e : b ≠ h.1) : (nwH h t n k).2.2 b = h.2.2 b := va_up_ne _ _ e
theorem hT_nw : hT (nwH h t n k) b = if b = h.1 then t else hT h b := by unfold hT; rw [hC_nw]; split <;> rfl
theorem hL_nw : hL (nwH h t n k) b = if b = h.1 then n else hL h b := by unfold hL; rw [hC_nw]; split <;> rfl
theorem hI_nw : hI (nwH h t n k) b j = if b = h.1 then 0 else hI h b j := by unfold hI; rw [hC_nw]; split <;> rfl
theorem hR_nw : hR (nwH h t n k) b j = if b = h.1 then none else hR h b j := by unfold hR; rw [hC_nw]; split <;> rfl
theorem hT_nw_eq : hT (nwH h t n k) h.1 = t := by rw [hT_nw, if_pos rfl]
theorem hL_nw_eq : hL (nwH h t n k) h.1 = n := by rw [hL_nw, if_pos rfl]
theorem hI_nw_eq : hI (nwH h t n k) h.1 j = 0 := by rw [hI_nw, if_pos rfl]
theorem hR_nw_eq : hR (nwH h t n k) h.1 j = none := by rw [hR_nw, if_pos rfl]
theorem hT_nw_ne (e : b ≠ h.1) : hT (nwH h t n k) b = hT h b := by rw [hT_nw, if_neg e]
theorem hL_nw_ne (e : b ≠ h.1) : hL (nwH h t n k) b = hL h b := by rw [hL_nw, if_neg e]
theorem hI_nw_ne (e : b ≠ h.1) : hI (nwH h t n k) b j = hI h b j := by rw [hI_nw, if_neg e]
theorem hR_nw_ne (e : b ≠ h.1) : hR (nwH h t n k) b j = hR h b j := by rw [hR_nw, if_neg e]
theorem cp_1 {sp dp : Nat} : (cpH h a d sp dp n).1 = h.1 := rfl
theorem cp_2 {sp dp : Nat} : (cpH h a d sp dp n).2.1 = h.2.1 := rfl
theorem hC_cp_ne {sp dp : Nat} (e : b ≠ d) : (cpH h a d sp dp n).2.2 b = h.2.2 b := va_up_ne _ _ e
theorem hT_cp {sp dp : Nat} : hT (cpH h a d sp dp n) b = hT h b := by
  unfold hT cpH
  rw [hC_set]
  split
  · rename_i e; rw [e]
  · rfl
theorem hL_cp {sp dp : Nat} : hL (cpH h a d sp dp n) b = hL h b := by
  unfold hL cpH
  rw [hC_set]
  split
  · rename_i e; rw [e]
  · rfl
theorem hI_cp {sp dp : Nat} : hI (cpH h a d sp dp n) b j = if b = d ∧ dp ≤ j ∧ j < dp + n then hI h a (sp + (j - dp)) else hI h b j := by
  unfold hI cpH
  rw [hC_set]
  by_cases e : b = d
  · subst e
    by_cases e2 : dp ≤ j ∧ j < dp + n
    · simp [e2, va_cpy]
    · simp [e2, va_cpy]
  · simp [e]
theorem hR_cp {sp dp : Nat} : hR (cpH h a d sp dp n) b j = if b = d ∧ dp ≤ j ∧ j < dp + n then hR h a (sp + (j - dp)) else hR h b j := by
  unfold hR cpH
  rw [hC_set]
  by_cases e : b = d
  · subst e
    by_cases e2 : dp ≤ j ∧ j < dp + n
    · simp [e2, va_cpy]
    · simp [e2, va_cpy]
  · simp [e]
theorem hI_cp_ne {sp dp : Nat} (e : b ≠ d) : hI (cpH h a d sp dp n) b j = hI h b j := by rw [hI_cp, if_neg (by omega)]
theorem hR_cp_ne {sp dp : Nat} (e : b ≠ d) : hR (cpH h a d sp dp n) b j = hR h b j := by rw [hR_cp, if_neg (by omega)]
theorem h_some (e : hT h a ≠ 999) : h.2.2 a = some (hC h a) := by
  unfold hT hC at *
  cases e2 : h.2.2 a with
  | none => rw [e2] at e; exact absurd rfl e
  | some c => rfl
theorem hC_of {c : ax_C} (e : h.2.2 a = some c) : hC h a = c := by
  unfold hC
  rw [e]
  rfl
theorem hC_eq {h' : ax_H} (e : h'.2.2 a = h.2.2 a) : hC h' a = hC h a := by
  unfold hC
  rw [e]
theorem f_rd (e : hT h a ≠ 999) : ax_rd E h a = some (hC h a) := by
  unfold ax_rd
  rw [h_some e]
theorem f_ce (e : hT h a = t) (e9 : t ≠ 999) : ax_ce E h (some a) t = some (hC h a) := by
  simp only [ax_ce, f_rd (by omega : hT h a ≠ 999)]
  exact if_pos e
theorem f_wc (e : hT h a = t) (e9 : t ≠ 999) : ax_wc h (some a) t = some (a, hC h a) := by
  simp only [ax_wc, h_some (by omega : hT h a ≠ 999)]
  exact if_pos e
theorem f_gI (e : hT h a = t) (e9 : t ≠ 999) : ax_gI E h (some a) t k = some (hI h a k) := by
  unfold ax_gI
  rw [f_ce e e9]
  rfl
theorem f_gR (e : hT h a = t) (e9 : t ≠ 999) : ax_gR E h (some a) t k = some (hR h a k) := by
  unfold ax_gR
  rw [f_ce e e9]
  rfl
theorem f_pI (e : hT h a = t) (e9 : t ≠ 999) : ax_pI h (some a) t k v = some (wI h a k v) := by
  unfold ax_pI
  rw [f_wc e e9]
  rfl
theorem f_pR (e : hT h a = t) (e9 : t ≠ 999) : ax_pR h (some a) t k r = some (wR h a k r) := by
  unfold ax_pR
  rw [f_wc e e9]
  rfl
theorem f_len (e : hT h a = t) (e9 : t ≠ 999) : ax_len E h (some a) t = some ((hL h a : Nat) : Int) := by
  unfold ax_len
  rw [f_ce e e9]
  rfl
theorem f_ld (e : hT h a = t) (e9 : t ≠ 999) (h0 : 0 ≤ i) (h1 : i < hL h a) (h2 : hL h a ≤ 65536) : ax_ld E h (some a) t i = some (hI h a i.toNat) := by
  unfold ax_ld
  rw [f_ce e e9, Option.bind_some, i2_of (by omega) (by omega)]
  exact if_pos ⟨h0, h1⟩
theorem f_ldR (e : hT h a = t) (e9 : t ≠ 999) (h0 : 0 ≤ i) (h1 : i < hL h a) (h2 : hL h a ≤ 65536) : ax_ldR E h (some a) t i = some (hR h a i.toNat) := by
  unfold ax_ldR
  rw [f_ce e e9, Option.bind_some, i2_of (by omega) (by omega)]
  exact if_pos ⟨h0, h1⟩
theorem f_sto (e : hT h a = t) (e9 : t ≠ 999) (h0 : 0 ≤ i) (h1 : i < hL h a) (h2 : hL h a ≤ 65536) : ax_sto h (some a) t i v = some (wI h a i.toNat v) := by
  unfold ax_sto
  rw [f_wc e e9, Option.bind_some, i2_of (by omega) (by omega)]
  exact if_pos ⟨h0, h1⟩
theorem f_stR {ok : Nat → Bool} (e : hT h a = t) (e9 : t ≠ 999) (h0 : 0 ≤ i) (h1 : i < hL h a) (h2 : hL h a ≤ 65536) (e3 : hT h b ≠ 999) (e4 : ok (hT h b) = true) : ax_stR E ok h (some a) t i (some b) = some (wR h a i.toNat (some b)) := by
  unfold ax_stR
  rw [f_wc e e9, Option.bind_some, i2_of (by omega) (by omega), if_pos (by exact ⟨h0, h1⟩)]
  simp only [f_rd e3, Option.bind_some]
  exact if_pos ⟨e4, Or.inr (by rw [h_some e3]; rfl)⟩
theorem f_stR0 {ok : Nat → Bool} (e : hT h a = t) (e9 : t ≠ 999) (h0 : 0 ≤ i) (h1 : i < hL h a) (h2 : hL h a ≤ 65536) : ax_stR E ok h (some a) t i none = some (wR h a i.toNat none) := by
  unfold ax_stR
  rw [f_wc e e9, Option.bind_some, i2_of (by omega) (by omega), if_pos (by exact ⟨h0, h1⟩)]
  rfl
theorem f_nw (e1 : h.1 + 1 ≤ E.1.1) (e2 : h.2.1 + k ≤ E.1.2) : ax_nw E h t n k = some (h.1, nwH h t n k) := if_pos ⟨e1, e2⟩
theorem f_na (h0 : 0 ≤ i) (h1 : i ≤ 65536) (e1 : h.1 + 1 ≤ E.1.1) (e2 : h.2.1 + i.toNat ≤ E.1.2) : ax_na E h t i = some (h.1, nwH h t i.toNat i.toNat) := by
  unfold ax_na
  rw [i2_of (by omega) (by omega), if_pos ⟨h0, h1⟩, f_nw e1 e2]
theorem f_cp {P : ax_C → Nat → Prop} {sp dp m : Int} (e1 : hT h a = t) (e2 : hT h d = t) (e9 : t ≠ 999) (l1 : hL h a ≤ 65536) (l2 : hL h d ≤ 65536) (h0 : 0 ≤ sp) (h1 : 0 ≤ dp) (h2 : 0 ≤ m) (h3 : sp + m ≤ hL h a) (h4 : dp + m ≤ hL h d) (hP : ∀ i : Nat, i < m.toNat → P (hC h a) (sp.toNat + i)) : ax_cp E h P (some a) t sp (some d) dp m = some (cpH h a d sp.toNat dp.toNat m.toNat) := by
  unfold ax_cp
  rw [f_ce e1 e9, f_wc e2 e9, Option.bind_some, Option.bind_some]
  have i1 : i2 sp = sp := i2_of (by omega) (by omega)
  have i3 : i2 dp = dp := i2_of (by omega) (by omega)
  have i4 : i2 m = m := i2_of (by omega) (by omega)
  have hc : (0 ≤ sp ∧ 0 ≤ dp ∧ 0 ≤ m ∧ sp + m ≤ (((hC h a).2.1 : Nat) : Int) ∧ dp + m ≤ ((((d, hC h d) : Nat × ax_C).2.2.1 : Nat) : Int)) ∧ ∀ i : Nat, i < m.toNat → P (hC h a) (sp.toNat + i) := ⟨⟨h0, h1, h2, h3, h4⟩, hP⟩
  split
  · rw [i1, i3, i4]
    rfl
  · rename_i hn _
    rw [i1, i3, i4] at hn
    exact absurd hc hn
theorem f_cpI {sp dp m : Int} (e1 : hT h a = t) (e2 : hT h d = t) (e9 : t ≠ 999) (l1 : hL h a ≤ 65536) (l2 : hL h d ≤ 65536) (h0 : 0 ≤ sp) (h1 : 0 ≤ dp) (h2 : 0 ≤ m) (h3 : sp + m ≤ hL h a) (h4 : dp + m ≤ hL h d) : ax_cp E h ax_anyP (some a) t sp (some d) dp m = some (cpH h a d sp.toNat dp.toNat m.toNat) := f_cp e1 e2 e9 l1 l2 h0 h1 h2 h3 h4 (fun _ _ => trivial)
theorem f_dp {β : Type} {F : Nat → Option β} (e : hT h a = t) (e9 : t ≠ 999) : ax_dp E h (some a) F = F t := by
  simp only [ax_dp, f_rd (by omega : hT h a ≠ 999)]
  exact congrArg F e
end
/-- nothing but so many cells from b on has changed -/
def On (b n : Nat) (h h' : ax_H) : Prop := h'.1 = h.1 ∧ h'.2.1 = h.2.1 ∧ ∀ a, (a < b ∨ b + n ≤ a) → h'.2.2 a = h.2.2 a
theorem On.refl (b n : Nat) (h : ax_H) : On b n h h := ⟨rfl, rfl, fun _ _ => rfl⟩
theorem On.trans {b n : Nat} {h h1 h2 : ax_H} (p : On b n h h1) (q : On b n h1 h2) : On b n h h2 := ⟨q.1.trans p.1, q.2.1.trans p.2.1, fun a ha => (q.2.2 a ha).trans (p.2.2 a ha)⟩
theorem On.mono {b n b' n' : Nat} {h h1 : ax_H} (p : On b n h h1) (l1 : b' ≤ b) (l2 : b + n ≤ b' + n') : On b' n' h h1 := ⟨p.1, p.2.1, fun a ha => p.2.2 a (by omega)⟩
theorem On.wI {b n a k : Nat} {h h1 : ax_H} {v : Int} (p : On b n h h1) (ha : b ≤ a ∧ a < b + n) : On b n h (wI h1 a k v) := ⟨p.1, p.2.1, fun q hq => (hC_wI_ne (by omega)).trans (p.2.2 q hq)⟩
theorem On.wR {b n a k : Nat} {h h1 : ax_H} {r : Option Nat} (p : On b n h h1) (ha : b ≤ a ∧ a < b + n) : On b n h (wR h1 a k r) := ⟨p.1, p.2.1, fun q hq => (hC_wR_ne (by omega)).trans (p.2.2 q hq)⟩
theorem On.cp {b n a d sp dp m : Nat} {h h1 : ax_H} (p : On b n h h1) (ha : b ≤ d ∧ d < b + n) : On b n h (cpH h1 a d sp dp m) := ⟨p.1, p.2.1, fun q hq => (hC_cp_ne (by omega)).trans (p.2.2 q hq)⟩
