/-! The model is born, cell by cell -/
set_option maxRecDepth 100000
def mdI : Nat → Nat := fun o => [0, 1, 2, 3, 4, 5, 7, 9, 10, 13, 14, 15, 24, 25, 26, 27, 29, 30, 31, 32, 33, 35, 36, 40, 41, 42, 45, 46, 55, 56, 57, 58].getD o 0
theorem mdI_F {k : Nat} (h : mdF k ≠ 0) : mdI (mdF k) = k := by
  unfold mdF at *
  split at h <;> first | rfl | exact absurd rfl h
def mdRn (m r o k : Nat) : Option Nat := if o = 0 then (if mdF k = 0 ∨ r ≤ mdF k then none else some (m + mdF k)) else none
/-- the model with n cells, of which r are known -/
def cm (m n r : Nat) (s : Sg) (c : Nat) (h : ax_H) : ax_H := (m + n, c, fun a => if m ≤ a ∧ a < m + n then some (mdT (a - m), mdL (a - m), (fun k : Nat => s (a - m) (k : Int)), mdRn m r (a - m)) else h.2.2 a)
section
variable {E : ax_E} {m n r c : Nat} {s : Sg} {h : ax_H}
theorem cm_at {o : Nat} (ho : o < n) : (cm m n r s c h).2.2 (m + o) = some (mdT o, mdL o, (fun k : Nat => s o (k : Int)), mdRn m r o) := by
  show (if m ≤ m + o ∧ m + o < m + n then some (mdT (m + o - m), mdL (m + o - m), (fun k : Nat => s (m + o - m) (k : Int)), mdRn m r (m + o - m)) else h.2.2 (m + o)) = _
  rw [if_pos (by omega), Nat.add_sub_cancel_left]
theorem cm_out {a : Nat} (ho : a < m ∨ m + n ≤ a) : (cm m n r s c h).2.2 a = h.2.2 a := if_neg (by omega)
theorem cm_ext {n' r' c' : Nat} {s' : Sg} {f : Nat → Option ax_C} (e1 : n = n') (e2 : c = c') (e3 : ∀ a, (cm m n r s c h).2.2 a = f a) : (m + n', c', f) = cm m n r s c h := by
  subst e1 e2
  have : f = (cm m n r s c h).2.2 := funext fun a => (e3 a).symm
  rw [this]
  rfl
theorem cm_0 (hm : h.1 = m) {t : Nat} (z : ∀ k : Nat, s 0 k = 0) : nwH h 5 0 t = cm m 1 1 s (h.2.1 + t) h := by
  subst hm
  refine cm_ext (n' := 1) (r' := 1) (s' := s) rfl rfl (fun a => ?_)
  by_cases e : a = h.1
  · subst e
    show (if h.1 ≤ h.1 ∧ h.1 < h.1 + 1 then some (mdT (h.1 - h.1), mdL (h.1 - h.1), (fun k : Nat => s (h.1 - h.1) (k : Int)), mdRn h.1 1 (h.1 - h.1)) else h.2.2 h.1) = va_up h.2.2 h.1 (some (5, 0, (fun _ => 0), (fun _ => none))) h.1
    rw [if_pos ⟨Nat.le_refl _, Nat.lt_succ_self _⟩, Nat.sub_self]
    unfold va_up
    rw [if_pos rfl]
    have z1 : (fun k : Nat => s 0 (k : Int)) = fun _ => 0 := funext z
    have z2 : mdRn h.1 1 0 = fun _ => none := by
      funext k
      unfold mdRn
      rw [if_pos rfl]
      by_cases c : mdF k = 0
      · rw [if_pos (Or.inl c)]
      · rw [if_pos (Or.inr (by omega))]
    rw [z1, z2]
    rfl
  · rw [cm_out (by omega)]
    exact (va_up_ne _ _ e).symm
/-- one more cell -/
theorem cm_na {d d' t L : Nat} {i : Int} (n0 : 0 < n) (eT : mdT n = t) (eL : mdL n = L) (hi : i = (L : Int)) (hl : L ≤ 65536) (z : ∀ k : Nat, s n k = 0) (r1 : m + 32 ≤ E.1.1) (hn : n < 32) (r2 : c + 23000 ≤ E.1.2) (hd : d + L = d') (hd' : d' ≤ 23000) : ax_na E (cm m n r s (c + d) h) t i = some (m + n, cm m (n + 1) r s (c + d') h) := by
  subst hi
  rw [f_na (by omega) (by omega) (by show m + n + 1 ≤ _; omega) (by show c + d + (L : Int).toNat ≤ _; rw [Int.toNat_natCast]; omega), Int.toNat_natCast]
  refine congrArg some (Prod.ext rfl ?_)
  refine cm_ext (n' := n + 1) (r' := r) (s' := s) rfl (by show c + d' = c + d + L; omega) (fun a => ?_)
  show _ = va_up (cm m n r s (c + d) h).2.2 (m + n) (some (t, L, (fun _ => 0), (fun _ => none))) a
  by_cases e : a = m + n
  · subst e
    rw [cm_at (Nat.lt_succ_self n)]
    unfold va_up
    rw [if_pos rfl]
    have z1 : (fun k : Nat => s n (k : Int)) = fun _ => 0 := funext z
    have z2 : mdRn m r n = fun _ => none := by
      funext k
      unfold mdRn
      rw [if_neg (by omega)]
    rw [z1, z2, eT, eL]
  · rw [va_up_ne _ _ e]
    by_cases b : m ≤ a ∧ a < m + n
    · obtain ⟨o, rfl⟩ : ∃ o, a = m + o := ⟨a - m, by omega⟩
      rw [cm_at (by omega), cm_at (by omega)]
    · rw [cm_out (by omega), cm_out (by omega)]
/-- a cell is set -/
theorem cm_set {o : Nat} {f : Nat → Int} {R : Nat → Option Nat} {r' : Nat} {s' : Sg} (ho : o < n) (e1 : ∀ p, p < n → (fun k : Nat => s' p (k : Int)) = if p = o then f else fun k : Nat => s p (k : Int)) (e2 : ∀ p, p < n → mdRn m r' p = if p = o then R else mdRn m r p) : ax_set (cm m n r s c h) (m + o) (mdT o, mdL o, f, R) = cm m n r' s' c h := by
  refine cm_ext (n' := n) (r' := r') (s' := s') rfl rfl (fun a => ?_)
  show _ = va_up (cm m n r s c h).2.2 (m + o) (some (mdT o, mdL o, f, R)) a
  by_cases b : m ≤ a ∧ a < m + n
  · obtain ⟨p, rfl⟩ : ∃ p, a = m + p := ⟨a - m, by omega⟩
    rw [cm_at (by omega), e1 p (by omega), e2 p (by omega)]
    by_cases e : p = o
    · subst e
      rw [if_pos rfl, if_pos rfl]
      unfold va_up
      rw [if_pos rfl]
    · rw [if_neg e, if_neg e, va_up_ne _ _ (by omega), cm_at (by omega)]
  · rw [cm_out (by omega), va_up_ne _ _ (by omega), cm_out (by omega)]
theorem cm_wc {o t : Nat} (ho : o < n) (eT : mdT o = t) : ax_wc (cm m n r s c h) (some (m + o)) t = some (m + o, (mdT o, mdL o, (fun k : Nat => s o (k : Int)), mdRn m r o)) := by
  simp only [ax_wc]
  rw [cm_at ho]
  exact if_pos eT
/-- a field of the model is set -/
theorem cm_pR {k : Nat} (n0 : 0 < n) (r0 : 0 < r) (hk : mdF k = r) : ax_pR (cm m n r s c h) (some m) 5 k (some (m + r)) = some (cm m n (r + 1) s c h) := by
  unfold ax_pR
  have e := cm_wc (m := m) (n := n) (r := r) (s := s) (c := c) (h := h) (o := 0) (t := 5) n0 rfl
  rw [Nat.add_zero] at e
  rw [e]
  refine congrArg some ?_
  have e2 := cm_set (m := m) (n := n) (r := r) (s := s) (c := c) (h := h) (o := 0) (f := fun k => s 0 (k : Int)) (R := va_up (mdRn m r 0) k (some (m + r))) (r' := r + 1) (s' := s) n0 (fun p _ => ?_) (fun p _ => ?_)
  · rw [Nat.add_zero] at e2
    exact e2
  · by_cases a : p = 0
    · subst a
      rw [if_pos rfl]
    · rw [if_neg a]
  · by_cases a : p = 0
    · subst a
      rw [if_pos rfl]
      funext j
      unfold va_up mdRn
      rw [if_pos rfl]
      by_cases b : j = k
      · subst b
        rw [if_pos rfl, if_neg (by omega), hk]
      · rw [if_neg b, if_pos rfl]
        by_cases d : mdF j = 0 ∨ r ≤ mdF j
        · rw [if_pos d]
          by_cases d0 : mdF j = 0
          · rw [if_pos (Or.inl d0)]
          · rw [if_pos (Or.inr ?_)]
            have : mdF j ≠ r := by
              intro q
              have w1 := mdI_F d0
              have w2 := mdI_F (k := k) (by omega)
              rw [q] at w1
              rw [hk] at w2
              exact b (w1.symm.trans w2)
            omega
        · rw [if_neg d, if_neg (by omega)]
    · rw [if_neg a]
      funext j
      unfold mdRn
      rw [if_neg a, if_neg a]
theorem cm_row {o : Nat} {f : Rw} {p : Nat} : (fun k : Nat => sw s o f p (k : Int)) = if p = o then (fun k : Nat => f (k : Int)) else fun k : Nat => s p (k : Int) := by
  by_cases a : p = o
  · subst a
    rw [if_pos rfl, sw_eq]
  · rw [if_neg a, sw_ne _ a]
theorem cm_up {f : Rw} {k : Nat} {v : Int} : va_up (fun k : Nat => f (k : Int)) k v = fun j : Nat => u1 f (k : Int) v (j : Int) := by
  funext j
  unfold va_up u1
  by_cases a : j = k
  · rw [if_pos a, if_pos (by omega)]
  · rw [if_neg a, if_neg (by omega)]
theorem cm_pI {k : Nat} {v : Int} (n0 : 0 < n) : ax_pI (cm m n r s c h) (some m) 5 k v = some (cm m n r (sw s 0 (u1 (s 0) (k : Int) v)) c h) := by
  unfold ax_pI
  have e := cm_wc (m := m) (n := n) (r := r) (s := s) (c := c) (h := h) (o := 0) (t := 5) n0 rfl
  rw [Nat.add_zero] at e
  rw [e]
  refine congrArg some ?_
  have e2 := cm_set (m := m) (n := n) (r := r) (s := s) (c := c) (h := h) (o := 0) (f := va_up (fun k : Nat => s 0 (k : Int)) k v) (R := mdRn m r 0) (r' := r) (s' := sw s 0 (u1 (s 0) (k : Int) v)) n0 (fun p _ => ?_) (fun p _ => ?_)
  · rw [Nat.add_zero] at e2
    exact e2
  · rw [cm_row, cm_up]
  · by_cases a : p = 0
    · subst a
      rw [if_pos rfl]
    · rw [if_neg a]
theorem cm_sto {o t j : Nat} {i v : Int} (ho : o < n) (eT : mdT o = t) (hi : i = (j : Int)) (hj : j < mdL o) (hl : mdL o ≤ 65536) : ax_sto (cm m n r s c h) (some (m + o)) t i v = some (cm m n r (sw s o (u1 (s o) (j : Int) v)) c h) := by
  subst hi
  unfold ax_sto
  rw [cm_wc ho eT, Option.bind_some, i2_of (by omega) (by omega), if_pos ⟨by omega, by show (j : Int) < (mdL o : Nat); omega⟩, Int.toNat_natCast]
  refine congrArg some ?_
  refine cm_set (r' := r) ho (fun p _ => ?_) (fun p _ => ?_)
  · rw [cm_row, cm_up]
  · by_cases a : p = o
    · subst a
      rw [if_pos rfl]
    · rw [if_neg a]
theorem cm_gR {k q : Nat} (n0 : 0 < n) (hk : mdF k = q) (q0 : 0 < q) (q1 : q < r) : ax_gR E (cm m n r s c h) (some m) 5 k = some (some (m + q)) := by
  unfold ax_gR ax_ce ax_rd
  have e := cm_at (m := m) (n := n) (r := r) (s := s) (c := c) (h := h) (o := 0) n0
  rw [Nat.add_zero] at e
  simp only [e]
  show some (mdRn m r 0 k) = _
  unfold mdRn
  rw [if_pos rfl, if_neg (by omega), hk]
end
/-- the words so far -/
def wd (j : Nat) : Rw := fun k => if 0 ≤ k ∧ k < j then wrd.getD k.toNat 0 else 0
def S0 : Sg := sw (fun _ _ => 0) 6 (wd 0)
theorem cm_wd {m c j : Nat} {i v : Int} {h : ax_H} (hi : i = (j : Int)) (hj : j < 147) (hv : v = wrd.getD j 0) : ax_sto (cm m 7 6 (sw (fun _ _ => 0) 6 (wd j)) c h) (some (m + 6)) 101 i v = some (cm m 7 6 (sw (fun _ _ => 0) 6 (wd (j + 1))) c h) := by
  rw [cm_sto (o := 6) (t := 101) (j := j) (by decide) rfl hi hj (by decide), sw_sw, sw_eq]
  refine congrArg (fun f => some (cm m 7 6 (sw (fun _ _ => 0) 6 f) c h)) ?_
  funext k
  unfold u1 wd
  by_cases a : k = (j : Int)
  · subst a
    rw [if_pos rfl, if_pos (by omega), Int.toNat_natCast, hv]
  · rw [if_neg a]
    by_cases b : 0 ≤ k ∧ k < j
    · rw [if_pos b, if_pos (by omega)]
    · rw [if_neg b, if_neg (by omega)]
theorem b_st {α β : Type} {x : Option α} {a : α} {f : α → Option β} {w : Option β} (e : x = some a) (k : f a = w) : x.bind f = w := by
  subst e
  exact k
