/-! THE MODEL: its small methods -/
set_option maxRecDepth 100000
/-! the model's block: 32 cells from m on -/
def mdT : Nat → Nat := fun o => if o = 0 then 5 else if o = 4 then 102 else if o = 6 ∨ o = 7 then 101 else if o = 28 then 103 else 100
def mdL : Nat → Nat := fun o => match o with
  | 1 => 7
  | 2 => 5764
  | 3 => 11528
  | 4 => 2
  | 5 => 803
  | 6 => 147
  | 7 => 400
  | 8 => 5
  | 9 => 401
  | 10 => 401
  | 11 => 401
  | 12 => 10
  | 13 => 4
  | 14 => 1184
  | 15 => 1184
  | 16 => 8
  | 17 => 8
  | 18 => 8
  | 19 => 8
  | 20 => 256
  | 21 => 8
  | 22 => 8
  | 23 => 16
  | 24 => 7
  | 25 => 7
  | 26 => 49
  | 27 => 256
  | 28 => 3
  | 29 => 7
  | 30 => 7
  | 31 => 7
  | _ => 0
def mdF : Nat → Nat := fun k => match k with
  | 1 => 1
  | 2 => 2
  | 3 => 3
  | 4 => 4
  | 5 => 5
  | 7 => 6
  | 9 => 7
  | 10 => 8
  | 13 => 9
  | 14 => 10
  | 15 => 11
  | 24 => 12
  | 25 => 13
  | 26 => 14
  | 27 => 15
  | 29 => 16
  | 30 => 17
  | 31 => 18
  | 32 => 19
  | 33 => 20
  | 35 => 21
  | 36 => 22
  | 40 => 23
  | 41 => 24
  | 42 => 25
  | 45 => 26
  | 46 => 27
  | 55 => 28
  | 56 => 29
  | 57 => 30
  | 58 => 31
  | _ => 0
def mdR (m o k : Nat) : Option Nat := if o = 0 then (if mdF k = 0 then none else some (m + mdF k)) else none
def mdC (m : Nat) (s : Sg) (o : Nat) : ax_C := (mdT o, mdL o, (fun k => s o (k : Int)), mdR m o)
def mdl (m : Nat) (s : Sg) (h : ax_H) : ax_H := bk m 32 (mdC m s) h
theorem md_rd {E : ax_E} {m o : Nat} {s : Sg} {h : ax_H} (ho : o < 32) : ax_rd E (mdl m s h) (m + o) = some (mdC m s o) := by
  unfold ax_rd mdl
  rw [bk_at ho]
theorem md_cc {E : ax_E} {m o t : Nat} {s : Sg} {h : ax_H} (ho : o < 32) (ht : mdT o = t) : ax_ce E (mdl m s h) (some (m + o)) t = some (mdC m s o) := by
  simp only [ax_ce, md_rd ho]
  exact if_pos ht
theorem md_wc {m o t : Nat} {s : Sg} {h : ax_H} (ho : o < 32) (ht : mdT o = t) : ax_wc (mdl m s h) (some (m + o)) t = some (m + o, mdC m s o) := by
  simp only [ax_wc]
  unfold mdl
  rw [bk_at ho]
  exact if_pos ht
theorem md_ce {E : ax_E} {m : Nat} {s : Sg} {h : ax_H} : ax_ce E (mdl m s h) (some m) 5 = some (mdC m s 0) := md_cc (o := 0) (by decide) rfl
theorem md_up {m o : Nat} {s : Sg} {i v : Int} (hi : 0 ≤ i) : va_up (mdC m s) o ((mdC m s o).1, (mdC m s o).2.1, va_up (mdC m s o).2.2.1 i.toNat v, (mdC m s o).2.2.2) = mdC m (sw s o (u1 (s o) i v)) := by
  funext p
  unfold va_up mdC sw
  by_cases hp : p = o
  · subst hp
    simp only [if_pos]
    congr 3
    funext k
    unfold u1
    by_cases hk : k = i.toNat
    · rw [if_pos hk, if_pos (by omega)]
    · rw [if_neg hk, if_neg (by omega)]
  · simp only [if_neg hp]
theorem md_set {m o : Nat} {s : Sg} {h : ax_H} {i v : Int} (ho : o < 32) (hi : 0 ≤ i) : ax_set (mdl m s h) (m + o) ((mdC m s o).1, (mdC m s o).2.1, va_up (mdC m s o).2.2.1 i.toNat v, (mdC m s o).2.2.2) = mdl m (sw s o (u1 (s o) i v)) h := by
  unfold mdl
  rw [bk_set ho, md_up hi]
theorem md_gI {E : ax_E} {m k : Nat} {s : Sg} {h : ax_H} : ax_gI E (mdl m s h) (some m) 5 k = some (s 0 (k : Int)) := by
  unfold ax_gI
  rw [md_ce]
  rfl
theorem md_gR {E : ax_E} {m k : Nat} {s : Sg} {h : ax_H} : ax_gR E (mdl m s h) (some m) 5 k = some (mdR m 0 k) := by
  unfold ax_gR
  rw [md_ce]
  rfl
theorem md_pI {m k : Nat} {s : Sg} {h : ax_H} {v : Int} : ax_pI (mdl m s h) (some m) 5 k v = some (mdl m (sw s 0 (u1 (s 0) (k : Int) v)) h) := by
  unfold ax_pI
  have e := md_wc (m := m) (o := 0) (t := 5) (s := s) (h := h) (by decide) rfl
  rw [Nat.add_zero] at e
  rw [e]
  have e2 := md_set (m := m) (o := 0) (s := s) (h := h) (i := (k : Int)) (v := v) (by decide) (by omega)
  rw [Nat.add_zero, Int.toNat_natCast] at e2
  exact congrArg some e2
theorem md_ldo {E : ax_E} {m o t : Nat} {s : Sg} {h : ax_H} {i : Int} (ho : o < 32) (ht : mdT o = t) (hl : mdL o ≤ 65536) (h0 : 0 ≤ i) (h1 : i < mdL o) : ax_ld E (mdl m s h) (some (m + o)) t i = some (s o i) := by
  unfold ax_ld
  rw [md_cc ho ht, Option.bind_some, i2_of (by omega) (by omega)]
  show (if 0 ≤ i ∧ i < (mdL o : Int) then some (s o (i.toNat : Int)) else none) = _
  rw [if_pos ⟨h0, h1⟩, Int.toNat_of_nonneg h0]
theorem md_stoo {m o t : Nat} {s : Sg} {h : ax_H} {i v : Int} (ho : o < 32) (ht : mdT o = t) (hl : mdL o ≤ 65536) (h0 : 0 ≤ i) (h1 : i < mdL o) : ax_sto (mdl m s h) (some (m + o)) t i v = some (mdl m (sw s o (u1 (s o) i v)) h) := by
  unfold ax_sto
  rw [md_wc ho ht, Option.bind_some, i2_of (by omega) (by omega)]
  have e : 0 ≤ i ∧ i < ((m + o, mdC m s o) : Nat × ax_C).2.2.1 := ⟨h0, h1⟩
  rw [if_pos e]
  exact congrArg some (md_set ho h0)
theorem md_gI0 {E : ax_E} {m : Nat} {s : Sg} {h : ax_H} : ax_gI E (mdl m s h) (some m) 5 0 = some (s 0 0) := md_gI
theorem md_pI0 {m : Nat} {s : Sg} {h : ax_H} {v : Int} : ax_pI (mdl m s h) (some m) 5 0 v = some (mdl m (sw s 0 (u1 (s 0) 0 v)) h) := md_pI
theorem md_gR1 {E : ax_E} {m : Nat} {s : Sg} {h : ax_H} : ax_gR E (mdl m s h) (some m) 5 1 = some (some (m + 1)) := md_gR
theorem md_gR2 {E : ax_E} {m : Nat} {s : Sg} {h : ax_H} : ax_gR E (mdl m s h) (some m) 5 2 = some (some (m + 2)) := md_gR
theorem md_gR3 {E : ax_E} {m : Nat} {s : Sg} {h : ax_H} : ax_gR E (mdl m s h) (some m) 5 3 = some (some (m + 3)) := md_gR
theorem md_gR4 {E : ax_E} {m : Nat} {s : Sg} {h : ax_H} : ax_gR E (mdl m s h) (some m) 5 4 = some (some (m + 4)) := md_gR
theorem md_gR5 {E : ax_E} {m : Nat} {s : Sg} {h : ax_H} : ax_gR E (mdl m s h) (some m) 5 5 = some (some (m + 5)) := md_gR
theorem md_gI6 {E : ax_E} {m : Nat} {s : Sg} {h : ax_H} : ax_gI E (mdl m s h) (some m) 5 6 = some (s 0 6) := md_gI
theorem md_pI6 {m : Nat} {s : Sg} {h : ax_H} {v : Int} : ax_pI (mdl m s h) (some m) 5 6 v = some (mdl m (sw s 0 (u1 (s 0) 6 v)) h) := md_pI
theorem md_gR7 {E : ax_E} {m : Nat} {s : Sg} {h : ax_H} : ax_gR E (mdl m s h) (some m) 5 7 = some (some (m + 6)) := md_gR
theorem md_gI8 {E : ax_E} {m : Nat} {s : Sg} {h : ax_H} : ax_gI E (mdl m s h) (some m) 5 8 = some (s 0 8) := md_gI
theorem md_pI8 {m : Nat} {s : Sg} {h : ax_H} {v : Int} : ax_pI (mdl m s h) (some m) 5 8 v = some (mdl m (sw s 0 (u1 (s 0) 8 v)) h) := md_pI
theorem md_gR9 {E : ax_E} {m : Nat} {s : Sg} {h : ax_H} : ax_gR E (mdl m s h) (some m) 5 9 = some (some (m + 7)) := md_gR
theorem md_gR10 {E : ax_E} {m : Nat} {s : Sg} {h : ax_H} : ax_gR E (mdl m s h) (some m) 5 10 = some (some (m + 8)) := md_gR
theorem md_gI11 {E : ax_E} {m : Nat} {s : Sg} {h : ax_H} : ax_gI E (mdl m s h) (some m) 5 11 = some (s 0 11) := md_gI
theorem md_pI11 {m : Nat} {s : Sg} {h : ax_H} {v : Int} : ax_pI (mdl m s h) (some m) 5 11 v = some (mdl m (sw s 0 (u1 (s 0) 11 v)) h) := md_pI
theorem md_gI12 {E : ax_E} {m : Nat} {s : Sg} {h : ax_H} : ax_gI E (mdl m s h) (some m) 5 12 = some (s 0 12) := md_gI
theorem md_pI12 {m : Nat} {s : Sg} {h : ax_H} {v : Int} : ax_pI (mdl m s h) (some m) 5 12 v = some (mdl m (sw s 0 (u1 (s 0) 12 v)) h) := md_pI
theorem md_gR13 {E : ax_E} {m : Nat} {s : Sg} {h : ax_H} : ax_gR E (mdl m s h) (some m) 5 13 = some (some (m + 9)) := md_gR
theorem md_gR14 {E : ax_E} {m : Nat} {s : Sg} {h : ax_H} : ax_gR E (mdl m s h) (some m) 5 14 = some (some (m + 10)) := md_gR
theorem md_gR15 {E : ax_E} {m : Nat} {s : Sg} {h : ax_H} : ax_gR E (mdl m s h) (some m) 5 15 = some (some (m + 11)) := md_gR
theorem md_gI16 {E : ax_E} {m : Nat} {s : Sg} {h : ax_H} : ax_gI E (mdl m s h) (some m) 5 16 = some (s 0 16) := md_gI
theorem md_pI16 {m : Nat} {s : Sg} {h : ax_H} {v : Int} : ax_pI (mdl m s h) (some m) 5 16 v = some (mdl m (sw s 0 (u1 (s 0) 16 v)) h) := md_pI
theorem md_gI17 {E : ax_E} {m : Nat} {s : Sg} {h : ax_H} : ax_gI E (mdl m s h) (some m) 5 17 = some (s 0 17) := md_gI
theorem md_pI17 {m : Nat} {s : Sg} {h : ax_H} {v : Int} : ax_pI (mdl m s h) (some m) 5 17 v = some (mdl m (sw s 0 (u1 (s 0) 17 v)) h) := md_pI
theorem md_gI18 {E : ax_E} {m : Nat} {s : Sg} {h : ax_H} : ax_gI E (mdl m s h) (some m) 5 18 = some (s 0 18) := md_gI
theorem md_pI18 {m : Nat} {s : Sg} {h : ax_H} {v : Int} : ax_pI (mdl m s h) (some m) 5 18 v = some (mdl m (sw s 0 (u1 (s 0) 18 v)) h) := md_pI
theorem md_gI19 {E : ax_E} {m : Nat} {s : Sg} {h : ax_H} : ax_gI E (mdl m s h) (some m) 5 19 = some (s 0 19) := md_gI
theorem md_pI19 {m : Nat} {s : Sg} {h : ax_H} {v : Int} : ax_pI (mdl m s h) (some m) 5 19 v = some (mdl m (sw s 0 (u1 (s 0) 19 v)) h) := md_pI
theorem md_gI20 {E : ax_E} {m : Nat} {s : Sg} {h : ax_H} : ax_gI E (mdl m s h) (some m) 5 20 = some (s 0 20) := md_gI
theorem md_pI20 {m : Nat} {s : Sg} {h : ax_H} {v : Int} : ax_pI (mdl m s h) (some m) 5 20 v = some (mdl m (sw s 0 (u1 (s 0) 20 v)) h) := md_pI
theorem md_gI21 {E : ax_E} {m : Nat} {s : Sg} {h : ax_H} : ax_gI E (mdl m s h) (some m) 5 21 = some (s 0 21) := md_gI
theorem md_pI21 {m : Nat} {s : Sg} {h : ax_H} {v : Int} : ax_pI (mdl m s h) (some m) 5 21 v = some (mdl m (sw s 0 (u1 (s 0) 21 v)) h) := md_pI
theorem md_gI22 {E : ax_E} {m : Nat} {s : Sg} {h : ax_H} : ax_gI E (mdl m s h) (some m) 5 22 = some (s 0 22) := md_gI
theorem md_pI22 {m : Nat} {s : Sg} {h : ax_H} {v : Int} : ax_pI (mdl m s h) (some m) 5 22 v = some (mdl m (sw s 0 (u1 (s 0) 22 v)) h) := md_pI
theorem md_gI23 {E : ax_E} {m : Nat} {s : Sg} {h : ax_H} : ax_gI E (mdl m s h) (some m) 5 23 = some (s 0 23) := md_gI
theorem md_pI23 {m : Nat} {s : Sg} {h : ax_H} {v : Int} : ax_pI (mdl m s h) (some m) 5 23 v = some (mdl m (sw s 0 (u1 (s 0) 23 v)) h) := md_pI
theorem md_gR24 {E : ax_E} {m : Nat} {s : Sg} {h : ax_H} : ax_gR E (mdl m s h) (some m) 5 24 = some (some (m + 12)) := md_gR
theorem md_gR25 {E : ax_E} {m : Nat} {s : Sg} {h : ax_H} : ax_gR E (mdl m s h) (some m) 5 25 = some (some (m + 13)) := md_gR
theorem md_gR26 {E : ax_E} {m : Nat} {s : Sg} {h : ax_H} : ax_gR E (mdl m s h) (some m) 5 26 = some (some (m + 14)) := md_gR
theorem md_gR27 {E : ax_E} {m : Nat} {s : Sg} {h : ax_H} : ax_gR E (mdl m s h) (some m) 5 27 = some (some (m + 15)) := md_gR
theorem md_gI28 {E : ax_E} {m : Nat} {s : Sg} {h : ax_H} : ax_gI E (mdl m s h) (some m) 5 28 = some (s 0 28) := md_gI
theorem md_pI28 {m : Nat} {s : Sg} {h : ax_H} {v : Int} : ax_pI (mdl m s h) (some m) 5 28 v = some (mdl m (sw s 0 (u1 (s 0) 28 v)) h) := md_pI
theorem md_gR29 {E : ax_E} {m : Nat} {s : Sg} {h : ax_H} : ax_gR E (mdl m s h) (some m) 5 29 = some (some (m + 16)) := md_gR
theorem md_gR30 {E : ax_E} {m : Nat} {s : Sg} {h : ax_H} : ax_gR E (mdl m s h) (some m) 5 30 = some (some (m + 17)) := md_gR
theorem md_gR31 {E : ax_E} {m : Nat} {s : Sg} {h : ax_H} : ax_gR E (mdl m s h) (some m) 5 31 = some (some (m + 18)) := md_gR
theorem md_gR32 {E : ax_E} {m : Nat} {s : Sg} {h : ax_H} : ax_gR E (mdl m s h) (some m) 5 32 = some (some (m + 19)) := md_gR
theorem md_gR33 {E : ax_E} {m : Nat} {s : Sg} {h : ax_H} : ax_gR E (mdl m s h) (some m) 5 33 = some (some (m + 20)) := md_gR
theorem md_gI34 {E : ax_E} {m : Nat} {s : Sg} {h : ax_H} : ax_gI E (mdl m s h) (some m) 5 34 = some (s 0 34) := md_gI
theorem md_pI34 {m : Nat} {s : Sg} {h : ax_H} {v : Int} : ax_pI (mdl m s h) (some m) 5 34 v = some (mdl m (sw s 0 (u1 (s 0) 34 v)) h) := md_pI
theorem md_gR35 {E : ax_E} {m : Nat} {s : Sg} {h : ax_H} : ax_gR E (mdl m s h) (some m) 5 35 = some (some (m + 21)) := md_gR
theorem md_gR36 {E : ax_E} {m : Nat} {s : Sg} {h : ax_H} : ax_gR E (mdl m s h) (some m) 5 36 = some (some (m + 22)) := md_gR
theorem md_gI37 {E : ax_E} {m : Nat} {s : Sg} {h : ax_H} : ax_gI E (mdl m s h) (some m) 5 37 = some (s 0 37) := md_gI
theorem md_pI37 {m : Nat} {s : Sg} {h : ax_H} {v : Int} : ax_pI (mdl m s h) (some m) 5 37 v = some (mdl m (sw s 0 (u1 (s 0) 37 v)) h) := md_pI
theorem md_gI38 {E : ax_E} {m : Nat} {s : Sg} {h : ax_H} : ax_gI E (mdl m s h) (some m) 5 38 = some (s 0 38) := md_gI
theorem md_pI38 {m : Nat} {s : Sg} {h : ax_H} {v : Int} : ax_pI (mdl m s h) (some m) 5 38 v = some (mdl m (sw s 0 (u1 (s 0) 38 v)) h) := md_pI
theorem md_gI39 {E : ax_E} {m : Nat} {s : Sg} {h : ax_H} : ax_gI E (mdl m s h) (some m) 5 39 = some (s 0 39) := md_gI
theorem md_pI39 {m : Nat} {s : Sg} {h : ax_H} {v : Int} : ax_pI (mdl m s h) (some m) 5 39 v = some (mdl m (sw s 0 (u1 (s 0) 39 v)) h) := md_pI
theorem md_gR40 {E : ax_E} {m : Nat} {s : Sg} {h : ax_H} : ax_gR E (mdl m s h) (some m) 5 40 = some (some (m + 23)) := md_gR
theorem md_gR41 {E : ax_E} {m : Nat} {s : Sg} {h : ax_H} : ax_gR E (mdl m s h) (some m) 5 41 = some (some (m + 24)) := md_gR
theorem md_gR42 {E : ax_E} {m : Nat} {s : Sg} {h : ax_H} : ax_gR E (mdl m s h) (some m) 5 42 = some (some (m + 25)) := md_gR
theorem md_gI43 {E : ax_E} {m : Nat} {s : Sg} {h : ax_H} : ax_gI E (mdl m s h) (some m) 5 43 = some (s 0 43) := md_gI
theorem md_pI43 {m : Nat} {s : Sg} {h : ax_H} {v : Int} : ax_pI (mdl m s h) (some m) 5 43 v = some (mdl m (sw s 0 (u1 (s 0) 43 v)) h) := md_pI
theorem md_gI44 {E : ax_E} {m : Nat} {s : Sg} {h : ax_H} : ax_gI E (mdl m s h) (some m) 5 44 = some (s 0 44) := md_gI
theorem md_pI44 {m : Nat} {s : Sg} {h : ax_H} {v : Int} : ax_pI (mdl m s h) (some m) 5 44 v = some (mdl m (sw s 0 (u1 (s 0) 44 v)) h) := md_pI
theorem md_gR45 {E : ax_E} {m : Nat} {s : Sg} {h : ax_H} : ax_gR E (mdl m s h) (some m) 5 45 = some (some (m + 26)) := md_gR
theorem md_gR46 {E : ax_E} {m : Nat} {s : Sg} {h : ax_H} : ax_gR E (mdl m s h) (some m) 5 46 = some (some (m + 27)) := md_gR
theorem md_gI47 {E : ax_E} {m : Nat} {s : Sg} {h : ax_H} : ax_gI E (mdl m s h) (some m) 5 47 = some (s 0 47) := md_gI
theorem md_pI47 {m : Nat} {s : Sg} {h : ax_H} {v : Int} : ax_pI (mdl m s h) (some m) 5 47 v = some (mdl m (sw s 0 (u1 (s 0) 47 v)) h) := md_pI
theorem md_gI48 {E : ax_E} {m : Nat} {s : Sg} {h : ax_H} : ax_gI E (mdl m s h) (some m) 5 48 = some (s 0 48) := md_gI
theorem md_pI48 {m : Nat} {s : Sg} {h : ax_H} {v : Int} : ax_pI (mdl m s h) (some m) 5 48 v = some (mdl m (sw s 0 (u1 (s 0) 48 v)) h) := md_pI
theorem md_gI49 {E : ax_E} {m : Nat} {s : Sg} {h : ax_H} : ax_gI E (mdl m s h) (some m) 5 49 = some (s 0 49) := md_gI
theorem md_pI49 {m : Nat} {s : Sg} {h : ax_H} {v : Int} : ax_pI (mdl m s h) (some m) 5 49 v = some (mdl m (sw s 0 (u1 (s 0) 49 v)) h) := md_pI
theorem md_gI50 {E : ax_E} {m : Nat} {s : Sg} {h : ax_H} : ax_gI E (mdl m s h) (some m) 5 50 = some (s 0 50) := md_gI
theorem md_pI50 {m : Nat} {s : Sg} {h : ax_H} {v : Int} : ax_pI (mdl m s h) (some m) 5 50 v = some (mdl m (sw s 0 (u1 (s 0) 50 v)) h) := md_pI
theorem md_gI51 {E : ax_E} {m : Nat} {s : Sg} {h : ax_H} : ax_gI E (mdl m s h) (some m) 5 51 = some (s 0 51) := md_gI
theorem md_pI51 {m : Nat} {s : Sg} {h : ax_H} {v : Int} : ax_pI (mdl m s h) (some m) 5 51 v = some (mdl m (sw s 0 (u1 (s 0) 51 v)) h) := md_pI
theorem md_gI52 {E : ax_E} {m : Nat} {s : Sg} {h : ax_H} : ax_gI E (mdl m s h) (some m) 5 52 = some (s 0 52) := md_gI
theorem md_pI52 {m : Nat} {s : Sg} {h : ax_H} {v : Int} : ax_pI (mdl m s h) (some m) 5 52 v = some (mdl m (sw s 0 (u1 (s 0) 52 v)) h) := md_pI
theorem md_gI53 {E : ax_E} {m : Nat} {s : Sg} {h : ax_H} : ax_gI E (mdl m s h) (some m) 5 53 = some (s 0 53) := md_gI
theorem md_pI53 {m : Nat} {s : Sg} {h : ax_H} {v : Int} : ax_pI (mdl m s h) (some m) 5 53 v = some (mdl m (sw s 0 (u1 (s 0) 53 v)) h) := md_pI
theorem md_gI54 {E : ax_E} {m : Nat} {s : Sg} {h : ax_H} : ax_gI E (mdl m s h) (some m) 5 54 = some (s 0 54) := md_gI
theorem md_pI54 {m : Nat} {s : Sg} {h : ax_H} {v : Int} : ax_pI (mdl m s h) (some m) 5 54 v = some (mdl m (sw s 0 (u1 (s 0) 54 v)) h) := md_pI
theorem md_gR55 {E : ax_E} {m : Nat} {s : Sg} {h : ax_H} : ax_gR E (mdl m s h) (some m) 5 55 = some (some (m + 28)) := md_gR
theorem md_gR56 {E : ax_E} {m : Nat} {s : Sg} {h : ax_H} : ax_gR E (mdl m s h) (some m) 5 56 = some (some (m + 29)) := md_gR
theorem md_gR57 {E : ax_E} {m : Nat} {s : Sg} {h : ax_H} : ax_gR E (mdl m s h) (some m) 5 57 = some (some (m + 30)) := md_gR
theorem md_gR58 {E : ax_E} {m : Nat} {s : Sg} {h : ax_H} : ax_gR E (mdl m s h) (some m) 5 58 = some (some (m + 31)) := md_gR
theorem md_gI59 {E : ax_E} {m : Nat} {s : Sg} {h : ax_H} : ax_gI E (mdl m s h) (some m) 5 59 = some (s 0 59) := md_gI
theorem md_pI59 {m : Nat} {s : Sg} {h : ax_H} {v : Int} : ax_pI (mdl m s h) (some m) 5 59 v = some (mdl m (sw s 0 (u1 (s 0) 59 v)) h) := md_pI
theorem md_gI60 {E : ax_E} {m : Nat} {s : Sg} {h : ax_H} : ax_gI E (mdl m s h) (some m) 5 60 = some (s 0 60) := md_gI
theorem md_pI60 {m : Nat} {s : Sg} {h : ax_H} {v : Int} : ax_pI (mdl m s h) (some m) 5 60 v = some (mdl m (sw s 0 (u1 (s 0) 60 v)) h) := md_pI
theorem md_ld1 {E : ax_E} {m : Nat} {s : Sg} {h : ax_H} {i : Int} (h0 : 0 ≤ i) (h1 : i < 7) : ax_ld E (mdl m s h) (some (m + 1)) 100 i = some (s 1 i) := md_ldo (by decide) (by decide) (by decide) h0 h1
theorem md_sto1 {m : Nat} {s : Sg} {h : ax_H} {i v : Int} (h0 : 0 ≤ i) (h1 : i < 7) : ax_sto (mdl m s h) (some (m + 1)) 100 i v = some (mdl m (sw s 1 (u1 (s 1) i v)) h) := md_stoo (by decide) (by decide) (by decide) h0 h1
theorem md_ld2 {E : ax_E} {m : Nat} {s : Sg} {h : ax_H} {i : Int} (h0 : 0 ≤ i) (h1 : i < 5764) : ax_ld E (mdl m s h) (some (m + 2)) 100 i = some (s 2 i) := md_ldo (by decide) (by decide) (by decide) h0 h1
theorem md_sto2 {m : Nat} {s : Sg} {h : ax_H} {i v : Int} (h0 : 0 ≤ i) (h1 : i < 5764) : ax_sto (mdl m s h) (some (m + 2)) 100 i v = some (mdl m (sw s 2 (u1 (s 2) i v)) h) := md_stoo (by decide) (by decide) (by decide) h0 h1
theorem md_ld3 {E : ax_E} {m : Nat} {s : Sg} {h : ax_H} {i : Int} (h0 : 0 ≤ i) (h1 : i < 11528) : ax_ld E (mdl m s h) (some (m + 3)) 100 i = some (s 3 i) := md_ldo (by decide) (by decide) (by decide) h0 h1
theorem md_sto3 {m : Nat} {s : Sg} {h : ax_H} {i v : Int} (h0 : 0 ≤ i) (h1 : i < 11528) : ax_sto (mdl m s h) (some (m + 3)) 100 i v = some (mdl m (sw s 3 (u1 (s 3) i v)) h) := md_stoo (by decide) (by decide) (by decide) h0 h1
theorem md_ld4 {E : ax_E} {m : Nat} {s : Sg} {h : ax_H} {i : Int} (h0 : 0 ≤ i) (h1 : i < 2) : ax_ld E (mdl m s h) (some (m + 4)) 102 i = some (s 4 i) := md_ldo (by decide) (by decide) (by decide) h0 h1
theorem md_sto4 {m : Nat} {s : Sg} {h : ax_H} {i v : Int} (h0 : 0 ≤ i) (h1 : i < 2) : ax_sto (mdl m s h) (some (m + 4)) 102 i v = some (mdl m (sw s 4 (u1 (s 4) i v)) h) := md_stoo (by decide) (by decide) (by decide) h0 h1
theorem md_ld5 {E : ax_E} {m : Nat} {s : Sg} {h : ax_H} {i : Int} (h0 : 0 ≤ i) (h1 : i < 803) : ax_ld E (mdl m s h) (some (m + 5)) 100 i = some (s 5 i) := md_ldo (by decide) (by decide) (by decide) h0 h1
theorem md_sto5 {m : Nat} {s : Sg} {h : ax_H} {i v : Int} (h0 : 0 ≤ i) (h1 : i < 803) : ax_sto (mdl m s h) (some (m + 5)) 100 i v = some (mdl m (sw s 5 (u1 (s 5) i v)) h) := md_stoo (by decide) (by decide) (by decide) h0 h1
theorem md_ld6 {E : ax_E} {m : Nat} {s : Sg} {h : ax_H} {i : Int} (h0 : 0 ≤ i) (h1 : i < 147) : ax_ld E (mdl m s h) (some (m + 6)) 101 i = some (s 6 i) := md_ldo (by decide) (by decide) (by decide) h0 h1
theorem md_sto6 {m : Nat} {s : Sg} {h : ax_H} {i v : Int} (h0 : 0 ≤ i) (h1 : i < 147) : ax_sto (mdl m s h) (some (m + 6)) 101 i v = some (mdl m (sw s 6 (u1 (s 6) i v)) h) := md_stoo (by decide) (by decide) (by decide) h0 h1
theorem md_ld7 {E : ax_E} {m : Nat} {s : Sg} {h : ax_H} {i : Int} (h0 : 0 ≤ i) (h1 : i < 400) : ax_ld E (mdl m s h) (some (m + 7)) 101 i = some (s 7 i) := md_ldo (by decide) (by decide) (by decide) h0 h1
theorem md_sto7 {m : Nat} {s : Sg} {h : ax_H} {i v : Int} (h0 : 0 ≤ i) (h1 : i < 400) : ax_sto (mdl m s h) (some (m + 7)) 101 i v = some (mdl m (sw s 7 (u1 (s 7) i v)) h) := md_stoo (by decide) (by decide) (by decide) h0 h1
theorem md_ld8 {E : ax_E} {m : Nat} {s : Sg} {h : ax_H} {i : Int} (h0 : 0 ≤ i) (h1 : i < 5) : ax_ld E (mdl m s h) (some (m + 8)) 100 i = some (s 8 i) := md_ldo (by decide) (by decide) (by decide) h0 h1
theorem md_sto8 {m : Nat} {s : Sg} {h : ax_H} {i v : Int} (h0 : 0 ≤ i) (h1 : i < 5) : ax_sto (mdl m s h) (some (m + 8)) 100 i v = some (mdl m (sw s 8 (u1 (s 8) i v)) h) := md_stoo (by decide) (by decide) (by decide) h0 h1
theorem md_ld9 {E : ax_E} {m : Nat} {s : Sg} {h : ax_H} {i : Int} (h0 : 0 ≤ i) (h1 : i < 401) : ax_ld E (mdl m s h) (some (m + 9)) 100 i = some (s 9 i) := md_ldo (by decide) (by decide) (by decide) h0 h1
theorem md_sto9 {m : Nat} {s : Sg} {h : ax_H} {i v : Int} (h0 : 0 ≤ i) (h1 : i < 401) : ax_sto (mdl m s h) (some (m + 9)) 100 i v = some (mdl m (sw s 9 (u1 (s 9) i v)) h) := md_stoo (by decide) (by decide) (by decide) h0 h1
theorem md_ld10 {E : ax_E} {m : Nat} {s : Sg} {h : ax_H} {i : Int} (h0 : 0 ≤ i) (h1 : i < 401) : ax_ld E (mdl m s h) (some (m + 10)) 100 i = some (s 10 i) := md_ldo (by decide) (by decide) (by decide) h0 h1
theorem md_sto10 {m : Nat} {s : Sg} {h : ax_H} {i v : Int} (h0 : 0 ≤ i) (h1 : i < 401) : ax_sto (mdl m s h) (some (m + 10)) 100 i v = some (mdl m (sw s 10 (u1 (s 10) i v)) h) := md_stoo (by decide) (by decide) (by decide) h0 h1
theorem md_ld11 {E : ax_E} {m : Nat} {s : Sg} {h : ax_H} {i : Int} (h0 : 0 ≤ i) (h1 : i < 401) : ax_ld E (mdl m s h) (some (m + 11)) 100 i = some (s 11 i) := md_ldo (by decide) (by decide) (by decide) h0 h1
theorem md_sto11 {m : Nat} {s : Sg} {h : ax_H} {i v : Int} (h0 : 0 ≤ i) (h1 : i < 401) : ax_sto (mdl m s h) (some (m + 11)) 100 i v = some (mdl m (sw s 11 (u1 (s 11) i v)) h) := md_stoo (by decide) (by decide) (by decide) h0 h1
theorem md_ld12 {E : ax_E} {m : Nat} {s : Sg} {h : ax_H} {i : Int} (h0 : 0 ≤ i) (h1 : i < 10) : ax_ld E (mdl m s h) (some (m + 12)) 100 i = some (s 12 i) := md_ldo (by decide) (by decide) (by decide) h0 h1
theorem md_sto12 {m : Nat} {s : Sg} {h : ax_H} {i v : Int} (h0 : 0 ≤ i) (h1 : i < 10) : ax_sto (mdl m s h) (some (m + 12)) 100 i v = some (mdl m (sw s 12 (u1 (s 12) i v)) h) := md_stoo (by decide) (by decide) (by decide) h0 h1
theorem md_ld13 {E : ax_E} {m : Nat} {s : Sg} {h : ax_H} {i : Int} (h0 : 0 ≤ i) (h1 : i < 4) : ax_ld E (mdl m s h) (some (m + 13)) 100 i = some (s 13 i) := md_ldo (by decide) (by decide) (by decide) h0 h1
theorem md_sto13 {m : Nat} {s : Sg} {h : ax_H} {i v : Int} (h0 : 0 ≤ i) (h1 : i < 4) : ax_sto (mdl m s h) (some (m + 13)) 100 i v = some (mdl m (sw s 13 (u1 (s 13) i v)) h) := md_stoo (by decide) (by decide) (by decide) h0 h1
theorem md_ld14 {E : ax_E} {m : Nat} {s : Sg} {h : ax_H} {i : Int} (h0 : 0 ≤ i) (h1 : i < 1184) : ax_ld E (mdl m s h) (some (m + 14)) 100 i = some (s 14 i) := md_ldo (by decide) (by decide) (by decide) h0 h1
theorem md_sto14 {m : Nat} {s : Sg} {h : ax_H} {i v : Int} (h0 : 0 ≤ i) (h1 : i < 1184) : ax_sto (mdl m s h) (some (m + 14)) 100 i v = some (mdl m (sw s 14 (u1 (s 14) i v)) h) := md_stoo (by decide) (by decide) (by decide) h0 h1
theorem md_ld15 {E : ax_E} {m : Nat} {s : Sg} {h : ax_H} {i : Int} (h0 : 0 ≤ i) (h1 : i < 1184) : ax_ld E (mdl m s h) (some (m + 15)) 100 i = some (s 15 i) := md_ldo (by decide) (by decide) (by decide) h0 h1
theorem md_sto15 {m : Nat} {s : Sg} {h : ax_H} {i v : Int} (h0 : 0 ≤ i) (h1 : i < 1184) : ax_sto (mdl m s h) (some (m + 15)) 100 i v = some (mdl m (sw s 15 (u1 (s 15) i v)) h) := md_stoo (by decide) (by decide) (by decide) h0 h1
theorem md_ld16 {E : ax_E} {m : Nat} {s : Sg} {h : ax_H} {i : Int} (h0 : 0 ≤ i) (h1 : i < 8) : ax_ld E (mdl m s h) (some (m + 16)) 100 i = some (s 16 i) := md_ldo (by decide) (by decide) (by decide) h0 h1
theorem md_sto16 {m : Nat} {s : Sg} {h : ax_H} {i v : Int} (h0 : 0 ≤ i) (h1 : i < 8) : ax_sto (mdl m s h) (some (m + 16)) 100 i v = some (mdl m (sw s 16 (u1 (s 16) i v)) h) := md_stoo (by decide) (by decide) (by decide) h0 h1
theorem md_ld17 {E : ax_E} {m : Nat} {s : Sg} {h : ax_H} {i : Int} (h0 : 0 ≤ i) (h1 : i < 8) : ax_ld E (mdl m s h) (some (m + 17)) 100 i = some (s 17 i) := md_ldo (by decide) (by decide) (by decide) h0 h1
theorem md_sto17 {m : Nat} {s : Sg} {h : ax_H} {i v : Int} (h0 : 0 ≤ i) (h1 : i < 8) : ax_sto (mdl m s h) (some (m + 17)) 100 i v = some (mdl m (sw s 17 (u1 (s 17) i v)) h) := md_stoo (by decide) (by decide) (by decide) h0 h1
theorem md_ld18 {E : ax_E} {m : Nat} {s : Sg} {h : ax_H} {i : Int} (h0 : 0 ≤ i) (h1 : i < 8) : ax_ld E (mdl m s h) (some (m + 18)) 100 i = some (s 18 i) := md_ldo (by decide) (by decide) (by decide) h0 h1
theorem md_sto18 {m : Nat} {s : Sg} {h : ax_H} {i v : Int} (h0 : 0 ≤ i) (h1 : i < 8) : ax_sto (mdl m s h) (some (m + 18)) 100 i v = some (mdl m (sw s 18 (u1 (s 18) i v)) h) := md_stoo (by decide) (by decide) (by decide) h0 h1
theorem md_ld19 {E : ax_E} {m : Nat} {s : Sg} {h : ax_H} {i : Int} (h0 : 0 ≤ i) (h1 : i < 8) : ax_ld E (mdl m s h) (some (m + 19)) 100 i = some (s 19 i) := md_ldo (by decide) (by decide) (by decide) h0 h1
theorem md_sto19 {m : Nat} {s : Sg} {h : ax_H} {i v : Int} (h0 : 0 ≤ i) (h1 : i < 8) : ax_sto (mdl m s h) (some (m + 19)) 100 i v = some (mdl m (sw s 19 (u1 (s 19) i v)) h) := md_stoo (by decide) (by decide) (by decide) h0 h1
theorem md_ld20 {E : ax_E} {m : Nat} {s : Sg} {h : ax_H} {i : Int} (h0 : 0 ≤ i) (h1 : i < 256) : ax_ld E (mdl m s h) (some (m + 20)) 100 i = some (s 20 i) := md_ldo (by decide) (by decide) (by decide) h0 h1
theorem md_sto20 {m : Nat} {s : Sg} {h : ax_H} {i v : Int} (h0 : 0 ≤ i) (h1 : i < 256) : ax_sto (mdl m s h) (some (m + 20)) 100 i v = some (mdl m (sw s 20 (u1 (s 20) i v)) h) := md_stoo (by decide) (by decide) (by decide) h0 h1
theorem md_ld21 {E : ax_E} {m : Nat} {s : Sg} {h : ax_H} {i : Int} (h0 : 0 ≤ i) (h1 : i < 8) : ax_ld E (mdl m s h) (some (m + 21)) 100 i = some (s 21 i) := md_ldo (by decide) (by decide) (by decide) h0 h1
theorem md_sto21 {m : Nat} {s : Sg} {h : ax_H} {i v : Int} (h0 : 0 ≤ i) (h1 : i < 8) : ax_sto (mdl m s h) (some (m + 21)) 100 i v = some (mdl m (sw s 21 (u1 (s 21) i v)) h) := md_stoo (by decide) (by decide) (by decide) h0 h1
theorem md_ld22 {E : ax_E} {m : Nat} {s : Sg} {h : ax_H} {i : Int} (h0 : 0 ≤ i) (h1 : i < 8) : ax_ld E (mdl m s h) (some (m + 22)) 100 i = some (s 22 i) := md_ldo (by decide) (by decide) (by decide) h0 h1
theorem md_sto22 {m : Nat} {s : Sg} {h : ax_H} {i v : Int} (h0 : 0 ≤ i) (h1 : i < 8) : ax_sto (mdl m s h) (some (m + 22)) 100 i v = some (mdl m (sw s 22 (u1 (s 22) i v)) h) := md_stoo (by decide) (by decide) (by decide) h0 h1
theorem md_ld23 {E : ax_E} {m : Nat} {s : Sg} {h : ax_H} {i : Int} (h0 : 0 ≤ i) (h1 : i < 16) : ax_ld E (mdl m s h) (some (m + 23)) 100 i = some (s 23 i) := md_ldo (by decide) (by decide) (by decide) h0 h1
theorem md_sto23 {m : Nat} {s : Sg} {h : ax_H} {i v : Int} (h0 : 0 ≤ i) (h1 : i < 16) : ax_sto (mdl m s h) (some (m + 23)) 100 i v = some (mdl m (sw s 23 (u1 (s 23) i v)) h) := md_stoo (by decide) (by decide) (by decide) h0 h1
theorem md_ld24 {E : ax_E} {m : Nat} {s : Sg} {h : ax_H} {i : Int} (h0 : 0 ≤ i) (h1 : i < 7) : ax_ld E (mdl m s h) (some (m + 24)) 100 i = some (s 24 i) := md_ldo (by decide) (by decide) (by decide) h0 h1
theorem md_sto24 {m : Nat} {s : Sg} {h : ax_H} {i v : Int} (h0 : 0 ≤ i) (h1 : i < 7) : ax_sto (mdl m s h) (some (m + 24)) 100 i v = some (mdl m (sw s 24 (u1 (s 24) i v)) h) := md_stoo (by decide) (by decide) (by decide) h0 h1
theorem md_ld25 {E : ax_E} {m : Nat} {s : Sg} {h : ax_H} {i : Int} (h0 : 0 ≤ i) (h1 : i < 7) : ax_ld E (mdl m s h) (some (m + 25)) 100 i = some (s 25 i) := md_ldo (by decide) (by decide) (by decide) h0 h1
theorem md_sto25 {m : Nat} {s : Sg} {h : ax_H} {i v : Int} (h0 : 0 ≤ i) (h1 : i < 7) : ax_sto (mdl m s h) (some (m + 25)) 100 i v = some (mdl m (sw s 25 (u1 (s 25) i v)) h) := md_stoo (by decide) (by decide) (by decide) h0 h1
theorem md_ld26 {E : ax_E} {m : Nat} {s : Sg} {h : ax_H} {i : Int} (h0 : 0 ≤ i) (h1 : i < 49) : ax_ld E (mdl m s h) (some (m + 26)) 100 i = some (s 26 i) := md_ldo (by decide) (by decide) (by decide) h0 h1
theorem md_sto26 {m : Nat} {s : Sg} {h : ax_H} {i v : Int} (h0 : 0 ≤ i) (h1 : i < 49) : ax_sto (mdl m s h) (some (m + 26)) 100 i v = some (mdl m (sw s 26 (u1 (s 26) i v)) h) := md_stoo (by decide) (by decide) (by decide) h0 h1
theorem md_ld27 {E : ax_E} {m : Nat} {s : Sg} {h : ax_H} {i : Int} (h0 : 0 ≤ i) (h1 : i < 256) : ax_ld E (mdl m s h) (some (m + 27)) 100 i = some (s 27 i) := md_ldo (by decide) (by decide) (by decide) h0 h1
theorem md_sto27 {m : Nat} {s : Sg} {h : ax_H} {i v : Int} (h0 : 0 ≤ i) (h1 : i < 256) : ax_sto (mdl m s h) (some (m + 27)) 100 i v = some (mdl m (sw s 27 (u1 (s 27) i v)) h) := md_stoo (by decide) (by decide) (by decide) h0 h1
theorem md_ld28 {E : ax_E} {m : Nat} {s : Sg} {h : ax_H} {i : Int} (h0 : 0 ≤ i) (h1 : i < 3) : ax_ld E (mdl m s h) (some (m + 28)) 103 i = some (s 28 i) := md_ldo (by decide) (by decide) (by decide) h0 h1
theorem md_sto28 {m : Nat} {s : Sg} {h : ax_H} {i v : Int} (h0 : 0 ≤ i) (h1 : i < 3) : ax_sto (mdl m s h) (some (m + 28)) 103 i v = some (mdl m (sw s 28 (u1 (s 28) i v)) h) := md_stoo (by decide) (by decide) (by decide) h0 h1
theorem md_ld29 {E : ax_E} {m : Nat} {s : Sg} {h : ax_H} {i : Int} (h0 : 0 ≤ i) (h1 : i < 7) : ax_ld E (mdl m s h) (some (m + 29)) 100 i = some (s 29 i) := md_ldo (by decide) (by decide) (by decide) h0 h1
theorem md_sto29 {m : Nat} {s : Sg} {h : ax_H} {i v : Int} (h0 : 0 ≤ i) (h1 : i < 7) : ax_sto (mdl m s h) (some (m + 29)) 100 i v = some (mdl m (sw s 29 (u1 (s 29) i v)) h) := md_stoo (by decide) (by decide) (by decide) h0 h1
theorem md_ld30 {E : ax_E} {m : Nat} {s : Sg} {h : ax_H} {i : Int} (h0 : 0 ≤ i) (h1 : i < 7) : ax_ld E (mdl m s h) (some (m + 30)) 100 i = some (s 30 i) := md_ldo (by decide) (by decide) (by decide) h0 h1
theorem md_sto30 {m : Nat} {s : Sg} {h : ax_H} {i v : Int} (h0 : 0 ≤ i) (h1 : i < 7) : ax_sto (mdl m s h) (some (m + 30)) 100 i v = some (mdl m (sw s 30 (u1 (s 30) i v)) h) := md_stoo (by decide) (by decide) (by decide) h0 h1
theorem md_ld31 {E : ax_E} {m : Nat} {s : Sg} {h : ax_H} {i : Int} (h0 : 0 ≤ i) (h1 : i < 7) : ax_ld E (mdl m s h) (some (m + 31)) 100 i = some (s 31 i) := md_ldo (by decide) (by decide) (by decide) h0 h1
theorem md_sto31 {m : Nat} {s : Sg} {h : ax_H} {i v : Int} (h0 : 0 ≤ i) (h1 : i < 7) : ax_sto (mdl m s h) (some (m + 31)) 100 i v = some (mdl m (sw s 31 (u1 (s 31) i v)) h) := md_stoo (by decide) (by decide) (by decide) h0 h1

def b01 (C : Prop) [Decidable C] : Int := if C then 1 else 0
theorem b01_z (C : Prop) [Decidable C] : (i2 (b01 C) = 0) = ¬ C := by
  unfold b01
  by_cases h : C
  · simp [h, show i2 1 = 1 by decide]
  · simp [h, i2_0]
theorem b01_z' (C : Prop) [Decidable C] : (b01 C = 0) = ¬ C := by
  unfold b01
  by_cases h : C <;> simp [h]
theorem b01_1 (C : Prop) [Decidable C] : (i2 (b01 C) = i2 1) = C := by
  unfold b01
  by_cases h : C
  · simp [h]
  · simp [h, i2_0, show i2 1 = 1 by decide]
theorem b01_or (C : Prop) [Decidable C] : (b01 C = 0 ∨ b01 C = 1) = True := by
  unfold b01
  by_cases h : C <;> simp [h]
theorem b01_i2 (C : Prop) [Decidable C] : i2 (b01 C) = b01 C := by
  unfold b01
  split <;> decide
theorem b01_t {C : Prop} [Decidable C] (h : C) : b01 C = 1 := if_pos h
theorem b01_f {C : Prop} [Decidable C] (h : ¬ C) : b01 C = 0 := if_neg h
/-- all that the model holds are ints -/
def G32 (s : Sg) : Prop := ∀ (o : Nat) (i : Int), i2 (s o i) = s o i
theorem G32.lo {s : Sg} (h : G32 s) (o : Nat) (i : Int) : -2147483648 ≤ s o i := by rw [← h o i]; exact i2_lo _
theorem G32.hi {s : Sg} (h : G32 s) (o : Nat) (i : Int) : s o i ≤ 2147483647 := by rw [← h o i]; exact i2_hi _
theorem i2_lh {a : Int} (h : i2 a = a) : -2147483648 ≤ a ∧ a ≤ 2147483647 := by rw [← h]; exact ⟨i2_lo _, i2_hi _⟩
theorem G32_sw {s : Sg} {o : Nat} {f : Rw} (h : G32 s) (hf : ∀ i, i2 (f i) = f i) : G32 (sw s o f) := by
  intro p i
  by_cases hp : p = o
  · subst hp
    rw [sw_eq]
    exact hf i
  · rw [sw_ne _ hp]
    exact h p i
theorem u1_32 {f : Rw} {i v : Int} (hf : ∀ j, i2 (f j) = f j) (hv : i2 v = v) : ∀ j, i2 (u1 f i v j) = u1 f i v j := by
  intro j
  unfold u1
  split
  · exact hv
  · exact hf j
/-- a row copied into another -/
def cpR (f : Rw) (a : Int) (g : Rw) (n : Int) : Rw := fun j => if a ≤ j ∧ j < a + n then g (j - a) else f j
theorem cpR_0 (f : Rw) (a : Int) (g : Rw) : cpR f a g 0 = f := by
  funext j
  unfold cpR
  rw [if_neg (by omega)]
theorem cpR_s {f : Rw} {a : Int} {g : Rw} {n b : Int} (h : 0 ≤ n) (hb : b = a + n) : u1 (cpR f a g n) b (g n) = cpR f a g (n + 1) := by
  subst hb
  funext j
  unfold u1 cpR
  by_cases hj : j = a + n
  · subst hj
    rw [if_pos rfl, if_pos (by omega)]
    congr 1
    omega
  · rw [if_neg hj]
    by_cases h2 : a ≤ j ∧ j < a + n
    · rw [if_pos h2, if_pos (by omega)]
    · rw [if_neg h2, if_neg (by omega)]
theorem cpR_in {f : Rw} {a : Int} {g : Rw} {n j : Int} (h : a ≤ j ∧ j < a + n) : cpR f a g n j = g (j - a) := if_pos h
theorem cpR_out {f : Rw} {a : Int} {g : Rw} {n j : Int} (h : j < a ∨ a + n ≤ j) : cpR f a g n j = f j := if_neg (by omega)
theorem cpR_32 {f g : Rw} {a n : Int} (hf : ∀ j, i2 (f j) = f j) (hg : ∀ j, i2 (g j) = g j) : ∀ j, i2 (cpR f a g n j) = cpR f a g n j := by
  intro j
  unfold cpR
  split
  · exact hg _
  · exact hf _
/-! the model's answers -/
def sGood (s : Sg) : Sg := sw s 0 (u1 (s 0) 0 0)
def sRef (s : Sg) (k : Int) : Sg := sw (sw s 0 (u1 (s 0) 0 k)) 1 (u1 (s 1) (-k) (s 1 (-k) + 1))
def sSet (s : Sg) : Sg := sw s 0 (u1 (u1 (s 0) 28 0) 0 0)
section
variable {E : ax_E} {m : Nat} {s : Sg} {h : ax_H}
theorem m_lies {v lo hi : Int} (h1 : i2 v = v) (h2 : i2 lo = lo) (h3 : i2 hi = hi) : f_X5_lies E v lo hi h = some (b01 (lo ≤ v ∧ v ≤ hi), h) := by
  unfold f_X5_lies f_X5_lies_14
  rw [h1, h2, h3]
  split
  · rw [b01_f (by omega)]
  · split
    · rw [b01_f (by omega)]
    · rw [b01_t (by omega)]
theorem m_good {v : Int} : f_X5_good E (some m) v (mdl m s h) = some (v, mdl m (sGood s) h) := by
  simp (disch := first | omega | assumption | exact hG _ _ | (refine i2_ofp ?_; omega)) only [f_X5_good, md_pI0, Option.bind_some, Option.map_some, sw_eq, sw_ne, u1_eq, u1_ne, u1_u1, sw_sw, i2_of, if_pos, if_neg, true_or, or_true, if_true, if_false]
  rfl
theorem m_settled {v : Int} : f_X5_settled E (some m) v (mdl m s h) = some (v, mdl m (sSet s) h) := by
  simp (disch := first | omega | assumption | exact hG _ _ | (refine i2_ofp ?_; omega)) only [f_X5_settled, md_ce, md_pI28, m_good, sGood, Option.bind_some, Option.map_some, sw_eq, sw_ne, u1_eq, u1_ne, u1_u1, sw_sw, i2_of, if_pos, if_neg, true_or, or_true, if_true, if_false]
  rfl
theorem m_refuses {k : Int} (h1 : -7 < k) (h2 : k ≤ 0) : f_X5_refuses E (some m) k (mdl m s h) = some (k, mdl m (sRef s k) h) := by
  simp (disch := first | omega | assumption | exact hG _ _ | (refine i2_ofp ?_; omega)) only [f_X5_refuses, md_pI0, md_gR1, md_ld1, md_sto1, Option.bind_some, Option.map_some, sw_eq, sw_ne, u1_eq, u1_ne, u1_u1, sw_sw, i2_of, if_pos, if_neg, true_or, or_true, if_true, if_false]
  rfl
theorem m_lesser {a b : Int} (h1 : i2 a = a) (h2 : i2 b = b) : f_X5_lesser E a b h = some (min a b, h) := by
  unfold f_X5_lesser
  rw [h1, h2]
  split
  · rw [Int.min_eq_left (by omega)]
  · rw [Int.min_eq_right (by omega)]
theorem m_isRoom {v : Int} (h1 : i2 v = v) : f_X5_isRoom E v h = some (b01 (1 ≤ v ∧ v ≤ 3), h) := by
  simp (disch := first | omega | assumption | exact hG _ _ | (refine i2_ofp ?_; omega)) only [f_X5_isRoom, m_lies, b01_or, Option.bind_some, Option.map_some, sw_eq, sw_ne, u1_eq, u1_ne, u1_u1, sw_sw, i2_of, if_pos, if_neg, true_or, or_true, if_true, if_false]
theorem m_isAmount {v : Int} (h1 : i2 v = v) : f_X5_isAmount E v h = some (b01 (1 ≤ v ∧ v ≤ 9999), h) := by
  simp (disch := first | omega | assumption | exact hG _ _ | (refine i2_ofp ?_; omega)) only [f_X5_isAmount, m_lies, b01_or, Option.bind_some, Option.map_some, sw_eq, sw_ne, u1_eq, u1_ne, u1_u1, sw_sw, i2_of, if_pos, if_neg, true_or, or_true, if_true, if_false]
theorem m_people : f_X5_people E (some m) (mdl m s h) = some (s 2 152, mdl m s h) := by
  simp (disch := first | omega | assumption | exact hG _ _ | (refine i2_ofp ?_; omega)) only [f_X5_people, md_gR2, md_ld2, Option.bind_some, Option.map_some, sw_eq, sw_ne, u1_eq, u1_ne, u1_u1, sw_sw, i2_of, if_pos, if_neg, true_or, or_true, if_true, if_false]
theorem m_debts : f_X5_debts E (some m) (mdl m s h) = some (s 2 71, mdl m s h) := by
  simp (disch := first | omega | assumption | exact hG _ _ | (refine i2_ofp ?_; omega)) only [f_X5_debts, md_gR2, md_ld2, Option.bind_some, Option.map_some, sw_eq, sw_ne, u1_eq, u1_ne, u1_u1, sw_sw, i2_of, if_pos, if_neg, true_or, or_true, if_true, if_false]
theorem m_isPerson {p : Int} (hG : G32 s) (h1 : i2 p = p) (h2 : 0 ≤ s 2 152) : f_X5_isPerson E (some m) p (mdl m s h) = some (b01 (0 ≤ p ∧ p ≤ s 2 152 - 1), mdl m s h) := by
  have := hG.hi 2 152
  simp (disch := first | omega | assumption | exact hG _ _ | (refine i2_ofp ?_; omega)) only [f_X5_isPerson, md_ce, m_people, m_lies, b01_or, Option.bind_some, Option.map_some, sw_eq, sw_ne, u1_eq, u1_ne, u1_u1, sw_sw, i2_of, if_pos, if_neg, true_or, or_true, if_true, if_false]
theorem m_isDebt {p : Int} (hG : G32 s) (h1 : i2 p = p) (h2 : 0 ≤ s 2 71) : f_X5_isDebt E (some m) p (mdl m s h) = some (b01 (0 ≤ p ∧ p ≤ s 2 71 - 1), mdl m s h) := by
  have := hG.hi 2 71
  simp (disch := first | omega | assumption | exact hG _ _ | (refine i2_ofp ?_; omega)) only [f_X5_isDebt, md_ce, m_debts, m_lies, b01_or, Option.bind_some, Option.map_some, sw_eq, sw_ne, u1_eq, u1_ne, u1_u1, sw_sw, i2_of, if_pos, if_neg, true_or, or_true, if_true, if_false]
theorem m_placeOf {p w : Int} (h1 : i2 w = w) : f_X5_placeOf E p w h = some (if w = 0 then p else 73 + 2 * p + w - 1, h) := by
  unfold f_X5_placeOf
  rw [h1]
  split <;> simp
theorem m_isFact {w v : Int} (h1 : i2 w = w) (h2 : i2 v = v) : f_X5_isFact E w v h = some (b01 (if w = 0 then 0 ≤ v ∧ v ≤ 9999 else if w = 1 then 1 ≤ v ∧ v ≤ 3 else w = 2 ∧ 0 ≤ v ∧ v ≤ 99), h) := by
  have e1 : i2 1 = 1 := by decide
  have e2 : i2 2 = 2 := by decide
  simp (disch := first | omega | assumption | exact hG _ _ | (refine i2_ofp ?_; omega)) only [f_X5_isFact, f_X5_isFact_46, m_lies, m_isRoom, b01_or, b01_z, h1, e1, e2, Option.bind_some, Option.map_some, sw_eq, sw_ne, u1_eq, u1_ne, u1_u1, sw_sw, i2_of, if_pos, if_neg, true_or, or_true, if_true, if_false]
  by_cases a : w = 0
  · simp [a]
  · by_cases b : w = 1
    · simp [b]
    · by_cases c : w = 2
      · simp [c]
        by_cases d : 0 ≤ v ∧ v ≤ 99
        · simp [d, b01]
        · simp [d, b01]
      · simp [a, b, c, b01]
end
