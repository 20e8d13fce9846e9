/-! The tape: fed, cut -/
set_option maxRecDepth 100000
def byS (s : Sg) (v : Int) : Sg := sw (sw s 7 (u1 (s 7) (s 0 11) v)) 0 (u1 (s 0) 11 (s 0 11 + 1))
def fdS (s : Sg) (F : Nat → Int) : Nat → Sg
  | 0 => s
  | k + 1 => byS (fdS s F k) (F k)
def fiv (a b c d e : Int) (j : Nat) : Int := match j with
  | 0 => a
  | 1 => b
  | 2 => c
  | 3 => d
  | _ => e
def fdB (a b c d e : Int) (k : Nat) : Int := b2 (ax_shr (fiv a b c d e (k / 4)) (24 - 8 * ((k : Int) % 4)))
def feedS (s : Sg) (a b c d e : Int) : Int × Sg := if 400 < s 0 11 + 20 then (-1, s) else (s 0 11 + 20, fdS s (fdB a b c d e) 20)
def endS (s : Sg) (n : Int) : Int × Sg := if 0 ≤ n ∧ n ≤ s 0 11 then (n, sw s 0 (u1 (s 0) 11 n)) else (-1, s)
theorem b2_b2 (v : Int) : b2 (b2 v) = b2 v := b2_of (b2_lo v) (b2_hi v)
theorem fdS_11 (s : Sg) (F : Nat → Int) : ∀ k, fdS s F k 0 11 = s 0 11 + k := by
  intro k
  induction k with
  | zero => show s 0 11 = _; omega
  | succ k ih =>
    show byS (fdS s F k) (F k) 0 11 = _
    unfold byS
    rw [sw_eq, u1_eq, ih]
    omega
theorem fdS_eq (s : Sg) (F : Nat → Int) : ∀ k, fdS s F k = sw (sw s 7 (cpR (s 7) (s 0 11) (fun i => F i.toNat) k)) 0 (u1 (s 0) 11 (s 0 11 + k)) := by
  intro k
  induction k with
  | zero =>
    show s = _
    rw [show ((0 : Nat) : Int) = 0 from rfl, cpR_0, sw_self, Int.add_zero, u1_self, sw_self]
  | succ k ih =>
    show byS (fdS s F k) (F k) = _
    unfold byS
    rw [fdS_11, ih]
    have e : u1 (cpR (s 7) (s 0 11) (fun i => F i.toNat) k) (s 0 11 + k) (F k) = cpR (s 7) (s 0 11) (fun i => F i.toNat) ((k : Int) + 1) := by
      have := cpR_s (f := s 7) (a := s 0 11) (g := fun i => F i.toNat) (n := (k : Int)) (b := s 0 11 + k) (by omega) rfl
      rw [← this]
      rw [Int.toNat_natCast]
    have z7 : sw (sw s 7 (cpR (s 7) (s 0 11) (fun i => F i.toNat) k)) 0 (u1 (s 0) 11 (s 0 11 + k)) 7 = cpR (s 7) (s 0 11) (fun i => F i.toNat) k := by rw [sw_ne _ (by decide), sw_eq]
    rw [z7, e]
    funext o
    by_cases c0 : o = 0
    · subst c0
      simp only [sw_eq, u1_u1]
      congr 1
      omega
    · rw [sw_ne _ c0, sw_ne _ c0]
      by_cases c7 : o = 7
      · subst c7
        rw [sw_eq, sw_eq]
        rfl
      · rw [sw_ne _ c7, sw_ne _ c7, sw_ne _ c0, sw_ne _ c7]
section
variable {E : ax_E} {m : Nat} {s : Sg} {h : ax_H}
theorem m_end {n : Int} (hn : i2 n = n) (h0 : 0 ≤ s 0 11 ∧ s 0 11 ≤ 400) : f_X5_end E (some m) n (mdl m s h) = some ((endS s n).1, mdl m (endS s n).2 h) := by
  unfold f_X5_end endS
  rw [md_gI11, Option.bind_some, m_lies hn (by decide) (i2_of (by omega) (by omega)), Option.bind_some]
  by_cases c : 0 ≤ n ∧ n ≤ s 0 11
  · have p : ax_pI (mdl m s h) (some m) 5 11 n = some (mdl m (sw s 0 (u1 (s 0) 11 n)) h) := md_pI11
    rw [if_neg (by rw [b01_z]; exact fun z => z c), if_pos c]
    dsimp only
    rw [p, Option.bind_some]
  · rw [if_pos (by rw [b01_z]; exact c), if_neg c]
theorem m_feed {a b c d e : Int} (hG : G32 s) (h0 : 0 ≤ s 0 11 ∧ s 0 11 ≤ 400) (ha : i2 a = a) (hb : i2 b = b) (hc : i2 c = c) (hd : i2 d = d) (he : i2 e = e) : ∃ s', f_X5_feed E (some m) a b c d e (mdl m s h) = some ((feedS s a b c d e).1, mdl m s' h) ∧ Ew (feedS s a b c d e).2 s' := by
  unfold f_X5_feed f_X5_feed_55 feedS
  rw [md_gI11, Option.bind_some, show i2 400 = 400 by decide, i2_of (a := s 0 11 + 20) (by omega) (by omega)]
  by_cases c0 : 400 < s 0 11 + 20
  · rw [if_pos c0, if_pos c0]
    exact ⟨s, rfl, Ew.refl s⟩
  · rw [if_neg c0, if_neg c0]
    obtain ⟨s1, es1⟩ : ∃ s1, s1 = sw s 8 (u1 (u1 (u1 (u1 (u1 (s 8) 0 a) 1 b) 2 c) 3 d) 4 e) := ⟨_, rfl⟩
    have q1 : Ew s s1 := by rw [es1]; exact Ew_o (by unfold RpO; omega) (by decide) (u1_32 (u1_32 (u1_32 (u1_32 (u1_32 (hG 8) ha) hb) hc) hd) he)
    have e0 : s1 0 = s 0 := by rw [es1, sw_ne _ (by decide)]
    have e7 : s1 7 = s 7 := by rw [es1, sw_ne _ (by decide)]
    have v8 : ∀ k : Nat, k < 20 → s1 8 ((k : Int) / 4) = fiv a b c d e (k / 4) := by
      intro k hk
      rw [es1, sw_eq]
      have : k / 4 = 0 ∨ k / 4 = 1 ∨ k / 4 = 2 ∨ k / 4 = 3 ∨ k / 4 = 4 := by omega
      have ek : (k : Int) / 4 = ((k / 4 : Nat) : Int) := by omega
      rw [ek]
      rcases this with z | z | z | z | z <;> rw [z] <;> rfl
    have lp := it_traj (body := fun y : Int × ax_H => lb_X5_feed_55 E (some m) y.1 y.2) (fun k => ((k : Int), mdl m (sw s1 7 (cpR (s1 7) (s1 0 11) (fun i => fdB a b c d e i.toNat) k)) h)) 20 (r := (s 0 11 + 20, mdl m (sw (sw s1 7 (cpR (s1 7) (s1 0 11) (fun i => fdB a b c d e i.toNat) 20)) 0 (u1 (s1 0) 11 (s 0 11 + 20))) h)) ?_ ?_
    · have e9 : fdS s (fdB a b c d e) 20 = sw (sw s 7 (cpR (s 7) (s 0 11) (fun i => fdB a b c d e i.toNat) 20)) 0 (u1 (s 0) 11 (s 0 11 + 20)) := fdS_eq s _ 20
      have g7 : ∀ i, i2 (cpR (s 7) (s 0 11) (fun i => fdB a b c d e i.toNat) 20 i) = cpR (s 7) (s 0 11) (fun i => fdB a b c d e i.toNat) 20 i := cpR_32 (hG 7) (fun j => by
        have l1 := b2_lo (ax_shr (fiv a b c d e (j.toNat / 4)) (24 - 8 * ((j.toNat : Int) % 4)))
        have l2 := b2_hi (ax_shr (fiv a b c d e (j.toNat / 4)) (24 - 8 * ((j.toNat : Int) % 4)))
        exact i2_of (by show _ ≤ b2 _; omega) (by show b2 _ ≤ _; omega))
      refine ⟨sw (sw s1 7 (cpR (s1 7) (s1 0 11) (fun i => fdB a b c d e i.toNat) 20)) 0 (u1 (s1 0) 11 (s 0 11 + 20)), ?_, ?_⟩
      · rw [md_gR10, Option.bind_some, md_sto8 (by decide) (by decide), Option.bind_some, md_gR10, Option.bind_some, md_sto8 (by decide) (by decide), Option.bind_some, md_gR10, Option.bind_some, md_sto8 (by decide) (by decide), Option.bind_some, md_gR10, Option.bind_some, md_sto8 (by decide) (by decide), Option.bind_some, md_gR10, Option.bind_some, md_sto8 (by decide) (by decide), Option.bind_some]
        simp only [sw_eq, sw_sw]
        rw [← es1]
        have z0 : mdl m s1 h = mdl m (sw s1 7 (cpR (s1 7) (s1 0 11) (fun i => fdB a b c d e i.toNat) ((0 : Nat) : Int))) h := by rw [show ((0 : Nat) : Int) = 0 from rfl, cpR_0, sw_self]
        rw [z0]
        exact lp
      · show Ew (fdS s (fdB a b c d e) 20) _
        rw [e9, e7, e0]
        have w := Ew_sw (o := 7) q1 (by decide) (q1.2.2 hG) g7
        have w2 := Ew_u0 (k := 11) (v := s 0 11 + 20) w (G32_sw (q1.2.2 hG) g7) (i2_of (by omega) (by omega))
        rw [sw_ne _ (by decide), sw_ne _ (by decide), e0] at w2
        exact w2
    · intro k hk
      have t1 : (k : Int).tdiv 4 = (k : Int) / 4 := Int.tdiv_eq_ediv_of_nonneg (by omega)
      have t2 : (k : Int).tmod 4 = (k : Int) % 4 := Int.tmod_eq_emod_of_nonneg (by omega)
      simp only [lb_X5_feed_55]
      rw [i2_of (a := (k : Int)) (by omega) (by omega), show i2 20 = 20 by decide, if_pos (by omega), md_gR9, Option.bind_some, md_gI11, Option.bind_some, md_gR10, Option.bind_some, show i2 4 = 4 by decide, if_neg (by decide), t1, md_ld8 (by omega) (by omega), Option.bind_some, if_neg (by decide), t2, sw_ne _ (by decide), sw_ne _ (by decide), e0, md_sto7 (by omega) (by omega), Option.bind_some, v8 k hk, sw_eq, sw_sw, b2_b2]
      have cs := cpR_s (f := s1 7) (a := s 0 11) (g := fun i => fdB a b c d e i.toNat) (n := (k : Int)) (b := s 0 11 + k) (by omega) rfl
      rw [Int.toNat_natCast] at cs
      have ev : b2 (ax_shr (fiv a b c d e (k / 4)) (24 - 8 * ((k : Int) % 4))) = fdB a b c d e k := rfl
      rw [ev, cs]
      rfl
    · simp only [lb_X5_feed_55]
      have p : ax_pI (mdl m (sw s1 7 (cpR (s1 7) (s1 0 11) (fun i => fdB a b c d e i.toNat) ((20 : Nat) : Int))) h) (some m) 5 11 (s 0 11 + 20) = some (mdl m (sw (sw s1 7 (cpR (s1 7) (s1 0 11) (fun i => fdB a b c d e i.toNat) ((20 : Nat) : Int))) 0 (u1 ((sw s1 7 (cpR (s1 7) (s1 0 11) (fun i => fdB a b c d e i.toNat) ((20 : Nat) : Int))) 0) 11 (s 0 11 + 20))) h) := md_pI11
      rw [if_neg (by decide), md_gI11, Option.bind_some, sw_ne _ (by decide), e0]
      rw [sw_ne _ (by decide), e0] at p
      rw [p, Option.bind_some, md_gI11, Option.bind_some, sw_eq, u1_eq]
      rfl
end
