/-! Payments: what is meant; the model -/
set_option maxRecDepth 100000
theorem foldN_congr {A : Type} {f g : A → Nat → A} : ∀ (n : Nat) (a : A), (∀ k a, k < n → f a k = g a k) → foldN f n a = foldN g n a := by
  intro n
  induction n with
  | zero => intro a _; rfl
  | succ n ih =>
    intro a h
    show f (foldN f n a) n = g (foldN g n a) n
    rw [ih a (fun k b hk => h k b (by omega)), h n _ (by omega)]
def bitB (st k : Nat) : Bool := Nat.beq (Nat.mod (Nat.shiftRight st k) 2) 1
theorem bitB_iff {st k : Nat} : bitB st k = true ↔ st >>> k % 2 = 1 := by
  unfold bitB
  rw [Nat.beq_eq]
  exact Iff.rfl
/-- the balance of all in a set -/
def pyB (K : Rw) (st : Nat) : Int := sm (K 152).toNat (fun p => if st >>> p % 2 = 1 then balanceS K p else 0)
def pyM (G : Nat → Int) (st n : Nat) : Int := foldN (fun a p => if st >>> p % 2 = 1 then max a (G (st - 2 ^ p)) else a) n 0
def gF (K : Rw) : Nat → Nat → Int
  | 0, _ => 0
  | f + 1, st => if st = 0 then 0 else pyM (gF K f) st (K 152).toNat + (if pyB K st = 0 then 1 else 0)
def pyG (K : Rw) (st : Nat) : Int := gF K 128 st
def payP (s : Sg) : Int := s 2 152 - pyG (s 2) (2 ^ (s 2 152).toNat - 1)
theorem gF_eq (K : Rw) : ∀ (f f' st : Nat), st ≤ f → st ≤ f' → gF K f st = gF K f' st := by
  intro f
  induction f with
  | zero =>
    intro f' st h h'
    have : st = 0 := by omega
    subst this
    cases f' with
    | zero => rfl
    | succ f' => rfl
  | succ f ih =>
    intro f' st h h'
    cases f' with
    | zero =>
      have : st = 0 := by omega
      subst this
      rfl
    | succ f' =>
      unfold gF
      by_cases c : st = 0
      · rw [if_pos c, if_pos c]
      · rw [if_neg c, if_neg c]
        have e : pyM (gF K f) st (K 152).toNat = pyM (gF K f') st (K 152).toNat := by
          unfold pyM
          refine foldN_congr _ _ (fun k a hk => ?_)
          have h2 : 1 ≤ 2 ^ k := Nat.one_le_two_pow
          rw [ih f' (st - 2 ^ k) (by omega) (by omega)]
        rw [e]
theorem pyG_eq (K : Rw) {st : Nat} (h0 : st ≠ 0) (h : st ≤ 128) : pyG K st = pyM (pyG K) st (K 152).toNat + (if pyB K st = 0 then 1 else 0) := by
  have e1 : pyG K st = pyM (gF K 127) st (K 152).toNat + (if pyB K st = 0 then 1 else 0) := by
    unfold pyG
    show (if st = 0 then 0 else _) = _
    rw [if_neg h0]
  rw [e1]
  have e : pyM (gF K 127) st (K 152).toNat = pyM (pyG K) st (K 152).toNat := by
    unfold pyM
    refine foldN_congr _ _ (fun k a hk => ?_)
    have h2 : 1 ≤ 2 ^ k := Nat.one_le_two_pow
    unfold pyG
    rw [gF_eq K 127 128 (st - 2 ^ k) (by omega) (by omega)]
  rw [e]
theorem pyM_b {G : Nat → Int} {st : Nat} (hst : st ≠ 0) (hG : ∀ j, j < st → 0 ≤ G j ∧ G j ≤ j) : ∀ n, 0 ≤ pyM G st n ∧ pyM G st n ≤ st - 1 := by
  intro n
  induction n with
  | zero => exact ⟨Int.le_refl _, by show (0 : Int) ≤ (st : Int) - 1; omega⟩
  | succ n ih =>
    show 0 ≤ (if st >>> n % 2 = 1 then max (pyM G st n) (G (st - 2 ^ n)) else pyM G st n) ∧ (if st >>> n % 2 = 1 then max (pyM G st n) (G (st - 2 ^ n)) else pyM G st n) ≤ (st : Int) - 1
    have h2 : 1 ≤ 2 ^ n := Nat.one_le_two_pow
    have := hG (st - 2 ^ n) (by omega)
    split <;> omega
theorem pyG_b (K : Rw) : ∀ (st : Nat), st ≤ 128 → 0 ≤ pyG K st ∧ pyG K st ≤ st := by
  intro st
  induction st using Nat.strongRecOn with
  | ind st ih =>
    intro h
    by_cases c : st = 0
    · subst c; exact ⟨Int.le_refl _, Int.le_refl _⟩
    · have := pyM_b (G := pyG K) c (fun j hj => ih j hj (by omega)) (K 152).toNat
      rw [pyG_eq K c h]
      split <;> omega
/-! facts about sets of seven -/
def al7 (P : Nat → Bool) : Nat → Bool
  | 0 => true
  | n + 1 => P n && al7 P n
theorem al7_e {P : Nat → Bool} : ∀ n, al7 P n = true → ∀ k, k < n → P k = true := by
  intro n
  induction n with
  | zero => intro _ k hk; omega
  | succ n ih =>
    intro h k hk
    unfold al7 at h
    rw [Bool.and_eq_true] at h
    by_cases c : k = n
    · subst c; exact h.1
    · exact ih h.2 k (by omega)
theorem set_f1 : al7 (fun st => al7 (fun p => !bitB st p || (decide (ax_and (st : Int) (ax_xor (ax_shl 1 (p : Int)) (-1)) = ((st - 2 ^ p : Nat) : Int)) && decide (2 ^ p ≤ st) && al7 (fun k => Nat.beq (Nat.mod (Nat.shiftRight (st - 2 ^ p) k) 2) (if k = p then 0 else Nat.mod (Nat.shiftRight st k) 2)) 7)) 7) 128 = true := by decide +kernel
theorem set_bit {st p : Nat} (hs : st < 128) (hp : p < 7) (hb : st >>> p % 2 = 1) : ax_and (st : Int) (ax_xor (ax_shl 1 (p : Int)) (-1)) = ((st - 2 ^ p : Nat) : Int) ∧ 2 ^ p ≤ st ∧ ∀ k, k < 7 → (st - 2 ^ p) >>> k % 2 = if k = p then 0 else st >>> k % 2 := by
  have h := al7_e _ (al7_e _ set_f1 st hs) p hp
  have hb' : bitB st p = true := bitB_iff.mpr hb
  rw [hb'] at h
  simp only [Bool.not_true, Bool.false_or, Bool.and_eq_true, decide_eq_true_eq] at h
  refine ⟨h.1.1, h.1.2, fun k hk => ?_⟩
  have := al7_e _ h.2 k hk
  exact Nat.eq_of_beq_eq_true this
section
variable {E : ax_E} {m : Nat} {s : Sg} {h : ax_H}
theorem bal_b {n : Int} {K : Rw} (H : RV n K) (p : Int) : -159984 ≤ balanceS K p ∧ balanceS K p ≤ 159984 := by
  obtain ⟨a1, a2, a3, a4⟩ := H
  unfold balanceS
  have h1 := sm_ge (n := (K 71).toNat) (f := fun k => if K (7 + 4 * (k : Int) + 1) = p then K (7 + 4 * (k : Int) + 2) else if K (7 + 4 * (k : Int)) = p then - K (7 + 4 * (k : Int) + 2) else 0) (c := -9999) (fun k hk => by have := (a4 k (by omega) (by omega)).2.2.2.1; split; omega; split <;> omega)
  have h2 := sm_le (n := (K 71).toNat) (f := fun k => if K (7 + 4 * (k : Int) + 1) = p then K (7 + 4 * (k : Int) + 2) else if K (7 + 4 * (k : Int)) = p then - K (7 + 4 * (k : Int) + 2) else 0) (c := 9999) (fun k hk => by have := (a4 k (by omega) (by omega)).2.2.2.1; split; omega; split <;> omega)
  omega
theorem pyB_b {K : Rw} (hK : KB K) (st : Nat) : ∀ n, n ≤ (K 152).toNat → -2000000 ≤ sm n (fun p => if st >>> p % 2 = 1 then balanceS K p else 0) ∧ sm n (fun p => if st >>> p % 2 = 1 then balanceS K p else 0) ≤ 2000000 := by
  intro n hn
  have h7 := hK.1
  have h1 := sm_ge (n := n) (f := fun p => if st >>> p % 2 = 1 then balanceS K (p : Int) else 0) (c := -159984) (fun k hk => by have := bal_b hK.2.2.2.2 k; split <;> omega)
  have h2 := sm_le (n := n) (f := fun p => if st >>> p % 2 = 1 then balanceS K (p : Int) else 0) (c := 159984) (fun k hk => by have := bal_b hK.2.2.2.2 k; split <;> omega)
  omega
/-- the model while it gathers groups -/
def PyI (m : Nat) (s : Sg) (h : ax_H) (n : Nat) (g : ax_H) : Prop := ∃ s', g = mdl m s' h ∧ Ew s s' ∧ ∀ j : Nat, j < n → s' 27 j = pyG (s 2) j
theorem m_pyIn {x2 : Int} {st : Nat} {g : ax_H} (hG : G32 s) (hK : KB (s 2)) (h0 : st ≠ 0) (hst : st < 2 ^ (s 2 152).toNat) (hI : PyI m s h st g) : ∃ g', lb_X5_payments_45 E (some m) (s 2 152) x2 st g = some (.inl ((st : Int) + 1, g')) ∧ PyI m s h (st + 1) g' := by
  have h71 := hK.2.2.2.2.1
  have hn := hK.1
  have pw : 2 ^ (s 2 152).toNat ≤ 128 := Nat.pow_le_pow_right (by decide) (show (s 2 152).toNat ≤ 7 by omega)
  have pe : Hid (i2 (ax_shl 1 (s 2 152)) = ((2 ^ (s 2 152).toNat : Nat) : Int)) := by
    show i2 (ax_shl 1 (s 2 152)) = ((2 ^ (s 2 152).toNat : Nat) : Int)
    have e : s 2 152 = (((s 2 152).toNat : Nat) : Int) := by omega
    rw [e, shl1 (by omega), Int.toNat_natCast]
    exact i2_of (by omega) (by omega)
  obtain ⟨s1, rfl, q1, p1⟩ := hI
  have hk2 := q1.k
  have hG1 := q1.2.2 hG
  obtain ⟨g', w1, w2⟩ := it_runI (body := fun y : Int × Int × ax_H => lb_X5_payments_65 E (some m) (s 2 152) x2 st y.1 y.2.1 y.2.2) (fun (a : Int) (k : Nat) g => (a, (k : Int), g)) (fun (_ : Int) g => Sum.inl ((st : Int) + 1, g)) (I := fun k a g => a = sm k (fun p => if st >>> p % 2 = 1 then balanceS (s 2) p else 0) ∧ ∃ s', g = mdl m s' h ∧ Ew s s' ∧ (∀ j : Nat, j < st → s' 27 j = pyG (s 2) j) ∧ s' 27 st = pyM (pyG (s 2)) st k) (P := fun _ g => PyI m s h (st + 1) g) (f := fun a k => (.inl (a + if st >>> k % 2 = 1 then balanceS (s 2) k else 0) : Int ⊕ Int)) (fin := id) (s 2 152).toNat (by
      rintro k a _ hk ⟨ha, s2, rfl, q2, p2, v2⟩
      have hk3 := q2.k
      have hG2 := q2.2.2 hG
      have f1 : ∀ g : ax_H, f_X5_isIn E (st : Int) (k : Int) g = some (b01 (st >>> k % 2 = 1), g) := fun g => m_isIn (by omega) (by omega)
      have bb := pyB_b hK st k (by omega)
      by_cases c : st >>> k % 2 = 1
      · obtain ⟨b1, b2, b3⟩ := set_bit (st := st) (p := k) (by omega) (by omega) c
        have h2 : 1 ≤ 2 ^ k := Nat.one_le_two_pow
        have mb := pyM_b (G := pyG (s 2)) h0 (fun j hj => pyG_b (s 2) j (by omega)) k
        have gb := pyG_b (s 2) (st - 2 ^ k) (by omega)
        have bo : f_X5_balanceOf E (some m) (k : Int) (mdl m s2 h) = some (balanceS (s 2) k, mdl m s2 h) := by
          have := m_balanceOf (E := E) (m := m) (h := h) (p := (k : Int)) hG2 (by rw [hk3]; exact h71.1) (by rw [hk3]; exact h71.2) (i2_of (by omega) (by omega))
          rw [hk3] at this
          exact this
        have st27 : ∀ v : Int, ax_sto (mdl m s2 h) (some (m + 27)) 100 (st : Int) v = some (mdl m (sw s2 27 (u1 (s2 27) st v)) h) := fun v => md_sto27 (by omega) (by omega)
        have eM : pyM (pyG (s 2)) st (k + 1) = max (pyM (pyG (s 2)) st k) (pyG (s 2) (st - 2 ^ k)) := by
          show (if st >>> k % 2 = 1 then _ else _) = _
          rw [if_pos c]
          rfl
        have v3 : s2 27 ((st - 2 ^ k : Nat) : Int) = pyG (s 2) (st - 2 ^ k) := p2 _ (by omega)
        refine ⟨mdl m (sw s2 27 (u1 (s2 27) st (max (pyM (pyG (s 2)) st k) (pyG (s 2) (st - 2 ^ k))))) h, Or.inl ⟨_, rfl, ⟨by rw [ha]; rfl, _, rfl, q2.trans (Ew_u (by unfold RpO; omega) (by decide) hG2 (i2_of (by omega) (by omega))), fun j hj => ?_, ?_⟩, ?_⟩⟩
        · rw [sw_eq, u1_ne _ (by omega)]; exact p2 j hj
        · rw [sw_eq, u1_eq, eM]
        · simp only [lb_X5_payments_65, f_X5_payments_136, f_X5_payments_137]
          rw [i2_of (a := (k : Int)) (by omega) (by omega), i2_of (a := s 2 152) (by omega) (by omega), if_pos (by omega), f1, Option.bind_some]
          dsimp only
          rw [if_neg (by rw [b01_z]; exact fun z => z c), md_ce, Option.bind_some, bo, Option.bind_some]
          dsimp only
          rw [md_gR46, Option.bind_some, b1, md_ld27 (by omega) (by omega), Option.bind_some, Option.bind_some, Option.bind_some, md_ld27 (by omega) (by omega), Option.bind_some, v2, v3, i2_of (a := pyM (pyG (s 2)) st k) (by omega) (by omega), i2_of (a := pyG (s 2) (st - 2 ^ k)) (by omega) (by omega), if_pos c]
          by_cases c2 : pyM (pyG (s 2)) st k < pyG (s 2) (st - 2 ^ k)
          · rw [if_pos c2, st27, Option.bind_some, Int.max_eq_right (by omega)]
            simp
          · rw [if_neg c2, Option.bind_some, md_ld27 (by omega) (by omega), Option.bind_some, v2, st27, Option.bind_some, Int.max_eq_left (by omega)]
            simp
      · refine ⟨_, Or.inl ⟨_, rfl, ⟨by rw [ha]; rfl, s2, rfl, q2, p2, ?_⟩, ?_⟩⟩
        · rw [v2]
          show _ = (if st >>> k % 2 = 1 then _ else _)
          rw [if_neg c]
          rfl
        · simp only [lb_X5_payments_65, f_X5_payments_137]
          rw [i2_of (a := (k : Int)) (by omega) (by omega), i2_of (a := s 2 152) (by omega) (by omega), if_pos (by omega), f1, Option.bind_some]
          dsimp only
          rw [if_pos (by rw [b01_z]; exact c), if_neg c]
          simp) (by
      rintro a _ ⟨ha, s2, rfl, q2, p2, v2⟩
      have hG2 := q2.2.2 hG
      have ea : a = pyB (s 2) st := ha
      have bb := pyB_b hK st (s 2 152).toNat (Nat.le_refl _)
      have mb := pyM_b (G := pyG (s 2)) h0 (fun j hj => pyG_b (s 2) j (by omega)) (s 2 152).toNat
      have st27 : ∀ v : Int, ax_sto (mdl m s2 h) (some (m + 27)) 100 (st : Int) v = some (mdl m (sw s2 27 (u1 (s2 27) st v)) h) := fun v => md_sto27 (by omega) (by omega)
      have ge := pyG_eq (s 2) h0 (by omega)
      have gb := pyG_b (s 2) st (by omega)
      have ib : i2 a = a := by rw [ha]; exact i2_of (by omega) (by omega)
      refine ⟨mdl m (sw s2 27 (u1 (s2 27) st (pyG (s 2) st))) h, ⟨_, rfl, q2.trans (Ew_u (by unfold RpO; omega) (by decide) hG2 (i2_of (by omega) (by omega))), fun j hj => ?_⟩, ?_⟩
      · rw [sw_eq]
        by_cases cj : j = st
        · subst cj; rw [u1_eq]
        · rw [u1_ne _ (by omega)]; exact p2 j (by omega)
      · simp only [lb_X5_payments_65, f_X5_payments_160]
        rw [i2_of (a := (((s 2 152).toNat : Nat) : Int)) (by omega) (by omega), i2_of (a := s 2 152) (by omega) (by omega), if_neg (by omega), md_gR46, Option.bind_some, md_ld27 (by omega) (by omega), Option.bind_some, v2, ib, ea]
        by_cases c2 : pyB (s 2) st = 0
        · rw [if_pos c2] at ge
          rw [if_pos c2, st27, Option.bind_some, ge]
          rfl
        · rw [if_neg c2] at ge
          rw [if_neg c2, st27, Option.bind_some, ge]
          rfl) (s 2 152).toNat 0 0 (mdl m (sw s1 27 (u1 (s1 27) st 0)) h) (by omega) ⟨rfl, _, rfl, q1.trans (Ew_u (by unfold RpO; omega) (by decide) hG1 (by decide)), fun j hj => by rw [sw_eq, u1_ne _ (by omega)]; exact p1 j hj, by rw [sw_eq, u1_eq]; rfl⟩
  refine ⟨g', ?_, w1⟩
  have st27 : ax_sto (mdl m s1 h) (some (m + 27)) 100 (st : Int) 0 = some (mdl m (sw s1 27 (u1 (s1 27) st 0)) h) := md_sto27 (by omega) (by omega)
  unfold lb_X5_payments_45 f_X5_payments_65
  rw [i2_of (a := (st : Int)) (by omega) (by omega), pe.out, if_pos (by omega), md_gR46, Option.bind_some, st27, Option.bind_some]
  exact w2
theorem m_payments (hG : G32 s) (hK : KB (s 2)) : ∃ s', f_X5_payments E (some m) (mdl m s h) = some (payP s, mdl m s' h) ∧ Ew s s' := by
  have h71 := hK.2.2.2.2.1
  have hn := hK.1
  have pw : 2 ^ (s 2 152).toNat ≤ 128 := Nat.pow_le_pow_right (by decide) (show (s 2 152).toNat ≤ 7 by omega)
  have pw1 : 1 ≤ 2 ^ (s 2 152).toNat := Nat.one_le_two_pow
  have ps : Hid (ax_shl 1 (s 2 152) = ((2 ^ (s 2 152).toNat : Nat) : Int)) := by
    show ax_shl 1 (s 2 152) = ((2 ^ (s 2 152).toNat : Nat) : Int)
    have e : s 2 152 = (((s 2 152).toNat : Nat) : Int) := by omega
    rw [e, shl1 (by omega), Int.toNat_natCast]
  have pk : Hid (i2 ((2 ^ (s 2 152).toNat : Nat) : Int) = ((2 ^ (s 2 152).toNat : Nat) : Int)) := i2_of (by omega) (by omega)
  unfold f_X5_payments f_X5_payments_9
  rw [md_ce, Option.bind_some, m_people, Option.bind_some]
  obtain ⟨g', w1, w2⟩ := it_runI (body := fun y : Int × Int × ax_H => lb_X5_payments_9 E (some m) (s 2 152) y.1 y.2.1 y.2.2) (fun (a : Int) (k : Nat) g => (a, (k : Int), g)) (fun (_ : Int) g => (payP s, g)) (I := fun k a g => g = mdl m s h ∧ 0 ≤ a ∧ a ≤ k) (P := fun _ g => ∃ s', g = mdl m s' h ∧ Ew s s') (f := fun a k => (.inl (a + if balanceS (s 2) k = 0 then 0 else 1) : Int ⊕ Int)) (fin := id) (s 2 152).toNat (by
      rintro k a _ hk ⟨rfl, ha⟩
      have bo := m_balanceOf (E := E) (m := m) (h := h) (p := (k : Int)) hG h71.1 h71.2 (i2_of (by omega) (by omega))
      have bb := bal_b hK.2.2.2.2 k
      refine ⟨_, Or.inl ⟨_, rfl, ⟨rfl, by split <;> omega⟩, ?_⟩⟩
      simp only [lb_X5_payments_9, f_X5_payments_28]
      rw [i2_of (a := (k : Int)) (by omega) (by omega), i2_of (a := s 2 152) (by omega) (by omega), if_pos (by omega), md_ce, Option.bind_some, bo, Option.bind_some]
      dsimp only
      rw [i2_of (a := balanceS _ _) (by omega) (by omega)]
      by_cases c : balanceS (s 2) k = 0
      · rw [if_pos c, if_pos c]; simp
      · rw [if_neg c, if_neg c]; simp) (by
      rintro a _ ⟨rfl, ha⟩
      have st27 : ax_sto (mdl m s h) (some (m + 27)) 100 0 0 = some (mdl m (sw s 27 (u1 (s 27) 0 0)) h) := md_sto27 (by omega) (by omega)
      obtain ⟨g', v1, v2⟩ := it_runI (body := fun y : Int × ax_H => lb_X5_payments_45 E (some m) (s 2 152) a y.1 y.2) (fun (_ : Unit) (k : Nat) g => ((k : Int), g)) (fun (_ : Unit) g => (payP s, g)) (I := fun k _ g => 1 ≤ k ∧ PyI m s h k g) (P := fun _ g => ∃ s', g = mdl m s' h ∧ Ew s s') (f := fun _ _ => (.inl () : Unit ⊕ Unit)) (fin := id) (2 ^ (s 2 152).toNat) (by
          rintro k _ g hk ⟨k1, hI⟩
          obtain ⟨g2, y1, y2⟩ := m_pyIn (E := E) (x2 := a) (st := k) hG hK (by omega) hk hI
          exact ⟨g2, Or.inl ⟨(), rfl, ⟨by omega, y2⟩, y1⟩⟩) (by
          rintro _ g ⟨k1, hI⟩
          obtain ⟨s1, rfl, q1, p1⟩ := hI
          refine ⟨_, ⟨s1, rfl, q1⟩, ?_⟩
          simp only [lb_X5_payments_45]
          rw [ps.out, pk.out, if_neg (Int.lt_irrefl _), md_gR46, Option.bind_some, show ((2 ^ (s 2 152).toNat : Nat) : Int) - 1 = ((2 ^ (s 2 152).toNat - 1 : Nat) : Int) by omega, md_ld27 (by omega) (by omega), Option.bind_some, p1 _ (by omega)]
          unfold payP
          rw [show a - (pyG (s 2) (2 ^ (s 2 152).toNat - 1) - (s 2 152 - a)) = s 2 152 - pyG (s 2) (2 ^ (s 2 152).toNat - 1) by omega]
          rfl) (2 ^ (s 2 152).toNat - 1) 1 () (mdl m (sw s 27 (u1 (s 27) 0 0)) h) (by omega) ⟨by omega, _, rfl, Ew_u (by unfold RpO; omega) (by decide) hG (by decide), fun j hj => by
            have : j = 0 := by omega
            subst this
            rw [sw_eq]
            exact u1_eq _ _ _⟩
      refine ⟨g', v1, ?_⟩
      simp only [lb_X5_payments_9, f_X5_payments_45]
      rw [i2_of (a := (((s 2 152).toNat : Nat) : Int)) (by omega) (by omega), i2_of (a := s 2 152) (by omega) (by omega), if_neg (by omega), md_gR46, Option.bind_some, st27, Option.bind_some]
      have w1' := congrArg (Option.map (Sum.inr (α := Int × Int × ax_H))) v2
      exact w1') (s 2 152).toNat 0 0 (mdl m s h) (by omega) ⟨rfl, by decide, by decide⟩
  obtain ⟨s', rfl, q⟩ := w1
  exact ⟨s', w2, q⟩
end
