/-! Rows counted by sets -/
set_option maxRecDepth 100000
def rdF (n : Nat) (may : Nat → Nat → Bool) : Nat → Nat → Int
  | 0, _ => 0
  | f + 1, st => (if st = 2 ^ n - 1 then 1 else 0) + sm n (fun w => if may st w = true then rdF n may f (st ||| 2 ^ w) else 0)
/-- how many rows are still to come behind a set -/
def rdS (n : Nat) (may : Nat → Nat → Bool) (st : Nat) : Int := rdF n may 256 st
def lwF (p : Nat → Bool) : Nat → Nat → Nat
  | 0, w => w
  | j + 1, w => if p w = true then w else lwF p j (w + 1)
def grG (n : Nat) (may : Nat → Nat → Bool) (st w : Nat) : Bool := may st w && decide (rdS n may (st ||| 2 ^ w) ≠ 0)
/-- the first row behind a set, its j-th -/
def gre (n : Nat) (may : Nat → Nat → Bool) : Nat → Nat → Nat
  | 0, st => lwF (grG n may st) n 0
  | j + 1, st => gre n may j (st ||| 2 ^ lwF (grG n may st) n 0)
def sfx (g : Nat → Int) : Nat → Nat → Int
  | 0, _ => 0
  | j + 1, w => g w + sfx g j (w + 1)
theorem sm_sfx (g : Nat → Int) : ∀ (j w : Nat), sm (w + j) g = sm w g + sfx g j w := by
  intro j
  induction j with
  | zero => intro w; show sm w g = sm w g + 0; omega
  | succ j ih =>
    intro w
    have e := ih (w + 1)
    rw [show w + 1 + j = w + (j + 1) by omega] at e
    rw [e]
    show sm w g + g w + sfx g j (w + 1) = sm w g + (g w + sfx g j (w + 1))
    omega
theorem sfx_0 {g : Nat → Int} (h : ∀ w, 0 ≤ g w) : ∀ j w, 0 ≤ sfx g j w := by
  intro j
  induction j with
  | zero => intro w; exact Int.le_refl _
  | succ j ih => intro w; have := h w; have := ih (w + 1); show 0 ≤ g w + sfx g j (w + 1); omega
theorem tbit (st k : Nat) : st >>> k % 2 = 1 ↔ st.testBit k = true := by
  rw [Nat.testBit_eq_decide_div_mod_eq, decide_eq_true_eq, Nat.shiftRight_eq_div_pow]
theorem bit_or (st w k : Nat) : (st ||| 2 ^ w) >>> k % 2 = 1 ↔ (k = w ∨ st >>> k % 2 = 1) := by
  rw [tbit, tbit, Nat.testBit_or, Nat.testBit_two_pow, Bool.or_eq_true, decide_eq_true_eq]
  constructor
  · rintro (h | h)
    · exact Or.inr h
    · exact Or.inl h.symm
  · rintro (h | h)
    · exact Or.inr h.symm
    · exact Or.inl h
theorem or_gt {st w : Nat} (h : ¬ st >>> w % 2 = 1) : st < st ||| 2 ^ w := by
  have h1 : st ≤ st ||| 2 ^ w := Nat.left_le_or
  have h2 : (st ||| 2 ^ w) >>> w % 2 = 1 := (bit_or st w w).mpr (Or.inl rfl)
  have h3 : st ≠ st ||| 2 ^ w := fun e => by rw [← e] at h2; exact h h2
  omega
theorem or_lt {n st w : Nat} (h1 : st < 2 ^ n) (h2 : w < n) : st ||| 2 ^ w < 2 ^ n := Nat.or_lt_two_pow h1 (Nat.pow_lt_pow_right (by decide) h2)
theorem rdF_0 (n : Nat) (may : Nat → Nat → Bool) : ∀ f st, 0 ≤ rdF n may f st := by
  intro f
  induction f with
  | zero => intro st; exact Int.le_refl _
  | succ f ih =>
    intro st
    have h : 0 ≤ sm n (fun w => if may st w = true then rdF n may f (st ||| 2 ^ w) else 0) := by
      have := sm_ge (n := n) (f := fun w => if may st w = true then rdF n may f (st ||| 2 ^ w) else 0) (c := 0) (fun k _ => by have := ih (st ||| 2 ^ k); split <;> omega)
      omega
    unfold rdF
    split <;> omega
theorem rdF_s {n : Nat} {may : Nat → Nat → Bool} (hn : n ≤ 8) (hm : ∀ st w, may st w = true → ¬ st >>> w % 2 = 1) : ∀ f st, 256 ≤ f + st → st < 2 ^ n → rdF n may f st = rdF n may (f + 1) st := by
  have p8 : 2 ^ n ≤ 256 := Nat.pow_le_pow_right (show 0 < 2 by decide) hn
  intro f
  induction f with
  | zero => intro st h1 h2; omega
  | succ f ih =>
    intro st h1 h2
    unfold rdF
    congr 1
    refine sm_congr (fun w hw => ?_)
    by_cases c : may st w = true
    · rw [if_pos c, if_pos c]
      have := or_gt (hm st w c)
      exact ih _ (by omega) (or_lt h2 hw)
    · rw [if_neg c, if_neg c]
theorem rdS_eq {n : Nat} {may : Nat → Nat → Bool} (hn : n ≤ 8) (hm : ∀ st w, may st w = true → ¬ st >>> w % 2 = 1) {st : Nat} (h : st < 2 ^ n) : rdS n may st = (if st = 2 ^ n - 1 then 1 else 0) + sm n (fun w => if may st w = true then rdS n may (st ||| 2 ^ w) else 0) := by
  unfold rdS
  rw [rdF_s hn hm 256 st (by omega) h]
  rfl
theorem set_g1 : al7 (fun st => al7 (fun p => bitB st p || Nat.beq (onN (st ||| 2 ^ p)) (onN st + 1)) 8) 256 = true := by decide +kernel
theorem set_g2 : al7 (fun n => al7 (fun st => decide (2 ^ n ≤ st) || (Nat.beq (onN st) n == Nat.beq st (2 ^ n - 1))) 256) 9 = true := by decide +kernel
theorem set_g3 : al7 (fun st => decide (onN st ≤ 8)) 256 = true := by decide +kernel
theorem on_or {st p : Nat} (hs : st < 256) (hp : p < 8) (hb : ¬ st >>> p % 2 = 1) : ones16 (st ||| 2 ^ p) = ones16 st + 1 := by
  have h := al7_e _ (al7_e _ set_g1 st hs) p hp
  have hb' : bitB st p = false := by
    cases e : bitB st p with
    | false => rfl
    | true => exact absurd (bitB_iff.mp e) hb
  rw [hb'] at h
  rw [Bool.false_or] at h
  rw [← onN_eq, ← onN_eq]
  exact Nat.eq_of_beq_eq_true h
theorem on_all {n st : Nat} (hn : n ≤ 8) (h : st < 2 ^ n) : ones16 st = n ↔ st = 2 ^ n - 1 := by
  have p8 : 2 ^ n ≤ 256 := Nat.pow_le_pow_right (show 0 < 2 by decide) hn
  have q := al7_e _ (al7_e _ set_g2 n (by omega)) st (by omega)
  have z : decide (2 ^ n ≤ st) = false := decide_eq_false (by omega)
  rw [z, Bool.false_or] at q
  have q' : Nat.beq (onN st) n = Nat.beq st (2 ^ n - 1) := by simpa using q
  rw [← onN_eq]
  constructor
  · intro e
    rw [e, Nat.beq_refl] at q'
    exact Nat.eq_of_beq_eq_true q'.symm
  · intro e
    rw [← e, Nat.beq_refl] at q'
    exact Nat.eq_of_beq_eq_true q'
theorem on_8 {st : Nat} (h : st < 256) : ones16 st ≤ 8 := by
  have := al7_e _ set_g3 st h
  rw [decide_eq_true_eq, onN_eq] at this
  exact this
/-- a bound of how many -/
theorem rd_b {n : Nat} {may : Nat → Nat → Bool} (hn : n ≤ 8) (hm : ∀ st w, may st w = true → ¬ st >>> w % 2 = 1) : ∀ f st, st < 2 ^ n → rdF n may f st ≤ ((8 ^ (8 - ones16 st) : Nat) : Int) := by
  have p8 : 2 ^ n ≤ 256 := Nat.pow_le_pow_right (show 0 < 2 by decide) hn
  intro f
  induction f with
  | zero => intro st _; exact Int.natCast_nonneg _
  | succ f ih =>
    intro st h
    unfold rdF
    by_cases c : st = 2 ^ n - 1
    · rw [if_pos c]
      have z : sm n (fun w => if may st w = true then rdF n may f (st ||| 2 ^ w) else 0) = 0 := by
        refine sm_zero (fun w hw => if_neg (fun e => hm st w e ?_))
        rw [tbit, c]
        exact Nat.testBit_two_pow_sub_one n w ▸ decide_eq_true hw
      rw [z]
      have : 1 ≤ 8 ^ (8 - ones16 st) := Nat.one_le_pow _ _ (by decide)
      omega
    · rw [if_neg c]
      have ob := on_8 (st := st) (by omega)
      by_cases c8 : ones16 st = 8
      · have z : sm n (fun w => if may st w = true then rdF n may f (st ||| 2 ^ w) else 0) = 0 := by
          refine sm_zero (fun w hw => if_neg (fun e => ?_))
          have h1 := on_or (st := st) (p := w) (by omega) (by omega) (hm st w e)
          have h2 := on_8 (st := st ||| 2 ^ w) (by have := or_lt h hw; omega)
          omega
        rw [z]
        have := Int.natCast_nonneg (8 ^ (8 - ones16 st))
        omega
      · have s := sm_le (n := n) (f := fun w => if may st w = true then rdF n may f (st ||| 2 ^ w) else 0) (c := ((8 ^ (7 - ones16 st) : Nat) : Int)) (fun w hw => by
          by_cases e : may st w = true
          · rw [if_pos e]
            have q := ih (st ||| 2 ^ w) (or_lt h hw)
            rw [on_or (by omega) (by omega) (hm st w e), show 8 - (ones16 st + 1) = 7 - ones16 st by omega] at q
            exact q
          · rw [if_neg e]
            exact Int.natCast_nonneg _)
        have t : (n : Int) * ((8 ^ (7 - ones16 st) : Nat) : Int) ≤ ((8 ^ (8 - ones16 st) : Nat) : Int) := by
          have e : 8 ^ (8 - ones16 st) = 8 ^ (7 - ones16 st) * 8 := by rw [← Nat.pow_succ, show (7 - ones16 st).succ = 8 - ones16 st by omega]
          rw [e, Nat.mul_comm, ← Int.natCast_mul]
          exact Int.ofNat_le.mpr (Nat.mul_le_mul_right _ hn)
        omega
theorem rdS_b {n : Nat} {may : Nat → Nat → Bool} (hn : n ≤ 8) (hm : ∀ st w, may st w = true → ¬ st >>> w % 2 = 1) {st : Nat} (h : st < 2 ^ n) : 0 ≤ rdS n may st ∧ rdS n may st ≤ 16777216 := by
  refine ⟨rdF_0 n may 256 st, Int.le_trans (rd_b hn hm 256 st h) ?_⟩
  have : 8 ^ (8 - ones16 st) ≤ 8 ^ 8 := Nat.pow_le_pow_right (by decide) (by omega)
  have e : (8 : Nat) ^ 8 = 16777216 := by decide
  omega
/-- what goes through the rows counts them, and finds the first -/
def DpR (n : Nat) (R : Int) (k : Nat) (row : Nat → Int) (G : Nat → Nat) (A B : PA) : Prop := B.1 = A.1 + R ∧ (A.1 ≠ 0 ∨ R = 0 → B.2 = A.2) ∧ (A.1 = 0 → R ≠ 0 → ∀ j, j < n → B.2 j = if j < k then row j else (G (j - k) : Int))
theorem dp_main {d : Rw → Nat → Option Rw} {n : Nat} {may : Nat → Nat → Bool} {Pd : Nat → Rw → Prop} (hn : n ≤ 8) (hm : ∀ st w, may st w = true → ¬ st >>> w % 2 = 1) (h1 : ∀ used K w, used < 2 ^ n → Pd used K → w < n → may used w = true → ∃ K', d K w = some K' ∧ Pd (used ||| 2 ^ w) K') (h2 : ∀ used K w, used < 2 ^ n → Pd used K → w < n → ¬ used >>> w % 2 = 1 → ¬ may used w = true → d K w = none) : ∀ (f k used : Nat) (row : Nat → Int) (K : Rw) (A : PA), n + 1 ≤ f + k → ones16 used = k → used < 2 ^ n → Pd used K → 0 ≤ A.1 → DpR n (rdS n may used) k row (fun j => gre n may j used) A (rowsT n d f k used row K A) := by
  have p8 : 2 ^ n ≤ 256 := Nat.pow_le_pow_right (show 0 < 2 by decide) hn
  have r0 : ∀ st, 0 ≤ rdS n may st := fun st => rdF_0 n may 256 st
  intro f
  induction f with
  | zero =>
    intro k used row K A hf hk hu _ _
    exfalso
    have q := on_all hn hu
    have : ones16 used ≤ n := by
      rw [← onN_eq]
      have b := al7_e _ (al7_e _ (show al7 (fun n => al7 (fun st => decide (2 ^ n ≤ st) || decide (onN st ≤ n)) 256) 9 = true by decide +kernel) n (by omega)) used (by omega)
      have z : decide (2 ^ n ≤ used) = false := decide_eq_false (by omega)
      rw [z, Bool.false_or, decide_eq_true_eq] at b
      exact b
    omega
  | succ f ih =>
    intro k used row K A hf hk hu hP hA
    unfold rowsT
    by_cases c : k = n
    · rw [if_pos c]
      have ea : used = 2 ^ n - 1 := (on_all hn hu).mp (by omega)
      have e1 : rdS n may used = 1 := by
        rw [rdS_eq hn hm hu, if_pos ea, sm_zero (fun w hw => if_neg (fun e => hm used w e ?_))]
        · rfl
        · rw [tbit, ea]
          exact Nat.testBit_two_pow_sub_one n w ▸ decide_eq_true hw
      rw [e1]
      refine ⟨rfl, fun z => ?_, fun z _ j hj => ?_⟩
      · show (if A.1 = 0 then row else A.2) = A.2
        rw [if_neg (by omega)]
      · show (if A.1 = 0 then row else A.2) j = _
        rw [if_pos z, if_pos (by omega)]
    · rw [if_neg c]
      obtain ⟨g, eg⟩ : ∃ g : Nat → Int, g = fun w => if may used w = true then rdS n may (used ||| 2 ^ w) else 0 := ⟨_, rfl⟩
      have g0 : ∀ w, 0 ≤ g w := fun w => by rw [eg]; dsimp only; have := r0 (used ||| 2 ^ w); split <;> omega
      have eR : rdS n may used = sfx g n 0 := by
        have q := sm_sfx g n 0
        rw [Nat.zero_add] at q
        rw [rdS_eq hn hm hu, if_neg (fun e => c (by rw [← hk]; exact (on_all hn hu).mpr e)), ← eg, q]
        show 0 + (0 + sfx g n 0) = _
        omega
      have loop : ∀ (j w : Nat) (A : PA), w + j = n → 0 ≤ A.1 → DpR n (sfx g j w) k row (fun i => match i with
          | 0 => lwF (grG n may used) j w
          | i + 1 => gre n may i (used ||| 2 ^ lwF (grG n may used) j w)) A (runF (rwF d (rowsT n d f) k used row K) id j w A) := by
        intro j
        induction j with
        | zero =>
          intro w A _ hA
          exact ⟨by show A.1 = A.1 + 0; omega, fun _ => rfl, fun _ z => absurd rfl z⟩
        | succ j ihj =>
          intro w A hw hA
          -- a step that does nothing
          have skip : rwF d (rowsT n d f) k used row K A w = .inl A → grG n may used w = false → g w = 0 → DpR n (sfx g (j + 1) w) k row (fun i => match i with
            | 0 => lwF (grG n may used) (j + 1) w
            | i + 1 => gre n may i (used ||| 2 ^ lwF (grG n may used) (j + 1) w)) A (runF (rwF d (rowsT n d f) k used row K) id (j + 1) w A) := by
            intro e1 e2 e3
            have s1 : sfx g (j + 1) w = sfx g j (w + 1) := by show g w + _ = _; omega
            have s2 : lwF (grG n may used) (j + 1) w = lwF (grG n may used) j (w + 1) := by
              show (if grG n may used w = true then w else _) = _
              rw [if_neg (by rw [e2]; exact Bool.false_ne_true)]
            rw [runF_l e1, s1, s2]
            exact ihj (w + 1) A (by omega) hA
          by_cases b1 : used >>> w % 2 = 1
          · have m1 : ¬ may used w = true := fun e => hm used w e b1
            refine skip (by unfold rwF; rw [if_pos b1]) ?_ (by rw [eg]; exact if_neg m1)
            unfold grG
            rw [Bool.eq_false_iff.mpr m1, Bool.false_and]
          · by_cases m1 : may used w = true
            · obtain ⟨K', e1, e2⟩ := h1 used K w hu hP (by omega) m1
              obtain ⟨q1, q2, q3⟩ := ih (k + 1) (used ||| 2 ^ w) (rbU row k w) K' A (by omega) (by rw [on_or (by omega) (by omega) b1, hk]) (or_lt hu (by omega)) e2 hA
              have gw : g w = rdS n may (used ||| 2 ^ w) := by rw [eg]; exact if_pos m1
              have e3 : rwF d (rowsT n d f) k used row K A w = .inl (rowsT n d f (k + 1) (used ||| 2 ^ w) (rbU row k w) K' A) := by unfold rwF; rw [if_neg b1, e1]
              obtain ⟨A', eA⟩ : ∃ A', A' = rowsT n d f (k + 1) (used ||| 2 ^ w) (rbU row k w) K' A := ⟨_, rfl⟩
              rw [← eA] at q1 q2 q3 e3
              have rr := r0 (used ||| 2 ^ w)
              have ss := sfx_0 g0 j (w + 1)
              obtain ⟨t1, t2, t3⟩ := ihj (w + 1) A' (by omega) (by omega)
              rw [runF_l e3]
              have s1 : sfx g (j + 1) w = rdS n may (used ||| 2 ^ w) + sfx g j (w + 1) := by rw [← gw]; rfl
              rw [s1]
              refine ⟨by rw [t1, q1]; omega, fun z => ?_, fun z1 z2 i hi => ?_⟩
              · rcases z with z | z
                · rw [t2 (Or.inl (by omega)), q2 (Or.inl z)]
                · rw [t2 (Or.inr (by omega)), q2 (Or.inr (by omega))]
              · by_cases cr : rdS n may (used ||| 2 ^ w) = 0
                · have s2 : lwF (grG n may used) (j + 1) w = lwF (grG n may used) j (w + 1) := by
                    show (if grG n may used w = true then w else _) = _
                    rw [if_neg]
                    unfold grG
                    rw [cr]
                    simp
                  rw [s2]
                  exact t3 (by omega) (by omega) i hi
                · have s2 : lwF (grG n may used) (j + 1) w = w := by
                    show (if grG n may used w = true then w else _) = _
                    rw [if_pos]
                    unfold grG
                    rw [m1, decide_eq_true cr]
                    rfl
                  rw [s2, t2 (Or.inl (by omega)), q3 z1 cr i hi]
                  by_cases ci : i < k
                  · rw [if_pos (by omega), if_pos ci]
                    unfold rbU
                    rw [if_neg (by omega)]
                  · by_cases ck : i = k
                    · subst ck
                      rw [if_pos (by omega), if_neg ci, Nat.sub_self]
                      unfold rbU
                      rw [if_pos rfl]
                    · rw [if_neg (by omega), if_neg ci]
                      obtain ⟨z, ez⟩ : ∃ z, i - k = z + 1 := ⟨i - k - 1, by omega⟩
                      rw [ez, show i - (k + 1) = z by omega]
            · refine skip (by unfold rwF; rw [if_neg b1, h2 used K w hu hP (by omega) b1 m1]) ?_ (by rw [eg]; exact if_neg m1)
              unfold grG
              rw [Bool.eq_false_iff.mpr m1, Bool.false_and]
      obtain ⟨u1', u2', u3'⟩ := loop n 0 A (by omega) hA
      rw [← eR] at u1' u2' u3'
      refine ⟨u1', u2', fun z1 z2 j hj => ?_⟩
      rw [u3' z1 z2 j hj]
      by_cases cj : j < k
      · rw [if_pos cj, if_pos cj]
      · rw [if_neg cj, if_neg cj]
        cases j - k with
        | zero => rfl
        | succ i => rfl
