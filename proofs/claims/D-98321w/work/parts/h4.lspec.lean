/-! Lendings: what is meant -/
set_option maxRecDepth 100000
def alk (K : Rw) (v o : Nat) : Bool := decide (K (87 + 4 * (v : Int)) = K (87 + 4 * (o : Int)) ∧ K (87 + 4 * (v : Int) + 1) = K (87 + 4 * (o : Int) + 1))
/-- whether a visit is the first of its kind; the deepest room of its kind -/
def dpF (K : Rw) (v : Nat) (a : Int × Int) (o : Nat) : Int × Int := if alk K v o = true then ((if a.1 = 0 then 0 else if o < v then 0 else 1), max a.2 (K (87 + 4 * (o : Int) + 2))) else a
def dpS (K : Rw) (v : Nat) : Int × Int := foldN (dpF K v) (K 153).toNat (1, 0)
def deS (K : Rw) (v : Nat) : Int := if (dpS K v).1 = 0 then -1 else (dpS K v).2
/-- what must be lent: how many, how much, by which visits -/
abbrev LsE : Type := Nat × (Nat → Int) × (Nat → Int)
def needV (K : Rw) (v : Nat) : Int := needS K (K (87 + 4 * (v : Int))) (K (87 + 4 * (v : Int) + 1)) (dpS K v).2
def lsF (K : Rw) (a : LsE) (v : Nat) : LsE ⊕ Option LsE := if (dpS K v).1 = 0 then .inl a else if needV K v = -1 then .inr none else if needV K v = 0 then .inl a else .inl (a.1 + 1, rbU a.2.1 a.1 (needV K v), rbU a.2.2 a.1 v)
def leS (K : Rw) : Option LsE := runF (lsF K) some (K 153).toNat 0 (0, (fun _ => 0), (fun _ => 0))
def leV (K : Rw) (v : Nat) (a : LsE) : Prop := a.1 ≤ v ∧ ∀ j, j < a.1 → (1 ≤ a.2.1 j ∧ a.2.1 j ≤ 999) ∧ (0 ≤ a.2.2 j ∧ a.2.2 j < v)
theorem lsF_V {K : Rw} {v : Nat} {a a' : LsE} (H : leV K v a) (e : lsF K a v = .inl a') : leV K (v + 1) a' := by
  obtain ⟨h1, h2⟩ := H
  have same : leV K (v + 1) a := ⟨by omega, fun j hj => by have := h2 j hj; omega⟩
  unfold lsF at e
  split at e
  · rw [← Sum.inl.inj e]; exact same
  · split at e
    · cases e
    · split at e
      · rw [← Sum.inl.inj e]; exact same
      · rename_i c1 c2
        rw [← Sum.inl.inj e]
        have nb := need_b K (K (87 + 4 * (v : Int))) (K (87 + 4 * (v : Int) + 1)) (dpS K v).2
        have nb' : needV K v = -1 ∨ (0 ≤ needV K v ∧ needV K v ≤ 999) := nb
        refine ⟨by dsimp only; omega, fun j hj => ?_⟩
        dsimp only at hj ⊢
        unfold rbU
        by_cases c : j = a.1
        · rw [if_pos c, if_pos c]; omega
        · rw [if_neg c, if_neg c]
          have := h2 j (by omega)
          omega
theorem leS_V {K : Rw} {a : LsE} (h8 : 0 ≤ K 153) (e : leS K = some a) : leV K (K 153).toNat a := by
  have key : ∀ (j v : Nat) (b : LsE), v + j = (K 153).toNat → leV K v b → ∀ a, runF (lsF K) some j v b = some a → leV K (K 153).toNat a := by
    intro j
    induction j with
    | zero =>
      intro v b e1 hb a ea
      have : v = (K 153).toNat := by omega
      subst this
      rw [← Option.some.inj ea]
      exact hb
    | succ j ih =>
      intro v b e1 hb a ea
      cases es : lsF K b v with
      | inl b' =>
        rw [runF_l es] at ea
        exact ih (v + 1) b' (by omega) (lsF_V hb es) a ea
      | inr r =>
        rw [runF_r es] at ea
        unfold lsF at es
        split at es
        · cases es
        · split at es
          · rw [← Sum.inr.inj es] at ea; cases ea
          · split at es <;> cases es
  exact key _ 0 _ (by omega) ⟨Nat.le_refl _, fun j hj => absurd hj (Nat.not_lt_zero j)⟩ a e
/-- who lends, who takes -/
def lrS (K0 : Rw) (a : LsE) (w : Nat) : Int := K0 (87 + 4 * a.2.2 w)
def tkS (K0 : Rw) (a : LsE) (w : Nat) : Int := K0 (87 + 4 * a.2.2 w + 1)
def lendD (K0 : Rw) (a : LsE) (K : Rw) (w : Nat) : Option Rw := if a.2.1 w ≤ K (lrS K0 a w) ∧ K (tkS K0 a w) + a.2.1 w ≤ 9999 then some (payS K (lrS K0 a w) (tkS K0 a w) (a.2.1 w)) else none
/-- a purse behind a set of lendings -/
def prF (K0 : Rw) (a : LsE) (p : Int) (st : Nat) (k : Nat) : Int := if st >>> k % 2 = 1 then (if tkS K0 a k = p then a.2.1 k else if lrS K0 a k = p then - a.2.1 k else 0) else 0
def prS (K0 : Rw) (a : LsE) (p : Int) (st : Nat) : Int := K0 p + sm a.1 (prF K0 a p st)
def mayS (K0 : Rw) (a : LsE) (st w : Nat) : Bool := decide (¬ st >>> w % 2 = 1 ∧ a.2.1 w ≤ prS K0 a (lrS K0 a w) st ∧ prS K0 a (tkS K0 a w) st + a.2.1 w ≤ 9999)
theorem sm_at {f g : Nat → Int} {w : Nat} (h : ∀ k, k ≠ w → f k = g k) : ∀ n, w < n → sm n f = sm n g + (f w - g w) := by
  intro n
  induction n with
  | zero => intro hw; omega
  | succ n ih =>
    intro hw
    show sm n f + f n = sm n g + g n + (f w - g w)
    by_cases c : w = n
    · subst c
      rw [sm_congr (fun k hk => h k (by omega))]
      omega
    · rw [ih (by omega), h n (by omega)]
      omega
theorem prS_or {K0 : Rw} {a : LsE} {p : Int} {st w : Nat} (hw : w < a.1) (hb : ¬ st >>> w % 2 = 1) : prS K0 a p (st ||| 2 ^ w) = prS K0 a p st + (if tkS K0 a w = p then a.2.1 w else if lrS K0 a w = p then - a.2.1 w else 0) := by
  have e := sm_at (f := prF K0 a p (st ||| 2 ^ w)) (g := prF K0 a p st) (w := w) (fun k hk => by
    unfold prF
    have q := bit_or st w k
    by_cases c : st >>> k % 2 = 1
    · rw [if_pos c, if_pos (q.mpr (Or.inr c))]
    · rw [if_neg c, if_neg (fun z => (q.mp z).elim hk c)]) a.1 hw
  unfold prS
  rw [e]
  have e1 : prF K0 a p (st ||| 2 ^ w) w = (if tkS K0 a w = p then a.2.1 w else if lrS K0 a w = p then - a.2.1 w else 0) := if_pos ((bit_or st w w).mpr (Or.inl rfl))
  have e2 : prF K0 a p st w = 0 := if_neg hb
  rw [e1, e2]
  omega
/-- purses behind a set -/
def PdL (K0 : Rw) (a : LsE) (used : Nat) (K : Rw) : Prop := ∀ p : Int, 0 ≤ p → p < 7 → K p = prS K0 a p used
theorem PdL_0 (K0 : Rw) (a : LsE) : PdL K0 a 0 K0 := by
  intro p _ _
  unfold prS
  have z : sm a.1 (prF K0 a p 0) = 0 := sm_zero (fun k _ => if_neg (by rw [Nat.zero_shiftRight]; decide))
  omega
theorem PdL_pay {K0 K : Rw} {a : LsE} {used w : Nat} (hw : w < a.1) (hg : 0 ≤ lrS K0 a w ∧ lrS K0 a w < 7) (ht : 0 ≤ tkS K0 a w ∧ tkS K0 a w < 7) (hne : lrS K0 a w ≠ tkS K0 a w) (hb : ¬ used >>> w % 2 = 1) (P : PdL K0 a used K) : PdL K0 a (used ||| 2 ^ w) (payS K (lrS K0 a w) (tkS K0 a w) (a.2.1 w)) := by
  intro p p0 p1
  rw [prS_or hw hb, ← P p p0 p1]
  unfold payS
  by_cases c1 : tkS K0 a w = p
  · rw [if_pos c1, c1, u1_eq, u1_ne _ (by omega)]
  · rw [if_neg c1, u1_ne _ (fun z => c1 z.symm)]
    by_cases c2 : lrS K0 a w = p
    · rw [if_pos c2, c2, u1_eq]; omega
    · rw [if_neg c2, u1_ne _ (fun z => c2 z.symm)]; omega
theorem mayS_b {K0 : Rw} {a : LsE} (st w : Nat) (h : mayS K0 a st w = true) : ¬ st >>> w % 2 = 1 := (of_decide_eq_true h).1
def lendR (K0 : Rw) (a : LsE) : PA := rowsT a.1 (lendD K0 a) 64 0 0 (fun _ => 0) K0 (0, fun _ => 0)
/-- the rows of lendings, by sets -/
theorem lend_dp {K0 : Rw} {a : LsE} (h8 : a.1 ≤ 8) (hv : ∀ w, w < a.1 → (0 ≤ lrS K0 a w ∧ lrS K0 a w < 7) ∧ (0 ≤ tkS K0 a w ∧ tkS K0 a w < 7) ∧ lrS K0 a w ≠ tkS K0 a w) : (lendR K0 a).1 = rdS a.1 (mayS K0 a) 0 ∧ (rdS a.1 (mayS K0 a) 0 ≠ 0 → ∀ j, j < a.1 → (lendR K0 a).2 j = (gre a.1 (mayS K0 a) j 0 : Int)) := by
  have q := dp_main (d := lendD K0 a) (n := a.1) (may := mayS K0 a) (Pd := PdL K0 a) h8 (fun st w h => mayS_b st w h) (fun used K w hu hP hw hm => by
    obtain ⟨m1, m2, m3⟩ := of_decide_eq_true hm
    obtain ⟨v1, v2, v3⟩ := hv w hw
    refine ⟨_, ?_, PdL_pay hw v1 v2 v3 m1 hP⟩
    unfold lendD
    rw [if_pos]
    rw [hP _ v1.1 v1.2, hP _ v2.1 v2.2]
    exact ⟨m2, m3⟩) (fun used K w hu hP hw hb hm => by
    obtain ⟨v1, v2, v3⟩ := hv w hw
    unfold lendD
    rw [if_neg]
    rw [hP _ v1.1 v1.2, hP _ v2.1 v2.2]
    intro z
    exact hm (decide_eq_true ⟨hb, z.1, z.2⟩)) 64 0 0 (fun _ => 0) K0 (0, fun _ => 0) (by omega) (by decide) (Nat.two_pow_pos _) (PdL_0 K0 a) (by decide)
  obtain ⟨q1, -, q3⟩ := q
  refine ⟨?_, fun z j hj => ?_⟩
  · have z : (lendR K0 a).1 = 0 + rdS a.1 (mayS K0 a) 0 := q1
    omega
  · have z := q3 rfl z j hj
    rw [if_neg (Nat.not_lt_zero j), Nat.sub_zero] at z
    exact z
def lendP (s : Sg) (i : Int) : Int := match leS (s 2) with
  | none => -1
  | some a => if ¬ (0 ≤ i ∧ i ≤ 2 + (a.1 : Int)) then -1 else if i < 3 then (if i = 0 then (a.1 : Int) else if i = 1 then sm a.1 a.2.1 else rdS a.1 (mayS (s 2) a) 0) else if rdS a.1 (mayS (s 2) a) 0 = 0 then -1 else a.2.2 (gre a.1 (mayS (s 2) a) (i - 3).toNat 0)
