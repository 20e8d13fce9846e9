/-! Bans, parties -/
set_option maxRecDepth 100000
theorem runF_l {A R : Type} {f : A → Nat → A ⊕ R} {fin : A → R} {n k : Nat} {a a' : A} (h : f a k = .inl a') : runF f fin (n + 1) k a = runF f fin n (k + 1) a' := by
  show (match f a k with | .inl a' => runF f fin n (k + 1) a' | .inr r => r) = _
  rw [h]
theorem runF_r {A R : Type} {f : A → Nat → A ⊕ R} {fin : A → R} {n k : Nat} {a : A} {r : R} (h : f a k = .inr r) : runF f fin (n + 1) k a = r := by
  show (match f a k with | .inl a' => runF f fin n (k + 1) a' | .inr r => r) = _
  rw [h]
theorem find_b (p : Int → Bool) : ∀ (n : Nat) (x : Int), findF p n x = -1 ∨ (x ≤ findF p n x ∧ findF p n x < x + n) := by
  intro n
  induction n with
  | zero => intro x; exact Or.inl rfl
  | succ n ih =>
    intro x
    unfold findF
    by_cases c : p x = true
    · rw [if_pos c]; right; omega
    · rw [if_neg c]
      rcases ih (x + 1) with z | z
      · exact Or.inl z
      · right; omega
theorem need_b (K : Rw) (vi ho room : Int) : needS K vi ho room = -1 ∨ (0 ≤ needS K vi ho room ∧ needS K vi ho room ≤ 999) := by
  rcases find_b (fun x => decide (room ≤ deepByS K ho vi (owed K ho vi + x) (owed K vi ho))) 1000 0 with z | z
  · exact Or.inl z
  · right; unfold needS; omega
theorem shut_b {n : Int} {K : Rw} (H : RV n K) (ow vi room : Int) : shutS K ow vi room = -1 ∨ (0 ≤ shutS K ow vi room ∧ shutS K ow vi room ≤ 159984) := by
  have b := owed_b H ow vi
  rcases find_b (fun x => decide (deepByS K ow vi (owed K ow vi - x) (owed K vi ow) < room)) (owed K ow vi + 1).toNat 0 with z | z
  · exact Or.inl z
  · right; unfold shutS; omega
def banF (K : Rw) (p : Int) (a : Int) (k : Nat) : Int ⊕ Int := if (k : Int) = p then .inl a else if shutS K k p 1 = -1 then .inr (-1) else .inl (a + shutS K k p 1)
def banP (s : Sg) (p : Int) : Int := if 0 ≤ p ∧ p ≤ s 2 152 - 1 then runF (banF (s 2) p) id (s 2 152).toNat 0 0 else -1
section
variable {E : ax_E} {m : Nat} {s : Sg} {h : ax_H}
theorem m_ban {p : Int} (hG : G32 s) (hK : KB (s 2)) (hL : LsV (s 2)) (hp : i2 p = p) : ∃ s', f_X5_ban E (some m) p (mdl m s h) = some (banP s p, mdl m s' h) ∧ Es s s' := by
  have hn := hK.1
  unfold f_X5_ban f_X5_ban_14 banP
  rw [md_ce, Option.bind_some, m_isPerson hG hp hn.1, Option.bind_some]
  by_cases c : 0 ≤ p ∧ p ≤ s 2 152 - 1
  · rw [if_neg (by rw [b01_z]; simp [c]), if_pos c]
    obtain ⟨g', ⟨s', rfl, q⟩, e1⟩ := it_run (body := fun st : Int × Int × ax_H => lb_X5_ban_14 E (some m) p st.1 st.2.1 st.2.2) (fun a (k : Nat) g => (a, (k : Int), g)) (fun r g => (r, g)) (Q := MdE m s h) (V := fun k a => 0 ≤ a ∧ a ≤ 200000 * k) (f := banF (s 2) p) (fin := id) (s 2 152).toNat (by
      rintro k a _ hk hv ⟨s1, rfl, q1⟩
      have hk2 := q1.k
      simp only [lb_X5_ban_14, f_X5_ban_52]
      rw [md_ce, Option.bind_some, m_people, Option.bind_some, hk2]
      dsimp only
      rw [i2_of (a := (k : Int)) (by omega) (by omega), i2_of (a := s 2 152) (by omega) (by omega), if_pos (by omega), hp]
      by_cases c1 : (k : Int) = p
      · exact ⟨_, ⟨s1, rfl, q1⟩, Or.inl ⟨a, by unfold banF; rw [if_pos c1], by omega, by rw [if_pos c1]; rfl⟩⟩
      · obtain ⟨s2, e2, q2⟩ := m_shutBy (E := E) (m := m) (h := h) (ow := (k : Int)) (vi := p) (room := 1) (q1.2.2 hG) (by rw [hk2]; exact hK) (by rw [hk2]; exact hL) (by rw [hk2]; omega) (by rw [hk2]; omega) (by decide)
        have sb := shut_b hK.2.2.2.2 k p 1
        rw [hk2] at e2
        refine ⟨_, ⟨s2, rfl, q1.trans q2⟩, ?_⟩
        rw [if_neg c1, md_ce, Option.bind_some, e2, Option.bind_some]
        dsimp only
        rw [i2_of (a := shutS (s 2) k p 1) (by omega) (by omega), show i2 (-1) = -1 by decide]
        by_cases c2 : shutS (s 2) k p 1 = -1
        · exact Or.inr ⟨-1, by unfold banF; rw [if_neg c1, if_pos c2], by rw [if_pos c2]; rfl⟩
        · exact Or.inl ⟨a + shutS (s 2) k p 1, by unfold banF; rw [if_neg c1, if_neg c2], by omega, by rw [if_neg c2]; rfl⟩) (by
      rintro a _ hv ⟨s1, rfl, q1⟩
      have hk2 := q1.k
      refine ⟨_, ⟨s1, rfl, q1⟩, ?_⟩
      simp only [lb_X5_ban_14]
      rw [md_ce, Option.bind_some, m_people, Option.bind_some, hk2]
      dsimp only
      rw [i2_of (by omega) (by omega), i2_of (a := s 2 152) (by omega) (by omega), if_neg (by omega)]
      rfl) (s 2 152).toNat 0 0 (mdl m s h) (by omega) (by omega) ⟨s, rfl, Es.refl s⟩
    exact ⟨s', e1, q⟩
  · rw [if_pos (by rw [b01_z]; exact c), if_neg c]
    exact ⟨s, rfl, Es.refl s⟩
end
section
variable {E : ax_E} {h : ax_H} {x t dl dv ds du : Nat} {s : Sg}
/-- how many people, as the street has it -/
theorem c_ppl (H : REP E h x t dl dv ds du s) : ax_gR E h (some x) 0 0 = some (some t) ∧ ax_gI E h (some t) 1 6 = some (s 2 152) := by
  refine ⟨?_, ?_⟩
  · rw [f_gR H.2.1.1 (by decide), H.2.1.2.1]
  · rw [f_gI H.tt.1 (by decide), H.2.2.2.2.1.2.1.1]
theorem c_ban {p : Int} (H : REP E h x t dl dv ds du s) (hG : G32 s) (hK : KB (s 2)) (hp : i2 p = p) : ∃ h', f_X0_ban E (some x) p h = some (banP s p, h') ∧ REP E h' x t dl dv ds du s ∧ Blk x 8 110 h h' := by
  have hn := hK.1
  have a1 := H.2.1.1
  unfold f_X0_ban f_X0_ban_14 banP
  rw [f_ce a1 (by decide), Option.bind_some, c_isPerson H hK hp, Option.bind_some]
  by_cases c : 0 ≤ p ∧ p ≤ s 2 152 - 1
  · rw [if_neg (by rw [b01_z]; simp [c]), if_pos c]
    obtain ⟨g', q, e1⟩ := it_run (body := fun st : Int × Int × ax_H => lb_X0_ban_14 E (some x) p st.1 st.2.1 st.2.2) (fun a (k : Nat) g => (a, (k : Int), g)) (fun r g => (r, g)) (Q := fun g => EvS x h g) (V := fun k a => 0 ≤ a ∧ a ≤ 200000 * k) (f := banF (s 2) p) (fin := id) (s 2 152).toNat (by
      rintro k a g hk hv q1
      have H1 := H.keep q1.1
      obtain ⟨y1, y2⟩ := c_ppl H1
      simp only [lb_X0_ban_14, f_X0_ban_41]
      rw [y1, Option.bind_some, y2, Option.bind_some]
      rw [i2_of (a := (k : Int)) (by omega) (by omega), i2_of (a := s 2 152) (by omega) (by omega), if_pos (by omega), hp]
      by_cases c1 : (k : Int) = p
      · exact ⟨_, q1, Or.inl ⟨a, by unfold banF; rw [if_pos c1], by omega, by rw [if_pos c1, if_neg (by decide)]; simp⟩⟩
      · obtain ⟨g2, e2, q2⟩ := c_shutOf (E := E) (ow := (k : Int)) (vi := p) (room := 1) H1 hG hK (by omega) (by omega) (by decide)
        have sb := shut_b hK.2.2.2.2 k p 1
        refine ⟨_, q1.trans q2, ?_⟩
        rw [if_neg c1, f_ce H1.2.1.1 (by decide), Option.bind_some, e2, Option.bind_some]
        dsimp only
        rw [i2_of (a := shutS (s 2) k p 1) (by omega) (by omega), show i2 (-1) = -1 by decide]
        by_cases c2 : shutS (s 2) k p 1 = -1
        · exact Or.inr ⟨-1, by unfold banF; rw [if_neg c1, if_pos c2], by rw [if_pos c2]; rfl⟩
        · exact Or.inl ⟨a + shutS (s 2) k p 1, by unfold banF; rw [if_neg c1, if_neg c2], by omega, by rw [if_neg c2]; rfl⟩) (by
      rintro a g hv q1
      have H1 := H.keep q1.1
      obtain ⟨y1, y2⟩ := c_ppl H1
      refine ⟨_, q1, ?_⟩
      simp only [lb_X0_ban_14]
      rw [y1, Option.bind_some, y2, Option.bind_some]
      rw [i2_of (by omega) (by omega), i2_of (a := s 2 152) (by omega) (by omega), if_neg (by omega)]
      rfl) (s 2 152).toNat 0 0 h (by omega) (by omega) (EvS.refl x h)
    exact ⟨g', e1, H.keep q.1, (q.blk H).up (by decide) (by decide)⟩
  · rw [if_pos (by rw [b01_z]; exact c), if_neg c]
    exact ⟨h, rfl, H, (Blk.refl x h).up (by decide) (by decide)⟩
end
/-! parties -/
def paF (K : Rw) (ho : Int) (a : Int) (k : Nat) : Int ⊕ Int := if (k : Int) = ho then .inl a else if needS K k ho 1 = -1 then .inr (-1) else .inl (a + needS K k ho 1)
def paS (K : Rw) (ho : Int) : Int := runF (paF K ho) id (K 152).toNat 0 0
/-- the best house, what it takes -/
def pyF (K : Rw) (o : Option (Int × Int)) (k : Nat) : Option (Int × Int) ⊕ Int := .inl (if paS K k = -1 then o else match o with
  | none => some ((k : Int), paS K k)
  | some (b, l) => if paS K k < l then some ((k : Int), paS K k) else some (b, l))
def pyE (w : Int) (o : Option (Int × Int)) : Int := match o with
  | none => -1
  | some (b, l) => if w = 0 then b else l
def partyP (s : Sg) (w : Int) : Int := if 0 ≤ w ∧ w ≤ 1 then runF (pyF (s 2)) (pyE w) (s 2 152).toNat 0 none else -1
def py1 (o : Option (Int × Int)) : Int := match o with
  | none => -1
  | some (b, _) => b
def py2 (f : Int) (o : Option (Int × Int)) : Int := match o with
  | none => f
  | some (_, l) => l
theorem pa_b (K : Rw) (ho : Int) : ∀ (j k : Nat) (a : Int), 0 ≤ a → a ≤ 999 * k → runF (paF K ho) id j k a = -1 ∨ (0 ≤ runF (paF K ho) id j k a ∧ runF (paF K ho) id j k a ≤ 999 * (k + j)) := by
  intro j
  induction j with
  | zero => intro k a h0 h1; right; show 0 ≤ a ∧ a ≤ _; omega
  | succ j ih =>
    intro k a h0 h1
    have nb := need_b K k ho 1
    by_cases c1 : (k : Int) = ho
    · rw [runF_l (a' := a) (by unfold paF; rw [if_pos c1])]
      have := ih (k + 1) a h0 (by omega)
      omega
    · by_cases c2 : needS K k ho 1 = -1
      · rw [runF_r (r := -1) (by unfold paF; rw [if_neg c1, if_pos c2])]
        exact Or.inl rfl
      · rw [runF_l (a' := a + needS K k ho 1) (by unfold paF; rw [if_neg c1, if_neg c2])]
        have := ih (k + 1) (a + needS K k ho 1) (by omega) (by omega)
        omega
/-- the model goes on to the next turn before it ends -/
def paG (K : Rw) (ho : Int) (a : Option Int) (k : Nat) : Option Int ⊕ Int := match a with
  | none => .inr (-1)
  | some a => if (k : Int) = ho then .inl (some a) else if needS K k ho 1 = -1 then .inl none else .inl (some (a + needS K k ho 1))
theorem pa_G (K : Rw) (ho : Int) : ∀ (j k : Nat) (a : Int), runF (paG K ho) (fun o => o.getD (-1)) j k (some a) = runF (paF K ho) id j k a := by
  intro j
  induction j with
  | zero => intro k a; rfl
  | succ j ih =>
    intro k a
    by_cases c1 : (k : Int) = ho
    · rw [runF_l (f := paF K ho) (a' := a) (by unfold paF; rw [if_pos c1]), runF_l (f := paG K ho) (a' := some a) (by show (if (k : Int) = ho then _ else _) = _; rw [if_pos c1])]
      exact ih _ _
    · by_cases c2 : needS K k ho 1 = -1
      · rw [runF_r (f := paF K ho) (r := -1) (by unfold paF; rw [if_neg c1, if_pos c2]), runF_l (f := paG K ho) (a' := none) (by show (if (k : Int) = ho then _ else _) = _; rw [if_neg c1, if_pos c2])]
        cases j with
        | zero => rfl
        | succ j => rfl
      · rw [runF_l (f := paF K ho) (a' := a + needS K k ho 1) (by unfold paF; rw [if_neg c1, if_neg c2]), runF_l (f := paG K ho) (a' := some (a + needS K k ho 1)) (by show (if (k : Int) = ho then _ else _) = _; rw [if_neg c1, if_neg c2])]
        exact ih _ _
