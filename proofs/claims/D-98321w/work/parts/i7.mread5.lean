/-! The model reads: clauses, orders -/
set_option maxRecDepth 100000
/-- a step of reading -/
def RdS {α : Type} (m : Nat) (sb : Sg) (h : ax_H) (p : Rw) (N : Int) (g : ax_H → Option ax_H) (f : Int → Int → PR α) : Prop := (∀ i lv, 0 ≤ i → i ≤ N → 0 ≤ lv → lv ≤ 50 → (∃ g', g (mdl m (rds sb i lv (-1)) h) = some g' ∧ rdQ m sb h p N (f i lv) g') ∧ ∀ j lv' F, f i lv = .inr (j, lv', F) → i ≤ j ∧ j ≤ N ∧ lv ≤ lv' ∧ lv' ≤ 50) ∧ ∀ i lv b, i2 b = b → b ≠ -1 → g (mdl m (rds sb i lv b) h) = some (mdl m (rds sb i lv b) h)
def seqP {α β : Type} (f : Int → Int → PR α) (k : α → Int → Int → PR β) (i lv : Int) : PR β := match f i lv with
  | .inl t => .inl t
  | .inr (j, lv', F) => k F j lv'
def mustP (c : Rw) (k : Int) (i lv : Int) : PR Unit := if c i = k then .inr (i + 1, lv, ()) else .inl i
def retP {α : Type} (x : α) (i lv : Int) : PR α := .inr (i, lv, x)
section
variable {E : ax_E} {m : Nat} {h : ax_H} {sb : Sg} {c w p : Rw} {N o : Int} {α β : Type}
theorem RdS.congr {g g' : ax_H → Option ax_H} {f f' : Int → Int → PR α} (P : RdS m sb h p N g f) (e1 : ∀ s1 : Sg, g' (mdl m s1 h) = g (mdl m s1 h)) (e2 : ∀ i lv, f' i lv = f i lv) : RdS m sb h p N g' f' := by
  refine ⟨fun i lv i0 i1 l0 l1 => ?_, fun i lv b hb hn => ?_⟩
  · rw [e1, e2]; exact P.1 i lv i0 i1 l0 l1
  · rw [e1]; exact P.2 i lv b hb hn
theorem RdS.seq {g1 g2 : ax_H → Option ax_H} {f : Int → Int → PR α} {k : α → Int → Int → PR β} (R : RdB sb c w p N o) (P : RdS m sb h p N g1 f) (Q : ∀ F, RdS m sb h p N g2 (k F)) (hx : Nonempty α) : RdS m sb h p N (fun x => (g1 x).bind g2) (seqP f k) := by
  refine ⟨fun i lv i0 i1 l0 l1 => ?_, fun i lv b hb hn => ?_⟩
  · obtain ⟨⟨g', w1, w2⟩, w3⟩ := P.1 i lv i0 i1 l0 l1
    dsimp only
    rw [w1, Option.bind_some]
    unfold seqP
    cases hf : f i lv with
    | inl t =>
      rw [hf] at w2
      obtain ⟨t0, i', lv', b1, b2, e2⟩ := w2
      obtain ⟨y1, y2⟩ := p_ok R (i := t) t0.1 t0.2
      obtain ⟨x0⟩ := hx
      refine ⟨⟨g', ?_, t0, i', lv', b1, b2, e2⟩, fun j lv' F z => by cases z⟩
      rw [e2]
      exact (Q x0).2 i' lv' _ y1 y2
    | inr t =>
      obtain ⟨j, lv', F⟩ := t
      rw [hf] at w2
      have e2 : g' = mdl m (rds sb j lv' (-1)) h := w2
      obtain ⟨x1, x2, x3, x4⟩ := w3 j lv' F hf
      obtain ⟨⟨g3, y1, y2⟩, y3⟩ := (Q F).1 j lv' (by omega) x2 (by omega) x4
      refine ⟨⟨g3, by rw [e2]; exact y1, y2⟩, fun j' lv2 F' z => ?_⟩
      have := y3 j' lv2 F' z
      omega
  · obtain ⟨x0⟩ := hx
    dsimp only
    rw [P.2 i lv b hb hn, Option.bind_some]
    exact (Q x0).2 i lv b hb hn
theorem RdN.s {g : Option Nat → Int → ax_H → Option ax_H} {deep : Int} {f : Int → Int → PR α} (P : RdN m sb h p N g deep f) : RdS m sb h p N (fun x => g (some m) deep x) f := by
  refine ⟨fun i lv i0 i1 l0 l1 => ?_, P.2⟩
  obtain ⟨a, b⟩ := P.1 i lv i0 i1 l0 l1
  exact ⟨a, fun j lv' F z => by have := b j lv' F z; omega⟩
theorem RdS.must (R : RdB sb c w p N o) {k : Int} (hk : i2 k = k) (h0 : k ≠ 0) : RdS m sb h p N (fun x => f_X5_must E (some m) k x) (mustP c k) := by
  refine ⟨fun i lv i0 i1 l0 l1 => ?_, fun i lv b hb hn => m_mustB hb hn⟩
  dsimp only
  rw [m_must R i0 i1 hk]
  unfold mustP
  by_cases e : c i = k
  · have hl := c_lt R (i := i) (by omega)
    rw [if_pos e, if_pos e]
    exact ⟨⟨_, rfl, rfl⟩, fun j lv' F z => by cases z; omega⟩
  · rw [if_neg e, if_neg e]
    have := R.1
    exact ⟨⟨_, rfl, ⟨i0, i1⟩, i, lv, by omega, by omega, rfl⟩, fun j lv' F z => by cases z⟩
theorem RdS.ret {x : α} : RdS m sb h p N (fun y => some y) (retP x) := ⟨fun i lv i0 i1 l0 l1 => ⟨⟨_, rfl, rfl⟩, fun j lv' F z => by cases z; omega⟩, fun i lv b _ _ => rfl⟩
theorem m_rSum0 (R : RdB sb c w p N o) : RdS m sb h p N (fun x => fn_X5_readSum E 64 (some m) 0 x) (pS o c w 8) := (m_rSum R 8 64 (by decide) (by decide)).s
theorem m_rTest0 (R : RdB sb c w p N o) : RdS m sb h p N (fun x => fn_X5_readTest E 64 (some m) 0 x) (pT o c w 8) := (m_rTest R 8 64 (by decide) (by decide)).s
theorem m_rIf (R : RdB sb c w p N o) : RdS m sb h p N (fun x => f_X5_readClause_37 E (some m) x) (pIf o c w) := by
  have T := m_rTest0 (E := E) (m := m) (h := h) R
  refine ⟨fun i lv i0 i1 l0 l1 => ?_, fun i lv b hb hn => ?_⟩
  · have run : f_X5_readClause_37 E (some m) (mdl m (rds sb i lv (-1)) h) = if c i = 5 then fn_X5_readTest E 64 (some m) 0 (mdl m (rds sb (i + 1) lv (-1)) h) else some (mdl m (rds sb i lv (-1)) h) := by
      unfold f_X5_readClause_37
      rw [md_ce, Option.bind_some, m_takes R i0 i1 (by decide), Option.bind_some]
      by_cases e : c i = 5
      · rw [if_pos e, if_pos e]
        dsimp only
        rw [if_neg (by decide), md_ce, Option.bind_some]
        cases fn_X5_readTest E 64 (some m) 0 (mdl m (rds sb (i + 1) lv (-1)) h) <;> rfl
      · rw [if_neg e, if_neg e]
        dsimp only
        rw [if_pos (by decide)]
    dsimp only
    rw [run]
    unfold pIf
    by_cases e : c i = 5
    · have hl := c_lt R (i := i) (by omega)
      rw [if_pos e, if_pos e]
      obtain ⟨a, b⟩ := T.1 (i + 1) lv (by omega) (by omega) l0 l1
      exact ⟨a, fun j lv' F z => by have := b j lv' F z; omega⟩
    · rw [if_neg e, if_neg e]
      exact ⟨⟨_, rfl, rfl⟩, fun j lv' F z => by cases z; omega⟩
  · dsimp only
    unfold f_X5_readClause_37
    rw [md_ce, Option.bind_some, m_takesB hb hn, Option.bind_some]
    dsimp only
    rw [if_pos (by decide)]
theorem m_rIf2 (R : RdB sb c w p N o) : RdS m sb h p N (fun x => f_X5_readOrder_70 E (some m) x) (pIf o c w) := (m_rIf (E := E) R).congr (fun s1 => rfl) (fun _ _ => rfl)
/-- what is behind an act: how often, the test -/
theorem m_rTimes (R : RdB sb c w p N o) : RdS m sb h p N (fun x => f_X5_readOrder_54 E (some m) x) (seqP (fun i lv => match pTimes c w i with | .inl t => .inl t | .inr (j, n) => .inr (j, lv, n) : Int → Int → PR Int) (fun n => seqP (pIf o c w) (fun G => retP (n, G)))) := by
  have I := m_rIf2 (E := E) (m := m) (h := h) R
  refine ⟨fun i lv i0 i1 l0 l1 => ?_, fun i lv b hb hn => ?_⟩
  · have fin : ∀ (n i : Int), 0 ≤ i → i ≤ N → (∃ g', f_X5_readOrder_70 E (some m) (mdl m (rds sb i lv (-1)) h) = some g' ∧ rdQ m sb h p N (seqP (pIf o c w) (fun G => retP (n, G)) i lv) g') ∧ ∀ j lv' F, seqP (pIf o c w) (fun G => retP (n, G)) i lv = .inr (j, lv', F) → i ≤ j ∧ j ≤ N ∧ lv ≤ lv' ∧ lv' ≤ 50 := by
      intro n i i0 i1
      obtain ⟨⟨g', w1, w2⟩, w3⟩ := I.1 i lv i0 i1 l0 l1
      unfold seqP
      cases hf : pIf o c w i lv with
      | inl t => rw [hf] at w2; exact ⟨⟨g', w1, w2⟩, fun j lv' F z => by cases z⟩
      | inr t =>
        obtain ⟨j, lv', F⟩ := t
        rw [hf] at w2
        have := w3 j lv' F hf
        exact ⟨⟨g', w1, w2⟩, fun j lv' F z => by cases z; exact this⟩
    dsimp only
    unfold f_X5_readOrder_54
    rw [md_ce, Option.bind_some, m_takes R i0 i1 (by decide), Option.bind_some]
    have eqT : seqP (fun i lv => match pTimes c w i with | .inl t => .inl t | .inr (j, n) => .inr (j, lv, n) : Int → Int → PR Int) (fun n => seqP (pIf o c w) (fun G => retP (n, G))) i lv = match pTimes c w i with | .inl t => .inl t | .inr (j, n) => seqP (pIf o c w) (fun G => retP (n, G)) j lv := by
      rw [seqP]
      cases pTimes c w i with
      | inl t => rfl
      | inr t => rfl
    rw [eqT]
    unfold pTimes
    by_cases e : c i = 29
    · have hl := c_lt R (i := i) (by omega)
      rw [if_pos e, if_pos e]
      dsimp only
      rw [if_neg (by decide), md_ce, Option.bind_some, m_num R (show 0 ≤ i + 1 by omega) (by omega) (by decide) (by decide), Option.bind_some]
      by_cases e2 : c (i + 1) = 50 ∧ 1 ≤ w (i + 1) ∧ w (i + 1) ≤ 20
      · have hl2 := c_lt R (i := i + 1) (by omega)
        rw [if_pos e2, if_pos e2, show i + 1 + 1 = i + 2 by omega]
        obtain ⟨a, b⟩ := fin (w (i + 1)) (i + 2) (by omega) (by omega)
        exact ⟨a, fun j lv' F z => by have := b j lv' F z; omega⟩
      · rw [if_neg e2, if_neg e2]
        obtain ⟨y1, y2⟩ := p_ok R (i := i + 1) (by omega) (by omega)
        have := R.1
        exact ⟨⟨_, I.2 (i + 1) lv (p (i + 1)) y1 y2, ⟨by omega, by omega⟩, i + 1, lv, by omega, by omega, rfl⟩, fun j lv' F z => by cases z⟩
    · rw [if_neg e, if_neg e]
      dsimp only
      rw [if_pos (by decide)]
      exact fin 1 i i0 i1
  · dsimp only
    unfold f_X5_readOrder_54
    rw [md_ce, Option.bind_some, m_takesB hb hn, Option.bind_some]
    dsimp only
    rw [if_pos (by decide)]
    exact I.2 i lv b hb hn
theorem m_rClause (R : RdB sb c w p N 0) : RdS m sb h p N (fun x => f_X5_readClause E (some m) x) (pClause c w) := by
  have I := m_rIf (E := E) (m := m) (h := h) R
  have S := m_rSum0 (E := E) (m := m) (h := h) R
  have eq24 : ∀ s1 : Sg, f_X5_readClause_24 E (some m) (mdl m s1 h) = (fn_X5_readSum E 64 (some m) 0 (mdl m s1 h)).bind fun x => f_X5_readClause_37 E (some m) x := fun s1 => by unfold f_X5_readClause_24; rw [md_ce, Option.bind_some]
  have P24 : ∀ hd : Int, RdS m sb h p N (fun x => f_X5_readClause_24 E (some m) x) (seqP (pS 0 c w 8) (fun F => seqP (pIf 0 c w) (fun G => retP (hd, F, G)))) := fun hd => by
    refine RdS.congr (RdS.seq R S (fun F => ?_) ⟨fun _ => none⟩) eq24 (fun _ _ => rfl)
    exact RdS.congr (RdS.seq R I (fun G => RdS.ret) ⟨fun _ => none⟩) (fun s1 => by cases f_X5_readClause_37 E (some m) (mdl m s1 h) <;> rfl) (fun _ _ => rfl)
  have P37 : RdS m sb h p N (fun x => f_X5_readClause_37 E (some m) x) (seqP (pIf 0 c w) (fun G => retP ((4 : Int), ((fun _ => some 1 : Dn)), G))) := RdS.congr (RdS.seq R I (fun G => RdS.ret) ⟨fun _ => none⟩) (fun s1 => by cases f_X5_readClause_37 E (some m) (mdl m s1 h) <;> rfl) (fun _ _ => rfl)
  refine ⟨fun i lv i0 i1 l0 l1 => ?_, fun i lv b hb hn => ?_⟩
  · have tk := fun k (hk : i2 k = k) => m_takes (E := E) (m := m) (h := h) (lv := lv) (k := k) R i0 i1 hk
    have go : (c i = 1 ∨ c i = 2 ∨ c i = 3) → (∃ g', f_X5_readClause_24 E (some m) (mdl m (rds sb (i + 1) lv (-1)) h) = some g' ∧ rdQ m sb h p N (pClause c w i lv) g') ∧ ∀ j lv' F, pClause c w i lv = .inr (j, lv', F) → i ≤ j ∧ j ≤ N ∧ lv ≤ lv' ∧ lv' ≤ 50 := by
      intro hc
      have hl := c_lt R (i := i) (by omega)
      have e : pClause c w i lv = seqP (pS 0 c w 8) (fun F => seqP (pIf 0 c w) (fun G => retP (c i, F, G))) (i + 1) lv := by
        unfold pClause seqP retP
        rw [if_pos hc]
        cases pS 0 c w 8 (i + 1) lv with
        | inl t => rfl
        | inr t =>
          obtain ⟨j, lv', F⟩ := t
          dsimp only
          cases pIf 0 c w j lv' with
          | inl t => rfl
          | inr t => rfl
      rw [e]
      obtain ⟨a, b⟩ := (P24 (c i)).1 (i + 1) lv (by omega) (by omega) l0 l1
      exact ⟨a, fun j lv' F z => by have := b j lv' F z; omega⟩
    dsimp only
    unfold f_X5_readClause
    rw [md_ce, Option.bind_some, tk 1 (by decide), Option.bind_some]
    by_cases c1 : c i = 1
    · rw [if_pos c1]
      dsimp only
      rw [if_neg (by decide)]
      exact go (Or.inl c1)
    · rw [if_neg c1]
      dsimp only
      rw [if_pos (show i2 0 = 0 by decide), md_ce, Option.bind_some, tk 2 (by decide), Option.bind_some]
      by_cases c2 : c i = 2
      · rw [if_pos c2]
        dsimp only
        rw [if_neg (by decide)]
        exact go (Or.inr (Or.inl c2))
      · rw [if_neg c2]
        dsimp only
        rw [if_pos (show i2 0 = 0 by decide), md_ce, Option.bind_some, tk 3 (by decide), Option.bind_some]
        by_cases c3 : c i = 3
        · rw [if_pos c3]
          dsimp only
          rw [if_neg (by decide)]
          exact go (Or.inr (Or.inr c3))
        · rw [if_neg c3]
          dsimp only
          rw [if_pos (show i2 0 = 0 by decide), md_ce, Option.bind_some, m_must R i0 i1 (by decide), Option.bind_some]
          by_cases c4 : c i = 4
          · have hl := c_lt R (i := i) (by omega)
            have e : pClause c w i lv = seqP (pIf 0 c w) (fun G => retP ((4 : Int), ((fun _ => some 1 : Dn)), G)) (i + 1) lv := by
              unfold pClause seqP retP
              rw [if_neg (show ¬ (c i = 1 ∨ c i = 2 ∨ c i = 3) by omega), if_pos c4]
              cases pIf 0 c w (i + 1) lv with
              | inl t => rfl
              | inr t => rfl
            rw [if_pos c4, e]
            obtain ⟨a, b⟩ := P37.1 (i + 1) lv (by omega) (by omega) l0 l1
            exact ⟨a, fun j lv' F z => by have := b j lv' F z; omega⟩
          · have e : pClause c w i lv = .inl i := by
              unfold pClause
              rw [if_neg (show ¬ (c i = 1 ∨ c i = 2 ∨ c i = 3) by omega), if_neg c4]
            rw [if_neg c4, e]
            obtain ⟨y1, y2⟩ := p_ok R (i := i) i0 i1
            have := R.1
            exact ⟨⟨_, I.2 i lv (p i) y1 y2, ⟨i0, i1⟩, i, lv, by omega, by omega, rfl⟩, fun j lv' F z => by cases z⟩
  · dsimp only
    unfold f_X5_readClause
    rw [md_ce, Option.bind_some, m_takesB hb hn, Option.bind_some]
    dsimp only
    rw [if_pos (show i2 0 = 0 by decide), md_ce, Option.bind_some, m_takesB hb hn, Option.bind_some]
    dsimp only
    rw [if_pos (show i2 0 = 0 by decide), md_ce, Option.bind_some, m_takesB hb hn, Option.bind_some]
    dsimp only
    rw [if_pos (show i2 0 = 0 by decide), md_ce, Option.bind_some, m_mustB hb hn, Option.bind_some]
    exact I.2 i lv b hb hn
theorem m_rOrder (R : RdB sb c w p N 1) : RdS m sb h p N (fun x => f_X5_readOrder E (some m) x) (pOrder c w) := by
  have S := m_rSum0 (E := E) (m := m) (h := h) R
  have T := m_rTimes (E := E) (m := m) (h := h) R
  have eqE : ∀ i lv, pEnd c w i lv = seqP (fun i lv => match pTimes c w i with | .inl t => .inl t | .inr (j, n) => .inr (j, lv, n) : Int → Int → PR Int) (fun n => seqP (pIf 1 c w) (fun G => retP (n, G))) i lv := by
    intro i lv
    unfold pEnd seqP
    dsimp only
    cases pTimes c w i with
    | inl t => rfl
    | inr t =>
      obtain ⟨j, n⟩ := t
      dsimp only
      unfold retP
      cases pIf 1 c w j lv with
      | inl t => rfl
      | inr t => rfl
  have TE : RdS m sb h p N (fun x => f_X5_readOrder_54 E (some m) x) (pEnd c w) := T.congr (fun _ => rfl) eqE
  have one : ∀ (k : Int) (hk : i2 k = k) (s1 : Sg), True := fun _ _ _ => trivial
  have eq18 : ∀ s1 : Sg, f_X5_readOrder_18 E (some m) (mdl m s1 h) = ((((fn_X5_readSum E 64 (some m) 0 (mdl m s1 h)).bind fun x => (ax_ce E x (some m) 5).bind fun _ => f_X5_must E (some m) 27 x).bind fun x => (ax_ce E x (some m) 5).bind fun _ => fn_X5_readSum E 64 (some m) 0 x).bind fun x => (ax_ce E x (some m) 5).bind fun _ => f_X5_must E (some m) 28 x).bind fun x => (ax_ce E x (some m) 5).bind fun _ => (fn_X5_readSum E 64 (some m) 0 x).bind fun x => f_X5_readOrder_54 E (some m) x := by
    intro s1
    unfold f_X5_readOrder_18
    rw [md_ce, Option.bind_some, Option.bind_assoc, Option.bind_assoc, Option.bind_assoc]
    congr 1
    funext x
    rw [Option.bind_assoc]
    congr 1
    funext _
    congr 1
    funext y
    rw [Option.bind_assoc]
    congr 1
    funext _
    congr 1
    funext z
    rw [Option.bind_assoc]
  have pre : ∀ {γ : Type} {g : ax_H → Option ax_H} {f : Int → Int → PR γ}, RdS m sb h p N g f → RdS m sb h p N (fun x => (ax_ce E x (some m) 5).bind fun _ => g x) f := fun P => P.congr (fun s1 => by rw [md_ce, Option.bind_some]) (fun _ _ => rfl)
  have P18 : ∀ hd : Int, RdS m sb h p N (fun x => f_X5_readOrder_18 E (some m) x) (seqP (seqP (seqP (seqP (pS 1 c w 8) (fun F1 => seqP (mustP c 27) (fun _ => retP F1))) (fun F1 => seqP (pS 1 c w 8) (fun F2 => retP (F1, F2)))) (fun F => seqP (mustP c 28) (fun _ => retP F))) (fun F => seqP (pS 1 c w 8) (fun F3 => seqP (pEnd c w) (fun e => retP ((hd, (F.1, F.2, F3), e.1, e.2) : Od))))) := fun hd => by
    have keepR : ∀ {γ δ : Type} {g : ax_H → Option ax_H} {f : Int → Int → PR γ} (x : γ → δ), Nonempty γ → RdS m sb h p N g f → RdS m sb h p N g (seqP f (fun y => retP (x y))) := fun {γ δ g f} x ne P => RdS.congr (RdS.seq R P (fun y => RdS.ret) ne) (fun s1 => by cases g (mdl m s1 h) <;> rfl) (fun _ _ => rfl)
    have nd : Nonempty Dn := ⟨fun _ => none⟩
    refine RdS.congr (RdS.seq R (RdS.seq R (RdS.seq R (RdS.seq R S (fun F1 => keepR (fun _ => F1) ⟨()⟩ (pre (RdS.must R (by decide) (by decide)))) nd) (fun F1 => keepR (fun F2 => (F1, F2)) nd (pre S)) nd) (fun F => keepR (fun _ => F) ⟨()⟩ (pre (RdS.must R (by decide) (by decide)))) ⟨(fun _ => none, fun _ => none)⟩) (fun F => pre (RdS.seq R S (fun F3 => keepR (fun e => ((hd, (F.1, F.2, F3), e.1, e.2) : Od)) ⟨(0, fun _ => none)⟩ TE) nd)) ⟨(fun _ => none, fun _ => none)⟩) eq18 (fun _ _ => rfl)
  have P54 : RdS m sb h p N (fun x => f_X5_readOrder_54 E (some m) x) (seqP (pEnd c w) (fun e => retP ((26, ((fun _ => some 0), (fun _ => some 0), (fun _ => some 0)), e.1, e.2) : Od))) := RdS.congr (RdS.seq R TE (fun y => RdS.ret) ⟨(0, fun _ => none)⟩) (fun s1 => by cases f_X5_readOrder_54 E (some m) (mdl m s1 h) <;> rfl) (fun _ _ => rfl)
  refine ⟨fun i lv i0 i1 l0 l1 => ?_, fun i lv b hb hn => ?_⟩
  · have tk := fun k (hk : i2 k = k) => m_takes (E := E) (m := m) (h := h) (lv := lv) (k := k) R i0 i1 hk
    have go : (c i = 24 ∨ c i = 25) → (∃ g', f_X5_readOrder_18 E (some m) (mdl m (rds sb (i + 1) lv (-1)) h) = some g' ∧ rdQ m sb h p N (pOrder c w i lv) g') ∧ ∀ j lv' F, pOrder c w i lv = .inr (j, lv', F) → i ≤ j ∧ j ≤ N ∧ lv ≤ lv' ∧ lv' ≤ 50 := by
      intro hc
      have hl := c_lt R (i := i) (by omega)
      have e : pOrder c w i lv = (seqP (seqP (seqP (seqP (pS 1 c w 8) (fun F1 => seqP (mustP c 27) (fun _ => retP F1))) (fun F1 => seqP (pS 1 c w 8) (fun F2 => retP (F1, F2)))) (fun F => seqP (mustP c 28) (fun _ => retP F))) (fun F => seqP (pS 1 c w 8) (fun F3 => seqP (pEnd c w) (fun e => retP ((c i, (F.1, F.2, F3), e.1, e.2) : Od))))) (i + 1) lv := by
        unfold pOrder
        rw [if_pos hc]
        unfold seqP mustP retP
        cases pS 1 c w 8 (i + 1) lv with
        | inl t => rfl
        | inr t =>
          obtain ⟨j, lv1, F1⟩ := t
          dsimp only
          by_cases c27 : c j = 27
          · rw [if_pos c27, if_pos c27]
            dsimp only
            cases pS 1 c w 8 (j + 1) lv1 with
            | inl t => rfl
            | inr t =>
              obtain ⟨k, lv2, F2⟩ := t
              dsimp only
              by_cases c28 : c k = 28
              · rw [if_pos c28, if_pos c28]
                dsimp only
                cases pS 1 c w 8 (k + 1) lv2 with
                | inl t => rfl
                | inr t =>
                  obtain ⟨l, lv3, F3⟩ := t
                  dsimp only
                  cases pEnd c w l lv3 with
                  | inl t => rfl
                  | inr t => rfl
              · rw [if_neg c28, if_neg c28]
          · rw [if_neg c27, if_neg c27]
      rw [e]
      obtain ⟨a, b⟩ := (P18 (c i)).1 (i + 1) lv (by omega) (by omega) l0 l1
      exact ⟨a, fun j lv' F z => by have := b j lv' F z; omega⟩
    dsimp only
    unfold f_X5_readOrder
    rw [md_ce, Option.bind_some, tk 24 (by decide), Option.bind_some]
    by_cases c1 : c i = 24
    · rw [if_pos c1]
      dsimp only
      rw [if_neg (by decide)]
      exact go (Or.inl c1)
    · rw [if_neg c1]
      dsimp only
      rw [if_pos (show i2 0 = 0 by decide), md_ce, Option.bind_some, tk 25 (by decide), Option.bind_some]
      by_cases c2 : c i = 25
      · rw [if_pos c2]
        dsimp only
        rw [if_neg (by decide)]
        exact go (Or.inr c2)
      · rw [if_neg c2]
        dsimp only
        rw [if_pos (show i2 0 = 0 by decide), md_ce, Option.bind_some, m_must R i0 i1 (by decide), Option.bind_some]
        by_cases c4 : c i = 26
        · have hl := c_lt R (i := i) (by omega)
          have e : pOrder c w i lv = seqP (pEnd c w) (fun e => retP ((26, ((fun _ => some 0), (fun _ => some 0), (fun _ => some 0)), e.1, e.2) : Od)) (i + 1) lv := by
            unfold pOrder seqP retP
            rw [if_neg (show ¬ (c i = 24 ∨ c i = 25) by omega), if_pos c4]
            cases pEnd c w (i + 1) lv with
            | inl t => rfl
            | inr t => rfl
          rw [if_pos c4, e]
          obtain ⟨a, b⟩ := P54.1 (i + 1) lv (by omega) (by omega) l0 l1
          exact ⟨a, fun j lv' F z => by have := b j lv' F z; omega⟩
        · have e : pOrder c w i lv = .inl i := by
            unfold pOrder
            rw [if_neg (show ¬ (c i = 24 ∨ c i = 25) by omega), if_neg c4]
          rw [if_neg c4, e]
          obtain ⟨y1, y2⟩ := p_ok R (i := i) i0 i1
          have := R.1
          exact ⟨⟨_, TE.2 i lv (p i) y1 y2, ⟨i0, i1⟩, i, lv, by omega, by omega, rfl⟩, fun j lv' F z => by cases z⟩
  · dsimp only
    unfold f_X5_readOrder
    rw [md_ce, Option.bind_some, m_takesB hb hn, Option.bind_some]
    dsimp only
    rw [if_pos (show i2 0 = 0 by decide), md_ce, Option.bind_some, m_takesB hb hn, Option.bind_some]
    dsimp only
    rw [if_pos (show i2 0 = 0 by decide), md_ce, Option.bind_some, m_mustB hb hn, Option.bind_some]
    exact TE.2 i lv b hb hn
end
