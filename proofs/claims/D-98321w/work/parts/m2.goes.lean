/-! Orders: the model goes along one: a sum -/
set_option maxRecDepth 100000
/-- rows that differ in what is written while an order is gone along -/
def Er (s X : Sg) : Prop := (∀ o : Nat, o ≠ 0 → o ≠ 12 → o ≠ 13 → o ≠ 28 → X o = s o) ∧ (∀ k : Int, k ≠ 20 → k ≠ 21 → k ≠ 22 → k ≠ 23 → k ≠ 51 → k ≠ 52 → k ≠ 53 → k ≠ 54 → X 0 k = s 0 k) ∧ G32 X
theorem Er.refl {s : Sg} (g : G32 s) : Er s s := ⟨fun _ _ _ _ _ => rfl, fun _ _ _ _ _ _ _ _ _ => rfl, g⟩
theorem Er.trans {s s1 s2 : Sg} (p : Er s s1) (q : Er s1 s2) : Er s s2 := ⟨fun o h1 h2 h3 h4 => (q.1 o h1 h2 h3 h4).trans (p.1 o h1 h2 h3 h4), fun k h1 h2 h3 h4 h5 h6 h7 h8 => (q.2.1 k h1 h2 h3 h4 h5 h6 h7 h8).trans (p.2.1 k h1 h2 h3 h4 h5 h6 h7 h8), q.2.2⟩
theorem Es.er {s s' : Sg} (e : Es s s') (g : G32 s) : Er s s' := ⟨fun o h1 h2 _ _ => e.1 o h1 h2, fun k h1 h2 h3 h4 _ _ _ _ => e.2.1 k h1 h2 h3 h4, e.2.2 g⟩
def GoK (k : Int) : Prop := k = 20 ∨ k = 21 ∨ k = 22 ∨ k = 23 ∨ k = 51 ∨ k = 52 ∨ k = 53 ∨ k = 54
theorem Er.w0 {s X : Sg} {k v : Int} (e : Er s X) (hk : GoK k) (hv : i2 v = v) : Er s (sw X 0 (u1 (X 0) k v)) := by
  obtain ⟨e1, e2, e3⟩ := e
  unfold GoK at hk
  exact ⟨fun o h1 h2 h3 h4 => by rw [sw_ne _ h1]; exact e1 o h1 h2 h3 h4, fun j h1 h2 h3 h4 h5 h6 h7 h8 => by rw [sw_eq, u1_ne _ (by omega)]; exact e2 j h1 h2 h3 h4 h5 h6 h7 h8, G32_sw e3 (u1_32 (e3 0) hv)⟩
theorem Er.wo {s X : Sg} {o : Nat} {F : Rw} (e : Er s X) (ho : o = 13 ∨ o = 28) (hF : ∀ i, i2 (F i) = F i) : Er s (sw X o F) := by
  obtain ⟨e1, e2, e3⟩ := e
  exact ⟨fun p h1 h2 h3 h4 => by rw [sw_ne _ (by omega)]; exact e1 p h1 h2 h3 h4, fun j h1 h2 h3 h4 h5 h6 h7 h8 => by rw [sw_ne _ (by omega)]; exact e2 j h1 h2 h3 h4 h5 h6 h7 h8, G32_sw e3 hF⟩
theorem Er.k2 {s X : Sg} (e : Er s X) : X 2 = s 2 := e.1 2 (by decide) (by decide) (by decide) (by decide)
/-- the orders' text, as it is laid down -/
def TxO (K : Rw) (N : Int) (c w : Rw) : Prop := (0 ≤ N ∧ N ≤ 400) ∧ c = cut N (fun k => K (164 + 2400 + k)) ∧ w = cut N (fun k => K (2964 + 2400 + k)) ∧ ∀ k, 0 ≤ w k
/-- it has come so far -/
def GA (s : Sg) (N : Int) (e : Ev) (i : Int) (X : Sg) : Prop := Er s X ∧ X 0 20 = 2400 + i ∧ X 0 21 = 2400 + N ∧ X 0 23 = 1 ∧ ∀ k : Int, 0 ≤ k → k < 4 → X 13 k = e.1 k
section
variable {E : ax_E} {m : Nat} {s X : Sg} {h : ax_H} {N i j lv lv' live k v x3 : Int} {c w F' : Rw} {e : Ev} {F : Dn}
theorem GA.txt (A : GA s N e i X) (T : TxO (s 2) N c w) : TxtM X 2400 N 1 c w := by
  obtain ⟨t1, t2, t3, t4⟩ := T
  obtain ⟨a1, a2, a3, a4, a5⟩ := A
  exact ⟨a3, by decide, t1, by rw [a1.k2]; exact t2, by rw [a1.k2]; exact t3, a4, Or.inr rfl, t4⟩
theorem GA.env (A : GA s N e i X) (h1 : e.2.1 = purseS (s 2)) (h2 : e.2.2 = owedS (s 2)) (hR : RV (s 2 152) (s 2)) : EnvM X 1 e := by
  obtain ⟨a1, a2, a3, a4, a5⟩ := A
  refine ⟨fun z => absurd z (by decide), fun _ => ⟨a5, fun p _ _ => ?_, fun p q _ _ _ _ => ?_⟩⟩
  · rw [h1, a1.k2]
    rfl
  · rw [h2, a1.k2]
    exact owedS_eq hR p q
theorem GA.w0 (A : GA s N e i X) (hk : k = 22 ∨ k = 51 ∨ k = 52 ∨ k = 53 ∨ k = 54) (hv : i2 v = v) : GA s N e i (sw X 0 (u1 (X 0) k v)) := by
  obtain ⟨a1, a2, a3, a4, a5⟩ := A
  refine ⟨a1.w0 (by unfold GoK; omega) hv, ?_, ?_, ?_, fun q q0 q1 => by rw [sw_ne _ (by decide)]; exact a5 q q0 q1⟩
  · rw [sw_eq, u1_ne _ (by omega)]; exact a2
  · rw [sw_eq, u1_ne _ (by omega)]; exact a3
  · rw [sw_eq, u1_ne _ (by omega)]; exact a4
theorem GA.to (A : GA s N e i X) (hj : 0 ≤ j ∧ j ≤ 1000) : GA s N e j (sw X 0 (u1 (X 0) 20 (2400 + j))) := by
  obtain ⟨a1, a2, a3, a4, a5⟩ := A
  refine ⟨a1.w0 (by unfold GoK; omega) (i2_of (by omega) (by omega)), ?_, ?_, ?_, fun q q0 q1 => by rw [sw_ne _ (by decide)]; exact a5 q q0 q1⟩
  · rw [sw_eq, u1_eq]
  · rw [sw_eq, u1_ne _ (by omega)]; exact a3
  · rw [sw_eq, u1_ne _ (by omega)]; exact a4
theorem GA_gs {b : Int} (A : GA s N e i X) (hj : 0 ≤ j ∧ j ≤ 1000) (hb : b = 0 ∨ b = 1) : GA s N e j (gs X (2400 + j) b) := by
  have q := (A.to hj).w0 (k := 22) (v := b) (Or.inl rfl) (by rcases hb with z | z <;> rw [z] <;> decide)
  rw [sw_eq, sw_sw] at q
  exact q
theorem GA.wo (A : GA s N e i X) (hF : ∀ q, i2 (F' q) = F' q) : GA s N e i (sw X 28 F') := by
  obtain ⟨a1, a2, a3, a4, a5⟩ := A
  refine ⟨a1.wo (Or.inr rfl) hF, ?_, ?_, ?_, fun q q0 q1 => by rw [sw_ne _ (by decide)]; exact a5 q q0 q1⟩ <;> rw [sw_ne _ (by decide)]
  · exact a2
  · exact a3
  · exact a4
theorem GA.self (A : GA s N e i X) (hb : X 0 22 = v) : gs X (2400 + i) v = X := by
  rw [← hb, ← A.2.1]
  exact gs_self X
/-- a sum of an order -/
theorem m_go127 (A : GA s N e i X) (T : TxO (s 2) N c w) (h1 : e.2.1 = purseS (s 2)) (h2 : e.2.2 = owedS (s 2)) (hE : EB e) (hK : KB (s 2)) (hp : pS 1 c w 8 i lv = .inr (j, lv', F)) (h0 : 0 ≤ i) (l0 : 0 ≤ lv) (l1 : lv ≤ 50) (hk : 0 ≤ k ∧ k < 3) (hl : live = 0 ∨ live = 1) (h53 : X 0 53 = 0 ∨ X 0 53 = 1) : (i < j ∧ j ≤ N ∧ lv < lv' ∧ lv' ≤ 50) ∧ FB F ∧ ∃ X', f_X5_goesAlong_127 E (some m) live x3 k (mdl m X h) = some (.inl (k + 1, mdl m X' h)) ∧ GA s N e j X' ∧ X' 0 52 = X 0 52 ∧ (X' 0 53 = 0 ∨ X' 0 53 = 1) ∧ (∀ q, q ≠ k → X' 28 q = X 28 q) ∧ (live = 1 → (∀ v, F e = some v → X' 28 k = v ∧ X' 0 53 = X 0 53) ∧ (F e = none → X' 0 53 = 0)) := by
  have hR := hK.2.2.2.2
  obtain ⟨X1, e1⟩ : ∃ X1, X1 = sw X 0 (u1 (X 0) 22 0) := ⟨_, rfl⟩
  have A1 : GA s N e i X1 := by rw [e1]; exact A.w0 (Or.inl rfl) (by decide)
  have z22 : X1 0 22 = 0 := by rw [e1, sw_eq, u1_eq]
  have hN := T.1
  obtain ⟨go, fb, g1, g2, g3, g4⟩ := m_sums (E := E) (m := m) (h := h) A1.1.2.2 (A1.txt T) (A1.env h1 h2 hR) hE (by rw [A1.1.k2]; exact hR) (by rw [A1.1.k2]; exact hK.1) 8 64 (by omega) i lv j lv' F hp h0 l0 l1
  refine ⟨⟨g1, g2, g3, g4⟩, fb, ?_⟩
  have run := go live 0 hl (Or.inl rfl)
  rw [A1.self z22] at run
  obtain ⟨v, ev⟩ : ∃ v, v = (evP live 0 (F e)).1 := ⟨_, rfl⟩
  obtain ⟨b, eb⟩ : ∃ b, b = (evP live 0 (F e)).2 := ⟨_, rfl⟩
  rw [← ev, ← eb] at run
  have hb : b = 0 ∨ b = 1 := by rw [eb]; exact evP_b (Or.inl rfl) _
  have vb : -1000000000 ≤ v ∧ v ≤ 1000000000 := by
    rw [ev]
    unfold evP
    split
    · cases hF : F e with
      | none => exact ⟨by decide, by decide⟩
      | some v => exact fb e hE v hF
    · exact ⟨by decide, by decide⟩
  have iv : i2 v = v := i2_of (by omega) (by omega)
  obtain ⟨X2, e2⟩ : ∃ X2, X2 = gs X1 (2400 + j) b := ⟨_, rfl⟩
  have A2 : GA s N e j X2 := by rw [e2]; exact GA_gs A1 (by omega) hb
  obtain ⟨X3, e3⟩ : ∃ X3, X3 = sw X2 28 (u1 (X2 28) k v) := ⟨_, rfl⟩
  have A3 : GA s N e j X3 := by rw [e3]; exact A2.wo (u1_32 (A2.1.2.2 28) iv)
  have z53 : X3 0 53 = X 0 53 := by rw [e3, sw_ne _ (by decide), e2, gs_0 (by decide) (by decide), e1, sw_eq, u1_ne _ (by decide)]
  have z52 : X3 0 52 = X 0 52 := by rw [e3, sw_ne _ (by decide), e2, gs_0 (by decide) (by decide), e1, sw_eq, u1_ne _ (by decide)]
  have y22 : X3 0 22 = b := by rw [e3, sw_ne _ (by decide), e2, gs_22]
  have w28 : ∀ q, q ≠ k → X3 28 q = X 28 q := fun q hq => by rw [e3, sw_eq, u1_ne _ hq, e2, gs_o (by decide), e1, sw_ne _ (by decide)]
  have k28 : X3 28 k = v := by rw [e3, sw_eq, u1_eq]
  have fin : ∀ d : Int, (d = 0 ∨ d = 1) → f_X5_goesAlong_164 E (some m) live x3 k (some m) d (mdl m X3 h) = some (.inl (k + 1, mdl m (sw X3 0 (u1 (X3 0) 53 d)) h)) ∧ GA s N e j (sw X3 0 (u1 (X3 0) 53 d)) ∧ sw X3 0 (u1 (X3 0) 53 d) 0 52 = X 0 52 ∧ sw X3 0 (u1 (X3 0) 53 d) 0 53 = d ∧ (∀ q, q ≠ k → sw X3 0 (u1 (X3 0) 53 d) 28 q = X 28 q) ∧ sw X3 0 (u1 (X3 0) 53 d) 28 k = v := by
    intro d hd
    refine ⟨?_, A3.w0 (by omega) (by rcases hd with z | z <;> rw [z] <;> decide), by rw [sw_eq, u1_ne _ (by decide)]; exact z52, by rw [sw_eq, u1_eq], fun q hq => by rw [sw_ne _ (by decide)]; exact w28 q hq, by rw [sw_ne _ (by decide)]; exact k28⟩
    unfold f_X5_goesAlong_164
    rw [if_pos hd, md_pI53, Option.bind_some]
  have pre : f_X5_goesAlong_127 E (some m) live x3 k (mdl m X h) = if i2 (X 0 53) = 0 then f_X5_goesAlong_164 E (some m) live x3 k (some m) 0 (mdl m X3 h) else if i2 b = 0 then f_X5_goesAlong_164 E (some m) live x3 k (some m) 1 (mdl m X3 h) else f_X5_goesAlong_164 E (some m) live x3 k (some m) 0 (mdl m X3 h) := by
    unfold f_X5_goesAlong_127 f_X5_goesAlong_163
    unfold fn_X5_sumOf
    rw [if_pos (Or.inl rfl), md_pI22, Option.bind_some, ← e1, md_gR55, Option.bind_some, md_ce, Option.bind_some, run, Option.bind_some]
    dsimp only
    rw [← e2, md_sto28 (by omega) (by omega), Option.bind_some, ← e3, md_gI53, Option.bind_some, z53, md_gI22, Option.bind_some, y22]
  rw [pre]
  have evl : live = 1 → (∀ v', F e = some v' → v = v' ∧ b = 0) ∧ (F e = none → b = 1) := by
    intro hl1
    rw [ev, eb, hl1]
    refine ⟨fun v' hv' => by rw [hv']; exact ⟨rfl, rfl⟩, fun hn => by rw [hn]; rfl⟩
  rcases h53 with z | z
  · obtain ⟨p1, p2, p3, p4, p5, p6⟩ := fin 0 (Or.inl rfl)
    rw [if_pos (by rw [z]; decide)]
    refine ⟨_, p1, p2, p3, Or.inl p4, p5, fun hl1 => ⟨fun v' hv' => ⟨?_, ?_⟩, fun _ => p4⟩⟩
    · rw [p6]; exact ((evl hl1).1 v' hv').1
    · rw [p4, z]
  · rw [if_neg (by rw [z]; decide)]
    rcases hb with y | y
    · obtain ⟨p1, p2, p3, p4, p5, p6⟩ := fin 1 (Or.inr rfl)
      rw [if_pos (by rw [y]; decide)]
      refine ⟨_, p1, p2, p3, Or.inr p4, p5, fun hl1 => ⟨fun v' hv' => ⟨?_, ?_⟩, fun hn => ?_⟩⟩
      · rw [p6]; exact ((evl hl1).1 v' hv').1
      · rw [p4, z]
      · have := (evl hl1).2 hn
        omega
    · obtain ⟨p1, p2, p3, p4, p5, p6⟩ := fin 0 (Or.inl rfl)
      rw [if_neg (by rw [y]; decide)]
      refine ⟨_, p1, p2, p3, Or.inl p4, p5, fun hl1 => ⟨fun v' hv' => ?_, fun _ => p4⟩⟩
      have := ((evl hl1).1 v' hv').2
      omega
end
