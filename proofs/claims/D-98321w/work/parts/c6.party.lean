/-! Parties: both sides -/
set_option maxRecDepth 100000
theorem paS_b {K : Rw} (h : 0 ≤ K 152 ∧ K 152 ≤ 7) (ho : Int) : paS K ho = -1 ∨ (0 ≤ paS K ho ∧ paS K ho ≤ 6993) := by
  have := pa_b K ho (K 152).toNat 0 0 (by decide) (by decide)
  unfold paS
  omega
def pyV (k : Nat) (o : Option (Int × Int)) : Prop := match o with
  | none => True
  | some (b, l) => (0 ≤ b ∧ b < k) ∧ 0 ≤ l ∧ l ≤ 6993
theorem py_step {K : Rw} (h : 0 ≤ K 152 ∧ K 152 ≤ 7) {f : Int} (hf : 100000000 ≤ f) (k : Nat) (o : Option (Int × Int)) (v : pyV k o) : ∃ o', pyF K o k = .inl o' ∧ pyV (k + 1) o' ∧ py1 o' = (if paS K k ≠ -1 ∧ paS K k < py2 f o then (k : Int) else py1 o) ∧ py2 f o' = (if paS K k ≠ -1 ∧ paS K k < py2 f o then paS K k else py2 f o) := by
  have b := paS_b h k
  refine ⟨_, rfl, ?_, ?_, ?_⟩ <;> by_cases c : paS K k = -1
  · rw [if_pos c]
    cases o with
    | none => trivial
    | some bl =>
      obtain ⟨b', l⟩ := bl
      have v' : (0 ≤ b' ∧ b' < k) ∧ 0 ≤ l ∧ l ≤ 6993 := v
      show (0 ≤ b' ∧ b' < ((k + 1 : Nat) : Int)) ∧ 0 ≤ l ∧ l ≤ 6993
      omega
  · rw [if_neg c]
    cases o with
    | none =>
      show (0 ≤ (k : Int) ∧ (k : Int) < ((k + 1 : Nat) : Int)) ∧ 0 ≤ paS K k ∧ paS K k ≤ 6993
      omega
    | some bl =>
      obtain ⟨b', l⟩ := bl
      have v' : (0 ≤ b' ∧ b' < k) ∧ 0 ≤ l ∧ l ≤ 6993 := v
      dsimp only
      by_cases c2 : paS K k < l
      · rw [if_pos c2]
        show (0 ≤ (k : Int) ∧ (k : Int) < ((k + 1 : Nat) : Int)) ∧ 0 ≤ paS K k ∧ paS K k ≤ 6993
        omega
      · rw [if_neg c2]
        show (0 ≤ b' ∧ b' < ((k + 1 : Nat) : Int)) ∧ 0 ≤ l ∧ l ≤ 6993
        omega
  · rw [if_pos c, if_neg (fun z => z.1 c)]
  · rw [if_neg c]
    cases o with
    | none => rw [if_pos ⟨c, by show _ < f; omega⟩]; rfl
    | some bl =>
      obtain ⟨b, l⟩ := bl
      dsimp only
      by_cases c2 : paS K k < l
      · rw [if_pos c2, if_pos ⟨c, c2⟩]; rfl
      · rw [if_neg c2, if_neg (fun z => c2 z.2)]
  · rw [if_pos c, if_neg (fun z => z.1 c)]
  · rw [if_neg c]
    cases o with
    | none => rw [if_pos ⟨c, by show _ < f; omega⟩]; rfl
    | some bl =>
      obtain ⟨b, l⟩ := bl
      dsimp only
      by_cases c2 : paS K k < l
      · rw [if_pos c2, if_pos ⟨c, c2⟩]; rfl
      · rw [if_neg c2, if_neg (fun z => c2 z.2)]
theorem py_end {w f : Int} {k : Nat} {g : ax_H} (o : Option (Int × Int)) (v : pyV k o) (hk : k ≤ 7) : (if py1 o = -1 then some (-1, g) else if w = 0 then some (py1 o, g) else some (py2 f o, g)) = some (pyE w o, g) := by
  cases o with
  | none => rfl
  | some bl =>
    obtain ⟨b, l⟩ := bl
    have v' : (0 ≤ b ∧ b < k) ∧ 0 ≤ l ∧ l ≤ 6993 := v
    show (if b = -1 then some (-1, g) else if w = 0 then some (b, g) else some (l, g)) = some (if w = 0 then b else l, g)
    rw [if_neg (by omega)]
    split <;> rfl
theorem py_1b {k : Nat} {o : Option (Int × Int)} (v : pyV k o) (hk : k ≤ 7) : -1 ≤ py1 o ∧ py1 o ≤ 7 := by
  cases o with
  | none => exact ⟨by decide, by decide⟩
  | some bl =>
    obtain ⟨b, l⟩ := bl
    have v' : (0 ≤ b ∧ b < k) ∧ 0 ≤ l ∧ l ≤ 6993 := v
    show -1 ≤ b ∧ b ≤ 7
    omega
theorem py_2b {k : Nat} {f : Int} {o : Option (Int × Int)} (v : pyV k o) (hf : 100000000 ≤ f) : 0 ≤ py2 f o ∧ py2 f o ≤ f := by
  cases o with
  | none => exact ⟨by show 0 ≤ f; omega, Int.le_refl _⟩
  | some bl =>
    obtain ⟨b, l⟩ := bl
    have v' : (0 ≤ b ∧ b < k) ∧ 0 ≤ l ∧ l ≤ 6993 := v
    show 0 ≤ l ∧ l ≤ f
    omega
def paV (k : Nat) (o : Option Int) : Prop := match o with
  | none => True
  | some a => 0 ≤ a ∧ a ≤ 999 * k
section
variable {E : ax_E} {m : Nat} {s : Sg} {h : ax_H}
theorem m_party98 {w best least q : Int} {ho : Nat} {g : ax_H} (hl : 0 ≤ least ∧ least ≤ 1000000000) (hq : q = -1 ∨ (0 ≤ q ∧ q ≤ 6993)) : f_X5_party_98 E (some m) w best least ho (if q = -1 then 1000000000 else q) g = some (.inl (if q ≠ -1 ∧ q < least then (ho : Int) else best, if q ≠ -1 ∧ q < least then q else least, (ho : Int) + 1, g)) := by
  unfold f_X5_party_98 f_X5_party_113
  by_cases c : q = -1
  · have n : ¬ (q ≠ -1 ∧ q < least) := fun z => z.1 c
    rw [if_pos c, i2_of (a := 1000000000) (by decide) (by decide), i2_of (a := least) (by omega) (by omega), if_neg (show ¬ (1000000000 : Int) < least by omega), if_neg n, if_neg n]
  · rw [if_neg c, i2_of (by omega) (by omega), i2_of (by omega) (by omega)]
    by_cases c2 : q < least
    · rw [if_pos c2, if_pos ⟨c, c2⟩, if_pos ⟨c, c2⟩]
    · rw [if_neg c2, if_neg (fun z => c2 z.2), if_neg (fun z => c2 z.2)]
theorem m_partyIn {w best least : Int} {ho : Nat} (hG : G32 s) (hK : KB (s 2)) (hL : LsV (s 2)) (hho : (ho : Int) < s 2 152) (hl : 0 ≤ least ∧ least ≤ 1000000000) : ∃ s', f_X5_party_35 E (some m) w best least ho 0 0 (mdl m s h) = some (.inl (if paS (s 2) ho ≠ -1 ∧ paS (s 2) ho < least then (ho : Int) else best, if paS (s 2) ho ≠ -1 ∧ paS (s 2) ho < least then paS (s 2) ho else least, (ho : Int) + 1, mdl m s' h)) ∧ Es s s' := by
  have hn := hK.1
  unfold f_X5_party_35
  obtain ⟨g', ⟨s', rfl, q⟩, e1⟩ := it_run (body := fun st : Int × Int × ax_H => lb_X5_party_35 E (some m) w best least ho st.1 st.2.1 st.2.2) (fun (o : Option Int) (k : Nat) g => (o.getD 1000000000, (k : Int), g)) (fun q g => Sum.inl (if q ≠ -1 ∧ q < least then (ho : Int) else best, if q ≠ -1 ∧ q < least then q else least, (ho : Int) + 1, g)) (Q := MdE m s h) (V := paV) (f := paG (s 2) ho) (fin := fun o => o.getD (-1)) (s 2 152).toNat (by
      rintro k o _ hk hv ⟨s1, rfl, q1⟩
      have hk2 := q1.k
      simp only [lb_X5_party_35, f_X5_party_92, f_X5_party_90]
      rw [md_ce, Option.bind_some, m_people, Option.bind_some, hk2]
      dsimp only
      rw [i2_of (a := (k : Int)) (by omega) (by omega), i2_of (a := s 2 152) (by omega) (by omega), if_pos (by omega), i2_of (a := (ho : Int)) (by omega) (by omega), show i2 1000000000 = 1000000000 by decide, show i2 (-1) = -1 by decide]
      cases o with
      | none =>
        refine ⟨_, ⟨s1, rfl, q1⟩, Or.inr ⟨-1, rfl, ?_⟩⟩
        have e98 := m_party98 (E := E) (m := m) (w := w) (best := best) (ho := ho) (g := mdl m s1 h) hl (Or.inl rfl)
        rw [if_pos rfl] at e98
        show (if i2 1000000000 < (1000000000 : Int) then _ else _) = _
        rw [show i2 1000000000 = 1000000000 by decide, if_neg (by decide)]
        show Option.map Sum.inr (f_X5_party_98 E (some m) w best least ho 1000000000 (mdl m s1 h)) = _
        rw [e98]
        rfl
      | some a =>
        have hv' : 0 ≤ a ∧ a ≤ 999 * k := hv
        show ∃ g', MdE m s h g' ∧ _
        rw [show (some a).getD 1000000000 = a from rfl, i2_of (a := a) (by omega) (by omega), if_pos (by omega)]
        by_cases c1 : (k : Int) = ho
        · exact ⟨_, ⟨s1, rfl, q1⟩, Or.inl ⟨some a, by show (if (k : Int) = ho then _ else _) = _; rw [if_pos c1], by show 0 ≤ a ∧ a ≤ _; omega, by rw [if_pos c1]; simp⟩⟩
        · obtain ⟨s2, e2, q2⟩ := m_needOf (E := E) (m := m) (h := h) (vi := (k : Int)) (ho := (ho : Int)) (room := 1) (q1.2.2 hG) (by rw [hk2]; exact hK) (by rw [hk2]; exact hL) (by rw [hk2]; omega) (by rw [hk2]; omega) (by decide)
          have sb := need_b (s 2) k ho 1
          rw [hk2] at e2
          refine ⟨_, ⟨s2, rfl, q1.trans q2⟩, ?_⟩
          rw [if_neg c1, md_ce, Option.bind_some, e2, Option.bind_some]
          dsimp only
          rw [i2_of (a := needS (s 2) k ho 1) (by omega) (by omega)]
          by_cases c2 : needS (s 2) k ho 1 = -1
          · exact Or.inl ⟨none, by show (if (k : Int) = ho then _ else _) = _; rw [if_neg c1, if_pos c2], trivial, by rw [if_pos c2]; simp⟩
          · exact Or.inl ⟨some (a + needS (s 2) k ho 1), by show (if (k : Int) = ho then _ else _) = _; rw [if_neg c1, if_neg c2], by show 0 ≤ _ ∧ _ ≤ _; omega, by rw [if_neg c2]; simp⟩) (by
      rintro o _ hv ⟨s1, rfl, q1⟩
      have hk2 := q1.k
      refine ⟨_, ⟨s1, rfl, q1⟩, ?_⟩
      simp only [lb_X5_party_35]
      rw [md_ce, Option.bind_some, m_people, Option.bind_some, hk2]
      dsimp only
      rw [i2_of (a := (((s 2 152).toNat : Nat) : Int)) (by omega) (by omega), i2_of (a := s 2 152) (by omega) (by omega), if_neg (by omega)]
      have hq : o.getD (-1) = -1 ∨ (0 ≤ o.getD (-1) ∧ o.getD (-1) ≤ 6993) := by
        cases o with
        | none => exact Or.inl rfl
        | some a =>
          have hv' : 0 ≤ a ∧ a ≤ 999 * ((s 2 152).toNat : Nat) := hv
          right
          show 0 ≤ a ∧ a ≤ 6993
          omega
      have e98 := m_party98 (E := E) (m := m) (w := w) (best := best) (ho := ho) (g := mdl m s1 h) hl hq
      have eo : (if o.getD (-1) = -1 then (1000000000 : Int) else o.getD (-1)) = o.getD 1000000000 := by
        cases o with
        | none => rfl
        | some a =>
          have hv' : 0 ≤ a ∧ a ≤ 999 * ((s 2 152).toNat : Nat) := hv
          show (if a = -1 then (1000000000 : Int) else a) = a
          rw [if_neg (by omega)]
      rw [eo] at e98
      rw [e98]
      rfl) (s 2 152).toNat 0 (some 0) (mdl m s h) (by omega) (by show (0 : Int) ≤ 0 ∧ (0 : Int) ≤ _; decide) ⟨s, rfl, Es.refl s⟩
  rw [pa_G] at e1
  exact ⟨s', e1, q⟩
theorem m_party {w : Int} (hG : G32 s) (hK : KB (s 2)) (hL : LsV (s 2)) (hw : i2 w = w) : ∃ s', f_X5_party E (some m) w (mdl m s h) = some (partyP s w, mdl m s' h) ∧ Es s s' := by
  have hn := hK.1
  unfold f_X5_party f_X5_party_20 partyP
  rw [m_lies hw (by decide) (by decide), Option.bind_some]
  by_cases c : 0 ≤ w ∧ w ≤ 1
  · rw [if_neg (by rw [b01_z]; simp [c]), if_pos c]
    obtain ⟨g', ⟨s', rfl, q⟩, e1⟩ := it_run (body := fun st : Int × Int × Int × ax_H => lb_X5_party_20 E (some m) w st.1 st.2.1 st.2.2.1 st.2.2.2) (fun o (k : Nat) g => (py1 o, py2 1000000000 o, (k : Int), g)) (fun r g => (r, g)) (Q := MdE m s h) (V := pyV) (f := pyF (s 2)) (fin := pyE w) (s 2 152).toNat (by
      rintro k o _ hk hv ⟨s1, rfl, q1⟩
      have hk2 := q1.k
      obtain ⟨o', f1, f2, f3, f4⟩ := py_step (f := 1000000000) hn (by decide) k o hv
      have hb := py_2b (f := 1000000000) hv (by decide)
      obtain ⟨s2, e2, q2⟩ := m_partyIn (E := E) (m := m) (h := h) (w := w) (best := py1 o) (least := py2 1000000000 o) (ho := k) (q1.2.2 hG) (by rw [hk2]; exact hK) (by rw [hk2]; exact hL) (by rw [hk2]; omega) hb
      rw [hk2] at e2
      refine ⟨_, ⟨s2, rfl, q1.trans q2⟩, Or.inl ⟨o', f1, f2, ?_⟩⟩
      simp only [lb_X5_party_20]
      rw [md_ce, Option.bind_some, m_people, Option.bind_some, hk2]
      dsimp only
      rw [i2_of (a := (k : Int)) (by omega) (by omega), i2_of (a := s 2 152) (by omega) (by omega), if_pos (by omega), e2, f3, f4]
      rfl) (by
      rintro o _ hv ⟨s1, rfl, q1⟩
      have hk2 := q1.k
      have b1 := py_1b hv (by omega)
      refine ⟨_, ⟨s1, rfl, q1⟩, ?_⟩
      simp only [lb_X5_party_20]
      rw [md_ce, Option.bind_some, m_people, Option.bind_some, hk2]
      dsimp only
      rw [i2_of (a := (((s 2 152).toNat : Nat) : Int)) (by omega) (by omega), i2_of (a := s 2 152) (by omega) (by omega), if_neg (by omega), i2_of (a := py1 o) (by omega) (by omega), show i2 (-1) = -1 by decide, hw, py_end o hv (by omega)]
      rfl) (s 2 152).toNat 0 none (mdl m s h) (by omega) trivial ⟨s, rfl, Es.refl s⟩
    exact ⟨s', e1, q⟩
  · rw [if_pos (by rw [b01_z]; exact c), if_neg c]
    exact ⟨s, rfl, Es.refl s⟩
end
section
variable {E : ax_E} {h : ax_H} {x t dl dv ds du : Nat} {s : Sg}
theorem c_partyAt {ho : Nat} (H : REP E h x t dl dv ds du s) (hG : G32 s) (hK : KB (s 2)) (hho : (ho : Int) < s 2 152) : ∃ h', f_X0_partyAt E (some x) ho h = some (paS (s 2) ho, h') ∧ EvS x h h' := by
  have hn := hK.1
  unfold f_X0_partyAt f_X0_partyAt_4 paS
  obtain ⟨g', q, e1⟩ := it_run (body := fun st : Int × Int × ax_H => lb_X0_partyAt_4 E (some x) ho st.1 st.2.1 st.2.2) (fun a (k : Nat) g => (a, (k : Int), g)) (fun r g => (r, g)) (Q := fun g => EvS x h g) (V := fun k a => 0 ≤ a ∧ a ≤ 999 * k) (f := paF (s 2) ho) (fin := id) (s 2 152).toNat (by
      rintro k a g hk hv q1
      have H1 := H.keep q1.1
      obtain ⟨y1, y2⟩ := c_ppl H1
      simp only [lb_X0_partyAt_4, f_X0_partyAt_31]
      rw [y1, Option.bind_some, y2, Option.bind_some]
      rw [i2_of (a := (k : Int)) (by omega) (by omega), i2_of (a := s 2 152) (by omega) (by omega), if_pos (by omega), i2_of (a := (ho : Int)) (by omega) (by omega)]
      by_cases c1 : (k : Int) = ho
      · exact ⟨_, q1, Or.inl ⟨a, by unfold paF; rw [if_pos c1], by omega, by rw [if_pos c1, if_neg (by decide)]; simp⟩⟩
      · obtain ⟨g2, e2, q2⟩ := c_needOf (E := E) (vi := (k : Int)) (ho := (ho : Int)) (room := 1) H1 hG hK (by omega) (by omega) (by decide)
        have sb := need_b (s 2) k ho 1
        refine ⟨_, q1.trans q2, ?_⟩
        rw [if_neg c1, f_ce H1.2.1.1 (by decide), Option.bind_some, e2, Option.bind_some]
        dsimp only
        rw [i2_of (a := needS (s 2) k ho 1) (by omega) (by omega), show i2 (-1) = -1 by decide]
        by_cases c2 : needS (s 2) k ho 1 = -1
        · exact Or.inr ⟨-1, by unfold paF; rw [if_neg c1, if_pos c2], by rw [if_pos c2]; rfl⟩
        · exact Or.inl ⟨a + needS (s 2) k ho 1, by unfold paF; rw [if_neg c1, if_neg c2], by omega, by rw [if_neg c2]; rfl⟩) (by
      rintro a g hv q1
      have H1 := H.keep q1.1
      obtain ⟨y1, y2⟩ := c_ppl H1
      refine ⟨_, q1, ?_⟩
      simp only [lb_X0_partyAt_4]
      rw [y1, Option.bind_some, y2, Option.bind_some]
      rw [i2_of (by omega) (by omega), i2_of (a := s 2 152) (by omega) (by omega), if_neg (by omega)]
      rfl) (s 2 152).toNat 0 0 h (by omega) (by omega) (EvS.refl x h)
  exact ⟨g', e1, q⟩
theorem c_party {w : Int} (H : REP E h x t dl dv ds du s) (hG : G32 s) (hK : KB (s 2)) (hw : i2 w = w) : ∃ h', f_X0_party E (some x) w h = some (partyP s w, h') ∧ REP E h' x t dl dv ds du s ∧ Blk x 8 110 h h' := by
  have hn := hK.1
  have bw := i2_lh hw
  unfold f_X0_party f_X0_party_21 partyP
  rw [hw, c_in (by omega) (by decide) (by decide), Option.bind_some]
  by_cases c : 0 ≤ w ∧ w ≤ 1
  · rw [if_neg (by rw [b01_z]; simp [c]), if_pos c]
    obtain ⟨g', q, e1⟩ := it_run (body := fun st : Int × Int × Int × ax_H => lb_X0_party_21 E (some x) w st.1 st.2.1 st.2.2.1 st.2.2.2) (fun o (k : Nat) g => (py1 o, py2 100000000 o, (k : Int), g)) (fun r g => (r, g)) (Q := fun g => EvS x h g) (V := pyV) (f := pyF (s 2)) (fin := pyE w) (s 2 152).toNat (by
      rintro k o g hk hv q1
      have H1 := H.keep q1.1
      obtain ⟨y1, y2⟩ := c_ppl H1
      obtain ⟨o', f1, f2, f3, f4⟩ := py_step (f := 100000000) hn (by decide) k o hv
      have hb := py_2b (f := 100000000) hv (by decide)
      have pb := paS_b hn k
      obtain ⟨g2, e2, q2⟩ := c_partyAt (E := E) (ho := k) H1 hG hK (by omega)
      refine ⟨_, q1.trans q2, Or.inl ⟨o', f1, f2, ?_⟩⟩
      simp only [lb_X0_party_21, f_X0_party_62]
      rw [y1, Option.bind_some, y2, Option.bind_some]
      rw [i2_of (a := (k : Int)) (by omega) (by omega), i2_of (a := s 2 152) (by omega) (by omega), if_pos (by omega), f_ce H1.2.1.1 (by decide), Option.bind_some, e2, Option.bind_some]
      dsimp only
      rw [i2_of (a := paS (s 2) k) (by omega) (by omega), i2_of (a := py2 100000000 o) (by omega) (by omega), show i2 (-1) = -1 by decide, f3, f4]
      by_cases c1 : paS (s 2) k = -1
      · rw [if_pos c1, if_neg (fun z => z.1 c1), if_neg (fun z => z.1 c1)]; simp
      · rw [if_neg c1]
        by_cases c2 : paS (s 2) k < py2 100000000 o
        · rw [if_pos c2, if_pos ⟨c1, c2⟩, if_pos ⟨c1, c2⟩]; simp
        · rw [if_neg c2, if_neg (fun z => c2 z.2), if_neg (fun z => c2 z.2)]; simp) (by
      rintro o g hv q1
      have H1 := H.keep q1.1
      obtain ⟨y1, y2⟩ := c_ppl H1
      have b1 := py_1b hv (by omega)
      refine ⟨_, q1, ?_⟩
      simp only [lb_X0_party_21]
      rw [y1, Option.bind_some, y2, Option.bind_some]
      rw [i2_of (a := (((s 2 152).toNat : Nat) : Int)) (by omega) (by omega), i2_of (a := s 2 152) (by omega) (by omega), if_neg (by omega), i2_of (a := py1 o) (by omega) (by omega), show i2 (-1) = -1 by decide, hw, py_end o hv (by omega)]
      rfl) (s 2 152).toNat 0 none h (by omega) trivial (EvS.refl x h)
    exact ⟨g', e1, H.keep q.1, (q.blk H).up (by decide) (by decide)⟩
  · rw [if_pos (by rw [b01_z]; exact c), if_neg c]
    exact ⟨h, rfl, H, (Blk.refl x h).up (by decide) (by decide)⟩
end
