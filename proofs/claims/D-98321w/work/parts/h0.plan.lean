/-! Plans: the model -/
set_option maxRecDepth 100000
/-- the model while it tries rows of visits -/
def PlI (m : Nat) (s : Sg) (h : ax_H) (n k l : Nat) (row : Nat → Int) (K : Rw) (A : PA) (L : Rw) (g : ax_H) : Prop := ∃ s', g = mdl m s' h ∧ Ew (sw s 2 K) s' ∧ (∀ j : Nat, j < k → s' 21 j = row j) ∧ s' 0 37 = A.1 ∧ (A.1 ≠ 0 → ∀ j : Nat, j < n → s' 22 j = A.2 j) ∧ ∀ i : Int, 0 ≤ i → i < 73 * l → s' 5 i = L i
section
variable {E : ax_E} {m : Nat} {s : Sg} {h : ax_H}
/-- a row is whole -/
theorem m_planEnd {n k l : Nat} {row : Nat → Int} {K L : Rw} {A : PA} {g : ax_H} {gg : Option Nat → Int → Int → ax_H → Option ax_H} (hG : G32 s) (V : MoV (s 2) K) (hn : n ≤ 8) (hk : k = n) (hA : 0 ≤ A.1 ∧ A.1 ≤ 20000000) (I : PlI m s h n k l row K A L g) : ∃ g', f_X5_triesVisits_17 E gg (some m) n 0 g = some g' ∧ PlI m s h n k l row K (rwEnd row A) L g' := by
  obtain ⟨s1, rfl, q1, p1, p2, p3, p4⟩ := I
  have g1 : G32 s1 := q1.2.2 (G32_sw hG V.2.1)
  have aI : i2 A.1 = A.1 := i2_of (by omega) (by omega)
  -- what is left: one more
  have fin : ∀ s2 : Sg, s2 0 37 = A.1 → f_X5_triesVisits_50 E gg (some m) (mdl m s2 h) = some (mdl m (sw s2 0 (u1 (s2 0) 37 (A.1 + 1))) h) := by
    intro s2 e
    unfold f_X5_triesVisits_50
    have p37 : ax_pI (mdl m s2 h) (some m) 5 37 (A.1 + 1) = some (mdl m (sw s2 0 (u1 (s2 0) 37 (A.1 + 1))) h) := md_pI37
    rw [md_gI37, Option.bind_some, e, p37, Option.bind_some]
  by_cases c : A.1 = 0
  · obtain ⟨s2, es2⟩ : ∃ s2, s2 = sw s1 22 (cpR (s1 22) 0 (s1 21) n) := ⟨_, rfl⟩
    have g2 : G32 s2 := by rw [es2]; exact G32_sw g1 (cpR_32 (g1 22) (g1 21))
    have z37 : s2 0 37 = A.1 := by rw [es2, sw_ne _ (by decide)]; exact p2
    have e := it_traj (body := fun y : Int × ax_H => lb_X5_triesVisits_17 E gg (some m) n y.1 y.2) (fun j => ((j : Int), mdl m (sw s1 22 (cpR (s1 22) 0 (s1 21) j)) h)) n (r := mdl m (sw s2 0 (u1 (s2 0) 37 (A.1 + 1))) h) (fun j hj => by
      simp only [lb_X5_triesVisits_17]
      rw [i2_of (a := (j : Int)) (by omega) (by omega), i2_of (a := (n : Int)) (by omega) (by omega), if_pos (by omega), md_gI37, Option.bind_some, sw_ne _ (by decide), p2, aI, if_pos c, md_gR36, Option.bind_some, md_gR35, Option.bind_some, md_ld21 (by omega) (by omega), Option.bind_some, md_sto22 (by omega) (by omega), Option.bind_some, sw_eq, sw_sw, sw_ne _ (by decide), cpR_s (by omega) (by omega)]
      rfl) (by
      simp only [lb_X5_triesVisits_17]
      rw [if_neg (Int.lt_irrefl _), ← es2, fin s2 z37]
      rfl)
    rw [show ((0 : Nat) : Int) = 0 from rfl, cpR_0, sw_self] at e
    refine ⟨_, e, sw s2 0 (u1 (s2 0) 37 (A.1 + 1)), rfl, ?_, fun j hj => ?_, ?_, fun _ j hj => ?_, fun i i0 i1 => ?_⟩
    · refine q1.trans (Ew.trans ?_ (Ew_0 (by unfold RpK; decide) (i2_of (by omega) (by omega))))
      rw [es2]
      exact Ew_o (by unfold RpO; decide) (by decide) (cpR_32 (g1 22) (g1 21))
    · rw [sw_ne _ (by decide), es2, sw_ne _ (by decide)]; exact p1 j hj
    · rw [sw_eq, u1_eq]; rfl
    · rw [sw_ne _ (by decide), es2, sw_eq, cpR_in (by omega), Int.sub_zero]
      show _ = (if A.1 = 0 then row else A.2) j
      rw [if_pos c]
      exact p1 j (by omega)
    · rw [sw_ne _ (by decide), es2, sw_ne _ (by decide)]; exact p4 i i0 i1
  · refine ⟨mdl m (sw s1 0 (u1 (s1 0) 37 (A.1 + 1))) h, ?_, sw s1 0 (u1 (s1 0) 37 (A.1 + 1)), rfl, ?_, fun j hj => ?_, ?_, fun _ j hj => ?_, fun i i0 i1 => ?_⟩
    · unfold f_X5_triesVisits_17
      refine it_done ?_
      dsimp only
      unfold lb_X5_triesVisits_17
      by_cases cn : n = 0
      · rw [if_neg (by rw [cn]; decide), fin s1 p2]
        rfl
      · rw [i2_of (a := (0 : Int)) (by decide) (by decide), i2_of (a := (n : Int)) (by omega) (by omega), if_pos (by omega), md_gI37, Option.bind_some, p2, aI, if_neg c, fin s1 p2]
        rfl
    · exact q1.trans (Ew_0 (by unfold RpK; decide) (i2_of (by omega) (by omega)))
    · rw [sw_ne _ (by decide)]; exact p1 j hj
    · rw [sw_eq, u1_eq]; rfl
    · rw [sw_ne _ (by decide)]
      show _ = (if A.1 = 0 then row else A.2) j
      rw [if_neg c]
      exact p3 c j hj
    · rw [sw_ne _ (by decide)]; exact p4 i i0 i1
/-- what is done at a visit that can be gone on, and what comes behind -/
theorem m_planGo {n k : Nat} {used w : Nat} {row : Nat → Int} {K K' L : Rw} {A A' : PA} {s3 : Sg} {gg : Option Nat → Int → Int → ax_H → Option ax_H} (hG : G32 s) (V : MoV (s 2) K) (V' : MoV (s 2) K') (hn : n ≤ 8) (hk : k < n) (hw : w < n) (hu : used < 256) (q3 : Ew (sw s 2 K') s3) (p1 : ∀ j : Nat, j < k → s3 21 j = row j) (p2 : s3 0 37 = A.1) (p3 : A.1 ≠ 0 → ∀ j : Nat, j < n → s3 22 j = A.2 j) (p4 : ∀ i : Int, 0 ≤ i → i < 73 * ((k + 1 : Nat) : Int) → s3 5 i = cpR L (73 * k) K 73 i) (ih : ∀ g, PlI m s h n (k + 1) (k + 1) (rbU row k w) K' A (cpR L (73 * k) K 73) g → ∃ g', gg (some m) ((k + 1 : Nat) : Int) ((used ||| 2 ^ w : Nat) : Int) g = some g' ∧ PlI m s h n (k + 1) (k + 1) (rbU row k w) K' A' (cpR L (73 * k) K 73) g') : ∃ g', f_X5_triesVisits_186 E gg (some m) k used n w (mdl m s3 h) = some (.inl ((w : Int) + 1, g')) ∧ PlI m s h n k (k + 1) row K A' (cpR L (73 * k) K 73) g' := by
  have g3 : G32 s3 := q3.2.2 (G32_sw hG V'.2.1)
  obtain ⟨s4, es4⟩ : ∃ s4, s4 = sw s3 21 (u1 (s3 21) k w) := ⟨_, rfl⟩
  have st : ax_sto (mdl m s3 h) (some (m + 21)) 100 (k : Int) (w : Int) = some (mdl m s4 h) := by rw [es4]; exact md_sto21 (by omega) (by omega)
  have q4 : Ew (sw s 2 K') s4 := by rw [es4]; exact q3.trans (Ew_u (by unfold RpO; decide) (by decide) g3 (i2_of (by omega) (by omega)))
  have eo : ax_or (used : Int) (ax_shl 1 (w : Int)) = ((used ||| 2 ^ w : Nat) : Int) := by
    have := pow_256 (w := w) (by omega)
    rw [shl1 (by omega), or_nat (by omega) (by omega)]
  obtain ⟨g5, w5, s5, e5, q5, r1, r2, r3, r4⟩ := ih (mdl m s4 h) ⟨s4, rfl, q4, fun j hj => by
    rw [es4, sw_eq]
    unfold rbU
    by_cases cj : j = k
    · subst cj; rw [u1_eq, if_pos rfl]
    · rw [u1_ne _ (by omega), if_neg cj]; exact p1 j (by omega), by rw [es4, sw_ne _ (by decide)]; exact p2, fun c j hj => by rw [es4, sw_ne _ (by decide)]; exact p3 c j hj, fun i i0 i1 => by rw [es4, sw_ne _ (by decide)]; exact p4 i i0 i1⟩
  have g5' : G32 s5 := q5.2.2 (G32_sw hG V'.2.1)
  have k5 : s5 2 = K' := q5.k.trans (sw_eq _ _ _)
  have bk : cpR (s5 2) 0 (fun i => s5 5 (73 * (k : Int) + i)) 73 = K := by
    funext i
    by_cases ci : 0 ≤ i ∧ i < 73
    · rw [cpR_in (by omega), Int.sub_zero, r4 _ (by omega) (by omega), cpR_in (by omega)]
      congr 1
      omega
    · rw [cpR_out (by omega), k5, V'.2.2 i (by omega), V.2.2 i (by omega)]
  refine ⟨mdl m (sw s5 2 K) h, ?_, sw s5 2 K, rfl, ?_, fun j hj => ?_, ?_, fun c j hj => ?_, fun i i0 i1 => ?_⟩
  · unfold f_X5_triesVisits_186 f_X5_triesVisits_212
    have w5' : gg (some m) ((k : Int) + 1) ((used ||| 2 ^ w : Nat) : Int) (mdl m s4 h) = some g5 := w5
    rw [md_gR35, Option.bind_some, st, Option.bind_some, md_ce, Option.bind_some, eo, w5', Option.bind_some, e5, md_ce, Option.bind_some, m_takesBack (by omega) (by omega), bk, Option.bind_some]
  · have e := Ew_sw (o := 2) (F := K) q5 (by decide) g5' V.2.1
    rw [sw_sw] at e
    exact e
  · rw [sw_ne _ (by decide), r1 j (by omega)]
    unfold rbU
    rw [if_neg (by omega)]
  · rw [sw_ne _ (by decide)]; exact r2
  · rw [sw_ne _ (by decide)]; exact r3 c j hj
  · rw [sw_ne _ (by decide)]; exact r4 i i0 i1
theorem m_plans (hG : G32 s) (H0 : KW (s 2)) {n : Nat} (hn : (n : Int) = s 2 153) : ∀ (f k used : Nat) (row : Nat → Int) (K L : Rw) (A : PA) (g : ax_H), n + 1 ≤ f + k → k ≤ n → used < 256 → MoV (s 2) K → 0 ≤ A.1 → A.1 + ((n ^ (n - k) : Nat) : Int) ≤ 20000000 → PlI m s h n k k row K A L g → ∃ g', rg_X5_triesVisits E f (some m) k used g = some g' ∧ PlI m s h n k k row K (rowsT n planD f k used row K A) L g' := by
  have n8 := H0.2.2.1.1
  intro f
  induction f with
  | zero => intro k used row K L A g hf hk; omega
  | succ f ih =>
    intro k used row K L A g hf hk hu V hA hB I
    have hKW := V.1
    have h7 := hKW.1.1
    have hR := hKW.1.2.2.2.2
    have e153 := V.2.2 153 (by decide)
    have e152 := V.2.2 152 (by decide)
    have I' := I
    obtain ⟨s1, rfl, q1, p1, p2, p3, p4⟩ := I
    have g1 : G32 s1 := q1.2.2 (G32_sw hG V.2.1)
    have k1 : s1 2 = K := q1.k.trans (sw_eq _ _ _)
    show ∃ g', f_X5_triesVisits E (rg_X5_triesVisits E f) (some m) k used (mdl m s1 h) = some g' ∧ _
    unfold f_X5_triesVisits rowsT
    rw [md_gR2, Option.bind_some, md_ld2 (by decide) (by decide), Option.bind_some, k1, e153, ← hn, i2_of (a := (k : Int)) (by omega) (by omega), i2_of (a := (n : Int)) (by omega) (by omega)]
    by_cases c : k = n
    · rw [if_pos (by omega), if_pos c]
      exact m_planEnd (E := E) hG V (by omega) c (by omega) I'
    · rw [if_neg (by omega), if_neg c]
      obtain ⟨s2, es2⟩ : ∃ s2, s2 = sw s1 5 (cpR (s1 5) (73 * k) K 73) := ⟨_, rfl⟩
      have q2 : Ew (sw s 2 K) s2 := by rw [es2]; exact q1.trans (Ew_o (by unfold RpO; decide) (by decide) (cpR_32 (g1 5) V.2.1))
      have I2 : PlI m s h n k (k + 1) row K A (cpR L (73 * k) K 73) (mdl m s2 h) := ⟨s2, rfl, q2, fun j hj => by rw [es2, sw_ne _ (by decide)]; exact p1 j hj, by rw [es2, sw_ne _ (by decide)]; exact p2, fun c j hj => by rw [es2, sw_ne _ (by decide)]; exact p3 c j hj, fun i i0 i1 => by
        rw [es2, sw_eq]
        by_cases ci : 73 * (k : Int) ≤ i
        · rw [cpR_in (by omega), cpR_in (by omega)]
        · rw [cpR_out (by omega), cpR_out (by omega)]; exact p4 i i0 (by omega)⟩
      obtain ⟨P, eP⟩ : ∃ P : Nat, P = n ^ (n - (k + 1)) := ⟨_, rfl⟩
      obtain ⟨g', ⟨w1, -⟩, w2⟩ := it_runI (body := fun y : Int × ax_H => lb_X5_triesVisits_69 E (rg_X5_triesVisits E f) (some m) k used n y.1 y.2) (fun (_ : PA) (w : Nat) g => ((w : Int), g)) (fun (_ : PA) g => g) (I := fun w B g => PlI m s h n k (k + 1) row K B (cpR L (73 * k) K 73) g ∧ (0 ≤ B.1 ∧ B.1 ≤ A.1 + (w : Int) * (P : Int))) (P := fun B g => PlI m s h n k (k + 1) row K B (cpR L (73 * k) K 73) g ∧ True) (f := rwF planD (rowsT n planD f) k used row K) (fin := id) n (by
        rintro w B g hw ⟨hI, hb0, hb1⟩
        have st := pow_st (k := k) (w := w) (n := n) (by omega) hw
        rw [← eP] at st
        have st2 : ((w : Int) + 1) * (P : Int) = (w : Int) * (P : Int) + (P : Int) := by rw [Int.add_mul, Int.one_mul]
        have cw : ((w + 1 : Nat) : Int) * (P : Int) = (w : Int) * (P : Int) + (P : Int) := by rw [← st2]; rfl
        have hI' := hI
        obtain ⟨s3, rfl, y1, y2, y3, y4, y5⟩ := hI
        have g3 : G32 s3 := y1.2.2 (G32_sw hG V.2.1)
        have k3 : s3 2 = K := y1.k.trans (sw_eq _ _ _)
        have f1 : ∀ g : ax_H, f_X5_isIn E (used : Int) (w : Int) g = some (b01 (used >>> w % 2 = 1), g) := fun g => m_isIn (by omega) (by omega)
        obtain ⟨v1, v2, v3, v4, v5⟩ := hKW.2.2.1.2 (w : Int) (by omega) (by omega)
        by_cases c1 : used >>> w % 2 = 1
        · refine ⟨_, Or.inl ⟨B, by unfold rwF; rw [if_pos c1], ⟨hI', hb0, by rw [cw]; omega⟩, ?_⟩⟩
          simp only [lb_X5_triesVisits_69, f_X5_triesVisits_212]
          rw [i2_of (a := (w : Int)) (by omega) (by omega), i2_of (a := (n : Int)) (by omega) (by omega), if_pos (by omega), f1, Option.bind_some]
          dsimp only
          rw [if_neg (by rw [b01_z]; exact fun z => z c1)]
          simp
        · obtain ⟨ho, eho⟩ : ∃ ho, ho = K (87 + 4 * (w : Int) + 1) := ⟨_, rfl⟩
          obtain ⟨vi, evi⟩ : ∃ vi, vi = K (87 + 4 * (w : Int)) := ⟨_, rfl⟩
          obtain ⟨ro, ero⟩ : ∃ ro, ro = K (87 + 4 * (w : Int) + 2) := ⟨_, rfl⟩
          obtain ⟨se, ese⟩ : ∃ se, se = K (87 + 4 * (w : Int) + 3) := ⟨_, rfl⟩
          have eD : planD K w = if deepS K ho vi < ro then none else some (repS K ho vi se) := by unfold planD; rw [← eho, ← evi, ← ero, ← ese]
          rw [← evi] at v1 v3
          rw [← eho] at v2 v3
          rw [← ero] at v4
          rw [← ese] at v5
          have ldh : ∀ s4 : Sg, s4 2 = K → ax_ld E (mdl m s4 h) (some (m + 2)) 100 (87 + 4 * (w : Int) + 1) = some ho := fun s4 e => by rw [md_ld2 (by omega) (by omega), e, eho]
          have ldv : ∀ s4 : Sg, s4 2 = K → ax_ld E (mdl m s4 h) (some (m + 2)) 100 (87 + 4 * (w : Int)) = some vi := fun s4 e => by rw [md_ld2 (by omega) (by omega), e, evi]
          have ldr : ∀ s4 : Sg, s4 2 = K → ax_ld E (mdl m s4 h) (some (m + 2)) 100 (87 + 4 * (w : Int) + 2) = some ro := fun s4 e => by rw [md_ld2 (by omega) (by omega), e, ero]
          have lds : ∀ s4 : Sg, s4 2 = K → ax_ld E (mdl m s4 h) (some (m + 2)) 100 (87 + 4 * (w : Int) + 3) = some se := fun s4 e => by rw [md_ld2 (by omega) (by omega), e, ese]
          obtain ⟨s4, e4, q4⟩ := m_deepNow (E := E) (m := m) (h := h) (s := s3) (ow := ho) (vi := vi) g3 (by rw [k3]; exact hKW.1) (by rw [k3]; exact hKW.2.1) (by rw [k3]; exact v2) (by rw [k3]; exact v1)
          rw [k3] at e4
          have k4 : s4 2 = K := q4.k.trans k3
          have g4 := q4.2.2 g3
          have db := deep_b hKW.1 (ow := ho) (vi := vi) (oe := owed K ho vi) (ba := owed K vi ho) v2 (owed_b hR ho vi).1
          have db' : 0 ≤ deepS K ho vi ∧ deepS K ho vi ≤ 3 := db
          by_cases c2 : deepS K ho vi < ro
          · refine ⟨mdl m s4 h, Or.inl ⟨B, by unfold rwF; rw [if_neg c1, eD, if_pos c2], ⟨⟨s4, rfl, y1.trans q4.ew, fun j hj => ?_, ?_, fun c j hj => ?_, fun i i0 i1 => ?_⟩, hb0, by rw [cw]; omega⟩, ?_⟩⟩
            · rw [q4.1 21 (by decide) (by decide)]; exact y2 j hj
            · rw [q4.2.1 37 (by decide) (by decide) (by decide) (by decide)]; exact y3
            · rw [q4.1 22 (by decide) (by decide)]; exact y4 c j hj
            · rw [q4.1 5 (by decide) (by decide)]; exact y5 i i0 i1
            · simp only [lb_X5_triesVisits_69, f_X5_triesVisits_212]
              rw [i2_of (a := (w : Int)) (by omega) (by omega), i2_of (a := (n : Int)) (by omega) (by omega), if_pos (by omega), f1, Option.bind_some]
              dsimp only
              rw [if_pos (by rw [b01_z]; exact c1), md_gR2, Option.bind_some, ldh s3 k3, Option.bind_some, Option.bind_some, ldv s3 k3, Option.bind_some, md_ce, Option.bind_some, e4, Option.bind_some]
              dsimp only
              rw [md_gR2, Option.bind_some, ldr s4 k4, Option.bind_some, i2_of (a := deepS _ _ _) (by omega) (by omega), i2_of (a := ro) (by omega) (by omega), if_pos c2]
              simp
          · have eD' : planD K w = some (repS K ho vi se) := by rw [eD, if_neg c2]
            have V' : MoV (s 2) (repS K ho vi se) := rep_MoVa V v5.1 v2 v1
            have rb := rows_b n planD f (k + 1) (used ||| 2 ^ w) (rbU row k w) (repS K ho vi se) B (by omega) hb0
            rw [← eP] at rb
            have go : ∀ s5 : Sg, Ew (sw s 2 (repS K ho vi se)) s5 → (∀ o : Nat, o = 5 ∨ o = 21 ∨ o = 22 → s5 o = s4 o) → s5 0 37 = s4 0 37 → ∃ g', f_X5_triesVisits_186 E (rg_X5_triesVisits E f) (some m) k used n w (mdl m s5 h) = some (.inl ((w : Int) + 1, g')) ∧ PlI m s h n k (k + 1) row K (rowsT n planD f (k + 1) (used ||| 2 ^ w) (rbU row k w) (repS K ho vi se) B) (cpR L (73 * k) K 73) g' := by
              intro s5 q5 z5 z37
              refine m_planGo (E := E) (A := B) hG V V' (by omega) (by omega) hw hu q5 (fun j hj => ?_) ?_ (fun c j hj => ?_) (fun i i0 i1 => ?_) (fun g hg => ih (k + 1) (used ||| 2 ^ w) (rbU row k w) (repS K ho vi se) _ B g (by omega) (by omega) (or_256 hu (pow_256 (by omega))) V' hb0 (by rw [← eP]; omega) hg)
              · rw [z5 21 (by decide), q4.1 21 (by decide) (by decide)]; exact y2 j hj
              · rw [z37, q4.2.1 37 (by decide) (by decide) (by decide) (by decide)]; exact y3
              · rw [z5 22 (by decide), q4.1 22 (by decide) (by decide)]; exact y4 c j hj
              · rw [z5 5 (by decide), q4.1 5 (by decide) (by decide)]; exact y5 i i0 i1
            have cR := m_canRepay (E := E) (m := m) (h := h) (s := s4) (p := ho) (q := vi) (a := se) g4 (by rw [k4]; exact hR) (by omega) (by omega) (i2_of (by omega) (by omega)) (by have := owed_b hR ho vi; rw [k4]; exact i2_of (by omega) (by omega))
            rw [k4] at cR
            have cb := canRepay_b (a := se) hR (show 0 ≤ ho ∧ ho < 7 by omega) (show 0 ≤ vi ∧ vi < 7 by omega) v5.1
            have key : ∃ g', (if 0 < i2 (canRepayS K ho vi se) then (ax_gR E (mdl m s4 h) (some m) 5 2).bind fun v16 => (ax_ld E (mdl m s4 h) v16 100 ((87 + (4 * (w : Int))) + 1)).bind fun v17 => (ax_gR E (mdl m s4 h) (some m) 5 2).bind fun v18 => (ax_ld E (mdl m s4 h) v18 100 (87 + (4 * (w : Int)))).bind fun v19 => (ax_ce E (mdl m s4 h) (some m) 5).bind fun _ => (f_X5_repays E (some m) v17 v19 (canRepayS K ho vi se) (mdl m s4 h)).bind fun h20 => f_X5_triesVisits_186 E (rg_X5_triesVisits E f) (some m) k used n w h20 else f_X5_triesVisits_186 E (rg_X5_triesVisits E f) (some m) k used n w (mdl m s4 h)) = some (.inl ((w : Int) + 1, g')) ∧ PlI m s h n k (k + 1) row K (rowsT n planD f (k + 1) (used ||| 2 ^ w) (rbU row k w) (repS K ho vi se) B) (cpR L (73 * k) K 73) g' := by
              rw [i2_of (a := canRepayS K ho vi se) (by omega) (by omega)]
              by_cases cc : 0 < canRepayS K ho vi se
              · have hc : canRepayS K ho vi se ≤ K ho ∧ K vi + canRepayS K ho vi se ≤ 9999 := by
                  unfold canRepayS at cc ⊢
                  rw [if_neg (Ne.symm v3)] at cc ⊢
                  omega
                have eS : repaysS K ho vi (canRepayS K ho vi se) = repS K ho vi se := by unfold repS; rw [if_pos cc]
                obtain ⟨g', z1, z2⟩ := go (sw s4 2 (repS K ho vi se)) (by
                  have e := Ew_sw (o := 2) (F := repS K ho vi se) (y1.trans q4.ew) (by decide) g4 V'.2.1
                  rw [sw_sw] at e
                  exact e) (fun o ho' => sw_ne _ (by omega)) (by rw [sw_ne _ (by decide)])
                refine ⟨g', ?_, z2⟩
                rw [if_pos cc, md_gR2, Option.bind_some, ldh s4 k4, Option.bind_some, Option.bind_some, ldv s4 k4, Option.bind_some, md_ce, Option.bind_some, m_repays g4 (by rw [k4]; exact hR) (by omega) (by omega) (Ne.symm v3) cb.1 (by rw [k4]; exact hc.1) (by rw [k4]; exact hc.2), Option.bind_some, k4, eS]
                exact z1
              · have eS : repS K ho vi se = K := by unfold repS; rw [if_neg cc]
                obtain ⟨g', z1, z2⟩ := go s4 (by rw [eS]; exact y1.trans q4.ew) (fun o _ => rfl) rfl
                refine ⟨g', ?_, z2⟩
                rw [if_neg cc]
                exact z1
            obtain ⟨g', z1, z2⟩ := key
            refine ⟨g', Or.inl ⟨_, by unfold rwF; rw [if_neg c1, eD'], ⟨z2, by omega, by rw [cw]; omega⟩, ?_⟩⟩
            simp only [lb_X5_triesVisits_69]
            rw [i2_of (a := (w : Int)) (by omega) (by omega), i2_of (a := (n : Int)) (by omega) (by omega), if_pos (by omega), f1, Option.bind_some]
            dsimp only
            rw [if_pos (by rw [b01_z]; exact c1), md_gR2, Option.bind_some, ldh s3 k3, Option.bind_some, Option.bind_some, ldv s3 k3, Option.bind_some, md_ce, Option.bind_some, e4, Option.bind_some]
            dsimp only
            rw [md_gR2, Option.bind_some, ldr s4 k4, Option.bind_some, i2_of (a := deepS _ _ _) (by omega) (by omega), i2_of (a := ro) (by omega) (by omega), if_neg c2]
            rw [Option.bind_some, ldh s4 k4, Option.bind_some, Option.bind_some, ldv s4 k4, Option.bind_some, Option.bind_some, lds s4 k4, Option.bind_some, md_ce, Option.bind_some, cR, Option.bind_some]
            exact z1) (by
        rintro B g ⟨hI, -⟩
        refine ⟨g, ⟨hI, trivial⟩, ?_⟩
        simp only [lb_X5_triesVisits_69]
        rw [if_neg (Int.lt_irrefl _)]
        rfl) n 0 A (mdl m s2 h) (by omega) ⟨I2, hA, by rw [show ((0 : Nat) : Int) = 0 from rfl, Int.zero_mul]; omega⟩
      refine ⟨g', ?_, ?_⟩
      · unfold f_X5_triesVisits_69
        have la : f_X5_laysAside E (some m) (k : Int) (mdl m s1 h) = some (mdl m s2 h) := by rw [m_laysAside (by omega) (by omega), k1, es2]
        rw [md_ce, Option.bind_some, la, Option.bind_some]
        exact w2
      · obtain ⟨s9, a1, a2, a3, a4, a5, a6⟩ := w1
        refine ⟨s9, a1, a2, a3, a4, a5, fun i i0 i1 => ?_⟩
        rw [a6 i i0 (by omega), cpR_out (by omega)]
theorem m_planP {i N : Int} (V : VW N s) (hi : i2 i = i) : ∃ s', f_X5_plan E (some m) i (mdl m s h) = some (planP s i, mdl m s' h) ∧ Ew s s' := by
  have hG := V.1.1
  have H0 := V.2.1
  have n8 := H0.2.2.1.1
  obtain ⟨n, hn⟩ : ∃ n : Nat, (n : Int) = s 2 153 := ⟨(s 2 153).toNat, by omega⟩
  have bi := i2_lh hi
  unfold f_X5_plan planP planR
  rw [md_gR2, Option.bind_some, md_ld2 (by decide) (by decide), Option.bind_some, m_lies hi (by decide) (i2_of (by omega) (by omega)), Option.bind_some]
  by_cases c : -1 ≤ i ∧ i ≤ s 2 153 - 1
  · rw [if_neg (by rw [b01_z]; exact fun z => z c), if_neg (fun z => z c)]
    obtain ⟨s1, es1⟩ : ∃ s1, s1 = sw s 0 (u1 (s 0) 37 0) := ⟨_, rfl⟩
    have q1 : Ew s s1 := by rw [es1]; exact Ew_0 (by unfold RpK; decide) (by decide)
    have p37 : ax_pI (mdl m s h) (some m) 5 37 0 = some (mdl m s1 h) := by rw [es1]; exact md_pI37
    have I0 : PlI m s h n 0 0 (fun _ => 0) (s 2) (0, fun _ => 0) (fun _ => 0) (mdl m s1 h) := ⟨s1, rfl, by rw [sw_self]; exact q1, fun j hj => absurd hj (Nat.not_lt_zero j), by rw [es1, sw_eq, u1_eq], fun z => absurd rfl z, fun i i0 i1 => by omega⟩
    have pw := pow_8 (n := n) (k := 0) (by omega)
    obtain ⟨g', w1, s2, e2, q2, r1, r2, r3, -⟩ := m_plans (E := E) hG H0 hn 64 0 0 (fun _ => 0) (s 2) (fun _ => 0) (0, fun _ => 0) (mdl m s1 h) (by omega) (by omega) (by decide) ⟨H0, hG 2, fun i _ => rfl⟩ (by decide) (by show (0 : Int) + _ ≤ _; omega) I0
    rw [sw_self] at q2
    have rb := rows_b n planD 64 0 0 (fun _ => 0) (s 2) (0, fun _ => 0) (by omega) (by decide)
    have en : (s 2 153).toNat = n := by omega
    rw [en]
    obtain ⟨R, eR⟩ : ∃ R, R = rowsT n planD 64 0 0 (fun _ => 0) (s 2) (0, fun _ => 0) := ⟨_, rfl⟩
    rw [← eR] at r2 r3 rb ⊢
    have rb1 : 0 ≤ R.1 ∧ R.1 ≤ 20000000 := ⟨rb.1, by have z : R.1 ≤ 0 + ((n ^ (n - 0) : Nat) : Int) := rb.2; omega⟩
    refine ⟨s2, ?_, q2⟩
    dsimp only
    have w1' : fn_X5_triesVisits E 64 (some m) 0 0 (mdl m s1 h) = some g' := w1
    rw [p37, Option.bind_some, md_ce, Option.bind_some, w1', Option.bind_some, e2, hi, show i2 (-1) = -1 by decide]
    by_cases c1 : i = -1
    · rw [if_pos c1, if_pos c1, md_gI37, Option.bind_some, r2]
    · rw [if_neg c1, if_neg c1, md_gI37, Option.bind_some, r2, i2_of (a := R.1) (by omega) (by omega)]
      by_cases c2 : R.1 = 0
      · rw [if_pos c2, if_pos c2]
      · rw [if_neg c2, if_neg c2, md_gR36, Option.bind_some, md_ld22 (by omega) (by omega), Option.bind_some]
        have := r3 c2 i.toNat (by omega)
        rw [Int.toNat_of_nonneg (by omega)] at this
        rw [this]
  · rw [if_pos (by rw [b01_z]; exact c), if_pos c]
    exact ⟨s, rfl, Ew.refl s⟩
end
