/-! Rings: the model's answers -/
set_option maxRecDepth 100000
def ringP (s : Sg) (i : Int) : Int := match ringS (s 2) with
  | none => -1
  | some (sz, _, fr) => if i = -1 then sz else if 0 ≤ i ∧ i ≤ (sz : Int) - 1 then fr i.toNat else -1
def rlN (K : Rw) (fr : Nat → Int) (sz : Nat) (c : Int) (n : Nat) : Int := foldN (fun a k => min a (owed K (fr k) (fr ((k + 1) % sz)))) n c
def clN (fr : Nat → Int) (sz : Nat) (v : Int) (n : Nat) (K : Rw) : Rw := foldN (fun K k => lowersS K (fr k) (fr ((k + 1) % sz)) v) n K
theorem rl_b {n : Int} {K : Rw} (H : RV n K) (fr : Nat → Int) (sz : Nat) {c : Int} (hc : 200000 ≤ c) : ∀ n : Nat, 0 ≤ rlN K fr sz c n ∧ rlN K fr sz c n ≤ c ∧ (1 ≤ n → rlN K fr sz c n ≤ 159984) := by
  intro n
  induction n with
  | zero => exact ⟨by show 0 ≤ c; omega, Int.le_refl _, fun h => by omega⟩
  | succ n ih =>
    have b := owed_b H (fr n) (fr ((n + 1) % sz))
    have e : rlN K fr sz c (n + 1) = min (rlN K fr sz c n) (owed K (fr n) (fr ((n + 1) % sz))) := rfl
    rw [e]
    omega
theorem rl_eq {n : Int} {K : Rw} (H : RV n K) (fr : Nat → Int) (sz : Nat) {c d : Int} (hc : 200000 ≤ c) (hd : 200000 ≤ d) : ∀ n : Nat, rlN K fr sz c (n + 1) = rlN K fr sz d (n + 1) := by
  intro n
  induction n with
  | zero =>
    have b := owed_b H (fr 0) (fr ((0 + 1) % sz))
    show min c (owed K (fr 0) (fr ((0 + 1) % sz))) = min d (owed K (fr 0) (fr ((0 + 1) % sz)))
    rw [Int.min_eq_right (by omega), Int.min_eq_right (by omega)]
  | succ n ih =>
    show min (rlN K fr sz c (n + 1)) _ = min (rlN K fr sz d (n + 1)) _
    rw [ih]
theorem low_lo {p q : Int} : ∀ (f : Nat) (r d : Int) (K : Rw), K 71 ≤ 16 → 0 ≤ d → ∀ i, i < 7 → lowF p q f r d K i = K i := by
  intro f
  induction f with
  | zero => intro r d K _ _ i _; rfl
  | succ f ih =>
    intro r d K hk h0 i hi
    unfold lowF
    split
    · rename_i hd
      split
      · split
        · rw [ih _ _ _ (by rw [removes_71 hk h0 hd]; omega) h0 i hi]
          unfold removesS
          rw [cpR_out (by omega), u1_ne _ (by omega), u1_ne _ (by omega)]
        · rw [ih _ _ _ (by rw [u1_ne _ (by omega)]; exact hk) (by omega) i hi, u1_ne _ (by omega)]
      · exact ih _ _ _ hk (by omega) i hi
    · rfl
theorem lowers_RV {n : Int} {K : Rw} {p q v : Int} (H : RV n K) (hv : 0 ≤ v) : RV n (lowersS K p q v) := by
  unfold lowersS
  exact lowF_RV _ _ _ _ H (by decide) hv
theorem lowers_32 {n : Int} {K : Rw} {p q v : Int} (H : RV n K) (h : K32 K) (hv : 0 ≤ v) : K32 (lowersS K p q v) := by
  unfold lowersS
  exact lowF_32 _ _ _ _ H h (by decide) hv
theorem lowers_i {K : Rw} {p q v i : Int} (h : K 71 ≤ 16) (hi : i < 7 ∨ 73 ≤ i) : lowersS K p q v i = K i := by
  unfold lowersS
  rcases hi with hi | hi
  · exact low_lo 17 v 0 K h (by decide) i hi
  · exact low_up 17 v 0 K h (by decide) i hi
theorem foldN_s {A : Type} (f : A → Nat → A) (n : Nat) (a : A) : foldN f (n + 1) a = f (foldN f n a) n := rfl
theorem clN_s (fr : Nat → Int) (sz : Nat) (v : Int) (j : Nat) (K : Rw) : clN fr sz v (j + 1) K = lowersS (clN fr sz v j K) (fr j) (fr ((j + 1) % sz)) v := by
  unfold clN
  rw [foldN_s]
theorem cl_all {n : Int} {fr : Nat → Int} {sz : Nat} {v : Int} {K : Rw} (H : RV n K) (h32 : K32 K) (hv : 0 ≤ v) : ∀ j : Nat, RV n (clN fr sz v j K) ∧ K32 (clN fr sz v j K) ∧ ∀ i, (i < 7 ∨ 73 ≤ i) → clN fr sz v j K i = K i := by
  intro j
  induction j with
  | zero => exact ⟨H, h32, fun _ _ => rfl⟩
  | succ j ih =>
    obtain ⟨a, b, c⟩ := ih
    rw [clN_s]
    exact ⟨lowers_RV a hv, lowers_32 a b hv, fun i hi => (lowers_i a.1.2 hi).trans (c i hi)⟩
section
variable {E : ax_E} {m : Nat} {s : Sg} {h : ax_H}
theorem m_findsRing (hG : G32 s) (hK : KB (s 2)) : ∃ g', f_X5_findsRing E (some m) (mdl m s h) = some g' ∧ RgI m s h 0 (fun _ => 0) (ringS (s 2)) g' := by
  have hn := hK.1
  have p43 : ax_pI (mdl m s h) (some m) 5 43 0 = some (mdl m (sw s 0 (u1 (s 0) 43 0)) h) := md_pI43
  unfold f_X5_findsRing f_X5_findsRing_7
  rw [p43, Option.bind_some]
  obtain ⟨g', w1, w2⟩ := it_runI (body := fun y : Int × ax_H => lb_X5_findsRing_7 E (some m) y.1 y.2) (fun (_ : RB) (p : Nat) g => ((p : Int), g)) (fun (_ : RB) g => g) (I := fun _ R g => RgI m s h 0 (fun _ => 0) R g) (P := fun R g => RgI m s h 0 (fun _ => 0) R g) (f := fun R (p : Nat) => (.inl (ringT (s 2) 64 1 (2 ^ p) (fun _ => (p : Int)) R) : RB ⊕ RB)) (fin := id) (s 2 152).toNat (by
      rintro p R g hp ⟨s1, rfl, q1, -, b1, v1⟩
      have hk2 := q1.k
      have st24 : ax_sto (mdl m s1 h) (some (m + 24)) 100 0 (p : Int) = some (mdl m (sw s1 24 (u1 (s1 24) 0 p)) h) := md_sto24 (by omega) (by omega)
      obtain ⟨o1, o2⟩ := ones_p (p := p) (by omega)
      obtain ⟨g2, x1, x2⟩ := m_tries (E := E) (m := m) (h := h) hG hK 64 1 (2 ^ p) (fun _ => (p : Int)) R (mdl m (sw s1 24 (u1 (s1 24) 0 p)) h) (by decide) (by decide) o2 o1 (fun j hj => by show 0 ≤ (p : Int) ∧ (p : Int) < _; omega) ⟨_, rfl, q1.trans (Ew_u (by unfold RpO; omega) (by decide) (q1.2.2 hG) (i2_of (by omega) (by omega))), fun j hj => by
          have : j = 0 := by omega
          subst this
          rw [sw_eq]
          exact u1_eq _ _ _, by rw [sw_ne _ (by decide), sw_ne _ (by decide)]; exact b1, v1⟩
      obtain ⟨s2, y1, y2, y3, y4, y5⟩ := x2
      refine ⟨g2, Or.inl ⟨_, rfl, ⟨s2, y1, y2, fun j hj => absurd hj (by omega), y4, y5⟩, ?_⟩⟩
      simp only [lb_X5_findsRing_7, fn_X5_triesRing]
      rw [md_ce, Option.bind_some, m_people, Option.bind_some, hk2]
      dsimp only
      rw [i2_of (a := (p : Int)) (by omega) (by omega), i2_of (a := s 2 152) (by omega) (by omega), if_pos (by omega), md_gR41, Option.bind_some, st24, Option.bind_some, md_ce, Option.bind_some, shl1 (by omega)]
      have x1' : rg_X5_triesRing E 64 (some m) 1 ((2 ^ p : Nat) : Int) (mdl m (sw s1 24 (u1 (s1 24) 0 p)) h) = some g2 := x1
      rw [x1', Option.bind_some]
      simp) (by
      rintro R g hJ
      have hJ' := hJ
      obtain ⟨s1, rfl, q1, -, b1, v1⟩ := hJ
      have hk2 := q1.k
      refine ⟨_, hJ', ?_⟩
      simp only [lb_X5_findsRing_7]
      rw [md_ce, Option.bind_some, m_people, Option.bind_some, hk2]
      dsimp only
      rw [i2_of (a := (((s 2 152).toNat : Nat) : Int)) (by omega) (by omega), i2_of (a := s 2 152) (by omega) (by omega), if_neg (by omega)]
      rfl) (s 2 152).toNat 0 none (mdl m (sw s 0 (u1 (s 0) 43 0)) h) (by omega) ⟨_, rfl, Ew_0 (by unfold RpK; omega) (by decide), fun j hj => absurd hj (by omega), by show sw s 0 (u1 (s 0) 43 0) 0 43 = 0; rw [sw_eq, u1_eq], trivial⟩
  exact ⟨g', w2, w1⟩
theorem m_ring {i : Int} (hG : G32 s) (hK : KB (s 2)) (hi : i2 i = i) : ∃ s', f_X5_ring E (some m) i (mdl m s h) = some (ringP s i, mdl m s' h) ∧ Ew s s' := by
  obtain ⟨g', w1, s1, rfl, q1, -, b1, v1⟩ := m_findsRing (E := E) (m := m) (h := h) hG hK
  unfold f_X5_ring ringP
  rw [md_ce, Option.bind_some, w1, Option.bind_some, hi, show i2 (-1) = -1 by decide]
  refine ⟨s1, ?_, q1⟩
  cases hR : ringS (s 2) with
  | none =>
    rw [hR] at b1
    have b1' : s1 0 43 = 0 := b1
    have r23 : f_X5_ring_23 E (some m) i (mdl m s1 h) = some (-1, mdl m s1 h) := by
      unfold f_X5_ring_23
      rw [md_gI43, Option.bind_some, b1', m_lies hi (by decide) (by decide), Option.bind_some, if_pos (by rw [b01_z]; omega)]
    rw [r23, md_gI43, Option.bind_some, b1', show i2 0 = 0 by decide, if_neg (show ¬ (0 : Int) < 0 by decide), ite_self]
  | some t =>
    obtain ⟨sz, bits, fr⟩ := t
    rw [hR] at b1 v1
    obtain ⟨b43, -, bf⟩ := b1
    obtain ⟨v2, -, -⟩ := v1
    show _ = some (if i = -1 then (sz : Int) else if 0 ≤ i ∧ i ≤ (sz : Int) - 1 then fr i.toNat else -1, mdl m s1 h)
    by_cases c1 : i = -1
    · rw [if_pos c1, if_pos c1, md_gI43, Option.bind_some, b43, i2_of (a := (sz : Int)) (by omega) (by omega), if_pos (by omega)]
      rfl
    · rw [if_neg c1, if_neg c1]
      unfold f_X5_ring_23
      rw [md_gI43, Option.bind_some, b43, m_lies hi (by decide) (i2_of (by omega) (by omega)), Option.bind_some]
      by_cases c2 : 0 ≤ i ∧ i ≤ (sz : Int) - 1
      · rw [if_neg (by rw [b01_z]; exact fun z => z c2), if_pos c2, md_gR42, Option.bind_some, md_ld25 (by omega) (by omega), Option.bind_some]
        have := bf i.toNat (by omega)
        rw [show ((i.toNat : Nat) : Int) = i by omega] at this
        rw [this]
      · rw [if_pos (by rw [b01_z]; exact c2), if_neg c2]
theorem nxt {k sz : Nat} (hk : k < sz) (h7 : sz ≤ 7) : (i2 ((k : Int) + 1)).tmod (i2 (sz : Int)) = (((k + 1) % sz : Nat) : Int) := by
  rw [i2_of (a := (k : Int) + 1) (by omega) (by omega), i2_of (a := (sz : Int)) (by omega) (by omega), Int.tmod_eq_emod_of_nonneg (by omega), Int.natCast_emod, Int.natCast_add]
  rfl
theorem m_ringLeast {sz bits : Nat} {fr : Nat → Int} (hG : G32 s) (hK : KB (s 2)) (b : rbR (some (sz, bits, fr)) (s 0 43) (s 0 44) (s 25)) (v : rbV (s 2 152) (some (sz, bits, fr))) : f_X5_ringLeast E (some m) (mdl m s h) = some (rlN (s 2) fr sz 100000000 sz, mdl m s h) := by
  have h71 := hK.2.2.2.2.1
  have hn := hK.1
  obtain ⟨b43', -, bf⟩ := b
  have b43 : Hid (s 0 43 = sz) := b43'
  clear b43'
  obtain ⟨v2, -, vf⟩ := v
  have e := it_traj (body := fun y : Int × Int × ax_H => lb_X5_ringLeast_6 E (some m) y.1 y.2.1 y.2.2) (fun k => (rlN (s 2) fr sz 1000000000 k, (k : Int), mdl m s h)) sz (r := (rlN (s 2) fr sz 1000000000 sz, mdl m s h)) ?_ ?_
  · unfold f_X5_ringLeast f_X5_ringLeast_6
    refine e.trans ?_
    obtain ⟨n, rfl⟩ : ∃ n, sz = n + 1 := ⟨sz - 1, by omega⟩
    rw [rl_eq hK.2.2.2.2 fr (n + 1) (c := 1000000000) (d := 100000000) (by decide) (by decide) n]
  · intro k hk
    have r1 := rl_b hK.2.2.2.2 fr sz (c := 1000000000) (by decide) k
    have f1 := vf k hk
    have hm : (k + 1) % sz < sz := Nat.mod_lt _ (by omega)
    have f2 := vf ((k + 1) % sz) hm
    have hq : 0 ≤ (((k + 1) % sz : Nat) : Int) ∧ (((k + 1) % sz : Nat) : Int) < 7 := ⟨Int.natCast_nonneg _, Int.ofNat_lt.mpr (Nat.lt_of_lt_of_le hm v2.2)⟩
    have ob := owed_b hK.2.2.2.2 (fr k) (fr ((k + 1) % sz))
    simp only [lb_X5_ringLeast_6]
    rw [md_gI43, Option.bind_some, b43.out, i2_of (a := (k : Int)) (by omega) (by omega), i2_of (a := (sz : Int)) (by omega) (by omega), if_pos (by omega), md_gR42, Option.bind_some, md_ld25 (by omega) (by omega), Option.bind_some, Option.bind_some, Option.bind_some, nxt hk v2.2, i2_of (a := (sz : Int)) (by omega) (by omega), if_neg (by omega), md_ld25 hq.1 hq.2, Option.bind_some, bf k hk, bf _ (Nat.mod_lt _ (by omega)), md_ce, Option.bind_some, m_owed hG h71.1 h71.2 (i2_of (by omega) (by omega)) (i2_of (by omega) (by omega)), Option.bind_some]
    dsimp only
    rw [m_lesser (i2_of (by omega) (by omega)) (i2_of (by omega) (by omega)), Option.bind_some]
    rfl
  · simp only [lb_X5_ringLeast_6]
    rw [md_gI43, Option.bind_some, b43.out, if_neg (Int.lt_irrefl _)]
    rfl
theorem m_clears {sz bits : Nat} {fr : Nat → Int} {v : Int} (hG : G32 s) (hK : KB (s 2)) (b : rbR (some (sz, bits, fr)) (s 0 43) (s 0 44) (s 25)) (vv : rbV (s 2 152) (some (sz, bits, fr))) (h0 : 0 ≤ v) (hv : i2 v = v) : f_X5_clears E (some m) v (mdl m s h) = some (mdl m (sw s 2 (clN fr sz v sz (s 2))) h) := by
  have hn := hK.1
  obtain ⟨b43', -, bf⟩ := b
  have b43 : Hid (s 0 43 = sz) := b43'
  clear b43'
  obtain ⟨v2, -, vf⟩ := vv
  have e := it_traj (body := fun y : Int × ax_H => lb_X5_clears_2 E (some m) v y.1 y.2) (fun k => ((k : Int), mdl m (sw s 2 (clN fr sz v k (s 2))) h)) sz (r := mdl m (sw s 2 (clN fr sz v sz (s 2))) h) ?_ ?_
  · unfold f_X5_clears f_X5_clears_2
    have e0 : mdl m s h = mdl m (sw s 2 (clN fr sz v 0 (s 2))) h := by
      show _ = mdl m (sw s 2 (s 2)) h
      rw [sw_self]
    rw [e0]
    exact e
  · intro k hk
    obtain ⟨a1, a2, a3⟩ := cl_all (fr := fr) (sz := sz) (v := v) hK.2.2.2.2 (hG 2) h0 k
    have f1 := vf k hk
    have hm : (k + 1) % sz < sz := Nat.mod_lt _ (by omega)
    have f2 := vf ((k + 1) % sz) hm
    have hq : 0 ≤ (((k + 1) % sz : Nat) : Int) ∧ (((k + 1) % sz : Nat) : Int) < 7 := ⟨Int.natCast_nonneg _, Int.ofNat_lt.mpr (Nat.lt_of_lt_of_le hm v2.2)⟩
    have ml := m_lowers (E := E) (m := m) (s := sw s 2 (clN fr sz v k (s 2))) (h := h) (n := s 2 152) (p := fr k) (q := fr ((k + 1) % sz)) (a := v) (G32_sw hG a2) (by rw [sw_eq]; exact a1) (i2_of (by omega) (by omega)) (i2_of (by omega) (by omega)) h0 hv
    rw [sw_eq, sw_sw] at ml
    simp only [lb_X5_clears_2]
    rw [md_gI43, Option.bind_some, sw_ne _ (by decide), b43.out, i2_of (a := (k : Int)) (by omega) (by omega), i2_of (a := (sz : Int)) (by omega) (by omega), if_pos (by omega), md_gR42, Option.bind_some, md_ld25 (by omega) (by omega), Option.bind_some, Option.bind_some, Option.bind_some, nxt hk v2.2, i2_of (a := (sz : Int)) (by omega) (by omega), if_neg (by omega), md_ld25 hq.1 hq.2, Option.bind_some, sw_ne _ (by decide), bf k hk, bf _ (Nat.mod_lt _ (by omega)), md_ce, Option.bind_some, ml, Option.bind_some, ← clN_s]
    rfl
  · simp only [lb_X5_clears_2]
    rw [md_gI43, Option.bind_some, sw_ne _ (by decide), b43.out, if_neg (Int.lt_irrefl _)]
    rfl
end
