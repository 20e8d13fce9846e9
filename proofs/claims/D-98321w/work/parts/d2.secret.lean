/-! Secrets, what can be denied: both sides -/
set_option maxRecDepth 100000
theorem sm_split {f : Nat → Int} (a b : Nat) : sm (a + b) f = sm a f + sm b (fun k => f (a + k)) := by
  induction b with
  | zero => simp [sm]
  | succ b ih =>
    rw [← Nat.add_assoc]
    simp only [sm]
    rw [ih]
    omega
theorem sm_one {f : Nat → Int} : sm 1 f = f 0 := by simp [sm]
theorem owed_removes {K : Rw} {d : Nat} (h16 : K 71 ≤ 16) (h1 : (d : Int) < K 71) (p q : Int) : owed (removesS K d) p q = moreW K (K (7 + 4 * (d : Int))) (K (7 + 4 * (d : Int) + 1)) (- K (7 + 4 * (d : Int) + 2)) p q := by
  obtain ⟨r, hr⟩ : ∃ r : Nat, K 71 = ((d + 1 + r : Nat) : Int) := ⟨(K 71).toNat - d - 1, by omega⟩
  have e71 : removesS K d 71 = ((d + r : Nat) : Int) := by
    unfold removesS
    rw [cpR_out (by omega), u1_eq]
    omega
  have lo : ∀ i, i < 7 + 4 * (d : Int) → removesS K d i = K i := by
    intro i hi
    unfold removesS
    rw [cpR_out (by omega), u1_ne _ (by omega)]
  have hi : ∀ i, 7 + 4 * (d : Int) ≤ i → i < 7 + 4 * ((d : Int) + r) → removesS K d i = K (i + 4) := by
    intro i h1 h2
    unfold removesS
    rw [cpR_in (by omega)]
    congr 1
    omega
  have E1 : owed (removesS K d) p q = sm (d + r) (fun k => if removesS K d (7 + 4 * (k : Int)) = p ∧ removesS K d (7 + 4 * (k : Int) + 1) = q then removesS K d (7 + 4 * (k : Int) + 2) else 0) := by
    unfold owed
    rw [e71, Int.toNat_natCast]
  have E2 : owed K p q = sm (d + (1 + r)) (fun k => if K (7 + 4 * (k : Int)) = p ∧ K (7 + 4 * (k : Int) + 1) = q then K (7 + 4 * (k : Int) + 2) else 0) := by
    unfold owed
    rw [hr, Int.toNat_natCast, Nat.add_assoc]
  unfold moreW
  rw [E1, E2, sm_split, sm_split d, sm_split 1 r, sm_one]
  have A1 : sm d (fun k => if removesS K d (7 + 4 * (k : Int)) = p ∧ removesS K d (7 + 4 * (k : Int) + 1) = q then removesS K d (7 + 4 * (k : Int) + 2) else 0) = sm d (fun k => if K (7 + 4 * (k : Int)) = p ∧ K (7 + 4 * (k : Int) + 1) = q then K (7 + 4 * (k : Int) + 2) else 0) := by
    refine sm_congr (fun k hk => ?_)
    rw [lo _ (by omega), lo _ (by omega), lo _ (by omega)]
  have A2 : sm r (fun k => if removesS K d (7 + 4 * ((d + k : Nat) : Int)) = p ∧ removesS K d (7 + 4 * ((d + k : Nat) : Int) + 1) = q then removesS K d (7 + 4 * ((d + k : Nat) : Int) + 2) else 0) = sm r (fun k => if K (7 + 4 * ((d + (1 + k) : Nat) : Int)) = p ∧ K (7 + 4 * ((d + (1 + k) : Nat) : Int) + 1) = q then K (7 + 4 * ((d + (1 + k) : Nat) : Int) + 2) else 0) := by
    refine sm_congr (fun k hk => ?_)
    rw [hi _ (by omega) (by omega), hi _ (by omega) (by omega), hi _ (by omega) (by omega), show 7 + 4 * ((d + k : Nat) : Int) + 4 = 7 + 4 * ((d + (1 + k) : Nat) : Int) by omega, show 7 + 4 * ((d + k : Nat) : Int) + 1 + 4 = 7 + 4 * ((d + (1 + k) : Nat) : Int) + 1 by omega, show 7 + 4 * ((d + k : Nat) : Int) + 2 + 4 = 7 + 4 * ((d + (1 + k) : Nat) : Int) + 2 by omega]
  rw [A1, A2]
  simp only [Nat.add_zero]
  split <;> omega
def seW (s : Sg) (k : Nat) : Int → Int → Int := moreW (s 2) ((k : Int) / 70) ((k : Int) / 10 % 7) (20 * ((k : Int) % 10 + 1))
def seB (s : Sg) (k : Nat) : Bool := decide (((0 ≤ (k : Int) / 70 ∧ (k : Int) / 70 ≤ s 2 152 - 1) ∧ (0 ≤ (k : Int) / 10 % 7 ∧ (k : Int) / 10 % 7 ≤ s 2 152 - 1) ∧ (k : Int) / 70 ≠ (k : Int) / 10 % 7) ∧ soS (s 2) (seW s k) = 1)
def seF (s : Sg) (i : Int) (n : Int) (k : Nat) : Int ⊕ Int := if seB s k = true then (if n = i then .inr (k : Int) else .inl (n + 1)) else .inl n
def secretP (s : Sg) (i : Int) : Int := if i < -1 then -1 else runF (seF s i) (fun n => if i = -1 then n else -1) 490 0 0
def deF (K : Rw) (a : Int) (k : Nat) : Int := ax_or a (if soS K (moreW K (K (7 + 4 * (k : Int))) (K (7 + 4 * (k : Int) + 1)) (- K (7 + 4 * (k : Int) + 2))) = 0 then 0 else ax_shl 1 k)
def deniedP (s : Sg) : Int := runF (R := Int) (fun a k => .inl (deF (s 2) a k)) id (s 2 71).toNat 0 0
theorem se_w {n : Int} {K : Rw} (H : RV n K) {d c v : Int} (hv : 0 ≤ v ∧ v ≤ 200) (p q : Int) : 0 ≤ moreW K d c v p q ∧ moreW K d c v p q ≤ 500000 := by
  have := owed_b H p q
  unfold moreW
  split <;> omega
theorem de_w {n : Int} {K : Rw} (H : RV n K) {d : Nat} (hd : (d : Int) < K 71) (p q : Int) : 0 ≤ moreW K (K (7 + 4 * (d : Int))) (K (7 + 4 * (d : Int) + 1)) (- K (7 + 4 * (d : Int) + 2)) p q ∧ moreW K (K (7 + 4 * (d : Int))) (K (7 + 4 * (d : Int) + 1)) (- K (7 + 4 * (d : Int) + 2)) p q ≤ 500000 := by
  rw [← owed_removes H.1.2 hd]
  have := owed_b (H.drop (d := (d : Int)) (by omega) hd) p q
  omega
section
variable {E : ax_E} {m : Nat} {s : Sg} {h : ax_H}
theorem m_secret {i : Int} (hG : G32 s) (hK : KB (s 2)) (hL : LsV (s 2)) (hF : FoV (s 2) 119 154 1) (hi : i2 i = i) : ∃ s', f_X5_secret E (some m) i (mdl m s h) = some (secretP s i, mdl m s' h) ∧ Es s s' := by
  have hn := hK.1
  unfold f_X5_secret f_X5_secret_11 secretP
  rw [hi, show i2 (-1) = -1 by decide]
  by_cases c0 : i < -1
  · rw [if_pos c0, if_pos c0]
    exact ⟨s, rfl, Es.refl s⟩
  · rw [if_neg c0, if_neg c0]
    obtain ⟨g', ⟨s', rfl, q⟩, e1⟩ := it_run (body := fun st : Int × Int × ax_H => lb_X5_secret_11 E (some m) i st.1 st.2.1 st.2.2) (fun n (k : Nat) g => (n, (k : Int), g)) (fun r g => (r, g)) (Q := MdE m s h) (V := fun k n => 0 ≤ n ∧ n ≤ k) (f := seF s i) (fin := fun n => if i = -1 then n else -1) 490 (by
      rintro k n _ hk hv ⟨s1, rfl, q1⟩
      have hk2 := q1.k
      have hG1 := q1.2.2 hG
      have t1 : (k : Int).tdiv 70 = (k : Int) / 70 := Int.tdiv_eq_ediv_of_nonneg (by omega)
      have t2 : (k : Int).tdiv 10 = (k : Int) / 10 := Int.tdiv_eq_ediv_of_nonneg (by omega)
      have t3 : ((k : Int) / 10).tmod 7 = (k : Int) / 10 % 7 := Int.tmod_eq_emod_of_nonneg (by omega)
      have t4 : (k : Int).tmod 10 = (k : Int) % 10 := Int.tmod_eq_emod_of_nonneg (by omega)
      have two : f_X5_areTwo E (some m) ((k : Int) / 70) ((k : Int) / 10 % 7) (mdl m s1 h) = some (b01 (((0 ≤ (k : Int) / 70 ∧ (k : Int) / 70 ≤ s 2 152 - 1) ∧ (0 ≤ (k : Int) / 10 % 7 ∧ (k : Int) / 10 % 7 ≤ s 2 152 - 1) ∧ (k : Int) / 70 ≠ (k : Int) / 10 % 7)), mdl m s1 h) := by
        have := m_areTwo (E := E) (m := m) (h := h) (p := (k : Int) / 70) (q := (k : Int) / 10 % 7) hG1 (by rw [hk2]; exact hK) (i2_of (by omega) (by omega)) (i2_of (by omega) (by omega))
        rw [hk2] at this
        exact this
      simp only [lb_X5_secret_11, f_X5_secret_77]
      rw [i2_of (a := (k : Int)) (by omega) (by omega), show i2 490 = 490 by decide, if_pos (by omega), show i2 70 = 70 by decide, if_neg (by decide), show i2 10 = 10 by decide, if_neg (by decide), show i2 7 = 7 by decide, if_neg (by decide), t1, t2, i2_of (a := (k : Int) / 10) (by omega) (by omega), t3, t4, md_ce, Option.bind_some, two, Option.bind_some]
      by_cases c1 : ((0 ≤ (k : Int) / 70 ∧ (k : Int) / 70 ≤ s 2 152 - 1) ∧ (0 ≤ (k : Int) / 10 % 7 ∧ (k : Int) / 10 % 7 ≤ s 2 152 - 1) ∧ (k : Int) / 70 ≠ (k : Int) / 10 % 7)
      · obtain ⟨s2, e2, q2⟩ := m_areSo (E := E) (m := m) (s := s1) (h := h) (d := (k : Int) / 70) (c := (k : Int) / 10 % 7) (v := 20 * ((k : Int) % 10 + 1)) hG1 (by rw [hk2]; exact hK) (by rw [hk2]; exact hL) (by rw [hk2]; exact hF) (i2_of (by omega) (by omega)) (i2_of (by omega) (by omega)) (by omega) (by rw [hk2]; exact fun p q => (se_w hK.2.2.2.2 (by omega) p q).1)
        rw [hk2] at e2
        refine ⟨_, ⟨s2, rfl, q1.trans q2⟩, ?_⟩
        rw [if_neg (by rw [b01_z]; exact fun z => z c1), if_neg (by decide), md_ce, Option.bind_some, e2, Option.bind_some]
        dsimp only
        have w01 := soS_01 (s 2) (seW s k)
        have eW : moreW (s 2) ((k : Int) / 70) ((k : Int) / 10 % 7) (20 * ((k : Int) % 10 + 1)) = seW s k := rfl
        rw [eW, i2_of (a := soS _ _) (by omega) (by omega)]
        by_cases c2 : soS (s 2) (seW s k) = 0
        · have nb : ¬ seB s k = true := by unfold seB; rw [decide_eq_true_eq]; intro z; have := z.2; omega
          exact Or.inl ⟨n, by unfold seF; rw [if_neg nb], by omega, by rw [if_pos c2]; simp⟩
        · have yb : seB s k = true := by unfold seB; rw [decide_eq_true_eq]; exact ⟨c1, by omega⟩
          rw [if_neg c2, i2_of (a := n) (by omega) (by omega), hi]
          by_cases c3 : n = i
          · exact Or.inr ⟨(k : Int), by unfold seF; rw [if_pos yb, if_pos c3], by rw [if_pos c3]; rfl⟩
          · exact Or.inl ⟨n + 1, by unfold seF; rw [if_pos yb, if_neg c3], by omega, by rw [if_neg c3]; simp⟩
      · have nb : ¬ seB s k = true := by unfold seB; rw [decide_eq_true_eq]; exact fun z => c1 z.1
        refine ⟨_, ⟨s1, rfl, q1⟩, Or.inl ⟨n, by unfold seF; rw [if_neg nb], by omega, ?_⟩⟩
        rw [if_pos (by rw [b01_z]; exact c1)]
        simp) (by
      rintro n _ hv ⟨s1, rfl, q1⟩
      refine ⟨_, ⟨s1, rfl, q1⟩, ?_⟩
      simp only [lb_X5_secret_11]
      rw [if_neg (by decide), hi, show i2 (-1) = -1 by decide]
      by_cases c : i = -1
      · rw [if_pos c, if_pos c]; rfl
      · rw [if_neg c, if_neg c]; rfl) 490 0 0 (mdl m s h) (by omega) (by omega) ⟨s, rfl, Es.refl s⟩
    exact ⟨s', e1, q⟩
theorem m_denied (hG : G32 s) (hK : KB (s 2)) (hL : LsV (s 2)) (hF : FoV (s 2) 119 154 1) : ∃ s', f_X5_denied E (some m) (mdl m s h) = some (deniedP s, mdl m s' h) ∧ Es s s' := by
  have h71 := hK.2.2.2.2.1
  have hn := hK.1
  unfold f_X5_denied f_X5_denied_4 deniedP
  obtain ⟨g', ⟨s', rfl, q⟩, e1⟩ := it_run (body := fun st : Int × Int × ax_H => lb_X5_denied_4 E (some m) st.1 st.2.1 st.2.2) (fun n (k : Nat) g => (n, (k : Int), g)) (fun r g => (r, g)) (Q := MdE m s h) (V := fun _ _ => True) (f := fun a k => (.inl (deF (s 2) a k) : Int ⊕ Int)) (fin := id) (s 2 71).toNat (by
      rintro k a _ hk - ⟨s1, rfl, q1⟩
      have hk2 := q1.k
      have hG1 := q1.2.2 hG
      have rv := hK.2.2.2.2.2.2.2 k (by omega) (by omega)
      obtain ⟨s2, e2, q2⟩ := m_areSo (E := E) (m := m) (s := s1) (h := h) (d := s 2 (7 + 4 * (k : Int))) (c := s 2 (7 + 4 * (k : Int) + 1)) (v := - s 2 (7 + 4 * (k : Int) + 2)) hG1 (by rw [hk2]; exact hK) (by rw [hk2]; exact hL) (by rw [hk2]; exact hF) (i2_of (by omega) (by omega)) (i2_of (by omega) (by omega)) (by omega) (by rw [hk2]; exact fun p q => (de_w hK.2.2.2.2 (by omega) p q).1)
      rw [hk2] at e2
      have w01 := soS_01 (s 2) (moreW (s 2) (s 2 (7 + 4 * (k : Int))) (s 2 (7 + 4 * (k : Int) + 1)) (- s 2 (7 + 4 * (k : Int) + 2)))
      refine ⟨_, ⟨s2, rfl, q1.trans q2⟩, Or.inl ⟨_, rfl, trivial, ?_⟩⟩
      simp only [lb_X5_denied_4, f_X5_denied_65]
      rw [md_ce, Option.bind_some, m_debts, Option.bind_some, hk2]
      dsimp only
      rw [i2_of (a := (k : Int)) (by omega) (by omega), i2_of (a := s 2 71) (by omega) (by omega), if_pos (by omega), md_gR2, Option.bind_some, md_ld2 (by omega) (by omega), Option.bind_some, Option.bind_some, md_ld2 (by omega) (by omega), Option.bind_some, Option.bind_some, md_ld2 (by omega) (by omega), Option.bind_some, hk2, md_ce, Option.bind_some, e2, Option.bind_some]
      dsimp only
      rw [i2_of (a := soS _ _) (by omega) (by omega)]
      unfold deF
      by_cases c2 : soS (s 2) (moreW (s 2) (s 2 (7 + 4 * (k : Int))) (s 2 (7 + 4 * (k : Int) + 1)) (- s 2 (7 + 4 * (k : Int) + 2))) = 0
      · rw [if_pos c2, if_pos c2]; simp
      · rw [if_neg c2, if_neg c2]; simp) (by
      rintro n _ - ⟨s1, rfl, q1⟩
      have hk2 := q1.k
      refine ⟨_, ⟨s1, rfl, q1⟩, ?_⟩
      simp only [lb_X5_denied_4]
      rw [md_ce, Option.bind_some, m_debts, Option.bind_some, hk2]
      dsimp only
      rw [i2_of (a := (((s 2 71).toNat : Nat) : Int)) (by omega) (by omega), i2_of (a := s 2 71) (by omega) (by omega), if_neg (by omega)]
      rfl) (s 2 71).toNat 0 0 (mdl m s h) (by omega) trivial ⟨s, rfl, Es.refl s⟩
  exact ⟨s', e1, q⟩
end
