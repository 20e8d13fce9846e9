/-! THE COMPONENT: books -/
set_option maxRecDepth 100000
def K32 (K : Rw) : Prop := ∀ i, i2 (K i) = K i
theorem K32.lo {K : Rw} (h : K32 K) (i : Int) : -2147483648 ≤ K i := by rw [← h i]; exact i2_lo _
theorem K32.hi {K : Rw} (h : K32 K) (i : Int) : K i ≤ 2147483647 := by rw [← h i]; exact i2_hi _
/-- books in their shape: six cells -/
def BS (h : ax_H) (b : Nat) : Prop := hT h b = 2 ∧ (hR h b 0 = some (b + 1) ∧ hR h b 1 = some (b + 2) ∧ hR h b 2 = some (b + 3) ∧ hR h b 3 = some (b + 4) ∧ hR h b 4 = some (b + 5)) ∧ (hT h (b + 1) = 100 ∧ hT h (b + 2) = 100 ∧ hT h (b + 3) = 100 ∧ hT h (b + 4) = 100 ∧ hT h (b + 5) = 100) ∧ (hL h (b + 1) = 7 ∧ hL h (b + 2) = 17 ∧ hL h (b + 3) = 17 ∧ hL h (b + 4) = 17 ∧ hL h (b + 5) = 17)
/-- books that hold a row: purses, debts, the day -/
def BK (h : ax_H) (b : Nat) (K : Rw) : Prop := BS h b ∧ (hI h b 5 = K 71 ∧ hI h b 6 = K 72) ∧ (∀ p : Nat, p < 7 → hI h (b + 1) p = K p) ∧ ∀ k : Nat, (k : Int) < K 71 → hI h (b + 2) k = K (7 + 4 * k) ∧ hI h (b + 3) k = K (7 + 4 * k + 1) ∧ hI h (b + 4) k = K (7 + 4 * k + 2) ∧ hI h (b + 5) k = K (7 + 4 * k + 3)
section
variable {E : ax_E} {h h' : ax_H} {a b : Nat} {K : Rw} {p q : Int}
theorem BS.fr (H : BS h b) (e : ∀ a, b ≤ a → a < b + 6 → h'.2.2 a = h.2.2 a) : BS h' b := by
  have e0 := hC_eq (e b (by omega) (by omega))
  have e1 := hC_eq (e (b + 1) (by omega) (by omega))
  have e2 := hC_eq (e (b + 2) (by omega) (by omega))
  have e3 := hC_eq (e (b + 3) (by omega) (by omega))
  have e4 := hC_eq (e (b + 4) (by omega) (by omega))
  have e5 := hC_eq (e (b + 5) (by omega) (by omega))
  unfold BS hT hR hL at *
  rw [e0, e1, e2, e3, e4, e5]
  exact H
theorem BK.fr (H : BK h b K) (e : ∀ a, b ≤ a → a < b + 6 → h'.2.2 a = h.2.2 a) : BK h' b K := by
  have e0 := hC_eq (e b (by omega) (by omega))
  have e1 := hC_eq (e (b + 1) (by omega) (by omega))
  have e2 := hC_eq (e (b + 2) (by omega) (by omega))
  have e3 := hC_eq (e (b + 3) (by omega) (by omega))
  have e4 := hC_eq (e (b + 4) (by omega) (by omega))
  have e5 := hC_eq (e (b + 5) (by omega) (by omega))
  refine ⟨H.1.fr e, ?_⟩
  have H2 := H.2
  unfold hI at *
  rw [e0, e1, e2, e3, e4, e5]
  exact H2
theorem BS.wI {k : Nat} {v : Int} (H : BS h b) : BS (wI h a k v) b := by
  unfold BS at *
  simp only [hT_wI, hR_wI, hL_wI]
  exact H
theorem BS.cp {s d sp dp n : Nat} (H : BS h b) (hd : d ≠ b) : BS (cpH h s d sp dp n) b := by
  unfold BS at *
  simp only [hT_cp, hL_cp, hR_cp_ne (Ne.symm hd)]
  exact H
/-- a row that says the same of what books hold -/
theorem BK.congr {K' : Rw} (H : BK h b K) (h1 : K' 71 = K 71) (h2 : K' 72 = K 72) (h3 : ∀ p : Int, 0 ≤ p → p < 7 → K' p = K p) (h4 : ∀ i : Int, 7 ≤ i → i < 7 + 4 * K 71 → K' i = K i) : BK h b K' := by
  obtain ⟨s, c, cp, ck⟩ := H
  refine ⟨s, by rw [h1, h2]; exact c, fun p hp => by rw [h3 p (by omega) (by omega)]; exact cp p hp, fun k hk => ?_⟩
  rw [h1] at hk
  rw [h4 _ (by omega) (by omega), h4 _ (by omega) (by omega), h4 _ (by omega) (by omega), h4 _ (by omega) (by omega)]
  exact ck k hk
theorem c_is {k : Int} (hB : BK h b K) (hK : K32 K) (h0 : 0 ≤ k) (h1 : k < K 71) (hd : K 71 ≤ 16) (hp : i2 p = p) (hq : i2 q = q) : f_X2_is E (some b) k p q h = some (b01 (K (7 + 4 * k) = p ∧ K (7 + 4 * k + 1) = q), h) := by
  obtain ⟨n, rfl⟩ : ∃ n : Nat, k = n := ⟨k.toNat, by omega⟩
  obtain ⟨⟨t0, ⟨r0, r1, r2, r3, r4⟩, ⟨t1, t2, t3, t4, t5⟩, l1, l2, l3, l4, l5⟩, ⟨c5, c6⟩, cp, ck⟩ := hB
  obtain ⟨k1, k2, k3, k4⟩ := ck n h1
  simp (disch := first | assumption | omega | (refine i2_ofp ?_; omega)) only [f_X2_is, f_X2_is_24, f_gR, f_ld, r1, r2, Option.bind_some, Int.toNat_natCast, k1, k2, hK _, hp, hq]
  by_cases a1 : K (7 + 4 * (n : Int)) = p
  · by_cases a2 : K (7 + 4 * (n : Int) + 1) = q
    · rw [if_pos a1, if_pos a2, b01_t ⟨a1, a2⟩]
    · rw [if_pos a1, if_neg a2, b01_f (fun x => a2 x.2)]
  · rw [if_neg a1, b01_f (fun x => a1 x.1)]
theorem c_owes (hB : BK h b K) (hK : K32 K) (h0 : 0 ≤ K 71) (hd : K 71 ≤ 16) (hp : i2 p = p) (hq : i2 q = q) : f_X2_owes E (some b) p q h = some (owed K p q, h) := by
  have hB2 := hB
  obtain ⟨⟨t0, ⟨r0, r1, r2, r3, r4⟩, ⟨t1, t2, t3, t4, t5⟩, l1, l2, l3, l4, l5⟩, ⟨c5, c6⟩, cp, ck⟩ := hB
  have e := it_traj (body := fun s : Int × Int × ax_H => lb_X2_owes_5 E (some b) p q s.1 s.2.1 s.2.2) (fun n => (sm n (fun k => if K (7 + 4 * (k : Int)) = p ∧ K (7 + 4 * (k : Int) + 1) = q then K (7 + 4 * (k : Int) + 2) else 0), (n : Int), h)) (K 71).toNat (r := (owed K p q, h)) ?_ ?_
  · exact e
  · intro k hk
    obtain ⟨k1, k2, k3, k4⟩ := ck k (by omega)
    simp (disch := first | assumption | omega | (refine i2_ofp ?_; omega)) only [lb_X2_owes_5, f_X2_owes_37, f_gI, f_ce, f_gR, f_ld, r3, c5, c_is hB2 hK, hK _, b01_z, Option.bind_some, Int.toNat_natCast, i2_of, k3]
    rw [if_pos (by omega)]
    by_cases a : K (7 + 4 * (k : Int)) = p ∧ K (7 + 4 * (k : Int) + 1) = q
    · rw [if_neg (by simp [a])]
      simp [sm, a]
    · rw [if_pos a]
      simp [sm, a]
  · simp (disch := first | assumption | omega | (refine i2_ofp ?_; omega)) only [lb_X2_owes_5, f_gI, c5, hK _, Option.bind_some, i2_of, Option.map_some]
    rw [if_neg (by omega)]
    rfl
end
