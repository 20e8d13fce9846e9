/-! Orders: what they answer, what they keep -/
set_option maxRecDepth 100000
def z47 (s : Sg) : Sg := sw s 0 (u1 (s 0) 47 (-1))
def ordP (s : Sg) : Int ⊕ List Od := pOrds (cT (s 7) (tpN s)) (wT (s 7) (tpN s)) (toks (s 7) (tpN s))
/-- ahead of the first order -/
def begS (s : Sg) : Sg := sw (sw s 2 (layS s 6)) 0 (u1 (u1 (u1 (u1 (s 0) 11 0) 12 (-1)) 48 0) 49 (-1))
/-- all is as it was ahead -/
def bakO (s1 s2 : Sg) (k : Int) : Sg := sw (sw (sw s2 2 (cpR (s2 2) 0 (s1 2) 73)) 14 (cpR (s2 14) 0 (s1 14) 1184)) 0 (u1 (u1 (s2 0) 28 (s1 0 28)) 47 k)
def ordR (s : Sg) (L : List Od) : Int × Int × Sg := allS L 0 (begS (z47 s))
def ordersS (s : Sg) : Int × Sg := match ordP s with
  | .inl t => (-6, rdE (z47 s) (pos (s 7) (tpN s) t.toNat))
  | .inr L => if (ordR s L).1 = 0 then ((ordR s L).2.2 0 48, (ordR s L).2.2) else ((ordR s L).1, bakO (begS (z47 s)) (ordR s L).2.2 (ordR s L).2.1)
section
variable {s : Sg} {n : Int}
theorem z47_0 {k : Int} (h : k ≠ 47) : z47 s 0 k = s 0 k := by unfold z47; rw [sw_eq, u1_ne _ h]
theorem z47_o {o : Nat} (h : o ≠ 0) : z47 s o = s o := by unfold z47; rw [sw_ne _ h]
theorem z47_VW (V : VW n s) : VW n (z47 s) := V.z0 (u1_32 (V.1.1 0) (by decide)) (by rw [u1_ne _ (by decide)]; exact V.2.2.2.1) (u1_ne _ (by decide)) (u1_ne _ (by decide))
theorem z47_tp : tpN (z47 s) = tpN s := by unfold tpN; rw [z47_0 (by decide)]
theorem z47_lay : layS (z47 s) 6 = layS s 6 := by
  unfold layS
  rw [z47_tp, z47_o (o := 2) (by decide), z47_o (o := 7) (by decide)]
theorem lay6_o {i : Int} (V : VW n s) (h : i < 163) : layS s 6 i = s 2 i := by
  unfold layS
  exact laysK_o (by omega) (by omega) (by omega)
theorem lay6_old {t : Int} (V : VW n s) (ht : 0 ≤ t ∧ t < 6) : layS s 6 (157 + t) = s 2 (157 + t) ∧ ∀ k, 0 ≤ k → k < 400 → layS s 6 (164 + 400 * t + k) = s 2 (164 + 400 * t + k) ∧ layS s 6 (2964 + 400 * t + k) = s 2 (2964 + 400 * t + k) := by
  have t4 := toks_4 V
  refine ⟨lay6_o V (by omega), fun k k0 k1 => ⟨?_, ?_⟩⟩
  · unfold layS
    exact laysK_o (by omega) (by omega) (by omega)
  · unfold layS
    exact laysK_o (by omega) (by omega) (by omega)
theorem lay6_law {t : Int} (V : VW n s) (ht : 0 ≤ t ∧ t < 6) (h4 : s 2 (157 + t) ≤ 400) : lawAt (layS s 6) t = lawAt (s 2) t ∧ valuesS (layS s 6) t = valuesS (s 2) t := by
  obtain ⟨a, b⟩ := lay6_old V ht
  have b1 : ∀ k, 0 ≤ k → k < s 2 (157 + t) → layS s 6 (164 + 400 * t + k) = s 2 (164 + 400 * t + k) := fun k k0 k1 => (b k k0 (by omega)).1
  have b2 : ∀ k, 0 ≤ k → k < s 2 (157 + t) → layS s 6 (2964 + 400 * t + k) = s 2 (2964 + 400 * t + k) := fun k k0 k1 => (b k k0 (by omega)).2
  refine ⟨lawAt_congr a b1 b2, ?_⟩
  unfold valuesS
  rw [a]
  exact cut_congr b2
theorem lay6_KW (V : VW n s) : KW (layS s 6) := by
  obtain ⟨kb, lv, f1, f2⟩ := V.2.1
  have o : ∀ i, i < 163 → layS s 6 i = s 2 i := fun i hi => lay6_o V hi
  refine ⟨?_, ?_, f1.congr (o 153 (by decide)) (o 152 (by decide)) (fun i i0 i1 => o i (by omega)), f2.congr (o 154 (by decide)) (o 152 (by decide)) (fun i i0 i1 => o i (by omega))⟩
  · obtain ⟨a1, a2, a3, a4, a5⟩ := kb
    unfold KB
    rw [o 152 (by decide), o 151 (by decide), o 156 (by decide), o 155 (by decide)]
    refine ⟨a1, a2, a3, fun p p0 p1 => ?_, RV_congr a5 (fun i i0 i1 => o i (by omega))⟩
    rw [o _ (by omega), o _ (by omega)]
    exact a4 p p0 p1
  · intro t t0 t1
    rw [o 155 (by decide)] at t1
    have k155 : s 2 155 ≤ 6 := by rcases kb.2.2.1 with z | z <;> omega
    obtain ⟨a, b, L', c⟩ := lv t t0 t1
    obtain ⟨m2, m3⟩ := lay6_law (t := t) V ⟨t0, by omega⟩ a.2
    exact ⟨by rw [(lay6_old V ⟨t0, by omega⟩).1]; exact a, by rw [m3]; exact b, L', m2.trans c⟩
theorem lay6_32 (V : VW n s) : ∀ i, i2 (layS s 6 i) = layS s 6 i := laysK_32 (V.1.1 2) (cT_32 V).1 (cT_32 V).2 (toks_4 V)
theorem lay6_T (V : VW n s) : TxO (layS s 6) (toks (s 7) (tpN s)) (cT (s 7) (tpN s)) (wT (s 7) (tpN s)) := by
  have t4 := toks_4 V
  have hN : tpN s ≤ 400 := by have := V.2.2.2.1; unfold tpN; omega
  refine ⟨by omega, ?_, ?_, fun k => (wT_b hN k).1⟩
  · have e2 : cut (toks (s 7) (tpN s) : Int) (fun k => layS s 6 (164 + 2400 + k)) = cut (toks (s 7) (tpN s) : Int) (cT (s 7) (tpN s)) := cut_congr (fun k k0 k1 => by
      have q := laysK_c (K := s 2) (C := cT (s 7) (tpN s)) (W := wT (s 7) (tpN s)) (t := 6) (k := k) (by decide) t4 ⟨k0, k1⟩
      rw [show (164 : Int) + 400 * 6 = 164 + 2400 by decide] at q
      exact q)
    rw [e2]
    exact (cut_cut _ _).symm
  · have e2 : cut (toks (s 7) (tpN s) : Int) (fun k => layS s 6 (2964 + 2400 + k)) = cut (toks (s 7) (tpN s) : Int) (wT (s 7) (tpN s)) := cut_congr (fun k k0 k1 => by
      have q := laysK_w (K := s 2) (C := cT (s 7) (tpN s)) (W := wT (s 7) (tpN s)) (n := toks (s 7) (tpN s)) (t := 6) (k := k) ⟨k0, k1⟩
      rw [show (2964 : Int) + 400 * 6 = 2964 + 2400 by decide] at q
      exact q)
    rw [e2]
    exact (cut_cut _ _).symm
theorem begS_VW (V : VW n s) : OdV n 0 (begS s) := by
  have un := V.1.2.2.2.1
  have V1 : VW n (sw s 2 (layS s 6)) := V.row (lay6_KW V) (lay6_32 V) (by
    unfold UnV at *
    rw [sw_ne _ (by decide), sw_eq, sw_ne _ (by decide), lay6_o V (by decide)]
    exact un)
  refine ⟨?_, ?_⟩
  · have z := V1.z0 (F := u1 (u1 (u1 (u1 (s 0) 11 0) 12 (-1)) 48 0) 49 (-1)) (u1_32 (u1_32 (u1_32 (u1_32 (V.1.1 0) (by decide)) (by decide)) (by decide)) (by decide)) (by rw [u1_ne _ (by decide), u1_ne _ (by decide), u1_ne _ (by decide), u1_eq]; decide) (by rw [u1_ne _ (by decide), u1_ne _ (by decide), u1_ne _ (by decide), u1_ne _ (by decide), sw_ne _ (by decide)]) (by rw [u1_ne _ (by decide), u1_ne _ (by decide), u1_ne _ (by decide), u1_ne _ (by decide), sw_ne _ (by decide)])
    exact z
  · unfold DoV begS
    rw [sw_eq, u1_ne _ (by decide), u1_eq, u1_eq]
    decide
theorem begS_2 : begS s 2 = layS s 6 := by unfold begS; rw [sw_ne _ (by decide), sw_eq]
theorem begS_o {o : Nat} (h0 : o ≠ 0) (h2 : o ≠ 2) : begS s o = s o := by unfold begS; rw [sw_ne _ h0, sw_ne _ h2]
theorem begS_0 {k : Int} (h1 : k ≠ 11) (h2 : k ≠ 12) (h3 : k ≠ 48) (h4 : k ≠ 49) : begS s 0 k = s 0 k := by unfold begS; rw [sw_eq, u1_ne _ h4, u1_ne _ h3, u1_ne _ h2, u1_ne _ h1]
theorem ordP_12 {L : List Od} (h : ordP s = .inr L) : 1 ≤ L.length ∧ L.length ≤ 12 := by
  have st : ∀ (g : Nat) (i lv : Int) (L : List Od), pAll (cT (s 7) (tpN s)) (toks (s 7) (tpN s)) (pOrder (cT (s 7) (tpN s)) (wT (s 7) (tpN s))) g i lv = .inr L → 1 ≤ L.length ∧ L.length ≤ g := by
    intro g
    induction g with
    | zero => intro i lv L h; cases h
    | succ g ih =>
      intro i lv L h
      unfold pAll at h
      cases hf : pOrder (cT (s 7) (tpN s)) (wT (s 7) (tpN s)) i lv with
      | inl t => rw [hf] at h; cases h
      | inr vv =>
        obtain ⟨j, lv', C⟩ := vv
        rw [hf] at h
        simp only at h
        by_cases c : cT (s 7) (tpN s) j = 159
        · rw [if_pos c] at h
          cases hf2 : pAll (cT (s 7) (tpN s)) (toks (s 7) (tpN s)) (pOrder (cT (s 7) (tpN s)) (wT (s 7) (tpN s))) g (j + 1) lv' with
          | inl t => rw [hf2] at h; cases h
          | inr L2 =>
            rw [hf2] at h
            cases h
            have := ih _ _ _ hf2
            rw [List.length_cons]
            omega
        · rw [if_neg c] at h
          by_cases c2 : j < toks (s 7) (tpN s)
          · rw [if_pos c2] at h; cases h
          · rw [if_neg c2] at h
            cases h
            show 1 ≤ 1 ∧ 1 ≤ g + 1
            omega
  exact st 12 0 0 L h
end
