/-! Orders: the component asks a sum -/
set_option maxRecDepth 100000
section
variable {E : ax_E} {h h' : ax_H} {x t dl dv ds du b tg a : Nat} {s : Sg} {d : Int} {F : Dn} {FT : Dt} {Fz : Nat → Prop}
theorem evS_x {u q : Nat} {r : Int × ax_H} (e : evS E (rg_X14_of E 64) (some u) (some q) h = some r) : (ax_dp E h (some u) fun t => if t = 10 then f_X10_of E (some u) (some q) h else if t = 11 then f_X11_of E (some u) (some q) h else if t = 12 then f_X12_of E (some u) (some q) h else if t = 13 then f_X13_of E (some u) (some q) h else if t = 14 then fn_X14_of E 64 (some u) (some q) h else none) = some r := e
theorem evT_x {u q : Nat} {r : Int × ax_H} (e : evT E (rg_X19_of E 64).1 (rg_X19_of E 64).2 (some u) (some q) h = some r) : (ax_dp E h (some u) fun t => if t = 17 then f_X17_of E (some u) (some q) h else if t = 18 then fn_X18_of E 64 (some u) (some q) h else if t = 19 then fn_X19_of E 64 (some u) (some q) h else none) = some r := e
/-- it may be broken -/
theorem evX_rep {α : Type} (r : Option α) (H : REP E h x t dl dv ds du s) (D : DoC h x s) : REP E (evX h (x + 17) r) x t dl dv ds du s ∧ DoC (evX h (x + 17) r) x s ∧ (∀ c, c ≠ x + 17 → (evX h (x + 17) r).2.2 c = h.2.2 c) ∧ (evX h (x + 17) r).1 = h.1 ∧ (evX h (x + 17) r).2.1 = h.2.1 := by
  cases r with
  | none =>
    refine ⟨H.keep (Kp_wI (by unfold SZ; omega)), ?_, fun c hc => hC_wI_ne hc, rfl, rfl⟩
    unfold DoC evX
    rw [hI_wI_ne (by omega), hI_wI_ne (by omega)]
    exact D
  | some v => exact ⟨H, D, fun _ _ => rfl, rfl, rfl⟩
theorem evX_1 {α : Type} (r : Option α) (h0 : hI h (x + 17) 1 = 0) : hI (evX h (x + 17) r) (x + 17) 1 = if r.isSome then 0 else 1 := by
  cases r with
  | none => exact hI_wI_eq
  | some v => exact h0
theorem c_oof (H : REP E h x t dl dv ds du s) (hG : G32 s) (hK : KB (s 2)) (O : OdX h x b tg) (htg : tg = 23 ∨ tg = 24) (hb : x + 116 ≤ b) (D : DoC h x s) (Dv : DoV d s) (hd : d ≤ 100000) (S : SumN 1 Fz h x 50 a F) (hFz : ∀ c, Fz c → c ≠ x + 17 ∧ c ≠ x + 18 ∧ c ≠ b) (off : hI h b 6 = 0 ∨ hI h b 6 = 1) : ∃ h', f_X20_of E (some b) (some a) h = some ((if hI h b 6 = 0 then (F (evO s)).getD (-1) else -1), h') ∧ REP E h' x t dl dv ds du s ∧ DoC h' x s ∧ (∀ c, c ≠ x + 17 → c ≠ x + 18 → c ≠ b → h'.2.2 c = h.2.2 c) ∧ h'.1 = h.1 ∧ h'.2.1 = h.2.1 ∧ (hT h' b = hT h b ∧ (∀ k, hR h' b k = hR h b k) ∧ (∀ k, k ≠ 6 → hI h' b k = hI h b k) ∧ hI h' b 6 = (if hI h b 6 = 0 ∧ (F (evO s)).isSome = true then 0 else 1) ∧ hL h' b = hL h b) := by
  obtain ⟨o1, o2, o3⟩ := id O
  have t9 : tg ≠ 999 := by omega
  have k6 : (if tg = 21 then 2 else 6) = 6 := if_neg (by omega)
  have gi : ∀ g : ax_H, hT g b = tg → ax_gIs E g (some b) [(21, 2), (23, 6), (24, 6)] = some (hI g b 6) := fun g hg => by rw [f_gIs hg t9 (lk3 o1 2 6), k6]
  have i1 : ¬ i2 1 = 0 := by decide
  unfold f_X20_of
  rw [gi h o2, Option.bind_some]
  rcases off with z | z
  · obtain ⟨h1, p1, H1, D1, c1, s1, s2, A1⟩ := c_setNow H hG hK O hb D
    have O1 : OdX h1 x b tg := O.same (c1 b (by omega) (by omega))
    have T1 := tc17 H1
    have S1 : SumN 1 Fz h1 x 50 a F := SumN.fr (fun c hc => ⟨hc, eqT.of (c1 c (hFz c hc).1 (hFz c hc).2.1)⟩) _ _ _ S
    have ev := evS_x (c_sum A1 (EB_evO hK Dv hd) 64 50 a F (by omega) S1)
    obtain ⟨H2, D2, c2, s3, s4⟩ := evX_rep (F (evO s)) H1 D1
    have v2 := evX_1 (F (evO s)) A1.2.1
    obtain ⟨h2, e2⟩ : ∃ h2, h2 = evX h1 (x + 17) (F (evO s)) := ⟨_, rfl⟩
    rw [← e2] at ev H2 D2 c2 s3 s4 v2
    have O2 : OdX h2 x b tg := O1.same (c2 b (by omega))
    have T2 := tc17 H2
    obtain ⟨w, ew⟩ : ∃ w : Int, w = if (F (evO s)).isSome = true then 0 else 1 := ⟨_, rfl⟩
    rw [← ew] at v2
    have w01 : w = 0 ∨ w = 1 := by rw [ew]; split; exact Or.inl rfl; exact Or.inr rfl
    obtain ⟨h3, e3⟩ : ∃ h3, h3 = wI h2 b 6 w := ⟨_, rfl⟩
    have H3 : REP E h3 x t dl dv ds du s := by
      rw [e3]
      refine H2.wb hb ?_
      unfold NO
      rw [O2.2.1]
      omega
    have b2 := ceq ((c2 b (by omega)).trans (c1 b (by omega) (by omega)))
    have t3 : hT h3 b = tg := by rw [e3, hT_wI]; exact O2.2.1
    have D3 : DoC h3 x s := by
      unfold DoC at *
      rw [e3, hI_wI_ne (by omega), hI_wI_ne (by omega)]
      exact D2
    rw [if_pos (by rw [z]; decide), f_dp o2 t9, if_pos (by omega), p1, Option.bind_some, O1.g, Option.bind_some, f_gR T1.1 (by decide), Option.bind_some, T1.2.1, ev, Option.bind_some]
    dsimp only
    rw [O2.g, Option.bind_some, f_gR T2.1 (by decide), Option.bind_some, T2.2.1, f_gI T2.2.2.1 (by decide), Option.bind_some, v2, if_pos w01, f_pIs O2.2.1 t9 (lk3 o1 2 6), k6, Option.bind_some, ← e3, gi h3 t3, Option.bind_some, show hI h3 b 6 = w by rw [e3]; exact hI_wI_eq, if_pos z]
    have fin : ∀ c, c ≠ x + 17 → c ≠ x + 18 → c ≠ b → h3.2.2 c = h.2.2 c := fun c q1 q2 q3 => by rw [e3, hC_wI_ne q3, c2 c q1]; exact c1 c q1 q2
    have fb : hT h3 b = hT h b ∧ (∀ k, hR h3 b k = hR h b k) ∧ (∀ k, k ≠ 6 → hI h3 b k = hI h b k) ∧ hI h3 b 6 = (if hI h b 6 = 0 ∧ (F (evO s)).isSome = true then 0 else 1) ∧ hL h3 b = hL h b := by
      refine ⟨t3.trans o2.symm, fun k => by rw [e3, hR_wI]; exact b2.2.2.2 k, fun k hk => by rw [e3, hI_wI_ne (Or.inr hk)]; exact b2.2.2.1 k, ?_, by rw [e3, hL_wI]; exact b2.2.1⟩
      rw [e3, hI_wI_eq, ew]
      by_cases c : (F (evO s)).isSome = true
      · rw [if_pos c, if_pos ⟨z, c⟩]
      · rw [if_neg c, if_neg (fun y => c y.2)]
    have sz1 : h3.1 = h.1 := by rw [e3, wI_1, s3, s1]
    have sz2 : h3.2.1 = h.2.1 := by rw [e3, wI_2, s4, s2]
    cases hF : F (evO s) with
    | none =>
      rw [hF] at ew fb
      rw [show w = 1 from ew, if_neg i1]
      exact ⟨h3, rfl, H3, D3, fin, sz1, sz2, fb⟩
    | some v =>
      rw [hF] at ew fb
      rw [show w = 0 from ew, if_pos (by decide)]
      exact ⟨h3, rfl, H3, D3, fin, sz1, sz2, fb⟩
  · rw [if_neg (by rw [z]; exact i1), if_neg (by omega)]
    refine ⟨h, rfl, H, D, fun _ _ _ _ => rfl, rfl, rfl, rfl, fun _ => rfl, fun _ _ => rfl, ?_, rfl⟩
    rw [if_neg (by omega)]
    exact z
end
