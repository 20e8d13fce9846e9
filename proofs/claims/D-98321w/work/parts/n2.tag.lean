/-! Nothing that stands for the model's rows is an order: orders may be written -/
set_option maxRecDepth 100000
def NO (h : ax_H) (a : Nat) : Prop := hT h a ≠ 21 ∧ hT h a ≠ 23 ∧ hT h a ≠ 24
def FN (Fz : Nat → Prop) (h : ax_H) (a : Nat) : Prop := Fz a ∧ NO h a
theorem NO.of {h : ax_H} {a k : Nat} (e : hT h a = k) (hk : k ≠ 21 ∧ k ≠ 23 ∧ k ≠ 24) : NO h a := by
  unfold NO
  omega
section
variable {o : Int} {E : ax_E} {Fz Fz' : Nat → Prop} {h h' : ax_H} {x : Nat}
theorem SumN.no : ∀ (d a : Nat) (F : Dn), SumN o Fz h x d a F → SumN o (FN Fz h) h x d a F := by
  intro d
  induction d with
  | zero => intro a F H; exact H.elim
  | succ d ih =>
    intro a F H
    obtain ⟨hz, H⟩ := H
    rcases H with ⟨t, H⟩ | ⟨t, H⟩ | ⟨t, H⟩ | ⟨t, H⟩ | ⟨t, c, l, r, G1, G2, h1, h2, h3, h4, h5⟩
    · exact ⟨⟨hz, NO.of t (by decide)⟩, Or.inl ⟨t, H⟩⟩
    · exact ⟨⟨hz, NO.of t (by decide)⟩, Or.inr (Or.inl ⟨t, H⟩)⟩
    · exact ⟨⟨hz, NO.of t (by decide)⟩, Or.inr (Or.inr (Or.inl ⟨t, H⟩))⟩
    · exact ⟨⟨hz, NO.of t (by decide)⟩, Or.inr (Or.inr (Or.inr (Or.inl ⟨t, H⟩)))⟩
    · exact ⟨⟨hz, NO.of t (by decide)⟩, Or.inr (Or.inr (Or.inr (Or.inr ⟨t, c, l, r, G1, G2, h1, h2, ih _ _ h3, ih _ _ h4, h5⟩)))⟩
theorem TestN.no : ∀ (d a : Nat) (F : Dt), TestN o Fz h x d a F → TestN o (FN Fz h) h x d a F := by
  intro d
  induction d with
  | zero => intro a F H; exact H.elim
  | succ d ih =>
    intro a F H
    obtain ⟨hz, H⟩ := H
    rcases H with ⟨t, c, l, r, G1, G2, h1, h2, h3, h4, h5⟩ | ⟨t, l, G, h1, h2, h3⟩ | ⟨t, c, b, L, h1, h2, h3, h4, h5, h6, h7, h8⟩
    · exact ⟨⟨hz, NO.of t (by decide)⟩, Or.inl ⟨t, c, l, r, G1, G2, h1, h2, h3.no, h4.no, h5⟩⟩
    · exact ⟨⟨hz, NO.of t (by decide)⟩, Or.inr (Or.inl ⟨t, l, G, h1, ih _ _ h2, h3⟩)⟩
    · refine ⟨⟨hz, NO.of t (by decide)⟩, Or.inr (Or.inr ⟨t, c, b, L, h1, ⟨h2, NO.of h3 (by decide)⟩, h3, h4, h5, h6, fun k G hk => ?_, h8⟩)⟩
      obtain ⟨q, g1, g2⟩ := h7 k G hk
      exact ⟨q, g1, ih _ _ g2⟩
theorem ClN.no {a : Nat} {c : Cl} (H : ClN Fz h x a c) : ClN (FN Fz h) h x a c := by
  obtain ⟨z, t, i, b, s1, t1⟩ := H
  refine ⟨⟨z, NO.of t (by decide)⟩, t, i, b, ?_, ?_⟩
  · rcases s1 with q | ⟨q1, s, q2, q3⟩
    · exact Or.inl q
    · exact Or.inr ⟨q1, s, q2, q3.no⟩
  · rcases t1 with q | ⟨s, q2, q3⟩
    · exact Or.inl q
    · exact Or.inr ⟨s, q2, q3.no⟩
theorem TxN.no {a : Nat} {L : List Cl} (H : TxN Fz h x a L) : TxN (FN Fz h) h x a L := by
  obtain ⟨z, t, c, r, zc, tc', l, l12, e⟩ := H
  refine ⟨⟨z, NO.of t (by decide)⟩, t, c, r, ⟨zc, NO.of tc' (by decide)⟩, tc', l, l12, fun k u hk => ?_⟩
  obtain ⟨b, b1, b2⟩ := e k u hk
  exact ⟨b, b1, b2.no⟩
theorem BS.no {b a : Nat} (H : BS h b) (h1 : b ≤ a) (h2 : a < b + 6) : NO h a := by
  obtain ⟨t0, -, ⟨t1, t2, t3, t4, t5⟩, -⟩ := H
  have : a = b ∨ a = b + 1 ∨ a = b + 2 ∨ a = b + 3 ∨ a = b + 4 ∨ a = b + 5 := by omega
  rcases this with z | z | z | z | z | z <;> subst z
  · exact NO.of t0 (by decide)
  · exact NO.of t1 (by decide)
  · exact NO.of t2 (by decide)
  · exact NO.of t3 (by decide)
  · exact NO.of t4 (by decide)
  · exact NO.of t5 (by decide)
theorem LsN.mono {a d : Nat} {n : Int} {cap : Nat} {P P' : Nat → Nat → Prop} (H : LsN E h a d n cap P) (hP : ∀ k t, P k t → P' k t) : LsN E h a d n cap P' := by
  obtain ⟨t, r, i, n0, c, e⟩ := H
  refine ⟨t, r, i, n0, c, fun k hk => ?_⟩
  obtain ⟨u, h1, h2⟩ := e k hk
  exact ⟨u, h1, hP k u h2⟩
theorem DnN.no {R : Rw} {k t : Nat} (H : DnN Fz h R k t) : DnN (FN Fz h) h R k t := by
  obtain ⟨z, t1, i0, b, r, zb, B⟩ := H
  exact ⟨⟨z, NO.of t1 (by decide)⟩, t1, i0, b, r, fun a h1 h2 => ⟨zb a h1 h2, B.1.no h1 h2⟩, B⟩
theorem FrN.no {tg : Nat} {K : Rw} {at_ : Int} {k t : Nat} (H : FrN Fz h tg K at_ k t) (htg : tg ≠ 21 ∧ tg ≠ 23 ∧ tg ≠ 24) : FrN (FN Fz h) h tg K at_ k t := ⟨⟨H.1, NO.of H.2.1 htg⟩, H.2⟩
theorem StN.no {s dl dv ds : Nat} {K : Rw} (H : StN E Fz h x s dl dv ds K) : StN E (FN Fz h) h x s dl dv ds K := by
  obtain ⟨a, b, c, e, f, l1, l2, l3⟩ := H
  refine ⟨a, b, c, e, f, l1.mono ?_, l2.mono (fun k t q => q.no (by decide)), l3.mono (fun k t q => q.no (by decide))⟩
  rintro k u ⟨L, g1, g2⟩
  exact ⟨L, g1, g2.no⟩
/-- no cell of a street is an order -/
theorem StN.cell {s dl dv ds a : Nat} {K : Rw} (H : StN E Fz h x s dl dv ds K) (h1 : s ≤ a) (h2 : a < s + 12) : NO h a := by
  obtain ⟨⟨a1, -⟩, -, c, ⟨e1, -⟩, ⟨f1, -⟩, l1, l2, l3⟩ := H
  have : a = s ∨ a = s + 1 ∨ a = s + 2 ∨ a = s + 3 ∨ (s + 4 ≤ a ∧ a < s + 4 + 6) ∨ a = s + 10 ∨ a = s + 11 := by omega
  rcases this with z | z | z | z | z | z | z
  · subst z; exact NO.of a1 (by decide)
  · subst z; exact NO.of l1.1 (by decide)
  · subst z; exact NO.of l2.1 (by decide)
  · subst z; exact NO.of l3.1 (by decide)
  · exact c.1.no z.1 z.2
  · subst z; exact NO.of e1 (by decide)
  · subst z; exact NO.of f1 (by decide)
theorem LsN.arr {a d : Nat} {n : Int} {cap : Nat} {P : Nat → Nat → Prop} (H : LsN E h a d n cap P) : d = E.2.2 0 ∨ NO h d := by
  rcases H.2.2.2.2.1 with z | z
  · exact Or.inl z.2
  · exact Or.inr (NO.of z.1 (by decide))
theorem ImN.no {s : Sg} {k : Nat} (H : ImN E Fz h x s k) : ImN E (FN Fz h) h x s k := by
  rcases H with H | ⟨a, t, dl, dv, ds, r, z, z1, z2, z3, H⟩
  · exact Or.inl H
  · refine Or.inr ⟨a, t, dl, dv, ds, r, fun q h1 h2 => ⟨z q h1 h2, H.cell h1 h2⟩, ?_, ?_, ?_, H.no⟩
    · rcases H.2.2.2.2.2.1.arr with y | y
      · exact Or.inl y
      · exact z1.imp id (fun q => ⟨q, y⟩)
    · rcases H.2.2.2.2.2.2.1.arr with y | y
      · exact Or.inl y
      · exact z2.imp id (fun q => ⟨q, y⟩)
    · rcases H.2.2.2.2.2.2.2.arr with y | y
      · exact Or.inl y
      · exact z3.imp id (fun q => ⟨q, y⟩)
theorem DrN.no {s : Sg} (H : DrN Fz h x s) : DrN (FN Fz h) h x s := by
  rcases H with H | ⟨a, r, z, t, l, m, H⟩ | H
  · exact Or.inl H
  · refine Or.inr (Or.inl ⟨a, r, ⟨z, NO.of t (by decide)⟩, t, l, m, fun p hp => ?_⟩)
    obtain ⟨u, r1, z1, t1, q⟩ := H p hp
    exact ⟨u, r1, ⟨z1, NO.of t1 (by decide)⟩, t1, q⟩
  · exact Or.inr (Or.inr H)
end
section
variable {E : ax_E} {h : ax_H} {x t dl dv ds du b k : Nat} {s : Sg} {v : Int}
/-- a number of an order is written -/
theorem REP.wb (H : REP E h x t dl dv ds du s) (hb : x + 116 ≤ b) (tb : ¬ NO h b) : REP E (wI h b k v) x t dl dv ds du s := by
  obtain ⟨pl, rt, ri, ra, st, un, im, dr⟩ := H
  have h0 : ∀ d, hT h d = 104 → d ≠ E.2.2 0 := fun d hd => pl.k0 hd
  have ne : ∀ a, a ≠ b → (wI h b k v).2.2 a = h.2.2 a := fun a ha => hC_wI_ne ha
  have no : ∀ a, NO h a → a ≠ b := fun a ha e => tb (e ▸ ha)
  have hf : ∀ a, FN (Frz h x t dl dv ds du) h a → Frz (wI h b k v) x t dl dv ds du a ∧ eqT (hC h a) (hC (wI h b k v) a) := fun a ha => ⟨ha.1, eqT.of (ne a (no a ha.2))⟩
  have arr : ∀ {a d : Nat} {n : Int} {cap : Nat} {P : Nat → Nat → Prop}, LsN E h a d n cap P → d ≠ E.2.2 0 → eqT (hC h d) (hC (wI h b k v) d) := fun L hd => eqT.of (ne _ (no _ (L.arr.resolve_left hd)))
  have sI : ∀ a j, a ≠ b → hI (wI h b k v) a j = hI h a j := fun a j ha => hI_wI_ne (Or.inl ha)
  refine ⟨pl.fr (Nat.le_refl _) (fun a ha => ne a (by omega)) (fun a _ _ => hT_wI), rt.sh (fun a ha => shq.wI a), ?_, ?_, ?_, ?_, fun i hi => ?_, ?_⟩
  · obtain ⟨r1, r2, r3, r4, r5⟩ := ri
    refine ⟨?_, ?_, ?_, ?_, ?_⟩ <;> rw [sI x _ (by omega)] <;> assumption
  · refine ⟨fun j hj => ?_, fun j hj => ?_⟩
    · rw [sI _ _ (by omega)]; exact ra.1 j hj
    · rw [sI _ _ (by omega)]; exact ra.2 j hj
  · exact st.no.fr hf (fun a a0 a1 => eqT.of (ne a (no a (st.cell a0 a1)))) h0 (arr st.2.2.2.2.2.1) (arr st.2.2.2.2.2.2.1) (arr st.2.2.2.2.2.2.2)
  · exact (un.mono (fun i u q => q.no)).fr (eqT.of (ne _ (by omega))) (arr un) (h0 du) (fun i u hu => hu.fr0 hf)
  · exact (im i hi).no.fr hf hR_wI h0 rfl rfl
  · exact dr.no.fr hf hR_wI rfl rfl rfl rfl
end
