/-! THE COMPONENT stands for the model's rows -/
set_option maxRecDepth 100000
/-- the same shape: tag, length, references -/
def shq (h h' : ax_H) (a : Nat) : Prop := hT h' a = hT h a ∧ hL h' a = hL h a ∧ (hT h a ≠ 100 → ∀ k, hR h' a k = hR h a k)
theorem shq.refl (h : ax_H) (a : Nat) : shq h h a := ⟨rfl, rfl, fun _ _ => rfl⟩
theorem shq.of {h h' : ax_H} {a : Nat} (e : h'.2.2 a = h.2.2 a) : shq h h' a := by
  have e2 := hC_eq e
  unfold shq hT hL hR
  rw [e2]
  exact ⟨rfl, rfl, fun _ _ => rfl⟩
theorem shq.eqT {h h' : ax_H} {a : Nat} (e : eqT (hC h a) (hC h' a)) : shq h h' a := ⟨e.1, e.2.1, fun _ k => congrFun e.2.2.1 k⟩
theorem shq.wI {h : ax_H} {b k : Nat} {v : Int} (a : Nat) : shq h (wI h b k v) a := ⟨hT_wI, hL_wI, fun _ _ => hR_wI⟩
theorem shq.trans {h h1 h2 : ax_H} {a : Nat} (p : shq h h1 a) (q : shq h1 h2 a) : shq h h2 a := ⟨q.1.trans p.1, q.2.1.trans p.2.1, fun n k => (q.2.2 (by rw [p.1]; exact n) k).trans (p.2.2 n k)⟩
theorem BS.sh {h h' : ax_H} {b : Nat} (H : BS h b) (e : ∀ a, b ≤ a → a < b + 6 → shq h h' a) : BS h' b := by
  obtain ⟨e0, -, r0'⟩ := e b (by omega) (by omega)
  have r0 := r0' (by rw [H.1]; decide)
  obtain ⟨e1, l1, -⟩ := e (b + 1) (by omega) (by omega)
  obtain ⟨e2, l2, -⟩ := e (b + 2) (by omega) (by omega)
  obtain ⟨e3, l3, -⟩ := e (b + 3) (by omega) (by omega)
  obtain ⟨e4, l4, -⟩ := e (b + 4) (by omega) (by omega)
  obtain ⟨e5, l5, -⟩ := e (b + 5) (by omega) (by omega)
  unfold BS at *
  rw [e0, e1, e2, e3, e4, e5, r0, r0, r0, r0, r0, l1, l2, l3, l4, l5]
  exact H
/-- the root's shape -/
def RtS (h : ax_H) (x s : Nat) : Prop := hT h x = 0 ∧ hR h x 0 = some s ∧ (hR h x 1 = some (x + 13) ∧ hR h x 2 = some (x + 14) ∧ hR h x 3 = some (x + 15) ∧ hR h x 4 = some (x + 17) ∧ hR h x 5 = some (x + 19) ∧ hR h x 6 = some (x + 21) ∧ hR h x 11 = some (x + 22) ∧ hR h x 13 = some (x + 23) ∧ hR h x 14 = some (x + 29)) ∧ (hT h (x + 13) = 105 ∧ hL h (x + 13) = 2) ∧ (hT h (x + 15) = 3 ∧ hR h (x + 15) 0 = some (x + 16) ∧ hT h (x + 16) = 103 ∧ hL h (x + 16) = 10) ∧ (hT h (x + 17) = 3 ∧ hR h (x + 17) 0 = some (x + 18) ∧ hT h (x + 18) = 103 ∧ hL h (x + 18) = 10) ∧ (hT h (x + 19) = 4 ∧ hR h (x + 19) 0 = some (x + 20) ∧ hT h (x + 20) = 106 ∧ hL h (x + 20) = 0) ∧ (hT h (x + 21) = 100 ∧ hL h (x + 21) = 7) ∧ (hT h (x + 22) = 101 ∧ hL h (x + 22) = 400) ∧ BS h (x + 23) ∧ (hT h (x + 29) = 107 ∧ hL h (x + 29) = 9) ∧ ∀ i, i < 9 → hR h (x + 29) i = some (x + 30 + 6 * i) ∧ BS h (x + 30 + 6 * i)
theorem RtS.sh {h h' : ax_H} {x s : Nat} (H : RtS h x s) (e : ∀ a, (a = x ∨ (x + 13 ≤ a ∧ a < x + 84)) → shq h h' a) : RtS h' x s := by
  obtain ⟨a1, a2, a3, a4, a5, a6, a7, a8, a9, a10, a11, a12⟩ := H
  obtain ⟨t0, -, r0'⟩ := e x (by omega)
  have r0 := r0' (by rw [a1]; decide)
  obtain ⟨t13, l13, -⟩ := e (x + 13) (by omega)
  obtain ⟨t15, -, r15'⟩ := e (x + 15) (by omega)
  have r15 := r15' (by rw [a5.1]; decide)
  obtain ⟨t16, l16, -⟩ := e (x + 16) (by omega)
  obtain ⟨t17, -, r17'⟩ := e (x + 17) (by omega)
  have r17 := r17' (by rw [a6.1]; decide)
  obtain ⟨t18, l18, -⟩ := e (x + 18) (by omega)
  obtain ⟨t19, -, r19'⟩ := e (x + 19) (by omega)
  have r19 := r19' (by rw [a7.1]; decide)
  obtain ⟨t20, l20, -⟩ := e (x + 20) (by omega)
  obtain ⟨t21, l21, -⟩ := e (x + 21) (by omega)
  obtain ⟨t22, l22, -⟩ := e (x + 22) (by omega)
  obtain ⟨t29, l29, r29'⟩ := e (x + 29) (by omega)
  have r29 := r29' (by rw [a11.1]; decide)
  refine ⟨t0.trans a1, (r0 0).trans a2, ?_, ?_, ?_, ?_, ?_, ?_, ?_, a10.sh (fun a h1 h2 => e a (by omega)), ?_, fun i hi => ⟨?_, (a12 i hi).2.sh (fun a h1 h2 => e a (by omega))⟩⟩
  · rw [r0, r0, r0, r0, r0, r0, r0, r0, r0]; exact a3
  · rw [t13, l13]; exact a4
  · rw [t15, r15, t16, l16]; exact a5
  · rw [t17, r17, t18, l18]; exact a6
  · rw [t19, r19, t20, l20]; exact a7
  · rw [t21, l21]; exact a8
  · rw [t22, l22]; exact a9
  · rw [t29, l29]; exact a11
  · rw [r29]; exact (a12 i hi).1
/-- a list in the heap: its object, its array, how many, what each is -/
def LsN (E : ax_E) (h : ax_H) (a d : Nat) (n : Int) (cap : Nat) (P : Nat → Nat → Prop) : Prop := hT h a = 42 ∧ hR h a 1 = some d ∧ hI h a 2 = n ∧ 0 ≤ n ∧ ((n = 0 ∧ d = E.2.2 0) ∨ (hT h d = 104 ∧ n ≤ hL h d ∧ hL h d ≤ cap)) ∧ ∀ k : Nat, (k : Int) < n → ∃ t, hR h d k = some t ∧ P k t
theorem LsN.fr {E : ax_E} {h h' : ax_H} {a d : Nat} {n : Int} {cap : Nat} {P P' : Nat → Nat → Prop} (H : LsN E h a d n cap P) (ea : eqT (hC h a) (hC h' a)) (ed : d ≠ E.2.2 0 → eqT (hC h d) (hC h' d)) (hd : hT h d = 104 → d ≠ E.2.2 0) (hP : ∀ k t, P k t → P' k t) : LsN E h' a d n cap P' := by
  obtain ⟨t, r, i, n0, c, e⟩ := H
  obtain ⟨a1, a2, a3, a4⟩ := ea
  refine ⟨Eq.trans a1 t, (congrFun a3 1).trans r, (a4 2 (by intro e9; unfold hT at t; omega)).trans i, n0, ?_, fun k hk => ?_⟩
  · rcases c with c | ⟨c1, c2, c3⟩
    · exact Or.inl c
    · obtain ⟨b1, b2, -, -⟩ := ed (hd c1)
      have b2' : hL h' d = hL h d := b2
      exact Or.inr ⟨Eq.trans b1 c1, by omega, by omega⟩
  · obtain ⟨u, h1, h2⟩ := e k hk
    rcases c with ⟨c, -⟩ | ⟨c1, -, -⟩
    · omega
    · obtain ⟨-, -, b3, -⟩ := ed (hd c1)
      exact ⟨u, (congrFun b3 k).trans h1, hP k u h2⟩
/-- a visit, a scuff: four numbers -/
def FrN (Fz : Nat → Prop) (h : ax_H) (tg : Nat) (K : Rw) (at_ : Int) (k t : Nat) : Prop := Fz t ∧ hT h t = tg ∧ hI h t 0 = K (at_ + 4 * k) ∧ hI h t 1 = K (at_ + 4 * k + 1) ∧ hI h t 2 = K (at_ + 4 * k + 2) ∧ hI h t 3 = K (at_ + 4 * k + 3)
theorem FrN.fr {Fz Fz' : Nat → Prop} {h h' : ax_H} {tg : Nat} {K K' : Rw} {at_ : Int} {k t : Nat} (H : FrN Fz h tg K at_ k t) (hf : ∀ a, Fz a → Fz' a ∧ eqT (hC h a) (hC h' a)) (htg : tg ≠ 15) (hK : ∀ i, at_ + 4 * k ≤ i → i ≤ at_ + 4 * k + 3 → K' i = K i) : FrN Fz' h' tg K' at_ k t := by
  obtain ⟨z, t1, i0, i1, i2, i3⟩ := H
  obtain ⟨z', e1, e2, e3, e4⟩ := hf t z
  have g : ∀ j, hI h' t j = hI h t j := fun j => e4 j (by intro e9; unfold hT at t1; omega)
  refine ⟨z', Eq.trans e1 t1, ?_, ?_, ?_, ?_⟩
  · rw [g, hK _ (by omega) (by omega)]; exact i0
  · rw [g, hK _ (by omega) (by omega)]; exact i1
  · rw [g, hK _ (by omega) (by omega)]; exact i2
  · rw [g, hK _ (by omega) (by omega)]; exact i3
/-- a law in the heap -/
def LwN (Fz : Nat → Prop) (h : ax_H) (x : Nat) (K : Rw) (k t : Nat) : Prop := ∃ L, lawAt K k = .inr L ∧ TxN Fz h x t L
/-- a street: its object, its lists, its books, rooms and the wary -/
def StN (E : ax_E) (Fz : Nat → Prop) (h : ax_H) (x s dl dv ds : Nat) (K : Rw) : Prop := (hT h s = 1 ∧ hR h s 0 = some (s + 1) ∧ hR h s 1 = some (s + 2) ∧ hR h s 2 = some (s + 3) ∧ hR h s 3 = some (s + 4) ∧ hR h s 4 = some (s + 10) ∧ hR h s 5 = some (s + 11)) ∧ (hI h s 6 = K 152 ∧ hI h s 7 = K 151 ∧ hI h s 8 = K 156) ∧ BK h (s + 4) K ∧ (hT h (s + 10) = 100 ∧ hL h (s + 10) = 7 ∧ ∀ p : Nat, (p : Int) < K 152 → hI h (s + 10) p = K (73 + 2 * p)) ∧ (hT h (s + 11) = 100 ∧ hL h (s + 11) = 7 ∧ ∀ p : Nat, (p : Int) < K 152 → hI h (s + 11) p = K (73 + 2 * p + 1)) ∧ LsN E h (s + 1) dl (K 155) 10 (LwN Fz h x K) ∧ LsN E h (s + 2) dv (K 153) 10 (FrN Fz h 28 K 87) ∧ LsN E h (s + 3) ds (K 154) 10 (FrN Fz h 32 K 119)
theorem cut_congr {n : Int} {f g : Rw} (h : ∀ k, 0 ≤ k → k < n → f k = g k) : cut n f = cut n g := by
  funext k
  unfold cut
  split
  · rename_i hk; exact h k hk.1 hk.2
  · rfl
theorem lawAt_congr {K K' : Rw} {t : Int} (h0 : K' (157 + t) = K (157 + t)) (h1 : ∀ k, 0 ≤ k → k < K (157 + t) → K' (164 + 400 * t + k) = K (164 + 400 * t + k)) (h2 : ∀ k, 0 ≤ k → k < K (157 + t) → K' (2964 + 400 * t + k) = K (2964 + 400 * t + k)) : lawAt K' t = lawAt K t := by
  unfold lawAt codesS valuesS
  rw [h0, cut_congr h1, cut_congr h2]
