/-! A law told: the model -/
set_option maxRecDepth 100000
def laysK (K : Rw) (t : Int) (C W : Rw) (n : Nat) : Rw := cpR (cpR (u1 K (157 + t) n) (164 + 400 * t) C n) (2964 + 400 * t) W n
theorem u1_cpR {f g : Rw} {a n i v : Int} (h : i < a ∨ a + n ≤ i) : u1 (cpR f a g n) i v = cpR (u1 f i v) a g n := by
  funext j
  unfold u1 cpR
  by_cases c : j = i
  · subst c
    rw [if_pos rfl, if_neg (by omega)]
    dsimp only
    rw [if_pos rfl]
  · rw [if_neg c]
    by_cases c2 : a ≤ j ∧ j < a + n
    · rw [if_pos c2, if_pos c2]
    · rw [if_neg c2, if_neg c2]
      dsimp only
      rw [if_neg c]
theorem cpR_cg {f g g' : Rw} {a n : Int} (h : ∀ i, 0 ≤ i → i < n → g i = g' i) : cpR f a g n = cpR f a g' n := by
  funext j
  unfold cpR
  split
  · exact h _ (by omega) (by omega)
  · rfl
theorem laysK_o {K C W : Rw} {t : Int} {n : Nat} {i : Int} (h1 : i ≠ 157 + t) (h2 : i < 164 + 400 * t ∨ 164 + 400 * t + n ≤ i) (h3 : i < 2964 + 400 * t ∨ 2964 + 400 * t + n ≤ i) : laysK K t C W n i = K i := by
  unfold laysK
  rw [cpR_out h3, cpR_out h2, u1_ne _ h1]
theorem laysK_n {K C W : Rw} {t : Int} {n : Nat} (ht : 0 ≤ t ∧ t ≤ 6) : laysK K t C W n (157 + t) = n := by
  unfold laysK
  rw [cpR_out (by omega), cpR_out (by omega), u1_eq]
theorem laysK_c {K C W : Rw} {t k : Int} {n : Nat} (ht : 0 ≤ t ∧ t ≤ 6) (hn : n ≤ 400) (hk : 0 ≤ k ∧ k < n) : laysK K t C W n (164 + 400 * t + k) = C k := by
  unfold laysK
  rw [cpR_out (by omega), cpR_in (by omega)]
  congr 1
  omega
theorem laysK_w {K C W : Rw} {t k : Int} {n : Nat} (hk : 0 ≤ k ∧ k < n) : laysK K t C W n (2964 + 400 * t + k) = W k := by
  unfold laysK
  rw [cpR_in (by omega)]
  congr 1
  omega
theorem laysK_32 {K C W : Rw} {t : Int} {n : Nat} (hK : ∀ i, i2 (K i) = K i) (hC : ∀ i, i2 (C i) = C i) (hW : ∀ i, i2 (W i) = W i) (hn : n ≤ 400) : ∀ i, i2 (laysK K t C W n i) = laysK K t C W n i := cpR_32 (cpR_32 (u1_32 hK (i2_of (by omega) (by omega))) hC) hW
theorem cut_cut (n : Int) (f : Rw) : cut n (cut n f) = cut n f := by
  funext k
  unfold cut
  split <;> rfl
section
variable {E : ax_E} {m : Nat} {s : Sg} {h : ax_H}
theorem m_lays {t : Int} {n : Nat} (hn : s 0 16 = n) (hn4 : n ≤ 400) (ht : 0 ≤ t ∧ t ≤ 6) : f_X5_lays E (some m) t (mdl m s h) = some (mdl m (sw s 2 (laysK (s 2) t (s 9) (s 10) n)) h) := by
  obtain ⟨F, eF⟩ : ∃ F : Nat → Rw, F = fun k : Nat => cpR (cpR (u1 (s 2) (157 + t) n) (164 + 400 * t) (s 9) k) (2964 + 400 * t) (s 10) k := ⟨_, rfl⟩
  have tr := it_traj (body := fun y : Int × ax_H => lb_X5_lays_16 E (some m) t y.1 y.2) (fun k => ((k : Int), mdl m (sw s 2 (F k)) h)) n (r := mdl m (sw s 2 (F n)) h) (fun k hk => by
    have st1 : ax_sto (mdl m (sw s 2 (F k)) h) (some (m + 2)) 100 ((164 + 400 * t) + (k : Int)) (s 9 k) = some (mdl m (sw s 2 (cpR (cpR (u1 (s 2) (157 + t) n) (164 + 400 * t) (s 9) ((k + 1 : Nat) : Int)) (2964 + 400 * t) (s 10) k)) h) := by
      rw [md_sto2 (by omega) (by omega), sw_sw, sw_eq, eF]
      dsimp only
      rw [u1_cpR (by omega), cpR_s (by omega) rfl]
      rfl
    have st2 : ax_sto (mdl m (sw s 2 (cpR (cpR (u1 (s 2) (157 + t) n) (164 + 400 * t) (s 9) ((k + 1 : Nat) : Int)) (2964 + 400 * t) (s 10) k)) h) (some (m + 2)) 100 ((2964 + 400 * t) + (k : Int)) (s 10 k) = some (mdl m (sw s 2 (F (k + 1))) h) := by
      rw [md_sto2 (by omega) (by omega), sw_sw, sw_eq, cpR_s (by omega) rfl, eF]
      rfl
    dsimp only
    unfold lb_X5_lays_16
    rw [md_gI16, Option.bind_some, sw_ne _ (by decide), hn, i2_of (a := (k : Int)) (by omega) (by omega), i2_of (a := (n : Int)) (by omega) (by omega), if_pos (by omega), md_gR2, Option.bind_some, md_gR13, Option.bind_some, md_ld9 (by omega) (by omega), Option.bind_some, sw_ne _ (by decide), st1, Option.bind_some, md_gR2, Option.bind_some, md_gR14, Option.bind_some, md_ld10 (by omega) (by omega), Option.bind_some, sw_ne _ (by decide), st2, Option.bind_some]
    rfl) (by
    dsimp only
    unfold lb_X5_lays_16
    rw [md_gI16, Option.bind_some, sw_ne _ (by decide), hn, if_neg (Int.lt_irrefl _)]
    rfl)
  have e0 : F 0 = u1 (s 2) (157 + t) n := by rw [eF]; show cpR (cpR _ _ _ ((0 : Nat) : Int)) _ _ ((0 : Nat) : Int) = _; rw [show ((0 : Nat) : Int) = 0 from rfl, cpR_0, cpR_0]
  have eN : F n = laysK (s 2) t (s 9) (s 10) n := by rw [eF]; rfl
  rw [e0, eN] at tr
  unfold f_X5_lays f_X5_lays_16
  rw [md_gR2, Option.bind_some, md_gI16, Option.bind_some, hn, md_sto2 (by omega) (by omega), Option.bind_some]
  exact tr
end
/-- the text on the tape -/
def tpN (s : Sg) : Nat := (s 0 11).toNat
def lawP (s : Sg) : Int ⊕ List Cl := pLaw (cT (s 7) (tpN s)) (wT (s 7) (tpN s)) (toks (s 7) (tpN s))
def layS (s : Sg) (t : Int) : Rw := laysK (s 2) t (cT (s 7) (tpN s)) (wT (s 7) (tpN s)) (toks (s 7) (tpN s))
def lawS (s : Sg) : Int × Sg := if s 2 155 = 6 then (-5, sw s 0 (u1 (s 0) 11 0)) else match lawP s with
  | .inl t => (-6, rdE s (pos (s 7) (tpN s) t.toNat))
  | .inr _ => (s 2 155, sw (rdE s (-1)) 2 (u1 (layS s (s 2 155)) 155 (s 2 155 + 1)))
theorem cT_32 {s : Sg} {n : Int} (V : VW n s) : (∀ i, i2 (cT (s 7) (tpN s) i) = cT (s 7) (tpN s) i) ∧ ∀ i, i2 (wT (s 7) (tpN s) i) = wT (s 7) (tpN s) i := by
  have h11 := V.2.2.2.1
  have hN : tpN s ≤ 400 := by unfold tpN; omega
  exact ⟨fun i => by have := cT_b V.2.2.2.2.1 hN i; exact i2_of (by omega) (by omega), fun i => by have := wT_b (T := s 7) hN i; exact i2_of (by omega) (by omega)⟩
section
variable {E : ax_E} {m : Nat} {s : Sg} {h : ax_H}
theorem VW.tpv {n : Int} (V : VW n s) : TpV s := ⟨V.2.2.2.2.1, V.2.2.2.2.2.1⟩
theorem rdE_32 {n f : Int} (V : VW n s) (hf : i2 f = f) : G32 (rdE s f) := G32_sw V.1.1 (u1_32 (u1_32 (V.1.1 0) (by decide)) hf)
theorem m_law {n : Int} (V : VW n s) (hn : n ≤ 1000000000) : ∃ s', f_X5_law E (some m) (mdl m s h) = some ((lawS s).1, mdl m s' h) ∧ Ew (telP (lawS s)).2 s' := by
  have hG := V.1.1
  have hK := V.1.2.1
  have h11 := V.2.2.2.1
  have re := V.1.2.2.2.2
  have k155 : 0 ≤ s 2 155 ∧ s 2 155 ≤ 6 := by rcases hK.2.2.1 with z | z <;> omega
  have hN4 : tpN s ≤ 400 := by unfold tpN; omega
  have hN : ((tpN s : Nat) : Int) = s 0 11 := by unfold tpN; omega
  have hr : ∀ k : Int, 0 ≤ k → k < 7 → 0 ≤ s 1 k ∧ s 1 k ≤ 1000000000 := fun k k0 k1 => by have := re k k0 k1; omega
  unfold f_X5_law lawS
  rw [md_gR2, Option.bind_some, md_ld2 (by decide) (by decide), Option.bind_some, i2_of (a := s 2 155) (by omega) (by omega), show i2 6 = 6 by decide]
  by_cases c6 : s 2 155 = 6
  · rw [if_pos c6, if_pos c6]
    have p11 : ax_pI (mdl m s h) (some m) 5 11 0 = some (mdl m (sw s 0 (u1 (s 0) 11 0)) h) := md_pI11
    rw [p11, Option.bind_some, md_ce, Option.bind_some, m_refuses (by decide) (by decide), Option.bind_some]
    exact ⟨_, rfl, Ew.refl _⟩
  · rw [if_neg c6, if_neg c6, if_pos (Or.inl rfl)]
    obtain ⟨s0, es0⟩ : ∃ s0, s0 = sw s 0 (u1 (s 0) 8 0) := ⟨_, rfl⟩
    have p8 : ax_pI (mdl m s h) (some m) 5 8 0 = some (mdl m s0 h) := by rw [es0]; exact md_pI
    have q0 : Ew s s0 := by rw [es0]; exact Ew_0 (by unfold RpK; decide) (by decide)
    have o0 : ∀ q : Nat, q ≠ 0 → s0 q = s q := fun q hq => by rw [es0, sw_ne _ hq]
    have z11 : s0 0 11 = s 0 11 := by rw [es0, sw_eq, u1_ne _ (by decide)]
    have g0 := q0.2.2 hG
    have V0 : TpV s0 := by
      have t := V.tpv
      unfold TpV at *
      rw [o0 7 (by decide), o0 6 (by decide)]
      exact t
    obtain ⟨s1, p1, e1, f16, ft⟩ := m_reads (E := E) (m := m) (h := h) (s := s0) (o := 0) (N := tpN s) (cl := pClause (cT (s 7) (tpN s)) (wT (s 7) (tpN s))) g0 V0 (by rw [z11]; exact hN) hN4 (by rw [es0, sw_eq, u1_eq]) (Or.inl rfl) (fun sb R => by rw [o0 7 (by decide)] at R ⊢; exact m_rOne0 R)
    rw [o0 7 (by decide)] at p1 e1 f16 ft
    have eP : pAll (cT (s 7) (tpN s)) (toks (s 7) (tpN s)) (pClause (cT (s 7) (tpN s)) (wT (s 7) (tpN s))) 12 0 0 = lawP s := rfl
    rw [eP] at p1 e1
    have qE : ∀ f : Int, i2 f = f → Ew (rdE s f) (rdE s0 f) := fun f hf => by
      have a := Ew_u0 (k := 11) (v := 0) q0 g0 (by decide)
      have b := Ew_u0 (k := 12) (v := f) a (G32_sw g0 (u1_32 (g0 0) (by decide))) hf
      rw [sw_eq, sw_sw, sw_eq, sw_sw] at b
      exact b
    rw [p8, Option.bind_some, md_ce, Option.bind_some, p1, Option.bind_some]
    dsimp only
    cases hL : lawP s with
    | inl t =>
      rw [hL] at p1 e1
      have pf : i2 (rdV (s 7) (tpN s) (.inl t : Int ⊕ List Cl)) = rdV (s 7) (tpN s) (.inl t : Int ⊕ List Cl) := by
        show i2 (pos (s 7) (tpN s) t.toNat : Int) = _
        have := pos_le (T := s 7) (N := tpN s) t.toNat
        exact i2_of (by omega) (by omega)
      have q1 := (qE _ pf).trans e1
      have g1 := q1.2.2 (rdE_32 V pf)
      have r0 : rdOk (.inl t : Int ⊕ List Cl) = 0 := rfl
      rw [r0, if_pos (by decide), md_ce, Option.bind_some, m_refuses (by decide) (by decide), Option.bind_some]
      refine ⟨_, rfl, ?_⟩
      have e := Ew_tel (v := -6) q1 g1 (by decide) (fun k k0 k1 => by
        have : rdE s (rdV (s 7) (tpN s) (.inl t : Int ⊕ List Cl)) 1 = s 1 := by unfold rdE; rw [sw_ne _ (by decide)]
        rw [this]; exact hr k k0 k1)
      exact e
    | inr L =>
      rw [hL] at p1 e1
      have q1 := (qE (-1) (by decide)).trans e1
      have g1 := q1.2.2 (rdE_32 V (by decide))
      have k1 : s1 2 = s 2 := by rw [q1.k]; unfold rdE; rw [sw_ne _ (by decide)]
      have r1 : rdOk (.inr L : Int ⊕ List Cl) = 1 := rfl
      obtain ⟨t1, t2, t3⟩ := toks_e (T := s 7) hN4
      have lk : laysK (s1 2) (s 2 155) (s1 9) (s1 10) (toks (s 7) (tpN s)) = layS s (s 2 155) := by
        unfold layS laysK
        rw [k1, cpR_cg (g := s1 9) (g' := cT (s 7) (tpN s)) (fun i i0 i1 => by
          have q := (ft i.toNat (by omega)).1
          rw [Int.toNat_of_nonneg i0] at q
          exact q), cpR_cg (g := s1 10) (g' := wT (s 7) (tpN s)) (fun i i0 i1 => by
          have q := (ft i.toNat (by omega)).2
          rw [Int.toNat_of_nonneg i0] at q
          exact q)]
      obtain ⟨K', eK⟩ : ∃ K', K' = layS s (s 2 155) := ⟨_, rfl⟩
      have l32 : ∀ i, i2 (K' i) = K' i := by
        rw [eK]
        exact laysK_32 (hG 2) (cT_32 V).1 (cT_32 V).2 (by omega)
      have e155 : K' 155 = s 2 155 := by rw [eK]; exact laysK_o (by omega) (by omega) (by omega)
      have gl := G32_sw (o := 2) (f := K') g1 l32
      have g9 := G32_sw (o := 2) (f := u1 K' 155 (s 2 155 + 1)) g1 (u1_32 l32 (i2_of (by omega) (by omega)))
      rw [r1, if_neg (by decide), md_gR2, Option.bind_some, md_ld2 (by decide) (by decide), Option.bind_some, k1, md_ce, Option.bind_some, m_lays f16 (by omega) ⟨by omega, by omega⟩, lk, ← eK, Option.bind_some, md_gR2, Option.bind_some, md_ld2 (by decide) (by decide), Option.bind_some, sw_eq, e155, md_sto2 (by decide) (by decide), Option.bind_some, sw_sw, sw_eq, md_gR2, Option.bind_some, md_ld2 (by decide) (by decide), Option.bind_some, sw_eq, u1_eq, md_ce, Option.bind_some, m_good, Option.bind_some, Int.add_sub_cancel]
      refine ⟨_, rfl, ?_⟩
      have e := Ew_good (Ew_sw (o := 2) (F := u1 K' 155 (s 2 155 + 1)) q1 (by decide) g1 (u1_32 l32 (i2_of (by omega) (by omega)))) g9
      show Ew (telM _ _) _
      unfold telM
      dsimp only
      rw [if_neg (by omega)]
      exact e
end
