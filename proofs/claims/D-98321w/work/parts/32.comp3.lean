set_option maxRecDepth 100000
def dkwX0_waitIn_3 : List UInt8 := [132, 3, 1, 167, 255, 198, 28, 172]
abbrev dktX0_waitIn_3 : List UInt8 := dkwX0_waitIn_3 ++ []
def dkwX0_waitIn_2 : List UInt8 := [16, 100, 108, 184, 0, 82, 54, 4, 43, 180, 0, 171, 29, 92, 46, 21, 4, 96, 79, 28, 21, 4, 96, 61]
abbrev dktX0_waitIn_2 : List UInt8 := dkwX0_waitIn_2 ++ dktX0_waitIn_3
def dkwX0_waitIn_1 : List UInt8 := [17, 39, 15, 43, 180, 0, 171, 29, 46, 100, 43, 180, 0, 171, 29, 46, 42, 43, 29, 182, 0, 181, 104]
abbrev dktX0_waitIn_1 : List UInt8 := dkwX0_waitIn_1 ++ dktX0_waitIn_2
def dkwX0_waitIn_0 : List UInt8 := [43, 89, 180, 0, 194, 4, 96, 181, 0, 194, 3, 61, 3, 62, 29, 43, 180, 0, 107, 162, 0, 56]
abbrev dktX0_waitIn_0 : List UInt8 := dkwX0_waitIn_0 ++ dktX0_waitIn_1
theorem dksX0_waitIn_0 : cX0_waitIn.data.toList.drop 0 = dktX0_waitIn_0 := by decide +kernel
theorem dksX0_waitIn_1 : cX0_waitIn.data.toList.drop 22 = dktX0_waitIn_1 := dk_seg dksX0_waitIn_0 22 rfl rfl
theorem dksX0_waitIn_2 : cX0_waitIn.data.toList.drop 45 = dktX0_waitIn_2 := dk_seg dksX0_waitIn_1 23 rfl rfl
theorem dksX0_waitIn_3 : cX0_waitIn.data.toList.drop 69 = dktX0_waitIn_3 := dk_seg dksX0_waitIn_2 24 rfl rfl
theorem dX0_waitIn_0 : decode cX0_waitIn 0 = .ok (.aload_n 1, 1) := dk_43 (dk_at dksX0_waitIn_0 0 rfl rfl)
theorem dX0_waitIn_1 : decode cX0_waitIn 1 = .ok (.dup, 1) := dk_89 (dk_at dksX0_waitIn_0 1 rfl rfl)
theorem dX0_waitIn_2 : decode cX0_waitIn 2 = .ok (.getfield 194, 3) := dk_180 0 194 (dk_at dksX0_waitIn_0 2 rfl rfl)
theorem dX0_waitIn_5 : decode cX0_waitIn 5 = .ok (.iconst 1, 1) := dk_4 (dk_at dksX0_waitIn_0 5 rfl rfl)
theorem dX0_waitIn_6 : decode cX0_waitIn 6 = .ok (.iadd, 1) := dk_96 (dk_at dksX0_waitIn_0 6 rfl rfl)
theorem dX0_waitIn_7 : decode cX0_waitIn 7 = .ok (.putfield 194, 3) := dk_181 0 194 (dk_at dksX0_waitIn_0 7 rfl rfl)
theorem dX0_waitIn_10 : decode cX0_waitIn 10 = .ok (.iconst 0, 1) := dk_3 (dk_at dksX0_waitIn_0 10 rfl rfl)
theorem dX0_waitIn_11 : decode cX0_waitIn 11 = .ok (.istore_n 2, 1) := dk_61 (dk_at dksX0_waitIn_0 11 rfl rfl)
theorem dX0_waitIn_12 : decode cX0_waitIn 12 = .ok (.iconst 0, 1) := dk_3 (dk_at dksX0_waitIn_0 12 rfl rfl)
theorem dX0_waitIn_13 : decode cX0_waitIn 13 = .ok (.istore_n 3, 1) := dk_62 (dk_at dksX0_waitIn_0 13 rfl rfl)
theorem dX0_waitIn_14 : decode cX0_waitIn 14 = .ok (.iload_n 3, 1) := dk_29 (dk_at dksX0_waitIn_0 14 rfl rfl)
theorem dX0_waitIn_15 : decode cX0_waitIn 15 = .ok (.aload_n 1, 1) := dk_43 (dk_at dksX0_waitIn_0 15 rfl rfl)
theorem dX0_waitIn_16 : decode cX0_waitIn 16 = .ok (.getfield 107, 3) := dk_180 0 107 (dk_at dksX0_waitIn_0 16 rfl rfl)
theorem dX0_waitIn_19 : decode cX0_waitIn 19 = .ok (.if_icmp .ge 56, 3) := dk_162 0 56 (dk_at dksX0_waitIn_0 19 rfl rfl)
theorem dX0_waitIn_22 : decode cX0_waitIn 22 = .ok (.sipush 9999, 3) := dk_17 39 15 (dk_at dksX0_waitIn_1 0 rfl rfl)
theorem dX0_waitIn_25 : decode cX0_waitIn 25 = .ok (.aload_n 1, 1) := dk_43 (dk_at dksX0_waitIn_1 3 rfl rfl)
theorem dX0_waitIn_26 : decode cX0_waitIn 26 = .ok (.getfield 171, 3) := dk_180 0 171 (dk_at dksX0_waitIn_1 4 rfl rfl)
theorem dX0_waitIn_29 : decode cX0_waitIn 29 = .ok (.iload_n 3, 1) := dk_29 (dk_at dksX0_waitIn_1 7 rfl rfl)
theorem dX0_waitIn_30 : decode cX0_waitIn 30 = .ok (.iaload, 1) := dk_46 (dk_at dksX0_waitIn_1 8 rfl rfl)
theorem dX0_waitIn_31 : decode cX0_waitIn 31 = .ok (.isub, 1) := dk_100 (dk_at dksX0_waitIn_1 9 rfl rfl)
theorem dX0_waitIn_32 : decode cX0_waitIn 32 = .ok (.aload_n 1, 1) := dk_43 (dk_at dksX0_waitIn_1 10 rfl rfl)
theorem dX0_waitIn_33 : decode cX0_waitIn 33 = .ok (.getfield 171, 3) := dk_180 0 171 (dk_at dksX0_waitIn_1 11 rfl rfl)
theorem dX0_waitIn_36 : decode cX0_waitIn 36 = .ok (.iload_n 3, 1) := dk_29 (dk_at dksX0_waitIn_1 14 rfl rfl)
theorem dX0_waitIn_37 : decode cX0_waitIn 37 = .ok (.iaload, 1) := dk_46 (dk_at dksX0_waitIn_1 15 rfl rfl)
theorem dX0_waitIn_38 : decode cX0_waitIn 38 = .ok (.aload_n 0, 1) := dk_42 (dk_at dksX0_waitIn_1 16 rfl rfl)
theorem dX0_waitIn_39 : decode cX0_waitIn 39 = .ok (.aload_n 1, 1) := dk_43 (dk_at dksX0_waitIn_1 17 rfl rfl)
theorem dX0_waitIn_40 : decode cX0_waitIn 40 = .ok (.iload_n 3, 1) := dk_29 (dk_at dksX0_waitIn_1 18 rfl rfl)
theorem dX0_waitIn_41 : decode cX0_waitIn 41 = .ok (.invokevirtual 181, 3) := dk_182 0 181 (dk_at dksX0_waitIn_1 19 rfl rfl)
theorem dX0_waitIn_44 : decode cX0_waitIn 44 = .ok (.imul, 1) := dk_104 (dk_at dksX0_waitIn_1 22 rfl rfl)
theorem dX0_waitIn_45 : decode cX0_waitIn 45 = .ok (.bipush 100, 2) := dk_16 100 (dk_at dksX0_waitIn_2 0 rfl rfl)
theorem dX0_waitIn_47 : decode cX0_waitIn 47 = .ok (.idiv, 1) := dk_108 (dk_at dksX0_waitIn_2 2 rfl rfl)
theorem dX0_waitIn_48 : decode cX0_waitIn 48 = .ok (.invokestatic 82, 3) := dk_184 0 82 (dk_at dksX0_waitIn_2 3 rfl rfl)
theorem dX0_waitIn_51 : decode cX0_waitIn 51 = .ok (.istore 4, 2) := dk_54 4 (dk_at dksX0_waitIn_2 6 rfl rfl)
theorem dX0_waitIn_53 : decode cX0_waitIn 53 = .ok (.aload_n 1, 1) := dk_43 (dk_at dksX0_waitIn_2 8 rfl rfl)
theorem dX0_waitIn_54 : decode cX0_waitIn 54 = .ok (.getfield 171, 3) := dk_180 0 171 (dk_at dksX0_waitIn_2 9 rfl rfl)
theorem dX0_waitIn_57 : decode cX0_waitIn 57 = .ok (.iload_n 3, 1) := dk_29 (dk_at dksX0_waitIn_2 12 rfl rfl)
theorem dX0_waitIn_58 : decode cX0_waitIn 58 = .ok (.dup2, 1) := dk_92 (dk_at dksX0_waitIn_2 13 rfl rfl)
theorem dX0_waitIn_59 : decode cX0_waitIn 59 = .ok (.iaload, 1) := dk_46 (dk_at dksX0_waitIn_2 14 rfl rfl)
theorem dX0_waitIn_60 : decode cX0_waitIn 60 = .ok (.iload 4, 2) := dk_21 4 (dk_at dksX0_waitIn_2 15 rfl rfl)
theorem dX0_waitIn_62 : decode cX0_waitIn 62 = .ok (.iadd, 1) := dk_96 (dk_at dksX0_waitIn_2 17 rfl rfl)
theorem dX0_waitIn_63 : decode cX0_waitIn 63 = .ok (.iastore, 1) := dk_79 (dk_at dksX0_waitIn_2 18 rfl rfl)
theorem dX0_waitIn_64 : decode cX0_waitIn 64 = .ok (.iload_n 2, 1) := dk_28 (dk_at dksX0_waitIn_2 19 rfl rfl)
theorem dX0_waitIn_65 : decode cX0_waitIn 65 = .ok (.iload 4, 2) := dk_21 4 (dk_at dksX0_waitIn_2 20 rfl rfl)
theorem dX0_waitIn_67 : decode cX0_waitIn 67 = .ok (.iadd, 1) := dk_96 (dk_at dksX0_waitIn_2 22 rfl rfl)
theorem dX0_waitIn_68 : decode cX0_waitIn 68 = .ok (.istore_n 2, 1) := dk_61 (dk_at dksX0_waitIn_2 23 rfl rfl)
theorem dX0_waitIn_69 : decode cX0_waitIn 69 = .ok (.iinc 3 1, 3) := dk_132 3 1 (dk_at dksX0_waitIn_3 0 rfl rfl)
theorem dX0_waitIn_72 : decode cX0_waitIn 72 = .ok (.goto (-58), 3) := dk_167 255 198 (dk_at dksX0_waitIn_3 3 rfl rfl)
theorem dX0_waitIn_75 : decode cX0_waitIn 75 = .ok (.iload_n 2, 1) := dk_28 (dk_at dksX0_waitIn_3 6 rfl rfl)
theorem dX0_waitIn_76 : decode cX0_waitIn 76 = .ok (.ireturn, 1) := dk_172 (dk_at dksX0_waitIn_3 7 rfl rfl)
noncomputable def lb_X0_waitIn_14 (E : ax_E) (x0 : Option Nat) (x1 : Option Nat) (x2 : Int) (x3 : Int) (h : ax_H) : Option ((Int × Int × ax_H) ⊕ (Int × ax_H)) :=
  (ax_gI E h x1 2 5).bind fun v1 =>
  if i2 x3 < i2 v1 then
    (ax_gR E h x1 2 3).bind fun v2 =>
    (ax_ld E h v2 100 x3).bind fun v3 =>
    (ax_gR E h x1 2 3).bind fun v4 =>
    (ax_ld E h v4 100 x3).bind fun v5 =>
    (ax_ce E h x0 0).bind fun _ => (f_X0_growsBy E x0 x1 x3 h).bind fun q6 =>
    if i2 100 = 0 then none else
    (f_J3_min E (9999 - v3) ((i2 (v5 * q6.1)).tdiv (i2 100)) q6.2).bind fun q7 =>
    (ax_gR E q7.2 x1 2 3).bind fun v8 =>
    (ax_ld E q7.2 v8 100 x3).bind fun v9 =>
    (ax_sto q7.2 v8 100 x3 (v9 + q7.1)).bind fun h10 =>
    some (.inl ((x2 + q7.1), (x3 + 1), h10))
  else
    (some (x2, h)).map Sum.inr
noncomputable def f_X0_waitIn_14 (E : ax_E) (x0 : Option Nat) (x1 : Option Nat) (x2 : Int) (x3 : Int) (h : ax_H) : Option (Int × ax_H) :=
  ax_iter (fun s : Int × Int × ax_H => lb_X0_waitIn_14 E x0 x1 s.1 s.2.1 s.2.2) (x2, x3, h)
noncomputable def f_X0_waitIn (E : ax_E) (x0 : Option Nat) (x1 : Option Nat) (h : ax_H) : Option (Int × ax_H) :=
  (ax_gI E h x1 2 6).bind fun v1 =>
  (ax_pI h x1 2 6 (v1 + 1)).bind fun h2 =>
  f_X0_waitIn_14 E x0 x1 0 0 h2
def pi_X0_waitIn_14 (G : ax_G) (X : ax_X) (Q : State → Prop) (x0 : Option Nat) (x1 : Option Nat) : Int × Int × ax_H → Prop := fun s => ∀ ls : Array Slot, ax_hl ls 5 [(0, .inr (.inr x0)), (1, .inr (.inr x1)), (2, .inl s.1), (3, .inl s.2.1)] → ax_W G X Q s.2.2 14 ls []
set_option maxHeartbeats 4000000 in
theorem wb_X0_waitIn_14 {l : Launch} {G : ax_G} {X : ax_X} {Q : State → Prop} {h0 h : ax_H} {ls : Array Slot} (hSF : ax_SF G) (B : ax_BL l G X cX0_waitIn 5 RX0 140 3567) (Z : ax_Z X h0 ((some FieldType.int))) (hn : X.2.2.2.2.2.2.2.2.1.name = yX0_waitIn.name) (x0 : Option Nat) (x1 : Option Nat) (x2 : Int) (x3 : Int) {w : (Int × Int × ax_H) ⊕ (Int × ax_H)} (hl : ax_hl ls 5 [(0, .inr (.inr x0)), (1, .inr (.inr x1)), (2, .inl x2), (3, .inl x3)]) (e : lb_X0_waitIn_14 G.2.2 x0 x1 x2 x3 h = some w) (hp : (ax_PL (pi_X0_waitIn_14 G X Q x0 x1) (fun w : Int × ax_H => Q = ax_Q G X h0 w.2 (some (.int (Int32.ofInt w.1))))) w) : ax_W G X Q h 14 ls [] := by
  unfold lb_X0_waitIn_14 at e
  refine ax_iload_n B dX0_waitIn_14 rfl hl 3 rfl ?_
  refine ax_aload_n B dX0_waitIn_15 rfl hl 1 rfl ?_
  refine ax_getI B ff_X0_107_2 (fun _ _ => rfl) dX0_waitIn_16 e (fun v1 e => ?_)
  refine ax_icmp_ge (tgt := 75) B dX0_waitIn_19 (by decide) e (fun e => ?_) (fun e => ?_)
  · refine ax_sipush B dX0_waitIn_22 (by decide) ?_
    refine ax_aload_n B dX0_waitIn_25 rfl hl 1 rfl ?_
    refine ax_getR B ff_X0_171_2 (fun _ _ => rfl) dX0_waitIn_26 e (fun v2 e => ?_)
    refine ax_iload_n B dX0_waitIn_29 rfl hl 3 rfl ?_
    refine ax_iald B kd100 dX0_waitIn_30 e (fun v3 e => ?_)
    refine ax_isub' B dX0_waitIn_31 ?_
    refine ax_aload_n B dX0_waitIn_32 rfl hl 1 rfl ?_
    refine ax_getR B ff_X0_171_2 (fun _ _ => rfl) dX0_waitIn_33 e (fun v4 e => ?_)
    refine ax_iload_n B dX0_waitIn_36 rfl hl 3 rfl ?_
    refine ax_iald B kd100 dX0_waitIn_37 e (fun v5 e => ?_)
    refine ax_aload_n B dX0_waitIn_38 rfl hl 0 rfl ?_
    refine ax_aload_n B dX0_waitIn_39 rfl hl 1 rfl ?_
    refine ax_iload_n B dX0_waitIn_40 rfl hl 3 rfl ?_
    refine ax_ivI (y := yX0_growsBy) (n := 2) (As := [va_rf x1, .int (Int32.ofInt x3)]) B kd0 (lw_V q601 q603 qs14 q125 q604) (by decide +kernel) ⟨Nat.le_of_ble_eq_true rfl, Nat.le_of_ble_eq_true rfl⟩ (fun w1 e1 => mt_X0_growsBy l G hSF x0 x1 x3 _ w1 e1) rfl hl.size (by simp only [List.map_cons, List.map_nil, List.sum_cons, List.sum_nil, va_rf_cat, ax_catI, ax_catL]; decide) dX0_waitIn_41 e (fun q6 e => ?_)
    refine ax_imul' B dX0_waitIn_44 ?_
    refine ax_bipush B dX0_waitIn_45 (by decide) ?_
    refine ax_idiv' B dX0_waitIn_47 e (fun e => ?_)
    refine ax_isI (y := yJ3_min) (n := 2) (As := [.int (Int32.ofInt (9999 - v3)), .int (Int32.ofInt ((i2 (v5 * q6.1)).tdiv (i2 100)))]) B (lw_S q440 q441 q134 q442) (by decide +kernel) ⟨Nat.le_of_ble_eq_true rfl, Nat.le_of_ble_eq_true rfl⟩ (fun w1 e1 => mt_J3_min l G hSF (9999 - v3) ((i2 (v5 * q6.1)).tdiv (i2 100)) _ w1 e1) rfl hl.size (by decide) dX0_waitIn_48 e (fun q7 e => ?_)
    refine ax_istore (L' := [(4, .inl q7.1), (0, .inr (.inr x0)), (1, .inr (.inr x1)), (2, .inl x2), (3, .inl x3)]) B dX0_waitIn_51 hl (by decide) rfl (fun ls hl => ?_)
    refine ax_aload_n B dX0_waitIn_53 rfl hl 2 rfl ?_
    refine ax_getR B ff_X0_171_2 (fun _ _ => rfl) dX0_waitIn_54 e (fun v8 e => ?_)
    refine ax_iload_n B dX0_waitIn_57 rfl hl 4 rfl ?_
    refine ax_dup2 B dX0_waitIn_58 (rfl) (va_rf_cat _) ?_
    refine ax_iald B kd100 dX0_waitIn_59 e (fun v9 e => ?_)
    refine ax_iload B dX0_waitIn_60 hl 0 rfl ?_
    refine ax_iadd' B dX0_waitIn_62 ?_
    refine ax_iast B kd100 dX0_waitIn_63 e (fun h10 e => ?_)
    refine ax_iload_n B dX0_waitIn_64 rfl hl 3 rfl ?_
    refine ax_iload B dX0_waitIn_65 hl 0 rfl ?_
    refine ax_iadd' B dX0_waitIn_67 ?_
    refine ax_istore_n (L' := [(2, .inl (x2 + q7.1)), (4, .inl q7.1), (0, .inr (.inr x0)), (1, .inr (.inr x1)), (3, .inl x3)]) B dX0_waitIn_68 rfl hl (by decide) rfl (fun ls hl => ?_)
    refine ax_iinc (L' := [(3, .inl (x3 + 1)), (2, .inl (x2 + q7.1)), (4, .inl q7.1), (0, .inr (.inr x0)), (1, .inr (.inr x1))]) B dX0_waitIn_69 hl 4 rfl (by decide) rfl (fun ls hl => ?_)
    refine ax_goto (tgt := 14) B dX0_waitIn_72 (by decide) ?_
    cases e
    exact hp _ (hl.sub [3, 4, 1, 0] rfl)
  · obtain ⟨w, e9_1, rfl⟩ := Option.map_eq_some_iff.mp e
    have e := e9_1
    refine ax_iload_n B dX0_waitIn_75 rfl hl 2 rfl ?_
    have e8 := e
    have hp : Q = _ := hp
    subst hp
    exact ax_ireturn B Z dX0_waitIn_76 e8
theorem w_X0_waitIn_14 {l : Launch} {G : ax_G} {X : ax_X} {Q : State → Prop} {h0 h : ax_H} {ls : Array Slot} (hSF : ax_SF G) (B : ax_BL l G X cX0_waitIn 5 RX0 140 3567) (Z : ax_Z X h0 ((some FieldType.int))) (hn : X.2.2.2.2.2.2.2.2.1.name = yX0_waitIn.name) (x0 : Option Nat) (x1 : Option Nat) (x2 : Int) (x3 : Int) {w : Int × ax_H} (hl : ax_hl ls 5 [(0, .inr (.inr x0)), (1, .inr (.inr x1)), (2, .inl x2), (3, .inl x3)]) (e : f_X0_waitIn_14 G.2.2 x0 x1 x2 x3 h = some w) (hp : (fun w : Int × ax_H => Q = ax_Q G X h0 w.2 (some (.int (Int32.ofInt w.1)))) w) : ax_W G X Q h 14 ls [] :=
  ax_iter_W (Pin := pi_X0_waitIn_14 G X Q x0 x1) (Pout := (fun w : Int × ax_H => Q = ax_Q G X h0 w.2 (some (.int (Int32.ofInt w.1))))) (fun s w e hp ls hl => wb_X0_waitIn_14 hSF B Z hn x0 x1 s.1 s.2.1 hl e hp) _ _ e hp ls hl
set_option maxHeartbeats 4000000 in
theorem we_X0_waitIn {l : Launch} {G : ax_G} {X : ax_X} {Q : State → Prop} {h0 h : ax_H} {ls : Array Slot} (hSF : ax_SF G) (B : ax_BL l G X cX0_waitIn 5 RX0 140 3567) (Z : ax_Z X h0 ((some FieldType.int))) (hn : X.2.2.2.2.2.2.2.2.1.name = yX0_waitIn.name) (x0 : Option Nat) (x1 : Option Nat) {w : Int × ax_H} (hl : ax_hl ls 5 [(0, .inr (.inr x0)), (1, .inr (.inr x1))]) (e : f_X0_waitIn G.2.2 x0 x1 h = some w) (hp : (fun w : Int × ax_H => Q = ax_Q G X h0 w.2 (some (.int (Int32.ofInt w.1)))) w) : ax_W G X Q h 0 ls [] := by
  unfold f_X0_waitIn at e
  refine ax_aload_n B dX0_waitIn_0 rfl hl 1 rfl ?_
  refine ax_dup B dX0_waitIn_1 (va_rf_cat _) ?_
  refine ax_getI B ff_X0_194_2 (fun _ _ => rfl) dX0_waitIn_2 e (fun v1 e => ?_)
  refine ax_iconst B dX0_waitIn_5 ?_
  refine ax_iadd' B dX0_waitIn_6 ?_
  refine ax_putI B ff_X0_194_2 (Or.inl rfl) rfl dX0_waitIn_7 e (fun h2 e => ?_)
  refine ax_iconst B dX0_waitIn_10 ?_
  refine ax_istore_n (L' := [(2, .inl 0), (0, .inr (.inr x0)), (1, .inr (.inr x1))]) B dX0_waitIn_11 rfl hl (by decide) rfl (fun ls hl => ?_)
  refine ax_iconst B dX0_waitIn_12 ?_
  refine ax_istore_n (L' := [(3, .inl 0), (2, .inl 0), (0, .inr (.inr x0)), (1, .inr (.inr x1))]) B dX0_waitIn_13 rfl hl (by decide) rfl (fun ls hl => ?_)
  exact w_X0_waitIn_14 hSF B Z hn x0 x1 0 0 (hl.sub [2, 3, 1, 0] rfl) e hp
theorem mt_X0_waitIn (l : Launch) (G : ax_G) (hSF : ax_SF G) (x0 : Option Nat) (x1 : Option Nat) (h : ax_H) (w : Int × ax_H) (e : f_X0_waitIn G.2.2 x0 x1 h = some w) : ax_Met l G yX0_waitIn cX0_waitIn 5 ((some FieldType.int)) 140 3567 [va_rf x0, va_rf x1] h w.2 (some (.int (Int32.ofInt w.1))) :=
  ax_enter [.inr (.inr x0), .inr (.inr x1)] (y := yX0_waitIn) hSF (plainFor_of_name (by decide +kernel)) (Nat.le_of_ble_eq_true rfl) (fun X ls B Z hn hl => we_X0_waitIn hSF B Z hn x0 x1 hl e rfl)
def dkwX0_waitNow_1 : List UInt8 := [182, 0, 104, 182, 1, 69, 172]
abbrev dktX0_waitNow_1 : List UInt8 := dkwX0_waitNow_1 ++ []
def dkwX0_waitNow_0 : List UInt8 := [42, 182, 0, 104, 180, 0, 194, 17, 3, 231, 160, 0, 6, 16, 253, 172, 42, 7, 182, 1, 47, 42, 42]
abbrev dktX0_waitNow_0 : List UInt8 := dkwX0_waitNow_0 ++ dktX0_waitNow_1
theorem dksX0_waitNow_0 : cX0_waitNow.data.toList.drop 0 = dktX0_waitNow_0 := by decide +kernel
theorem dksX0_waitNow_1 : cX0_waitNow.data.toList.drop 23 = dktX0_waitNow_1 := dk_seg dksX0_waitNow_0 23 rfl rfl
theorem dX0_waitNow_0 : decode cX0_waitNow 0 = .ok (.aload_n 0, 1) := dk_42 (dk_at dksX0_waitNow_0 0 rfl rfl)
theorem dX0_waitNow_1 : decode cX0_waitNow 1 = .ok (.invokevirtual 104, 3) := dk_182 0 104 (dk_at dksX0_waitNow_0 1 rfl rfl)
theorem dX0_waitNow_4 : decode cX0_waitNow 4 = .ok (.getfield 194, 3) := dk_180 0 194 (dk_at dksX0_waitNow_0 4 rfl rfl)
theorem dX0_waitNow_7 : decode cX0_waitNow 7 = .ok (.sipush 999, 3) := dk_17 3 231 (dk_at dksX0_waitNow_0 7 rfl rfl)
theorem dX0_waitNow_10 : decode cX0_waitNow 10 = .ok (.if_icmp .ne 6, 3) := dk_160 0 6 (dk_at dksX0_waitNow_0 10 rfl rfl)
theorem dX0_waitNow_13 : decode cX0_waitNow 13 = .ok (.bipush (-3), 2) := dk_16 253 (dk_at dksX0_waitNow_0 13 rfl rfl)
theorem dX0_waitNow_15 : decode cX0_waitNow 15 = .ok (.ireturn, 1) := dk_172 (dk_at dksX0_waitNow_0 15 rfl rfl)
theorem dX0_waitNow_16 : decode cX0_waitNow 16 = .ok (.aload_n 0, 1) := dk_42 (dk_at dksX0_waitNow_0 16 rfl rfl)
theorem dX0_waitNow_17 : decode cX0_waitNow 17 = .ok (.iconst 4, 1) := dk_7 (dk_at dksX0_waitNow_0 17 rfl rfl)
theorem dX0_waitNow_18 : decode cX0_waitNow 18 = .ok (.invokevirtual 303, 3) := dk_182 1 47 (dk_at dksX0_waitNow_0 18 rfl rfl)
theorem dX0_waitNow_21 : decode cX0_waitNow 21 = .ok (.aload_n 0, 1) := dk_42 (dk_at dksX0_waitNow_0 21 rfl rfl)
theorem dX0_waitNow_22 : decode cX0_waitNow 22 = .ok (.aload_n 0, 1) := dk_42 (dk_at dksX0_waitNow_0 22 rfl rfl)
theorem dX0_waitNow_23 : decode cX0_waitNow 23 = .ok (.invokevirtual 104, 3) := dk_182 0 104 (dk_at dksX0_waitNow_1 0 rfl rfl)
theorem dX0_waitNow_26 : decode cX0_waitNow 26 = .ok (.invokevirtual 325, 3) := dk_182 1 69 (dk_at dksX0_waitNow_1 3 rfl rfl)
theorem dX0_waitNow_29 : decode cX0_waitNow 29 = .ok (.ireturn, 1) := dk_172 (dk_at dksX0_waitNow_1 6 rfl rfl)
noncomputable def f_X0_waitNow (E : ax_E) (x0 : Option Nat) (h : ax_H) : Option (Int × ax_H) :=
  (ax_ce E h x0 0).bind fun _ => (f_X0_books E x0 h).bind fun q1 =>
  (ax_gI E q1.2 q1.1 2 6).bind fun v2 =>
  if i2 v2 = i2 999 then
    some ((-3), q1.2)
  else
    (ax_ce E q1.2 x0 0).bind fun _ => (f_X0_remember E x0 4 q1.2).bind fun h3 =>
    (ax_ce E h3 x0 0).bind fun _ => (f_X0_books E x0 h3).bind fun q4 =>
    (ax_ce E q4.2 x0 0).bind fun _ => (f_X0_waitIn E x0 q4.1 q4.2).bind fun q5 =>
    some (q5.1, q5.2)
set_option maxHeartbeats 4000000 in
theorem we_X0_waitNow {l : Launch} {G : ax_G} {X : ax_X} {Q : State → Prop} {h0 h : ax_H} {ls : Array Slot} (hSF : ax_SF G) (B : ax_BL l G X cX0_waitNow 1 RX0 141 3591) (Z : ax_Z X h0 ((some FieldType.int))) (hn : X.2.2.2.2.2.2.2.2.1.name = yX0_waitNow.name) (x0 : Option Nat) {w : Int × ax_H} (hl : ax_hl ls 1 [(0, .inr (.inr x0))]) (e : f_X0_waitNow G.2.2 x0 h = some w) (hp : (fun w : Int × ax_H => Q = ax_Q G X h0 w.2 (some (.int (Int32.ofInt w.1)))) w) : ax_W G X Q h 0 ls [] := by
  unfold f_X0_waitNow at e
  refine ax_aload_n B dX0_waitNow_0 rfl hl 0 rfl ?_
  refine ax_ivR (y := yX0_books) (n := 0) (As := []) B kd0 (lw_V q443 q445 qs2 q125 q446) (by decide +kernel) ⟨Nat.le_of_ble_eq_true rfl, Nat.le_of_ble_eq_true rfl⟩ (fun w1 e1 => mt_X0_books l G hSF x0 _ w1 e1) rfl hl.size (by decide) dX0_waitNow_1 e (fun q1 e => ?_)
  refine ax_getI B ff_X0_194_2 (fun _ _ => rfl) dX0_waitNow_4 e (fun v2 e => ?_)
  refine ax_sipush B dX0_waitNow_7 (by decide) ?_
  refine ax_icmp_ne (tgt := 16) B dX0_waitNow_10 (by decide) e (fun e => ?_) (fun e => ?_)
  · refine ax_bipush B dX0_waitNow_13 (by decide) ?_
    have e8 := e
    have hp : Q = _ := hp
    subst hp
    exact ax_ireturn B Z dX0_waitNow_15 e8
  · refine ax_aload_n B dX0_waitNow_16 rfl hl 0 rfl ?_
    refine ax_iconst B dX0_waitNow_17 ?_
    refine ax_ivV (y := yX0_remember) (n := 1) (As := [.int (Int32.ofInt 4)]) B kd0 (lw_V q1362 q1364 qs26 q125 q1365) (by decide +kernel) ⟨Nat.le_of_ble_eq_true rfl, Nat.le_of_ble_eq_true rfl⟩ (fun w1 e1 => mt_X0_remember l G hSF x0 4 _ w1 e1) rfl hl.size (by decide) dX0_waitNow_18 e (fun h3 e => ?_)
    refine ax_aload_n B dX0_waitNow_21 rfl hl 0 rfl ?_
    refine ax_aload_n B dX0_waitNow_22 rfl hl 0 rfl ?_
    refine ax_ivR (y := yX0_books) (n := 0) (As := []) B kd0 (lw_V q443 q445 qs2 q125 q446) (by decide +kernel) ⟨Nat.le_of_ble_eq_true rfl, Nat.le_of_ble_eq_true rfl⟩ (fun w1 e1 => mt_X0_books l G hSF x0 _ w1 e1) rfl hl.size (by simp only [List.map_cons, List.map_nil, List.sum_cons, List.sum_nil, va_rf_cat, ax_catI, ax_catL]; decide) dX0_waitNow_23 e (fun q4 e => ?_)
    refine ax_ivI (y := yX0_waitIn) (n := 1) (As := [va_rf q4.1]) B kd0 (lw_V q1446 q1448 qs31 q125 q1449) (by decide +kernel) ⟨Nat.le_of_ble_eq_true rfl, Nat.le_of_ble_eq_true rfl⟩ (fun w1 e1 => mt_X0_waitIn l G hSF x0 q4.1 _ w1 e1) rfl hl.size (by decide) dX0_waitNow_26 e (fun q5 e => ?_)
    have e8 := e
    have hp : Q = _ := hp
    subst hp
    exact ax_ireturn B Z dX0_waitNow_29 e8
theorem mt_X0_waitNow (l : Launch) (G : ax_G) (hSF : ax_SF G) (x0 : Option Nat) (h : ax_H) (w : Int × ax_H) (e : f_X0_waitNow G.2.2 x0 h = some w) : ax_Met l G yX0_waitNow cX0_waitNow 1 ((some FieldType.int)) 141 3591 [va_rf x0] h w.2 (some (.int (Int32.ofInt w.1))) :=
  ax_enter [.inr (.inr x0)] (y := yX0_waitNow) hSF (plainFor_of_name (by decide +kernel)) (Nat.le_of_ble_eq_true rfl) (fun X ls B Z hn hl => we_X0_waitNow hSF B Z hn x0 hl e rfl)
def dkwX0_await_0 : List UInt8 := [42, 42, 182, 1, 73, 182, 0, 94, 172]
abbrev dktX0_await_0 : List UInt8 := dkwX0_await_0 ++ []
theorem dksX0_await_0 : cX0_await.data.toList.drop 0 = dktX0_await_0 := by decide +kernel
theorem dX0_await_0 : decode cX0_await 0 = .ok (.aload_n 0, 1) := dk_42 (dk_at dksX0_await_0 0 rfl rfl)
theorem dX0_await_1 : decode cX0_await 1 = .ok (.aload_n 0, 1) := dk_42 (dk_at dksX0_await_0 1 rfl rfl)
theorem dX0_await_2 : decode cX0_await 2 = .ok (.invokevirtual 329, 3) := dk_182 1 73 (dk_at dksX0_await_0 2 rfl rfl)
theorem dX0_await_5 : decode cX0_await 5 = .ok (.invokevirtual 94, 3) := dk_182 0 94 (dk_at dksX0_await_0 5 rfl rfl)
theorem dX0_await_8 : decode cX0_await 8 = .ok (.ireturn, 1) := dk_172 (dk_at dksX0_await_0 8 rfl rfl)
noncomputable def f_X0_await (E : ax_E) (x0 : Option Nat) (h : ax_H) : Option (Int × ax_H) :=
  (ax_ce E h x0 0).bind fun _ => (f_X0_waitNow E x0 h).bind fun q1 =>
  (ax_ce E q1.2 x0 0).bind fun _ => (f_X0_tell E x0 q1.1 q1.2).bind fun q2 =>
  some (q2.1, q2.2)
set_option maxHeartbeats 4000000 in
theorem we_X0_await {l : Launch} {G : ax_G} {X : ax_X} {Q : State → Prop} {h0 h : ax_H} {ls : Array Slot} (hSF : ax_SF G) (B : ax_BL l G X cX0_await 1 RX0 142 3611) (Z : ax_Z X h0 ((some FieldType.int))) (hn : X.2.2.2.2.2.2.2.2.1.name = yX0_await.name) (x0 : Option Nat) {w : Int × ax_H} (hl : ax_hl ls 1 [(0, .inr (.inr x0))]) (e : f_X0_await G.2.2 x0 h = some w) (hp : (fun w : Int × ax_H => Q = ax_Q G X h0 w.2 (some (.int (Int32.ofInt w.1)))) w) : ax_W G X Q h 0 ls [] := by
  unfold f_X0_await at e
  refine ax_aload_n B dX0_await_0 rfl hl 0 rfl ?_
  refine ax_aload_n B dX0_await_1 rfl hl 0 rfl ?_
  refine ax_ivI (y := yX0_waitNow) (n := 0) (As := []) B kd0 (lw_V q1442 q1444 qs30 q125 q1445) (by decide +kernel) ⟨Nat.le_of_ble_eq_true rfl, Nat.le_of_ble_eq_true rfl⟩ (fun w1 e1 => mt_X0_waitNow l G hSF x0 _ w1 e1) rfl hl.size (by simp only [List.map_cons, List.map_nil, List.sum_cons, List.sum_nil, va_rf_cat, ax_catI, ax_catL]; decide) dX0_await_2 e (fun q1 e => ?_)
  refine ax_ivI (y := yX0_tell) (n := 1) (As := [.int (Int32.ofInt q1.1)]) B kd0 (lw_V q436 q438 qs1 q125 q439) (by decide +kernel) ⟨Nat.le_of_ble_eq_true rfl, Nat.le_of_ble_eq_true rfl⟩ (fun w1 e1 => mt_X0_tell l G hSF x0 q1.1 _ w1 e1) rfl hl.size (by decide) dX0_await_5 e (fun q2 e => ?_)
  have e8 := e
  have hp : Q = _ := hp
  subst hp
  exact ax_ireturn B Z dX0_await_8 e8
theorem mt_X0_await (l : Launch) (G : ax_G) (hSF : ax_SF G) (x0 : Option Nat) (h : ax_H) (w : Int × ax_H) (e : f_X0_await G.2.2 x0 h = some w) : ax_Met l G yX0_await cX0_await 1 ((some FieldType.int)) 142 3611 [va_rf x0] h w.2 (some (.int (Int32.ofInt w.1))) :=
  ax_enter [.inr (.inr x0)] (y := yX0_await) hSF (plainFor_of_name (by decide +kernel)) (Nat.le_of_ble_eq_true rfl) (fun X ls B Z hn hl => we_X0_await hSF B Z hn x0 hl e rfl)
def dkwJ2_isEmpty_0 : List UInt8 := [42, 180, 0, 48, 154, 0, 7, 4, 167, 0, 4, 3, 172]
abbrev dktJ2_isEmpty_0 : List UInt8 := dkwJ2_isEmpty_0 ++ []
theorem dksJ2_isEmpty_0 : cJ2_isEmpty.data.toList.drop 0 = dktJ2_isEmpty_0 := by decide +kernel
theorem dJ2_isEmpty_0 : decode cJ2_isEmpty 0 = .ok (.aload_n 0, 1) := dk_42 (dk_at dksJ2_isEmpty_0 0 rfl rfl)
theorem dJ2_isEmpty_1 : decode cJ2_isEmpty 1 = .ok (.getfield 48, 3) := dk_180 0 48 (dk_at dksJ2_isEmpty_0 1 rfl rfl)
theorem dJ2_isEmpty_4 : decode cJ2_isEmpty 4 = .ok (.ifCond .ne 7, 3) := dk_154 0 7 (dk_at dksJ2_isEmpty_0 4 rfl rfl)
theorem dJ2_isEmpty_7 : decode cJ2_isEmpty 7 = .ok (.iconst 1, 1) := dk_4 (dk_at dksJ2_isEmpty_0 7 rfl rfl)
theorem dJ2_isEmpty_8 : decode cJ2_isEmpty 8 = .ok (.goto 4, 3) := dk_167 0 4 (dk_at dksJ2_isEmpty_0 8 rfl rfl)
theorem dJ2_isEmpty_11 : decode cJ2_isEmpty 11 = .ok (.iconst 0, 1) := dk_3 (dk_at dksJ2_isEmpty_0 11 rfl rfl)
theorem dJ2_isEmpty_12 : decode cJ2_isEmpty 12 = .ok (.ireturn, 1) := dk_172 (dk_at dksJ2_isEmpty_0 12 rfl rfl)
noncomputable def f_J2_isEmpty (E : ax_E) (x0 : Option Nat) (h : ax_H) : Option (Int × ax_H) :=
  (ax_gI E h x0 42 2).bind fun v1 =>
  if i2 v1 = 0 then
    some (1, h)
  else
    some (0, h)
set_option maxHeartbeats 4000000 in
theorem we_J2_isEmpty {l : Launch} {G : ax_G} {X : ax_X} {Q : State → Prop} {h0 h : ax_H} {ls : Array Slot} (hSF : ax_SF G) (B : ax_BL l G X cJ2_isEmpty 1 RJ2 1 40) (Z : ax_Z X h0 ((some FieldType.boolean))) (hn : X.2.2.2.2.2.2.2.2.1.name = yJ2_isEmpty.name) (x0 : Option Nat) {w : Int × ax_H} (hl : ax_hl ls 1 [(0, .inr (.inr x0))]) (e : f_J2_isEmpty G.2.2 x0 h = some w) (hp : (fun w : Int × ax_H => Q = ax_Q G X h0 w.2 (some (.int (Int32.ofInt w.1)))) w) : ax_W G X Q h 0 ls [] := by
  unfold f_J2_isEmpty at e
  refine ax_aload_n B dJ2_isEmpty_0 rfl hl 0 rfl ?_
  refine ax_getI B ff_J2_48_42 (fun _ _ => rfl) dJ2_isEmpty_1 e (fun v1 e => ?_)
  refine ax_if_ne (tgt := 11) B dJ2_isEmpty_4 (by decide) e (fun e => ?_) (fun e => ?_)
  · refine ax_iconst B dJ2_isEmpty_7 ?_
    refine ax_goto (tgt := 12) B dJ2_isEmpty_8 (by decide) ?_
    have e8 := e
    have hp : Q = _ := hp
    subst hp
    exact ax_zreturnL (by decide) B Z dJ2_isEmpty_12 e8
  · refine ax_iconst B dJ2_isEmpty_11 ?_
    have e8 := e
    have hp : Q = _ := hp
    subst hp
    exact ax_zreturnL (by decide) B Z dJ2_isEmpty_12 e8
theorem mt_J2_isEmpty (l : Launch) (G : ax_G) (hSF : ax_SF G) (x0 : Option Nat) (h : ax_H) (w : Int × ax_H) (e : f_J2_isEmpty G.2.2 x0 h = some w) : ax_Met l G yJ2_isEmpty cJ2_isEmpty 1 ((some FieldType.boolean)) 1 40 [va_rf x0] h w.2 (some (.int (Int32.ofInt w.1))) :=
  ax_enter [.inr (.inr x0)] (y := yJ2_isEmpty) hSF (plainFor_of_name (by decide +kernel)) (Nat.le_of_ble_eq_true rfl) (fun X ls B Z hn hl => we_J2_isEmpty hSF B Z hn x0 hl e rfl)
def dkwX0_undo_2 : List UInt8 := [182, 1, 36, 87, 42, 43, 180, 1, 81, 182, 0, 94, 172]
abbrev dktX0_undo_2 : List UInt8 := dkwX0_undo_2 ++ []
def dkwX0_undo_1 : List UInt8 := [180, 0, 31, 182, 0, 218, 4, 100, 182, 1, 31, 192, 1, 34, 76, 42, 182, 0, 104, 43, 180, 1, 80]
abbrev dktX0_undo_1 : List UInt8 := dkwX0_undo_1 ++ dktX0_undo_2
def dkwX0_undo_0 : List UInt8 := [42, 180, 0, 31, 182, 1, 76, 153, 0, 10, 42, 16, 253, 182, 0, 94, 172, 42, 180, 0, 31, 42]
abbrev dktX0_undo_0 : List UInt8 := dkwX0_undo_0 ++ dktX0_undo_1
theorem dksX0_undo_0 : cX0_undo.data.toList.drop 0 = dktX0_undo_0 := by decide +kernel
theorem dksX0_undo_1 : cX0_undo.data.toList.drop 22 = dktX0_undo_1 := dk_seg dksX0_undo_0 22 rfl rfl
theorem dksX0_undo_2 : cX0_undo.data.toList.drop 45 = dktX0_undo_2 := dk_seg dksX0_undo_1 23 rfl rfl
theorem dX0_undo_0 : decode cX0_undo 0 = .ok (.aload_n 0, 1) := dk_42 (dk_at dksX0_undo_0 0 rfl rfl)
theorem dX0_undo_1 : decode cX0_undo 1 = .ok (.getfield 31, 3) := dk_180 0 31 (dk_at dksX0_undo_0 1 rfl rfl)
theorem dX0_undo_4 : decode cX0_undo 4 = .ok (.invokevirtual 332, 3) := dk_182 1 76 (dk_at dksX0_undo_0 4 rfl rfl)
theorem dX0_undo_7 : decode cX0_undo 7 = .ok (.ifCond .eq 10, 3) := dk_153 0 10 (dk_at dksX0_undo_0 7 rfl rfl)
theorem dX0_undo_10 : decode cX0_undo 10 = .ok (.aload_n 0, 1) := dk_42 (dk_at dksX0_undo_0 10 rfl rfl)
theorem dX0_undo_11 : decode cX0_undo 11 = .ok (.bipush (-3), 2) := dk_16 253 (dk_at dksX0_undo_0 11 rfl rfl)
theorem dX0_undo_13 : decode cX0_undo 13 = .ok (.invokevirtual 94, 3) := dk_182 0 94 (dk_at dksX0_undo_0 13 rfl rfl)
theorem dX0_undo_16 : decode cX0_undo 16 = .ok (.ireturn, 1) := dk_172 (dk_at dksX0_undo_0 16 rfl rfl)
theorem dX0_undo_17 : decode cX0_undo 17 = .ok (.aload_n 0, 1) := dk_42 (dk_at dksX0_undo_0 17 rfl rfl)
theorem dX0_undo_18 : decode cX0_undo 18 = .ok (.getfield 31, 3) := dk_180 0 31 (dk_at dksX0_undo_0 18 rfl rfl)
theorem dX0_undo_21 : decode cX0_undo 21 = .ok (.aload_n 0, 1) := dk_42 (dk_at dksX0_undo_0 21 rfl rfl)
theorem dX0_undo_22 : decode cX0_undo 22 = .ok (.getfield 31, 3) := dk_180 0 31 (dk_at dksX0_undo_1 0 rfl rfl)
theorem dX0_undo_25 : decode cX0_undo 25 = .ok (.invokevirtual 218, 3) := dk_182 0 218 (dk_at dksX0_undo_1 3 rfl rfl)
theorem dX0_undo_28 : decode cX0_undo 28 = .ok (.iconst 1, 1) := dk_4 (dk_at dksX0_undo_1 6 rfl rfl)
theorem dX0_undo_29 : decode cX0_undo 29 = .ok (.isub, 1) := dk_100 (dk_at dksX0_undo_1 7 rfl rfl)
theorem dX0_undo_30 : decode cX0_undo 30 = .ok (.invokevirtual 287, 3) := dk_182 1 31 (dk_at dksX0_undo_1 8 rfl rfl)
theorem dX0_undo_33 : decode cX0_undo 33 = .ok (.checkcast 290, 3) := dk_192 1 34 (dk_at dksX0_undo_1 11 rfl rfl)
theorem dX0_undo_36 : decode cX0_undo 36 = .ok (.astore_n 1, 1) := dk_76 (dk_at dksX0_undo_1 14 rfl rfl)
theorem dX0_undo_37 : decode cX0_undo 37 = .ok (.aload_n 0, 1) := dk_42 (dk_at dksX0_undo_1 15 rfl rfl)
theorem dX0_undo_38 : decode cX0_undo 38 = .ok (.invokevirtual 104, 3) := dk_182 0 104 (dk_at dksX0_undo_1 16 rfl rfl)
theorem dX0_undo_41 : decode cX0_undo 41 = .ok (.aload_n 1, 1) := dk_43 (dk_at dksX0_undo_1 19 rfl rfl)
theorem dX0_undo_42 : decode cX0_undo 42 = .ok (.getfield 336, 3) := dk_180 1 80 (dk_at dksX0_undo_1 20 rfl rfl)
theorem dX0_undo_45 : decode cX0_undo 45 = .ok (.invokevirtual 292, 3) := dk_182 1 36 (dk_at dksX0_undo_2 0 rfl rfl)
theorem dX0_undo_48 : decode cX0_undo 48 = .ok (.pop, 1) := dk_87 (dk_at dksX0_undo_2 3 rfl rfl)
theorem dX0_undo_49 : decode cX0_undo 49 = .ok (.aload_n 0, 1) := dk_42 (dk_at dksX0_undo_2 4 rfl rfl)
theorem dX0_undo_50 : decode cX0_undo 50 = .ok (.aload_n 1, 1) := dk_43 (dk_at dksX0_undo_2 5 rfl rfl)
theorem dX0_undo_51 : decode cX0_undo 51 = .ok (.getfield 337, 3) := dk_180 1 81 (dk_at dksX0_undo_2 6 rfl rfl)
theorem dX0_undo_54 : decode cX0_undo 54 = .ok (.invokevirtual 94, 3) := dk_182 0 94 (dk_at dksX0_undo_2 9 rfl rfl)
theorem dX0_undo_57 : decode cX0_undo 57 = .ok (.ireturn, 1) := dk_172 (dk_at dksX0_undo_2 12 rfl rfl)
noncomputable def f_X0_undo (E : ax_E) (x0 : Option Nat) (h : ax_H) : Option (Int × ax_H) :=
  (ax_gR E h x0 0 2).bind fun v1 =>
  (ax_ce E h v1 42).bind fun _ => (f_J2_isEmpty E v1 h).bind fun q2 =>
  if i2 q2.1 = 0 then
    (ax_gR E q2.2 x0 0 2).bind fun v3 =>
    (ax_gR E q2.2 x0 0 2).bind fun v4 =>
    (ax_ce E q2.2 v4 42).bind fun _ => (f_J2_size E v4 q2.2).bind fun q5 =>
    (ax_ce E q5.2 v3 42).bind fun _ => (f_J2_remove E v3 (q5.1 - 1) q5.2).bind fun q6 =>
    (ax_cc E q6.2 q6.1 26).bind fun _ =>
    (ax_ce E q6.2 x0 0).bind fun _ => (f_X0_books E x0 q6.2).bind fun q7 =>
    (ax_gR E q7.2 q6.1 26 1).bind fun v8 =>
    (ax_ce E q7.2 q7.1 2).bind fun _ => (f_X2_as E q7.1 v8 q7.2).bind fun q9 =>
    (ax_gI E q9.2 q6.1 26 0).bind fun v10 =>
    (ax_ce E q9.2 x0 0).bind fun _ => (f_X0_tell E x0 v10 q9.2).bind fun q11 =>
    some (q11.1, q11.2)
  else
    (ax_ce E q2.2 x0 0).bind fun _ => (f_X0_tell E x0 (-3) q2.2).bind fun q12 =>
    some (q12.1, q12.2)
set_option maxHeartbeats 4000000 in
theorem we_X0_undo {l : Launch} {G : ax_G} {X : ax_X} {Q : State → Prop} {h0 h : ax_H} {ls : Array Slot} (hSF : ax_SF G) (B : ax_BL l G X cX0_undo 2 RX0 4 106) (Z : ax_Z X h0 ((some FieldType.int))) (hn : X.2.2.2.2.2.2.2.2.1.name = yX0_undo.name) (x0 : Option Nat) {w : Int × ax_H} (hl : ax_hl ls 2 [(0, .inr (.inr x0))]) (e : f_X0_undo G.2.2 x0 h = some w) (hp : (fun w : Int × ax_H => Q = ax_Q G X h0 w.2 (some (.int (Int32.ofInt w.1)))) w) : ax_W G X Q h 0 ls [] := by
  unfold f_X0_undo at e
  refine ax_aload_n B dX0_undo_0 rfl hl 0 rfl ?_
  refine ax_getR B ff_X0_31_0 (fun _ _ => rfl) dX0_undo_1 e (fun v1 e => ?_)
  refine ax_ivI (y := yJ2_isEmpty) (n := 0) (As := []) B kd42 (lw_V q1454 q1455 q1456 q129 q1457) (by decide +kernel) ⟨Nat.le_of_ble_eq_true rfl, Nat.le_of_ble_eq_true rfl⟩ (fun w1 e1 => mt_J2_isEmpty l G hSF v1 _ w1 e1) rfl hl.size (by decide) dX0_undo_4 e (fun q2 e => ?_)
  refine ax_if_eq (tgt := 17) B dX0_undo_7 (by decide) e (fun e => ?_) (fun e => ?_)
  · refine ax_aload_n B dX0_undo_17 rfl hl 0 rfl ?_
    refine ax_getR B ff_X0_31_0 (fun _ _ => rfl) dX0_undo_18 e (fun v3 e => ?_)
    refine ax_aload_n B dX0_undo_21 rfl hl 0 rfl ?_
    refine ax_getR B ff_X0_31_0 (fun _ _ => rfl) dX0_undo_22 e (fun v4 e => ?_)
    refine ax_ivI (y := yJ2_size) (n := 0) (As := []) B kd42 (lw_V q709 q710 q711 q129 q712) (by decide +kernel) ⟨Nat.le_of_ble_eq_true rfl, Nat.le_of_ble_eq_true rfl⟩ (fun w1 e1 => mt_J2_size l G hSF v4 _ w1 e1) rfl hl.size (by simp only [List.map_cons, List.map_nil, List.sum_cons, List.sum_nil, va_rf_cat, ax_catI, ax_catL]; decide) dX0_undo_25 e (fun q5 e => ?_)
    refine ax_iconst B dX0_undo_28 ?_
    refine ax_isub' B dX0_undo_29 ?_
    refine ax_ivR (y := yJ2_remove) (n := 1) (As := [.int (Int32.ofInt (q5.1 - 1))]) B kd42 (lw_V q1366 q1367 q1368 q129 q1369) (by decide +kernel) ⟨Nat.le_of_ble_eq_true rfl, Nat.le_of_ble_eq_true rfl⟩ (fun w1 e1 => mt_J2_remove l G hSF v3 (q5.1 - 1) _ w1 e1) rfl hl.size (by decide) dX0_undo_30 e (fun q6 e => ?_)
    refine ax_ckc B kd26 q1375 dX0_undo_33 e (fun e => ?_)
    refine ax_astore_n (L' := [(1, .inr (.inr q6.1)), (0, .inr (.inr x0))]) B dX0_undo_36 rfl hl (by decide) rfl (fun ls hl => ?_)
    refine ax_aload_n B dX0_undo_37 rfl hl 1 rfl ?_
    refine ax_ivR (y := yX0_books) (n := 0) (As := []) B kd0 (lw_V q443 q445 qs2 q125 q446) (by decide +kernel) ⟨Nat.le_of_ble_eq_true rfl, Nat.le_of_ble_eq_true rfl⟩ (fun w1 e1 => mt_X0_books l G hSF x0 _ w1 e1) rfl hl.size (by decide) dX0_undo_38 e (fun q7 e => ?_)
    refine ax_aload_n B dX0_undo_41 rfl hl 0 rfl ?_
    refine ax_getR B ff_X0_336_26 (fun _ _ => rfl) dX0_undo_42 e (fun v8 e => ?_)
    refine ax_ivR (y := yX2_as) (n := 1) (As := [va_rf v8]) B kd2 (lw_V q1377 q1378 q1379 q130 q1380) (by decide +kernel) ⟨Nat.le_of_ble_eq_true rfl, Nat.le_of_ble_eq_true rfl⟩ (fun w1 e1 => mt_X2_as l G hSF q7.1 v8 _ w1 e1) rfl hl.size (by decide) dX0_undo_45 e (fun q9 e => ?_)
    refine ax_pop B dX0_undo_48 (va_rf_cat _) ?_
    refine ax_aload_n B dX0_undo_49 rfl hl 1 rfl ?_
    refine ax_aload_n B dX0_undo_50 rfl hl 0 rfl ?_
    refine ax_getI B ff_X0_337_26 (fun _ _ => rfl) dX0_undo_51 e (fun v10 e => ?_)
    refine ax_ivI (y := yX0_tell) (n := 1) (As := [.int (Int32.ofInt v10)]) B kd0 (lw_V q436 q438 qs1 q125 q439) (by decide +kernel) ⟨Nat.le_of_ble_eq_true rfl, Nat.le_of_ble_eq_true rfl⟩ (fun w1 e1 => mt_X0_tell l G hSF x0 v10 _ w1 e1) rfl hl.size (by decide) dX0_undo_54 e (fun q11 e => ?_)
    have e8 := e
    have hp : Q = _ := hp
    subst hp
    exact ax_ireturn B Z dX0_undo_57 e8
  · refine ax_aload_n B dX0_undo_10 rfl hl 0 rfl ?_
    refine ax_bipush B dX0_undo_11 (by decide) ?_
    refine ax_ivI (y := yX0_tell) (n := 1) (As := [.int (Int32.ofInt (-3))]) B kd0 (lw_V q436 q438 qs1 q125 q439) (by decide +kernel) ⟨Nat.le_of_ble_eq_true rfl, Nat.le_of_ble_eq_true rfl⟩ (fun w1 e1 => mt_X0_tell l G hSF x0 (-3) _ w1 e1) rfl hl.size (by decide) dX0_undo_13 e (fun q12 e => ?_)
    have e8 := e
    have hp : Q = _ := hp
    subst hp
    exact ax_ireturn B Z dX0_undo_16 e8
theorem mt_X0_undo (l : Launch) (G : ax_G) (hSF : ax_SF G) (x0 : Option Nat) (h : ax_H) (w : Int × ax_H) (e : f_X0_undo G.2.2 x0 h = some w) : ax_Met l G yX0_undo cX0_undo 2 ((some FieldType.int)) 4 106 [va_rf x0] h w.2 (some (.int (Int32.ofInt w.1))) :=
  ax_enter [.inr (.inr x0)] (y := yX0_undo) hSF (plainFor_of_name (by decide +kernel)) (Nat.le_of_ble_eq_true rfl) (fun X ls B Z hn hl => we_X0_undo hSF B Z hn x0 hl e rfl)
def dkwX0_needOf_2 : List UInt8 := [180, 0, 194, 182, 1, 17, 29, 161, 0, 6, 21, 6, 172, 132, 6, 1, 167, 255, 218, 2, 172]
abbrev dktX0_needOf_2 : List UInt8 := dkwX0_needOf_2 ++ []
def dkwX0_needOf_1 : List UInt8 := [54, 6, 21, 6, 17, 3, 231, 163, 0, 36, 42, 28, 27, 21, 4, 21, 6, 96, 21, 5, 42, 182, 0, 104]
abbrev dktX0_needOf_1 : List UInt8 := dkwX0_needOf_1 ++ dktX0_needOf_2
def dkwX0_needOf_0 : List UInt8 := [42, 182, 0, 104, 28, 27, 182, 0, 187, 54, 4, 42, 182, 0, 104, 27, 28, 182, 0, 187, 54, 5, 3]
abbrev dktX0_needOf_0 : List UInt8 := dkwX0_needOf_0 ++ dktX0_needOf_1
theorem dksX0_needOf_0 : cX0_needOf.data.toList.drop 0 = dktX0_needOf_0 := by decide +kernel
theorem dksX0_needOf_1 : cX0_needOf.data.toList.drop 23 = dktX0_needOf_1 := dk_seg dksX0_needOf_0 23 rfl rfl
theorem dksX0_needOf_2 : cX0_needOf.data.toList.drop 47 = dktX0_needOf_2 := dk_seg dksX0_needOf_1 24 rfl rfl
theorem dX0_needOf_0 : decode cX0_needOf 0 = .ok (.aload_n 0, 1) := dk_42 (dk_at dksX0_needOf_0 0 rfl rfl)
theorem dX0_needOf_1 : decode cX0_needOf 1 = .ok (.invokevirtual 104, 3) := dk_182 0 104 (dk_at dksX0_needOf_0 1 rfl rfl)
theorem dX0_needOf_4 : decode cX0_needOf 4 = .ok (.iload_n 2, 1) := dk_28 (dk_at dksX0_needOf_0 4 rfl rfl)
theorem dX0_needOf_5 : decode cX0_needOf 5 = .ok (.iload_n 1, 1) := dk_27 (dk_at dksX0_needOf_0 5 rfl rfl)
theorem dX0_needOf_6 : decode cX0_needOf 6 = .ok (.invokevirtual 187, 3) := dk_182 0 187 (dk_at dksX0_needOf_0 6 rfl rfl)
theorem dX0_needOf_9 : decode cX0_needOf 9 = .ok (.istore 4, 2) := dk_54 4 (dk_at dksX0_needOf_0 9 rfl rfl)
theorem dX0_needOf_11 : decode cX0_needOf 11 = .ok (.aload_n 0, 1) := dk_42 (dk_at dksX0_needOf_0 11 rfl rfl)
theorem dX0_needOf_12 : decode cX0_needOf 12 = .ok (.invokevirtual 104, 3) := dk_182 0 104 (dk_at dksX0_needOf_0 12 rfl rfl)
theorem dX0_needOf_15 : decode cX0_needOf 15 = .ok (.iload_n 1, 1) := dk_27 (dk_at dksX0_needOf_0 15 rfl rfl)
theorem dX0_needOf_16 : decode cX0_needOf 16 = .ok (.iload_n 2, 1) := dk_28 (dk_at dksX0_needOf_0 16 rfl rfl)
theorem dX0_needOf_17 : decode cX0_needOf 17 = .ok (.invokevirtual 187, 3) := dk_182 0 187 (dk_at dksX0_needOf_0 17 rfl rfl)
theorem dX0_needOf_20 : decode cX0_needOf 20 = .ok (.istore 5, 2) := dk_54 5 (dk_at dksX0_needOf_0 20 rfl rfl)
theorem dX0_needOf_22 : decode cX0_needOf 22 = .ok (.iconst 0, 1) := dk_3 (dk_at dksX0_needOf_0 22 rfl rfl)
theorem dX0_needOf_23 : decode cX0_needOf 23 = .ok (.istore 6, 2) := dk_54 6 (dk_at dksX0_needOf_1 0 rfl rfl)
theorem dX0_needOf_25 : decode cX0_needOf 25 = .ok (.iload 6, 2) := dk_21 6 (dk_at dksX0_needOf_1 2 rfl rfl)
theorem dX0_needOf_27 : decode cX0_needOf 27 = .ok (.sipush 999, 3) := dk_17 3 231 (dk_at dksX0_needOf_1 4 rfl rfl)
theorem dX0_needOf_30 : decode cX0_needOf 30 = .ok (.if_icmp .gt 36, 3) := dk_163 0 36 (dk_at dksX0_needOf_1 7 rfl rfl)
theorem dX0_needOf_33 : decode cX0_needOf 33 = .ok (.aload_n 0, 1) := dk_42 (dk_at dksX0_needOf_1 10 rfl rfl)
theorem dX0_needOf_34 : decode cX0_needOf 34 = .ok (.iload_n 2, 1) := dk_28 (dk_at dksX0_needOf_1 11 rfl rfl)
theorem dX0_needOf_35 : decode cX0_needOf 35 = .ok (.iload_n 1, 1) := dk_27 (dk_at dksX0_needOf_1 12 rfl rfl)
theorem dX0_needOf_36 : decode cX0_needOf 36 = .ok (.iload 4, 2) := dk_21 4 (dk_at dksX0_needOf_1 13 rfl rfl)
theorem dX0_needOf_38 : decode cX0_needOf 38 = .ok (.iload 6, 2) := dk_21 6 (dk_at dksX0_needOf_1 15 rfl rfl)
theorem dX0_needOf_40 : decode cX0_needOf 40 = .ok (.iadd, 1) := dk_96 (dk_at dksX0_needOf_1 17 rfl rfl)
theorem dX0_needOf_41 : decode cX0_needOf 41 = .ok (.iload 5, 2) := dk_21 5 (dk_at dksX0_needOf_1 18 rfl rfl)
theorem dX0_needOf_43 : decode cX0_needOf 43 = .ok (.aload_n 0, 1) := dk_42 (dk_at dksX0_needOf_1 20 rfl rfl)
theorem dX0_needOf_44 : decode cX0_needOf 44 = .ok (.invokevirtual 104, 3) := dk_182 0 104 (dk_at dksX0_needOf_1 21 rfl rfl)
theorem dX0_needOf_47 : decode cX0_needOf 47 = .ok (.getfield 194, 3) := dk_180 0 194 (dk_at dksX0_needOf_2 0 rfl rfl)
theorem dX0_needOf_50 : decode cX0_needOf 50 = .ok (.invokevirtual 273, 3) := dk_182 1 17 (dk_at dksX0_needOf_2 3 rfl rfl)
theorem dX0_needOf_53 : decode cX0_needOf 53 = .ok (.iload_n 3, 1) := dk_29 (dk_at dksX0_needOf_2 6 rfl rfl)
theorem dX0_needOf_54 : decode cX0_needOf 54 = .ok (.if_icmp .lt 6, 3) := dk_161 0 6 (dk_at dksX0_needOf_2 7 rfl rfl)
theorem dX0_needOf_57 : decode cX0_needOf 57 = .ok (.iload 6, 2) := dk_21 6 (dk_at dksX0_needOf_2 10 rfl rfl)
theorem dX0_needOf_59 : decode cX0_needOf 59 = .ok (.ireturn, 1) := dk_172 (dk_at dksX0_needOf_2 12 rfl rfl)
theorem dX0_needOf_60 : decode cX0_needOf 60 = .ok (.iinc 6 1, 3) := dk_132 6 1 (dk_at dksX0_needOf_2 13 rfl rfl)
theorem dX0_needOf_63 : decode cX0_needOf 63 = .ok (.goto (-38), 3) := dk_167 255 218 (dk_at dksX0_needOf_2 16 rfl rfl)
theorem dX0_needOf_66 : decode cX0_needOf 66 = .ok (.iconst (-1), 1) := dk_2 (dk_at dksX0_needOf_2 19 rfl rfl)
theorem dX0_needOf_67 : decode cX0_needOf 67 = .ok (.ireturn, 1) := dk_172 (dk_at dksX0_needOf_2 20 rfl rfl)
noncomputable def lb_X0_needOf_25 (E : ax_E) (x0 : Option Nat) (x1 : Int) (x2 : Int) (x3 : Int) (x4 : Int) (x5 : Int) (x6 : Int) (h : ax_H) : Option ((Int × ax_H) ⊕ (Int × ax_H)) :=
  if i2 999 < i2 x6 then
    (some ((-1), h)).map Sum.inr
  else
    (ax_ce E h x0 0).bind fun _ => (f_X0_books E x0 h).bind fun q1 =>
    (ax_gI E q1.2 q1.1 2 6).bind fun v2 =>
    (ax_ce E q1.2 x0 0).bind fun _ => (f_X0_deepBy E x0 x2 x1 (x4 + x6) x5 v2 q1.2).bind fun q3 =>
    if i2 q3.1 < i2 x3 then
      some (.inl ((x6 + 1), q3.2))
    else
      (some (x6, q3.2)).map Sum.inr
noncomputable def f_X0_needOf_25 (E : ax_E) (x0 : Option Nat) (x1 : Int) (x2 : Int) (x3 : Int) (x4 : Int) (x5 : Int) (x6 : Int) (h : ax_H) : Option (Int × ax_H) :=
  ax_iter (fun s : Int × ax_H => lb_X0_needOf_25 E x0 x1 x2 x3 x4 x5 s.1 s.2) (x6, h)
noncomputable def f_X0_needOf (E : ax_E) (x0 : Option Nat) (x1 : Int) (x2 : Int) (x3 : Int) (h : ax_H) : Option (Int × ax_H) :=
  (ax_ce E h x0 0).bind fun _ => (f_X0_books E x0 h).bind fun q1 =>
  (ax_ce E q1.2 q1.1 2).bind fun _ => (f_X2_owes E q1.1 x2 x1 q1.2).bind fun q2 =>
  (ax_ce E q2.2 x0 0).bind fun _ => (f_X0_books E x0 q2.2).bind fun q3 =>
  (ax_ce E q3.2 q3.1 2).bind fun _ => (f_X2_owes E q3.1 x1 x2 q3.2).bind fun q4 =>
  f_X0_needOf_25 E x0 x1 x2 x3 q2.1 q4.1 0 q4.2
def pi_X0_needOf_25 (G : ax_G) (X : ax_X) (Q : State → Prop) (x0 : Option Nat) (x1 : Int) (x2 : Int) (x3 : Int) (x4 : Int) (x5 : Int) : Int × ax_H → Prop := fun s => ∀ ls : Array Slot, ax_hl ls 7 [(0, .inr (.inr x0)), (1, .inl x1), (2, .inl x2), (3, .inl x3), (4, .inl x4), (5, .inl x5), (6, .inl s.1)] → ax_W G X Q s.2 25 ls []
set_option maxHeartbeats 4000000 in
theorem wb_X0_needOf_25 {l : Launch} {G : ax_G} {X : ax_X} {Q : State → Prop} {h0 h : ax_H} {ls : Array Slot} (hSF : ax_SF G) (B : ax_BL l G X cX0_needOf 7 RX0 139 3544) (Z : ax_Z X h0 ((some FieldType.int))) (hn : X.2.2.2.2.2.2.2.2.1.name = yX0_needOf.name) (x0 : Option Nat) (x1 : Int) (x2 : Int) (x3 : Int) (x4 : Int) (x5 : Int) (x6 : Int) {w : (Int × ax_H) ⊕ (Int × ax_H)} (hl : ax_hl ls 7 [(0, .inr (.inr x0)), (1, .inl x1), (2, .inl x2), (3, .inl x3), (4, .inl x4), (5, .inl x5), (6, .inl x6)]) (e : lb_X0_needOf_25 G.2.2 x0 x1 x2 x3 x4 x5 x6 h = some w) (hp : (ax_PL (pi_X0_needOf_25 G X Q x0 x1 x2 x3 x4 x5) (fun w : Int × ax_H => Q = ax_Q G X h0 w.2 (some (.int (Int32.ofInt w.1))))) w) : ax_W G X Q h 25 ls [] := by
  unfold lb_X0_needOf_25 at e
  refine ax_iload B dX0_needOf_25 hl 6 rfl ?_
  refine ax_sipush B dX0_needOf_27 (by decide) ?_
  refine ax_icmp_gt (tgt := 66) B dX0_needOf_30 (by decide) e (fun e => ?_) (fun e => ?_)
  · obtain ⟨w, e9_1, rfl⟩ := Option.map_eq_some_iff.mp e
    have e := e9_1
    refine ax_iconst B dX0_needOf_66 ?_
    have e8 := e
    have hp : Q = _ := hp
    subst hp
    exact ax_ireturn B Z dX0_needOf_67 e8
  · refine ax_aload_n B dX0_needOf_33 rfl hl 0 rfl ?_
    refine ax_iload_n B dX0_needOf_34 rfl hl 2 rfl ?_
    refine ax_iload_n B dX0_needOf_35 rfl hl 1 rfl ?_
    refine ax_iload B dX0_needOf_36 hl 4 rfl ?_
    refine ax_iload B dX0_needOf_38 hl 6 rfl ?_
    refine ax_iadd' B dX0_needOf_40 ?_
    refine ax_iload B dX0_needOf_41 hl 5 rfl ?_
    refine ax_aload_n B dX0_needOf_43 rfl hl 0 rfl ?_
    refine ax_ivR (y := yX0_books) (n := 0) (As := []) B kd0 (lw_V q443 q445 qs2 q125 q446) (by decide +kernel) ⟨Nat.le_of_ble_eq_true rfl, Nat.le_of_ble_eq_true rfl⟩ (fun w1 e1 => mt_X0_books l G hSF x0 _ w1 e1) rfl hl.size (by simp only [List.map_cons, List.map_nil, List.sum_cons, List.sum_nil, va_rf_cat, ax_catI, ax_catL]; decide) dX0_needOf_44 e (fun q1 e => ?_)
    refine ax_getI B ff_X0_194_2 (fun _ _ => rfl) dX0_needOf_47 e (fun v2 e => ?_)
    refine ax_ivI (y := yX0_deepBy) (n := 5) (As := [.int (Int32.ofInt x2), .int (Int32.ofInt x1), .int (Int32.ofInt (x4 + x6)), .int (Int32.ofInt x5), .int (Int32.ofInt v2)]) B kd0 (lw_V q1334 q1336 qs23 q125 q1337) (by decide +kernel) ⟨Nat.le_of_ble_eq_true rfl, Nat.le_of_ble_eq_true rfl⟩ (fun w1 e1 => mt_X0_deepBy l G hSF x0 x2 x1 (x4 + x6) x5 v2 _ w1 e1) rfl hl.size (by decide) dX0_needOf_50 e (fun q3 e => ?_)
    refine ax_iload_n B dX0_needOf_53 rfl hl 3 rfl ?_
    refine ax_icmp_lt (tgt := 60) B dX0_needOf_54 (by decide) e (fun e => ?_) (fun e => ?_)
    · refine ax_iinc (L' := [(6, .inl (x6 + 1)), (0, .inr (.inr x0)), (1, .inl x1), (2, .inl x2), (3, .inl x3), (4, .inl x4), (5, .inl x5)]) B dX0_needOf_60 hl 6 rfl (by decide) rfl (fun ls hl => ?_)
      refine ax_goto (tgt := 25) B dX0_needOf_63 (by decide) ?_
      cases e
      exact hp _ (hl.sub [1, 2, 3, 4, 5, 6, 0] rfl)
    · obtain ⟨w, e9_2, rfl⟩ := Option.map_eq_some_iff.mp e
      have e := e9_2
      refine ax_iload B dX0_needOf_57 hl 6 rfl ?_
      have e8 := e
      have hp : Q = _ := hp
      subst hp
      exact ax_ireturn B Z dX0_needOf_59 e8
theorem w_X0_needOf_25 {l : Launch} {G : ax_G} {X : ax_X} {Q : State → Prop} {h0 h : ax_H} {ls : Array Slot} (hSF : ax_SF G) (B : ax_BL l G X cX0_needOf 7 RX0 139 3544) (Z : ax_Z X h0 ((some FieldType.int))) (hn : X.2.2.2.2.2.2.2.2.1.name = yX0_needOf.name) (x0 : Option Nat) (x1 : Int) (x2 : Int) (x3 : Int) (x4 : Int) (x5 : Int) (x6 : Int) {w : Int × ax_H} (hl : ax_hl ls 7 [(0, .inr (.inr x0)), (1, .inl x1), (2, .inl x2), (3, .inl x3), (4, .inl x4), (5, .inl x5), (6, .inl x6)]) (e : f_X0_needOf_25 G.2.2 x0 x1 x2 x3 x4 x5 x6 h = some w) (hp : (fun w : Int × ax_H => Q = ax_Q G X h0 w.2 (some (.int (Int32.ofInt w.1)))) w) : ax_W G X Q h 25 ls [] :=
  ax_iter_W (Pin := pi_X0_needOf_25 G X Q x0 x1 x2 x3 x4 x5) (Pout := (fun w : Int × ax_H => Q = ax_Q G X h0 w.2 (some (.int (Int32.ofInt w.1))))) (fun s w e hp ls hl => wb_X0_needOf_25 hSF B Z hn x0 x1 x2 x3 x4 x5 s.1 hl e hp) _ _ e hp ls hl
set_option maxHeartbeats 4000000 in
theorem we_X0_needOf {l : Launch} {G : ax_G} {X : ax_X} {Q : State → Prop} {h0 h : ax_H} {ls : Array Slot} (hSF : ax_SF G) (B : ax_BL l G X cX0_needOf 7 RX0 139 3544) (Z : ax_Z X h0 ((some FieldType.int))) (hn : X.2.2.2.2.2.2.2.2.1.name = yX0_needOf.name) (x0 : Option Nat) (x1 : Int) (x2 : Int) (x3 : Int) {w : Int × ax_H} (hl : ax_hl ls 7 [(0, .inr (.inr x0)), (1, .inl x1), (2, .inl x2), (3, .inl x3)]) (e : f_X0_needOf G.2.2 x0 x1 x2 x3 h = some w) (hp : (fun w : Int × ax_H => Q = ax_Q G X h0 w.2 (some (.int (Int32.ofInt w.1)))) w) : ax_W G X Q h 0 ls [] := by
  unfold f_X0_needOf at e
  refine ax_aload_n B dX0_needOf_0 rfl hl 0 rfl ?_
  refine ax_ivR (y := yX0_books) (n := 0) (As := []) B kd0 (lw_V q443 q445 qs2 q125 q446) (by decide +kernel) ⟨Nat.le_of_ble_eq_true rfl, Nat.le_of_ble_eq_true rfl⟩ (fun w1 e1 => mt_X0_books l G hSF x0 _ w1 e1) rfl hl.size (by decide) dX0_needOf_1 e (fun q1 e => ?_)
  refine ax_iload_n B dX0_needOf_4 rfl hl 2 rfl ?_
  refine ax_iload_n B dX0_needOf_5 rfl hl 1 rfl ?_
  refine ax_ivI (y := yX2_owes) (n := 2) (As := [.int (Int32.ofInt x2), .int (Int32.ofInt x1)]) B kd2 (lw_V q507 q508 q509 q130 q510) (by decide +kernel) ⟨Nat.le_of_ble_eq_true rfl, Nat.le_of_ble_eq_true rfl⟩ (fun w1 e1 => mt_X2_owes l G hSF q1.1 x2 x1 _ w1 e1) rfl hl.size (by decide) dX0_needOf_6 e (fun q2 e => ?_)
  refine ax_istore (L' := [(4, .inl q2.1), (0, .inr (.inr x0)), (1, .inl x1), (2, .inl x2), (3, .inl x3)]) B dX0_needOf_9 hl (by decide) rfl (fun ls hl => ?_)
  refine ax_aload_n B dX0_needOf_11 rfl hl 1 rfl ?_
  refine ax_ivR (y := yX0_books) (n := 0) (As := []) B kd0 (lw_V q443 q445 qs2 q125 q446) (by decide +kernel) ⟨Nat.le_of_ble_eq_true rfl, Nat.le_of_ble_eq_true rfl⟩ (fun w1 e1 => mt_X0_books l G hSF x0 _ w1 e1) rfl hl.size (by decide) dX0_needOf_12 e (fun q3 e => ?_)
  refine ax_iload_n B dX0_needOf_15 rfl hl 2 rfl ?_
  refine ax_iload_n B dX0_needOf_16 rfl hl 3 rfl ?_
  refine ax_ivI (y := yX2_owes) (n := 2) (As := [.int (Int32.ofInt x1), .int (Int32.ofInt x2)]) B kd2 (lw_V q507 q508 q509 q130 q510) (by decide +kernel) ⟨Nat.le_of_ble_eq_true rfl, Nat.le_of_ble_eq_true rfl⟩ (fun w1 e1 => mt_X2_owes l G hSF q3.1 x1 x2 _ w1 e1) rfl hl.size (by decide) dX0_needOf_17 e (fun q4 e => ?_)
  refine ax_istore (L' := [(5, .inl q4.1), (4, .inl q2.1), (0, .inr (.inr x0)), (1, .inl x1), (2, .inl x2), (3, .inl x3)]) B dX0_needOf_20 hl (by decide) rfl (fun ls hl => ?_)
  refine ax_iconst B dX0_needOf_22 ?_
  refine ax_istore (L' := [(6, .inl 0), (5, .inl q4.1), (4, .inl q2.1), (0, .inr (.inr x0)), (1, .inl x1), (2, .inl x2), (3, .inl x3)]) B dX0_needOf_23 hl (by decide) rfl (fun ls hl => ?_)
  exact w_X0_needOf_25 hSF B Z hn x0 x1 x2 x3 q2.1 q4.1 0 (hl.sub [3, 4, 5, 6, 2, 1, 0] rfl) e hp
theorem mt_X0_needOf (l : Launch) (G : ax_G) (hSF : ax_SF G) (x0 : Option Nat) (x1 : Int) (x2 : Int) (x3 : Int) (h : ax_H) (w : Int × ax_H) (e : f_X0_needOf G.2.2 x0 x1 x2 x3 h = some w) : ax_Met l G yX0_needOf cX0_needOf 7 ((some FieldType.int)) 139 3544 [va_rf x0, .int (Int32.ofInt x1), .int (Int32.ofInt x2), .int (Int32.ofInt x3)] h w.2 (some (.int (Int32.ofInt w.1))) :=
  ax_enter [.inr (.inr x0), .inl x1, .inl x2, .inl x3] (y := yX0_needOf) hSF (plainFor_of_name (by decide +kernel)) (Nat.le_of_ble_eq_true rfl) (fun X ls B Z hn hl => we_X0_needOf hSF B Z hn x0 x1 x2 x3 hl e rfl)
def dkwX0_need_1 : List UInt8 := [167, 0, 4, 2, 172]
abbrev dktX0_need_1 : List UInt8 := dkwX0_need_1 ++ []
def dkwX0_need_0 : List UInt8 := [42, 27, 28, 182, 0, 184, 153, 0, 20, 29, 184, 0, 121, 153, 0, 13, 42, 27, 28, 29, 182, 1, 84]
abbrev dktX0_need_0 : List UInt8 := dkwX0_need_0 ++ dktX0_need_1
theorem dksX0_need_0 : cX0_need.data.toList.drop 0 = dktX0_need_0 := by decide +kernel
theorem dksX0_need_1 : cX0_need.data.toList.drop 23 = dktX0_need_1 := dk_seg dksX0_need_0 23 rfl rfl
theorem dX0_need_0 : decode cX0_need 0 = .ok (.aload_n 0, 1) := dk_42 (dk_at dksX0_need_0 0 rfl rfl)
theorem dX0_need_1 : decode cX0_need 1 = .ok (.iload_n 1, 1) := dk_27 (dk_at dksX0_need_0 1 rfl rfl)
theorem dX0_need_2 : decode cX0_need 2 = .ok (.iload_n 2, 1) := dk_28 (dk_at dksX0_need_0 2 rfl rfl)
theorem dX0_need_3 : decode cX0_need 3 = .ok (.invokevirtual 184, 3) := dk_182 0 184 (dk_at dksX0_need_0 3 rfl rfl)
theorem dX0_need_6 : decode cX0_need 6 = .ok (.ifCond .eq 20, 3) := dk_153 0 20 (dk_at dksX0_need_0 6 rfl rfl)
theorem dX0_need_9 : decode cX0_need 9 = .ok (.iload_n 3, 1) := dk_29 (dk_at dksX0_need_0 9 rfl rfl)
theorem dX0_need_10 : decode cX0_need 10 = .ok (.invokestatic 121, 3) := dk_184 0 121 (dk_at dksX0_need_0 10 rfl rfl)
theorem dX0_need_13 : decode cX0_need 13 = .ok (.ifCond .eq 13, 3) := dk_153 0 13 (dk_at dksX0_need_0 13 rfl rfl)
theorem dX0_need_16 : decode cX0_need 16 = .ok (.aload_n 0, 1) := dk_42 (dk_at dksX0_need_0 16 rfl rfl)
theorem dX0_need_17 : decode cX0_need 17 = .ok (.iload_n 1, 1) := dk_27 (dk_at dksX0_need_0 17 rfl rfl)
theorem dX0_need_18 : decode cX0_need 18 = .ok (.iload_n 2, 1) := dk_28 (dk_at dksX0_need_0 18 rfl rfl)
theorem dX0_need_19 : decode cX0_need 19 = .ok (.iload_n 3, 1) := dk_29 (dk_at dksX0_need_0 19 rfl rfl)
theorem dX0_need_20 : decode cX0_need 20 = .ok (.invokevirtual 340, 3) := dk_182 1 84 (dk_at dksX0_need_0 20 rfl rfl)
theorem dX0_need_23 : decode cX0_need 23 = .ok (.goto 4, 3) := dk_167 0 4 (dk_at dksX0_need_1 0 rfl rfl)
theorem dX0_need_26 : decode cX0_need 26 = .ok (.iconst (-1), 1) := dk_2 (dk_at dksX0_need_1 3 rfl rfl)
theorem dX0_need_27 : decode cX0_need 27 = .ok (.ireturn, 1) := dk_172 (dk_at dksX0_need_1 4 rfl rfl)
noncomputable def f_X0_need_26 (E : ax_E) (h : ax_H) : Option (Int × ax_H) :=
  some ((-1), h)
noncomputable def f_X0_need (E : ax_E) (x0 : Option Nat) (x1 : Int) (x2 : Int) (x3 : Int) (h : ax_H) : Option (Int × ax_H) :=
  (ax_ce E h x0 0).bind fun _ => (f_X0_areTwo E x0 x1 x2 h).bind fun q1 =>
  if i2 q1.1 = 0 then
    f_X0_need_26 E q1.2
  else
    (f_X0_isRoom E x3 q1.2).bind fun q2 =>
    if i2 q2.1 = 0 then
      f_X0_need_26 E q2.2
    else
      (ax_ce E q2.2 x0 0).bind fun _ => (f_X0_needOf E x0 x1 x2 x3 q2.2).bind fun q3 =>
      some (q3.1, q3.2)
set_option maxHeartbeats 4000000 in
theorem w_X0_need_26 {l : Launch} {G : ax_G} {X : ax_X} {Q : State → Prop} {h0 h : ax_H} {ls : Array Slot} (hSF : ax_SF G) (B : ax_BL l G X cX0_need 4 RX0 140 3570) (Z : ax_Z X h0 ((some FieldType.int))) (hn : X.2.2.2.2.2.2.2.2.1.name = yX0_need.name) {w : Int × ax_H} (hl : ax_hl ls 4 []) (e : f_X0_need_26 G.2.2 h = some w) (hp : (fun w : Int × ax_H => Q = ax_Q G X h0 w.2 (some (.int (Int32.ofInt w.1)))) w) : ax_W G X Q h 26 ls [] := by
  unfold f_X0_need_26 at e
  refine ax_iconst B dX0_need_26 ?_
  have e8 := e
  have hp : Q = _ := hp
  subst hp
  exact ax_ireturn B Z dX0_need_27 e8
set_option maxHeartbeats 4000000 in
theorem we_X0_need {l : Launch} {G : ax_G} {X : ax_X} {Q : State → Prop} {h0 h : ax_H} {ls : Array Slot} (hSF : ax_SF G) (B : ax_BL l G X cX0_need 4 RX0 140 3570) (Z : ax_Z X h0 ((some FieldType.int))) (hn : X.2.2.2.2.2.2.2.2.1.name = yX0_need.name) (x0 : Option Nat) (x1 : Int) (x2 : Int) (x3 : Int) {w : Int × ax_H} (hl : ax_hl ls 4 [(0, .inr (.inr x0)), (1, .inl x1), (2, .inl x2), (3, .inl x3)]) (e : f_X0_need G.2.2 x0 x1 x2 x3 h = some w) (hp : (fun w : Int × ax_H => Q = ax_Q G X h0 w.2 (some (.int (Int32.ofInt w.1)))) w) : ax_W G X Q h 0 ls [] := by
  unfold f_X0_need at e
  refine ax_aload_n B dX0_need_0 rfl hl 0 rfl ?_
  refine ax_iload_n B dX0_need_1 rfl hl 1 rfl ?_
  refine ax_iload_n B dX0_need_2 rfl hl 2 rfl ?_
  refine ax_ivI (y := yX0_areTwo) (n := 2) (As := [.int (Int32.ofInt x1), .int (Int32.ofInt x2)]) B kd0 (lw_V q609 q566 qs13 q125 q567) (by decide +kernel) ⟨Nat.le_of_ble_eq_true rfl, Nat.le_of_ble_eq_true rfl⟩ (fun w1 e1 => mt_X0_areTwo l G hSF x0 x1 x2 _ w1 e1) rfl hl.size (by decide) dX0_need_3 e (fun q1 e => ?_)
  refine ax_if_eq (tgt := 26) B dX0_need_6 (by decide) e (fun e => ?_) (fun e => ?_)
  · exact w_X0_need_26 hSF B Z hn (hl.sub [] rfl) e hp
  · refine ax_iload_n B dX0_need_9 rfl hl 3 rfl ?_
    refine ax_isI (y := yX0_isRoom) (n := 1) (As := [.int (Int32.ofInt x3)]) B (lw_S q431 q432 q125 q433) (by decide +kernel) ⟨Nat.le_of_ble_eq_true rfl, Nat.le_of_ble_eq_true rfl⟩ (fun w1 e1 => mt_X0_isRoom l G hSF x3 _ w1 e1) rfl hl.size (by decide) dX0_need_10 e (fun q2 e => ?_)
    refine ax_if_eq (tgt := 26) B dX0_need_13 (by decide) e (fun e => ?_) (fun e => ?_)
    · exact w_X0_need_26 hSF B Z hn (hl.sub [] rfl) e hp
    · refine ax_aload_n B dX0_need_16 rfl hl 0 rfl ?_
      refine ax_iload_n B dX0_need_17 rfl hl 1 rfl ?_
      refine ax_iload_n B dX0_need_18 rfl hl 2 rfl ?_
      refine ax_iload_n B dX0_need_19 rfl hl 3 rfl ?_
      refine ax_ivI (y := yX0_needOf) (n := 3) (As := [.int (Int32.ofInt x1), .int (Int32.ofInt x2), .int (Int32.ofInt x3)]) B kd0 (lw_V q1462 q1464 qs32 q125 q1465) (by decide +kernel) ⟨Nat.le_of_ble_eq_true rfl, Nat.le_of_ble_eq_true rfl⟩ (fun w1 e1 => mt_X0_needOf l G hSF x0 x1 x2 x3 _ w1 e1) rfl hl.size (by decide) dX0_need_20 e (fun q3 e => ?_)
      refine ax_goto (tgt := 27) B dX0_need_23 (by decide) ?_
      have e8 := e
      have hp : Q = _ := hp
      subst hp
      exact ax_ireturn B Z dX0_need_27 e8
theorem mt_X0_need (l : Launch) (G : ax_G) (hSF : ax_SF G) (x0 : Option Nat) (x1 : Int) (x2 : Int) (x3 : Int) (h : ax_H) (w : Int × ax_H) (e : f_X0_need G.2.2 x0 x1 x2 x3 h = some w) : ax_Met l G yX0_need cX0_need 4 ((some FieldType.int)) 140 3570 [va_rf x0, .int (Int32.ofInt x1), .int (Int32.ofInt x2), .int (Int32.ofInt x3)] h w.2 (some (.int (Int32.ofInt w.1))) :=
  ax_enter [.inr (.inr x0), .inl x1, .inl x2, .inl x3] (y := yX0_need) hSF (plainFor_of_name (by decide +kernel)) (Nat.le_of_ble_eq_true rfl) (fun X ls B Z hn hl => we_X0_need hSF B Z hn x0 x1 x2 x3 hl e rfl)
def dkwX28_init_1 : List UInt8 := [181, 0, 19, 177]
abbrev dktX28_init_1 : List UInt8 := dkwX28_init_1 ++ []
def dkwX28_init_0 : List UInt8 := [42, 183, 0, 1, 42, 27, 181, 0, 7, 42, 28, 181, 0, 13, 42, 29, 181, 0, 16, 42, 21, 4]
abbrev dktX28_init_0 : List UInt8 := dkwX28_init_0 ++ dktX28_init_1
theorem dksX28_init_0 : cX28_init.data.toList.drop 0 = dktX28_init_0 := by decide +kernel
theorem dksX28_init_1 : cX28_init.data.toList.drop 22 = dktX28_init_1 := dk_seg dksX28_init_0 22 rfl rfl
theorem dX28_init_0 : decode cX28_init 0 = .ok (.aload_n 0, 1) := dk_42 (dk_at dksX28_init_0 0 rfl rfl)
theorem dX28_init_1 : decode cX28_init 1 = .ok (.invokespecial 1, 3) := dk_183 0 1 (dk_at dksX28_init_0 1 rfl rfl)
theorem dX28_init_4 : decode cX28_init 4 = .ok (.aload_n 0, 1) := dk_42 (dk_at dksX28_init_0 4 rfl rfl)
theorem dX28_init_5 : decode cX28_init 5 = .ok (.iload_n 1, 1) := dk_27 (dk_at dksX28_init_0 5 rfl rfl)
theorem dX28_init_6 : decode cX28_init 6 = .ok (.putfield 7, 3) := dk_181 0 7 (dk_at dksX28_init_0 6 rfl rfl)
theorem dX28_init_9 : decode cX28_init 9 = .ok (.aload_n 0, 1) := dk_42 (dk_at dksX28_init_0 9 rfl rfl)
theorem dX28_init_10 : decode cX28_init 10 = .ok (.iload_n 2, 1) := dk_28 (dk_at dksX28_init_0 10 rfl rfl)
theorem dX28_init_11 : decode cX28_init 11 = .ok (.putfield 13, 3) := dk_181 0 13 (dk_at dksX28_init_0 11 rfl rfl)
theorem dX28_init_14 : decode cX28_init 14 = .ok (.aload_n 0, 1) := dk_42 (dk_at dksX28_init_0 14 rfl rfl)
theorem dX28_init_15 : decode cX28_init 15 = .ok (.iload_n 3, 1) := dk_29 (dk_at dksX28_init_0 15 rfl rfl)
theorem dX28_init_16 : decode cX28_init 16 = .ok (.putfield 16, 3) := dk_181 0 16 (dk_at dksX28_init_0 16 rfl rfl)
theorem dX28_init_19 : decode cX28_init 19 = .ok (.aload_n 0, 1) := dk_42 (dk_at dksX28_init_0 19 rfl rfl)
theorem dX28_init_20 : decode cX28_init 20 = .ok (.iload 4, 2) := dk_21 4 (dk_at dksX28_init_0 20 rfl rfl)
theorem dX28_init_22 : decode cX28_init 22 = .ok (.putfield 19, 3) := dk_181 0 19 (dk_at dksX28_init_1 0 rfl rfl)
theorem dX28_init_25 : decode cX28_init 25 = .ok (.return_, 1) := dk_177 (dk_at dksX28_init_1 3 rfl rfl)
noncomputable def f_X28_init (E : ax_E) (x0 : Option Nat) (x1 : Int) (x2 : Int) (x3 : Int) (x4 : Int) (h : ax_H) : Option (ax_H) :=
  x0.bind fun _ =>
  (ax_pI h x0 28 0 x1).bind fun h1 =>
  (ax_pI h1 x0 28 1 x2).bind fun h2 =>
  (ax_pI h2 x0 28 2 x3).bind fun h3 =>
  (ax_pI h3 x0 28 3 x4).bind fun h4 =>
  some h4
set_option maxHeartbeats 4000000 in
theorem we_X28_init {l : Launch} {G : ax_G} {X : ax_X} {Q : State → Prop} {h0 h : ax_H} {ls : Array Slot} (hSF : ax_SF G) (B : ax_BL l G X cX28_init 5 RX28 1 40) (Z : ax_Z X h0 none) (hn : X.2.2.2.2.2.2.2.2.1.name = yX28_init.name) (x0 : Option Nat) (x1 : Int) (x2 : Int) (x3 : Int) (x4 : Int) {w : ax_H} (hl : ax_hl ls 5 [(0, .inr (.inr x0)), (1, .inl x1), (2, .inl x2), (3, .inl x3), (4, .inl x4)]) (e : f_X28_init G.2.2 x0 x1 x2 x3 x4 h = some w) (hp : (fun w : ax_H => Q = ax_Q G X h0 w none) w) : ax_W G X Q h 0 ls [] := by
  unfold f_X28_init at e
  refine ax_aload_n B dX28_init_0 rfl hl 0 rfl ?_
  refine ax_oiR B q1475 q183 q184 hl.size (by decide) (by decide) dX28_init_1 e (fun e => ?_)
  refine ax_aload_n B dX28_init_4 rfl hl 0 rfl ?_
  refine ax_iload_n B dX28_init_5 rfl hl 1 rfl ?_
  refine ax_putI B ff_X28_7_28 (Or.inr ⟨rfl, rfl, hn⟩) rfl dX28_init_6 e (fun h1 e => ?_)
  refine ax_aload_n B dX28_init_9 rfl hl 0 rfl ?_
  refine ax_iload_n B dX28_init_10 rfl hl 2 rfl ?_
  refine ax_putI B ff_X28_13_28 (Or.inr ⟨rfl, rfl, hn⟩) rfl dX28_init_11 e (fun h2 e => ?_)
  refine ax_aload_n B dX28_init_14 rfl hl 0 rfl ?_
  refine ax_iload_n B dX28_init_15 rfl hl 3 rfl ?_
  refine ax_putI B ff_X28_16_28 (Or.inr ⟨rfl, rfl, hn⟩) rfl dX28_init_16 e (fun h3 e => ?_)
  refine ax_aload_n B dX28_init_19 rfl hl 0 rfl ?_
  refine ax_iload B dX28_init_20 hl 4 rfl ?_
  refine ax_putI B ff_X28_19_28 (Or.inr ⟨rfl, rfl, hn⟩) rfl dX28_init_22 e (fun h4 e => ?_)
  have e8 := e
  have hp : Q = _ := hp
  subst hp
  exact ax_return B Z dX28_init_25 e8
theorem mt_X28_init (l : Launch) (G : ax_G) (hSF : ax_SF G) (x0 : Option Nat) (x1 : Int) (x2 : Int) (x3 : Int) (x4 : Int) (h : ax_H) (w : ax_H) (e : f_X28_init G.2.2 x0 x1 x2 x3 x4 h = some w) : ax_Met l G yX28_init cX28_init 5 none 1 40 [va_rf x0, .int (Int32.ofInt x1), .int (Int32.ofInt x2), .int (Int32.ofInt x3), .int (Int32.ofInt x4)] h w none :=
  ax_enter [.inr (.inr x0), .inl x1, .inl x2, .inl x3, .inl x4] (y := yX28_init) hSF (plainFor_of_name (by decide +kernel)) (Nat.le_of_ble_eq_true rfl) (fun X ls B Z hn hl => we_X28_init hSF B Z hn x0 x1 x2 x3 x4 hl e rfl)
def dkwX0_visit_4 : List UInt8 := [21, 4, 183, 1, 92, 182, 0, 231, 87, 42, 42, 180, 0, 20, 180, 1, 87, 182, 0, 218, 182, 0, 94, 172]
abbrev dktX0_visit_4 : List UInt8 := dkwX0_visit_4 ++ []
def dkwX0_visit_3 : List UInt8 := [160, 0, 10, 42, 16, 251, 182, 0, 94, 172, 42, 180, 0, 20, 180, 1, 87, 187, 1, 90, 89, 27, 28, 29]
abbrev dktX0_visit_3 : List UInt8 := dkwX0_visit_3 ++ dktX0_visit_4
def dkwX0_visit_2 : List UInt8 := [154, 0, 10, 42, 16, 254, 182, 0, 94, 172, 42, 180, 0, 20, 180, 1, 87, 182, 0, 218, 16, 8]
abbrev dktX0_visit_2 : List UInt8 := dkwX0_visit_2 ++ dktX0_visit_3
def dkwX0_visit_1 : List UInt8 := [160, 0, 9, 42, 2, 182, 0, 94, 172, 42, 27, 182, 0, 110, 153, 0, 11, 42, 28, 182, 0, 110]
abbrev dktX0_visit_1 : List UInt8 := dkwX0_visit_1 ++ dktX0_visit_2
def dkwX0_visit_0 : List UInt8 := [29, 184, 0, 121, 153, 0, 21, 21, 4, 133, 9, 20, 0, 190, 184, 0, 5, 153, 0, 8, 27, 28]
abbrev dktX0_visit_0 : List UInt8 := dkwX0_visit_0 ++ dktX0_visit_1
theorem dksX0_visit_0 : cX0_visit.data.toList.drop 0 = dktX0_visit_0 := by decide +kernel
theorem dksX0_visit_1 : cX0_visit.data.toList.drop 22 = dktX0_visit_1 := dk_seg dksX0_visit_0 22 rfl rfl
theorem dksX0_visit_2 : cX0_visit.data.toList.drop 44 = dktX0_visit_2 := dk_seg dksX0_visit_1 22 rfl rfl
theorem dksX0_visit_3 : cX0_visit.data.toList.drop 66 = dktX0_visit_3 := dk_seg dksX0_visit_2 22 rfl rfl
theorem dksX0_visit_4 : cX0_visit.data.toList.drop 90 = dktX0_visit_4 := dk_seg dksX0_visit_3 24 rfl rfl
theorem dX0_visit_0 : decode cX0_visit 0 = .ok (.iload_n 3, 1) := dk_29 (dk_at dksX0_visit_0 0 rfl rfl)
theorem dX0_visit_1 : decode cX0_visit 1 = .ok (.invokestatic 121, 3) := dk_184 0 121 (dk_at dksX0_visit_0 1 rfl rfl)
theorem dX0_visit_4 : decode cX0_visit 4 = .ok (.ifCond .eq 21, 3) := dk_153 0 21 (dk_at dksX0_visit_0 4 rfl rfl)
theorem dX0_visit_7 : decode cX0_visit 7 = .ok (.iload 4, 2) := dk_21 4 (dk_at dksX0_visit_0 7 rfl rfl)
theorem dX0_visit_9 : decode cX0_visit 9 = .ok (.i2l, 1) := dk_133 (dk_at dksX0_visit_0 9 rfl rfl)
theorem dX0_visit_10 : decode cX0_visit 10 = .ok (.lconst 0, 1) := dk_9 (dk_at dksX0_visit_0 10 rfl rfl)
theorem dX0_visit_11 : decode cX0_visit 11 = .ok (.ldc2_w 190, 3) := dk_20 0 190 (dk_at dksX0_visit_0 11 rfl rfl)
theorem dX0_visit_14 : decode cX0_visit 14 = .ok (.invokestatic 5, 3) := dk_184 0 5 (dk_at dksX0_visit_0 14 rfl rfl)
theorem dX0_visit_17 : decode cX0_visit 17 = .ok (.ifCond .eq 8, 3) := dk_153 0 8 (dk_at dksX0_visit_0 17 rfl rfl)
theorem dX0_visit_20 : decode cX0_visit 20 = .ok (.iload_n 1, 1) := dk_27 (dk_at dksX0_visit_0 20 rfl rfl)
theorem dX0_visit_21 : decode cX0_visit 21 = .ok (.iload_n 2, 1) := dk_28 (dk_at dksX0_visit_0 21 rfl rfl)
theorem dX0_visit_22 : decode cX0_visit 22 = .ok (.if_icmp .ne 9, 3) := dk_160 0 9 (dk_at dksX0_visit_1 0 rfl rfl)
theorem dX0_visit_25 : decode cX0_visit 25 = .ok (.aload_n 0, 1) := dk_42 (dk_at dksX0_visit_1 3 rfl rfl)
theorem dX0_visit_26 : decode cX0_visit 26 = .ok (.iconst (-1), 1) := dk_2 (dk_at dksX0_visit_1 4 rfl rfl)
theorem dX0_visit_27 : decode cX0_visit 27 = .ok (.invokevirtual 94, 3) := dk_182 0 94 (dk_at dksX0_visit_1 5 rfl rfl)
theorem dX0_visit_30 : decode cX0_visit 30 = .ok (.ireturn, 1) := dk_172 (dk_at dksX0_visit_1 8 rfl rfl)
theorem dX0_visit_31 : decode cX0_visit 31 = .ok (.aload_n 0, 1) := dk_42 (dk_at dksX0_visit_1 9 rfl rfl)
theorem dX0_visit_32 : decode cX0_visit 32 = .ok (.iload_n 1, 1) := dk_27 (dk_at dksX0_visit_1 10 rfl rfl)
theorem dX0_visit_33 : decode cX0_visit 33 = .ok (.invokevirtual 110, 3) := dk_182 0 110 (dk_at dksX0_visit_1 11 rfl rfl)
theorem dX0_visit_36 : decode cX0_visit 36 = .ok (.ifCond .eq 11, 3) := dk_153 0 11 (dk_at dksX0_visit_1 14 rfl rfl)
theorem dX0_visit_39 : decode cX0_visit 39 = .ok (.aload_n 0, 1) := dk_42 (dk_at dksX0_visit_1 17 rfl rfl)
theorem dX0_visit_40 : decode cX0_visit 40 = .ok (.iload_n 2, 1) := dk_28 (dk_at dksX0_visit_1 18 rfl rfl)
theorem dX0_visit_41 : decode cX0_visit 41 = .ok (.invokevirtual 110, 3) := dk_182 0 110 (dk_at dksX0_visit_1 19 rfl rfl)
theorem dX0_visit_44 : decode cX0_visit 44 = .ok (.ifCond .ne 10, 3) := dk_154 0 10 (dk_at dksX0_visit_2 0 rfl rfl)
theorem dX0_visit_47 : decode cX0_visit 47 = .ok (.aload_n 0, 1) := dk_42 (dk_at dksX0_visit_2 3 rfl rfl)
theorem dX0_visit_48 : decode cX0_visit 48 = .ok (.bipush (-2), 2) := dk_16 254 (dk_at dksX0_visit_2 4 rfl rfl)
theorem dX0_visit_50 : decode cX0_visit 50 = .ok (.invokevirtual 94, 3) := dk_182 0 94 (dk_at dksX0_visit_2 6 rfl rfl)
theorem dX0_visit_53 : decode cX0_visit 53 = .ok (.ireturn, 1) := dk_172 (dk_at dksX0_visit_2 9 rfl rfl)
theorem dX0_visit_54 : decode cX0_visit 54 = .ok (.aload_n 0, 1) := dk_42 (dk_at dksX0_visit_2 10 rfl rfl)
theorem dX0_visit_55 : decode cX0_visit 55 = .ok (.getfield 20, 3) := dk_180 0 20 (dk_at dksX0_visit_2 11 rfl rfl)
theorem dX0_visit_58 : decode cX0_visit 58 = .ok (.getfield 343, 3) := dk_180 1 87 (dk_at dksX0_visit_2 14 rfl rfl)
theorem dX0_visit_61 : decode cX0_visit 61 = .ok (.invokevirtual 218, 3) := dk_182 0 218 (dk_at dksX0_visit_2 17 rfl rfl)
theorem dX0_visit_64 : decode cX0_visit 64 = .ok (.bipush 8, 2) := dk_16 8 (dk_at dksX0_visit_2 20 rfl rfl)
theorem dX0_visit_66 : decode cX0_visit 66 = .ok (.if_icmp .ne 10, 3) := dk_160 0 10 (dk_at dksX0_visit_3 0 rfl rfl)
theorem dX0_visit_69 : decode cX0_visit 69 = .ok (.aload_n 0, 1) := dk_42 (dk_at dksX0_visit_3 3 rfl rfl)
theorem dX0_visit_70 : decode cX0_visit 70 = .ok (.bipush (-5), 2) := dk_16 251 (dk_at dksX0_visit_3 4 rfl rfl)
theorem dX0_visit_72 : decode cX0_visit 72 = .ok (.invokevirtual 94, 3) := dk_182 0 94 (dk_at dksX0_visit_3 6 rfl rfl)
theorem dX0_visit_75 : decode cX0_visit 75 = .ok (.ireturn, 1) := dk_172 (dk_at dksX0_visit_3 9 rfl rfl)
theorem dX0_visit_76 : decode cX0_visit 76 = .ok (.aload_n 0, 1) := dk_42 (dk_at dksX0_visit_3 10 rfl rfl)
theorem dX0_visit_77 : decode cX0_visit 77 = .ok (.getfield 20, 3) := dk_180 0 20 (dk_at dksX0_visit_3 11 rfl rfl)
theorem dX0_visit_80 : decode cX0_visit 80 = .ok (.getfield 343, 3) := dk_180 1 87 (dk_at dksX0_visit_3 14 rfl rfl)
theorem dX0_visit_83 : decode cX0_visit 83 = .ok (.new 346, 3) := dk_187 1 90 (dk_at dksX0_visit_3 17 rfl rfl)
theorem dX0_visit_86 : decode cX0_visit 86 = .ok (.dup, 1) := dk_89 (dk_at dksX0_visit_3 20 rfl rfl)
theorem dX0_visit_87 : decode cX0_visit 87 = .ok (.iload_n 1, 1) := dk_27 (dk_at dksX0_visit_3 21 rfl rfl)
theorem dX0_visit_88 : decode cX0_visit 88 = .ok (.iload_n 2, 1) := dk_28 (dk_at dksX0_visit_3 22 rfl rfl)
theorem dX0_visit_89 : decode cX0_visit 89 = .ok (.iload_n 3, 1) := dk_29 (dk_at dksX0_visit_3 23 rfl rfl)
theorem dX0_visit_90 : decode cX0_visit 90 = .ok (.iload 4, 2) := dk_21 4 (dk_at dksX0_visit_4 0 rfl rfl)
theorem dX0_visit_92 : decode cX0_visit 92 = .ok (.invokespecial 348, 3) := dk_183 1 92 (dk_at dksX0_visit_4 2 rfl rfl)
theorem dX0_visit_95 : decode cX0_visit 95 = .ok (.invokevirtual 231, 3) := dk_182 0 231 (dk_at dksX0_visit_4 5 rfl rfl)
theorem dX0_visit_98 : decode cX0_visit 98 = .ok (.pop, 1) := dk_87 (dk_at dksX0_visit_4 8 rfl rfl)
theorem dX0_visit_99 : decode cX0_visit 99 = .ok (.aload_n 0, 1) := dk_42 (dk_at dksX0_visit_4 9 rfl rfl)
theorem dX0_visit_100 : decode cX0_visit 100 = .ok (.aload_n 0, 1) := dk_42 (dk_at dksX0_visit_4 10 rfl rfl)
theorem dX0_visit_101 : decode cX0_visit 101 = .ok (.getfield 20, 3) := dk_180 0 20 (dk_at dksX0_visit_4 11 rfl rfl)
theorem dX0_visit_104 : decode cX0_visit 104 = .ok (.getfield 343, 3) := dk_180 1 87 (dk_at dksX0_visit_4 14 rfl rfl)
theorem dX0_visit_107 : decode cX0_visit 107 = .ok (.invokevirtual 218, 3) := dk_182 0 218 (dk_at dksX0_visit_4 17 rfl rfl)
theorem dX0_visit_110 : decode cX0_visit 110 = .ok (.invokevirtual 94, 3) := dk_182 0 94 (dk_at dksX0_visit_4 20 rfl rfl)
theorem dX0_visit_113 : decode cX0_visit 113 = .ok (.ireturn, 1) := dk_172 (dk_at dksX0_visit_4 23 rfl rfl)
noncomputable def f_X0_visit_25 (E : ax_E) (x0 : Option Nat) (h : ax_H) : Option (Int × ax_H) :=
  (ax_ce E h x0 0).bind fun _ => (f_X0_tell E x0 (-1) h).bind fun q1 =>
  some (q1.1, q1.2)
noncomputable def f_X0_visit_47 (E : ax_E) (x0 : Option Nat) (h : ax_H) : Option (Int × ax_H) :=
  (ax_ce E h x0 0).bind fun _ => (f_X0_tell E x0 (-2) h).bind fun q1 =>
  some (q1.1, q1.2)
noncomputable def f_X0_visit (E : ax_E) (x0 : Option Nat) (x1 : Int) (x2 : Int) (x3 : Int) (x4 : Int) (h : ax_H) : Option (Int × ax_H) :=
  (f_X0_isRoom E x3 h).bind fun q1 =>
  if i2 q1.1 = 0 then
    f_X0_visit_25 E x0 q1.2
  else
    (f_X0_in E (i2 x4) 0 999 q1.2).bind fun q2 =>
    if i2 q2.1 = 0 then
      f_X0_visit_25 E x0 q2.2
    else
      if i2 x1 = i2 x2 then
        f_X0_visit_25 E x0 q2.2
      else
        (ax_ce E q2.2 x0 0).bind fun _ => (f_X0_isPerson E x0 x1 q2.2).bind fun q3 =>
        if i2 q3.1 = 0 then
          f_X0_visit_47 E x0 q3.2
        else
          (ax_ce E q3.2 x0 0).bind fun _ => (f_X0_isPerson E x0 x2 q3.2).bind fun q4 =>
          if i2 q4.1 = 0 then
            f_X0_visit_47 E x0 q4.2
          else
            (ax_gR E q4.2 x0 0 0).bind fun v5 =>
            (ax_gR E q4.2 v5 1 1).bind fun v6 =>
            (ax_ce E q4.2 v6 42).bind fun _ => (f_J2_size E v6 q4.2).bind fun q7 =>
            if i2 q7.1 = i2 8 then
              (ax_ce E q7.2 x0 0).bind fun _ => (f_X0_tell E x0 (-5) q7.2).bind fun q8 =>
              some (q8.1, q8.2)
            else
              (ax_gR E q7.2 x0 0 0).bind fun v9 =>
              (ax_gR E q7.2 v9 1 1).bind fun v10 =>
              (ax_nw E q7.2 28 0 4).bind fun q11 =>
              (some q11.1).bind fun _ => (f_X28_init E (some q11.1) x1 x2 x3 x4 q11.2).bind fun h12 =>
              (ax_ce E h12 v10 42).bind fun _ => (f_J2_add E v10 (some q11.1) h12).bind fun q13 =>
              (ax_gR E q13.2 x0 0 0).bind fun v14 =>
              (ax_gR E q13.2 v14 1 1).bind fun v15 =>
              (ax_ce E q13.2 v15 42).bind fun _ => (f_J2_size E v15 q13.2).bind fun q16 =>
              (ax_ce E q16.2 x0 0).bind fun _ => (f_X0_tell E x0 q16.1 q16.2).bind fun q17 =>
              some (q17.1, q17.2)
set_option maxHeartbeats 4000000 in
theorem w_X0_visit_25 {l : Launch} {G : ax_G} {X : ax_X} {Q : State → Prop} {h0 h : ax_H} {ls : Array Slot} (hSF : ax_SF G) (B : ax_BL l G X cX0_visit 5 RX0 8 192) (Z : ax_Z X h0 ((some FieldType.int))) (hn : X.2.2.2.2.2.2.2.2.1.name = yX0_visit.name) (x0 : Option Nat) {w : Int × ax_H} (hl : ax_hl ls 5 [(0, .inr (.inr x0))]) (e : f_X0_visit_25 G.2.2 x0 h = some w) (hp : (fun w : Int × ax_H => Q = ax_Q G X h0 w.2 (some (.int (Int32.ofInt w.1)))) w) : ax_W G X Q h 25 ls [] := by
  unfold f_X0_visit_25 at e
  refine ax_aload_n B dX0_visit_25 rfl hl 0 rfl ?_
  refine ax_iconst B dX0_visit_26 ?_
  refine ax_ivI (y := yX0_tell) (n := 1) (As := [.int (Int32.ofInt (-1))]) B kd0 (lw_V q436 q438 qs1 q125 q439) (by decide +kernel) ⟨Nat.le_of_ble_eq_true rfl, Nat.le_of_ble_eq_true rfl⟩ (fun w1 e1 => mt_X0_tell l G hSF x0 (-1) _ w1 e1) rfl hl.size (by decide) dX0_visit_27 e (fun q1 e => ?_)
  have e8 := e
  have hp : Q = _ := hp
  subst hp
  exact ax_ireturn B Z dX0_visit_30 e8
set_option maxHeartbeats 4000000 in
theorem w_X0_visit_47 {l : Launch} {G : ax_G} {X : ax_X} {Q : State → Prop} {h0 h : ax_H} {ls : Array Slot} (hSF : ax_SF G) (B : ax_BL l G X cX0_visit 5 RX0 8 192) (Z : ax_Z X h0 ((some FieldType.int))) (hn : X.2.2.2.2.2.2.2.2.1.name = yX0_visit.name) (x0 : Option Nat) {w : Int × ax_H} (hl : ax_hl ls 5 [(0, .inr (.inr x0))]) (e : f_X0_visit_47 G.2.2 x0 h = some w) (hp : (fun w : Int × ax_H => Q = ax_Q G X h0 w.2 (some (.int (Int32.ofInt w.1)))) w) : ax_W G X Q h 47 ls [] := by
  unfold f_X0_visit_47 at e
  refine ax_aload_n B dX0_visit_47 rfl hl 0 rfl ?_
  refine ax_bipush B dX0_visit_48 (by decide) ?_
  refine ax_ivI (y := yX0_tell) (n := 1) (As := [.int (Int32.ofInt (-2))]) B kd0 (lw_V q436 q438 qs1 q125 q439) (by decide +kernel) ⟨Nat.le_of_ble_eq_true rfl, Nat.le_of_ble_eq_true rfl⟩ (fun w1 e1 => mt_X0_tell l G hSF x0 (-2) _ w1 e1) rfl hl.size (by decide) dX0_visit_50 e (fun q1 e => ?_)
  have e8 := e
  have hp : Q = _ := hp
  subst hp
  exact ax_ireturn B Z dX0_visit_53 e8
set_option maxHeartbeats 4000000 in
theorem we_X0_visit {l : Launch} {G : ax_G} {X : ax_X} {Q : State → Prop} {h0 h : ax_H} {ls : Array Slot} (hSF : ax_SF G) (B : ax_BL l G X cX0_visit 5 RX0 8 192) (Z : ax_Z X h0 ((some FieldType.int))) (hn : X.2.2.2.2.2.2.2.2.1.name = yX0_visit.name) (x0 : Option Nat) (x1 : Int) (x2 : Int) (x3 : Int) (x4 : Int) {w : Int × ax_H} (hl : ax_hl ls 5 [(0, .inr (.inr x0)), (1, .inl x1), (2, .inl x2), (3, .inl x3), (4, .inl x4)]) (e : f_X0_visit G.2.2 x0 x1 x2 x3 x4 h = some w) (hp : (fun w : Int × ax_H => Q = ax_Q G X h0 w.2 (some (.int (Int32.ofInt w.1)))) w) : ax_W G X Q h 0 ls [] := by
  unfold f_X0_visit at e
  refine ax_iload_n B dX0_visit_0 rfl hl 3 rfl ?_
  refine ax_isI (y := yX0_isRoom) (n := 1) (As := [.int (Int32.ofInt x3)]) B (lw_S q431 q432 q125 q433) (by decide +kernel) ⟨Nat.le_of_ble_eq_true rfl, Nat.le_of_ble_eq_true rfl⟩ (fun w1 e1 => mt_X0_isRoom l G hSF x3 _ w1 e1) rfl hl.size (by decide) dX0_visit_1 e (fun q1 e => ?_)
  refine ax_if_eq (tgt := 25) B dX0_visit_4 (by decide) e (fun e => ?_) (fun e => ?_)
  · exact w_X0_visit_25 hSF B Z hn x0 (hl.sub [0] rfl) e hp
  · refine ax_iload B dX0_visit_7 hl 4 rfl ?_
    refine ax_i2l' B dX0_visit_9 ?_
    refine ax_lconst (v := 0) B dX0_visit_10 rfl ?_
    refine ax_ldc2 B cn_X0_190 dX0_visit_11 ?_
    refine ax_isI (y := yX0_in) (n := 3) (As := [.long (Int64.ofInt (i2 x4)), .long (Int64.ofInt 0), .long (Int64.ofInt 999)]) B (lw_S q420 q421 q125 q422) (by decide +kernel) ⟨Nat.le_of_ble_eq_true rfl, Nat.le_of_ble_eq_true rfl⟩ (fun w1 e1 => mt_X0_in l G hSF (i2 x4) 0 999 _ w1 e1) rfl hl.size (by decide) dX0_visit_14 e (fun q2 e => ?_)
    refine ax_if_eq (tgt := 25) B dX0_visit_17 (by decide) e (fun e => ?_) (fun e => ?_)
    · exact w_X0_visit_25 hSF B Z hn x0 (hl.sub [0] rfl) e hp
    · refine ax_iload_n B dX0_visit_20 rfl hl 1 rfl ?_
      refine ax_iload_n B dX0_visit_21 rfl hl 2 rfl ?_
      refine ax_icmp_ne (tgt := 31) B dX0_visit_22 (by decide) e (fun e => ?_) (fun e => ?_)
      · exact w_X0_visit_25 hSF B Z hn x0 (hl.sub [0] rfl) e hp
      · refine ax_aload_n B dX0_visit_31 rfl hl 0 rfl ?_
        refine ax_iload_n B dX0_visit_32 rfl hl 1 rfl ?_
        refine ax_ivI (y := yX0_isPerson) (n := 1) (As := [.int (Int32.ofInt x1)]) B kd0 (lw_V q459 q461 qs4 q125 q462) (by decide +kernel) ⟨Nat.le_of_ble_eq_true rfl, Nat.le_of_ble_eq_true rfl⟩ (fun w1 e1 => mt_X0_isPerson l G hSF x0 x1 _ w1 e1) rfl hl.size (by decide) dX0_visit_33 e (fun q3 e => ?_)
        refine ax_if_eq (tgt := 47) B dX0_visit_36 (by decide) e (fun e => ?_) (fun e => ?_)
        · exact w_X0_visit_47 hSF B Z hn x0 (hl.sub [0] rfl) e hp
        · refine ax_aload_n B dX0_visit_39 rfl hl 0 rfl ?_
          refine ax_iload_n B dX0_visit_40 rfl hl 2 rfl ?_
          refine ax_ivI (y := yX0_isPerson) (n := 1) (As := [.int (Int32.ofInt x2)]) B kd0 (lw_V q459 q461 qs4 q125 q462) (by decide +kernel) ⟨Nat.le_of_ble_eq_true rfl, Nat.le_of_ble_eq_true rfl⟩ (fun w1 e1 => mt_X0_isPerson l G hSF x0 x2 _ w1 e1) rfl hl.size (by decide) dX0_visit_41 e (fun q4 e => ?_)
          refine ax_if_ne (tgt := 54) B dX0_visit_44 (by decide) e (fun e => ?_) (fun e => ?_)
          · exact w_X0_visit_47 hSF B Z hn x0 (hl.sub [0] rfl) e hp
          · refine ax_aload_n B dX0_visit_54 rfl hl 0 rfl ?_
            refine ax_getR B ff_X0_20_0 (fun _ _ => rfl) dX0_visit_55 e (fun v5 e => ?_)
            refine ax_getR B ff_X0_343_1 (fun _ _ => rfl) dX0_visit_58 e (fun v6 e => ?_)
            refine ax_ivI (y := yJ2_size) (n := 0) (As := []) B kd42 (lw_V q709 q710 q711 q129 q712) (by decide +kernel) ⟨Nat.le_of_ble_eq_true rfl, Nat.le_of_ble_eq_true rfl⟩ (fun w1 e1 => mt_J2_size l G hSF v6 _ w1 e1) rfl hl.size (by decide) dX0_visit_61 e (fun q7 e => ?_)
            refine ax_bipush B dX0_visit_64 (by decide) ?_
            refine ax_icmp_ne (tgt := 76) B dX0_visit_66 (by decide) e (fun e => ?_) (fun e => ?_)
            · refine ax_aload_n B dX0_visit_69 rfl hl 0 rfl ?_
              refine ax_bipush B dX0_visit_70 (by decide) ?_
              refine ax_ivI (y := yX0_tell) (n := 1) (As := [.int (Int32.ofInt (-5))]) B kd0 (lw_V q436 q438 qs1 q125 q439) (by decide +kernel) ⟨Nat.le_of_ble_eq_true rfl, Nat.le_of_ble_eq_true rfl⟩ (fun w1 e1 => mt_X0_tell l G hSF x0 (-5) _ w1 e1) rfl hl.size (by decide) dX0_visit_72 e (fun q8 e => ?_)
              have e8 := e
              have hp : Q = _ := hp
              subst hp
              exact ax_ireturn B Z dX0_visit_75 e8
            · refine ax_aload_n B dX0_visit_76 rfl hl 0 rfl ?_
              refine ax_getR B ff_X0_20_0 (fun _ _ => rfl) dX0_visit_77 e (fun v9 e => ?_)
              refine ax_getR B ff_X0_343_1 (fun _ _ => rfl) dX0_visit_80 e (fun v10 e => ?_)
              refine ax_new B kd28 in_X28 tyX28_ok (fun k hk => ax_dv _ (dfX28 k hk)) q1470 q1471 q170 dX0_visit_83 e (fun q11 e => ?_)
              refine ax_dup B dX0_visit_86 (va_rf_cat _) ?_
              refine ax_iload_n B dX0_visit_87 rfl hl 1 rfl ?_
              refine ax_iload_n B dX0_visit_88 rfl hl 2 rfl ?_
              refine ax_iload_n B dX0_visit_89 rfl hl 3 rfl ?_
              refine ax_iload B dX0_visit_90 hl 4 rfl ?_
              refine ax_iiR (y := yX28_init) (n := 4) (As := [.int (Int32.ofInt x1), .int (Int32.ofInt x2), .int (Int32.ofInt x3), .int (Int32.ofInt x4)]) B q1472 q1473 q170 q1474 rfl (by decide +kernel) ⟨Nat.le_of_ble_eq_true rfl, Nat.le_of_ble_eq_true rfl⟩ (fun w1 e1 => mt_X28_init l G hSF (some q11.1) x1 x2 x3 x4 _ w1 e1) rfl hl.size (by simp only [List.map_cons, List.map_nil, List.sum_cons, List.sum_nil, va_rf_cat, ax_catI, ax_catL]; decide) dX0_visit_92 e (fun h12 e => ?_)
              refine ax_ivI (y := yJ2_add) (n := 1) (As := [va_rf (some q11.1)]) B kd42 (lw_V q1245 q1246 q1247 q129 q1248) (by decide +kernel) ⟨Nat.le_of_ble_eq_true rfl, Nat.le_of_ble_eq_true rfl⟩ (fun w1 e1 => mt_J2_add l G hSF v10 (some q11.1) _ w1 e1) rfl hl.size (by decide) dX0_visit_95 e (fun q13 e => ?_)
              refine ax_pop B dX0_visit_98 (rfl) ?_
              refine ax_aload_n B dX0_visit_99 rfl hl 0 rfl ?_
              refine ax_aload_n B dX0_visit_100 rfl hl 0 rfl ?_
              refine ax_getR B ff_X0_20_0 (fun _ _ => rfl) dX0_visit_101 e (fun v14 e => ?_)
              refine ax_getR B ff_X0_343_1 (fun _ _ => rfl) dX0_visit_104 e (fun v15 e => ?_)
              refine ax_ivI (y := yJ2_size) (n := 0) (As := []) B kd42 (lw_V q709 q710 q711 q129 q712) (by decide +kernel) ⟨Nat.le_of_ble_eq_true rfl, Nat.le_of_ble_eq_true rfl⟩ (fun w1 e1 => mt_J2_size l G hSF v15 _ w1 e1) rfl hl.size (by simp only [List.map_cons, List.map_nil, List.sum_cons, List.sum_nil, va_rf_cat, ax_catI, ax_catL]; decide) dX0_visit_107 e (fun q16 e => ?_)
              refine ax_ivI (y := yX0_tell) (n := 1) (As := [.int (Int32.ofInt q16.1)]) B kd0 (lw_V q436 q438 qs1 q125 q439) (by decide +kernel) ⟨Nat.le_of_ble_eq_true rfl, Nat.le_of_ble_eq_true rfl⟩ (fun w1 e1 => mt_X0_tell l G hSF x0 q16.1 _ w1 e1) rfl hl.size (by decide) dX0_visit_110 e (fun q17 e => ?_)
              have e8 := e
              have hp : Q = _ := hp
              subst hp
              exact ax_ireturn B Z dX0_visit_113 e8
theorem mt_X0_visit (l : Launch) (G : ax_G) (hSF : ax_SF G) (x0 : Option Nat) (x1 : Int) (x2 : Int) (x3 : Int) (x4 : Int) (h : ax_H) (w : Int × ax_H) (e : f_X0_visit G.2.2 x0 x1 x2 x3 x4 h = some w) : ax_Met l G yX0_visit cX0_visit 5 ((some FieldType.int)) 8 192 [va_rf x0, .int (Int32.ofInt x1), .int (Int32.ofInt x2), .int (Int32.ofInt x3), .int (Int32.ofInt x4)] h w.2 (some (.int (Int32.ofInt w.1))) :=
  ax_enter [.inr (.inr x0), .inl x1, .inl x2, .inl x3, .inl x4] (y := yX0_visit) hSF (plainFor_of_name (by decide +kernel)) (Nat.le_of_ble_eq_true rfl) (fun X ls B Z hn hl => we_X0_visit hSF B Z hn x0 x1 x2 x3 x4 hl e rfl)
def dkwX0_cancel_0 : List UInt8 := [42, 180, 0, 20, 180, 1, 87, 182, 0, 218, 60, 42, 180, 0, 20, 180, 1, 87, 182, 0, 91, 27, 172]
abbrev dktX0_cancel_0 : List UInt8 := dkwX0_cancel_0 ++ []
theorem dksX0_cancel_0 : cX0_cancel.data.toList.drop 0 = dktX0_cancel_0 := by decide +kernel
theorem dX0_cancel_0 : decode cX0_cancel 0 = .ok (.aload_n 0, 1) := dk_42 (dk_at dksX0_cancel_0 0 rfl rfl)
theorem dX0_cancel_1 : decode cX0_cancel 1 = .ok (.getfield 20, 3) := dk_180 0 20 (dk_at dksX0_cancel_0 1 rfl rfl)
theorem dX0_cancel_4 : decode cX0_cancel 4 = .ok (.getfield 343, 3) := dk_180 1 87 (dk_at dksX0_cancel_0 4 rfl rfl)
theorem dX0_cancel_7 : decode cX0_cancel 7 = .ok (.invokevirtual 218, 3) := dk_182 0 218 (dk_at dksX0_cancel_0 7 rfl rfl)
theorem dX0_cancel_10 : decode cX0_cancel 10 = .ok (.istore_n 1, 1) := dk_60 (dk_at dksX0_cancel_0 10 rfl rfl)
theorem dX0_cancel_11 : decode cX0_cancel 11 = .ok (.aload_n 0, 1) := dk_42 (dk_at dksX0_cancel_0 11 rfl rfl)
theorem dX0_cancel_12 : decode cX0_cancel 12 = .ok (.getfield 20, 3) := dk_180 0 20 (dk_at dksX0_cancel_0 12 rfl rfl)
theorem dX0_cancel_15 : decode cX0_cancel 15 = .ok (.getfield 343, 3) := dk_180 1 87 (dk_at dksX0_cancel_0 15 rfl rfl)
theorem dX0_cancel_18 : decode cX0_cancel 18 = .ok (.invokevirtual 91, 3) := dk_182 0 91 (dk_at dksX0_cancel_0 18 rfl rfl)
theorem dX0_cancel_21 : decode cX0_cancel 21 = .ok (.iload_n 1, 1) := dk_27 (dk_at dksX0_cancel_0 21 rfl rfl)
theorem dX0_cancel_22 : decode cX0_cancel 22 = .ok (.ireturn, 1) := dk_172 (dk_at dksX0_cancel_0 22 rfl rfl)
noncomputable def f_X0_cancel (E : ax_E) (x0 : Option Nat) (h : ax_H) : Option (Int × ax_H) :=
  (ax_gR E h x0 0 0).bind fun v1 =>
  (ax_gR E h v1 1 1).bind fun v2 =>
  (ax_ce E h v2 42).bind fun _ => (f_J2_size E v2 h).bind fun q3 =>
  (ax_gR E q3.2 x0 0 0).bind fun v4 =>
  (ax_gR E q3.2 v4 1 1).bind fun v5 =>
  (ax_ce E q3.2 v5 42).bind fun _ => (f_J2_clear E v5 q3.2).bind fun h6 =>
  some (q3.1, h6)
set_option maxHeartbeats 4000000 in
theorem we_X0_cancel {l : Launch} {G : ax_G} {X : ax_X} {Q : State → Prop} {h0 h : ax_H} {ls : Array Slot} (hSF : ax_SF G) (B : ax_BL l G X cX0_cancel 2 RX0 2 63) (Z : ax_Z X h0 ((some FieldType.int))) (hn : X.2.2.2.2.2.2.2.2.1.name = yX0_cancel.name) (x0 : Option Nat) {w : Int × ax_H} (hl : ax_hl ls 2 [(0, .inr (.inr x0))]) (e : f_X0_cancel G.2.2 x0 h = some w) (hp : (fun w : Int × ax_H => Q = ax_Q G X h0 w.2 (some (.int (Int32.ofInt w.1)))) w) : ax_W G X Q h 0 ls [] := by
  unfold f_X0_cancel at e
  refine ax_aload_n B dX0_cancel_0 rfl hl 0 rfl ?_
  refine ax_getR B ff_X0_20_0 (fun _ _ => rfl) dX0_cancel_1 e (fun v1 e => ?_)
  refine ax_getR B ff_X0_343_1 (fun _ _ => rfl) dX0_cancel_4 e (fun v2 e => ?_)
  refine ax_ivI (y := yJ2_size) (n := 0) (As := []) B kd42 (lw_V q709 q710 q711 q129 q712) (by decide +kernel) ⟨Nat.le_of_ble_eq_true rfl, Nat.le_of_ble_eq_true rfl⟩ (fun w1 e1 => mt_J2_size l G hSF v2 _ w1 e1) rfl hl.size (by decide) dX0_cancel_7 e (fun q3 e => ?_)
  refine ax_istore_n (L' := [(1, .inl q3.1), (0, .inr (.inr x0))]) B dX0_cancel_10 rfl hl (by decide) rfl (fun ls hl => ?_)
  refine ax_aload_n B dX0_cancel_11 rfl hl 1 rfl ?_
  refine ax_getR B ff_X0_20_0 (fun _ _ => rfl) dX0_cancel_12 e (fun v4 e => ?_)
  refine ax_getR B ff_X0_343_1 (fun _ _ => rfl) dX0_cancel_15 e (fun v5 e => ?_)
  refine ax_ivV (y := yJ2_clear) (n := 0) (As := []) B kd42 (lw_V q451 q452 q453 q129 q454) (by decide +kernel) ⟨Nat.le_of_ble_eq_true rfl, Nat.le_of_ble_eq_true rfl⟩ (fun w1 e1 => mt_J2_clear l G hSF v5 _ w1 e1) rfl hl.size (by decide) dX0_cancel_18 e (fun h6 e => ?_)
  refine ax_iload_n B dX0_cancel_21 rfl hl 0 rfl ?_
  have e8 := e
  have hp : Q = _ := hp
  subst hp
  exact ax_ireturn B Z dX0_cancel_22 e8
theorem mt_X0_cancel (l : Launch) (G : ax_G) (hSF : ax_SF G) (x0 : Option Nat) (h : ax_H) (w : Int × ax_H) (e : f_X0_cancel G.2.2 x0 h = some w) : ax_Met l G yX0_cancel cX0_cancel 2 ((some FieldType.int)) 2 63 [va_rf x0] h w.2 (some (.int (Int32.ofInt w.1))) :=
  ax_enter [.inr (.inr x0)] (y := yX0_cancel) hSF (plainFor_of_name (by decide +kernel)) (Nat.le_of_ble_eq_true rfl) (fun X ls B Z hn hl => we_X0_cancel hSF B Z hn x0 hl e rfl)
def dkwX0_deepest_4 : List UInt8 := [180, 1, 95, 184, 1, 104, 62, 132, 4, 1, 167, 255, 176, 29, 172]
abbrev dktX0_deepest_4 : List UInt8 := dkwX0_deepest_4 ++ []
def dkwX0_deepest_3 : List UInt8 := [180, 1, 101, 44, 180, 1, 101, 159, 0, 6, 167, 0, 21, 21, 4, 27, 162, 0, 5, 2, 172, 29, 25, 5]
abbrev dktX0_deepest_3 : List UInt8 := dkwX0_deepest_3 ++ dktX0_deepest_4
def dkwX0_deepest_2 : List UInt8 := [182, 0, 242, 192, 1, 90, 58, 5, 25, 5, 180, 1, 98, 44, 180, 1, 98, 160, 0, 36, 25, 5]
abbrev dktX0_deepest_2 : List UInt8 := dkwX0_deepest_2 ++ dktX0_deepest_3
def dkwX0_deepest_1 : List UInt8 := [21, 4, 42, 180, 0, 20, 180, 1, 87, 182, 0, 218, 162, 0, 71, 42, 180, 0, 20, 180, 1, 87, 21, 4]
abbrev dktX0_deepest_1 : List UInt8 := dkwX0_deepest_1 ++ dktX0_deepest_2
def dkwX0_deepest_0 : List UInt8 := [42, 180, 0, 20, 180, 1, 87, 27, 182, 0, 242, 192, 1, 90, 77, 44, 180, 1, 95, 62, 3, 54, 4]
abbrev dktX0_deepest_0 : List UInt8 := dkwX0_deepest_0 ++ dktX0_deepest_1
theorem dksX0_deepest_0 : cX0_deepest.data.toList.drop 0 = dktX0_deepest_0 := by decide +kernel
theorem dksX0_deepest_1 : cX0_deepest.data.toList.drop 23 = dktX0_deepest_1 := dk_seg dksX0_deepest_0 23 rfl rfl
theorem dksX0_deepest_2 : cX0_deepest.data.toList.drop 47 = dktX0_deepest_2 := dk_seg dksX0_deepest_1 24 rfl rfl
theorem dksX0_deepest_3 : cX0_deepest.data.toList.drop 69 = dktX0_deepest_3 := dk_seg dksX0_deepest_2 22 rfl rfl
theorem dksX0_deepest_4 : cX0_deepest.data.toList.drop 93 = dktX0_deepest_4 := dk_seg dksX0_deepest_3 24 rfl rfl
theorem dX0_deepest_0 : decode cX0_deepest 0 = .ok (.aload_n 0, 1) := dk_42 (dk_at dksX0_deepest_0 0 rfl rfl)
theorem dX0_deepest_1 : decode cX0_deepest 1 = .ok (.getfield 20, 3) := dk_180 0 20 (dk_at dksX0_deepest_0 1 rfl rfl)
theorem dX0_deepest_4 : decode cX0_deepest 4 = .ok (.getfield 343, 3) := dk_180 1 87 (dk_at dksX0_deepest_0 4 rfl rfl)
theorem dX0_deepest_7 : decode cX0_deepest 7 = .ok (.iload_n 1, 1) := dk_27 (dk_at dksX0_deepest_0 7 rfl rfl)
theorem dX0_deepest_8 : decode cX0_deepest 8 = .ok (.invokevirtual 242, 3) := dk_182 0 242 (dk_at dksX0_deepest_0 8 rfl rfl)
theorem dX0_deepest_11 : decode cX0_deepest 11 = .ok (.checkcast 346, 3) := dk_192 1 90 (dk_at dksX0_deepest_0 11 rfl rfl)
theorem dX0_deepest_14 : decode cX0_deepest 14 = .ok (.astore_n 2, 1) := dk_77 (dk_at dksX0_deepest_0 14 rfl rfl)
theorem dX0_deepest_15 : decode cX0_deepest 15 = .ok (.aload_n 2, 1) := dk_44 (dk_at dksX0_deepest_0 15 rfl rfl)
theorem dX0_deepest_16 : decode cX0_deepest 16 = .ok (.getfield 351, 3) := dk_180 1 95 (dk_at dksX0_deepest_0 16 rfl rfl)
theorem dX0_deepest_19 : decode cX0_deepest 19 = .ok (.istore_n 3, 1) := dk_62 (dk_at dksX0_deepest_0 19 rfl rfl)
theorem dX0_deepest_20 : decode cX0_deepest 20 = .ok (.iconst 0, 1) := dk_3 (dk_at dksX0_deepest_0 20 rfl rfl)
theorem dX0_deepest_21 : decode cX0_deepest 21 = .ok (.istore 4, 2) := dk_54 4 (dk_at dksX0_deepest_0 21 rfl rfl)
theorem dX0_deepest_23 : decode cX0_deepest 23 = .ok (.iload 4, 2) := dk_21 4 (dk_at dksX0_deepest_1 0 rfl rfl)
theorem dX0_deepest_25 : decode cX0_deepest 25 = .ok (.aload_n 0, 1) := dk_42 (dk_at dksX0_deepest_1 2 rfl rfl)
theorem dX0_deepest_26 : decode cX0_deepest 26 = .ok (.getfield 20, 3) := dk_180 0 20 (dk_at dksX0_deepest_1 3 rfl rfl)
theorem dX0_deepest_29 : decode cX0_deepest 29 = .ok (.getfield 343, 3) := dk_180 1 87 (dk_at dksX0_deepest_1 6 rfl rfl)
theorem dX0_deepest_32 : decode cX0_deepest 32 = .ok (.invokevirtual 218, 3) := dk_182 0 218 (dk_at dksX0_deepest_1 9 rfl rfl)
theorem dX0_deepest_35 : decode cX0_deepest 35 = .ok (.if_icmp .ge 71, 3) := dk_162 0 71 (dk_at dksX0_deepest_1 12 rfl rfl)
theorem dX0_deepest_38 : decode cX0_deepest 38 = .ok (.aload_n 0, 1) := dk_42 (dk_at dksX0_deepest_1 15 rfl rfl)
theorem dX0_deepest_39 : decode cX0_deepest 39 = .ok (.getfield 20, 3) := dk_180 0 20 (dk_at dksX0_deepest_1 16 rfl rfl)
theorem dX0_deepest_42 : decode cX0_deepest 42 = .ok (.getfield 343, 3) := dk_180 1 87 (dk_at dksX0_deepest_1 19 rfl rfl)
theorem dX0_deepest_45 : decode cX0_deepest 45 = .ok (.iload 4, 2) := dk_21 4 (dk_at dksX0_deepest_1 22 rfl rfl)
theorem dX0_deepest_47 : decode cX0_deepest 47 = .ok (.invokevirtual 242, 3) := dk_182 0 242 (dk_at dksX0_deepest_2 0 rfl rfl)
theorem dX0_deepest_50 : decode cX0_deepest 50 = .ok (.checkcast 346, 3) := dk_192 1 90 (dk_at dksX0_deepest_2 3 rfl rfl)
theorem dX0_deepest_53 : decode cX0_deepest 53 = .ok (.astore 5, 2) := dk_58 5 (dk_at dksX0_deepest_2 6 rfl rfl)
theorem dX0_deepest_55 : decode cX0_deepest 55 = .ok (.aload 5, 2) := dk_25 5 (dk_at dksX0_deepest_2 8 rfl rfl)
theorem dX0_deepest_57 : decode cX0_deepest 57 = .ok (.getfield 354, 3) := dk_180 1 98 (dk_at dksX0_deepest_2 10 rfl rfl)
theorem dX0_deepest_60 : decode cX0_deepest 60 = .ok (.aload_n 2, 1) := dk_44 (dk_at dksX0_deepest_2 13 rfl rfl)
theorem dX0_deepest_61 : decode cX0_deepest 61 = .ok (.getfield 354, 3) := dk_180 1 98 (dk_at dksX0_deepest_2 14 rfl rfl)
theorem dX0_deepest_64 : decode cX0_deepest 64 = .ok (.if_icmp .ne 36, 3) := dk_160 0 36 (dk_at dksX0_deepest_2 17 rfl rfl)
theorem dX0_deepest_67 : decode cX0_deepest 67 = .ok (.aload 5, 2) := dk_25 5 (dk_at dksX0_deepest_2 20 rfl rfl)
theorem dX0_deepest_69 : decode cX0_deepest 69 = .ok (.getfield 357, 3) := dk_180 1 101 (dk_at dksX0_deepest_3 0 rfl rfl)
theorem dX0_deepest_72 : decode cX0_deepest 72 = .ok (.aload_n 2, 1) := dk_44 (dk_at dksX0_deepest_3 3 rfl rfl)
theorem dX0_deepest_73 : decode cX0_deepest 73 = .ok (.getfield 357, 3) := dk_180 1 101 (dk_at dksX0_deepest_3 4 rfl rfl)
theorem dX0_deepest_76 : decode cX0_deepest 76 = .ok (.if_icmp .eq 6, 3) := dk_159 0 6 (dk_at dksX0_deepest_3 7 rfl rfl)
theorem dX0_deepest_79 : decode cX0_deepest 79 = .ok (.goto 21, 3) := dk_167 0 21 (dk_at dksX0_deepest_3 10 rfl rfl)
theorem dX0_deepest_82 : decode cX0_deepest 82 = .ok (.iload 4, 2) := dk_21 4 (dk_at dksX0_deepest_3 13 rfl rfl)
theorem dX0_deepest_84 : decode cX0_deepest 84 = .ok (.iload_n 1, 1) := dk_27 (dk_at dksX0_deepest_3 15 rfl rfl)
theorem dX0_deepest_85 : decode cX0_deepest 85 = .ok (.if_icmp .ge 5, 3) := dk_162 0 5 (dk_at dksX0_deepest_3 16 rfl rfl)
theorem dX0_deepest_88 : decode cX0_deepest 88 = .ok (.iconst (-1), 1) := dk_2 (dk_at dksX0_deepest_3 19 rfl rfl)
theorem dX0_deepest_89 : decode cX0_deepest 89 = .ok (.ireturn, 1) := dk_172 (dk_at dksX0_deepest_3 20 rfl rfl)
theorem dX0_deepest_90 : decode cX0_deepest 90 = .ok (.iload_n 3, 1) := dk_29 (dk_at dksX0_deepest_3 21 rfl rfl)
theorem dX0_deepest_91 : decode cX0_deepest 91 = .ok (.aload 5, 2) := dk_25 5 (dk_at dksX0_deepest_3 22 rfl rfl)
theorem dX0_deepest_93 : decode cX0_deepest 93 = .ok (.getfield 351, 3) := dk_180 1 95 (dk_at dksX0_deepest_4 0 rfl rfl)
theorem dX0_deepest_96 : decode cX0_deepest 96 = .ok (.invokestatic 360, 3) := dk_184 1 104 (dk_at dksX0_deepest_4 3 rfl rfl)
theorem dX0_deepest_99 : decode cX0_deepest 99 = .ok (.istore_n 3, 1) := dk_62 (dk_at dksX0_deepest_4 6 rfl rfl)
theorem dX0_deepest_100 : decode cX0_deepest 100 = .ok (.iinc 4 1, 3) := dk_132 4 1 (dk_at dksX0_deepest_4 7 rfl rfl)
theorem dX0_deepest_103 : decode cX0_deepest 103 = .ok (.goto (-80), 3) := dk_167 255 176 (dk_at dksX0_deepest_4 10 rfl rfl)
theorem dX0_deepest_106 : decode cX0_deepest 106 = .ok (.iload_n 3, 1) := dk_29 (dk_at dksX0_deepest_4 13 rfl rfl)
theorem dX0_deepest_107 : decode cX0_deepest 107 = .ok (.ireturn, 1) := dk_172 (dk_at dksX0_deepest_4 14 rfl rfl)
noncomputable def f_X0_deepest_100 (E : ax_E) (x0 : Option Nat) (x1 : Int) (x2 : Option Nat) (x3 : Int) (x4 : Int) (h : ax_H) : Option ((Int × Int × ax_H) ⊕ (Int × ax_H)) :=
  some (.inl (x3, (x4 + 1), h))
noncomputable def lb_X0_deepest_23 (E : ax_E) (x0 : Option Nat) (x1 : Int) (x2 : Option Nat) (x3 : Int) (x4 : Int) (h : ax_H) : Option ((Int × Int × ax_H) ⊕ (Int × ax_H)) :=
  (ax_gR E h x0 0 0).bind fun v1 =>
  (ax_gR E h v1 1 1).bind fun v2 =>
  (ax_ce E h v2 42).bind fun _ => (f_J2_size E v2 h).bind fun q3 =>
  if i2 x4 < i2 q3.1 then
    (ax_gR E q3.2 x0 0 0).bind fun v4 =>
    (ax_gR E q3.2 v4 1 1).bind fun v5 =>
    (ax_ce E q3.2 v5 42).bind fun _ => (f_J2_get E v5 x4 q3.2).bind fun q6 =>
    (ax_cc E q6.2 q6.1 28).bind fun _ =>
    (ax_gI E q6.2 q6.1 28 0).bind fun v7 =>
    (ax_gI E q6.2 x2 28 0).bind fun v8 =>
    if i2 v7 = i2 v8 then
      (ax_gI E q6.2 q6.1 28 1).bind fun v9 =>
      (ax_gI E q6.2 x2 28 1).bind fun v10 =>
      if i2 v9 = i2 v10 then
        if i2 x4 < i2 x1 then
          (some ((-1), q6.2)).map Sum.inr
        else
          (ax_gI E q6.2 q6.1 28 2).bind fun v11 =>
          (f_J3_max_2 E x3 v11 q6.2).bind fun q12 =>
          f_X0_deepest_100 E x0 x1 x2 q12.1 x4 q12.2
      else
        f_X0_deepest_100 E x0 x1 x2 x3 x4 q6.2
    else
      f_X0_deepest_100 E x0 x1 x2 x3 x4 q6.2
  else
    (some (x3, q3.2)).map Sum.inr
noncomputable def f_X0_deepest_23 (E : ax_E) (x0 : Option Nat) (x1 : Int) (x2 : Option Nat) (x3 : Int) (x4 : Int) (h : ax_H) : Option (Int × ax_H) :=
  ax_iter (fun s : Int × Int × ax_H => lb_X0_deepest_23 E x0 x1 x2 s.1 s.2.1 s.2.2) (x3, x4, h)
noncomputable def f_X0_deepest (E : ax_E) (x0 : Option Nat) (x1 : Int) (h : ax_H) : Option (Int × ax_H) :=
  (ax_gR E h x0 0 0).bind fun v1 =>
  (ax_gR E h v1 1 1).bind fun v2 =>
  (ax_ce E h v2 42).bind fun _ => (f_J2_get E v2 x1 h).bind fun q3 =>
  (ax_cc E q3.2 q3.1 28).bind fun _ =>
  (ax_gI E q3.2 q3.1 28 2).bind fun v4 =>
  f_X0_deepest_23 E x0 x1 q3.1 v4 0 q3.2
def pi_X0_deepest_23 (G : ax_G) (X : ax_X) (Q : State → Prop) (x0 : Option Nat) (x1 : Int) (x2 : Option Nat) : Int × Int × ax_H → Prop := fun s => ∀ ls : Array Slot, ax_hl ls 6 [(0, .inr (.inr x0)), (1, .inl x1), (2, .inr (.inr x2)), (3, .inl s.1), (4, .inl s.2.1)] → ax_W G X Q s.2.2 23 ls []
set_option maxHeartbeats 4000000 in
theorem w_X0_deepest_100 {l : Launch} {G : ax_G} {X : ax_X} {Q : State → Prop} {h0 h : ax_H} {ls : Array Slot} (hSF : ax_SF G) (B : ax_BL l G X cX0_deepest 6 RX0 4 104) (Z : ax_Z X h0 ((some FieldType.int))) (hn : X.2.2.2.2.2.2.2.2.1.name = yX0_deepest.name) (x0 : Option Nat) (x1 : Int) (x2 : Option Nat) (x3 : Int) (x4 : Int) {w : (Int × Int × ax_H) ⊕ (Int × ax_H)} (hl : ax_hl ls 6 [(0, .inr (.inr x0)), (1, .inl x1), (2, .inr (.inr x2)), (3, .inl x3), (4, .inl x4)]) (e : f_X0_deepest_100 G.2.2 x0 x1 x2 x3 x4 h = some w) (hp : (ax_PL (pi_X0_deepest_23 G X Q x0 x1 x2) (fun w : Int × ax_H => Q = ax_Q G X h0 w.2 (some (.int (Int32.ofInt w.1))))) w) : ax_W G X Q h 100 ls [] := by
  unfold f_X0_deepest_100 at e
  refine ax_iinc (L' := [(4, .inl (x4 + 1)), (0, .inr (.inr x0)), (1, .inl x1), (2, .inr (.inr x2)), (3, .inl x3)]) B dX0_deepest_100 hl 4 rfl (by decide) rfl (fun ls hl => ?_)
  refine ax_goto (tgt := 23) B dX0_deepest_103 (by decide) ?_
  cases e
  exact hp _ (hl.sub [1, 2, 3, 4, 0] rfl)
set_option maxHeartbeats 4000000 in
theorem wb_X0_deepest_23 {l : Launch} {G : ax_G} {X : ax_X} {Q : State → Prop} {h0 h : ax_H} {ls : Array Slot} (hSF : ax_SF G) (B : ax_BL l G X cX0_deepest 6 RX0 4 104) (Z : ax_Z X h0 ((some FieldType.int))) (hn : X.2.2.2.2.2.2.2.2.1.name = yX0_deepest.name) (x0 : Option Nat) (x1 : Int) (x2 : Option Nat) (x3 : Int) (x4 : Int) {w : (Int × Int × ax_H) ⊕ (Int × ax_H)} (hl : ax_hl ls 6 [(0, .inr (.inr x0)), (1, .inl x1), (2, .inr (.inr x2)), (3, .inl x3), (4, .inl x4)]) (e : lb_X0_deepest_23 G.2.2 x0 x1 x2 x3 x4 h = some w) (hp : (ax_PL (pi_X0_deepest_23 G X Q x0 x1 x2) (fun w : Int × ax_H => Q = ax_Q G X h0 w.2 (some (.int (Int32.ofInt w.1))))) w) : ax_W G X Q h 23 ls [] := by
  unfold lb_X0_deepest_23 at e
  refine ax_iload B dX0_deepest_23 hl 4 rfl ?_
  refine ax_aload_n B dX0_deepest_25 rfl hl 0 rfl ?_
  refine ax_getR B ff_X0_20_0 (fun _ _ => rfl) dX0_deepest_26 e (fun v1 e => ?_)
  refine ax_getR B ff_X0_343_1 (fun _ _ => rfl) dX0_deepest_29 e (fun v2 e => ?_)
  refine ax_ivI (y := yJ2_size) (n := 0) (As := []) B kd42 (lw_V q709 q710 q711 q129 q712) (by decide +kernel) ⟨Nat.le_of_ble_eq_true rfl, Nat.le_of_ble_eq_true rfl⟩ (fun w1 e1 => mt_J2_size l G hSF v2 _ w1 e1) rfl hl.size (by simp only [List.map_cons, List.map_nil, List.sum_cons, List.sum_nil, va_rf_cat, ax_catI, ax_catL]; decide) dX0_deepest_32 e (fun q3 e => ?_)
  refine ax_icmp_ge (tgt := 106) B dX0_deepest_35 (by decide) e (fun e => ?_) (fun e => ?_)
  · refine ax_aload_n B dX0_deepest_38 rfl hl 0 rfl ?_
    refine ax_getR B ff_X0_20_0 (fun _ _ => rfl) dX0_deepest_39 e (fun v4 e => ?_)
    refine ax_getR B ff_X0_343_1 (fun _ _ => rfl) dX0_deepest_42 e (fun v5 e => ?_)
    refine ax_iload B dX0_deepest_45 hl 4 rfl ?_
    refine ax_ivR (y := yJ2_get) (n := 1) (As := [.int (Int32.ofInt x4)]) B kd42 (lw_V q524 q525 q526 q129 q527) (by decide +kernel) ⟨Nat.le_of_ble_eq_true rfl, Nat.le_of_ble_eq_true rfl⟩ (fun w1 e1 => mt_J2_get l G hSF v5 x4 _ w1 e1) rfl hl.size (by decide) dX0_deepest_47 e (fun q6 e => ?_)
    refine ax_ckc B kd28 q1470 dX0_deepest_50 e (fun e => ?_)
    refine ax_astore (L' := [(5, .inr (.inr q6.1)), (0, .inr (.inr x0)), (1, .inl x1), (2, .inr (.inr x2)), (3, .inl x3), (4, .inl x4)]) B dX0_deepest_53 hl (by decide) rfl (fun ls hl => ?_)
    refine ax_aload B dX0_deepest_55 hl 0 rfl ?_
    refine ax_getI B ff_X0_354_28 (fun _ _ => rfl) dX0_deepest_57 e (fun v7 e => ?_)
    refine ax_aload_n B dX0_deepest_60 rfl hl 3 rfl ?_
    refine ax_getI B ff_X0_354_28 (fun _ _ => rfl) dX0_deepest_61 e (fun v8 e => ?_)
    refine ax_icmp_ne (tgt := 100) B dX0_deepest_64 (by decide) e (fun e => ?_) (fun e => ?_)
    · refine ax_aload B dX0_deepest_67 hl 0 rfl ?_
      refine ax_getI B ff_X0_357_28 (fun _ _ => rfl) dX0_deepest_69 e (fun v9 e => ?_)
      refine ax_aload_n B dX0_deepest_72 rfl hl 3 rfl ?_
      refine ax_getI B ff_X0_357_28 (fun _ _ => rfl) dX0_deepest_73 e (fun v10 e => ?_)
      refine ax_icmp_eq (tgt := 82) B dX0_deepest_76 (by decide) e (fun e => ?_) (fun e => ?_)
      · refine ax_iload B dX0_deepest_82 hl 5 rfl ?_
        refine ax_iload_n B dX0_deepest_84 rfl hl 2 rfl ?_
        refine ax_icmp_ge (tgt := 90) B dX0_deepest_85 (by decide) e (fun e => ?_) (fun e => ?_)
        · obtain ⟨w, e9_1, rfl⟩ := Option.map_eq_some_iff.mp e
          have e := e9_1
          refine ax_iconst B dX0_deepest_88 ?_
          have e8 := e
          have hp : Q = _ := hp
          subst hp
          exact ax_ireturn B Z dX0_deepest_89 e8
        · refine ax_iload_n B dX0_deepest_90 rfl hl 4 rfl ?_
          refine ax_aload B dX0_deepest_91 hl 0 rfl ?_
          refine ax_getI B ff_X0_351_28 (fun _ _ => rfl) dX0_deepest_93 e (fun v11 e => ?_)
          refine ax_isI (y := yJ3_max_2) (n := 2) (As := [.int (Int32.ofInt x3), .int (Int32.ofInt v11)]) B (lw_S q1514 q1265 q134 q1266) (by decide +kernel) ⟨Nat.le_of_ble_eq_true rfl, Nat.le_of_ble_eq_true rfl⟩ (fun w1 e1 => mt_J3_max_2 l G hSF x3 v11 _ w1 e1) rfl hl.size (by decide) dX0_deepest_96 e (fun q12 e => ?_)
          refine ax_istore_n (L' := [(3, .inl q12.1), (5, .inr (.inr q6.1)), (0, .inr (.inr x0)), (1, .inl x1), (2, .inr (.inr x2)), (4, .inl x4)]) B dX0_deepest_99 rfl hl (by decide) rfl (fun ls hl => ?_)
          exact w_X0_deepest_100 hSF B Z hn x0 x1 x2 q12.1 x4 (hl.sub [2, 3, 4, 0, 5] rfl) e hp
      · refine ax_goto (tgt := 100) B dX0_deepest_79 (by decide) ?_
        exact w_X0_deepest_100 hSF B Z hn x0 x1 x2 x3 x4 (hl.sub [1, 2, 3, 4, 5] rfl) e hp
    · exact w_X0_deepest_100 hSF B Z hn x0 x1 x2 x3 x4 (hl.sub [1, 2, 3, 4, 5] rfl) e hp
  · obtain ⟨w, e9_2, rfl⟩ := Option.map_eq_some_iff.mp e
    have e := e9_2
    refine ax_iload_n B dX0_deepest_106 rfl hl 3 rfl ?_
    have e8 := e
    have hp : Q = _ := hp
    subst hp
    exact ax_ireturn B Z dX0_deepest_107 e8
theorem w_X0_deepest_23 {l : Launch} {G : ax_G} {X : ax_X} {Q : State → Prop} {h0 h : ax_H} {ls : Array Slot} (hSF : ax_SF G) (B : ax_BL l G X cX0_deepest 6 RX0 4 104) (Z : ax_Z X h0 ((some FieldType.int))) (hn : X.2.2.2.2.2.2.2.2.1.name = yX0_deepest.name) (x0 : Option Nat) (x1 : Int) (x2 : Option Nat) (x3 : Int) (x4 : Int) {w : Int × ax_H} (hl : ax_hl ls 6 [(0, .inr (.inr x0)), (1, .inl x1), (2, .inr (.inr x2)), (3, .inl x3), (4, .inl x4)]) (e : f_X0_deepest_23 G.2.2 x0 x1 x2 x3 x4 h = some w) (hp : (fun w : Int × ax_H => Q = ax_Q G X h0 w.2 (some (.int (Int32.ofInt w.1)))) w) : ax_W G X Q h 23 ls [] :=
  ax_iter_W (Pin := pi_X0_deepest_23 G X Q x0 x1 x2) (Pout := (fun w : Int × ax_H => Q = ax_Q G X h0 w.2 (some (.int (Int32.ofInt w.1))))) (fun s w e hp ls hl => wb_X0_deepest_23 hSF B Z hn x0 x1 x2 s.1 s.2.1 hl e hp) _ _ e hp ls hl
set_option maxHeartbeats 4000000 in
theorem we_X0_deepest {l : Launch} {G : ax_G} {X : ax_X} {Q : State → Prop} {h0 h : ax_H} {ls : Array Slot} (hSF : ax_SF G) (B : ax_BL l G X cX0_deepest 6 RX0 4 104) (Z : ax_Z X h0 ((some FieldType.int))) (hn : X.2.2.2.2.2.2.2.2.1.name = yX0_deepest.name) (x0 : Option Nat) (x1 : Int) {w : Int × ax_H} (hl : ax_hl ls 6 [(0, .inr (.inr x0)), (1, .inl x1)]) (e : f_X0_deepest G.2.2 x0 x1 h = some w) (hp : (fun w : Int × ax_H => Q = ax_Q G X h0 w.2 (some (.int (Int32.ofInt w.1)))) w) : ax_W G X Q h 0 ls [] := by
  unfold f_X0_deepest at e
  refine ax_aload_n B dX0_deepest_0 rfl hl 0 rfl ?_
  refine ax_getR B ff_X0_20_0 (fun _ _ => rfl) dX0_deepest_1 e (fun v1 e => ?_)
  refine ax_getR B ff_X0_343_1 (fun _ _ => rfl) dX0_deepest_4 e (fun v2 e => ?_)
  refine ax_iload_n B dX0_deepest_7 rfl hl 1 rfl ?_
  refine ax_ivR (y := yJ2_get) (n := 1) (As := [.int (Int32.ofInt x1)]) B kd42 (lw_V q524 q525 q526 q129 q527) (by decide +kernel) ⟨Nat.le_of_ble_eq_true rfl, Nat.le_of_ble_eq_true rfl⟩ (fun w1 e1 => mt_J2_get l G hSF v2 x1 _ w1 e1) rfl hl.size (by decide) dX0_deepest_8 e (fun q3 e => ?_)
  refine ax_ckc B kd28 q1470 dX0_deepest_11 e (fun e => ?_)
  refine ax_astore_n (L' := [(2, .inr (.inr q3.1)), (0, .inr (.inr x0)), (1, .inl x1)]) B dX0_deepest_14 rfl hl (by decide) rfl (fun ls hl => ?_)
  refine ax_aload_n B dX0_deepest_15 rfl hl 0 rfl ?_
  refine ax_getI B ff_X0_351_28 (fun _ _ => rfl) dX0_deepest_16 e (fun v4 e => ?_)
  refine ax_istore_n (L' := [(3, .inl v4), (2, .inr (.inr q3.1)), (0, .inr (.inr x0)), (1, .inl x1)]) B dX0_deepest_19 rfl hl (by decide) rfl (fun ls hl => ?_)
  refine ax_iconst B dX0_deepest_20 ?_
  refine ax_istore (L' := [(4, .inl 0), (3, .inl v4), (2, .inr (.inr q3.1)), (0, .inr (.inr x0)), (1, .inl x1)]) B dX0_deepest_21 hl (by decide) rfl (fun ls hl => ?_)
  exact w_X0_deepest_23 hSF B Z hn x0 x1 q3.1 v4 0 (hl.sub [3, 4, 2, 1, 0] rfl) e hp
theorem mt_X0_deepest (l : Launch) (G : ax_G) (hSF : ax_SF G) (x0 : Option Nat) (x1 : Int) (h : ax_H) (w : Int × ax_H) (e : f_X0_deepest G.2.2 x0 x1 h = some w) : ax_Met l G yX0_deepest cX0_deepest 6 ((some FieldType.int)) 4 104 [va_rf x0, .int (Int32.ofInt x1)] h w.2 (some (.int (Int32.ofInt w.1))) :=
  ax_enter [.inr (.inr x0), .inl x1] (y := yX0_deepest) hSF (plainFor_of_name (by decide +kernel)) (Nat.le_of_ble_eq_true rfl) (fun X ls B Z hn hl => we_X0_deepest hSF B Z hn x0 x1 hl e rfl)
def dkwX29_init_1 : List UInt8 := [188, 10, 181, 0, 21, 43, 180, 0, 24, 3, 50, 43, 182, 0, 30, 182, 0, 34, 87, 177]
abbrev dktX29_init_1 : List UInt8 := dkwX29_init_1 ++ []
def dkwX29_init_0 : List UInt8 := [42, 43, 181, 0, 1, 42, 183, 0, 7, 42, 28, 181, 0, 13, 42, 28, 188, 10, 181, 0, 17, 42, 28]
abbrev dktX29_init_0 : List UInt8 := dkwX29_init_0 ++ dktX29_init_1
theorem dksX29_init_0 : cX29_init.data.toList.drop 0 = dktX29_init_0 := by decide +kernel
theorem dksX29_init_1 : cX29_init.data.toList.drop 23 = dktX29_init_1 := dk_seg dksX29_init_0 23 rfl rfl
theorem dX29_init_0 : decode cX29_init 0 = .ok (.aload_n 0, 1) := dk_42 (dk_at dksX29_init_0 0 rfl rfl)
theorem dX29_init_1 : decode cX29_init 1 = .ok (.aload_n 1, 1) := dk_43 (dk_at dksX29_init_0 1 rfl rfl)
theorem dX29_init_2 : decode cX29_init 2 = .ok (.putfield 1, 3) := dk_181 0 1 (dk_at dksX29_init_0 2 rfl rfl)
theorem dX29_init_5 : decode cX29_init 5 = .ok (.aload_n 0, 1) := dk_42 (dk_at dksX29_init_0 5 rfl rfl)
theorem dX29_init_6 : decode cX29_init 6 = .ok (.invokespecial 7, 3) := dk_183 0 7 (dk_at dksX29_init_0 6 rfl rfl)
theorem dX29_init_9 : decode cX29_init 9 = .ok (.aload_n 0, 1) := dk_42 (dk_at dksX29_init_0 9 rfl rfl)
theorem dX29_init_10 : decode cX29_init 10 = .ok (.iload_n 2, 1) := dk_28 (dk_at dksX29_init_0 10 rfl rfl)
theorem dX29_init_11 : decode cX29_init 11 = .ok (.putfield 13, 3) := dk_181 0 13 (dk_at dksX29_init_0 11 rfl rfl)
theorem dX29_init_14 : decode cX29_init 14 = .ok (.aload_n 0, 1) := dk_42 (dk_at dksX29_init_0 14 rfl rfl)
theorem dX29_init_15 : decode cX29_init 15 = .ok (.iload_n 2, 1) := dk_28 (dk_at dksX29_init_0 15 rfl rfl)
theorem dX29_init_16 : decode cX29_init 16 = .ok (.newarray .int, 2) := dk_188_10 (dk_at dksX29_init_0 16 rfl rfl)
theorem dX29_init_18 : decode cX29_init 18 = .ok (.putfield 17, 3) := dk_181 0 17 (dk_at dksX29_init_0 18 rfl rfl)
theorem dX29_init_21 : decode cX29_init 21 = .ok (.aload_n 0, 1) := dk_42 (dk_at dksX29_init_0 21 rfl rfl)
theorem dX29_init_22 : decode cX29_init 22 = .ok (.iload_n 2, 1) := dk_28 (dk_at dksX29_init_0 22 rfl rfl)
theorem dX29_init_23 : decode cX29_init 23 = .ok (.newarray .int, 2) := dk_188_10 (dk_at dksX29_init_1 0 rfl rfl)
theorem dX29_init_25 : decode cX29_init 25 = .ok (.putfield 21, 3) := dk_181 0 21 (dk_at dksX29_init_1 2 rfl rfl)
theorem dX29_init_28 : decode cX29_init 28 = .ok (.aload_n 1, 1) := dk_43 (dk_at dksX29_init_1 5 rfl rfl)
theorem dX29_init_29 : decode cX29_init 29 = .ok (.getfield 24, 3) := dk_180 0 24 (dk_at dksX29_init_1 6 rfl rfl)
theorem dX29_init_32 : decode cX29_init 32 = .ok (.iconst 0, 1) := dk_3 (dk_at dksX29_init_1 9 rfl rfl)
theorem dX29_init_33 : decode cX29_init 33 = .ok (.aaload, 1) := dk_50 (dk_at dksX29_init_1 10 rfl rfl)
theorem dX29_init_34 : decode cX29_init 34 = .ok (.aload_n 1, 1) := dk_43 (dk_at dksX29_init_1 11 rfl rfl)
theorem dX29_init_35 : decode cX29_init 35 = .ok (.invokevirtual 30, 3) := dk_182 0 30 (dk_at dksX29_init_1 12 rfl rfl)
theorem dX29_init_38 : decode cX29_init 38 = .ok (.invokevirtual 34, 3) := dk_182 0 34 (dk_at dksX29_init_1 15 rfl rfl)
theorem dX29_init_41 : decode cX29_init 41 = .ok (.pop, 1) := dk_87 (dk_at dksX29_init_1 18 rfl rfl)
theorem dX29_init_42 : decode cX29_init 42 = .ok (.return_, 1) := dk_177 (dk_at dksX29_init_1 19 rfl rfl)
noncomputable def f_X29_init (E : ax_E) (x0 : Option Nat) (x1 : Option Nat) (x2 : Int) (h : ax_H) : Option (ax_H) :=
  (ax_pRs h x0 [(30, 4), (31, 4)] x1).bind fun h1 =>
  x0.bind fun _ =>
  (ax_pIs h1 x0 [(30, 0), (31, 0)] x2).bind fun h2 =>
  (ax_na E h2 100 x2).bind fun q3 =>
  (ax_pRs q3.2 x0 [(30, 2), (31, 2)] (some q3.1)).bind fun h4 =>
  (ax_na E h4 100 x2).bind fun q5 =>
  (ax_pRs q5.2 x0 [(30, 1), (31, 1)] (some q5.1)).bind fun h6 =>
  (ax_gR E h6 x1 0 14).bind fun v7 =>
  (ax_ldR E h6 v7 107 0).bind fun v8 =>
  (ax_ce E h6 x1 0).bind fun _ => (f_X0_books E x1 h6).bind fun q9 =>
  (ax_ce E q9.2 v8 2).bind fun _ => (f_X2_as E v8 q9.1 q9.2).bind fun q10 =>
  some q10.2
set_option maxHeartbeats 4000000 in
theorem we_X29_init {l : Launch} {G : ax_G} {X : ax_X} {Q : State → Prop} {h0 h : ax_H} {ls : Array Slot} (hSF : ax_SF G) (B : ax_BL l G X cX29_init 3 RX29 3 85) (Z : ax_Z X h0 none) (hn : X.2.2.2.2.2.2.2.2.1.name = yX29_init.name) (x0 : Option Nat) (x1 : Option Nat) (x2 : Int) {w : ax_H} (hl : ax_hl ls 3 [(0, .inr (.inr x0)), (1, .inr (.inr x1)), (2, .inl x2)]) (e : f_X29_init G.2.2 x0 x1 x2 h = some w) (hp : (fun w : ax_H => Q = ax_Q G X h0 w none) w) : ax_W G X Q h 0 ls [] := by
  unfold f_X29_init at e
  refine ax_aload_n B dX29_init_0 rfl hl 0 rfl ?_
  refine ax_aload_n B dX29_init_1 rfl hl 1 rfl ?_
  refine ax_putRs B fs_X29_1 (Or.inr ⟨rfl, rfl, hn⟩) rfl dX29_init_2 e (fun h1 e => ?_)
  refine ax_aload_n B dX29_init_5 rfl hl 0 rfl ?_
  refine ax_oiR B q1523 q183 q184 hl.size (by decide) (by decide) dX29_init_6 e (fun e => ?_)
  refine ax_aload_n B dX29_init_9 rfl hl 0 rfl ?_
  refine ax_iload_n B dX29_init_10 rfl hl 2 rfl ?_
  refine ax_putIs B fs_X29_13 (Or.inr ⟨rfl, rfl, hn⟩) rfl dX29_init_11 e (fun h2 e => ?_)
  refine ax_aload_n B dX29_init_14 rfl hl 0 rfl ?_
  refine ax_iload_n B dX29_init_15 rfl hl 2 rfl ?_
  refine ax_newa (atype := .int) B kd100 q259 rfl (by decide) dX29_init_16 e (fun q3 e => ?_)
  refine ax_putRs B fs_X29_17 (Or.inr ⟨rfl, rfl, hn⟩) rfl dX29_init_18 e (fun h4 e => ?_)
  refine ax_aload_n B dX29_init_21 rfl hl 0 rfl ?_
  refine ax_iload_n B dX29_init_22 rfl hl 2 rfl ?_
  refine ax_newa (atype := .int) B kd100 q259 rfl (by decide) dX29_init_23 e (fun q5 e => ?_)
  refine ax_putRs B fs_X29_21 (Or.inr ⟨rfl, rfl, hn⟩) rfl dX29_init_25 e (fun h6 e => ?_)
  refine ax_aload_n B dX29_init_28 rfl hl 1 rfl ?_
  refine ax_getR B ff_X29_24_0 (fun _ _ => rfl) dX29_init_29 e (fun v7 e => ?_)
  refine ax_iconst B dX29_init_32 ?_
  refine ax_aald rfl B kd107 dX29_init_33 e (fun v8 e => ?_)
  refine ax_aload_n B dX29_init_34 rfl hl 1 rfl ?_
  refine ax_ivNR (y := yX0_books) (n := 0) (As := []) B kd0 q1524 q445 qs2 q125 q446 (by decide +kernel) ⟨Nat.le_of_ble_eq_true rfl, Nat.le_of_ble_eq_true rfl⟩ (fun w1 e1 => mt_X0_books l G hSF x1 _ w1 e1) rfl hl.size (by simp only [List.map_cons, List.map_nil, List.sum_cons, List.sum_nil, va_rf_cat, ax_catI, ax_catL]; decide) dX29_init_35 e (fun q9 e => ?_)
  refine ax_ivR (y := yX2_as) (n := 1) (As := [va_rf q9.1]) B kd2 (lw_V q1525 q1378 q1379 q130 q1380) (by decide +kernel) ⟨Nat.le_of_ble_eq_true rfl, Nat.le_of_ble_eq_true rfl⟩ (fun w1 e1 => mt_X2_as l G hSF v8 q9.1 _ w1 e1) rfl hl.size (by decide) dX29_init_38 e (fun q10 e => ?_)
  refine ax_pop B dX29_init_41 (va_rf_cat _) ?_
  have e8 := e
  have hp : Q = _ := hp
  subst hp
  exact ax_return B Z dX29_init_42 e8
theorem mt_X29_init (l : Launch) (G : ax_G) (hSF : ax_SF G) (x0 : Option Nat) (x1 : Option Nat) (x2 : Int) (h : ax_H) (w : ax_H) (e : f_X29_init G.2.2 x0 x1 x2 h = some w) : ax_Met l G yX29_init cX29_init 3 none 3 85 [va_rf x0, va_rf x1, .int (Int32.ofInt x2)] h w none :=
  ax_enter [.inr (.inr x0), .inr (.inr x1), .inl x2] (y := yX29_init) hSF (plainFor_of_name (by decide +kernel)) (Nat.le_of_ble_eq_true rfl) (fun X ls B Z hn hl => we_X29_init hSF B Z hn x0 x1 x2 hl e rfl)
def dkwX30_init_2 : List UInt8 := [167, 255, 237, 42, 21, 5, 181, 0, 20, 177]
abbrev dktX30_init_2 : List UInt8 := dkwX30_init_2 ++ []
def dkwX30_init_1 : List UInt8 := [54, 5, 3, 54, 6, 21, 6, 21, 4, 162, 0, 18, 21, 5, 44, 21, 6, 46, 96, 54, 5, 132, 6, 1]
abbrev dktX30_init_1 : List UInt8 := dkwX30_init_1 ++ dktX30_init_2
def dkwX30_init_0 : List UInt8 := [42, 43, 181, 0, 1, 42, 43, 21, 4, 183, 0, 7, 42, 44, 181, 0, 13, 42, 45, 181, 0, 17, 3]
abbrev dktX30_init_0 : List UInt8 := dkwX30_init_0 ++ dktX30_init_1
theorem dksX30_init_0 : cX30_init.data.toList.drop 0 = dktX30_init_0 := by decide +kernel
theorem dksX30_init_1 : cX30_init.data.toList.drop 23 = dktX30_init_1 := dk_seg dksX30_init_0 23 rfl rfl
theorem dksX30_init_2 : cX30_init.data.toList.drop 47 = dktX30_init_2 := dk_seg dksX30_init_1 24 rfl rfl
theorem dX30_init_0 : decode cX30_init 0 = .ok (.aload_n 0, 1) := dk_42 (dk_at dksX30_init_0 0 rfl rfl)
theorem dX30_init_1 : decode cX30_init 1 = .ok (.aload_n 1, 1) := dk_43 (dk_at dksX30_init_0 1 rfl rfl)
theorem dX30_init_2 : decode cX30_init 2 = .ok (.putfield 1, 3) := dk_181 0 1 (dk_at dksX30_init_0 2 rfl rfl)
theorem dX30_init_5 : decode cX30_init 5 = .ok (.aload_n 0, 1) := dk_42 (dk_at dksX30_init_0 5 rfl rfl)
theorem dX30_init_6 : decode cX30_init 6 = .ok (.aload_n 1, 1) := dk_43 (dk_at dksX30_init_0 6 rfl rfl)
theorem dX30_init_7 : decode cX30_init 7 = .ok (.iload 4, 2) := dk_21 4 (dk_at dksX30_init_0 7 rfl rfl)
theorem dX30_init_9 : decode cX30_init 9 = .ok (.invokespecial 7, 3) := dk_183 0 7 (dk_at dksX30_init_0 9 rfl rfl)
theorem dX30_init_12 : decode cX30_init 12 = .ok (.aload_n 0, 1) := dk_42 (dk_at dksX30_init_0 12 rfl rfl)
theorem dX30_init_13 : decode cX30_init 13 = .ok (.aload_n 2, 1) := dk_44 (dk_at dksX30_init_0 13 rfl rfl)
theorem dX30_init_14 : decode cX30_init 14 = .ok (.putfield 13, 3) := dk_181 0 13 (dk_at dksX30_init_0 14 rfl rfl)
theorem dX30_init_17 : decode cX30_init 17 = .ok (.aload_n 0, 1) := dk_42 (dk_at dksX30_init_0 17 rfl rfl)
theorem dX30_init_18 : decode cX30_init 18 = .ok (.aload_n 3, 1) := dk_45 (dk_at dksX30_init_0 18 rfl rfl)
theorem dX30_init_19 : decode cX30_init 19 = .ok (.putfield 17, 3) := dk_181 0 17 (dk_at dksX30_init_0 19 rfl rfl)
theorem dX30_init_22 : decode cX30_init 22 = .ok (.iconst 0, 1) := dk_3 (dk_at dksX30_init_0 22 rfl rfl)
theorem dX30_init_23 : decode cX30_init 23 = .ok (.istore 5, 2) := dk_54 5 (dk_at dksX30_init_1 0 rfl rfl)
theorem dX30_init_25 : decode cX30_init 25 = .ok (.iconst 0, 1) := dk_3 (dk_at dksX30_init_1 2 rfl rfl)
theorem dX30_init_26 : decode cX30_init 26 = .ok (.istore 6, 2) := dk_54 6 (dk_at dksX30_init_1 3 rfl rfl)
theorem dX30_init_28 : decode cX30_init 28 = .ok (.iload 6, 2) := dk_21 6 (dk_at dksX30_init_1 5 rfl rfl)
theorem dX30_init_30 : decode cX30_init 30 = .ok (.iload 4, 2) := dk_21 4 (dk_at dksX30_init_1 7 rfl rfl)
theorem dX30_init_32 : decode cX30_init 32 = .ok (.if_icmp .ge 18, 3) := dk_162 0 18 (dk_at dksX30_init_1 9 rfl rfl)
theorem dX30_init_35 : decode cX30_init 35 = .ok (.iload 5, 2) := dk_21 5 (dk_at dksX30_init_1 12 rfl rfl)
theorem dX30_init_37 : decode cX30_init 37 = .ok (.aload_n 2, 1) := dk_44 (dk_at dksX30_init_1 14 rfl rfl)
theorem dX30_init_38 : decode cX30_init 38 = .ok (.iload 6, 2) := dk_21 6 (dk_at dksX30_init_1 15 rfl rfl)
theorem dX30_init_40 : decode cX30_init 40 = .ok (.iaload, 1) := dk_46 (dk_at dksX30_init_1 17 rfl rfl)
theorem dX30_init_41 : decode cX30_init 41 = .ok (.iadd, 1) := dk_96 (dk_at dksX30_init_1 18 rfl rfl)
theorem dX30_init_42 : decode cX30_init 42 = .ok (.istore 5, 2) := dk_54 5 (dk_at dksX30_init_1 19 rfl rfl)
theorem dX30_init_44 : decode cX30_init 44 = .ok (.iinc 6 1, 3) := dk_132 6 1 (dk_at dksX30_init_1 21 rfl rfl)
theorem dX30_init_47 : decode cX30_init 47 = .ok (.goto (-19), 3) := dk_167 255 237 (dk_at dksX30_init_2 0 rfl rfl)
theorem dX30_init_50 : decode cX30_init 50 = .ok (.aload_n 0, 1) := dk_42 (dk_at dksX30_init_2 3 rfl rfl)
theorem dX30_init_51 : decode cX30_init 51 = .ok (.iload 5, 2) := dk_21 5 (dk_at dksX30_init_2 4 rfl rfl)
theorem dX30_init_53 : decode cX30_init 53 = .ok (.putfield 20, 3) := dk_181 0 20 (dk_at dksX30_init_2 6 rfl rfl)
theorem dX30_init_56 : decode cX30_init 56 = .ok (.return_, 1) := dk_177 (dk_at dksX30_init_2 9 rfl rfl)
noncomputable def lb_X30_init_28 (E : ax_E) (x0 : Option Nat) (x2 : Option Nat) (x4 : Int) (x5 : Int) (x6 : Int) (h : ax_H) : Option ((Int × Int × ax_H) ⊕ (ax_H)) :=
  if i2 x6 < i2 x4 then
    (ax_ld E h x2 100 x6).bind fun v1 =>
    some (.inl ((x5 + v1), (x6 + 1), h))
  else
    ((ax_pI h x0 30 7 x5).bind fun h2 =>
    some h2).map Sum.inr
noncomputable def f_X30_init_28 (E : ax_E) (x0 : Option Nat) (x2 : Option Nat) (x4 : Int) (x5 : Int) (x6 : Int) (h : ax_H) : Option (ax_H) :=
  ax_iter (fun s : Int × Int × ax_H => lb_X30_init_28 E x0 x2 x4 s.1 s.2.1 s.2.2) (x5, x6, h)
noncomputable def f_X30_init (E : ax_E) (x0 : Option Nat) (x1 : Option Nat) (x2 : Option Nat) (x3 : Option Nat) (x4 : Int) (h : ax_H) : Option (ax_H) :=
  (ax_pR h x0 30 8 x1).bind fun h1 =>
  x0.bind fun _ => (f_X29_init E x0 x1 x4 h1).bind fun h2 =>
  (ax_pR h2 x0 30 5 x2).bind fun h3 =>
  (ax_pR h3 x0 30 6 x3).bind fun h4 =>
  f_X30_init_28 E x0 x2 x4 0 0 h4
def pi_X30_init_28 (G : ax_G) (X : ax_X) (Q : State → Prop) (x0 : Option Nat) (x2 : Option Nat) (x4 : Int) : Int × Int × ax_H → Prop := fun s => ∀ ls : Array Slot, ax_hl ls 7 [(0, .inr (.inr x0)), (2, .inr (.inr x2)), (4, .inl x4), (5, .inl s.1), (6, .inl s.2.1)] → ax_W G X Q s.2.2 28 ls []
set_option maxHeartbeats 4000000 in
theorem wb_X30_init_28 {l : Launch} {G : ax_G} {X : ax_X} {Q : State → Prop} {h0 h : ax_H} {ls : Array Slot} (hSF : ax_SF G) (B : ax_BL l G X cX30_init 7 RX30 4 107) (Z : ax_Z X h0 none) (hn : X.2.2.2.2.2.2.2.2.1.name = yX30_init.name) (x0 : Option Nat) (x2 : Option Nat) (x4 : Int) (x5 : Int) (x6 : Int) {w : (Int × Int × ax_H) ⊕ (ax_H)} (hl : ax_hl ls 7 [(0, .inr (.inr x0)), (2, .inr (.inr x2)), (4, .inl x4), (5, .inl x5), (6, .inl x6)]) (e : lb_X30_init_28 G.2.2 x0 x2 x4 x5 x6 h = some w) (hp : (ax_PL (pi_X30_init_28 G X Q x0 x2 x4) (fun w : ax_H => Q = ax_Q G X h0 w none)) w) : ax_W G X Q h 28 ls [] := by
  unfold lb_X30_init_28 at e
  refine ax_iload B dX30_init_28 hl 4 rfl ?_
  refine ax_iload B dX30_init_30 hl 2 rfl ?_
  refine ax_icmp_ge (tgt := 50) B dX30_init_32 (by decide) e (fun e => ?_) (fun e => ?_)
  · refine ax_iload B dX30_init_35 hl 3 rfl ?_
    refine ax_aload_n B dX30_init_37 rfl hl 1 rfl ?_
    refine ax_iload B dX30_init_38 hl 4 rfl ?_
    refine ax_iald B kd100 dX30_init_40 e (fun v1 e => ?_)
    refine ax_iadd' B dX30_init_41 ?_
    refine ax_istore (L' := [(5, .inl (x5 + v1)), (0, .inr (.inr x0)), (2, .inr (.inr x2)), (4, .inl x4), (6, .inl x6)]) B dX30_init_42 hl (by decide) rfl (fun ls hl => ?_)
    refine ax_iinc (L' := [(6, .inl (x6 + 1)), (5, .inl (x5 + v1)), (0, .inr (.inr x0)), (2, .inr (.inr x2)), (4, .inl x4)]) B dX30_init_44 hl 4 rfl (by decide) rfl (fun ls hl => ?_)
    refine ax_goto (tgt := 28) B dX30_init_47 (by decide) ?_
    cases e
    exact hp _ (hl.sub [2, 3, 4, 1, 0] rfl)
  · obtain ⟨w, e9_1, rfl⟩ := Option.map_eq_some_iff.mp e
    have e := e9_1
    refine ax_aload_n B dX30_init_50 rfl hl 0 rfl ?_
    refine ax_iload B dX30_init_51 hl 3 rfl ?_
    refine ax_putI B ff_X30_20_30 (Or.inr ⟨rfl, rfl, hn⟩) rfl dX30_init_53 e (fun h2 e => ?_)
    have e8 := e
    have hp : Q = _ := hp
    subst hp
    exact ax_return B Z dX30_init_56 e8
theorem w_X30_init_28 {l : Launch} {G : ax_G} {X : ax_X} {Q : State → Prop} {h0 h : ax_H} {ls : Array Slot} (hSF : ax_SF G) (B : ax_BL l G X cX30_init 7 RX30 4 107) (Z : ax_Z X h0 none) (hn : X.2.2.2.2.2.2.2.2.1.name = yX30_init.name) (x0 : Option Nat) (x2 : Option Nat) (x4 : Int) (x5 : Int) (x6 : Int) {w : ax_H} (hl : ax_hl ls 7 [(0, .inr (.inr x0)), (2, .inr (.inr x2)), (4, .inl x4), (5, .inl x5), (6, .inl x6)]) (e : f_X30_init_28 G.2.2 x0 x2 x4 x5 x6 h = some w) (hp : (fun w : ax_H => Q = ax_Q G X h0 w none) w) : ax_W G X Q h 28 ls [] :=
  ax_iter_W (Pin := pi_X30_init_28 G X Q x0 x2 x4) (Pout := (fun w : ax_H => Q = ax_Q G X h0 w none)) (fun s w e hp ls hl => wb_X30_init_28 hSF B Z hn x0 x2 x4 s.1 s.2.1 hl e hp) _ _ e hp ls hl
set_option maxHeartbeats 4000000 in
theorem we_X30_init {l : Launch} {G : ax_G} {X : ax_X} {Q : State → Prop} {h0 h : ax_H} {ls : Array Slot} (hSF : ax_SF G) (B : ax_BL l G X cX30_init 7 RX30 4 107) (Z : ax_Z X h0 none) (hn : X.2.2.2.2.2.2.2.2.1.name = yX30_init.name) (x0 : Option Nat) (x1 : Option Nat) (x2 : Option Nat) (x3 : Option Nat) (x4 : Int) {w : ax_H} (hl : ax_hl ls 7 [(0, .inr (.inr x0)), (1, .inr (.inr x1)), (2, .inr (.inr x2)), (3, .inr (.inr x3)), (4, .inl x4)]) (e : f_X30_init G.2.2 x0 x1 x2 x3 x4 h = some w) (hp : (fun w : ax_H => Q = ax_Q G X h0 w none) w) : ax_W G X Q h 0 ls [] := by
  unfold f_X30_init at e
  refine ax_aload_n B dX30_init_0 rfl hl 0 rfl ?_
  refine ax_aload_n B dX30_init_1 rfl hl 1 rfl ?_
  refine ax_putR B ff_X30_1_30 (Or.inr ⟨rfl, rfl, hn⟩) rfl dX30_init_2 e (fun h1 e => ?_)
  refine ax_aload_n B dX30_init_5 rfl hl 0 rfl ?_
  refine ax_aload_n B dX30_init_6 rfl hl 1 rfl ?_
  refine ax_iload B dX30_init_7 hl 4 rfl ?_
  refine ax_iiR (y := yX29_init) (n := 2) (As := [va_rf x1, .int (Int32.ofInt x4)]) B q1520 q1521 q171 q1522 rfl (by decide +kernel) ⟨Nat.le_of_ble_eq_true rfl, Nat.le_of_ble_eq_true rfl⟩ (fun w1 e1 => mt_X29_init l G hSF x0 x1 x4 _ w1 e1) rfl hl.size (by decide) dX30_init_9 e (fun h2 e => ?_)
  refine ax_aload_n B dX30_init_12 rfl hl 0 rfl ?_
  refine ax_aload_n B dX30_init_13 rfl hl 2 rfl ?_
  refine ax_putR B ff_X30_13_30 (Or.inr ⟨rfl, rfl, hn⟩) rfl dX30_init_14 e (fun h3 e => ?_)
  refine ax_aload_n B dX30_init_17 rfl hl 0 rfl ?_
  refine ax_aload_n B dX30_init_18 rfl hl 3 rfl ?_
  refine ax_putR B ff_X30_17_30 (Or.inr ⟨rfl, rfl, hn⟩) rfl dX30_init_19 e (fun h4 e => ?_)
  refine ax_iconst B dX30_init_22 ?_
  refine ax_istore (L' := [(5, .inl 0), (0, .inr (.inr x0)), (1, .inr (.inr x1)), (2, .inr (.inr x2)), (3, .inr (.inr x3)), (4, .inl x4)]) B dX30_init_23 hl (by decide) rfl (fun ls hl => ?_)
  refine ax_iconst B dX30_init_25 ?_
  refine ax_istore (L' := [(6, .inl 0), (5, .inl 0), (0, .inr (.inr x0)), (1, .inr (.inr x1)), (2, .inr (.inr x2)), (3, .inr (.inr x3)), (4, .inl x4)]) B dX30_init_26 hl (by decide) rfl (fun ls hl => ?_)
  exact w_X30_init_28 hSF B Z hn x0 x2 x4 0 0 (hl.sub [2, 4, 6, 1, 0] rfl) e hp
theorem mt_X30_init (l : Launch) (G : ax_G) (hSF : ax_SF G) (x0 : Option Nat) (x1 : Option Nat) (x2 : Option Nat) (x3 : Option Nat) (x4 : Int) (h : ax_H) (w : ax_H) (e : f_X30_init G.2.2 x0 x1 x2 x3 x4 h = some w) : ax_Met l G yX30_init cX30_init 7 none 4 107 [va_rf x0, va_rf x1, va_rf x2, va_rf x3, .int (Int32.ofInt x4)] h w none :=
  ax_enter [.inr (.inr x0), .inr (.inr x1), .inr (.inr x2), .inr (.inr x3), .inl x4] (y := yX30_init) hSF (plainFor_of_name (by decide +kernel)) (Nat.le_of_ble_eq_true rfl) (fun X ls B Z hn hl => we_X30_init hSF B Z hn x0 x1 x2 x3 x4 hl e rfl)
def dkwX0_has_0 : List UInt8 := [26, 27, 122, 4, 126, 4, 160, 0, 7, 4, 167, 0, 4, 3, 172]
abbrev dktX0_has_0 : List UInt8 := dkwX0_has_0 ++ []
theorem dksX0_has_0 : cX0_has.data.toList.drop 0 = dktX0_has_0 := by decide +kernel
theorem dX0_has_0 : decode cX0_has 0 = .ok (.iload_n 0, 1) := dk_26 (dk_at dksX0_has_0 0 rfl rfl)
theorem dX0_has_1 : decode cX0_has 1 = .ok (.iload_n 1, 1) := dk_27 (dk_at dksX0_has_0 1 rfl rfl)
theorem dX0_has_2 : decode cX0_has 2 = .ok (.ishr, 1) := dk_122 (dk_at dksX0_has_0 2 rfl rfl)
theorem dX0_has_3 : decode cX0_has 3 = .ok (.iconst 1, 1) := dk_4 (dk_at dksX0_has_0 3 rfl rfl)
theorem dX0_has_4 : decode cX0_has 4 = .ok (.iand, 1) := dk_126 (dk_at dksX0_has_0 4 rfl rfl)
theorem dX0_has_5 : decode cX0_has 5 = .ok (.iconst 1, 1) := dk_4 (dk_at dksX0_has_0 5 rfl rfl)
theorem dX0_has_6 : decode cX0_has 6 = .ok (.if_icmp .ne 7, 3) := dk_160 0 7 (dk_at dksX0_has_0 6 rfl rfl)
theorem dX0_has_9 : decode cX0_has 9 = .ok (.iconst 1, 1) := dk_4 (dk_at dksX0_has_0 9 rfl rfl)
theorem dX0_has_10 : decode cX0_has 10 = .ok (.goto 4, 3) := dk_167 0 4 (dk_at dksX0_has_0 10 rfl rfl)
theorem dX0_has_13 : decode cX0_has 13 = .ok (.iconst 0, 1) := dk_3 (dk_at dksX0_has_0 13 rfl rfl)
theorem dX0_has_14 : decode cX0_has 14 = .ok (.ireturn, 1) := dk_172 (dk_at dksX0_has_0 14 rfl rfl)
noncomputable def f_X0_has (E : ax_E) (x0 : Int) (x1 : Int) (h : ax_H) : Option (Int × ax_H) :=
  if i2 (ax_and (ax_shr x0 x1) 1) = i2 1 then
    some (1, h)
  else
    some (0, h)
set_option maxHeartbeats 4000000 in
theorem we_X0_has {l : Launch} {G : ax_G} {X : ax_X} {Q : State → Prop} {h0 h : ax_H} {ls : Array Slot} (hSF : ax_SF G) (B : ax_BL l G X cX0_has 2 RX0 1 40) (Z : ax_Z X h0 ((some FieldType.boolean))) (hn : X.2.2.2.2.2.2.2.2.1.name = yX0_has.name) (x0 : Int) (x1 : Int) {w : Int × ax_H} (hl : ax_hl ls 2 [(0, .inl x0), (1, .inl x1)]) (e : f_X0_has G.2.2 x0 x1 h = some w) (hp : (fun w : Int × ax_H => Q = ax_Q G X h0 w.2 (some (.int (Int32.ofInt w.1)))) w) : ax_W G X Q h 0 ls [] := by
  unfold f_X0_has at e
  refine ax_iload_n B dX0_has_0 rfl hl 0 rfl ?_
  refine ax_iload_n B dX0_has_1 rfl hl 1 rfl ?_
  refine ax_ishr' B dX0_has_2 ?_
  refine ax_iconst B dX0_has_3 ?_
  refine ax_iand' B dX0_has_4 ?_
  refine ax_iconst B dX0_has_5 ?_
  refine ax_icmp_ne (tgt := 13) B dX0_has_6 (by decide) e (fun e => ?_) (fun e => ?_)
  · refine ax_iconst B dX0_has_9 ?_
    refine ax_goto (tgt := 14) B dX0_has_10 (by decide) ?_
    have e8 := e
    have hp : Q = _ := hp
    subst hp
    exact ax_zreturnL (by decide) B Z dX0_has_14 e8
  · refine ax_iconst B dX0_has_13 ?_
    have e8 := e
    have hp : Q = _ := hp
    subst hp
    exact ax_zreturnL (by decide) B Z dX0_has_14 e8
theorem mt_X0_has (l : Launch) (G : ax_G) (hSF : ax_SF G) (x0 : Int) (x1 : Int) (h : ax_H) (w : Int × ax_H) (e : f_X0_has G.2.2 x0 x1 h = some w) : ax_Met l G yX0_has cX0_has 2 ((some FieldType.boolean)) 1 40 [.int (Int32.ofInt x0), .int (Int32.ofInt x1)] h w.2 (some (.int (Int32.ofInt w.1))) :=
  ax_enter [.inl x0, .inl x1] (y := yX0_has) hSF (plainFor_of_name (by decide +kernel)) (Nat.le_of_ble_eq_true rfl) (fun X ls B Z hn hl => we_X0_has hSF B Z hn x0 x1 hl e rfl)
def dkwX30_does_2 : List UInt8 := [180, 0, 43, 45, 180, 0, 46, 42, 180, 0, 13, 28, 46, 182, 0, 55, 4, 172]
abbrev dktX30_does_2 : List UInt8 := dkwX30_does_2 ++ []
def dkwX30_does_1 : List UInt8 := [45, 180, 0, 43, 45, 180, 0, 46, 42, 180, 0, 13, 28, 46, 182, 0, 49, 154, 0, 5, 3, 172, 43, 45]
abbrev dktX30_does_1 : List UInt8 := dkwX30_does_1 ++ dktX30_does_2
def dkwX30_does_0 : List UInt8 := [42, 180, 0, 1, 180, 0, 24, 180, 0, 30, 42, 180, 0, 17, 28, 46, 182, 0, 35, 192, 0, 41, 78, 43]
abbrev dktX30_does_0 : List UInt8 := dkwX30_does_0 ++ dktX30_does_1
theorem dksX30_does_0 : cX30_does.data.toList.drop 0 = dktX30_does_0 := by decide +kernel
theorem dksX30_does_1 : cX30_does.data.toList.drop 24 = dktX30_does_1 := dk_seg dksX30_does_0 24 rfl rfl
theorem dksX30_does_2 : cX30_does.data.toList.drop 48 = dktX30_does_2 := dk_seg dksX30_does_1 24 rfl rfl
theorem dX30_does_0 : decode cX30_does 0 = .ok (.aload_n 0, 1) := dk_42 (dk_at dksX30_does_0 0 rfl rfl)
theorem dX30_does_1 : decode cX30_does 1 = .ok (.getfield 1, 3) := dk_180 0 1 (dk_at dksX30_does_0 1 rfl rfl)
theorem dX30_does_4 : decode cX30_does 4 = .ok (.getfield 24, 3) := dk_180 0 24 (dk_at dksX30_does_0 4 rfl rfl)
theorem dX30_does_7 : decode cX30_does 7 = .ok (.getfield 30, 3) := dk_180 0 30 (dk_at dksX30_does_0 7 rfl rfl)
theorem dX30_does_10 : decode cX30_does 10 = .ok (.aload_n 0, 1) := dk_42 (dk_at dksX30_does_0 10 rfl rfl)
theorem dX30_does_11 : decode cX30_does 11 = .ok (.getfield 17, 3) := dk_180 0 17 (dk_at dksX30_does_0 11 rfl rfl)
theorem dX30_does_14 : decode cX30_does 14 = .ok (.iload_n 2, 1) := dk_28 (dk_at dksX30_does_0 14 rfl rfl)
theorem dX30_does_15 : decode cX30_does 15 = .ok (.iaload, 1) := dk_46 (dk_at dksX30_does_0 15 rfl rfl)
theorem dX30_does_16 : decode cX30_does 16 = .ok (.invokevirtual 35, 3) := dk_182 0 35 (dk_at dksX30_does_0 16 rfl rfl)
theorem dX30_does_19 : decode cX30_does 19 = .ok (.checkcast 41, 3) := dk_192 0 41 (dk_at dksX30_does_0 19 rfl rfl)
theorem dX30_does_22 : decode cX30_does 22 = .ok (.astore_n 3, 1) := dk_78 (dk_at dksX30_does_0 22 rfl rfl)
theorem dX30_does_23 : decode cX30_does 23 = .ok (.aload_n 1, 1) := dk_43 (dk_at dksX30_does_0 23 rfl rfl)
theorem dX30_does_24 : decode cX30_does 24 = .ok (.aload_n 3, 1) := dk_45 (dk_at dksX30_does_1 0 rfl rfl)
theorem dX30_does_25 : decode cX30_does 25 = .ok (.getfield 43, 3) := dk_180 0 43 (dk_at dksX30_does_1 1 rfl rfl)
theorem dX30_does_28 : decode cX30_does 28 = .ok (.aload_n 3, 1) := dk_45 (dk_at dksX30_does_1 4 rfl rfl)
theorem dX30_does_29 : decode cX30_does 29 = .ok (.getfield 46, 3) := dk_180 0 46 (dk_at dksX30_does_1 5 rfl rfl)
theorem dX30_does_32 : decode cX30_does 32 = .ok (.aload_n 0, 1) := dk_42 (dk_at dksX30_does_1 8 rfl rfl)
theorem dX30_does_33 : decode cX30_does 33 = .ok (.getfield 13, 3) := dk_180 0 13 (dk_at dksX30_does_1 9 rfl rfl)
theorem dX30_does_36 : decode cX30_does 36 = .ok (.iload_n 2, 1) := dk_28 (dk_at dksX30_does_1 12 rfl rfl)
theorem dX30_does_37 : decode cX30_does 37 = .ok (.iaload, 1) := dk_46 (dk_at dksX30_does_1 13 rfl rfl)
theorem dX30_does_38 : decode cX30_does 38 = .ok (.invokevirtual 49, 3) := dk_182 0 49 (dk_at dksX30_does_1 14 rfl rfl)
theorem dX30_does_41 : decode cX30_does 41 = .ok (.ifCond .ne 5, 3) := dk_154 0 5 (dk_at dksX30_does_1 17 rfl rfl)
theorem dX30_does_44 : decode cX30_does 44 = .ok (.iconst 0, 1) := dk_3 (dk_at dksX30_does_1 20 rfl rfl)
theorem dX30_does_45 : decode cX30_does 45 = .ok (.ireturn, 1) := dk_172 (dk_at dksX30_does_1 21 rfl rfl)
theorem dX30_does_46 : decode cX30_does 46 = .ok (.aload_n 1, 1) := dk_43 (dk_at dksX30_does_1 22 rfl rfl)
theorem dX30_does_47 : decode cX30_does 47 = .ok (.aload_n 3, 1) := dk_45 (dk_at dksX30_does_1 23 rfl rfl)
theorem dX30_does_48 : decode cX30_does 48 = .ok (.getfield 43, 3) := dk_180 0 43 (dk_at dksX30_does_2 0 rfl rfl)
theorem dX30_does_51 : decode cX30_does 51 = .ok (.aload_n 3, 1) := dk_45 (dk_at dksX30_does_2 3 rfl rfl)
theorem dX30_does_52 : decode cX30_does 52 = .ok (.getfield 46, 3) := dk_180 0 46 (dk_at dksX30_does_2 4 rfl rfl)
theorem dX30_does_55 : decode cX30_does 55 = .ok (.aload_n 0, 1) := dk_42 (dk_at dksX30_does_2 7 rfl rfl)
theorem dX30_does_56 : decode cX30_does 56 = .ok (.getfield 13, 3) := dk_180 0 13 (dk_at dksX30_does_2 8 rfl rfl)
theorem dX30_does_59 : decode cX30_does 59 = .ok (.iload_n 2, 1) := dk_28 (dk_at dksX30_does_2 11 rfl rfl)
theorem dX30_does_60 : decode cX30_does 60 = .ok (.iaload, 1) := dk_46 (dk_at dksX30_does_2 12 rfl rfl)
theorem dX30_does_61 : decode cX30_does 61 = .ok (.invokevirtual 55, 3) := dk_182 0 55 (dk_at dksX30_does_2 13 rfl rfl)
theorem dX30_does_64 : decode cX30_does 64 = .ok (.iconst 1, 1) := dk_4 (dk_at dksX30_does_2 16 rfl rfl)
theorem dX30_does_65 : decode cX30_does 65 = .ok (.ireturn, 1) := dk_172 (dk_at dksX30_does_2 17 rfl rfl)
noncomputable def f_X30_does (E : ax_E) (x0 : Option Nat) (x1 : Option Nat) (x2 : Int) (h : ax_H) : Option (Int × ax_H) :=
  (ax_gR E h x0 30 8).bind fun v1 =>
  (ax_gR E h v1 0 0).bind fun v2 =>
  (ax_gR E h v2 1 1).bind fun v3 =>
  (ax_gR E h x0 30 6).bind fun v4 =>
  (ax_ld E h v4 100 x2).bind fun v5 =>
  (ax_ce E h v3 42).bind fun _ => (f_J2_get E v3 v5 h).bind fun q6 =>
  (ax_cc E q6.2 q6.1 28).bind fun _ =>
  (ax_gI E q6.2 q6.1 28 0).bind fun v7 =>
  (ax_gI E q6.2 q6.1 28 1).bind fun v8 =>
  (ax_gR E q6.2 x0 30 5).bind fun v9 =>
  (ax_ld E q6.2 v9 100 x2).bind fun v10 =>
  (ax_ce E q6.2 x1 2).bind fun _ => (f_X2_canPay E x1 v7 v8 v10 q6.2).bind fun q11 =>
  if i2 q11.1 = 0 then
    some (0, q11.2)
  else
    (ax_gI E q11.2 q6.1 28 0).bind fun v12 =>
    (ax_gI E q11.2 q6.1 28 1).bind fun v13 =>
    (ax_gR E q11.2 x0 30 5).bind fun v14 =>
    (ax_ld E q11.2 v14 100 x2).bind fun v15 =>
    (ax_ce E q11.2 x1 2).bind fun _ => (f_X2_pay E x1 v12 v13 v15 q11.2).bind fun h16 =>
    some (1, h16)
set_option maxHeartbeats 4000000 in
theorem we_X30_does {l : Launch} {G : ax_G} {X : ax_X} {Q : State → Prop} {h0 h : ax_H} {ls : Array Slot} (hSF : ax_SF G) (B : ax_BL l G X cX30_does 4 RX30 4 104) (Z : ax_Z X h0 ((some FieldType.boolean))) (hn : X.2.2.2.2.2.2.2.2.1.name = yX30_does.name) (x0 : Option Nat) (x1 : Option Nat) (x2 : Int) {w : Int × ax_H} (hl : ax_hl ls 4 [(0, .inr (.inr x0)), (1, .inr (.inr x1)), (2, .inl x2)]) (e : f_X30_does G.2.2 x0 x1 x2 h = some w) (hp : (fun w : Int × ax_H => Q = ax_Q G X h0 w.2 (some (.int (Int32.ofInt w.1)))) w) : ax_W G X Q h 0 ls [] := by
  unfold f_X30_does at e
  refine ax_aload_n B dX30_does_0 rfl hl 0 rfl ?_
  refine ax_getR B ff_X30_1_30 (fun _ _ => rfl) dX30_does_1 e (fun v1 e => ?_)
  refine ax_getR B ff_X30_24_0 (fun _ _ => rfl) dX30_does_4 e (fun v2 e => ?_)
  refine ax_getR B ff_X30_30_1 (fun _ _ => rfl) dX30_does_7 e (fun v3 e => ?_)
  refine ax_aload_n B dX30_does_10 rfl hl 0 rfl ?_
  refine ax_getR B ff_X30_17_30 (fun _ _ => rfl) dX30_does_11 e (fun v4 e => ?_)
  refine ax_iload_n B dX30_does_14 rfl hl 2 rfl ?_
  refine ax_iald B kd100 dX30_does_15 e (fun v5 e => ?_)
  refine ax_ivR (y := yJ2_get) (n := 1) (As := [.int (Int32.ofInt v5)]) B kd42 (lw_V q1582 q525 q526 q129 q527) (by decide +kernel) ⟨Nat.le_of_ble_eq_true rfl, Nat.le_of_ble_eq_true rfl⟩ (fun w1 e1 => mt_J2_get l G hSF v3 v5 _ w1 e1) rfl hl.size (by decide) dX30_does_16 e (fun q6 e => ?_)
  refine ax_ckc B kd28 q1583 dX30_does_19 e (fun e => ?_)
  refine ax_astore_n (L' := [(3, .inr (.inr q6.1)), (0, .inr (.inr x0)), (1, .inr (.inr x1)), (2, .inl x2)]) B dX30_does_22 rfl hl (by decide) rfl (fun ls hl => ?_)
  refine ax_aload_n B dX30_does_23 rfl hl 2 rfl ?_
  refine ax_aload_n B dX30_does_24 rfl hl 0 rfl ?_
  refine ax_getI B ff_X30_43_28 (fun _ _ => rfl) dX30_does_25 e (fun v7 e => ?_)
  refine ax_aload_n B dX30_does_28 rfl hl 0 rfl ?_
  refine ax_getI B ff_X30_46_28 (fun _ _ => rfl) dX30_does_29 e (fun v8 e => ?_)
  refine ax_aload_n B dX30_does_32 rfl hl 1 rfl ?_
  refine ax_getR B ff_X30_13_30 (fun _ _ => rfl) dX30_does_33 e (fun v9 e => ?_)
  refine ax_iload_n B dX30_does_36 rfl hl 3 rfl ?_
  refine ax_iald B kd100 dX30_does_37 e (fun v10 e => ?_)
  refine ax_ivI (y := yX2_canPay) (n := 3) (As := [.int (Int32.ofInt v7), .int (Int32.ofInt v8), .int (Int32.ofInt v10)]) B kd2 (lw_V q1584 q1359 q1360 q130 q1361) (by decide +kernel) ⟨Nat.le_of_ble_eq_true rfl, Nat.le_of_ble_eq_true rfl⟩ (fun w1 e1 => mt_X2_canPay l G hSF x1 v7 v8 v10 _ w1 e1) rfl hl.size (by decide) dX30_does_38 e (fun q11 e => ?_)
  refine ax_if_ne (tgt := 46) B dX30_does_41 (by decide) e (fun e => ?_) (fun e => ?_)
  · refine ax_iconst B dX30_does_44 ?_
    have e8 := e
    have hp : Q = _ := hp
    subst hp
    exact ax_zreturnL (by decide) B Z dX30_does_45 e8
  · refine ax_aload_n B dX30_does_46 rfl hl 2 rfl ?_
    refine ax_aload_n B dX30_does_47 rfl hl 0 rfl ?_
    refine ax_getI B ff_X30_43_28 (fun _ _ => rfl) dX30_does_48 e (fun v12 e => ?_)
    refine ax_aload_n B dX30_does_51 rfl hl 0 rfl ?_
    refine ax_getI B ff_X30_46_28 (fun _ _ => rfl) dX30_does_52 e (fun v13 e => ?_)
    refine ax_aload_n B dX30_does_55 rfl hl 1 rfl ?_
    refine ax_getR B ff_X30_13_30 (fun _ _ => rfl) dX30_does_56 e (fun v14 e => ?_)
    refine ax_iload_n B dX30_does_59 rfl hl 3 rfl ?_
    refine ax_iald B kd100 dX30_does_60 e (fun v15 e => ?_)
    refine ax_ivV (y := yX2_pay) (n := 3) (As := [.int (Int32.ofInt v12), .int (Int32.ofInt v13), .int (Int32.ofInt v15)]) B kd2 (lw_V q1585 q1403 q1404 q130 q1405) (by decide +kernel) ⟨Nat.le_of_ble_eq_true rfl, Nat.le_of_ble_eq_true rfl⟩ (fun w1 e1 => mt_X2_pay l G hSF x1 v12 v13 v15 _ w1 e1) rfl hl.size (by decide) dX30_does_61 e (fun h16 e => ?_)
    refine ax_iconst B dX30_does_64 ?_
    have e8 := e
    have hp : Q = _ := hp
    subst hp
    exact ax_zreturnL (by decide) B Z dX30_does_65 e8
theorem mt_X30_does (l : Launch) (G : ax_G) (hSF : ax_SF G) (x0 : Option Nat) (x1 : Option Nat) (x2 : Int) (h : ax_H) (w : Int × ax_H) (e : f_X30_does G.2.2 x0 x1 x2 h = some w) : ax_Met l G yX30_does cX30_does 4 ((some FieldType.boolean)) 4 104 [va_rf x0, va_rf x1, .int (Int32.ofInt x2)] h w.2 (some (.int (Int32.ofInt w.1))) :=
  ax_enter [.inr (.inr x0), .inr (.inr x1), .inl x2] (y := yX30_does) hSF (plainFor_of_name (by decide +kernel)) (Nat.le_of_ble_eq_true rfl) (fun X ls B Z hn hl => we_X30_does hSF B Z hn x0 x1 x2 hl e rfl)
def dkwX31_does_2 : List UInt8 := [180, 0, 37, 45, 180, 0, 41, 45, 180, 0, 51, 182, 0, 54, 87, 4, 172]
abbrev dktX31_does_2 : List UInt8 := dkwX31_does_2 ++ []
def dkwX31_does_1 : List UInt8 := [180, 0, 37, 45, 180, 0, 41, 3, 182, 0, 44, 45, 180, 0, 48, 162, 0, 5, 3, 172, 43, 45]
abbrev dktX31_does_1 : List UInt8 := dkwX31_does_1 ++ dktX31_does_2
def dkwX31_does_0 : List UInt8 := [42, 180, 0, 1, 180, 0, 7, 180, 0, 13, 28, 182, 0, 31, 192, 0, 35, 78, 42, 180, 0, 1, 43, 45]
abbrev dktX31_does_0 : List UInt8 := dkwX31_does_0 ++ dktX31_does_1
theorem dksX31_does_0 : cX31_does.data.toList.drop 0 = dktX31_does_0 := by decide +kernel
theorem dksX31_does_1 : cX31_does.data.toList.drop 24 = dktX31_does_1 := dk_seg dksX31_does_0 24 rfl rfl
theorem dksX31_does_2 : cX31_does.data.toList.drop 46 = dktX31_does_2 := dk_seg dksX31_does_1 22 rfl rfl
theorem dX31_does_0 : decode cX31_does 0 = .ok (.aload_n 0, 1) := dk_42 (dk_at dksX31_does_0 0 rfl rfl)
theorem dX31_does_1 : decode cX31_does 1 = .ok (.getfield 1, 3) := dk_180 0 1 (dk_at dksX31_does_0 1 rfl rfl)
theorem dX31_does_4 : decode cX31_does 4 = .ok (.getfield 7, 3) := dk_180 0 7 (dk_at dksX31_does_0 4 rfl rfl)
theorem dX31_does_7 : decode cX31_does 7 = .ok (.getfield 13, 3) := dk_180 0 13 (dk_at dksX31_does_0 7 rfl rfl)
theorem dX31_does_10 : decode cX31_does 10 = .ok (.iload_n 2, 1) := dk_28 (dk_at dksX31_does_0 10 rfl rfl)
theorem dX31_does_11 : decode cX31_does 11 = .ok (.invokevirtual 31, 3) := dk_182 0 31 (dk_at dksX31_does_0 11 rfl rfl)
theorem dX31_does_14 : decode cX31_does 14 = .ok (.checkcast 35, 3) := dk_192 0 35 (dk_at dksX31_does_0 14 rfl rfl)
theorem dX31_does_17 : decode cX31_does 17 = .ok (.astore_n 3, 1) := dk_78 (dk_at dksX31_does_0 17 rfl rfl)
theorem dX31_does_18 : decode cX31_does 18 = .ok (.aload_n 0, 1) := dk_42 (dk_at dksX31_does_0 18 rfl rfl)
theorem dX31_does_19 : decode cX31_does 19 = .ok (.getfield 1, 3) := dk_180 0 1 (dk_at dksX31_does_0 19 rfl rfl)
theorem dX31_does_22 : decode cX31_does 22 = .ok (.aload_n 1, 1) := dk_43 (dk_at dksX31_does_0 22 rfl rfl)
theorem dX31_does_23 : decode cX31_does 23 = .ok (.aload_n 3, 1) := dk_45 (dk_at dksX31_does_0 23 rfl rfl)
theorem dX31_does_24 : decode cX31_does 24 = .ok (.getfield 37, 3) := dk_180 0 37 (dk_at dksX31_does_1 0 rfl rfl)
theorem dX31_does_27 : decode cX31_does 27 = .ok (.aload_n 3, 1) := dk_45 (dk_at dksX31_does_1 3 rfl rfl)
theorem dX31_does_28 : decode cX31_does 28 = .ok (.getfield 41, 3) := dk_180 0 41 (dk_at dksX31_does_1 4 rfl rfl)
theorem dX31_does_31 : decode cX31_does 31 = .ok (.iconst 0, 1) := dk_3 (dk_at dksX31_does_1 7 rfl rfl)
theorem dX31_does_32 : decode cX31_does 32 = .ok (.invokevirtual 44, 3) := dk_182 0 44 (dk_at dksX31_does_1 8 rfl rfl)
theorem dX31_does_35 : decode cX31_does 35 = .ok (.aload_n 3, 1) := dk_45 (dk_at dksX31_does_1 11 rfl rfl)
theorem dX31_does_36 : decode cX31_does 36 = .ok (.getfield 48, 3) := dk_180 0 48 (dk_at dksX31_does_1 12 rfl rfl)
theorem dX31_does_39 : decode cX31_does 39 = .ok (.if_icmp .ge 5, 3) := dk_162 0 5 (dk_at dksX31_does_1 15 rfl rfl)
theorem dX31_does_42 : decode cX31_does 42 = .ok (.iconst 0, 1) := dk_3 (dk_at dksX31_does_1 18 rfl rfl)
theorem dX31_does_43 : decode cX31_does 43 = .ok (.ireturn, 1) := dk_172 (dk_at dksX31_does_1 19 rfl rfl)
theorem dX31_does_44 : decode cX31_does 44 = .ok (.aload_n 1, 1) := dk_43 (dk_at dksX31_does_1 20 rfl rfl)
theorem dX31_does_45 : decode cX31_does 45 = .ok (.aload_n 3, 1) := dk_45 (dk_at dksX31_does_1 21 rfl rfl)
theorem dX31_does_46 : decode cX31_does 46 = .ok (.getfield 37, 3) := dk_180 0 37 (dk_at dksX31_does_2 0 rfl rfl)
theorem dX31_does_49 : decode cX31_does 49 = .ok (.aload_n 3, 1) := dk_45 (dk_at dksX31_does_2 3 rfl rfl)
theorem dX31_does_50 : decode cX31_does 50 = .ok (.getfield 41, 3) := dk_180 0 41 (dk_at dksX31_does_2 4 rfl rfl)
theorem dX31_does_53 : decode cX31_does 53 = .ok (.aload_n 3, 1) := dk_45 (dk_at dksX31_does_2 7 rfl rfl)
theorem dX31_does_54 : decode cX31_does 54 = .ok (.getfield 51, 3) := dk_180 0 51 (dk_at dksX31_does_2 8 rfl rfl)
theorem dX31_does_57 : decode cX31_does 57 = .ok (.invokevirtual 54, 3) := dk_182 0 54 (dk_at dksX31_does_2 11 rfl rfl)
theorem dX31_does_60 : decode cX31_does 60 = .ok (.pop, 1) := dk_87 (dk_at dksX31_does_2 14 rfl rfl)
theorem dX31_does_61 : decode cX31_does 61 = .ok (.iconst 1, 1) := dk_4 (dk_at dksX31_does_2 15 rfl rfl)
theorem dX31_does_62 : decode cX31_does 62 = .ok (.ireturn, 1) := dk_172 (dk_at dksX31_does_2 16 rfl rfl)
noncomputable def f_X31_does (E : ax_E) (x0 : Option Nat) (x1 : Option Nat) (x2 : Int) (h : ax_H) : Option (Int × ax_H) :=
  (ax_gR E h x0 31 5).bind fun v1 =>
  (ax_gR E h v1 0 0).bind fun v2 =>
  (ax_gR E h v2 1 1).bind fun v3 =>
  (ax_ce E h v3 42).bind fun _ => (f_J2_get E v3 x2 h).bind fun q4 =>
  (ax_cc E q4.2 q4.1 28).bind fun _ =>
  (ax_gR E q4.2 x0 31 5).bind fun v5 =>
  (ax_gI E q4.2 q4.1 28 1).bind fun v6 =>
  (ax_gI E q4.2 q4.1 28 0).bind fun v7 =>
  (ax_ce E q4.2 v5 0).bind fun _ => (f_X0_deepIn E v5 x1 v6 v7 0 q4.2).bind fun q8 =>
  (ax_gI E q8.2 q4.1 28 2).bind fun v9 =>
  if i2 q8.1 < i2 v9 then
    some (0, q8.2)
  else
    (ax_gI E q8.2 q4.1 28 1).bind fun v10 =>
    (ax_gI E q8.2 q4.1 28 0).bind fun v11 =>
    (ax_gI E q8.2 q4.1 28 3).bind fun v12 =>
    (ax_ce E q8.2 x1 2).bind fun _ => (f_X2_repay E x1 v10 v11 v12 q8.2).bind fun q13 =>
    some (1, q13.2)
set_option maxHeartbeats 4000000 in
theorem we_X31_does {l : Launch} {G : ax_G} {X : ax_X} {Q : State → Prop} {h0 h : ax_H} {ls : Array Slot} (hSF : ax_SF G) (B : ax_BL l G X cX31_does 4 RX31 140 3568) (Z : ax_Z X h0 ((some FieldType.boolean))) (hn : X.2.2.2.2.2.2.2.2.1.name = yX31_does.name) (x0 : Option Nat) (x1 : Option Nat) (x2 : Int) {w : Int × ax_H} (hl : ax_hl ls 4 [(0, .inr (.inr x0)), (1, .inr (.inr x1)), (2, .inl x2)]) (e : f_X31_does G.2.2 x0 x1 x2 h = some w) (hp : (fun w : Int × ax_H => Q = ax_Q G X h0 w.2 (some (.int (Int32.ofInt w.1)))) w) : ax_W G X Q h 0 ls [] := by
  unfold f_X31_does at e
  refine ax_aload_n B dX31_does_0 rfl hl 0 rfl ?_
  refine ax_getR B ff_X31_1_31 (fun _ _ => rfl) dX31_does_1 e (fun v1 e => ?_)
  refine ax_getR B ff_X31_7_0 (fun _ _ => rfl) dX31_does_4 e (fun v2 e => ?_)
  refine ax_getR B ff_X31_13_1 (fun _ _ => rfl) dX31_does_7 e (fun v3 e => ?_)
  refine ax_iload_n B dX31_does_10 rfl hl 2 rfl ?_
  refine ax_ivR (y := yJ2_get) (n := 1) (As := [.int (Int32.ofInt x2)]) B kd42 (lw_V q1589 q525 q526 q129 q527) (by decide +kernel) ⟨Nat.le_of_ble_eq_true rfl, Nat.le_of_ble_eq_true rfl⟩ (fun w1 e1 => mt_J2_get l G hSF v3 x2 _ w1 e1) rfl hl.size (by decide) dX31_does_11 e (fun q4 e => ?_)
  refine ax_ckc B kd28 q1590 dX31_does_14 e (fun e => ?_)
  refine ax_astore_n (L' := [(3, .inr (.inr q4.1)), (0, .inr (.inr x0)), (1, .inr (.inr x1)), (2, .inl x2)]) B dX31_does_17 rfl hl (by decide) rfl (fun ls hl => ?_)
  refine ax_aload_n B dX31_does_18 rfl hl 1 rfl ?_
  refine ax_getR B ff_X31_1_31 (fun _ _ => rfl) dX31_does_19 e (fun v5 e => ?_)
  refine ax_aload_n B dX31_does_22 rfl hl 2 rfl ?_
  refine ax_aload_n B dX31_does_23 rfl hl 0 rfl ?_
  refine ax_getI B ff_X31_37_28 (fun _ _ => rfl) dX31_does_24 e (fun v6 e => ?_)
  refine ax_aload_n B dX31_does_27 rfl hl 0 rfl ?_
  refine ax_getI B ff_X31_41_28 (fun _ _ => rfl) dX31_does_28 e (fun v7 e => ?_)
  refine ax_iconst B dX31_does_31 ?_
  refine ax_ivNI (y := yX0_deepIn) (n := 4) (As := [va_rf x1, .int (Int32.ofInt v6), .int (Int32.ofInt v7), .int (Int32.ofInt 0)]) B kd0 q1591 q1332 qs22 q125 q1333 (by decide +kernel) ⟨Nat.le_of_ble_eq_true rfl, Nat.le_of_ble_eq_true rfl⟩ (fun w1 e1 => mt_X0_deepIn l G hSF v5 x1 v6 v7 0 _ w1 e1) rfl hl.size (by decide) dX31_does_32 e (fun q8 e => ?_)
  refine ax_aload_n B dX31_does_35 rfl hl 0 rfl ?_
  refine ax_getI B ff_X31_48_28 (fun _ _ => rfl) dX31_does_36 e (fun v9 e => ?_)
  refine ax_icmp_ge (tgt := 44) B dX31_does_39 (by decide) e (fun e => ?_) (fun e => ?_)
  · refine ax_iconst B dX31_does_42 ?_
    have e8 := e
    have hp : Q = _ := hp
    subst hp
    exact ax_zreturnL (by decide) B Z dX31_does_43 e8
  · refine ax_aload_n B dX31_does_44 rfl hl 2 rfl ?_
    refine ax_aload_n B dX31_does_45 rfl hl 0 rfl ?_
    refine ax_getI B ff_X31_37_28 (fun _ _ => rfl) dX31_does_46 e (fun v10 e => ?_)
    refine ax_aload_n B dX31_does_49 rfl hl 0 rfl ?_
    refine ax_getI B ff_X31_41_28 (fun _ _ => rfl) dX31_does_50 e (fun v11 e => ?_)
    refine ax_aload_n B dX31_does_53 rfl hl 0 rfl ?_
    refine ax_getI B ff_X31_51_28 (fun _ _ => rfl) dX31_does_54 e (fun v12 e => ?_)
    refine ax_ivI (y := yX2_repay) (n := 3) (As := [.int (Int32.ofInt v10), .int (Int32.ofInt v11), .int (Int32.ofInt v12)]) B kd2 (lw_V q1592 q1415 q1416 q130 q1417) (by decide +kernel) ⟨Nat.le_of_ble_eq_true rfl, Nat.le_of_ble_eq_true rfl⟩ (fun w1 e1 => mt_X2_repay l G hSF x1 v10 v11 v12 _ w1 e1) rfl hl.size (by decide) dX31_does_57 e (fun q13 e => ?_)
    refine ax_pop B dX31_does_60 (rfl) ?_
    refine ax_iconst B dX31_does_61 ?_
    have e8 := e
    have hp : Q = _ := hp
    subst hp
    exact ax_zreturnL (by decide) B Z dX31_does_62 e8
theorem mt_X31_does (l : Launch) (G : ax_G) (hSF : ax_SF G) (x0 : Option Nat) (x1 : Option Nat) (x2 : Int) (h : ax_H) (w : Int × ax_H) (e : f_X31_does G.2.2 x0 x1 x2 h = some w) : ax_Met l G yX31_does cX31_does 4 ((some FieldType.boolean)) 140 3568 [va_rf x0, va_rf x1, .int (Int32.ofInt x2)] h w.2 (some (.int (Int32.ofInt w.1))) :=
  ax_enter [.inr (.inr x0), .inr (.inr x1), .inl x2] (y := yX31_does) hSF (plainFor_of_name (by decide +kernel)) (Nat.le_of_ble_eq_true rfl) (fun X ls B Z hn hl => we_X31_does hSF B Z hn x0 x1 x2 hl e rfl)
def dkwX29_go_5 : List UInt8 := [177]
abbrev dktX29_go_5 : List UInt8 := dkwX29_go_5 ++ []
def dkwX29_go_4 : List UInt8 := [180, 0, 17, 27, 29, 79, 42, 27, 4, 96, 28, 4, 29, 120, 128, 182, 0, 57, 132, 3, 1, 167, 255, 184]
abbrev dktX29_go_4 : List UInt8 := dkwX29_go_4 ++ dktX29_go_5
def dkwX29_go_3 : List UInt8 := [180, 0, 1, 180, 0, 24, 27, 50, 182, 0, 34, 29, 182, 0, 53, 154, 0, 6, 167, 0, 22, 42]
abbrev dktX29_go_3 : List UInt8 := dkwX29_go_3 ++ dktX29_go_4
def dkwX29_go_2 : List UInt8 := [162, 0, 70, 28, 29, 184, 0, 49, 154, 0, 56, 42, 42, 180, 0, 1, 180, 0, 24, 27, 4, 96, 50, 42]
abbrev dktX29_go_2 : List UInt8 := dkwX29_go_2 ++ dktX29_go_3
def dkwX29_go_1 : List UInt8 := [180, 0, 17, 3, 42, 180, 0, 21, 3, 42, 180, 0, 13, 184, 0, 43, 177, 3, 62, 29, 42, 180, 0, 13]
abbrev dktX29_go_1 : List UInt8 := dkwX29_go_1 ++ dktX29_go_2
def dkwX29_go_0 : List UInt8 := [27, 42, 180, 0, 13, 160, 0, 35, 42, 89, 180, 0, 40, 90, 4, 96, 181, 0, 40, 154, 0, 20, 42]
abbrev dktX29_go_0 : List UInt8 := dkwX29_go_0 ++ dktX29_go_1
theorem dksX29_go_0 : cX29_go.data.toList.drop 0 = dktX29_go_0 := by decide +kernel
theorem dksX29_go_1 : cX29_go.data.toList.drop 23 = dktX29_go_1 := dk_seg dksX29_go_0 23 rfl rfl
theorem dksX29_go_2 : cX29_go.data.toList.drop 47 = dktX29_go_2 := dk_seg dksX29_go_1 24 rfl rfl
theorem dksX29_go_3 : cX29_go.data.toList.drop 71 = dktX29_go_3 := dk_seg dksX29_go_2 24 rfl rfl
theorem dksX29_go_4 : cX29_go.data.toList.drop 93 = dktX29_go_4 := dk_seg dksX29_go_3 22 rfl rfl
theorem dksX29_go_5 : cX29_go.data.toList.drop 117 = dktX29_go_5 := dk_seg dksX29_go_4 24 rfl rfl
theorem dX29_go_0 : decode cX29_go 0 = .ok (.iload_n 1, 1) := dk_27 (dk_at dksX29_go_0 0 rfl rfl)
theorem dX29_go_1 : decode cX29_go 1 = .ok (.aload_n 0, 1) := dk_42 (dk_at dksX29_go_0 1 rfl rfl)
theorem dX29_go_2 : decode cX29_go 2 = .ok (.getfield 13, 3) := dk_180 0 13 (dk_at dksX29_go_0 2 rfl rfl)
theorem dX29_go_5 : decode cX29_go 5 = .ok (.if_icmp .ne 35, 3) := dk_160 0 35 (dk_at dksX29_go_0 5 rfl rfl)
theorem dX29_go_8 : decode cX29_go 8 = .ok (.aload_n 0, 1) := dk_42 (dk_at dksX29_go_0 8 rfl rfl)
theorem dX29_go_9 : decode cX29_go 9 = .ok (.dup, 1) := dk_89 (dk_at dksX29_go_0 9 rfl rfl)
theorem dX29_go_10 : decode cX29_go 10 = .ok (.getfield 40, 3) := dk_180 0 40 (dk_at dksX29_go_0 10 rfl rfl)
theorem dX29_go_13 : decode cX29_go 13 = .ok (.dup_x1, 1) := dk_90 (dk_at dksX29_go_0 13 rfl rfl)
theorem dX29_go_14 : decode cX29_go 14 = .ok (.iconst 1, 1) := dk_4 (dk_at dksX29_go_0 14 rfl rfl)
theorem dX29_go_15 : decode cX29_go 15 = .ok (.iadd, 1) := dk_96 (dk_at dksX29_go_0 15 rfl rfl)
theorem dX29_go_16 : decode cX29_go 16 = .ok (.putfield 40, 3) := dk_181 0 40 (dk_at dksX29_go_0 16 rfl rfl)
theorem dX29_go_19 : decode cX29_go 19 = .ok (.ifCond .ne 20, 3) := dk_154 0 20 (dk_at dksX29_go_0 19 rfl rfl)
theorem dX29_go_22 : decode cX29_go 22 = .ok (.aload_n 0, 1) := dk_42 (dk_at dksX29_go_0 22 rfl rfl)
theorem dX29_go_23 : decode cX29_go 23 = .ok (.getfield 17, 3) := dk_180 0 17 (dk_at dksX29_go_1 0 rfl rfl)
theorem dX29_go_26 : decode cX29_go 26 = .ok (.iconst 0, 1) := dk_3 (dk_at dksX29_go_1 3 rfl rfl)
theorem dX29_go_27 : decode cX29_go 27 = .ok (.aload_n 0, 1) := dk_42 (dk_at dksX29_go_1 4 rfl rfl)
theorem dX29_go_28 : decode cX29_go 28 = .ok (.getfield 21, 3) := dk_180 0 21 (dk_at dksX29_go_1 5 rfl rfl)
theorem dX29_go_31 : decode cX29_go 31 = .ok (.iconst 0, 1) := dk_3 (dk_at dksX29_go_1 8 rfl rfl)
theorem dX29_go_32 : decode cX29_go 32 = .ok (.aload_n 0, 1) := dk_42 (dk_at dksX29_go_1 9 rfl rfl)
theorem dX29_go_33 : decode cX29_go 33 = .ok (.getfield 13, 3) := dk_180 0 13 (dk_at dksX29_go_1 10 rfl rfl)
theorem dX29_go_36 : decode cX29_go 36 = .ok (.invokestatic 43, 3) := dk_184 0 43 (dk_at dksX29_go_1 13 rfl rfl)
theorem dX29_go_39 : decode cX29_go 39 = .ok (.return_, 1) := dk_177 (dk_at dksX29_go_1 16 rfl rfl)
theorem dX29_go_40 : decode cX29_go 40 = .ok (.iconst 0, 1) := dk_3 (dk_at dksX29_go_1 17 rfl rfl)
theorem dX29_go_41 : decode cX29_go 41 = .ok (.istore_n 3, 1) := dk_62 (dk_at dksX29_go_1 18 rfl rfl)
theorem dX29_go_42 : decode cX29_go 42 = .ok (.iload_n 3, 1) := dk_29 (dk_at dksX29_go_1 19 rfl rfl)
theorem dX29_go_43 : decode cX29_go 43 = .ok (.aload_n 0, 1) := dk_42 (dk_at dksX29_go_1 20 rfl rfl)
theorem dX29_go_44 : decode cX29_go 44 = .ok (.getfield 13, 3) := dk_180 0 13 (dk_at dksX29_go_1 21 rfl rfl)
theorem dX29_go_47 : decode cX29_go 47 = .ok (.if_icmp .ge 70, 3) := dk_162 0 70 (dk_at dksX29_go_2 0 rfl rfl)
theorem dX29_go_50 : decode cX29_go 50 = .ok (.iload_n 2, 1) := dk_28 (dk_at dksX29_go_2 3 rfl rfl)
theorem dX29_go_51 : decode cX29_go 51 = .ok (.iload_n 3, 1) := dk_29 (dk_at dksX29_go_2 4 rfl rfl)
theorem dX29_go_52 : decode cX29_go 52 = .ok (.invokestatic 49, 3) := dk_184 0 49 (dk_at dksX29_go_2 5 rfl rfl)
theorem dX29_go_55 : decode cX29_go 55 = .ok (.ifCond .ne 56, 3) := dk_154 0 56 (dk_at dksX29_go_2 8 rfl rfl)
theorem dX29_go_58 : decode cX29_go 58 = .ok (.aload_n 0, 1) := dk_42 (dk_at dksX29_go_2 11 rfl rfl)
theorem dX29_go_59 : decode cX29_go 59 = .ok (.aload_n 0, 1) := dk_42 (dk_at dksX29_go_2 12 rfl rfl)
theorem dX29_go_60 : decode cX29_go 60 = .ok (.getfield 1, 3) := dk_180 0 1 (dk_at dksX29_go_2 13 rfl rfl)
theorem dX29_go_63 : decode cX29_go 63 = .ok (.getfield 24, 3) := dk_180 0 24 (dk_at dksX29_go_2 16 rfl rfl)
theorem dX29_go_66 : decode cX29_go 66 = .ok (.iload_n 1, 1) := dk_27 (dk_at dksX29_go_2 19 rfl rfl)
theorem dX29_go_67 : decode cX29_go 67 = .ok (.iconst 1, 1) := dk_4 (dk_at dksX29_go_2 20 rfl rfl)
theorem dX29_go_68 : decode cX29_go 68 = .ok (.iadd, 1) := dk_96 (dk_at dksX29_go_2 21 rfl rfl)
theorem dX29_go_69 : decode cX29_go 69 = .ok (.aaload, 1) := dk_50 (dk_at dksX29_go_2 22 rfl rfl)
theorem dX29_go_70 : decode cX29_go 70 = .ok (.aload_n 0, 1) := dk_42 (dk_at dksX29_go_2 23 rfl rfl)
theorem dX29_go_71 : decode cX29_go 71 = .ok (.getfield 1, 3) := dk_180 0 1 (dk_at dksX29_go_3 0 rfl rfl)
theorem dX29_go_74 : decode cX29_go 74 = .ok (.getfield 24, 3) := dk_180 0 24 (dk_at dksX29_go_3 3 rfl rfl)
theorem dX29_go_77 : decode cX29_go 77 = .ok (.iload_n 1, 1) := dk_27 (dk_at dksX29_go_3 6 rfl rfl)
theorem dX29_go_78 : decode cX29_go 78 = .ok (.aaload, 1) := dk_50 (dk_at dksX29_go_3 7 rfl rfl)
theorem dX29_go_79 : decode cX29_go 79 = .ok (.invokevirtual 34, 3) := dk_182 0 34 (dk_at dksX29_go_3 8 rfl rfl)
theorem dX29_go_82 : decode cX29_go 82 = .ok (.iload_n 3, 1) := dk_29 (dk_at dksX29_go_3 11 rfl rfl)
theorem dX29_go_83 : decode cX29_go 83 = .ok (.invokevirtual 53, 3) := dk_182 0 53 (dk_at dksX29_go_3 12 rfl rfl)
theorem dX29_go_86 : decode cX29_go 86 = .ok (.ifCond .ne 6, 3) := dk_154 0 6 (dk_at dksX29_go_3 15 rfl rfl)
theorem dX29_go_89 : decode cX29_go 89 = .ok (.goto 22, 3) := dk_167 0 22 (dk_at dksX29_go_3 18 rfl rfl)
theorem dX29_go_92 : decode cX29_go 92 = .ok (.aload_n 0, 1) := dk_42 (dk_at dksX29_go_3 21 rfl rfl)
theorem dX29_go_93 : decode cX29_go 93 = .ok (.getfield 17, 3) := dk_180 0 17 (dk_at dksX29_go_4 0 rfl rfl)
theorem dX29_go_96 : decode cX29_go 96 = .ok (.iload_n 1, 1) := dk_27 (dk_at dksX29_go_4 3 rfl rfl)
theorem dX29_go_97 : decode cX29_go 97 = .ok (.iload_n 3, 1) := dk_29 (dk_at dksX29_go_4 4 rfl rfl)
theorem dX29_go_98 : decode cX29_go 98 = .ok (.iastore, 1) := dk_79 (dk_at dksX29_go_4 5 rfl rfl)
theorem dX29_go_99 : decode cX29_go 99 = .ok (.aload_n 0, 1) := dk_42 (dk_at dksX29_go_4 6 rfl rfl)
theorem dX29_go_100 : decode cX29_go 100 = .ok (.iload_n 1, 1) := dk_27 (dk_at dksX29_go_4 7 rfl rfl)
theorem dX29_go_101 : decode cX29_go 101 = .ok (.iconst 1, 1) := dk_4 (dk_at dksX29_go_4 8 rfl rfl)
theorem dX29_go_102 : decode cX29_go 102 = .ok (.iadd, 1) := dk_96 (dk_at dksX29_go_4 9 rfl rfl)
theorem dX29_go_103 : decode cX29_go 103 = .ok (.iload_n 2, 1) := dk_28 (dk_at dksX29_go_4 10 rfl rfl)
theorem dX29_go_104 : decode cX29_go 104 = .ok (.iconst 1, 1) := dk_4 (dk_at dksX29_go_4 11 rfl rfl)
theorem dX29_go_105 : decode cX29_go 105 = .ok (.iload_n 3, 1) := dk_29 (dk_at dksX29_go_4 12 rfl rfl)
theorem dX29_go_106 : decode cX29_go 106 = .ok (.ishl, 1) := dk_120 (dk_at dksX29_go_4 13 rfl rfl)
theorem dX29_go_107 : decode cX29_go 107 = .ok (.ior, 1) := dk_128 (dk_at dksX29_go_4 14 rfl rfl)
theorem dX29_go_108 : decode cX29_go 108 = .ok (.invokevirtual 57, 3) := dk_182 0 57 (dk_at dksX29_go_4 15 rfl rfl)
theorem dX29_go_111 : decode cX29_go 111 = .ok (.iinc 3 1, 3) := dk_132 3 1 (dk_at dksX29_go_4 18 rfl rfl)
theorem dX29_go_114 : decode cX29_go 114 = .ok (.goto (-72), 3) := dk_167 255 184 (dk_at dksX29_go_4 21 rfl rfl)
theorem dX29_go_117 : decode cX29_go 117 = .ok (.return_, 1) := dk_177 (dk_at dksX29_go_5 0 rfl rfl)
noncomputable def f_X29_go_111 (E : ax_E) (g0 : Option Nat → Int → Int → ax_H → Option (ax_H)) (x0 : Option Nat) (x1 : Int) (x2 : Int) (x3 : Int) (h : ax_H) : Option ((Int × ax_H) ⊕ (ax_H)) :=
  some (.inl ((x3 + 1), h))
noncomputable def lb_X29_go_42 (E : ax_E) (g0 : Option Nat → Int → Int → ax_H → Option (ax_H)) (x0 : Option Nat) (x1 : Int) (x2 : Int) (x3 : Int) (h : ax_H) : Option ((Int × ax_H) ⊕ (ax_H)) :=
  (ax_gIs E h x0 [(30, 0), (31, 0)]).bind fun v1 =>
  if i2 x3 < i2 v1 then
    (f_X0_has E x2 x3 h).bind fun q2 =>
    if i2 q2.1 = 0 then
      (ax_gRs E q2.2 x0 [(30, 4), (31, 4)]).bind fun v3 =>
      (ax_gR E q2.2 v3 0 14).bind fun v4 =>
      (ax_ldR E q2.2 v4 107 (x1 + 1)).bind fun v5 =>
      (ax_gRs E q2.2 x0 [(30, 4), (31, 4)]).bind fun v6 =>
      (ax_gR E q2.2 v6 0 14).bind fun v7 =>
      (ax_ldR E q2.2 v7 107 x1).bind fun v8 =>
      (ax_ce E q2.2 v5 2).bind fun _ => (f_X2_as E v5 v8 q2.2).bind fun q9 =>
      (ax_dp E q9.2 x0 fun t => if t = 30 then f_X30_does E x0 q9.1 x3 q9.2 else if t = 31 then f_X31_does E x0 q9.1 x3 q9.2 else none).bind fun q10 =>
      if i2 q10.1 = 0 then
        f_X29_go_111 E g0 x0 x1 x2 x3 q10.2
      else
        (ax_gRs E q10.2 x0 [(30, 2), (31, 2)]).bind fun v11 =>
        (ax_sto q10.2 v11 100 x1 x3).bind fun h12 =>
        (ax_dp E h12 x0 fun t => if t = 30 ∨ t = 31 then g0 x0 (x1 + 1) (ax_or x2 (ax_shl 1 x3)) h12 else none).bind fun h13 =>
        f_X29_go_111 E g0 x0 x1 x2 x3 h13
    else
      f_X29_go_111 E g0 x0 x1 x2 x3 q2.2
  else
    (some h).map Sum.inr
noncomputable def f_X29_go_42 (E : ax_E) (g0 : Option Nat → Int → Int → ax_H → Option (ax_H)) (x0 : Option Nat) (x1 : Int) (x2 : Int) (x3 : Int) (h : ax_H) : Option (ax_H) :=
  ax_iter (fun s : Int × ax_H => lb_X29_go_42 E g0 x0 x1 x2 s.1 s.2) (x3, h)
noncomputable def f_X29_go (E : ax_E) (g0 : Option Nat → Int → Int → ax_H → Option (ax_H)) (x0 : Option Nat) (x1 : Int) (x2 : Int) (h : ax_H) : Option (ax_H) :=
  (ax_gIs E h x0 [(30, 0), (31, 0)]).bind fun v1 =>
  if i2 x1 = i2 v1 then
    (ax_gIs E h x0 [(30, 3), (31, 3)]).bind fun v2 =>
    (ax_pIs h x0 [(30, 3), (31, 3)] (v2 + 1)).bind fun h3 =>
    if i2 v2 = 0 then
      (ax_gRs E h3 x0 [(30, 2), (31, 2)]).bind fun v4 =>
      (ax_gRs E h3 x0 [(30, 1), (31, 1)]).bind fun v5 =>
      (ax_gIs E h3 x0 [(30, 0), (31, 0)]).bind fun v6 =>
      (ax_cp E h3 ax_anyP v4 100 0 v5 0 v6).bind fun h7 =>
      some h7
    else
      some h3
  else
    f_X29_go_42 E g0 x0 x1 x2 0 h
noncomputable def rg_X29_go (E : ax_E) : Nat → (Option Nat → Int → Int → ax_H → Option (ax_H))
  | 0 => (fun x0 x1 x2 h => none)
  | n + 1 => (fun x0 x1 x2 h => f_X29_go E (rg_X29_go E n) x0 x1 x2 h)
noncomputable def fn_X29_go (E : ax_E) (n : Nat) (x0 : Option Nat) (x1 : Int) (x2 : Int) (h : ax_H) : Option (ax_H) := (rg_X29_go E n) x0 x1 x2 h
def pi_X29_go_42 (G : ax_G) (X : ax_X) (Q : State → Prop) (x0 : Option Nat) (x1 : Int) (x2 : Int) : Int × ax_H → Prop := fun s => ∀ ls : Array Slot, ax_hl ls 4 [(0, .inr (.inr x0)), (1, .inl x1), (2, .inl x2), (3, .inl s.1)] → ax_W G X Q s.2 42 ls []
set_option maxHeartbeats 4000000 in
theorem w_X29_go_111 {l : Launch} {G : ax_G} {X : ax_X} {Q : State → Prop} {h0 h : ax_H} {ls : Array Slot} {g0 : Option Nat → Int → Int → ax_H → Option (ax_H)} {fr lo fr1 lo1 : Nat} (hF : fr1 + 1 ≤ fr ∧ 141 ≤ fr ∧ lo1 + 23 ≤ lo ∧ 3591 ≤ lo) (hg0 : ∀ (x0 : Option Nat) (x1 : Int) (x2 : Int) (h : ax_H) (w : ax_H), g0 x0 x1 x2 h = some w → ax_Met l G yX29_go cX29_go 4 none fr1 lo1 [va_rf x0, .int (Int32.ofInt x1), .int (Int32.ofInt x2)] h w none) (hSF : ax_SF G) (B : ax_BL l G X cX29_go 4 RX29 fr lo) (Z : ax_Z X h0 none) (hn : X.2.2.2.2.2.2.2.2.1.name = yX29_go.name) (x0 : Option Nat) (x1 : Int) (x2 : Int) (x3 : Int) {w : (Int × ax_H) ⊕ (ax_H)} (hl : ax_hl ls 4 [(0, .inr (.inr x0)), (1, .inl x1), (2, .inl x2), (3, .inl x3)]) (e : f_X29_go_111 G.2.2 g0 x0 x1 x2 x3 h = some w) (hp : (ax_PL (pi_X29_go_42 G X Q x0 x1 x2) (fun w : ax_H => Q = ax_Q G X h0 w none)) w) : ax_W G X Q h 111 ls [] := by
  unfold f_X29_go_111 at e
  refine ax_iinc (L' := [(3, .inl (x3 + 1)), (0, .inr (.inr x0)), (1, .inl x1), (2, .inl x2)]) B dX29_go_111 hl 3 rfl (by decide) rfl (fun ls hl => ?_)
  refine ax_goto (tgt := 42) B dX29_go_114 (by decide) ?_
  cases e
  exact hp _ (hl.sub [1, 2, 3, 0] rfl)
set_option maxHeartbeats 4000000 in
theorem wb_X29_go_42 {l : Launch} {G : ax_G} {X : ax_X} {Q : State → Prop} {h0 h : ax_H} {ls : Array Slot} {g0 : Option Nat → Int → Int → ax_H → Option (ax_H)} {fr lo fr1 lo1 : Nat} (hF : fr1 + 1 ≤ fr ∧ 141 ≤ fr ∧ lo1 + 23 ≤ lo ∧ 3591 ≤ lo) (hg0 : ∀ (x0 : Option Nat) (x1 : Int) (x2 : Int) (h : ax_H) (w : ax_H), g0 x0 x1 x2 h = some w → ax_Met l G yX29_go cX29_go 4 none fr1 lo1 [va_rf x0, .int (Int32.ofInt x1), .int (Int32.ofInt x2)] h w none) (hSF : ax_SF G) (B : ax_BL l G X cX29_go 4 RX29 fr lo) (Z : ax_Z X h0 none) (hn : X.2.2.2.2.2.2.2.2.1.name = yX29_go.name) (x0 : Option Nat) (x1 : Int) (x2 : Int) (x3 : Int) {w : (Int × ax_H) ⊕ (ax_H)} (hl : ax_hl ls 4 [(0, .inr (.inr x0)), (1, .inl x1), (2, .inl x2), (3, .inl x3)]) (e : lb_X29_go_42 G.2.2 g0 x0 x1 x2 x3 h = some w) (hp : (ax_PL (pi_X29_go_42 G X Q x0 x1 x2) (fun w : ax_H => Q = ax_Q G X h0 w none)) w) : ax_W G X Q h 42 ls [] := by
  unfold lb_X29_go_42 at e
  refine ax_iload_n B dX29_go_42 rfl hl 3 rfl ?_
  refine ax_aload_n B dX29_go_43 rfl hl 0 rfl ?_
  refine ax_getIs B fs_X29_13 (fun _ _ => rfl) dX29_go_44 e (fun v1 e => ?_)
  refine ax_icmp_ge (tgt := 117) B dX29_go_47 (by decide) e (fun e => ?_) (fun e => ?_)
  · refine ax_iload_n B dX29_go_50 rfl hl 2 rfl ?_
    refine ax_iload_n B dX29_go_51 rfl hl 3 rfl ?_
    refine ax_isNI (y := yX0_has) (n := 2) (As := [.int (Int32.ofInt x2), .int (Int32.ofInt x3)]) B q1573 q1574 q125 q1575 (by decide +kernel) (by omega) (fun w1 e1 => mt_X0_has l G hSF x2 x3 _ w1 e1) rfl hl.size (by decide) dX29_go_52 e (fun q2 e => ?_)
    refine ax_if_ne (tgt := 111) B dX29_go_55 (by decide) e (fun e => ?_) (fun e => ?_)
    · refine ax_aload_n B dX29_go_58 rfl hl 0 rfl ?_
      refine ax_aload_n B dX29_go_59 rfl hl 0 rfl ?_
      refine ax_getRs B fs_X29_1 (fun _ _ => rfl) dX29_go_60 e (fun v3 e => ?_)
      refine ax_getR B ff_X29_24_0 (fun _ _ => rfl) dX29_go_63 e (fun v4 e => ?_)
      refine ax_iload_n B dX29_go_66 rfl hl 1 rfl ?_
      refine ax_iconst B dX29_go_67 ?_
      refine ax_iadd' B dX29_go_68 ?_
      refine ax_aald rfl B kd107 dX29_go_69 e (fun v5 e => ?_)
      refine ax_aload_n B dX29_go_70 rfl hl 0 rfl ?_
      refine ax_getRs B fs_X29_1 (fun _ _ => rfl) dX29_go_71 e (fun v6 e => ?_)
      refine ax_getR B ff_X29_24_0 (fun _ _ => rfl) dX29_go_74 e (fun v7 e => ?_)
      refine ax_iload_n B dX29_go_77 rfl hl 1 rfl ?_
      refine ax_aald rfl B kd107 dX29_go_78 e (fun v8 e => ?_)
      refine ax_ivR (y := yX2_as) (n := 1) (As := [va_rf v8]) B kd2 (lw_V q1525 q1378 q1379 q130 q1380) (by decide +kernel) (by omega) (fun w1 e1 => mt_X2_as l G hSF v5 v8 _ w1 e1) rfl hl.size (by simp only [List.map_cons, List.map_nil, List.sum_cons, List.sum_nil, va_rf_cat, ax_catI, ax_catL]; decide) dX29_go_79 e (fun q9 e => ?_)
      refine ax_iload_n B dX29_go_82 rfl hl 3 rfl ?_
      refine ax_iwI (x := ⟨"DebtDoors$Rows", "does", "(LDebtDoors$Books;I)Z"⟩) (n := 2) (As := [va_rf q9.1, .int (Int32.ofInt x3)]) B (fun w1 e1 => ?_) rfl hl.size (by decide) dX29_go_83 e (fun q10 e => ?_)
      · obtain ⟨t, c, e2, e1⟩ := ax_dp_spec e1
        rcases ax_ite e1 with ⟨hk, e1⟩ | ⟨-, e1⟩
        · subst hk
          exact ax_cal B kd30 e2 q1576 q1578 (ax_dcD B q1577) (B.2.1.2.2.2.2 _ q1579) q1580 q172 q1581 (by decide +kernel) (by omega) (mt_X30_does l G hSF x0 q9.1 x3 _ w1 e1)
        rcases ax_ite e1 with ⟨hk, e1⟩ | ⟨-, e1⟩
        · subst hk
          exact ax_cal B kd31 e2 q1576 q1578 (ax_dcD B q1577) (B.2.1.2.2.2.2 _ q1586) q1587 q173 q1588 (by decide +kernel) (by omega) (mt_X31_does l G hSF x0 q9.1 x3 _ w1 e1)
        cases e1
      refine ax_if_ne (tgt := 92) B dX29_go_86 (by decide) e (fun e => ?_) (fun e => ?_)
      · refine ax_goto (tgt := 111) B dX29_go_89 (by decide) ?_
        exact w_X29_go_111 hF hg0 hSF B Z hn x0 x1 x2 x3 (hl.sub [0, 1, 2, 3] rfl) e hp
      · refine ax_aload_n B dX29_go_92 rfl hl 0 rfl ?_
        refine ax_getRs B fs_X29_17 (fun _ _ => rfl) dX29_go_93 e (fun v11 e => ?_)
        refine ax_iload_n B dX29_go_96 rfl hl 1 rfl ?_
        refine ax_iload_n B dX29_go_97 rfl hl 3 rfl ?_
        refine ax_iast B kd100 dX29_go_98 e (fun h12 e => ?_)
        refine ax_aload_n B dX29_go_99 rfl hl 0 rfl ?_
        refine ax_iload_n B dX29_go_100 rfl hl 1 rfl ?_
        refine ax_iconst B dX29_go_101 ?_
        refine ax_iadd' B dX29_go_102 ?_
        refine ax_iload_n B dX29_go_103 rfl hl 2 rfl ?_
        refine ax_iconst B dX29_go_104 ?_
        refine ax_iload_n B dX29_go_105 rfl hl 3 rfl ?_
        refine ax_ishl' B dX29_go_106 ?_
        refine ax_ior' B dX29_go_107 ?_
        refine ax_iwV (x := ⟨"DebtDoors$Rows", "go", "(II)V"⟩) (n := 2) (As := [.int (Int32.ofInt (x1 + 1)), .int (Int32.ofInt (ax_or x2 (ax_shl 1 x3)))]) B (fun w1 e1 => ?_) rfl hl.size (by decide) dX29_go_108 e (fun h13 e => ?_)
        · obtain ⟨t, c, e2, e1⟩ := ax_dp_spec e1
          rcases ax_ite e1 with ⟨hk, e1⟩ | ⟨-, e1⟩
          · rcases hk with rfl | rfl
            · exact ax_cal B kd30 e2 q1593 q2736 (ax_dcD B q1568) (B.2.1.2.2.2.2 _ q2737) q1570 q171 q1571 (by decide +kernel) (by omega) (hg0 x0 (x1 + 1) (ax_or x2 (ax_shl 1 x3)) _ w1 e1)
            · exact ax_cal B kd31 e2 q1593 q2736 (ax_dcD B q1568) (B.2.1.2.2.2.2 _ q2738) q1570 q171 q1571 (by decide +kernel) (by omega) (hg0 x0 (x1 + 1) (ax_or x2 (ax_shl 1 x3)) _ w1 e1)
          cases e1
        exact w_X29_go_111 hF hg0 hSF B Z hn x0 x1 x2 x3 (hl.sub [0, 1, 2, 3] rfl) e hp
    · exact w_X29_go_111 hF hg0 hSF B Z hn x0 x1 x2 x3 (hl.sub [0, 1, 2, 3] rfl) e hp
  · obtain ⟨w, e9_1, rfl⟩ := Option.map_eq_some_iff.mp e
    have e := e9_1
    have e8 := e
    have hp : Q = _ := hp
    subst hp
    exact ax_return B Z dX29_go_117 e8
theorem w_X29_go_42 {l : Launch} {G : ax_G} {X : ax_X} {Q : State → Prop} {h0 h : ax_H} {ls : Array Slot} {g0 : Option Nat → Int → Int → ax_H → Option (ax_H)} {fr lo fr1 lo1 : Nat} (hF : fr1 + 1 ≤ fr ∧ 141 ≤ fr ∧ lo1 + 23 ≤ lo ∧ 3591 ≤ lo) (hg0 : ∀ (x0 : Option Nat) (x1 : Int) (x2 : Int) (h : ax_H) (w : ax_H), g0 x0 x1 x2 h = some w → ax_Met l G yX29_go cX29_go 4 none fr1 lo1 [va_rf x0, .int (Int32.ofInt x1), .int (Int32.ofInt x2)] h w none) (hSF : ax_SF G) (B : ax_BL l G X cX29_go 4 RX29 fr lo) (Z : ax_Z X h0 none) (hn : X.2.2.2.2.2.2.2.2.1.name = yX29_go.name) (x0 : Option Nat) (x1 : Int) (x2 : Int) (x3 : Int) {w : ax_H} (hl : ax_hl ls 4 [(0, .inr (.inr x0)), (1, .inl x1), (2, .inl x2), (3, .inl x3)]) (e : f_X29_go_42 G.2.2 g0 x0 x1 x2 x3 h = some w) (hp : (fun w : ax_H => Q = ax_Q G X h0 w none) w) : ax_W G X Q h 42 ls [] :=
  ax_iter_W (Pin := pi_X29_go_42 G X Q x0 x1 x2) (Pout := (fun w : ax_H => Q = ax_Q G X h0 w none)) (fun s w e hp ls hl => wb_X29_go_42 hF hg0 hSF B Z hn x0 x1 x2 s.1 hl e hp) _ _ e hp ls hl
set_option maxHeartbeats 4000000 in
theorem we_X29_go {l : Launch} {G : ax_G} {X : ax_X} {Q : State → Prop} {h0 h : ax_H} {ls : Array Slot} {g0 : Option Nat → Int → Int → ax_H → Option (ax_H)} {fr lo fr1 lo1 : Nat} (hF : fr1 + 1 ≤ fr ∧ 141 ≤ fr ∧ lo1 + 23 ≤ lo ∧ 3591 ≤ lo) (hg0 : ∀ (x0 : Option Nat) (x1 : Int) (x2 : Int) (h : ax_H) (w : ax_H), g0 x0 x1 x2 h = some w → ax_Met l G yX29_go cX29_go 4 none fr1 lo1 [va_rf x0, .int (Int32.ofInt x1), .int (Int32.ofInt x2)] h w none) (hSF : ax_SF G) (B : ax_BL l G X cX29_go 4 RX29 fr lo) (Z : ax_Z X h0 none) (hn : X.2.2.2.2.2.2.2.2.1.name = yX29_go.name) (x0 : Option Nat) (x1 : Int) (x2 : Int) {w : ax_H} (hl : ax_hl ls 4 [(0, .inr (.inr x0)), (1, .inl x1), (2, .inl x2)]) (e : f_X29_go G.2.2 g0 x0 x1 x2 h = some w) (hp : (fun w : ax_H => Q = ax_Q G X h0 w none) w) : ax_W G X Q h 0 ls [] := by
  unfold f_X29_go at e
  refine ax_iload_n B dX29_go_0 rfl hl 1 rfl ?_
  refine ax_aload_n B dX29_go_1 rfl hl 0 rfl ?_
  refine ax_getIs B fs_X29_13 (fun _ _ => rfl) dX29_go_2 e (fun v1 e => ?_)
  refine ax_icmp_ne (tgt := 40) B dX29_go_5 (by decide) e (fun e => ?_) (fun e => ?_)
  · refine ax_aload_n B dX29_go_8 rfl hl 0 rfl ?_
    refine ax_dup B dX29_go_9 (va_rf_cat _) ?_
    refine ax_getIs B fs_X29_40 (fun _ _ => rfl) dX29_go_10 e (fun v2 e => ?_)
    refine ax_dup_x1 B dX29_go_13 (rfl) (va_rf_cat _) ?_
    refine ax_iconst B dX29_go_14 ?_
    refine ax_iadd' B dX29_go_15 ?_
    refine ax_putIs B fs_X29_40 (Or.inl rfl) rfl dX29_go_16 e (fun h3 e => ?_)
    refine ax_if_ne (tgt := 39) B dX29_go_19 (by decide) e (fun e => ?_) (fun e => ?_)
    · refine ax_aload_n B dX29_go_22 rfl hl 0 rfl ?_
      refine ax_getRs B fs_X29_17 (fun _ _ => rfl) dX29_go_23 e (fun v4 e => ?_)
      refine ax_iconst B dX29_go_26 ?_
      refine ax_aload_n B dX29_go_27 rfl hl 0 rfl ?_
      refine ax_getRs B fs_X29_21 (fun _ _ => rfl) dX29_go_28 e (fun v5 e => ?_)
      refine ax_iconst B dX29_go_31 ?_
      refine ax_aload_n B dX29_go_32 rfl hl 0 rfl ?_
      refine ax_getIs B fs_X29_13 (fun _ _ => rfl) dX29_go_33 e (fun v6 e => ?_)
      refine ax_copyI B q1572 q696 q695 q143 hl.size (by omega) (by simp; omega) dX29_go_36 e (fun h7 e => ?_)
      have e8 := e
      have hp : Q = _ := hp
      subst hp
      exact ax_return B Z dX29_go_39 e8
    · have e8 := e
      have hp : Q = _ := hp
      subst hp
      exact ax_return B Z dX29_go_39 e8
  · refine ax_iconst B dX29_go_40 ?_
    refine ax_istore_n (L' := [(3, .inl 0), (0, .inr (.inr x0)), (1, .inl x1), (2, .inl x2)]) B dX29_go_41 rfl hl (by decide) rfl (fun ls hl => ?_)
    exact w_X29_go_42 hF hg0 hSF B Z hn x0 x1 x2 0 (hl.sub [1, 2, 3, 0] rfl) e hp
theorem mt_X29_go (l : Launch) (G : ax_G) (hSF : ax_SF G) {g0 : Option Nat → Int → Int → ax_H → Option (ax_H)} {fr lo fr1 lo1 : Nat} (hF : fr1 + 1 ≤ fr ∧ 141 ≤ fr ∧ lo1 + 23 ≤ lo ∧ 3591 ≤ lo) (hg0 : ∀ (x0 : Option Nat) (x1 : Int) (x2 : Int) (h : ax_H) (w : ax_H), g0 x0 x1 x2 h = some w → ax_Met l G yX29_go cX29_go 4 none fr1 lo1 [va_rf x0, .int (Int32.ofInt x1), .int (Int32.ofInt x2)] h w none) (x0 : Option Nat) (x1 : Int) (x2 : Int) (h : ax_H) (w : ax_H) (e : f_X29_go G.2.2 g0 x0 x1 x2 h = some w) : ax_Met l G yX29_go cX29_go 4 none fr lo [va_rf x0, .int (Int32.ofInt x1), .int (Int32.ofInt x2)] h w none :=
  ax_enter [.inr (.inr x0), .inl x1, .inl x2] (y := yX29_go) hSF (plainFor_of_name (by decide +kernel)) (Nat.le_of_ble_eq_true rfl) (fun X ls B Z hn hl => we_X29_go hF hg0 hSF B Z hn x0 x1 x2 hl e rfl)
theorem mg_X29_go (l : Launch) (G : ax_G) (hSF : ax_SF G) : ∀ n : Nat, (∀ (x0 : Option Nat) (x1 : Int) (x2 : Int) (h : ax_H) (w : ax_H), (rg_X29_go G.2.2 n) x0 x1 x2 h = some w → ax_Met l G yX29_go cX29_go 4 none (141 + n) (3591 + n * 23) [va_rf x0, .int (Int32.ofInt x1), .int (Int32.ofInt x2)] h w none)
  | 0 => fun _ _ _ _ _ e => (by cases e)
  | n + 1 => by
    have ih := mg_X29_go l G hSF n
    exact fun x0 x1 x2 h w e => mt_X29_go l G hSF (fr1 := 141 + n) (lo1 := 3591 + n * 23) (by omega) (ih) x0 x1 x2 h w e
theorem mf_X29_go (l : Launch) (G : ax_G) (hSF : ax_SF G) (n : Nat) (x0 : Option Nat) (x1 : Int) (x2 : Int) (h : ax_H) (w : ax_H) (e : fn_X29_go G.2.2 n x0 x1 x2 h = some w) : ax_Met l G yX29_go cX29_go 4 none (141 + n) (3591 + n * 23) [va_rf x0, .int (Int32.ofInt x1), .int (Int32.ofInt x2)] h w none := (mg_X29_go l G hSF n) x0 x1 x2 h w e
def dkwX0_lendings_2_6 : List UInt8 := [3, 3, 182, 1, 114, 25, 4, 176]
abbrev dktX0_lendings_2_6 : List UInt8 := dkwX0_lendings_2_6 ++ []
def dkwX0_lendings_2_5 : List UInt8 := [21, 4, 79, 132, 4, 1, 167, 255, 148, 187, 1, 109, 89, 42, 43, 44, 29, 183, 1, 111, 58, 4, 25, 4]
abbrev dktX0_lendings_2_5 : List UInt8 := dkwX0_lendings_2_5 ++ dktX0_lendings_2_6
def dkwX0_lendings_2_4 : List UInt8 := [160, 0, 5, 1, 176, 21, 6, 154, 0, 6, 167, 0, 16, 43, 29, 21, 6, 79, 44, 29, 132, 3, 1]
abbrev dktX0_lendings_2_4 : List UInt8 := dkwX0_lendings_2_4 ++ dktX0_lendings_2_5
def dkwX0_lendings_2_3 : List UInt8 := [180, 1, 87, 21, 4, 182, 0, 242, 192, 1, 90, 180, 1, 101, 21, 5, 182, 1, 84, 54, 6, 21, 6, 2]
abbrev dktX0_lendings_2_3 : List UInt8 := dkwX0_lendings_2_3 ++ dktX0_lendings_2_4
def dkwX0_lendings_2_2 : List UInt8 := [42, 180, 0, 20, 180, 1, 87, 21, 4, 182, 0, 242, 192, 1, 90, 180, 1, 98, 42, 180, 0, 20]
abbrev dktX0_lendings_2_2 : List UInt8 := dkwX0_lendings_2_2 ++ dktX0_lendings_2_3
def dkwX0_lendings_2_1 : List UInt8 := [182, 0, 218, 162, 0, 99, 42, 21, 4, 182, 1, 106, 54, 5, 21, 5, 2, 160, 0, 6, 167, 0, 76, 42]
abbrev dktX0_lendings_2_1 : List UInt8 := dkwX0_lendings_2_1 ++ dktX0_lendings_2_2
def dkwX0_lendings_2_0 : List UInt8 := [16, 8, 188, 10, 76, 16, 8, 188, 10, 77, 3, 62, 3, 54, 4, 21, 4, 42, 180, 0, 20, 180, 1, 87]
abbrev dktX0_lendings_2_0 : List UInt8 := dkwX0_lendings_2_0 ++ dktX0_lendings_2_1
theorem dksX0_lendings_2_0 : cX0_lendings_2.data.toList.drop 0 = dktX0_lendings_2_0 := by decide +kernel
theorem dksX0_lendings_2_1 : cX0_lendings_2.data.toList.drop 24 = dktX0_lendings_2_1 := dk_seg dksX0_lendings_2_0 24 rfl rfl
theorem dksX0_lendings_2_2 : cX0_lendings_2.data.toList.drop 48 = dktX0_lendings_2_2 := dk_seg dksX0_lendings_2_1 24 rfl rfl
theorem dksX0_lendings_2_3 : cX0_lendings_2.data.toList.drop 70 = dktX0_lendings_2_3 := dk_seg dksX0_lendings_2_2 22 rfl rfl
theorem dksX0_lendings_2_4 : cX0_lendings_2.data.toList.drop 94 = dktX0_lendings_2_4 := dk_seg dksX0_lendings_2_3 24 rfl rfl
theorem dksX0_lendings_2_5 : cX0_lendings_2.data.toList.drop 117 = dktX0_lendings_2_5 := dk_seg dksX0_lendings_2_4 23 rfl rfl
theorem dksX0_lendings_2_6 : cX0_lendings_2.data.toList.drop 141 = dktX0_lendings_2_6 := dk_seg dksX0_lendings_2_5 24 rfl rfl
theorem dX0_lendings_2_0 : decode cX0_lendings_2 0 = .ok (.bipush 8, 2) := dk_16 8 (dk_at dksX0_lendings_2_0 0 rfl rfl)
theorem dX0_lendings_2_2 : decode cX0_lendings_2 2 = .ok (.newarray .int, 2) := dk_188_10 (dk_at dksX0_lendings_2_0 2 rfl rfl)
theorem dX0_lendings_2_4 : decode cX0_lendings_2 4 = .ok (.astore_n 1, 1) := dk_76 (dk_at dksX0_lendings_2_0 4 rfl rfl)
theorem dX0_lendings_2_5 : decode cX0_lendings_2 5 = .ok (.bipush 8, 2) := dk_16 8 (dk_at dksX0_lendings_2_0 5 rfl rfl)
theorem dX0_lendings_2_7 : decode cX0_lendings_2 7 = .ok (.newarray .int, 2) := dk_188_10 (dk_at dksX0_lendings_2_0 7 rfl rfl)
theorem dX0_lendings_2_9 : decode cX0_lendings_2 9 = .ok (.astore_n 2, 1) := dk_77 (dk_at dksX0_lendings_2_0 9 rfl rfl)
theorem dX0_lendings_2_10 : decode cX0_lendings_2 10 = .ok (.iconst 0, 1) := dk_3 (dk_at dksX0_lendings_2_0 10 rfl rfl)
theorem dX0_lendings_2_11 : decode cX0_lendings_2 11 = .ok (.istore_n 3, 1) := dk_62 (dk_at dksX0_lendings_2_0 11 rfl rfl)
theorem dX0_lendings_2_12 : decode cX0_lendings_2 12 = .ok (.iconst 0, 1) := dk_3 (dk_at dksX0_lendings_2_0 12 rfl rfl)
theorem dX0_lendings_2_13 : decode cX0_lendings_2 13 = .ok (.istore 4, 2) := dk_54 4 (dk_at dksX0_lendings_2_0 13 rfl rfl)
theorem dX0_lendings_2_15 : decode cX0_lendings_2 15 = .ok (.iload 4, 2) := dk_21 4 (dk_at dksX0_lendings_2_0 15 rfl rfl)
theorem dX0_lendings_2_17 : decode cX0_lendings_2 17 = .ok (.aload_n 0, 1) := dk_42 (dk_at dksX0_lendings_2_0 17 rfl rfl)
theorem dX0_lendings_2_18 : decode cX0_lendings_2 18 = .ok (.getfield 20, 3) := dk_180 0 20 (dk_at dksX0_lendings_2_0 18 rfl rfl)
theorem dX0_lendings_2_21 : decode cX0_lendings_2 21 = .ok (.getfield 343, 3) := dk_180 1 87 (dk_at dksX0_lendings_2_0 21 rfl rfl)
theorem dX0_lendings_2_24 : decode cX0_lendings_2 24 = .ok (.invokevirtual 218, 3) := dk_182 0 218 (dk_at dksX0_lendings_2_1 0 rfl rfl)
theorem dX0_lendings_2_27 : decode cX0_lendings_2 27 = .ok (.if_icmp .ge 99, 3) := dk_162 0 99 (dk_at dksX0_lendings_2_1 3 rfl rfl)
theorem dX0_lendings_2_30 : decode cX0_lendings_2 30 = .ok (.aload_n 0, 1) := dk_42 (dk_at dksX0_lendings_2_1 6 rfl rfl)
theorem dX0_lendings_2_31 : decode cX0_lendings_2 31 = .ok (.iload 4, 2) := dk_21 4 (dk_at dksX0_lendings_2_1 7 rfl rfl)
theorem dX0_lendings_2_33 : decode cX0_lendings_2 33 = .ok (.invokevirtual 362, 3) := dk_182 1 106 (dk_at dksX0_lendings_2_1 9 rfl rfl)
theorem dX0_lendings_2_36 : decode cX0_lendings_2 36 = .ok (.istore 5, 2) := dk_54 5 (dk_at dksX0_lendings_2_1 12 rfl rfl)
theorem dX0_lendings_2_38 : decode cX0_lendings_2 38 = .ok (.iload 5, 2) := dk_21 5 (dk_at dksX0_lendings_2_1 14 rfl rfl)
theorem dX0_lendings_2_40 : decode cX0_lendings_2 40 = .ok (.iconst (-1), 1) := dk_2 (dk_at dksX0_lendings_2_1 16 rfl rfl)
theorem dX0_lendings_2_41 : decode cX0_lendings_2 41 = .ok (.if_icmp .ne 6, 3) := dk_160 0 6 (dk_at dksX0_lendings_2_1 17 rfl rfl)
theorem dX0_lendings_2_44 : decode cX0_lendings_2 44 = .ok (.goto 76, 3) := dk_167 0 76 (dk_at dksX0_lendings_2_1 20 rfl rfl)
theorem dX0_lendings_2_47 : decode cX0_lendings_2 47 = .ok (.aload_n 0, 1) := dk_42 (dk_at dksX0_lendings_2_1 23 rfl rfl)
theorem dX0_lendings_2_48 : decode cX0_lendings_2 48 = .ok (.aload_n 0, 1) := dk_42 (dk_at dksX0_lendings_2_2 0 rfl rfl)
theorem dX0_lendings_2_49 : decode cX0_lendings_2 49 = .ok (.getfield 20, 3) := dk_180 0 20 (dk_at dksX0_lendings_2_2 1 rfl rfl)
theorem dX0_lendings_2_52 : decode cX0_lendings_2 52 = .ok (.getfield 343, 3) := dk_180 1 87 (dk_at dksX0_lendings_2_2 4 rfl rfl)
theorem dX0_lendings_2_55 : decode cX0_lendings_2 55 = .ok (.iload 4, 2) := dk_21 4 (dk_at dksX0_lendings_2_2 7 rfl rfl)
theorem dX0_lendings_2_57 : decode cX0_lendings_2 57 = .ok (.invokevirtual 242, 3) := dk_182 0 242 (dk_at dksX0_lendings_2_2 9 rfl rfl)
theorem dX0_lendings_2_60 : decode cX0_lendings_2 60 = .ok (.checkcast 346, 3) := dk_192 1 90 (dk_at dksX0_lendings_2_2 12 rfl rfl)
theorem dX0_lendings_2_63 : decode cX0_lendings_2 63 = .ok (.getfield 354, 3) := dk_180 1 98 (dk_at dksX0_lendings_2_2 15 rfl rfl)
theorem dX0_lendings_2_66 : decode cX0_lendings_2 66 = .ok (.aload_n 0, 1) := dk_42 (dk_at dksX0_lendings_2_2 18 rfl rfl)
theorem dX0_lendings_2_67 : decode cX0_lendings_2 67 = .ok (.getfield 20, 3) := dk_180 0 20 (dk_at dksX0_lendings_2_2 19 rfl rfl)
theorem dX0_lendings_2_70 : decode cX0_lendings_2 70 = .ok (.getfield 343, 3) := dk_180 1 87 (dk_at dksX0_lendings_2_3 0 rfl rfl)
theorem dX0_lendings_2_73 : decode cX0_lendings_2 73 = .ok (.iload 4, 2) := dk_21 4 (dk_at dksX0_lendings_2_3 3 rfl rfl)
theorem dX0_lendings_2_75 : decode cX0_lendings_2 75 = .ok (.invokevirtual 242, 3) := dk_182 0 242 (dk_at dksX0_lendings_2_3 5 rfl rfl)
theorem dX0_lendings_2_78 : decode cX0_lendings_2 78 = .ok (.checkcast 346, 3) := dk_192 1 90 (dk_at dksX0_lendings_2_3 8 rfl rfl)
theorem dX0_lendings_2_81 : decode cX0_lendings_2 81 = .ok (.getfield 357, 3) := dk_180 1 101 (dk_at dksX0_lendings_2_3 11 rfl rfl)
theorem dX0_lendings_2_84 : decode cX0_lendings_2 84 = .ok (.iload 5, 2) := dk_21 5 (dk_at dksX0_lendings_2_3 14 rfl rfl)
theorem dX0_lendings_2_86 : decode cX0_lendings_2 86 = .ok (.invokevirtual 340, 3) := dk_182 1 84 (dk_at dksX0_lendings_2_3 16 rfl rfl)
theorem dX0_lendings_2_89 : decode cX0_lendings_2 89 = .ok (.istore 6, 2) := dk_54 6 (dk_at dksX0_lendings_2_3 19 rfl rfl)
theorem dX0_lendings_2_91 : decode cX0_lendings_2 91 = .ok (.iload 6, 2) := dk_21 6 (dk_at dksX0_lendings_2_3 21 rfl rfl)
theorem dX0_lendings_2_93 : decode cX0_lendings_2 93 = .ok (.iconst (-1), 1) := dk_2 (dk_at dksX0_lendings_2_3 23 rfl rfl)
theorem dX0_lendings_2_94 : decode cX0_lendings_2 94 = .ok (.if_icmp .ne 5, 3) := dk_160 0 5 (dk_at dksX0_lendings_2_4 0 rfl rfl)
theorem dX0_lendings_2_97 : decode cX0_lendings_2 97 = .ok (.aconst_null, 1) := dk_1 (dk_at dksX0_lendings_2_4 3 rfl rfl)
theorem dX0_lendings_2_98 : decode cX0_lendings_2 98 = .ok (.areturn, 1) := dk_176 (dk_at dksX0_lendings_2_4 4 rfl rfl)
theorem dX0_lendings_2_99 : decode cX0_lendings_2 99 = .ok (.iload 6, 2) := dk_21 6 (dk_at dksX0_lendings_2_4 5 rfl rfl)
theorem dX0_lendings_2_101 : decode cX0_lendings_2 101 = .ok (.ifCond .ne 6, 3) := dk_154 0 6 (dk_at dksX0_lendings_2_4 7 rfl rfl)
theorem dX0_lendings_2_104 : decode cX0_lendings_2 104 = .ok (.goto 16, 3) := dk_167 0 16 (dk_at dksX0_lendings_2_4 10 rfl rfl)
theorem dX0_lendings_2_107 : decode cX0_lendings_2 107 = .ok (.aload_n 1, 1) := dk_43 (dk_at dksX0_lendings_2_4 13 rfl rfl)
theorem dX0_lendings_2_108 : decode cX0_lendings_2 108 = .ok (.iload_n 3, 1) := dk_29 (dk_at dksX0_lendings_2_4 14 rfl rfl)
theorem dX0_lendings_2_109 : decode cX0_lendings_2 109 = .ok (.iload 6, 2) := dk_21 6 (dk_at dksX0_lendings_2_4 15 rfl rfl)
theorem dX0_lendings_2_111 : decode cX0_lendings_2 111 = .ok (.iastore, 1) := dk_79 (dk_at dksX0_lendings_2_4 17 rfl rfl)
theorem dX0_lendings_2_112 : decode cX0_lendings_2 112 = .ok (.aload_n 2, 1) := dk_44 (dk_at dksX0_lendings_2_4 18 rfl rfl)
theorem dX0_lendings_2_113 : decode cX0_lendings_2 113 = .ok (.iload_n 3, 1) := dk_29 (dk_at dksX0_lendings_2_4 19 rfl rfl)
theorem dX0_lendings_2_114 : decode cX0_lendings_2 114 = .ok (.iinc 3 1, 3) := dk_132 3 1 (dk_at dksX0_lendings_2_4 20 rfl rfl)
theorem dX0_lendings_2_117 : decode cX0_lendings_2 117 = .ok (.iload 4, 2) := dk_21 4 (dk_at dksX0_lendings_2_5 0 rfl rfl)
theorem dX0_lendings_2_119 : decode cX0_lendings_2 119 = .ok (.iastore, 1) := dk_79 (dk_at dksX0_lendings_2_5 2 rfl rfl)
theorem dX0_lendings_2_120 : decode cX0_lendings_2 120 = .ok (.iinc 4 1, 3) := dk_132 4 1 (dk_at dksX0_lendings_2_5 3 rfl rfl)
theorem dX0_lendings_2_123 : decode cX0_lendings_2 123 = .ok (.goto (-108), 3) := dk_167 255 148 (dk_at dksX0_lendings_2_5 6 rfl rfl)
theorem dX0_lendings_2_126 : decode cX0_lendings_2 126 = .ok (.new 365, 3) := dk_187 1 109 (dk_at dksX0_lendings_2_5 9 rfl rfl)
theorem dX0_lendings_2_129 : decode cX0_lendings_2 129 = .ok (.dup, 1) := dk_89 (dk_at dksX0_lendings_2_5 12 rfl rfl)
theorem dX0_lendings_2_130 : decode cX0_lendings_2 130 = .ok (.aload_n 0, 1) := dk_42 (dk_at dksX0_lendings_2_5 13 rfl rfl)
theorem dX0_lendings_2_131 : decode cX0_lendings_2 131 = .ok (.aload_n 1, 1) := dk_43 (dk_at dksX0_lendings_2_5 14 rfl rfl)
theorem dX0_lendings_2_132 : decode cX0_lendings_2 132 = .ok (.aload_n 2, 1) := dk_44 (dk_at dksX0_lendings_2_5 15 rfl rfl)
theorem dX0_lendings_2_133 : decode cX0_lendings_2 133 = .ok (.iload_n 3, 1) := dk_29 (dk_at dksX0_lendings_2_5 16 rfl rfl)
theorem dX0_lendings_2_134 : decode cX0_lendings_2 134 = .ok (.invokespecial 367, 3) := dk_183 1 111 (dk_at dksX0_lendings_2_5 17 rfl rfl)
theorem dX0_lendings_2_137 : decode cX0_lendings_2 137 = .ok (.astore 4, 2) := dk_58 4 (dk_at dksX0_lendings_2_5 20 rfl rfl)
theorem dX0_lendings_2_139 : decode cX0_lendings_2 139 = .ok (.aload 4, 2) := dk_25 4 (dk_at dksX0_lendings_2_5 22 rfl rfl)
theorem dX0_lendings_2_141 : decode cX0_lendings_2 141 = .ok (.iconst 0, 1) := dk_3 (dk_at dksX0_lendings_2_6 0 rfl rfl)
theorem dX0_lendings_2_142 : decode cX0_lendings_2 142 = .ok (.iconst 0, 1) := dk_3 (dk_at dksX0_lendings_2_6 1 rfl rfl)
theorem dX0_lendings_2_143 : decode cX0_lendings_2 143 = .ok (.invokevirtual 370, 3) := dk_182 1 114 (dk_at dksX0_lendings_2_6 2 rfl rfl)
theorem dX0_lendings_2_146 : decode cX0_lendings_2 146 = .ok (.aload 4, 2) := dk_25 4 (dk_at dksX0_lendings_2_6 5 rfl rfl)
theorem dX0_lendings_2_148 : decode cX0_lendings_2 148 = .ok (.areturn, 1) := dk_176 (dk_at dksX0_lendings_2_6 7 rfl rfl)
noncomputable def f_X0_lendings_2_120 (E : ax_E) (x0 : Option Nat) (x1 : Option Nat) (x2 : Option Nat) (x3 : Int) (x4 : Int) (h : ax_H) : Option ((Int × Int × ax_H) ⊕ (Option Nat × ax_H)) :=
  some (.inl (x3, (x4 + 1), h))
noncomputable def lb_X0_lendings_2_15 (E : ax_E) (x0 : Option Nat) (x1 : Option Nat) (x2 : Option Nat) (x3 : Int) (x4 : Int) (h : ax_H) : Option ((Int × Int × ax_H) ⊕ (Option Nat × ax_H)) :=
  (ax_gR E h x0 0 0).bind fun v1 =>
  (ax_gR E h v1 1 1).bind fun v2 =>
  (ax_ce E h v2 42).bind fun _ => (f_J2_size E v2 h).bind fun q3 =>
  if i2 x4 < i2 q3.1 then
    (ax_ce E q3.2 x0 0).bind fun _ => (f_X0_deepest E x0 x4 q3.2).bind fun q4 =>
    if i2 q4.1 = i2 (-1) then
      f_X0_lendings_2_120 E x0 x1 x2 x3 x4 q4.2
    else
      (ax_gR E q4.2 x0 0 0).bind fun v5 =>
      (ax_gR E q4.2 v5 1 1).bind fun v6 =>
      (ax_ce E q4.2 v6 42).bind fun _ => (f_J2_get E v6 x4 q4.2).bind fun q7 =>
      (ax_cc E q7.2 q7.1 28).bind fun _ =>
      (ax_gI E q7.2 q7.1 28 0).bind fun v8 =>
      (ax_gR E q7.2 x0 0 0).bind fun v9 =>
      (ax_gR E q7.2 v9 1 1).bind fun v10 =>
      (ax_ce E q7.2 v10 42).bind fun _ => (f_J2_get E v10 x4 q7.2).bind fun q11 =>
      (ax_cc E q11.2 q11.1 28).bind fun _ =>
      (ax_gI E q11.2 q11.1 28 1).bind fun v12 =>
      (ax_ce E q11.2 x0 0).bind fun _ => (f_X0_needOf E x0 v8 v12 q4.1 q11.2).bind fun q13 =>
      if i2 q13.1 = i2 (-1) then
        (some (none, q13.2)).map Sum.inr
      else
        if i2 q13.1 = 0 then
          f_X0_lendings_2_120 E x0 x1 x2 x3 x4 q13.2
        else
          (ax_sto q13.2 x1 100 x3 q13.1).bind fun h14 =>
          (ax_sto h14 x2 100 x3 x4).bind fun h15 =>
          f_X0_lendings_2_120 E x0 x1 x2 (x3 + 1) x4 h15
  else
    ((ax_nw E q3.2 30 0 9).bind fun q16 =>
    (some q16.1).bind fun _ => (f_X30_init E (some q16.1) x0 x1 x2 x3 q16.2).bind fun h17 =>
    (ax_dp E h17 (some q16.1) fun t => if t = 30 then fn_X29_go E 64 (some q16.1) 0 0 h17 else none).bind fun h18 =>
    some ((some q16.1), h18)).map Sum.inr
noncomputable def f_X0_lendings_2_15 (E : ax_E) (x0 : Option Nat) (x1 : Option Nat) (x2 : Option Nat) (x3 : Int) (x4 : Int) (h : ax_H) : Option (Option Nat × ax_H) :=
  ax_iter (fun s : Int × Int × ax_H => lb_X0_lendings_2_15 E x0 x1 x2 s.1 s.2.1 s.2.2) (x3, x4, h)
noncomputable def f_X0_lendings_2 (E : ax_E) (x0 : Option Nat) (h : ax_H) : Option (Option Nat × ax_H) :=
  (ax_na E h 100 8).bind fun q1 =>
  (ax_na E q1.2 100 8).bind fun q2 =>
  f_X0_lendings_2_15 E x0 (some q1.1) (some q2.1) 0 0 q2.2
def pi_X0_lendings_2_15 (G : ax_G) (X : ax_X) (Q : State → Prop) (x0 : Option Nat) (x1 : Option Nat) (x2 : Option Nat) : Int × Int × ax_H → Prop := fun s => ∀ ls : Array Slot, ax_hl ls 7 [(0, .inr (.inr x0)), (1, .inr (.inr x1)), (2, .inr (.inr x2)), (3, .inl s.1), (4, .inl s.2.1)] → ax_W G X Q s.2.2 15 ls []
set_option maxHeartbeats 4000000 in
theorem w_X0_lendings_2_120 {l : Launch} {G : ax_G} {X : ax_X} {Q : State → Prop} {h0 h : ax_H} {ls : Array Slot} (hSF : ax_SF G) (B : ax_BL l G X cX0_lendings_2 7 RX0 206 5086) (Z : ax_Z X h0 ((some (FieldType.object "DebtDoors$Lendings")))) (hn : X.2.2.2.2.2.2.2.2.1.name = yX0_lendings_2.name) (x0 : Option Nat) (x1 : Option Nat) (x2 : Option Nat) (x3 : Int) (x4 : Int) {w : (Int × Int × ax_H) ⊕ (Option Nat × ax_H)} (hl : ax_hl ls 7 [(0, .inr (.inr x0)), (1, .inr (.inr x1)), (2, .inr (.inr x2)), (3, .inl x3), (4, .inl x4)]) (e : f_X0_lendings_2_120 G.2.2 x0 x1 x2 x3 x4 h = some w) (hp : (ax_PL (pi_X0_lendings_2_15 G X Q x0 x1 x2) (fun w : Option Nat × ax_H => Q = ax_Q G X h0 w.2 (some (va_rf w.1)))) w) : ax_W G X Q h 120 ls [] := by
  unfold f_X0_lendings_2_120 at e
  refine ax_iinc (L' := [(4, .inl (x4 + 1)), (0, .inr (.inr x0)), (1, .inr (.inr x1)), (2, .inr (.inr x2)), (3, .inl x3)]) B dX0_lendings_2_120 hl 4 rfl (by decide) rfl (fun ls hl => ?_)
  refine ax_goto (tgt := 15) B dX0_lendings_2_123 (by decide) ?_
  cases e
  exact hp _ (hl.sub [1, 2, 3, 4, 0] rfl)
set_option maxHeartbeats 4000000 in
theorem wb_X0_lendings_2_15 {l : Launch} {G : ax_G} {X : ax_X} {Q : State → Prop} {h0 h : ax_H} {ls : Array Slot} (hSF : ax_SF G) (B : ax_BL l G X cX0_lendings_2 7 RX0 206 5086) (Z : ax_Z X h0 ((some (FieldType.object "DebtDoors$Lendings")))) (hn : X.2.2.2.2.2.2.2.2.1.name = yX0_lendings_2.name) (x0 : Option Nat) (x1 : Option Nat) (x2 : Option Nat) (x3 : Int) (x4 : Int) {w : (Int × Int × ax_H) ⊕ (Option Nat × ax_H)} (hl : ax_hl ls 7 [(0, .inr (.inr x0)), (1, .inr (.inr x1)), (2, .inr (.inr x2)), (3, .inl x3), (4, .inl x4)]) (e : lb_X0_lendings_2_15 G.2.2 x0 x1 x2 x3 x4 h = some w) (hp : (ax_PL (pi_X0_lendings_2_15 G X Q x0 x1 x2) (fun w : Option Nat × ax_H => Q = ax_Q G X h0 w.2 (some (va_rf w.1)))) w) : ax_W G X Q h 15 ls [] := by
  unfold lb_X0_lendings_2_15 at e
  refine ax_iload B dX0_lendings_2_15 hl 4 rfl ?_
  refine ax_aload_n B dX0_lendings_2_17 rfl hl 0 rfl ?_
  refine ax_getR B ff_X0_20_0 (fun _ _ => rfl) dX0_lendings_2_18 e (fun v1 e => ?_)
  refine ax_getR B ff_X0_343_1 (fun _ _ => rfl) dX0_lendings_2_21 e (fun v2 e => ?_)
  refine ax_ivI (y := yJ2_size) (n := 0) (As := []) B kd42 (lw_V q709 q710 q711 q129 q712) (by decide +kernel) ⟨Nat.le_of_ble_eq_true rfl, Nat.le_of_ble_eq_true rfl⟩ (fun w1 e1 => mt_J2_size l G hSF v2 _ w1 e1) rfl hl.size (by simp only [List.map_cons, List.map_nil, List.sum_cons, List.sum_nil, va_rf_cat, ax_catI, ax_catL]; decide) dX0_lendings_2_24 e (fun q3 e => ?_)
  refine ax_icmp_ge (tgt := 126) B dX0_lendings_2_27 (by decide) e (fun e => ?_) (fun e => ?_)
  · refine ax_aload_n B dX0_lendings_2_30 rfl hl 0 rfl ?_
    refine ax_iload B dX0_lendings_2_31 hl 4 rfl ?_
    refine ax_ivI (y := yX0_deepest) (n := 1) (As := [.int (Int32.ofInt x4)]) B kd0 (lw_V q1510 q1512 qs34 q125 q1513) (by decide +kernel) ⟨Nat.le_of_ble_eq_true rfl, Nat.le_of_ble_eq_true rfl⟩ (fun w1 e1 => mt_X0_deepest l G hSF x0 x4 _ w1 e1) rfl hl.size (by decide) dX0_lendings_2_33 e (fun q4 e => ?_)
    refine ax_istore (L' := [(5, .inl q4.1), (0, .inr (.inr x0)), (1, .inr (.inr x1)), (2, .inr (.inr x2)), (3, .inl x3), (4, .inl x4)]) B dX0_lendings_2_36 hl (by decide) rfl (fun ls hl => ?_)
    refine ax_iload B dX0_lendings_2_38 hl 0 rfl ?_
    refine ax_iconst B dX0_lendings_2_40 ?_
    refine ax_icmp_ne (tgt := 47) B dX0_lendings_2_41 (by decide) e (fun e => ?_) (fun e => ?_)
    · refine ax_goto (tgt := 120) B dX0_lendings_2_44 (by decide) ?_
      exact w_X0_lendings_2_120 hSF B Z hn x0 x1 x2 x3 x4 (hl.sub [1, 2, 3, 4, 5] rfl) e hp
    · refine ax_aload_n B dX0_lendings_2_47 rfl hl 1 rfl ?_
      refine ax_aload_n B dX0_lendings_2_48 rfl hl 1 rfl ?_
      refine ax_getR B ff_X0_20_0 (fun _ _ => rfl) dX0_lendings_2_49 e (fun v5 e => ?_)
      refine ax_getR B ff_X0_343_1 (fun _ _ => rfl) dX0_lendings_2_52 e (fun v6 e => ?_)
      refine ax_iload B dX0_lendings_2_55 hl 5 rfl ?_
      refine ax_ivR (y := yJ2_get) (n := 1) (As := [.int (Int32.ofInt x4)]) B kd42 (lw_V q524 q525 q526 q129 q527) (by decide +kernel) ⟨Nat.le_of_ble_eq_true rfl, Nat.le_of_ble_eq_true rfl⟩ (fun w1 e1 => mt_J2_get l G hSF v6 x4 _ w1 e1) rfl hl.size (by simp only [List.map_cons, List.map_nil, List.sum_cons, List.sum_nil, va_rf_cat, ax_catI, ax_catL]; decide) dX0_lendings_2_57 e (fun q7 e => ?_)
      refine ax_ckc B kd28 q1470 dX0_lendings_2_60 e (fun e => ?_)
      refine ax_getI B ff_X0_354_28 (fun _ _ => rfl) dX0_lendings_2_63 e (fun v8 e => ?_)
      refine ax_aload_n B dX0_lendings_2_66 rfl hl 1 rfl ?_
      refine ax_getR B ff_X0_20_0 (fun _ _ => rfl) dX0_lendings_2_67 e (fun v9 e => ?_)
      refine ax_getR B ff_X0_343_1 (fun _ _ => rfl) dX0_lendings_2_70 e (fun v10 e => ?_)
      refine ax_iload B dX0_lendings_2_73 hl 5 rfl ?_
      refine ax_ivR (y := yJ2_get) (n := 1) (As := [.int (Int32.ofInt x4)]) B kd42 (lw_V q524 q525 q526 q129 q527) (by decide +kernel) ⟨Nat.le_of_ble_eq_true rfl, Nat.le_of_ble_eq_true rfl⟩ (fun w1 e1 => mt_J2_get l G hSF v10 x4 _ w1 e1) rfl hl.size (by simp only [List.map_cons, List.map_nil, List.sum_cons, List.sum_nil, va_rf_cat, ax_catI, ax_catL]; decide) dX0_lendings_2_75 e (fun q11 e => ?_)
      refine ax_ckc B kd28 q1470 dX0_lendings_2_78 e (fun e => ?_)
      refine ax_getI B ff_X0_357_28 (fun _ _ => rfl) dX0_lendings_2_81 e (fun v12 e => ?_)
      refine ax_iload B dX0_lendings_2_84 hl 0 rfl ?_
      refine ax_ivI (y := yX0_needOf) (n := 3) (As := [.int (Int32.ofInt v8), .int (Int32.ofInt v12), .int (Int32.ofInt q4.1)]) B kd0 (lw_V q1462 q1464 qs32 q125 q1465) (by decide +kernel) ⟨Nat.le_of_ble_eq_true rfl, Nat.le_of_ble_eq_true rfl⟩ (fun w1 e1 => mt_X0_needOf l G hSF x0 v8 v12 q4.1 _ w1 e1) rfl hl.size (by decide) dX0_lendings_2_86 e (fun q13 e => ?_)
      refine ax_istore (L' := [(6, .inl q13.1), (5, .inl q4.1), (0, .inr (.inr x0)), (1, .inr (.inr x1)), (2, .inr (.inr x2)), (3, .inl x3), (4, .inl x4)]) B dX0_lendings_2_89 hl (by decide) rfl (fun ls hl => ?_)
      refine ax_iload B dX0_lendings_2_91 hl 0 rfl ?_
      refine ax_iconst B dX0_lendings_2_93 ?_
      refine ax_icmp_ne (tgt := 99) B dX0_lendings_2_94 (by decide) e (fun e => ?_) (fun e => ?_)
      · obtain ⟨w, e9_1, rfl⟩ := Option.map_eq_some_iff.mp e
        have e := e9_1
        refine ax_null B dX0_lendings_2_97 ?_
        have e8 := e
        have hp : Q = _ := hp
        subst hp
        exact ax_areturn B Z (Or.inl ⟨_, rfl⟩) dX0_lendings_2_98 e8
      · refine ax_iload B dX0_lendings_2_99 hl 0 rfl ?_
        refine ax_if_ne (tgt := 107) B dX0_lendings_2_101 (by decide) e (fun e => ?_) (fun e => ?_)
        · refine ax_goto (tgt := 120) B dX0_lendings_2_104 (by decide) ?_
          exact w_X0_lendings_2_120 hSF B Z hn x0 x1 x2 x3 x4 (hl.sub [2, 3, 4, 5, 6] rfl) e hp
        · refine ax_aload_n B dX0_lendings_2_107 rfl hl 3 rfl ?_
          refine ax_iload_n B dX0_lendings_2_108 rfl hl 5 rfl ?_
          refine ax_iload B dX0_lendings_2_109 hl 0 rfl ?_
          refine ax_iast B kd100 dX0_lendings_2_111 e (fun h14 e => ?_)
          refine ax_aload_n B dX0_lendings_2_112 rfl hl 4 rfl ?_
          refine ax_iload_n B dX0_lendings_2_113 rfl hl 5 rfl ?_
          refine ax_iinc (L' := [(3, .inl (x3 + 1)), (6, .inl q13.1), (5, .inl q4.1), (0, .inr (.inr x0)), (1, .inr (.inr x1)), (2, .inr (.inr x2)), (4, .inl x4)]) B dX0_lendings_2_114 hl 5 rfl (by decide) rfl (fun ls hl => ?_)
          refine ax_iload B dX0_lendings_2_117 hl 6 rfl ?_
          refine ax_iast B kd100 dX0_lendings_2_119 e (fun h15 e => ?_)
          exact w_X0_lendings_2_120 hSF B Z hn x0 x1 x2 (x3 + 1) x4 (hl.sub [3, 4, 5, 0, 6] rfl) e hp
  · obtain ⟨w, e9_2, rfl⟩ := Option.map_eq_some_iff.mp e
    have e := e9_2
    refine ax_new B kd30 in_X30 tyX30_ok (fun k hk => ax_dv _ (dfX30 k hk)) q1515 q1516 q172 dX0_lendings_2_126 e (fun q16 e => ?_)
    refine ax_dup B dX0_lendings_2_129 (va_rf_cat _) ?_
    refine ax_aload_n B dX0_lendings_2_130 rfl hl 0 rfl ?_
    refine ax_aload_n B dX0_lendings_2_131 rfl hl 1 rfl ?_
    refine ax_aload_n B dX0_lendings_2_132 rfl hl 2 rfl ?_
    refine ax_iload_n B dX0_lendings_2_133 rfl hl 3 rfl ?_
    refine ax_iiR (y := yX30_init) (n := 4) (As := [va_rf x0, va_rf x1, va_rf x2, .int (Int32.ofInt x3)]) B q1517 q1518 q172 q1519 rfl (by decide +kernel) ⟨Nat.le_of_ble_eq_true rfl, Nat.le_of_ble_eq_true rfl⟩ (fun w1 e1 => mt_X30_init l G hSF (some q16.1) x0 x1 x2 x3 _ w1 e1) rfl hl.size (by simp only [List.map_cons, List.map_nil, List.sum_cons, List.sum_nil, va_rf_cat, ax_catI, ax_catL]; decide) dX0_lendings_2_134 e (fun h17 e => ?_)
    refine ax_astore (L' := [(4, .inr (.inr (some q16.1))), (0, .inr (.inr x0)), (1, .inr (.inr x1)), (2, .inr (.inr x2)), (3, .inl x3)]) B dX0_lendings_2_137 hl (by decide) rfl (fun ls hl => ?_)
    refine ax_aload B dX0_lendings_2_139 hl 0 rfl ?_
    refine ax_iconst B dX0_lendings_2_141 ?_
    refine ax_iconst B dX0_lendings_2_142 ?_
    refine ax_iwV (x := ⟨"DebtDoors$Lendings", "go", "(II)V"⟩) (n := 2) (As := [.int (Int32.ofInt 0), .int (Int32.ofInt 0)]) B (fun w1 e1 => ?_) rfl hl.size (by decide) dX0_lendings_2_143 e (fun h18 e => ?_)
    · obtain ⟨t, c, e2, e1⟩ := ax_dp_spec e1
      rcases ax_ite e1 with ⟨hk, e1⟩ | ⟨-, e1⟩
      · subst hk
        exact ax_cal B kd30 e2 q1566 q1567 (ax_dcD B q1568) (B.2.1.2.2.2.2 _ q1569) q1570 q171 q1571 (by decide +kernel) ⟨Nat.le_of_ble_eq_true rfl, Nat.le_of_ble_eq_true rfl⟩ (mf_X29_go l G hSF 64 (some q16.1) 0 0 _ w1 e1)
      cases e1
    refine ax_aload B dX0_lendings_2_146 hl 0 rfl ?_
    have e8 := e
    have hp : Q = _ := hp
    subst hp
    exact ax_areturn B Z (Or.inl ⟨_, rfl⟩) dX0_lendings_2_148 e8
theorem w_X0_lendings_2_15 {l : Launch} {G : ax_G} {X : ax_X} {Q : State → Prop} {h0 h : ax_H} {ls : Array Slot} (hSF : ax_SF G) (B : ax_BL l G X cX0_lendings_2 7 RX0 206 5086) (Z : ax_Z X h0 ((some (FieldType.object "DebtDoors$Lendings")))) (hn : X.2.2.2.2.2.2.2.2.1.name = yX0_lendings_2.name) (x0 : Option Nat) (x1 : Option Nat) (x2 : Option Nat) (x3 : Int) (x4 : Int) {w : Option Nat × ax_H} (hl : ax_hl ls 7 [(0, .inr (.inr x0)), (1, .inr (.inr x1)), (2, .inr (.inr x2)), (3, .inl x3), (4, .inl x4)]) (e : f_X0_lendings_2_15 G.2.2 x0 x1 x2 x3 x4 h = some w) (hp : (fun w : Option Nat × ax_H => Q = ax_Q G X h0 w.2 (some (va_rf w.1))) w) : ax_W G X Q h 15 ls [] :=
  ax_iter_W (Pin := pi_X0_lendings_2_15 G X Q x0 x1 x2) (Pout := (fun w : Option Nat × ax_H => Q = ax_Q G X h0 w.2 (some (va_rf w.1)))) (fun s w e hp ls hl => wb_X0_lendings_2_15 hSF B Z hn x0 x1 x2 s.1 s.2.1 hl e hp) _ _ e hp ls hl
set_option maxHeartbeats 4000000 in
theorem we_X0_lendings_2 {l : Launch} {G : ax_G} {X : ax_X} {Q : State → Prop} {h0 h : ax_H} {ls : Array Slot} (hSF : ax_SF G) (B : ax_BL l G X cX0_lendings_2 7 RX0 206 5086) (Z : ax_Z X h0 ((some (FieldType.object "DebtDoors$Lendings")))) (hn : X.2.2.2.2.2.2.2.2.1.name = yX0_lendings_2.name) (x0 : Option Nat) {w : Option Nat × ax_H} (hl : ax_hl ls 7 [(0, .inr (.inr x0))]) (e : f_X0_lendings_2 G.2.2 x0 h = some w) (hp : (fun w : Option Nat × ax_H => Q = ax_Q G X h0 w.2 (some (va_rf w.1))) w) : ax_W G X Q h 0 ls [] := by
  unfold f_X0_lendings_2 at e
  refine ax_bipush B dX0_lendings_2_0 (by decide) ?_
  refine ax_newa (atype := .int) B kd100 q259 rfl (by decide) dX0_lendings_2_2 e (fun q1 e => ?_)
  refine ax_astore_n (L' := [(1, .inr (.inr (some q1.1))), (0, .inr (.inr x0))]) B dX0_lendings_2_4 rfl hl (by decide) rfl (fun ls hl => ?_)
  refine ax_bipush B dX0_lendings_2_5 (by decide) ?_
  refine ax_newa (atype := .int) B kd100 q259 rfl (by decide) dX0_lendings_2_7 e (fun q2 e => ?_)
  refine ax_astore_n (L' := [(2, .inr (.inr (some q2.1))), (1, .inr (.inr (some q1.1))), (0, .inr (.inr x0))]) B dX0_lendings_2_9 rfl hl (by decide) rfl (fun ls hl => ?_)
  refine ax_iconst B dX0_lendings_2_10 ?_
  refine ax_istore_n (L' := [(3, .inl 0), (2, .inr (.inr (some q2.1))), (1, .inr (.inr (some q1.1))), (0, .inr (.inr x0))]) B dX0_lendings_2_11 rfl hl (by decide) rfl (fun ls hl => ?_)
  refine ax_iconst B dX0_lendings_2_12 ?_
  refine ax_istore (L' := [(4, .inl 0), (3, .inl 0), (2, .inr (.inr (some q2.1))), (1, .inr (.inr (some q1.1))), (0, .inr (.inr x0))]) B dX0_lendings_2_13 hl (by decide) rfl (fun ls hl => ?_)
  exact w_X0_lendings_2_15 hSF B Z hn x0 (some q1.1) (some q2.1) 0 0 (hl.sub [4, 3, 2, 1, 0] rfl) e hp
theorem mt_X0_lendings_2 (l : Launch) (G : ax_G) (hSF : ax_SF G) (x0 : Option Nat) (h : ax_H) (w : Option Nat × ax_H) (e : f_X0_lendings_2 G.2.2 x0 h = some w) : ax_Met l G yX0_lendings_2 cX0_lendings_2 7 ((some (FieldType.object "DebtDoors$Lendings"))) 206 5086 [va_rf x0] h w.2 (some (va_rf w.1)) :=
  ax_enter [.inr (.inr x0)] (y := yX0_lendings_2) hSF (plainFor_of_name (by decide +kernel)) (Nat.le_of_ble_eq_true rfl) (fun X ls B Z hn hl => we_X0_lendings_2 hSF B Z hn x0 hl e rfl)
def dkwX0_lendings_3 : List UInt8 := [167, 0, 16, 44, 180, 1, 131, 44, 180, 1, 133, 27, 6, 100, 46, 46, 172]
abbrev dktX0_lendings_3 : List UInt8 := dkwX0_lendings_3 ++ []
def dkwX0_lendings_2 : List UInt8 := [160, 0, 10, 44, 180, 1, 125, 167, 0, 7, 44, 180, 1, 128, 172, 44, 180, 1, 128, 154, 0, 7, 2]
abbrev dktX0_lendings_2 : List UInt8 := dkwX0_lendings_2 ++ dktX0_lendings_3
def dkwX0_lendings_1 : List UInt8 := [154, 0, 5, 2, 172, 27, 6, 162, 0, 31, 27, 154, 0, 10, 44, 180, 1, 122, 167, 0, 19, 27, 4]
abbrev dktX0_lendings_1 : List UInt8 := dkwX0_lendings_1 ++ dktX0_lendings_2
def dkwX0_lendings_0 : List UInt8 := [42, 182, 1, 118, 77, 44, 198, 0, 19, 27, 133, 9, 5, 44, 180, 1, 122, 96, 133, 184, 0, 5]
abbrev dktX0_lendings_0 : List UInt8 := dkwX0_lendings_0 ++ dktX0_lendings_1
theorem dksX0_lendings_0 : cX0_lendings.data.toList.drop 0 = dktX0_lendings_0 := by decide +kernel
theorem dksX0_lendings_1 : cX0_lendings.data.toList.drop 22 = dktX0_lendings_1 := dk_seg dksX0_lendings_0 22 rfl rfl
theorem dksX0_lendings_2 : cX0_lendings.data.toList.drop 45 = dktX0_lendings_2 := dk_seg dksX0_lendings_1 23 rfl rfl
theorem dksX0_lendings_3 : cX0_lendings.data.toList.drop 68 = dktX0_lendings_3 := dk_seg dksX0_lendings_2 23 rfl rfl
theorem dX0_lendings_0 : decode cX0_lendings 0 = .ok (.aload_n 0, 1) := dk_42 (dk_at dksX0_lendings_0 0 rfl rfl)
theorem dX0_lendings_1 : decode cX0_lendings 1 = .ok (.invokevirtual 374, 3) := dk_182 1 118 (dk_at dksX0_lendings_0 1 rfl rfl)
theorem dX0_lendings_4 : decode cX0_lendings 4 = .ok (.astore_n 2, 1) := dk_77 (dk_at dksX0_lendings_0 4 rfl rfl)
theorem dX0_lendings_5 : decode cX0_lendings 5 = .ok (.aload_n 2, 1) := dk_44 (dk_at dksX0_lendings_0 5 rfl rfl)
theorem dX0_lendings_6 : decode cX0_lendings 6 = .ok (.ifnull 19, 3) := dk_198 0 19 (dk_at dksX0_lendings_0 6 rfl rfl)
theorem dX0_lendings_9 : decode cX0_lendings 9 = .ok (.iload_n 1, 1) := dk_27 (dk_at dksX0_lendings_0 9 rfl rfl)
theorem dX0_lendings_10 : decode cX0_lendings 10 = .ok (.i2l, 1) := dk_133 (dk_at dksX0_lendings_0 10 rfl rfl)
theorem dX0_lendings_11 : decode cX0_lendings 11 = .ok (.lconst 0, 1) := dk_9 (dk_at dksX0_lendings_0 11 rfl rfl)
theorem dX0_lendings_12 : decode cX0_lendings 12 = .ok (.iconst 2, 1) := dk_5 (dk_at dksX0_lendings_0 12 rfl rfl)
theorem dX0_lendings_13 : decode cX0_lendings 13 = .ok (.aload_n 2, 1) := dk_44 (dk_at dksX0_lendings_0 13 rfl rfl)
theorem dX0_lendings_14 : decode cX0_lendings 14 = .ok (.getfield 378, 3) := dk_180 1 122 (dk_at dksX0_lendings_0 14 rfl rfl)
theorem dX0_lendings_17 : decode cX0_lendings 17 = .ok (.iadd, 1) := dk_96 (dk_at dksX0_lendings_0 17 rfl rfl)
theorem dX0_lendings_18 : decode cX0_lendings 18 = .ok (.i2l, 1) := dk_133 (dk_at dksX0_lendings_0 18 rfl rfl)
theorem dX0_lendings_19 : decode cX0_lendings 19 = .ok (.invokestatic 5, 3) := dk_184 0 5 (dk_at dksX0_lendings_0 19 rfl rfl)
theorem dX0_lendings_22 : decode cX0_lendings 22 = .ok (.ifCond .ne 5, 3) := dk_154 0 5 (dk_at dksX0_lendings_1 0 rfl rfl)
theorem dX0_lendings_25 : decode cX0_lendings 25 = .ok (.iconst (-1), 1) := dk_2 (dk_at dksX0_lendings_1 3 rfl rfl)
theorem dX0_lendings_26 : decode cX0_lendings 26 = .ok (.ireturn, 1) := dk_172 (dk_at dksX0_lendings_1 4 rfl rfl)
theorem dX0_lendings_27 : decode cX0_lendings 27 = .ok (.iload_n 1, 1) := dk_27 (dk_at dksX0_lendings_1 5 rfl rfl)
theorem dX0_lendings_28 : decode cX0_lendings 28 = .ok (.iconst 3, 1) := dk_6 (dk_at dksX0_lendings_1 6 rfl rfl)
theorem dX0_lendings_29 : decode cX0_lendings 29 = .ok (.if_icmp .ge 31, 3) := dk_162 0 31 (dk_at dksX0_lendings_1 7 rfl rfl)
theorem dX0_lendings_32 : decode cX0_lendings 32 = .ok (.iload_n 1, 1) := dk_27 (dk_at dksX0_lendings_1 10 rfl rfl)
theorem dX0_lendings_33 : decode cX0_lendings 33 = .ok (.ifCond .ne 10, 3) := dk_154 0 10 (dk_at dksX0_lendings_1 11 rfl rfl)
theorem dX0_lendings_36 : decode cX0_lendings 36 = .ok (.aload_n 2, 1) := dk_44 (dk_at dksX0_lendings_1 14 rfl rfl)
theorem dX0_lendings_37 : decode cX0_lendings 37 = .ok (.getfield 378, 3) := dk_180 1 122 (dk_at dksX0_lendings_1 15 rfl rfl)
theorem dX0_lendings_40 : decode cX0_lendings 40 = .ok (.goto 19, 3) := dk_167 0 19 (dk_at dksX0_lendings_1 18 rfl rfl)
theorem dX0_lendings_43 : decode cX0_lendings 43 = .ok (.iload_n 1, 1) := dk_27 (dk_at dksX0_lendings_1 21 rfl rfl)
theorem dX0_lendings_44 : decode cX0_lendings 44 = .ok (.iconst 1, 1) := dk_4 (dk_at dksX0_lendings_1 22 rfl rfl)
theorem dX0_lendings_45 : decode cX0_lendings 45 = .ok (.if_icmp .ne 10, 3) := dk_160 0 10 (dk_at dksX0_lendings_2 0 rfl rfl)
theorem dX0_lendings_48 : decode cX0_lendings 48 = .ok (.aload_n 2, 1) := dk_44 (dk_at dksX0_lendings_2 3 rfl rfl)
theorem dX0_lendings_49 : decode cX0_lendings 49 = .ok (.getfield 381, 3) := dk_180 1 125 (dk_at dksX0_lendings_2 4 rfl rfl)
theorem dX0_lendings_52 : decode cX0_lendings 52 = .ok (.goto 7, 3) := dk_167 0 7 (dk_at dksX0_lendings_2 7 rfl rfl)
theorem dX0_lendings_55 : decode cX0_lendings 55 = .ok (.aload_n 2, 1) := dk_44 (dk_at dksX0_lendings_2 10 rfl rfl)
theorem dX0_lendings_56 : decode cX0_lendings 56 = .ok (.getfield 384, 3) := dk_180 1 128 (dk_at dksX0_lendings_2 11 rfl rfl)
theorem dX0_lendings_59 : decode cX0_lendings 59 = .ok (.ireturn, 1) := dk_172 (dk_at dksX0_lendings_2 14 rfl rfl)
theorem dX0_lendings_60 : decode cX0_lendings 60 = .ok (.aload_n 2, 1) := dk_44 (dk_at dksX0_lendings_2 15 rfl rfl)
theorem dX0_lendings_61 : decode cX0_lendings 61 = .ok (.getfield 384, 3) := dk_180 1 128 (dk_at dksX0_lendings_2 16 rfl rfl)
theorem dX0_lendings_64 : decode cX0_lendings 64 = .ok (.ifCond .ne 7, 3) := dk_154 0 7 (dk_at dksX0_lendings_2 19 rfl rfl)
theorem dX0_lendings_67 : decode cX0_lendings 67 = .ok (.iconst (-1), 1) := dk_2 (dk_at dksX0_lendings_2 22 rfl rfl)
theorem dX0_lendings_68 : decode cX0_lendings 68 = .ok (.goto 16, 3) := dk_167 0 16 (dk_at dksX0_lendings_3 0 rfl rfl)
theorem dX0_lendings_71 : decode cX0_lendings 71 = .ok (.aload_n 2, 1) := dk_44 (dk_at dksX0_lendings_3 3 rfl rfl)
theorem dX0_lendings_72 : decode cX0_lendings 72 = .ok (.getfield 387, 3) := dk_180 1 131 (dk_at dksX0_lendings_3 4 rfl rfl)
theorem dX0_lendings_75 : decode cX0_lendings 75 = .ok (.aload_n 2, 1) := dk_44 (dk_at dksX0_lendings_3 7 rfl rfl)
theorem dX0_lendings_76 : decode cX0_lendings 76 = .ok (.getfield 389, 3) := dk_180 1 133 (dk_at dksX0_lendings_3 8 rfl rfl)
theorem dX0_lendings_79 : decode cX0_lendings 79 = .ok (.iload_n 1, 1) := dk_27 (dk_at dksX0_lendings_3 11 rfl rfl)
theorem dX0_lendings_80 : decode cX0_lendings 80 = .ok (.iconst 3, 1) := dk_6 (dk_at dksX0_lendings_3 12 rfl rfl)
theorem dX0_lendings_81 : decode cX0_lendings 81 = .ok (.isub, 1) := dk_100 (dk_at dksX0_lendings_3 13 rfl rfl)
theorem dX0_lendings_82 : decode cX0_lendings 82 = .ok (.iaload, 1) := dk_46 (dk_at dksX0_lendings_3 14 rfl rfl)
theorem dX0_lendings_83 : decode cX0_lendings 83 = .ok (.iaload, 1) := dk_46 (dk_at dksX0_lendings_3 15 rfl rfl)
theorem dX0_lendings_84 : decode cX0_lendings 84 = .ok (.ireturn, 1) := dk_172 (dk_at dksX0_lendings_3 16 rfl rfl)
noncomputable def f_X0_lendings_25 (E : ax_E) (h : ax_H) : Option (Int × ax_H) :=
  some ((-1), h)
noncomputable def f_X0_lendings (E : ax_E) (x0 : Option Nat) (x1 : Int) (h : ax_H) : Option (Int × ax_H) :=
  (ax_ce E h x0 0).bind fun _ => (f_X0_lendings_2 E x0 h).bind fun q1 =>
  if q1.1 = none then
    f_X0_lendings_25 E q1.2
  else
    (ax_gI E q1.2 q1.1 30 0).bind fun v2 =>
    (f_X0_in E (i2 x1) 0 (i2 (2 + v2)) q1.2).bind fun q3 =>
    if i2 q3.1 = 0 then
      f_X0_lendings_25 E q3.2
    else
      if i2 x1 < i2 3 then
        if i2 x1 = 0 then
          (ax_gI E q3.2 q1.1 30 0).bind fun v4 =>
          some (v4, q3.2)
        else
          if i2 x1 = i2 1 then
            (ax_gI E q3.2 q1.1 30 7).bind fun v5 =>
            some (v5, q3.2)
          else
            (ax_gI E q3.2 q1.1 30 3).bind fun v6 =>
            some (v6, q3.2)
      else
        (ax_gI E q3.2 q1.1 30 3).bind fun v7 =>
        if i2 v7 = 0 then
          some ((-1), q3.2)
        else
          (ax_gR E q3.2 q1.1 30 6).bind fun v8 =>
          (ax_gR E q3.2 q1.1 30 1).bind fun v9 =>
          (ax_ld E q3.2 v9 100 (x1 - 3)).bind fun v10 =>
          (ax_ld E q3.2 v8 100 v10).bind fun v11 =>
          some (v11, q3.2)
set_option maxHeartbeats 4000000 in
theorem w_X0_lendings_25 {l : Launch} {G : ax_G} {X : ax_X} {Q : State → Prop} {h0 h : ax_H} {ls : Array Slot} (hSF : ax_SF G) (B : ax_BL l G X cX0_lendings 3 RX0 207 5112) (Z : ax_Z X h0 ((some FieldType.int))) (hn : X.2.2.2.2.2.2.2.2.1.name = yX0_lendings.name) {w : Int × ax_H} (hl : ax_hl ls 3 []) (e : f_X0_lendings_25 G.2.2 h = some w) (hp : (fun w : Int × ax_H => Q = ax_Q G X h0 w.2 (some (.int (Int32.ofInt w.1)))) w) : ax_W G X Q h 25 ls [] := by
  unfold f_X0_lendings_25 at e
  refine ax_iconst B dX0_lendings_25 ?_
  have e8 := e
  have hp : Q = _ := hp
  subst hp
  exact ax_ireturn B Z dX0_lendings_26 e8
set_option maxHeartbeats 4000000 in
theorem we_X0_lendings {l : Launch} {G : ax_G} {X : ax_X} {Q : State → Prop} {h0 h : ax_H} {ls : Array Slot} (hSF : ax_SF G) (B : ax_BL l G X cX0_lendings 3 RX0 207 5112) (Z : ax_Z X h0 ((some FieldType.int))) (hn : X.2.2.2.2.2.2.2.2.1.name = yX0_lendings.name) (x0 : Option Nat) (x1 : Int) {w : Int × ax_H} (hl : ax_hl ls 3 [(0, .inr (.inr x0)), (1, .inl x1)]) (e : f_X0_lendings G.2.2 x0 x1 h = some w) (hp : (fun w : Int × ax_H => Q = ax_Q G X h0 w.2 (some (.int (Int32.ofInt w.1)))) w) : ax_W G X Q h 0 ls [] := by
  unfold f_X0_lendings at e
  refine ax_aload_n B dX0_lendings_0 rfl hl 0 rfl ?_
  refine ax_ivR (y := yX0_lendings_2) (n := 0) (As := []) B kd0 (lw_V q1506 q1508 qs33 q125 q1509) (by decide +kernel) ⟨Nat.le_of_ble_eq_true rfl, Nat.le_of_ble_eq_true rfl⟩ (fun w1 e1 => mt_X0_lendings_2 l G hSF x0 _ w1 e1) rfl hl.size (by decide) dX0_lendings_1 e (fun q1 e => ?_)
  refine ax_astore_n (L' := [(2, .inr (.inr q1.1)), (0, .inr (.inr x0)), (1, .inl x1)]) B dX0_lendings_4 rfl hl (by decide) rfl (fun ls hl => ?_)
  refine ax_aload_n B dX0_lendings_5 rfl hl 0 rfl ?_
  refine ax_ifnull (tgt := 25) B dX0_lendings_6 (by decide) e (fun e => ?_) (fun e => ?_)
  · exact w_X0_lendings_25 hSF B Z hn (hl.sub [] rfl) e hp
  · refine ax_iload_n B dX0_lendings_9 rfl hl 2 rfl ?_
    refine ax_i2l' B dX0_lendings_10 ?_
    refine ax_lconst (v := 0) B dX0_lendings_11 rfl ?_
    refine ax_iconst B dX0_lendings_12 ?_
    refine ax_aload_n B dX0_lendings_13 rfl hl 0 rfl ?_
    refine ax_getI B ff_X0_378_30 (fun _ _ => rfl) dX0_lendings_14 e (fun v2 e => ?_)
    refine ax_iadd' B dX0_lendings_17 ?_
    refine ax_i2l' B dX0_lendings_18 ?_
    refine ax_isI (y := yX0_in) (n := 3) (As := [.long (Int64.ofInt (i2 x1)), .long (Int64.ofInt 0), .long (Int64.ofInt (i2 (2 + v2)))]) B (lw_S q420 q421 q125 q422) (by decide +kernel) ⟨Nat.le_of_ble_eq_true rfl, Nat.le_of_ble_eq_true rfl⟩ (fun w1 e1 => mt_X0_in l G hSF (i2 x1) 0 (i2 (2 + v2)) _ w1 e1) rfl hl.size (by decide) dX0_lendings_19 e (fun q3 e => ?_)
    refine ax_if_ne (tgt := 27) B dX0_lendings_22 (by decide) e (fun e => ?_) (fun e => ?_)
    · exact w_X0_lendings_25 hSF B Z hn (hl.sub [] rfl) e hp
    · refine ax_iload_n B dX0_lendings_27 rfl hl 2 rfl ?_
      refine ax_iconst B dX0_lendings_28 ?_
      refine ax_icmp_ge (tgt := 60) B dX0_lendings_29 (by decide) e (fun e => ?_) (fun e => ?_)
      · refine ax_iload_n B dX0_lendings_32 rfl hl 2 rfl ?_
        refine ax_if_ne (tgt := 43) B dX0_lendings_33 (by decide) e (fun e => ?_) (fun e => ?_)
        · refine ax_aload_n B dX0_lendings_36 rfl hl 0 rfl ?_
          refine ax_getI B ff_X0_378_30 (fun _ _ => rfl) dX0_lendings_37 e (fun v4 e => ?_)
          refine ax_goto (tgt := 59) B dX0_lendings_40 (by decide) ?_
          have e8 := e
          have hp : Q = _ := hp
          subst hp
          exact ax_ireturn B Z dX0_lendings_59 e8
        · refine ax_iload_n B dX0_lendings_43 rfl hl 2 rfl ?_
          refine ax_iconst B dX0_lendings_44 ?_
          refine ax_icmp_ne (tgt := 55) B dX0_lendings_45 (by decide) e (fun e => ?_) (fun e => ?_)
          · refine ax_aload_n B dX0_lendings_48 rfl hl 0 rfl ?_
            refine ax_getI B ff_X0_381_30 (fun _ _ => rfl) dX0_lendings_49 e (fun v5 e => ?_)
            refine ax_goto (tgt := 59) B dX0_lendings_52 (by decide) ?_
            have e8 := e
            have hp : Q = _ := hp
            subst hp
            exact ax_ireturn B Z dX0_lendings_59 e8
          · refine ax_aload_n B dX0_lendings_55 rfl hl 0 rfl ?_
            refine ax_getI B ff_X0_384_30 (fun _ _ => rfl) dX0_lendings_56 e (fun v6 e => ?_)
            have e8 := e
            have hp : Q = _ := hp
            subst hp
            exact ax_ireturn B Z dX0_lendings_59 e8
      · refine ax_aload_n B dX0_lendings_60 rfl hl 0 rfl ?_
        refine ax_getI B ff_X0_384_30 (fun _ _ => rfl) dX0_lendings_61 e (fun v7 e => ?_)
        refine ax_if_ne (tgt := 71) B dX0_lendings_64 (by decide) e (fun e => ?_) (fun e => ?_)
        · refine ax_iconst B dX0_lendings_67 ?_
          refine ax_goto (tgt := 84) B dX0_lendings_68 (by decide) ?_
          have e8 := e
          have hp : Q = _ := hp
          subst hp
          exact ax_ireturn B Z dX0_lendings_84 e8
        · refine ax_aload_n B dX0_lendings_71 rfl hl 0 rfl ?_
          refine ax_getR B ff_X0_387_30 (fun _ _ => rfl) dX0_lendings_72 e (fun v8 e => ?_)
          refine ax_aload_n B dX0_lendings_75 rfl hl 0 rfl ?_
          refine ax_getR B ff_X0_389_30 (fun _ _ => rfl) dX0_lendings_76 e (fun v9 e => ?_)
          refine ax_iload_n B dX0_lendings_79 rfl hl 2 rfl ?_
          refine ax_iconst B dX0_lendings_80 ?_
          refine ax_isub' B dX0_lendings_81 ?_
          refine ax_iald B kd100 dX0_lendings_82 e (fun v10 e => ?_)
          refine ax_iald B kd100 dX0_lendings_83 e (fun v11 e => ?_)
          have e8 := e
          have hp : Q = _ := hp
          subst hp
          exact ax_ireturn B Z dX0_lendings_84 e8
theorem mt_X0_lendings (l : Launch) (G : ax_G) (hSF : ax_SF G) (x0 : Option Nat) (x1 : Int) (h : ax_H) (w : Int × ax_H) (e : f_X0_lendings G.2.2 x0 x1 h = some w) : ax_Met l G yX0_lendings cX0_lendings 3 ((some FieldType.int)) 207 5112 [va_rf x0, .int (Int32.ofInt x1)] h w.2 (some (.int (Int32.ofInt w.1))) :=
  ax_enter [.inr (.inr x0), .inl x1] (y := yX0_lendings) hSF (plainFor_of_name (by decide +kernel)) (Nat.le_of_ble_eq_true rfl) (fun X ls B Z hn hl => we_X0_lendings hSF B Z hn x0 x1 hl e rfl)
def dkwX31_init_0 : List UInt8 := [42, 43, 181, 0, 1, 42, 43, 43, 180, 0, 7, 180, 0, 13, 182, 0, 19, 183, 0, 25, 177]
abbrev dktX31_init_0 : List UInt8 := dkwX31_init_0 ++ []
theorem dksX31_init_0 : cX31_init.data.toList.drop 0 = dktX31_init_0 := by decide +kernel
theorem dX31_init_0 : decode cX31_init 0 = .ok (.aload_n 0, 1) := dk_42 (dk_at dksX31_init_0 0 rfl rfl)
theorem dX31_init_1 : decode cX31_init 1 = .ok (.aload_n 1, 1) := dk_43 (dk_at dksX31_init_0 1 rfl rfl)
theorem dX31_init_2 : decode cX31_init 2 = .ok (.putfield 1, 3) := dk_181 0 1 (dk_at dksX31_init_0 2 rfl rfl)
theorem dX31_init_5 : decode cX31_init 5 = .ok (.aload_n 0, 1) := dk_42 (dk_at dksX31_init_0 5 rfl rfl)
theorem dX31_init_6 : decode cX31_init 6 = .ok (.aload_n 1, 1) := dk_43 (dk_at dksX31_init_0 6 rfl rfl)
theorem dX31_init_7 : decode cX31_init 7 = .ok (.aload_n 1, 1) := dk_43 (dk_at dksX31_init_0 7 rfl rfl)
theorem dX31_init_8 : decode cX31_init 8 = .ok (.getfield 7, 3) := dk_180 0 7 (dk_at dksX31_init_0 8 rfl rfl)
theorem dX31_init_11 : decode cX31_init 11 = .ok (.getfield 13, 3) := dk_180 0 13 (dk_at dksX31_init_0 11 rfl rfl)
theorem dX31_init_14 : decode cX31_init 14 = .ok (.invokevirtual 19, 3) := dk_182 0 19 (dk_at dksX31_init_0 14 rfl rfl)
theorem dX31_init_17 : decode cX31_init 17 = .ok (.invokespecial 25, 3) := dk_183 0 25 (dk_at dksX31_init_0 17 rfl rfl)
theorem dX31_init_20 : decode cX31_init 20 = .ok (.return_, 1) := dk_177 (dk_at dksX31_init_0 20 rfl rfl)
noncomputable def f_X31_init (E : ax_E) (x0 : Option Nat) (x1 : Option Nat) (h : ax_H) : Option (ax_H) :=
  (ax_pR h x0 31 5 x1).bind fun h1 =>
  (ax_gR E h1 x1 0 0).bind fun v2 =>
  (ax_gR E h1 v2 1 1).bind fun v3 =>
  (ax_ce E h1 v3 42).bind fun _ => (f_J2_size E v3 h1).bind fun q4 =>
  x0.bind fun _ => (f_X29_init E x0 x1 q4.1 q4.2).bind fun h5 =>
  some h5
set_option maxHeartbeats 4000000 in
theorem we_X31_init {l : Launch} {G : ax_G} {X : ax_X} {Q : State → Prop} {h0 h : ax_H} {ls : Array Slot} (hSF : ax_SF G) (B : ax_BL l G X cX31_init 2 RX31 4 107) (Z : ax_Z X h0 none) (hn : X.2.2.2.2.2.2.2.2.1.name = yX31_init.name) (x0 : Option Nat) (x1 : Option Nat) {w : ax_H} (hl : ax_hl ls 2 [(0, .inr (.inr x0)), (1, .inr (.inr x1))]) (e : f_X31_init G.2.2 x0 x1 h = some w) (hp : (fun w : ax_H => Q = ax_Q G X h0 w none) w) : ax_W G X Q h 0 ls [] := by
  unfold f_X31_init at e
  refine ax_aload_n B dX31_init_0 rfl hl 0 rfl ?_
  refine ax_aload_n B dX31_init_1 rfl hl 1 rfl ?_
  refine ax_putR B ff_X31_1_31 (Or.inr ⟨rfl, rfl, hn⟩) rfl dX31_init_2 e (fun h1 e => ?_)
  refine ax_aload_n B dX31_init_5 rfl hl 0 rfl ?_
  refine ax_aload_n B dX31_init_6 rfl hl 1 rfl ?_
  refine ax_aload_n B dX31_init_7 rfl hl 1 rfl ?_
  refine ax_getR B ff_X31_7_0 (fun _ _ => rfl) dX31_init_8 e (fun v2 e => ?_)
  refine ax_getR B ff_X31_13_1 (fun _ _ => rfl) dX31_init_11 e (fun v3 e => ?_)
  refine ax_ivI (y := yJ2_size) (n := 0) (As := []) B kd42 (lw_V q1603 q710 q711 q129 q712) (by decide +kernel) ⟨Nat.le_of_ble_eq_true rfl, Nat.le_of_ble_eq_true rfl⟩ (fun w1 e1 => mt_J2_size l G hSF v3 _ w1 e1) rfl hl.size (by simp only [List.map_cons, List.map_nil, List.sum_cons, List.sum_nil, va_rf_cat, ax_catI, ax_catL]; decide) dX31_init_14 e (fun q4 e => ?_)
  refine ax_iiR (y := yX29_init) (n := 2) (As := [va_rf x1, .int (Int32.ofInt q4.1)]) B q1604 q1521 q171 q1522 rfl (by decide +kernel) ⟨Nat.le_of_ble_eq_true rfl, Nat.le_of_ble_eq_true rfl⟩ (fun w1 e1 => mt_X29_init l G hSF x0 x1 q4.1 _ w1 e1) rfl hl.size (by decide) dX31_init_17 e (fun h5 e => ?_)
  have e8 := e
  have hp : Q = _ := hp
  subst hp
  exact ax_return B Z dX31_init_20 e8
theorem mt_X31_init (l : Launch) (G : ax_G) (hSF : ax_SF G) (x0 : Option Nat) (x1 : Option Nat) (h : ax_H) (w : ax_H) (e : f_X31_init G.2.2 x0 x1 h = some w) : ax_Met l G yX31_init cX31_init 2 none 4 107 [va_rf x0, va_rf x1] h w none :=
  ax_enter [.inr (.inr x0), .inr (.inr x1)] (y := yX31_init) hSF (plainFor_of_name (by decide +kernel)) (Nat.le_of_ble_eq_true rfl) (fun X ls B Z hn hl => we_X31_init hSF B Z hn x0 x1 hl e rfl)
def dkwX0_plan_2 : List UInt8 := [180, 1, 140, 167, 0, 20, 44, 180, 1, 140, 154, 0, 7, 2, 167, 0, 9, 44, 180, 1, 141, 27, 46, 172]
abbrev dktX0_plan_2 : List UInt8 := dkwX0_plan_2 ++ []
def dkwX0_plan_1 : List UInt8 := [2, 172, 187, 1, 136, 89, 42, 183, 1, 138, 77, 44, 3, 3, 182, 1, 139, 27, 2, 160, 0, 10, 44]
abbrev dktX0_plan_1 : List UInt8 := dkwX0_plan_1 ++ dktX0_plan_2
def dkwX0_plan_0 : List UInt8 := [27, 133, 20, 0, 250, 42, 180, 0, 20, 180, 1, 87, 182, 0, 218, 4, 100, 133, 184, 0, 5, 154, 0, 5]
abbrev dktX0_plan_0 : List UInt8 := dkwX0_plan_0 ++ dktX0_plan_1
theorem dksX0_plan_0 : cX0_plan.data.toList.drop 0 = dktX0_plan_0 := by decide +kernel
theorem dksX0_plan_1 : cX0_plan.data.toList.drop 24 = dktX0_plan_1 := dk_seg dksX0_plan_0 24 rfl rfl
theorem dksX0_plan_2 : cX0_plan.data.toList.drop 47 = dktX0_plan_2 := dk_seg dksX0_plan_1 23 rfl rfl
theorem dX0_plan_0 : decode cX0_plan 0 = .ok (.iload_n 1, 1) := dk_27 (dk_at dksX0_plan_0 0 rfl rfl)
theorem dX0_plan_1 : decode cX0_plan 1 = .ok (.i2l, 1) := dk_133 (dk_at dksX0_plan_0 1 rfl rfl)
theorem dX0_plan_2 : decode cX0_plan 2 = .ok (.ldc2_w 250, 3) := dk_20 0 250 (dk_at dksX0_plan_0 2 rfl rfl)
theorem dX0_plan_5 : decode cX0_plan 5 = .ok (.aload_n 0, 1) := dk_42 (dk_at dksX0_plan_0 5 rfl rfl)
theorem dX0_plan_6 : decode cX0_plan 6 = .ok (.getfield 20, 3) := dk_180 0 20 (dk_at dksX0_plan_0 6 rfl rfl)
theorem dX0_plan_9 : decode cX0_plan 9 = .ok (.getfield 343, 3) := dk_180 1 87 (dk_at dksX0_plan_0 9 rfl rfl)
theorem dX0_plan_12 : decode cX0_plan 12 = .ok (.invokevirtual 218, 3) := dk_182 0 218 (dk_at dksX0_plan_0 12 rfl rfl)
theorem dX0_plan_15 : decode cX0_plan 15 = .ok (.iconst 1, 1) := dk_4 (dk_at dksX0_plan_0 15 rfl rfl)
theorem dX0_plan_16 : decode cX0_plan 16 = .ok (.isub, 1) := dk_100 (dk_at dksX0_plan_0 16 rfl rfl)
theorem dX0_plan_17 : decode cX0_plan 17 = .ok (.i2l, 1) := dk_133 (dk_at dksX0_plan_0 17 rfl rfl)
theorem dX0_plan_18 : decode cX0_plan 18 = .ok (.invokestatic 5, 3) := dk_184 0 5 (dk_at dksX0_plan_0 18 rfl rfl)
theorem dX0_plan_21 : decode cX0_plan 21 = .ok (.ifCond .ne 5, 3) := dk_154 0 5 (dk_at dksX0_plan_0 21 rfl rfl)
theorem dX0_plan_24 : decode cX0_plan 24 = .ok (.iconst (-1), 1) := dk_2 (dk_at dksX0_plan_1 0 rfl rfl)
theorem dX0_plan_25 : decode cX0_plan 25 = .ok (.ireturn, 1) := dk_172 (dk_at dksX0_plan_1 1 rfl rfl)
theorem dX0_plan_26 : decode cX0_plan 26 = .ok (.new 392, 3) := dk_187 1 136 (dk_at dksX0_plan_1 2 rfl rfl)
theorem dX0_plan_29 : decode cX0_plan 29 = .ok (.dup, 1) := dk_89 (dk_at dksX0_plan_1 5 rfl rfl)
theorem dX0_plan_30 : decode cX0_plan 30 = .ok (.aload_n 0, 1) := dk_42 (dk_at dksX0_plan_1 6 rfl rfl)
theorem dX0_plan_31 : decode cX0_plan 31 = .ok (.invokespecial 394, 3) := dk_183 1 138 (dk_at dksX0_plan_1 7 rfl rfl)
theorem dX0_plan_34 : decode cX0_plan 34 = .ok (.astore_n 2, 1) := dk_77 (dk_at dksX0_plan_1 10 rfl rfl)
theorem dX0_plan_35 : decode cX0_plan 35 = .ok (.aload_n 2, 1) := dk_44 (dk_at dksX0_plan_1 11 rfl rfl)
theorem dX0_plan_36 : decode cX0_plan 36 = .ok (.iconst 0, 1) := dk_3 (dk_at dksX0_plan_1 12 rfl rfl)
theorem dX0_plan_37 : decode cX0_plan 37 = .ok (.iconst 0, 1) := dk_3 (dk_at dksX0_plan_1 13 rfl rfl)
theorem dX0_plan_38 : decode cX0_plan 38 = .ok (.invokevirtual 395, 3) := dk_182 1 139 (dk_at dksX0_plan_1 14 rfl rfl)
theorem dX0_plan_41 : decode cX0_plan 41 = .ok (.iload_n 1, 1) := dk_27 (dk_at dksX0_plan_1 17 rfl rfl)
theorem dX0_plan_42 : decode cX0_plan 42 = .ok (.iconst (-1), 1) := dk_2 (dk_at dksX0_plan_1 18 rfl rfl)
theorem dX0_plan_43 : decode cX0_plan 43 = .ok (.if_icmp .ne 10, 3) := dk_160 0 10 (dk_at dksX0_plan_1 19 rfl rfl)
theorem dX0_plan_46 : decode cX0_plan 46 = .ok (.aload_n 2, 1) := dk_44 (dk_at dksX0_plan_1 22 rfl rfl)
theorem dX0_plan_47 : decode cX0_plan 47 = .ok (.getfield 396, 3) := dk_180 1 140 (dk_at dksX0_plan_2 0 rfl rfl)
theorem dX0_plan_50 : decode cX0_plan 50 = .ok (.goto 20, 3) := dk_167 0 20 (dk_at dksX0_plan_2 3 rfl rfl)
theorem dX0_plan_53 : decode cX0_plan 53 = .ok (.aload_n 2, 1) := dk_44 (dk_at dksX0_plan_2 6 rfl rfl)
theorem dX0_plan_54 : decode cX0_plan 54 = .ok (.getfield 396, 3) := dk_180 1 140 (dk_at dksX0_plan_2 7 rfl rfl)
theorem dX0_plan_57 : decode cX0_plan 57 = .ok (.ifCond .ne 7, 3) := dk_154 0 7 (dk_at dksX0_plan_2 10 rfl rfl)
theorem dX0_plan_60 : decode cX0_plan 60 = .ok (.iconst (-1), 1) := dk_2 (dk_at dksX0_plan_2 13 rfl rfl)
theorem dX0_plan_61 : decode cX0_plan 61 = .ok (.goto 9, 3) := dk_167 0 9 (dk_at dksX0_plan_2 14 rfl rfl)
theorem dX0_plan_64 : decode cX0_plan 64 = .ok (.aload_n 2, 1) := dk_44 (dk_at dksX0_plan_2 17 rfl rfl)
theorem dX0_plan_65 : decode cX0_plan 65 = .ok (.getfield 397, 3) := dk_180 1 141 (dk_at dksX0_plan_2 18 rfl rfl)
theorem dX0_plan_68 : decode cX0_plan 68 = .ok (.iload_n 1, 1) := dk_27 (dk_at dksX0_plan_2 21 rfl rfl)
theorem dX0_plan_69 : decode cX0_plan 69 = .ok (.iaload, 1) := dk_46 (dk_at dksX0_plan_2 22 rfl rfl)
theorem dX0_plan_70 : decode cX0_plan 70 = .ok (.ireturn, 1) := dk_172 (dk_at dksX0_plan_2 23 rfl rfl)
noncomputable def f_X0_plan (E : ax_E) (x0 : Option Nat) (x1 : Int) (h : ax_H) : Option (Int × ax_H) :=
  (ax_gR E h x0 0 0).bind fun v1 =>
  (ax_gR E h v1 1 1).bind fun v2 =>
  (ax_ce E h v2 42).bind fun _ => (f_J2_size E v2 h).bind fun q3 =>
  (f_X0_in E (i2 x1) (-1) (i2 (q3.1 - 1)) q3.2).bind fun q4 =>
  if i2 q4.1 = 0 then
    some ((-1), q4.2)
  else
    (ax_nw E q4.2 31 0 6).bind fun q5 =>
    (some q5.1).bind fun _ => (f_X31_init E (some q5.1) x0 q5.2).bind fun h6 =>
    (ax_dp E h6 (some q5.1) fun t => if t = 31 then fn_X29_go E 64 (some q5.1) 0 0 h6 else none).bind fun h7 =>
    if i2 x1 = i2 (-1) then
      (ax_gI E h7 (some q5.1) 31 3).bind fun v8 =>
      some (v8, h7)
    else
      (ax_gI E h7 (some q5.1) 31 3).bind fun v9 =>
      if i2 v9 = 0 then
        some ((-1), h7)
      else
        (ax_gR E h7 (some q5.1) 31 1).bind fun v10 =>
        (ax_ld E h7 v10 100 x1).bind fun v11 =>
        some (v11, h7)
set_option maxHeartbeats 4000000 in
theorem we_X0_plan {l : Launch} {G : ax_G} {X : ax_X} {Q : State → Prop} {h0 h : ax_H} {ls : Array Slot} (hSF : ax_SF G) (B : ax_BL l G X cX0_plan 3 RX0 206 5086) (Z : ax_Z X h0 ((some FieldType.int))) (hn : X.2.2.2.2.2.2.2.2.1.name = yX0_plan.name) (x0 : Option Nat) (x1 : Int) {w : Int × ax_H} (hl : ax_hl ls 3 [(0, .inr (.inr x0)), (1, .inl x1)]) (e : f_X0_plan G.2.2 x0 x1 h = some w) (hp : (fun w : Int × ax_H => Q = ax_Q G X h0 w.2 (some (.int (Int32.ofInt w.1)))) w) : ax_W G X Q h 0 ls [] := by
  unfold f_X0_plan at e
  refine ax_iload_n B dX0_plan_0 rfl hl 1 rfl ?_
  refine ax_i2l' B dX0_plan_1 ?_
  refine ax_ldc2 B cn_X0_250 dX0_plan_2 ?_
  refine ax_aload_n B dX0_plan_5 rfl hl 0 rfl ?_
  refine ax_getR B ff_X0_20_0 (fun _ _ => rfl) dX0_plan_6 e (fun v1 e => ?_)
  refine ax_getR B ff_X0_343_1 (fun _ _ => rfl) dX0_plan_9 e (fun v2 e => ?_)
  refine ax_ivI (y := yJ2_size) (n := 0) (As := []) B kd42 (lw_V q709 q710 q711 q129 q712) (by decide +kernel) ⟨Nat.le_of_ble_eq_true rfl, Nat.le_of_ble_eq_true rfl⟩ (fun w1 e1 => mt_J2_size l G hSF v2 _ w1 e1) rfl hl.size (by simp only [List.map_cons, List.map_nil, List.sum_cons, List.sum_nil, va_rf_cat, ax_catI, ax_catL]; decide) dX0_plan_12 e (fun q3 e => ?_)
  refine ax_iconst B dX0_plan_15 ?_
  refine ax_isub' B dX0_plan_16 ?_
  refine ax_i2l' B dX0_plan_17 ?_
  refine ax_isI (y := yX0_in) (n := 3) (As := [.long (Int64.ofInt (i2 x1)), .long (Int64.ofInt (-1)), .long (Int64.ofInt (i2 (q3.1 - 1)))]) B (lw_S q420 q421 q125 q422) (by decide +kernel) ⟨Nat.le_of_ble_eq_true rfl, Nat.le_of_ble_eq_true rfl⟩ (fun w1 e1 => mt_X0_in l G hSF (i2 x1) (-1) (i2 (q3.1 - 1)) _ w1 e1) rfl hl.size (by decide) dX0_plan_18 e (fun q4 e => ?_)
  refine ax_if_ne (tgt := 26) B dX0_plan_21 (by decide) e (fun e => ?_) (fun e => ?_)
  · refine ax_iconst B dX0_plan_24 ?_
    have e8 := e
    have hp : Q = _ := hp
    subst hp
    exact ax_ireturn B Z dX0_plan_25 e8
  · refine ax_new B kd31 in_X31 tyX31_ok (fun k hk => ax_dv _ (dfX31 k hk)) q1598 q1599 q173 dX0_plan_26 e (fun q5 e => ?_)
    refine ax_dup B dX0_plan_29 (va_rf_cat _) ?_
    refine ax_aload_n B dX0_plan_30 rfl hl 0 rfl ?_
    refine ax_iiR (y := yX31_init) (n := 1) (As := [va_rf x0]) B q1600 q1601 q173 q1602 rfl (by decide +kernel) ⟨Nat.le_of_ble_eq_true rfl, Nat.le_of_ble_eq_true rfl⟩ (fun w1 e1 => mt_X31_init l G hSF (some q5.1) x0 _ w1 e1) rfl hl.size (by simp only [List.map_cons, List.map_nil, List.sum_cons, List.sum_nil, va_rf_cat, ax_catI, ax_catL]; decide) dX0_plan_31 e (fun h6 e => ?_)
    refine ax_astore_n (L' := [(2, .inr (.inr (some q5.1))), (0, .inr (.inr x0)), (1, .inl x1)]) B dX0_plan_34 rfl hl (by decide) rfl (fun ls hl => ?_)
    refine ax_aload_n B dX0_plan_35 rfl hl 0 rfl ?_
    refine ax_iconst B dX0_plan_36 ?_
    refine ax_iconst B dX0_plan_37 ?_
    refine ax_iwV (x := ⟨"DebtDoors$Plan", "go", "(II)V"⟩) (n := 2) (As := [.int (Int32.ofInt 0), .int (Int32.ofInt 0)]) B (fun w1 e1 => ?_) rfl hl.size (by decide) dX0_plan_38 e (fun h7 e => ?_)
    · obtain ⟨t, c, e2, e1⟩ := ax_dp_spec e1
      rcases ax_ite e1 with ⟨hk, e1⟩ | ⟨-, e1⟩
      · subst hk
        exact ax_cal B kd31 e2 q1614 q1615 (ax_dcD B q1568) (B.2.1.2.2.2.2 _ q1616) q1570 q171 q1571 (by decide +kernel) ⟨Nat.le_of_ble_eq_true rfl, Nat.le_of_ble_eq_true rfl⟩ (mf_X29_go l G hSF 64 (some q5.1) 0 0 _ w1 e1)
      cases e1
    refine ax_iload_n B dX0_plan_41 rfl hl 2 rfl ?_
    refine ax_iconst B dX0_plan_42 ?_
    refine ax_icmp_ne (tgt := 53) B dX0_plan_43 (by decide) e (fun e => ?_) (fun e => ?_)
    · refine ax_aload_n B dX0_plan_46 rfl hl 0 rfl ?_
      refine ax_getI B ff_X0_396_31 (fun _ _ => rfl) dX0_plan_47 e (fun v8 e => ?_)
      refine ax_goto (tgt := 70) B dX0_plan_50 (by decide) ?_
      have e8 := e
      have hp : Q = _ := hp
      subst hp
      exact ax_ireturn B Z dX0_plan_70 e8
    · refine ax_aload_n B dX0_plan_53 rfl hl 0 rfl ?_
      refine ax_getI B ff_X0_396_31 (fun _ _ => rfl) dX0_plan_54 e (fun v9 e => ?_)
      refine ax_if_ne (tgt := 64) B dX0_plan_57 (by decide) e (fun e => ?_) (fun e => ?_)
      · refine ax_iconst B dX0_plan_60 ?_
        refine ax_goto (tgt := 70) B dX0_plan_61 (by decide) ?_
        have e8 := e
        have hp : Q = _ := hp
        subst hp
        exact ax_ireturn B Z dX0_plan_70 e8
      · refine ax_aload_n B dX0_plan_64 rfl hl 0 rfl ?_
        refine ax_getR B ff_X0_397_31 (fun _ _ => rfl) dX0_plan_65 e (fun v10 e => ?_)
        refine ax_iload_n B dX0_plan_68 rfl hl 2 rfl ?_
        refine ax_iald B kd100 dX0_plan_69 e (fun v11 e => ?_)
        have e8 := e
        have hp : Q = _ := hp
        subst hp
        exact ax_ireturn B Z dX0_plan_70 e8
theorem mt_X0_plan (l : Launch) (G : ax_G) (hSF : ax_SF G) (x0 : Option Nat) (x1 : Int) (h : ax_H) (w : Int × ax_H) (e : f_X0_plan G.2.2 x0 x1 h = some w) : ax_Met l G yX0_plan cX0_plan 3 ((some FieldType.int)) 206 5086 [va_rf x0, .int (Int32.ofInt x1)] h w.2 (some (.int (Int32.ofInt w.1))) :=
  ax_enter [.inr (.inr x0), .inl x1] (y := yX0_plan) hSF (plainFor_of_name (by decide +kernel)) (Nat.le_of_ble_eq_true rfl) (fun X ls B Z hn hl => we_X0_plan hSF B Z hn x0 x1 hl e rfl)
def dkwJ16_bitCount_2 : List UInt8 := [26, 16, 63, 126, 172]
abbrev dktJ16_bitCount_2 : List UInt8 := dkwJ16_bitCount_2 ++ []
def dkwJ16_bitCount_1 : List UInt8 := [26, 26, 7, 124, 96, 19, 1, 11, 126, 59, 26, 26, 16, 8, 124, 96, 59, 26, 26, 16, 16, 124, 96, 59]
abbrev dktJ16_bitCount_1 : List UInt8 := dkwJ16_bitCount_1 ++ dktJ16_bitCount_2
def dkwJ16_bitCount_0 : List UInt8 := [26, 26, 4, 124, 19, 1, 9, 126, 100, 59, 26, 19, 1, 10, 126, 26, 5, 124, 19, 1, 10, 126, 96, 59]
abbrev dktJ16_bitCount_0 : List UInt8 := dkwJ16_bitCount_0 ++ dktJ16_bitCount_1
theorem dksJ16_bitCount_0 : cJ16_bitCount.data.toList.drop 0 = dktJ16_bitCount_0 := by decide +kernel
theorem dksJ16_bitCount_1 : cJ16_bitCount.data.toList.drop 24 = dktJ16_bitCount_1 := dk_seg dksJ16_bitCount_0 24 rfl rfl
theorem dksJ16_bitCount_2 : cJ16_bitCount.data.toList.drop 48 = dktJ16_bitCount_2 := dk_seg dksJ16_bitCount_1 24 rfl rfl
theorem dJ16_bitCount_0 : decode cJ16_bitCount 0 = .ok (.iload_n 0, 1) := dk_26 (dk_at dksJ16_bitCount_0 0 rfl rfl)
theorem dJ16_bitCount_1 : decode cJ16_bitCount 1 = .ok (.iload_n 0, 1) := dk_26 (dk_at dksJ16_bitCount_0 1 rfl rfl)
theorem dJ16_bitCount_2 : decode cJ16_bitCount 2 = .ok (.iconst 1, 1) := dk_4 (dk_at dksJ16_bitCount_0 2 rfl rfl)
theorem dJ16_bitCount_3 : decode cJ16_bitCount 3 = .ok (.iushr, 1) := dk_124 (dk_at dksJ16_bitCount_0 3 rfl rfl)
theorem dJ16_bitCount_4 : decode cJ16_bitCount 4 = .ok (.ldc_w 265, 3) := dk_19 1 9 (dk_at dksJ16_bitCount_0 4 rfl rfl)
theorem dJ16_bitCount_7 : decode cJ16_bitCount 7 = .ok (.iand, 1) := dk_126 (dk_at dksJ16_bitCount_0 7 rfl rfl)
theorem dJ16_bitCount_8 : decode cJ16_bitCount 8 = .ok (.isub, 1) := dk_100 (dk_at dksJ16_bitCount_0 8 rfl rfl)
theorem dJ16_bitCount_9 : decode cJ16_bitCount 9 = .ok (.istore_n 0, 1) := dk_59 (dk_at dksJ16_bitCount_0 9 rfl rfl)
theorem dJ16_bitCount_10 : decode cJ16_bitCount 10 = .ok (.iload_n 0, 1) := dk_26 (dk_at dksJ16_bitCount_0 10 rfl rfl)
theorem dJ16_bitCount_11 : decode cJ16_bitCount 11 = .ok (.ldc_w 266, 3) := dk_19 1 10 (dk_at dksJ16_bitCount_0 11 rfl rfl)
theorem dJ16_bitCount_14 : decode cJ16_bitCount 14 = .ok (.iand, 1) := dk_126 (dk_at dksJ16_bitCount_0 14 rfl rfl)
theorem dJ16_bitCount_15 : decode cJ16_bitCount 15 = .ok (.iload_n 0, 1) := dk_26 (dk_at dksJ16_bitCount_0 15 rfl rfl)
theorem dJ16_bitCount_16 : decode cJ16_bitCount 16 = .ok (.iconst 2, 1) := dk_5 (dk_at dksJ16_bitCount_0 16 rfl rfl)
theorem dJ16_bitCount_17 : decode cJ16_bitCount 17 = .ok (.iushr, 1) := dk_124 (dk_at dksJ16_bitCount_0 17 rfl rfl)
theorem dJ16_bitCount_18 : decode cJ16_bitCount 18 = .ok (.ldc_w 266, 3) := dk_19 1 10 (dk_at dksJ16_bitCount_0 18 rfl rfl)
theorem dJ16_bitCount_21 : decode cJ16_bitCount 21 = .ok (.iand, 1) := dk_126 (dk_at dksJ16_bitCount_0 21 rfl rfl)
theorem dJ16_bitCount_22 : decode cJ16_bitCount 22 = .ok (.iadd, 1) := dk_96 (dk_at dksJ16_bitCount_0 22 rfl rfl)
theorem dJ16_bitCount_23 : decode cJ16_bitCount 23 = .ok (.istore_n 0, 1) := dk_59 (dk_at dksJ16_bitCount_0 23 rfl rfl)
theorem dJ16_bitCount_24 : decode cJ16_bitCount 24 = .ok (.iload_n 0, 1) := dk_26 (dk_at dksJ16_bitCount_1 0 rfl rfl)
theorem dJ16_bitCount_25 : decode cJ16_bitCount 25 = .ok (.iload_n 0, 1) := dk_26 (dk_at dksJ16_bitCount_1 1 rfl rfl)
theorem dJ16_bitCount_26 : decode cJ16_bitCount 26 = .ok (.iconst 4, 1) := dk_7 (dk_at dksJ16_bitCount_1 2 rfl rfl)
theorem dJ16_bitCount_27 : decode cJ16_bitCount 27 = .ok (.iushr, 1) := dk_124 (dk_at dksJ16_bitCount_1 3 rfl rfl)
theorem dJ16_bitCount_28 : decode cJ16_bitCount 28 = .ok (.iadd, 1) := dk_96 (dk_at dksJ16_bitCount_1 4 rfl rfl)
theorem dJ16_bitCount_29 : decode cJ16_bitCount 29 = .ok (.ldc_w 267, 3) := dk_19 1 11 (dk_at dksJ16_bitCount_1 5 rfl rfl)
theorem dJ16_bitCount_32 : decode cJ16_bitCount 32 = .ok (.iand, 1) := dk_126 (dk_at dksJ16_bitCount_1 8 rfl rfl)
theorem dJ16_bitCount_33 : decode cJ16_bitCount 33 = .ok (.istore_n 0, 1) := dk_59 (dk_at dksJ16_bitCount_1 9 rfl rfl)
theorem dJ16_bitCount_34 : decode cJ16_bitCount 34 = .ok (.iload_n 0, 1) := dk_26 (dk_at dksJ16_bitCount_1 10 rfl rfl)
theorem dJ16_bitCount_35 : decode cJ16_bitCount 35 = .ok (.iload_n 0, 1) := dk_26 (dk_at dksJ16_bitCount_1 11 rfl rfl)
theorem dJ16_bitCount_36 : decode cJ16_bitCount 36 = .ok (.bipush 8, 2) := dk_16 8 (dk_at dksJ16_bitCount_1 12 rfl rfl)
theorem dJ16_bitCount_38 : decode cJ16_bitCount 38 = .ok (.iushr, 1) := dk_124 (dk_at dksJ16_bitCount_1 14 rfl rfl)
theorem dJ16_bitCount_39 : decode cJ16_bitCount 39 = .ok (.iadd, 1) := dk_96 (dk_at dksJ16_bitCount_1 15 rfl rfl)
theorem dJ16_bitCount_40 : decode cJ16_bitCount 40 = .ok (.istore_n 0, 1) := dk_59 (dk_at dksJ16_bitCount_1 16 rfl rfl)
theorem dJ16_bitCount_41 : decode cJ16_bitCount 41 = .ok (.iload_n 0, 1) := dk_26 (dk_at dksJ16_bitCount_1 17 rfl rfl)
theorem dJ16_bitCount_42 : decode cJ16_bitCount 42 = .ok (.iload_n 0, 1) := dk_26 (dk_at dksJ16_bitCount_1 18 rfl rfl)
theorem dJ16_bitCount_43 : decode cJ16_bitCount 43 = .ok (.bipush 16, 2) := dk_16 16 (dk_at dksJ16_bitCount_1 19 rfl rfl)
theorem dJ16_bitCount_45 : decode cJ16_bitCount 45 = .ok (.iushr, 1) := dk_124 (dk_at dksJ16_bitCount_1 21 rfl rfl)
theorem dJ16_bitCount_46 : decode cJ16_bitCount 46 = .ok (.iadd, 1) := dk_96 (dk_at dksJ16_bitCount_1 22 rfl rfl)
theorem dJ16_bitCount_47 : decode cJ16_bitCount 47 = .ok (.istore_n 0, 1) := dk_59 (dk_at dksJ16_bitCount_1 23 rfl rfl)
theorem dJ16_bitCount_48 : decode cJ16_bitCount 48 = .ok (.iload_n 0, 1) := dk_26 (dk_at dksJ16_bitCount_2 0 rfl rfl)
theorem dJ16_bitCount_49 : decode cJ16_bitCount 49 = .ok (.bipush 63, 2) := dk_16 63 (dk_at dksJ16_bitCount_2 1 rfl rfl)
theorem dJ16_bitCount_51 : decode cJ16_bitCount 51 = .ok (.iand, 1) := dk_126 (dk_at dksJ16_bitCount_2 3 rfl rfl)
theorem dJ16_bitCount_52 : decode cJ16_bitCount 52 = .ok (.ireturn, 1) := dk_172 (dk_at dksJ16_bitCount_2 4 rfl rfl)
noncomputable def f_J16_bitCount (E : ax_E) (x0 : Int) (h : ax_H) : Option (Int × ax_H) :=
  some ((ax_and (((ax_and (((ax_and (x0 - (ax_and (ax_ushr x0 1) 1431655765)) 858993459) + (ax_and (ax_ushr (x0 - (ax_and (ax_ushr x0 1) 1431655765)) 2) 858993459)) + (ax_ushr ((ax_and (x0 - (ax_and (ax_ushr x0 1) 1431655765)) 858993459) + (ax_and (ax_ushr (x0 - (ax_and (ax_ushr x0 1) 1431655765)) 2) 858993459)) 4)) 252645135) + (ax_ushr (ax_and (((ax_and (x0 - (ax_and (ax_ushr x0 1) 1431655765)) 858993459) + (ax_and (ax_ushr (x0 - (ax_and (ax_ushr x0 1) 1431655765)) 2) 858993459)) + (ax_ushr ((ax_and (x0 - (ax_and (ax_ushr x0 1) 1431655765)) 858993459) + (ax_and (ax_ushr (x0 - (ax_and (ax_ushr x0 1) 1431655765)) 2) 858993459)) 4)) 252645135) 8)) + (ax_ushr ((ax_and (((ax_and (x0 - (ax_and (ax_ushr x0 1) 1431655765)) 858993459) + (ax_and (ax_ushr (x0 - (ax_and (ax_ushr x0 1) 1431655765)) 2) 858993459)) + (ax_ushr ((ax_and (x0 - (ax_and (ax_ushr x0 1) 1431655765)) 858993459) + (ax_and (ax_ushr (x0 - (ax_and (ax_ushr x0 1) 1431655765)) 2) 858993459)) 4)) 252645135) + (ax_ushr (ax_and (((ax_and (x0 - (ax_and (ax_ushr x0 1) 1431655765)) 858993459) + (ax_and (ax_ushr (x0 - (ax_and (ax_ushr x0 1) 1431655765)) 2) 858993459)) + (ax_ushr ((ax_and (x0 - (ax_and (ax_ushr x0 1) 1431655765)) 858993459) + (ax_and (ax_ushr (x0 - (ax_and (ax_ushr x0 1) 1431655765)) 2) 858993459)) 4)) 252645135) 8)) 16)) 63), h)
set_option maxHeartbeats 4000000 in
theorem we_J16_bitCount {l : Launch} {G : ax_G} {X : ax_X} {Q : State → Prop} {h0 h : ax_H} {ls : Array Slot} (hSF : ax_SF G) (B : ax_BL l G X cJ16_bitCount 1 RJ16 1 40) (Z : ax_Z X h0 ((some FieldType.int))) (hn : X.2.2.2.2.2.2.2.2.1.name = yJ16_bitCount.name) (x0 : Int) {w : Int × ax_H} (hl : ax_hl ls 1 [(0, .inl x0)]) (e : f_J16_bitCount G.2.2 x0 h = some w) (hp : (fun w : Int × ax_H => Q = ax_Q G X h0 w.2 (some (.int (Int32.ofInt w.1)))) w) : ax_W G X Q h 0 ls [] := by
  unfold f_J16_bitCount at e
  refine ax_iload_n B dJ16_bitCount_0 rfl hl 0 rfl ?_
  refine ax_iload_n B dJ16_bitCount_1 rfl hl 0 rfl ?_
  refine ax_iconst B dJ16_bitCount_2 ?_
  refine ax_iushr' B dJ16_bitCount_3 ?_
  refine ax_ldcw B cn_J16_265 dJ16_bitCount_4 ?_
  refine ax_iand' B dJ16_bitCount_7 ?_
  refine ax_isub' B dJ16_bitCount_8 ?_
  refine ax_istore_n (L' := [(0, .inl (x0 - (ax_and (ax_ushr x0 1) 1431655765)))]) B dJ16_bitCount_9 rfl hl (by decide) rfl (fun ls hl => ?_)
  refine ax_iload_n B dJ16_bitCount_10 rfl hl 0 rfl ?_
  refine ax_ldcw B cn_J16_266 dJ16_bitCount_11 ?_
  refine ax_iand' B dJ16_bitCount_14 ?_
  refine ax_iload_n B dJ16_bitCount_15 rfl hl 0 rfl ?_
  refine ax_iconst B dJ16_bitCount_16 ?_
  refine ax_iushr' B dJ16_bitCount_17 ?_
  refine ax_ldcw B cn_J16_266 dJ16_bitCount_18 ?_
  refine ax_iand' B dJ16_bitCount_21 ?_
  refine ax_iadd' B dJ16_bitCount_22 ?_
  refine ax_istore_n (L' := [(0, .inl ((ax_and (x0 - (ax_and (ax_ushr x0 1) 1431655765)) 858993459) + (ax_and (ax_ushr (x0 - (ax_and (ax_ushr x0 1) 1431655765)) 2) 858993459)))]) B dJ16_bitCount_23 rfl hl (by decide) rfl (fun ls hl => ?_)
  refine ax_iload_n B dJ16_bitCount_24 rfl hl 0 rfl ?_
  refine ax_iload_n B dJ16_bitCount_25 rfl hl 0 rfl ?_
  refine ax_iconst B dJ16_bitCount_26 ?_
  refine ax_iushr' B dJ16_bitCount_27 ?_
  refine ax_iadd' B dJ16_bitCount_28 ?_
  refine ax_ldcw B cn_J16_267 dJ16_bitCount_29 ?_
  refine ax_iand' B dJ16_bitCount_32 ?_
  refine ax_istore_n (L' := [(0, .inl (ax_and (((ax_and (x0 - (ax_and (ax_ushr x0 1) 1431655765)) 858993459) + (ax_and (ax_ushr (x0 - (ax_and (ax_ushr x0 1) 1431655765)) 2) 858993459)) + (ax_ushr ((ax_and (x0 - (ax_and (ax_ushr x0 1) 1431655765)) 858993459) + (ax_and (ax_ushr (x0 - (ax_and (ax_ushr x0 1) 1431655765)) 2) 858993459)) 4)) 252645135))]) B dJ16_bitCount_33 rfl hl (by decide) rfl (fun ls hl => ?_)
  refine ax_iload_n B dJ16_bitCount_34 rfl hl 0 rfl ?_
  refine ax_iload_n B dJ16_bitCount_35 rfl hl 0 rfl ?_
  refine ax_bipush B dJ16_bitCount_36 (by decide) ?_
  refine ax_iushr' B dJ16_bitCount_38 ?_
  refine ax_iadd' B dJ16_bitCount_39 ?_
  refine ax_istore_n (L' := [(0, .inl ((ax_and (((ax_and (x0 - (ax_and (ax_ushr x0 1) 1431655765)) 858993459) + (ax_and (ax_ushr (x0 - (ax_and (ax_ushr x0 1) 1431655765)) 2) 858993459)) + (ax_ushr ((ax_and (x0 - (ax_and (ax_ushr x0 1) 1431655765)) 858993459) + (ax_and (ax_ushr (x0 - (ax_and (ax_ushr x0 1) 1431655765)) 2) 858993459)) 4)) 252645135) + (ax_ushr (ax_and (((ax_and (x0 - (ax_and (ax_ushr x0 1) 1431655765)) 858993459) + (ax_and (ax_ushr (x0 - (ax_and (ax_ushr x0 1) 1431655765)) 2) 858993459)) + (ax_ushr ((ax_and (x0 - (ax_and (ax_ushr x0 1) 1431655765)) 858993459) + (ax_and (ax_ushr (x0 - (ax_and (ax_ushr x0 1) 1431655765)) 2) 858993459)) 4)) 252645135) 8)))]) B dJ16_bitCount_40 rfl hl (by decide) rfl (fun ls hl => ?_)
  refine ax_iload_n B dJ16_bitCount_41 rfl hl 0 rfl ?_
  refine ax_iload_n B dJ16_bitCount_42 rfl hl 0 rfl ?_
  refine ax_bipush B dJ16_bitCount_43 (by decide) ?_
  refine ax_iushr' B dJ16_bitCount_45 ?_
  refine ax_iadd' B dJ16_bitCount_46 ?_
  refine ax_istore_n (L' := [(0, .inl (((ax_and (((ax_and (x0 - (ax_and (ax_ushr x0 1) 1431655765)) 858993459) + (ax_and (ax_ushr (x0 - (ax_and (ax_ushr x0 1) 1431655765)) 2) 858993459)) + (ax_ushr ((ax_and (x0 - (ax_and (ax_ushr x0 1) 1431655765)) 858993459) + (ax_and (ax_ushr (x0 - (ax_and (ax_ushr x0 1) 1431655765)) 2) 858993459)) 4)) 252645135) + (ax_ushr (ax_and (((ax_and (x0 - (ax_and (ax_ushr x0 1) 1431655765)) 858993459) + (ax_and (ax_ushr (x0 - (ax_and (ax_ushr x0 1) 1431655765)) 2) 858993459)) + (ax_ushr ((ax_and (x0 - (ax_and (ax_ushr x0 1) 1431655765)) 858993459) + (ax_and (ax_ushr (x0 - (ax_and (ax_ushr x0 1) 1431655765)) 2) 858993459)) 4)) 252645135) 8)) + (ax_ushr ((ax_and (((ax_and (x0 - (ax_and (ax_ushr x0 1) 1431655765)) 858993459) + (ax_and (ax_ushr (x0 - (ax_and (ax_ushr x0 1) 1431655765)) 2) 858993459)) + (ax_ushr ((ax_and (x0 - (ax_and (ax_ushr x0 1) 1431655765)) 858993459) + (ax_and (ax_ushr (x0 - (ax_and (ax_ushr x0 1) 1431655765)) 2) 858993459)) 4)) 252645135) + (ax_ushr (ax_and (((ax_and (x0 - (ax_and (ax_ushr x0 1) 1431655765)) 858993459) + (ax_and (ax_ushr (x0 - (ax_and (ax_ushr x0 1) 1431655765)) 2) 858993459)) + (ax_ushr ((ax_and (x0 - (ax_and (ax_ushr x0 1) 1431655765)) 858993459) + (ax_and (ax_ushr (x0 - (ax_and (ax_ushr x0 1) 1431655765)) 2) 858993459)) 4)) 252645135) 8)) 16)))]) B dJ16_bitCount_47 rfl hl (by decide) rfl (fun ls hl => ?_)
  refine ax_iload_n B dJ16_bitCount_48 rfl hl 0 rfl ?_
  refine ax_bipush B dJ16_bitCount_49 (by decide) ?_
  refine ax_iand' B dJ16_bitCount_51 ?_
  have e8 := e
  have hp : Q = _ := hp
  subst hp
  exact ax_ireturn B Z dJ16_bitCount_52 e8
theorem mt_J16_bitCount (l : Launch) (G : ax_G) (hSF : ax_SF G) (x0 : Int) (h : ax_H) (w : Int × ax_H) (e : f_J16_bitCount G.2.2 x0 h = some w) : ax_Met l G yJ16_bitCount cJ16_bitCount 1 ((some FieldType.int)) 1 40 [.int (Int32.ofInt x0)] h w.2 (some (.int (Int32.ofInt w.1))) :=
  ax_enter [.inl x0] (y := yJ16_bitCount) hSF (plainFor_of_name (by decide +kernel)) (Nat.le_of_ble_eq_true rfl) (fun X ls B Z hn hl => we_J16_bitCount hSF B Z hn x0 hl e rfl)
def dkwX0_thief_14 : List UInt8 := [21, 8, 2, 160, 0, 7, 2, 167, 0, 15, 21, 4, 154, 0, 8, 21, 7, 167, 0, 5, 21, 8, 172]
abbrev dktX0_thief_14 : List UInt8 := dkwX0_thief_14 ++ []
def dkwX0_thief_13 : List UInt8 := [182, 1, 17, 29, 162, 0, 6, 167, 0, 11, 21, 13, 54, 7, 21, 12, 54, 8, 132, 12, 1, 167, 255, 82]
abbrev dktX0_thief_13 : List UInt8 := dkwX0_thief_13 ++ dktX0_thief_14
def dkwX0_thief_12 : List UInt8 := [54, 15, 21, 15, 153, 0, 38, 42, 28, 27, 21, 10, 21, 14, 96, 21, 11, 42, 182, 0, 104, 180, 0, 194]
abbrev dktX0_thief_12 : List UInt8 := dkwX0_thief_12 ++ dktX0_thief_13
def dkwX0_thief_11 : List UInt8 := [21, 7, 160, 0, 20, 21, 12, 184, 1, 145, 21, 8, 184, 1, 145, 162, 0, 7, 4, 167, 0, 4, 3]
abbrev dktX0_thief_11 : List UInt8 := dkwX0_thief_11 ++ dktX0_thief_12
def dkwX0_thief_10 : List UInt8 := [46, 167, 0, 4, 3, 96, 54, 14, 132, 15, 1, 167, 255, 193, 21, 13, 21, 7, 161, 0, 23, 21, 13]
abbrev dktX0_thief_10 : List UInt8 := dkwX0_thief_10 ++ dktX0_thief_11
def dkwX0_thief_9 : List UInt8 := [96, 54, 13, 21, 14, 21, 12, 21, 15, 184, 1, 143, 153, 0, 16, 42, 182, 0, 104, 180, 0, 171, 21, 15]
abbrev dktX0_thief_9 : List UInt8 := dkwX0_thief_9 ++ dktX0_thief_10
def dkwX0_thief_8 : List UInt8 := [162, 0, 62, 21, 13, 21, 12, 21, 15, 184, 1, 143, 153, 0, 11, 25, 9, 21, 15, 46, 167, 0, 4, 3]
abbrev dktX0_thief_8 : List UInt8 := dkwX0_thief_8 ++ dktX0_thief_9
def dkwX0_thief_7 : List UInt8 := [21, 6, 2, 130, 126, 153, 0, 6, 167, 0, 152, 3, 54, 13, 3, 54, 14, 3, 54, 15, 21, 15, 21, 5]
abbrev dktX0_thief_7 : List UInt8 := dkwX0_thief_7 ++ dktX0_thief_8
def dkwX0_thief_6 : List UInt8 := [182, 0, 104, 27, 28, 182, 0, 187, 54, 11, 3, 54, 12, 21, 12, 4, 21, 5, 120, 162, 0, 171, 21, 12]
abbrev dktX0_thief_6 : List UInt8 := dkwX0_thief_6 ++ dktX0_thief_7
def dkwX0_thief_5 : List UInt8 := [3, 128, 54, 6, 132, 10, 1, 167, 255, 190, 42, 182, 0, 104, 28, 27, 182, 0, 187, 54, 10, 42]
abbrev dktX0_thief_5 : List UInt8 := dkwX0_thief_5 ++ dktX0_thief_6
def dkwX0_thief_4 : List UInt8 := [160, 0, 24, 42, 182, 0, 104, 180, 0, 168, 21, 10, 46, 27, 159, 0, 10, 4, 21, 10, 120, 167, 0, 4]
abbrev dktX0_thief_4 : List UInt8 := dkwX0_thief_4 ++ dktX0_thief_5
def dkwX0_thief_3 : List UInt8 := [182, 0, 104, 21, 10, 182, 0, 177, 79, 21, 6, 42, 182, 0, 104, 180, 0, 165, 21, 10, 46, 28]
abbrev dktX0_thief_3 : List UInt8 := dkwX0_thief_3 ++ dktX0_thief_4
def dkwX0_thief_2 : List UInt8 := [54, 8, 16, 16, 188, 10, 58, 9, 3, 54, 10, 21, 10, 21, 5, 162, 0, 65, 25, 9, 21, 10, 42, 42]
abbrev dktX0_thief_2 : List UInt8 := dkwX0_thief_2 ++ dktX0_thief_3
def dkwX0_thief_1 : List UInt8 := [154, 0, 5, 2, 172, 42, 182, 0, 104, 180, 0, 107, 54, 5, 3, 54, 6, 19, 1, 142, 54, 7, 2]
abbrev dktX0_thief_1 : List UInt8 := dkwX0_thief_1 ++ dktX0_thief_2
def dkwX0_thief_0 : List UInt8 := [42, 27, 28, 182, 0, 184, 153, 0, 21, 29, 184, 0, 121, 153, 0, 14, 21, 4, 133, 9, 10, 184, 0, 5]
abbrev dktX0_thief_0 : List UInt8 := dkwX0_thief_0 ++ dktX0_thief_1
theorem dksX0_thief_0 : cX0_thief.data.toList.drop 0 = dktX0_thief_0 := by decide +kernel
theorem dksX0_thief_1 : cX0_thief.data.toList.drop 24 = dktX0_thief_1 := dk_seg dksX0_thief_0 24 rfl rfl
theorem dksX0_thief_2 : cX0_thief.data.toList.drop 47 = dktX0_thief_2 := dk_seg dksX0_thief_1 23 rfl rfl
theorem dksX0_thief_3 : cX0_thief.data.toList.drop 71 = dktX0_thief_3 := dk_seg dksX0_thief_2 24 rfl rfl
theorem dksX0_thief_4 : cX0_thief.data.toList.drop 93 = dktX0_thief_4 := dk_seg dksX0_thief_3 22 rfl rfl
theorem dksX0_thief_5 : cX0_thief.data.toList.drop 117 = dktX0_thief_5 := dk_seg dksX0_thief_4 24 rfl rfl
theorem dksX0_thief_6 : cX0_thief.data.toList.drop 139 = dktX0_thief_6 := dk_seg dksX0_thief_5 22 rfl rfl
theorem dksX0_thief_7 : cX0_thief.data.toList.drop 163 = dktX0_thief_7 := dk_seg dksX0_thief_6 24 rfl rfl
theorem dksX0_thief_8 : cX0_thief.data.toList.drop 187 = dktX0_thief_8 := dk_seg dksX0_thief_7 24 rfl rfl
theorem dksX0_thief_9 : cX0_thief.data.toList.drop 211 = dktX0_thief_9 := dk_seg dksX0_thief_8 24 rfl rfl
theorem dksX0_thief_10 : cX0_thief.data.toList.drop 235 = dktX0_thief_10 := dk_seg dksX0_thief_9 24 rfl rfl
theorem dksX0_thief_11 : cX0_thief.data.toList.drop 258 = dktX0_thief_11 := dk_seg dksX0_thief_10 23 rfl rfl
theorem dksX0_thief_12 : cX0_thief.data.toList.drop 281 = dktX0_thief_12 := dk_seg dksX0_thief_11 23 rfl rfl
theorem dksX0_thief_13 : cX0_thief.data.toList.drop 305 = dktX0_thief_13 := dk_seg dksX0_thief_12 24 rfl rfl
theorem dksX0_thief_14 : cX0_thief.data.toList.drop 329 = dktX0_thief_14 := dk_seg dksX0_thief_13 24 rfl rfl
theorem dX0_thief_0 : decode cX0_thief 0 = .ok (.aload_n 0, 1) := dk_42 (dk_at dksX0_thief_0 0 rfl rfl)
theorem dX0_thief_1 : decode cX0_thief 1 = .ok (.iload_n 1, 1) := dk_27 (dk_at dksX0_thief_0 1 rfl rfl)
theorem dX0_thief_2 : decode cX0_thief 2 = .ok (.iload_n 2, 1) := dk_28 (dk_at dksX0_thief_0 2 rfl rfl)
theorem dX0_thief_3 : decode cX0_thief 3 = .ok (.invokevirtual 184, 3) := dk_182 0 184 (dk_at dksX0_thief_0 3 rfl rfl)
theorem dX0_thief_6 : decode cX0_thief 6 = .ok (.ifCond .eq 21, 3) := dk_153 0 21 (dk_at dksX0_thief_0 6 rfl rfl)
theorem dX0_thief_9 : decode cX0_thief 9 = .ok (.iload_n 3, 1) := dk_29 (dk_at dksX0_thief_0 9 rfl rfl)
theorem dX0_thief_10 : decode cX0_thief 10 = .ok (.invokestatic 121, 3) := dk_184 0 121 (dk_at dksX0_thief_0 10 rfl rfl)
theorem dX0_thief_13 : decode cX0_thief 13 = .ok (.ifCond .eq 14, 3) := dk_153 0 14 (dk_at dksX0_thief_0 13 rfl rfl)
theorem dX0_thief_16 : decode cX0_thief 16 = .ok (.iload 4, 2) := dk_21 4 (dk_at dksX0_thief_0 16 rfl rfl)
theorem dX0_thief_18 : decode cX0_thief 18 = .ok (.i2l, 1) := dk_133 (dk_at dksX0_thief_0 18 rfl rfl)
theorem dX0_thief_19 : decode cX0_thief 19 = .ok (.lconst 0, 1) := dk_9 (dk_at dksX0_thief_0 19 rfl rfl)
theorem dX0_thief_20 : decode cX0_thief 20 = .ok (.lconst 1, 1) := dk_10 (dk_at dksX0_thief_0 20 rfl rfl)
theorem dX0_thief_21 : decode cX0_thief 21 = .ok (.invokestatic 5, 3) := dk_184 0 5 (dk_at dksX0_thief_0 21 rfl rfl)
theorem dX0_thief_24 : decode cX0_thief 24 = .ok (.ifCond .ne 5, 3) := dk_154 0 5 (dk_at dksX0_thief_1 0 rfl rfl)
theorem dX0_thief_27 : decode cX0_thief 27 = .ok (.iconst (-1), 1) := dk_2 (dk_at dksX0_thief_1 3 rfl rfl)
theorem dX0_thief_28 : decode cX0_thief 28 = .ok (.ireturn, 1) := dk_172 (dk_at dksX0_thief_1 4 rfl rfl)
theorem dX0_thief_29 : decode cX0_thief 29 = .ok (.aload_n 0, 1) := dk_42 (dk_at dksX0_thief_1 5 rfl rfl)
theorem dX0_thief_30 : decode cX0_thief 30 = .ok (.invokevirtual 104, 3) := dk_182 0 104 (dk_at dksX0_thief_1 6 rfl rfl)
theorem dX0_thief_33 : decode cX0_thief 33 = .ok (.getfield 107, 3) := dk_180 0 107 (dk_at dksX0_thief_1 9 rfl rfl)
theorem dX0_thief_36 : decode cX0_thief 36 = .ok (.istore 5, 2) := dk_54 5 (dk_at dksX0_thief_1 12 rfl rfl)
theorem dX0_thief_38 : decode cX0_thief 38 = .ok (.iconst 0, 1) := dk_3 (dk_at dksX0_thief_1 14 rfl rfl)
theorem dX0_thief_39 : decode cX0_thief 39 = .ok (.istore 6, 2) := dk_54 6 (dk_at dksX0_thief_1 15 rfl rfl)
theorem dX0_thief_41 : decode cX0_thief 41 = .ok (.ldc_w 398, 3) := dk_19 1 142 (dk_at dksX0_thief_1 17 rfl rfl)
theorem dX0_thief_44 : decode cX0_thief 44 = .ok (.istore 7, 2) := dk_54 7 (dk_at dksX0_thief_1 20 rfl rfl)
theorem dX0_thief_46 : decode cX0_thief 46 = .ok (.iconst (-1), 1) := dk_2 (dk_at dksX0_thief_1 22 rfl rfl)
theorem dX0_thief_47 : decode cX0_thief 47 = .ok (.istore 8, 2) := dk_54 8 (dk_at dksX0_thief_2 0 rfl rfl)
theorem dX0_thief_49 : decode cX0_thief 49 = .ok (.bipush 16, 2) := dk_16 16 (dk_at dksX0_thief_2 2 rfl rfl)
theorem dX0_thief_51 : decode cX0_thief 51 = .ok (.newarray .int, 2) := dk_188_10 (dk_at dksX0_thief_2 4 rfl rfl)
theorem dX0_thief_53 : decode cX0_thief 53 = .ok (.astore 9, 2) := dk_58 9 (dk_at dksX0_thief_2 6 rfl rfl)
theorem dX0_thief_55 : decode cX0_thief 55 = .ok (.iconst 0, 1) := dk_3 (dk_at dksX0_thief_2 8 rfl rfl)
theorem dX0_thief_56 : decode cX0_thief 56 = .ok (.istore 10, 2) := dk_54 10 (dk_at dksX0_thief_2 9 rfl rfl)
theorem dX0_thief_58 : decode cX0_thief 58 = .ok (.iload 10, 2) := dk_21 10 (dk_at dksX0_thief_2 11 rfl rfl)
theorem dX0_thief_60 : decode cX0_thief 60 = .ok (.iload 5, 2) := dk_21 5 (dk_at dksX0_thief_2 13 rfl rfl)
theorem dX0_thief_62 : decode cX0_thief 62 = .ok (.if_icmp .ge 65, 3) := dk_162 0 65 (dk_at dksX0_thief_2 15 rfl rfl)
theorem dX0_thief_65 : decode cX0_thief 65 = .ok (.aload 9, 2) := dk_25 9 (dk_at dksX0_thief_2 18 rfl rfl)
theorem dX0_thief_67 : decode cX0_thief 67 = .ok (.iload 10, 2) := dk_21 10 (dk_at dksX0_thief_2 20 rfl rfl)
theorem dX0_thief_69 : decode cX0_thief 69 = .ok (.aload_n 0, 1) := dk_42 (dk_at dksX0_thief_2 22 rfl rfl)
theorem dX0_thief_70 : decode cX0_thief 70 = .ok (.aload_n 0, 1) := dk_42 (dk_at dksX0_thief_2 23 rfl rfl)
theorem dX0_thief_71 : decode cX0_thief 71 = .ok (.invokevirtual 104, 3) := dk_182 0 104 (dk_at dksX0_thief_3 0 rfl rfl)
theorem dX0_thief_74 : decode cX0_thief 74 = .ok (.iload 10, 2) := dk_21 10 (dk_at dksX0_thief_3 3 rfl rfl)
theorem dX0_thief_76 : decode cX0_thief 76 = .ok (.invokevirtual 177, 3) := dk_182 0 177 (dk_at dksX0_thief_3 5 rfl rfl)
theorem dX0_thief_79 : decode cX0_thief 79 = .ok (.iastore, 1) := dk_79 (dk_at dksX0_thief_3 8 rfl rfl)
theorem dX0_thief_80 : decode cX0_thief 80 = .ok (.iload 6, 2) := dk_21 6 (dk_at dksX0_thief_3 9 rfl rfl)
theorem dX0_thief_82 : decode cX0_thief 82 = .ok (.aload_n 0, 1) := dk_42 (dk_at dksX0_thief_3 11 rfl rfl)
theorem dX0_thief_83 : decode cX0_thief 83 = .ok (.invokevirtual 104, 3) := dk_182 0 104 (dk_at dksX0_thief_3 12 rfl rfl)
theorem dX0_thief_86 : decode cX0_thief 86 = .ok (.getfield 165, 3) := dk_180 0 165 (dk_at dksX0_thief_3 15 rfl rfl)
theorem dX0_thief_89 : decode cX0_thief 89 = .ok (.iload 10, 2) := dk_21 10 (dk_at dksX0_thief_3 18 rfl rfl)
theorem dX0_thief_91 : decode cX0_thief 91 = .ok (.iaload, 1) := dk_46 (dk_at dksX0_thief_3 20 rfl rfl)
theorem dX0_thief_92 : decode cX0_thief 92 = .ok (.iload_n 2, 1) := dk_28 (dk_at dksX0_thief_3 21 rfl rfl)
theorem dX0_thief_93 : decode cX0_thief 93 = .ok (.if_icmp .ne 24, 3) := dk_160 0 24 (dk_at dksX0_thief_4 0 rfl rfl)
theorem dX0_thief_96 : decode cX0_thief 96 = .ok (.aload_n 0, 1) := dk_42 (dk_at dksX0_thief_4 3 rfl rfl)
theorem dX0_thief_97 : decode cX0_thief 97 = .ok (.invokevirtual 104, 3) := dk_182 0 104 (dk_at dksX0_thief_4 4 rfl rfl)
theorem dX0_thief_100 : decode cX0_thief 100 = .ok (.getfield 168, 3) := dk_180 0 168 (dk_at dksX0_thief_4 7 rfl rfl)
theorem dX0_thief_103 : decode cX0_thief 103 = .ok (.iload 10, 2) := dk_21 10 (dk_at dksX0_thief_4 10 rfl rfl)
theorem dX0_thief_105 : decode cX0_thief 105 = .ok (.iaload, 1) := dk_46 (dk_at dksX0_thief_4 12 rfl rfl)
theorem dX0_thief_106 : decode cX0_thief 106 = .ok (.iload_n 1, 1) := dk_27 (dk_at dksX0_thief_4 13 rfl rfl)
theorem dX0_thief_107 : decode cX0_thief 107 = .ok (.if_icmp .eq 10, 3) := dk_159 0 10 (dk_at dksX0_thief_4 14 rfl rfl)
theorem dX0_thief_110 : decode cX0_thief 110 = .ok (.iconst 1, 1) := dk_4 (dk_at dksX0_thief_4 17 rfl rfl)
theorem dX0_thief_111 : decode cX0_thief 111 = .ok (.iload 10, 2) := dk_21 10 (dk_at dksX0_thief_4 18 rfl rfl)
theorem dX0_thief_113 : decode cX0_thief 113 = .ok (.ishl, 1) := dk_120 (dk_at dksX0_thief_4 20 rfl rfl)
theorem dX0_thief_114 : decode cX0_thief 114 = .ok (.goto 4, 3) := dk_167 0 4 (dk_at dksX0_thief_4 21 rfl rfl)
theorem dX0_thief_117 : decode cX0_thief 117 = .ok (.iconst 0, 1) := dk_3 (dk_at dksX0_thief_5 0 rfl rfl)
theorem dX0_thief_118 : decode cX0_thief 118 = .ok (.ior, 1) := dk_128 (dk_at dksX0_thief_5 1 rfl rfl)
theorem dX0_thief_119 : decode cX0_thief 119 = .ok (.istore 6, 2) := dk_54 6 (dk_at dksX0_thief_5 2 rfl rfl)
theorem dX0_thief_121 : decode cX0_thief 121 = .ok (.iinc 10 1, 3) := dk_132 10 1 (dk_at dksX0_thief_5 4 rfl rfl)
theorem dX0_thief_124 : decode cX0_thief 124 = .ok (.goto (-66), 3) := dk_167 255 190 (dk_at dksX0_thief_5 7 rfl rfl)
theorem dX0_thief_127 : decode cX0_thief 127 = .ok (.aload_n 0, 1) := dk_42 (dk_at dksX0_thief_5 10 rfl rfl)
theorem dX0_thief_128 : decode cX0_thief 128 = .ok (.invokevirtual 104, 3) := dk_182 0 104 (dk_at dksX0_thief_5 11 rfl rfl)
theorem dX0_thief_131 : decode cX0_thief 131 = .ok (.iload_n 2, 1) := dk_28 (dk_at dksX0_thief_5 14 rfl rfl)
theorem dX0_thief_132 : decode cX0_thief 132 = .ok (.iload_n 1, 1) := dk_27 (dk_at dksX0_thief_5 15 rfl rfl)
theorem dX0_thief_133 : decode cX0_thief 133 = .ok (.invokevirtual 187, 3) := dk_182 0 187 (dk_at dksX0_thief_5 16 rfl rfl)
theorem dX0_thief_136 : decode cX0_thief 136 = .ok (.istore 10, 2) := dk_54 10 (dk_at dksX0_thief_5 19 rfl rfl)
theorem dX0_thief_138 : decode cX0_thief 138 = .ok (.aload_n 0, 1) := dk_42 (dk_at dksX0_thief_5 21 rfl rfl)
theorem dX0_thief_139 : decode cX0_thief 139 = .ok (.invokevirtual 104, 3) := dk_182 0 104 (dk_at dksX0_thief_6 0 rfl rfl)
theorem dX0_thief_142 : decode cX0_thief 142 = .ok (.iload_n 1, 1) := dk_27 (dk_at dksX0_thief_6 3 rfl rfl)
theorem dX0_thief_143 : decode cX0_thief 143 = .ok (.iload_n 2, 1) := dk_28 (dk_at dksX0_thief_6 4 rfl rfl)
theorem dX0_thief_144 : decode cX0_thief 144 = .ok (.invokevirtual 187, 3) := dk_182 0 187 (dk_at dksX0_thief_6 5 rfl rfl)
theorem dX0_thief_147 : decode cX0_thief 147 = .ok (.istore 11, 2) := dk_54 11 (dk_at dksX0_thief_6 8 rfl rfl)
theorem dX0_thief_149 : decode cX0_thief 149 = .ok (.iconst 0, 1) := dk_3 (dk_at dksX0_thief_6 10 rfl rfl)
theorem dX0_thief_150 : decode cX0_thief 150 = .ok (.istore 12, 2) := dk_54 12 (dk_at dksX0_thief_6 11 rfl rfl)
theorem dX0_thief_152 : decode cX0_thief 152 = .ok (.iload 12, 2) := dk_21 12 (dk_at dksX0_thief_6 13 rfl rfl)
theorem dX0_thief_154 : decode cX0_thief 154 = .ok (.iconst 1, 1) := dk_4 (dk_at dksX0_thief_6 15 rfl rfl)
theorem dX0_thief_155 : decode cX0_thief 155 = .ok (.iload 5, 2) := dk_21 5 (dk_at dksX0_thief_6 16 rfl rfl)
theorem dX0_thief_157 : decode cX0_thief 157 = .ok (.ishl, 1) := dk_120 (dk_at dksX0_thief_6 18 rfl rfl)
theorem dX0_thief_158 : decode cX0_thief 158 = .ok (.if_icmp .ge 171, 3) := dk_162 0 171 (dk_at dksX0_thief_6 19 rfl rfl)
theorem dX0_thief_161 : decode cX0_thief 161 = .ok (.iload 12, 2) := dk_21 12 (dk_at dksX0_thief_6 22 rfl rfl)
theorem dX0_thief_163 : decode cX0_thief 163 = .ok (.iload 6, 2) := dk_21 6 (dk_at dksX0_thief_7 0 rfl rfl)
theorem dX0_thief_165 : decode cX0_thief 165 = .ok (.iconst (-1), 1) := dk_2 (dk_at dksX0_thief_7 2 rfl rfl)
theorem dX0_thief_166 : decode cX0_thief 166 = .ok (.ixor, 1) := dk_130 (dk_at dksX0_thief_7 3 rfl rfl)
theorem dX0_thief_167 : decode cX0_thief 167 = .ok (.iand, 1) := dk_126 (dk_at dksX0_thief_7 4 rfl rfl)
theorem dX0_thief_168 : decode cX0_thief 168 = .ok (.ifCond .eq 6, 3) := dk_153 0 6 (dk_at dksX0_thief_7 5 rfl rfl)
theorem dX0_thief_171 : decode cX0_thief 171 = .ok (.goto 152, 3) := dk_167 0 152 (dk_at dksX0_thief_7 8 rfl rfl)
theorem dX0_thief_174 : decode cX0_thief 174 = .ok (.iconst 0, 1) := dk_3 (dk_at dksX0_thief_7 11 rfl rfl)
theorem dX0_thief_175 : decode cX0_thief 175 = .ok (.istore 13, 2) := dk_54 13 (dk_at dksX0_thief_7 12 rfl rfl)
theorem dX0_thief_177 : decode cX0_thief 177 = .ok (.iconst 0, 1) := dk_3 (dk_at dksX0_thief_7 14 rfl rfl)
theorem dX0_thief_178 : decode cX0_thief 178 = .ok (.istore 14, 2) := dk_54 14 (dk_at dksX0_thief_7 15 rfl rfl)
theorem dX0_thief_180 : decode cX0_thief 180 = .ok (.iconst 0, 1) := dk_3 (dk_at dksX0_thief_7 17 rfl rfl)
theorem dX0_thief_181 : decode cX0_thief 181 = .ok (.istore 15, 2) := dk_54 15 (dk_at dksX0_thief_7 18 rfl rfl)
theorem dX0_thief_183 : decode cX0_thief 183 = .ok (.iload 15, 2) := dk_21 15 (dk_at dksX0_thief_7 20 rfl rfl)
theorem dX0_thief_185 : decode cX0_thief 185 = .ok (.iload 5, 2) := dk_21 5 (dk_at dksX0_thief_7 22 rfl rfl)
theorem dX0_thief_187 : decode cX0_thief 187 = .ok (.if_icmp .ge 62, 3) := dk_162 0 62 (dk_at dksX0_thief_8 0 rfl rfl)
theorem dX0_thief_190 : decode cX0_thief 190 = .ok (.iload 13, 2) := dk_21 13 (dk_at dksX0_thief_8 3 rfl rfl)
theorem dX0_thief_192 : decode cX0_thief 192 = .ok (.iload 12, 2) := dk_21 12 (dk_at dksX0_thief_8 5 rfl rfl)
theorem dX0_thief_194 : decode cX0_thief 194 = .ok (.iload 15, 2) := dk_21 15 (dk_at dksX0_thief_8 7 rfl rfl)
theorem dX0_thief_196 : decode cX0_thief 196 = .ok (.invokestatic 399, 3) := dk_184 1 143 (dk_at dksX0_thief_8 9 rfl rfl)
theorem dX0_thief_199 : decode cX0_thief 199 = .ok (.ifCond .eq 11, 3) := dk_153 0 11 (dk_at dksX0_thief_8 12 rfl rfl)
theorem dX0_thief_202 : decode cX0_thief 202 = .ok (.aload 9, 2) := dk_25 9 (dk_at dksX0_thief_8 15 rfl rfl)
theorem dX0_thief_204 : decode cX0_thief 204 = .ok (.iload 15, 2) := dk_21 15 (dk_at dksX0_thief_8 17 rfl rfl)
theorem dX0_thief_206 : decode cX0_thief 206 = .ok (.iaload, 1) := dk_46 (dk_at dksX0_thief_8 19 rfl rfl)
theorem dX0_thief_207 : decode cX0_thief 207 = .ok (.goto 4, 3) := dk_167 0 4 (dk_at dksX0_thief_8 20 rfl rfl)
theorem dX0_thief_210 : decode cX0_thief 210 = .ok (.iconst 0, 1) := dk_3 (dk_at dksX0_thief_8 23 rfl rfl)
theorem dX0_thief_211 : decode cX0_thief 211 = .ok (.iadd, 1) := dk_96 (dk_at dksX0_thief_9 0 rfl rfl)
theorem dX0_thief_212 : decode cX0_thief 212 = .ok (.istore 13, 2) := dk_54 13 (dk_at dksX0_thief_9 1 rfl rfl)
theorem dX0_thief_214 : decode cX0_thief 214 = .ok (.iload 14, 2) := dk_21 14 (dk_at dksX0_thief_9 3 rfl rfl)
theorem dX0_thief_216 : decode cX0_thief 216 = .ok (.iload 12, 2) := dk_21 12 (dk_at dksX0_thief_9 5 rfl rfl)
theorem dX0_thief_218 : decode cX0_thief 218 = .ok (.iload 15, 2) := dk_21 15 (dk_at dksX0_thief_9 7 rfl rfl)
theorem dX0_thief_220 : decode cX0_thief 220 = .ok (.invokestatic 399, 3) := dk_184 1 143 (dk_at dksX0_thief_9 9 rfl rfl)
theorem dX0_thief_223 : decode cX0_thief 223 = .ok (.ifCond .eq 16, 3) := dk_153 0 16 (dk_at dksX0_thief_9 12 rfl rfl)
theorem dX0_thief_226 : decode cX0_thief 226 = .ok (.aload_n 0, 1) := dk_42 (dk_at dksX0_thief_9 15 rfl rfl)
theorem dX0_thief_227 : decode cX0_thief 227 = .ok (.invokevirtual 104, 3) := dk_182 0 104 (dk_at dksX0_thief_9 16 rfl rfl)
theorem dX0_thief_230 : decode cX0_thief 230 = .ok (.getfield 171, 3) := dk_180 0 171 (dk_at dksX0_thief_9 19 rfl rfl)
theorem dX0_thief_233 : decode cX0_thief 233 = .ok (.iload 15, 2) := dk_21 15 (dk_at dksX0_thief_9 22 rfl rfl)
theorem dX0_thief_235 : decode cX0_thief 235 = .ok (.iaload, 1) := dk_46 (dk_at dksX0_thief_10 0 rfl rfl)
theorem dX0_thief_236 : decode cX0_thief 236 = .ok (.goto 4, 3) := dk_167 0 4 (dk_at dksX0_thief_10 1 rfl rfl)
theorem dX0_thief_239 : decode cX0_thief 239 = .ok (.iconst 0, 1) := dk_3 (dk_at dksX0_thief_10 4 rfl rfl)
theorem dX0_thief_240 : decode cX0_thief 240 = .ok (.iadd, 1) := dk_96 (dk_at dksX0_thief_10 5 rfl rfl)
theorem dX0_thief_241 : decode cX0_thief 241 = .ok (.istore 14, 2) := dk_54 14 (dk_at dksX0_thief_10 6 rfl rfl)
theorem dX0_thief_243 : decode cX0_thief 243 = .ok (.iinc 15 1, 3) := dk_132 15 1 (dk_at dksX0_thief_10 8 rfl rfl)
theorem dX0_thief_246 : decode cX0_thief 246 = .ok (.goto (-63), 3) := dk_167 255 193 (dk_at dksX0_thief_10 11 rfl rfl)
theorem dX0_thief_249 : decode cX0_thief 249 = .ok (.iload 13, 2) := dk_21 13 (dk_at dksX0_thief_10 14 rfl rfl)
theorem dX0_thief_251 : decode cX0_thief 251 = .ok (.iload 7, 2) := dk_21 7 (dk_at dksX0_thief_10 16 rfl rfl)
theorem dX0_thief_253 : decode cX0_thief 253 = .ok (.if_icmp .lt 23, 3) := dk_161 0 23 (dk_at dksX0_thief_10 18 rfl rfl)
theorem dX0_thief_256 : decode cX0_thief 256 = .ok (.iload 13, 2) := dk_21 13 (dk_at dksX0_thief_10 21 rfl rfl)
theorem dX0_thief_258 : decode cX0_thief 258 = .ok (.iload 7, 2) := dk_21 7 (dk_at dksX0_thief_11 0 rfl rfl)
theorem dX0_thief_260 : decode cX0_thief 260 = .ok (.if_icmp .ne 20, 3) := dk_160 0 20 (dk_at dksX0_thief_11 2 rfl rfl)
theorem dX0_thief_263 : decode cX0_thief 263 = .ok (.iload 12, 2) := dk_21 12 (dk_at dksX0_thief_11 5 rfl rfl)
theorem dX0_thief_265 : decode cX0_thief 265 = .ok (.invokestatic 401, 3) := dk_184 1 145 (dk_at dksX0_thief_11 7 rfl rfl)
theorem dX0_thief_268 : decode cX0_thief 268 = .ok (.iload 8, 2) := dk_21 8 (dk_at dksX0_thief_11 10 rfl rfl)
theorem dX0_thief_270 : decode cX0_thief 270 = .ok (.invokestatic 401, 3) := dk_184 1 145 (dk_at dksX0_thief_11 12 rfl rfl)
theorem dX0_thief_273 : decode cX0_thief 273 = .ok (.if_icmp .ge 7, 3) := dk_162 0 7 (dk_at dksX0_thief_11 15 rfl rfl)
theorem dX0_thief_276 : decode cX0_thief 276 = .ok (.iconst 1, 1) := dk_4 (dk_at dksX0_thief_11 18 rfl rfl)
theorem dX0_thief_277 : decode cX0_thief 277 = .ok (.goto 4, 3) := dk_167 0 4 (dk_at dksX0_thief_11 19 rfl rfl)
theorem dX0_thief_280 : decode cX0_thief 280 = .ok (.iconst 0, 1) := dk_3 (dk_at dksX0_thief_11 22 rfl rfl)
theorem dX0_thief_281 : decode cX0_thief 281 = .ok (.istore 15, 2) := dk_54 15 (dk_at dksX0_thief_12 0 rfl rfl)
theorem dX0_thief_283 : decode cX0_thief 283 = .ok (.iload 15, 2) := dk_21 15 (dk_at dksX0_thief_12 2 rfl rfl)
theorem dX0_thief_285 : decode cX0_thief 285 = .ok (.ifCond .eq 38, 3) := dk_153 0 38 (dk_at dksX0_thief_12 4 rfl rfl)
theorem dX0_thief_288 : decode cX0_thief 288 = .ok (.aload_n 0, 1) := dk_42 (dk_at dksX0_thief_12 7 rfl rfl)
theorem dX0_thief_289 : decode cX0_thief 289 = .ok (.iload_n 2, 1) := dk_28 (dk_at dksX0_thief_12 8 rfl rfl)
theorem dX0_thief_290 : decode cX0_thief 290 = .ok (.iload_n 1, 1) := dk_27 (dk_at dksX0_thief_12 9 rfl rfl)
theorem dX0_thief_291 : decode cX0_thief 291 = .ok (.iload 10, 2) := dk_21 10 (dk_at dksX0_thief_12 10 rfl rfl)
theorem dX0_thief_293 : decode cX0_thief 293 = .ok (.iload 14, 2) := dk_21 14 (dk_at dksX0_thief_12 12 rfl rfl)
theorem dX0_thief_295 : decode cX0_thief 295 = .ok (.iadd, 1) := dk_96 (dk_at dksX0_thief_12 14 rfl rfl)
theorem dX0_thief_296 : decode cX0_thief 296 = .ok (.iload 11, 2) := dk_21 11 (dk_at dksX0_thief_12 15 rfl rfl)
theorem dX0_thief_298 : decode cX0_thief 298 = .ok (.aload_n 0, 1) := dk_42 (dk_at dksX0_thief_12 17 rfl rfl)
theorem dX0_thief_299 : decode cX0_thief 299 = .ok (.invokevirtual 104, 3) := dk_182 0 104 (dk_at dksX0_thief_12 18 rfl rfl)
theorem dX0_thief_302 : decode cX0_thief 302 = .ok (.getfield 194, 3) := dk_180 0 194 (dk_at dksX0_thief_12 21 rfl rfl)
theorem dX0_thief_305 : decode cX0_thief 305 = .ok (.invokevirtual 273, 3) := dk_182 1 17 (dk_at dksX0_thief_13 0 rfl rfl)
theorem dX0_thief_308 : decode cX0_thief 308 = .ok (.iload_n 3, 1) := dk_29 (dk_at dksX0_thief_13 3 rfl rfl)
theorem dX0_thief_309 : decode cX0_thief 309 = .ok (.if_icmp .ge 6, 3) := dk_162 0 6 (dk_at dksX0_thief_13 4 rfl rfl)
theorem dX0_thief_312 : decode cX0_thief 312 = .ok (.goto 11, 3) := dk_167 0 11 (dk_at dksX0_thief_13 7 rfl rfl)
theorem dX0_thief_315 : decode cX0_thief 315 = .ok (.iload 13, 2) := dk_21 13 (dk_at dksX0_thief_13 10 rfl rfl)
theorem dX0_thief_317 : decode cX0_thief 317 = .ok (.istore 7, 2) := dk_54 7 (dk_at dksX0_thief_13 12 rfl rfl)
theorem dX0_thief_319 : decode cX0_thief 319 = .ok (.iload 12, 2) := dk_21 12 (dk_at dksX0_thief_13 14 rfl rfl)
theorem dX0_thief_321 : decode cX0_thief 321 = .ok (.istore 8, 2) := dk_54 8 (dk_at dksX0_thief_13 16 rfl rfl)
theorem dX0_thief_323 : decode cX0_thief 323 = .ok (.iinc 12 1, 3) := dk_132 12 1 (dk_at dksX0_thief_13 18 rfl rfl)
theorem dX0_thief_326 : decode cX0_thief 326 = .ok (.goto (-174), 3) := dk_167 255 82 (dk_at dksX0_thief_13 21 rfl rfl)
theorem dX0_thief_329 : decode cX0_thief 329 = .ok (.iload 8, 2) := dk_21 8 (dk_at dksX0_thief_14 0 rfl rfl)
theorem dX0_thief_331 : decode cX0_thief 331 = .ok (.iconst (-1), 1) := dk_2 (dk_at dksX0_thief_14 2 rfl rfl)
theorem dX0_thief_332 : decode cX0_thief 332 = .ok (.if_icmp .ne 7, 3) := dk_160 0 7 (dk_at dksX0_thief_14 3 rfl rfl)
theorem dX0_thief_335 : decode cX0_thief 335 = .ok (.iconst (-1), 1) := dk_2 (dk_at dksX0_thief_14 6 rfl rfl)
theorem dX0_thief_336 : decode cX0_thief 336 = .ok (.goto 15, 3) := dk_167 0 15 (dk_at dksX0_thief_14 7 rfl rfl)
theorem dX0_thief_339 : decode cX0_thief 339 = .ok (.iload 4, 2) := dk_21 4 (dk_at dksX0_thief_14 10 rfl rfl)
theorem dX0_thief_341 : decode cX0_thief 341 = .ok (.ifCond .ne 8, 3) := dk_154 0 8 (dk_at dksX0_thief_14 12 rfl rfl)
theorem dX0_thief_344 : decode cX0_thief 344 = .ok (.iload 7, 2) := dk_21 7 (dk_at dksX0_thief_14 15 rfl rfl)
theorem dX0_thief_346 : decode cX0_thief 346 = .ok (.goto 5, 3) := dk_167 0 5 (dk_at dksX0_thief_14 17 rfl rfl)
theorem dX0_thief_349 : decode cX0_thief 349 = .ok (.iload 8, 2) := dk_21 8 (dk_at dksX0_thief_14 20 rfl rfl)
theorem dX0_thief_351 : decode cX0_thief 351 = .ok (.ireturn, 1) := dk_172 (dk_at dksX0_thief_14 22 rfl rfl)
noncomputable def f_X0_thief_27 (E : ax_E) (h : ax_H) : Option (Int × ax_H) :=
  some ((-1), h)
noncomputable def f_X0_thief_118 (E : ax_E) (x0 : Option Nat) (x1 : Int) (x2 : Int) (x3 : Int) (x4 : Int) (x5 : Int) (x7 : Int) (x8 : Int) (x9 : Option Nat) (x10 : Int) (s0 : Int) (s1 : Int) (h : ax_H) : Option ((Int × Int × ax_H) ⊕ (Int × ax_H)) :=
  some (.inl ((ax_or s0 s1), (x10 + 1), h))
noncomputable def f_X0_thief_117 (E : ax_E) (x0 : Option Nat) (x1 : Int) (x2 : Int) (x3 : Int) (x4 : Int) (x5 : Int) (x7 : Int) (x8 : Int) (x9 : Option Nat) (x10 : Int) (s0 : Int) (h : ax_H) : Option ((Int × Int × ax_H) ⊕ (Int × ax_H)) :=
  f_X0_thief_118 E x0 x1 x2 x3 x4 x5 x7 x8 x9 x10 s0 0 h
noncomputable def f_X0_thief_323 (E : ax_E) (x0 : Option Nat) (x1 : Int) (x2 : Int) (x3 : Int) (x4 : Int) (x5 : Int) (x6 : Int) (x7 : Int) (x8 : Int) (x9 : Option Nat) (x10 : Int) (x11 : Int) (x12 : Int) (h : ax_H) : Option ((Int × Int × Int × ax_H) ⊕ (Int × ax_H)) :=
  some (.inl (x7, x8, (x12 + 1), h))
noncomputable def f_X0_thief_240 (E : ax_E) (x0 : Option Nat) (x1 : Int) (x2 : Int) (x3 : Int) (x4 : Int) (x5 : Int) (x6 : Int) (x7 : Int) (x8 : Int) (x9 : Option Nat) (x10 : Int) (x11 : Int) (x12 : Int) (x13 : Int) (x15 : Int) (s0 : Int) (s1 : Int) (h : ax_H) : Option ((Int × Int × Int × ax_H) ⊕ ((Int × Int × Int × ax_H) ⊕ (Int × ax_H))) :=
  some (.inl (x13, (s0 + s1), (x15 + 1), h))
noncomputable def f_X0_thief_211 (E : ax_E) (x0 : Option Nat) (x1 : Int) (x2 : Int) (x3 : Int) (x4 : Int) (x5 : Int) (x6 : Int) (x7 : Int) (x8 : Int) (x9 : Option Nat) (x10 : Int) (x11 : Int) (x12 : Int) (x14 : Int) (x15 : Int) (s0 : Int) (s1 : Int) (h : ax_H) : Option ((Int × Int × Int × ax_H) ⊕ ((Int × Int × Int × ax_H) ⊕ (Int × ax_H))) :=
  (f_X0_has E x12 x15 h).bind fun q1 =>
  if i2 q1.1 = 0 then
    f_X0_thief_240 E x0 x1 x2 x3 x4 x5 x6 x7 x8 x9 x10 x11 x12 (s0 + s1) x15 x14 0 q1.2
  else
    (ax_ce E q1.2 x0 0).bind fun _ => (f_X0_books E x0 q1.2).bind fun q2 =>
    (ax_gR E q2.2 q2.1 2 3).bind fun v3 =>
    (ax_ld E q2.2 v3 100 x15).bind fun v4 =>
    f_X0_thief_240 E x0 x1 x2 x3 x4 x5 x6 x7 x8 x9 x10 x11 x12 (s0 + s1) x15 x14 v4 q2.2
noncomputable def f_X0_thief_281 (E : ax_E) (x0 : Option Nat) (x1 : Int) (x2 : Int) (x3 : Int) (x4 : Int) (x5 : Int) (x6 : Int) (x7 : Int) (x8 : Int) (x9 : Option Nat) (x10 : Int) (x11 : Int) (x12 : Int) (x13 : Int) (x14 : Int) (s0 : Int) (h : ax_H) : Option ((Int × Int × Int × ax_H) ⊕ (Int × ax_H)) :=
  if i2 s0 = 0 then
    f_X0_thief_323 E x0 x1 x2 x3 x4 x5 x6 x7 x8 x9 x10 x11 x12 h
  else
    (ax_ce E h x0 0).bind fun _ => (f_X0_books E x0 h).bind fun q1 =>
    (ax_gI E q1.2 q1.1 2 6).bind fun v2 =>
    (ax_ce E q1.2 x0 0).bind fun _ => (f_X0_deepBy E x0 x2 x1 (x10 + x14) x11 v2 q1.2).bind fun q3 =>
    if i2 q3.1 < i2 x3 then
      f_X0_thief_323 E x0 x1 x2 x3 x4 x5 x6 x7 x8 x9 x10 x11 x12 q3.2
    else
      f_X0_thief_323 E x0 x1 x2 x3 x4 x5 x6 x13 x12 x9 x10 x11 x12 q3.2
noncomputable def f_X0_thief_276 (E : ax_E) (x0 : Option Nat) (x1 : Int) (x2 : Int) (x3 : Int) (x4 : Int) (x5 : Int) (x6 : Int) (x7 : Int) (x8 : Int) (x9 : Option Nat) (x10 : Int) (x11 : Int) (x12 : Int) (x13 : Int) (x14 : Int) (h : ax_H) : Option ((Int × Int × Int × ax_H) ⊕ (Int × ax_H)) :=
  f_X0_thief_281 E x0 x1 x2 x3 x4 x5 x6 x7 x8 x9 x10 x11 x12 x13 x14 1 h
noncomputable def f_X0_thief_280 (E : ax_E) (x0 : Option Nat) (x1 : Int) (x2 : Int) (x3 : Int) (x4 : Int) (x5 : Int) (x6 : Int) (x7 : Int) (x8 : Int) (x9 : Option Nat) (x10 : Int) (x11 : Int) (x12 : Int) (x13 : Int) (x14 : Int) (h : ax_H) : Option ((Int × Int × Int × ax_H) ⊕ (Int × ax_H)) :=
  f_X0_thief_281 E x0 x1 x2 x3 x4 x5 x6 x7 x8 x9 x10 x11 x12 x13 x14 0 h
noncomputable def lb_X0_thief_183 (E : ax_E) (x0 : Option Nat) (x1 : Int) (x2 : Int) (x3 : Int) (x4 : Int) (x5 : Int) (x6 : Int) (x7 : Int) (x8 : Int) (x9 : Option Nat) (x10 : Int) (x11 : Int) (x12 : Int) (x13 : Int) (x14 : Int) (x15 : Int) (h : ax_H) : Option ((Int × Int × Int × ax_H) ⊕ ((Int × Int × Int × ax_H) ⊕ (Int × ax_H))) :=
  if i2 x15 < i2 x5 then
    (f_X0_has E x12 x15 h).bind fun q1 =>
    if i2 q1.1 = 0 then
      f_X0_thief_211 E x0 x1 x2 x3 x4 x5 x6 x7 x8 x9 x10 x11 x12 x14 x15 x13 0 q1.2
    else
      (ax_ld E q1.2 x9 100 x15).bind fun v2 =>
      f_X0_thief_211 E x0 x1 x2 x3 x4 x5 x6 x7 x8 x9 x10 x11 x12 x14 x15 x13 v2 q1.2
  else
    (if i2 x13 < i2 x7 then
      f_X0_thief_276 E x0 x1 x2 x3 x4 x5 x6 x7 x8 x9 x10 x11 x12 x13 x14 h
    else
      if i2 x13 = i2 x7 then
        (f_J16_bitCount E x12 h).bind fun q3 =>
        (f_J16_bitCount E x8 q3.2).bind fun q4 =>
        if i2 q3.1 < i2 q4.1 then
          f_X0_thief_276 E x0 x1 x2 x3 x4 x5 x6 x7 x8 x9 x10 x11 x12 x13 x14 q4.2
        else
          f_X0_thief_280 E x0 x1 x2 x3 x4 x5 x6 x7 x8 x9 x10 x11 x12 x13 x14 q4.2
      else
        f_X0_thief_280 E x0 x1 x2 x3 x4 x5 x6 x7 x8 x9 x10 x11 x12 x13 x14 h).map Sum.inr
noncomputable def f_X0_thief_183 (E : ax_E) (x0 : Option Nat) (x1 : Int) (x2 : Int) (x3 : Int) (x4 : Int) (x5 : Int) (x6 : Int) (x7 : Int) (x8 : Int) (x9 : Option Nat) (x10 : Int) (x11 : Int) (x12 : Int) (x13 : Int) (x14 : Int) (x15 : Int) (h : ax_H) : Option ((Int × Int × Int × ax_H) ⊕ (Int × ax_H)) :=
  ax_iter (fun s : Int × Int × Int × ax_H => lb_X0_thief_183 E x0 x1 x2 x3 x4 x5 x6 x7 x8 x9 x10 x11 x12 s.1 s.2.1 s.2.2.1 s.2.2.2) (x13, x14, x15, h)
noncomputable def lb_X0_thief_152 (E : ax_E) (x0 : Option Nat) (x1 : Int) (x2 : Int) (x3 : Int) (x4 : Int) (x5 : Int) (x6 : Int) (x7 : Int) (x8 : Int) (x9 : Option Nat) (x10 : Int) (x11 : Int) (x12 : Int) (h : ax_H) : Option ((Int × Int × Int × ax_H) ⊕ (Int × ax_H)) :=
  if i2 x12 < i2 (ax_shl 1 x5) then
    if i2 (ax_and x12 (ax_xor x6 (-1))) = 0 then
      f_X0_thief_183 E x0 x1 x2 x3 x4 x5 x6 x7 x8 x9 x10 x11 x12 0 0 0 h
    else
      f_X0_thief_323 E x0 x1 x2 x3 x4 x5 x6 x7 x8 x9 x10 x11 x12 h
  else
    (if i2 x8 = i2 (-1) then
      some ((-1), h)
    else
      if i2 x4 = 0 then
        some (x7, h)
      else
        some (x8, h)).map Sum.inr
noncomputable def f_X0_thief_152 (E : ax_E) (x0 : Option Nat) (x1 : Int) (x2 : Int) (x3 : Int) (x4 : Int) (x5 : Int) (x6 : Int) (x7 : Int) (x8 : Int) (x9 : Option Nat) (x10 : Int) (x11 : Int) (x12 : Int) (h : ax_H) : Option (Int × ax_H) :=
  ax_iter (fun s : Int × Int × Int × ax_H => lb_X0_thief_152 E x0 x1 x2 x3 x4 x5 x6 s.1 s.2.1 x9 x10 x11 s.2.2.1 s.2.2.2) (x7, x8, x12, h)
noncomputable def lb_X0_thief_58 (E : ax_E) (x0 : Option Nat) (x1 : Int) (x2 : Int) (x3 : Int) (x4 : Int) (x5 : Int) (x6 : Int) (x7 : Int) (x8 : Int) (x9 : Option Nat) (x10 : Int) (h : ax_H) : Option ((Int × Int × ax_H) ⊕ (Int × ax_H)) :=
  if i2 x10 < i2 x5 then
    (ax_ce E h x0 0).bind fun _ => (f_X0_books E x0 h).bind fun q1 =>
    (ax_ce E q1.2 x0 0).bind fun _ => (f_X0_soldFor E x0 q1.1 x10 q1.2).bind fun q2 =>
    (ax_sto q2.2 x9 100 x10 q2.1).bind fun h3 =>
    (ax_ce E h3 x0 0).bind fun _ => (f_X0_books E x0 h3).bind fun q4 =>
    (ax_gR E q4.2 q4.1 2 1).bind fun v5 =>
    (ax_ld E q4.2 v5 100 x10).bind fun v6 =>
    if i2 v6 = i2 x2 then
      (ax_ce E q4.2 x0 0).bind fun _ => (f_X0_books E x0 q4.2).bind fun q7 =>
      (ax_gR E q7.2 q7.1 2 2).bind fun v8 =>
      (ax_ld E q7.2 v8 100 x10).bind fun v9 =>
      if i2 v9 = i2 x1 then
        f_X0_thief_117 E x0 x1 x2 x3 x4 x5 x7 x8 x9 x10 x6 q7.2
      else
        f_X0_thief_118 E x0 x1 x2 x3 x4 x5 x7 x8 x9 x10 x6 (ax_shl 1 x10) q7.2
    else
      f_X0_thief_117 E x0 x1 x2 x3 x4 x5 x7 x8 x9 x10 x6 q4.2
  else
    ((ax_ce E h x0 0).bind fun _ => (f_X0_books E x0 h).bind fun q10 =>
    (ax_ce E q10.2 q10.1 2).bind fun _ => (f_X2_owes E q10.1 x2 x1 q10.2).bind fun q11 =>
    (ax_ce E q11.2 x0 0).bind fun _ => (f_X0_books E x0 q11.2).bind fun q12 =>
    (ax_ce E q12.2 q12.1 2).bind fun _ => (f_X2_owes E q12.1 x1 x2 q12.2).bind fun q13 =>
    f_X0_thief_152 E x0 x1 x2 x3 x4 x5 x6 x7 x8 x9 q11.1 q13.1 0 q13.2).map Sum.inr
noncomputable def f_X0_thief_58 (E : ax_E) (x0 : Option Nat) (x1 : Int) (x2 : Int) (x3 : Int) (x4 : Int) (x5 : Int) (x6 : Int) (x7 : Int) (x8 : Int) (x9 : Option Nat) (x10 : Int) (h : ax_H) : Option (Int × ax_H) :=
  ax_iter (fun s : Int × Int × ax_H => lb_X0_thief_58 E x0 x1 x2 x3 x4 x5 s.1 x7 x8 x9 s.2.1 s.2.2) (x6, x10, h)
noncomputable def f_X0_thief (E : ax_E) (x0 : Option Nat) (x1 : Int) (x2 : Int) (x3 : Int) (x4 : Int) (h : ax_H) : Option (Int × ax_H) :=
  (ax_ce E h x0 0).bind fun _ => (f_X0_areTwo E x0 x1 x2 h).bind fun q1 =>
  if i2 q1.1 = 0 then
    f_X0_thief_27 E q1.2
  else
    (f_X0_isRoom E x3 q1.2).bind fun q2 =>
    if i2 q2.1 = 0 then
      f_X0_thief_27 E q2.2
    else
      (f_X0_in E (i2 x4) 0 1 q2.2).bind fun q3 =>
      if i2 q3.1 = 0 then
        f_X0_thief_27 E q3.2
      else
        (ax_ce E q3.2 x0 0).bind fun _ => (f_X0_books E x0 q3.2).bind fun q4 =>
        (ax_gI E q4.2 q4.1 2 5).bind fun v5 =>
        (ax_na E q4.2 100 16).bind fun q6 =>
        f_X0_thief_58 E x0 x1 x2 x3 x4 v5 0 100000000 (-1) (some q6.1) 0 q6.2
def pi_X0_thief_183 (G : ax_G) (X : ax_X) (Q : State → Prop) (x0 : Option Nat) (x1 : Int) (x2 : Int) (x3 : Int) (x4 : Int) (x5 : Int) (x6 : Int) (x7 : Int) (x8 : Int) (x9 : Option Nat) (x10 : Int) (x11 : Int) (x12 : Int) : Int × Int × Int × ax_H → Prop := fun s => ∀ ls : Array Slot, ax_hl ls 16 [(0, .inr (.inr x0)), (1, .inl x1), (2, .inl x2), (3, .inl x3), (4, .inl x4), (5, .inl x5), (6, .inl x6), (7, .inl x7), (8, .inl x8), (9, .inr (.inr x9)), (10, .inl x10), (11, .inl x11), (12, .inl x12), (13, .inl s.1), (14, .inl s.2.1), (15, .inl s.2.2.1)] → ax_W G X Q s.2.2.2 183 ls []
def pi_X0_thief_152 (G : ax_G) (X : ax_X) (Q : State → Prop) (x0 : Option Nat) (x1 : Int) (x2 : Int) (x3 : Int) (x4 : Int) (x5 : Int) (x6 : Int) (x9 : Option Nat) (x10 : Int) (x11 : Int) : Int × Int × Int × ax_H → Prop := fun s => ∀ ls : Array Slot, ax_hl ls 16 [(0, .inr (.inr x0)), (1, .inl x1), (2, .inl x2), (3, .inl x3), (4, .inl x4), (5, .inl x5), (6, .inl x6), (7, .inl s.1), (8, .inl s.2.1), (9, .inr (.inr x9)), (10, .inl x10), (11, .inl x11), (12, .inl s.2.2.1)] → ax_W G X Q s.2.2.2 152 ls []
def pi_X0_thief_58 (G : ax_G) (X : ax_X) (Q : State → Prop) (x0 : Option Nat) (x1 : Int) (x2 : Int) (x3 : Int) (x4 : Int) (x5 : Int) (x7 : Int) (x8 : Int) (x9 : Option Nat) : Int × Int × ax_H → Prop := fun s => ∀ ls : Array Slot, ax_hl ls 16 [(0, .inr (.inr x0)), (1, .inl x1), (2, .inl x2), (3, .inl x3), (4, .inl x4), (5, .inl x5), (6, .inl s.1), (7, .inl x7), (8, .inl x8), (9, .inr (.inr x9)), (10, .inl s.2.1)] → ax_W G X Q s.2.2 58 ls []
set_option maxHeartbeats 4000000 in
theorem w_X0_thief_27 {l : Launch} {G : ax_G} {X : ax_X} {Q : State → Prop} {h0 h : ax_H} {ls : Array Slot} (hSF : ax_SF G) (B : ax_BL l G X cX0_thief 16 RX0 140 3567) (Z : ax_Z X h0 ((some FieldType.int))) (hn : X.2.2.2.2.2.2.2.2.1.name = yX0_thief.name) {w : Int × ax_H} (hl : ax_hl ls 16 []) (e : f_X0_thief_27 G.2.2 h = some w) (hp : (fun w : Int × ax_H => Q = ax_Q G X h0 w.2 (some (.int (Int32.ofInt w.1)))) w) : ax_W G X Q h 27 ls [] := by
  unfold f_X0_thief_27 at e
  refine ax_iconst B dX0_thief_27 ?_
  have e8 := e
  have hp : Q = _ := hp
  subst hp
  exact ax_ireturn B Z dX0_thief_28 e8
set_option maxHeartbeats 4000000 in
theorem w_X0_thief_118 {l : Launch} {G : ax_G} {X : ax_X} {Q : State → Prop} {h0 h : ax_H} {ls : Array Slot} (hSF : ax_SF G) (B : ax_BL l G X cX0_thief 16 RX0 140 3567) (Z : ax_Z X h0 ((some FieldType.int))) (hn : X.2.2.2.2.2.2.2.2.1.name = yX0_thief.name) (x0 : Option Nat) (x1 : Int) (x2 : Int) (x3 : Int) (x4 : Int) (x5 : Int) (x7 : Int) (x8 : Int) (x9 : Option Nat) (x10 : Int) (s0 : Int) (s1 : Int) {w : (Int × Int × ax_H) ⊕ (Int × ax_H)} (hl : ax_hl ls 16 [(0, .inr (.inr x0)), (1, .inl x1), (2, .inl x2), (3, .inl x3), (4, .inl x4), (5, .inl x5), (7, .inl x7), (8, .inl x8), (9, .inr (.inr x9)), (10, .inl x10)]) (e : f_X0_thief_118 G.2.2 x0 x1 x2 x3 x4 x5 x7 x8 x9 x10 s0 s1 h = some w) (hp : (ax_PL (pi_X0_thief_58 G X Q x0 x1 x2 x3 x4 x5 x7 x8 x9) (fun w : Int × ax_H => Q = ax_Q G X h0 w.2 (some (.int (Int32.ofInt w.1))))) w) : ax_W G X Q h 118 ls [.int (Int32.ofInt s1), .int (Int32.ofInt s0)] := by
  unfold f_X0_thief_118 at e
  refine ax_ior' B dX0_thief_118 ?_
  refine ax_istore (L' := [(6, .inl (ax_or s0 s1)), (0, .inr (.inr x0)), (1, .inl x1), (2, .inl x2), (3, .inl x3), (4, .inl x4), (5, .inl x5), (7, .inl x7), (8, .inl x8), (9, .inr (.inr x9)), (10, .inl x10)]) B dX0_thief_119 hl (by decide) rfl (fun ls hl => ?_)
  refine ax_iinc (L' := [(10, .inl (x10 + 1)), (6, .inl (ax_or s0 s1)), (0, .inr (.inr x0)), (1, .inl x1), (2, .inl x2), (3, .inl x3), (4, .inl x4), (5, .inl x5), (7, .inl x7), (8, .inl x8), (9, .inr (.inr x9))]) B dX0_thief_121 hl 10 rfl (by decide) rfl (fun ls hl => ?_)
  refine ax_goto (tgt := 58) B dX0_thief_124 (by decide) ?_
  cases e
  exact hp _ (hl.sub [2, 3, 4, 5, 6, 7, 1, 8, 9, 10, 0] rfl)
set_option maxHeartbeats 4000000 in
theorem w_X0_thief_117 {l : Launch} {G : ax_G} {X : ax_X} {Q : State → Prop} {h0 h : ax_H} {ls : Array Slot} (hSF : ax_SF G) (B : ax_BL l G X cX0_thief 16 RX0 140 3567) (Z : ax_Z X h0 ((some FieldType.int))) (hn : X.2.2.2.2.2.2.2.2.1.name = yX0_thief.name) (x0 : Option Nat) (x1 : Int) (x2 : Int) (x3 : Int) (x4 : Int) (x5 : Int) (x7 : Int) (x8 : Int) (x9 : Option Nat) (x10 : Int) (s0 : Int) {w : (Int × Int × ax_H) ⊕ (Int × ax_H)} (hl : ax_hl ls 16 [(0, .inr (.inr x0)), (1, .inl x1), (2, .inl x2), (3, .inl x3), (4, .inl x4), (5, .inl x5), (7, .inl x7), (8, .inl x8), (9, .inr (.inr x9)), (10, .inl x10)]) (e : f_X0_thief_117 G.2.2 x0 x1 x2 x3 x4 x5 x7 x8 x9 x10 s0 h = some w) (hp : (ax_PL (pi_X0_thief_58 G X Q x0 x1 x2 x3 x4 x5 x7 x8 x9) (fun w : Int × ax_H => Q = ax_Q G X h0 w.2 (some (.int (Int32.ofInt w.1))))) w) : ax_W G X Q h 117 ls [.int (Int32.ofInt s0)] := by
  unfold f_X0_thief_117 at e
  refine ax_iconst B dX0_thief_117 ?_
  exact w_X0_thief_118 hSF B Z hn x0 x1 x2 x3 x4 x5 x7 x8 x9 x10 s0 0 (hl.sub [0, 1, 2, 3, 4, 5, 6, 7, 8, 9] rfl) e hp
set_option maxHeartbeats 4000000 in
theorem w_X0_thief_323 {l : Launch} {G : ax_G} {X : ax_X} {Q : State → Prop} {h0 h : ax_H} {ls : Array Slot} (hSF : ax_SF G) (B : ax_BL l G X cX0_thief 16 RX0 140 3567) (Z : ax_Z X h0 ((some FieldType.int))) (hn : X.2.2.2.2.2.2.2.2.1.name = yX0_thief.name) (x0 : Option Nat) (x1 : Int) (x2 : Int) (x3 : Int) (x4 : Int) (x5 : Int) (x6 : Int) (x7 : Int) (x8 : Int) (x9 : Option Nat) (x10 : Int) (x11 : Int) (x12 : Int) {w : (Int × Int × Int × ax_H) ⊕ (Int × ax_H)} (hl : ax_hl ls 16 [(0, .inr (.inr x0)), (1, .inl x1), (2, .inl x2), (3, .inl x3), (4, .inl x4), (5, .inl x5), (6, .inl x6), (7, .inl x7), (8, .inl x8), (9, .inr (.inr x9)), (10, .inl x10), (11, .inl x11), (12, .inl x12)]) (e : f_X0_thief_323 G.2.2 x0 x1 x2 x3 x4 x5 x6 x7 x8 x9 x10 x11 x12 h = some w) (hp : (ax_PL (pi_X0_thief_152 G X Q x0 x1 x2 x3 x4 x5 x6 x9 x10 x11) (fun w : Int × ax_H => Q = ax_Q G X h0 w.2 (some (.int (Int32.ofInt w.1))))) w) : ax_W G X Q h 323 ls [] := by
  unfold f_X0_thief_323 at e
  refine ax_iinc (L' := [(12, .inl (x12 + 1)), (0, .inr (.inr x0)), (1, .inl x1), (2, .inl x2), (3, .inl x3), (4, .inl x4), (5, .inl x5), (6, .inl x6), (7, .inl x7), (8, .inl x8), (9, .inr (.inr x9)), (10, .inl x10), (11, .inl x11)]) B dX0_thief_323 hl 12 rfl (by decide) rfl (fun ls hl => ?_)
  refine ax_goto (tgt := 152) B dX0_thief_326 (by decide) ?_
  cases e
  exact hp _ (hl.sub [1, 2, 3, 4, 5, 6, 7, 8, 9, 10, 11, 12, 0] rfl)
set_option maxHeartbeats 4000000 in
theorem w_X0_thief_240 {l : Launch} {G : ax_G} {X : ax_X} {Q : State → Prop} {h0 h : ax_H} {ls : Array Slot} (hSF : ax_SF G) (B : ax_BL l G X cX0_thief 16 RX0 140 3567) (Z : ax_Z X h0 ((some FieldType.int))) (hn : X.2.2.2.2.2.2.2.2.1.name = yX0_thief.name) (x0 : Option Nat) (x1 : Int) (x2 : Int) (x3 : Int) (x4 : Int) (x5 : Int) (x6 : Int) (x7 : Int) (x8 : Int) (x9 : Option Nat) (x10 : Int) (x11 : Int) (x12 : Int) (x13 : Int) (x15 : Int) (s0 : Int) (s1 : Int) {w : (Int × Int × Int × ax_H) ⊕ ((Int × Int × Int × ax_H) ⊕ (Int × ax_H))} (hl : ax_hl ls 16 [(0, .inr (.inr x0)), (1, .inl x1), (2, .inl x2), (3, .inl x3), (4, .inl x4), (5, .inl x5), (6, .inl x6), (7, .inl x7), (8, .inl x8), (9, .inr (.inr x9)), (10, .inl x10), (11, .inl x11), (12, .inl x12), (13, .inl x13), (15, .inl x15)]) (e : f_X0_thief_240 G.2.2 x0 x1 x2 x3 x4 x5 x6 x7 x8 x9 x10 x11 x12 x13 x15 s0 s1 h = some w) (hp : (ax_PL (pi_X0_thief_183 G X Q x0 x1 x2 x3 x4 x5 x6 x7 x8 x9 x10 x11 x12) (ax_PL (pi_X0_thief_152 G X Q x0 x1 x2 x3 x4 x5 x6 x9 x10 x11) (fun w : Int × ax_H => Q = ax_Q G X h0 w.2 (some (.int (Int32.ofInt w.1)))))) w) : ax_W G X Q h 240 ls [.int (Int32.ofInt s1), .int (Int32.ofInt s0)] := by
  unfold f_X0_thief_240 at e
  refine ax_iadd' B dX0_thief_240 ?_
  refine ax_istore (L' := [(14, .inl (s0 + s1)), (0, .inr (.inr x0)), (1, .inl x1), (2, .inl x2), (3, .inl x3), (4, .inl x4), (5, .inl x5), (6, .inl x6), (7, .inl x7), (8, .inl x8), (9, .inr (.inr x9)), (10, .inl x10), (11, .inl x11), (12, .inl x12), (13, .inl x13), (15, .inl x15)]) B dX0_thief_241 hl (by decide) rfl (fun ls hl => ?_)
  refine ax_iinc (L' := [(15, .inl (x15 + 1)), (14, .inl (s0 + s1)), (0, .inr (.inr x0)), (1, .inl x1), (2, .inl x2), (3, .inl x3), (4, .inl x4), (5, .inl x5), (6, .inl x6), (7, .inl x7), (8, .inl x8), (9, .inr (.inr x9)), (10, .inl x10), (11, .inl x11), (12, .inl x12), (13, .inl x13)]) B dX0_thief_243 hl 15 rfl (by decide) rfl (fun ls hl => ?_)
  refine ax_goto (tgt := 183) B dX0_thief_246 (by decide) ?_
  cases e
  exact hp _ (hl.sub [2, 3, 4, 5, 6, 7, 8, 9, 10, 11, 12, 13, 14, 15, 1, 0] rfl)
set_option maxHeartbeats 4000000 in
theorem w_X0_thief_211 {l : Launch} {G : ax_G} {X : ax_X} {Q : State → Prop} {h0 h : ax_H} {ls : Array Slot} (hSF : ax_SF G) (B : ax_BL l G X cX0_thief 16 RX0 140 3567) (Z : ax_Z X h0 ((some FieldType.int))) (hn : X.2.2.2.2.2.2.2.2.1.name = yX0_thief.name) (x0 : Option Nat) (x1 : Int) (x2 : Int) (x3 : Int) (x4 : Int) (x5 : Int) (x6 : Int) (x7 : Int) (x8 : Int) (x9 : Option Nat) (x10 : Int) (x11 : Int) (x12 : Int) (x14 : Int) (x15 : Int) (s0 : Int) (s1 : Int) {w : (Int × Int × Int × ax_H) ⊕ ((Int × Int × Int × ax_H) ⊕ (Int × ax_H))} (hl : ax_hl ls 16 [(0, .inr (.inr x0)), (1, .inl x1), (2, .inl x2), (3, .inl x3), (4, .inl x4), (5, .inl x5), (6, .inl x6), (7, .inl x7), (8, .inl x8), (9, .inr (.inr x9)), (10, .inl x10), (11, .inl x11), (12, .inl x12), (14, .inl x14), (15, .inl x15)]) (e : f_X0_thief_211 G.2.2 x0 x1 x2 x3 x4 x5 x6 x7 x8 x9 x10 x11 x12 x14 x15 s0 s1 h = some w) (hp : (ax_PL (pi_X0_thief_183 G X Q x0 x1 x2 x3 x4 x5 x6 x7 x8 x9 x10 x11 x12) (ax_PL (pi_X0_thief_152 G X Q x0 x1 x2 x3 x4 x5 x6 x9 x10 x11) (fun w : Int × ax_H => Q = ax_Q G X h0 w.2 (some (.int (Int32.ofInt w.1)))))) w) : ax_W G X Q h 211 ls [.int (Int32.ofInt s1), .int (Int32.ofInt s0)] := by
  unfold f_X0_thief_211 at e
  refine ax_iadd' B dX0_thief_211 ?_
  refine ax_istore (L' := [(13, .inl (s0 + s1)), (0, .inr (.inr x0)), (1, .inl x1), (2, .inl x2), (3, .inl x3), (4, .inl x4), (5, .inl x5), (6, .inl x6), (7, .inl x7), (8, .inl x8), (9, .inr (.inr x9)), (10, .inl x10), (11, .inl x11), (12, .inl x12), (14, .inl x14), (15, .inl x15)]) B dX0_thief_212 hl (by decide) rfl (fun ls hl => ?_)
  refine ax_iload B dX0_thief_214 hl 14 rfl ?_
  refine ax_iload B dX0_thief_216 hl 13 rfl ?_
  refine ax_iload B dX0_thief_218 hl 15 rfl ?_
  refine ax_isI (y := yX0_has) (n := 2) (As := [.int (Int32.ofInt x12), .int (Int32.ofInt x15)]) B (lw_S q1622 q1574 q125 q1575) (by decide +kernel) ⟨Nat.le_of_ble_eq_true rfl, Nat.le_of_ble_eq_true rfl⟩ (fun w1 e1 => mt_X0_has l G hSF x12 x15 _ w1 e1) rfl hl.size (by simp only [List.map_cons, List.map_nil, List.sum_cons, List.sum_nil, va_rf_cat, ax_catI, ax_catL]; decide) dX0_thief_220 e (fun q1 e => ?_)
  refine ax_if_eq (tgt := 239) B dX0_thief_223 (by decide) e (fun e => ?_) (fun e => ?_)
  · refine ax_iconst B dX0_thief_239 ?_
    exact w_X0_thief_240 hSF B Z hn x0 x1 x2 x3 x4 x5 x6 x7 x8 x9 x10 x11 x12 (s0 + s1) x15 x14 0 (hl.sub [1, 2, 3, 4, 5, 6, 7, 8, 9, 10, 11, 12, 13, 0, 15] rfl) e hp
  · refine ax_aload_n B dX0_thief_226 rfl hl 1 rfl ?_
    refine ax_ivR (y := yX0_books) (n := 0) (As := []) B kd0 (lw_V q443 q445 qs2 q125 q446) (by decide +kernel) ⟨Nat.le_of_ble_eq_true rfl, Nat.le_of_ble_eq_true rfl⟩ (fun w1 e1 => mt_X0_books l G hSF x0 _ w1 e1) rfl hl.size (by simp only [List.map_cons, List.map_nil, List.sum_cons, List.sum_nil, va_rf_cat, ax_catI, ax_catL]; decide) dX0_thief_227 e (fun q2 e => ?_)
    refine ax_getR B ff_X0_171_2 (fun _ _ => rfl) dX0_thief_230 e (fun v3 e => ?_)
    refine ax_iload B dX0_thief_233 hl 15 rfl ?_
    refine ax_iald B kd100 dX0_thief_235 e (fun v4 e => ?_)
    refine ax_goto (tgt := 240) B dX0_thief_236 (by decide) ?_
    exact w_X0_thief_240 hSF B Z hn x0 x1 x2 x3 x4 x5 x6 x7 x8 x9 x10 x11 x12 (s0 + s1) x15 x14 v4 (hl.sub [1, 2, 3, 4, 5, 6, 7, 8, 9, 10, 11, 12, 13, 0, 15] rfl) e hp
set_option maxHeartbeats 4000000 in
theorem w_X0_thief_281 {l : Launch} {G : ax_G} {X : ax_X} {Q : State → Prop} {h0 h : ax_H} {ls : Array Slot} (hSF : ax_SF G) (B : ax_BL l G X cX0_thief 16 RX0 140 3567) (Z : ax_Z X h0 ((some FieldType.int))) (hn : X.2.2.2.2.2.2.2.2.1.name = yX0_thief.name) (x0 : Option Nat) (x1 : Int) (x2 : Int) (x3 : Int) (x4 : Int) (x5 : Int) (x6 : Int) (x7 : Int) (x8 : Int) (x9 : Option Nat) (x10 : Int) (x11 : Int) (x12 : Int) (x13 : Int) (x14 : Int) (s0 : Int) {w : (Int × Int × Int × ax_H) ⊕ (Int × ax_H)} (hl : ax_hl ls 16 [(0, .inr (.inr x0)), (1, .inl x1), (2, .inl x2), (3, .inl x3), (4, .inl x4), (5, .inl x5), (6, .inl x6), (7, .inl x7), (8, .inl x8), (9, .inr (.inr x9)), (10, .inl x10), (11, .inl x11), (12, .inl x12), (13, .inl x13), (14, .inl x14)]) (e : f_X0_thief_281 G.2.2 x0 x1 x2 x3 x4 x5 x6 x7 x8 x9 x10 x11 x12 x13 x14 s0 h = some w) (hp : (ax_PL (pi_X0_thief_152 G X Q x0 x1 x2 x3 x4 x5 x6 x9 x10 x11) (fun w : Int × ax_H => Q = ax_Q G X h0 w.2 (some (.int (Int32.ofInt w.1))))) w) : ax_W G X Q h 281 ls [.int (Int32.ofInt s0)] := by
  unfold f_X0_thief_281 at e
  refine ax_istore (L' := [(15, .inl s0), (0, .inr (.inr x0)), (1, .inl x1), (2, .inl x2), (3, .inl x3), (4, .inl x4), (5, .inl x5), (6, .inl x6), (7, .inl x7), (8, .inl x8), (9, .inr (.inr x9)), (10, .inl x10), (11, .inl x11), (12, .inl x12), (13, .inl x13), (14, .inl x14)]) B dX0_thief_281 hl (by decide) rfl (fun ls hl => ?_)
  refine ax_iload B dX0_thief_283 hl 0 rfl ?_
  refine ax_if_eq (tgt := 323) B dX0_thief_285 (by decide) e (fun e => ?_) (fun e => ?_)
  · exact w_X0_thief_323 hSF B Z hn x0 x1 x2 x3 x4 x5 x6 x7 x8 x9 x10 x11 x12 (hl.sub [1, 2, 3, 4, 5, 6, 7, 8, 9, 10, 11, 12, 13] rfl) e hp
  · refine ax_aload_n B dX0_thief_288 rfl hl 1 rfl ?_
    refine ax_iload_n B dX0_thief_289 rfl hl 3 rfl ?_
    refine ax_iload_n B dX0_thief_290 rfl hl 2 rfl ?_
    refine ax_iload B dX0_thief_291 hl 11 rfl ?_
    refine ax_iload B dX0_thief_293 hl 15 rfl ?_
    refine ax_iadd' B dX0_thief_295 ?_
    refine ax_iload B dX0_thief_296 hl 12 rfl ?_
    refine ax_aload_n B dX0_thief_298 rfl hl 1 rfl ?_
    refine ax_ivR (y := yX0_books) (n := 0) (As := []) B kd0 (lw_V q443 q445 qs2 q125 q446) (by decide +kernel) ⟨Nat.le_of_ble_eq_true rfl, Nat.le_of_ble_eq_true rfl⟩ (fun w1 e1 => mt_X0_books l G hSF x0 _ w1 e1) rfl hl.size (by simp only [List.map_cons, List.map_nil, List.sum_cons, List.sum_nil, va_rf_cat, ax_catI, ax_catL]; decide) dX0_thief_299 e (fun q1 e => ?_)
    refine ax_getI B ff_X0_194_2 (fun _ _ => rfl) dX0_thief_302 e (fun v2 e => ?_)
    refine ax_ivI (y := yX0_deepBy) (n := 5) (As := [.int (Int32.ofInt x2), .int (Int32.ofInt x1), .int (Int32.ofInt (x10 + x14)), .int (Int32.ofInt x11), .int (Int32.ofInt v2)]) B kd0 (lw_V q1334 q1336 qs23 q125 q1337) (by decide +kernel) ⟨Nat.le_of_ble_eq_true rfl, Nat.le_of_ble_eq_true rfl⟩ (fun w1 e1 => mt_X0_deepBy l G hSF x0 x2 x1 (x10 + x14) x11 v2 _ w1 e1) rfl hl.size (by decide) dX0_thief_305 e (fun q3 e => ?_)
    refine ax_iload_n B dX0_thief_308 rfl hl 4 rfl ?_
    refine ax_icmp_ge (tgt := 315) B dX0_thief_309 (by decide) e (fun e => ?_) (fun e => ?_)
    · refine ax_goto (tgt := 323) B dX0_thief_312 (by decide) ?_
      exact w_X0_thief_323 hSF B Z hn x0 x1 x2 x3 x4 x5 x6 x7 x8 x9 x10 x11 x12 (hl.sub [1, 2, 3, 4, 5, 6, 7, 8, 9, 10, 11, 12, 13] rfl) e hp
    · refine ax_iload B dX0_thief_315 hl 14 rfl ?_
      refine ax_istore (L' := [(7, .inl x13), (15, .inl s0), (0, .inr (.inr x0)), (1, .inl x1), (2, .inl x2), (3, .inl x3), (4, .inl x4), (5, .inl x5), (6, .inl x6), (8, .inl x8), (9, .inr (.inr x9)), (10, .inl x10), (11, .inl x11), (12, .inl x12), (13, .inl x13), (14, .inl x14)]) B dX0_thief_317 hl (by decide) rfl (fun ls hl => ?_)
      refine ax_iload B dX0_thief_319 hl 13 rfl ?_
      refine ax_istore (L' := [(8, .inl x12), (7, .inl x13), (15, .inl s0), (0, .inr (.inr x0)), (1, .inl x1), (2, .inl x2), (3, .inl x3), (4, .inl x4), (5, .inl x5), (6, .inl x6), (9, .inr (.inr x9)), (10, .inl x10), (11, .inl x11), (12, .inl x12), (13, .inl x13), (14, .inl x14)]) B dX0_thief_321 hl (by decide) rfl (fun ls hl => ?_)
      exact w_X0_thief_323 hSF B Z hn x0 x1 x2 x3 x4 x5 x6 x13 x12 x9 x10 x11 x12 (hl.sub [3, 4, 5, 6, 7, 8, 9, 1, 0, 10, 11, 12, 13] rfl) e hp
set_option maxHeartbeats 4000000 in
theorem w_X0_thief_276 {l : Launch} {G : ax_G} {X : ax_X} {Q : State → Prop} {h0 h : ax_H} {ls : Array Slot} (hSF : ax_SF G) (B : ax_BL l G X cX0_thief 16 RX0 140 3567) (Z : ax_Z X h0 ((some FieldType.int))) (hn : X.2.2.2.2.2.2.2.2.1.name = yX0_thief.name) (x0 : Option Nat) (x1 : Int) (x2 : Int) (x3 : Int) (x4 : Int) (x5 : Int) (x6 : Int) (x7 : Int) (x8 : Int) (x9 : Option Nat) (x10 : Int) (x11 : Int) (x12 : Int) (x13 : Int) (x14 : Int) {w : (Int × Int × Int × ax_H) ⊕ (Int × ax_H)} (hl : ax_hl ls 16 [(0, .inr (.inr x0)), (1, .inl x1), (2, .inl x2), (3, .inl x3), (4, .inl x4), (5, .inl x5), (6, .inl x6), (7, .inl x7), (8, .inl x8), (9, .inr (.inr x9)), (10, .inl x10), (11, .inl x11), (12, .inl x12), (13, .inl x13), (14, .inl x14)]) (e : f_X0_thief_276 G.2.2 x0 x1 x2 x3 x4 x5 x6 x7 x8 x9 x10 x11 x12 x13 x14 h = some w) (hp : (ax_PL (pi_X0_thief_152 G X Q x0 x1 x2 x3 x4 x5 x6 x9 x10 x11) (fun w : Int × ax_H => Q = ax_Q G X h0 w.2 (some (.int (Int32.ofInt w.1))))) w) : ax_W G X Q h 276 ls [] := by
  unfold f_X0_thief_276 at e
  refine ax_iconst B dX0_thief_276 ?_
  refine ax_goto (tgt := 281) B dX0_thief_277 (by decide) ?_
  exact w_X0_thief_281 hSF B Z hn x0 x1 x2 x3 x4 x5 x6 x7 x8 x9 x10 x11 x12 x13 x14 1 (hl.sub [0, 1, 2, 3, 4, 5, 6, 7, 8, 9, 10, 11, 12, 13, 14] rfl) e hp
set_option maxHeartbeats 4000000 in
theorem w_X0_thief_280 {l : Launch} {G : ax_G} {X : ax_X} {Q : State → Prop} {h0 h : ax_H} {ls : Array Slot} (hSF : ax_SF G) (B : ax_BL l G X cX0_thief 16 RX0 140 3567) (Z : ax_Z X h0 ((some FieldType.int))) (hn : X.2.2.2.2.2.2.2.2.1.name = yX0_thief.name) (x0 : Option Nat) (x1 : Int) (x2 : Int) (x3 : Int) (x4 : Int) (x5 : Int) (x6 : Int) (x7 : Int) (x8 : Int) (x9 : Option Nat) (x10 : Int) (x11 : Int) (x12 : Int) (x13 : Int) (x14 : Int) {w : (Int × Int × Int × ax_H) ⊕ (Int × ax_H)} (hl : ax_hl ls 16 [(0, .inr (.inr x0)), (1, .inl x1), (2, .inl x2), (3, .inl x3), (4, .inl x4), (5, .inl x5), (6, .inl x6), (7, .inl x7), (8, .inl x8), (9, .inr (.inr x9)), (10, .inl x10), (11, .inl x11), (12, .inl x12), (13, .inl x13), (14, .inl x14)]) (e : f_X0_thief_280 G.2.2 x0 x1 x2 x3 x4 x5 x6 x7 x8 x9 x10 x11 x12 x13 x14 h = some w) (hp : (ax_PL (pi_X0_thief_152 G X Q x0 x1 x2 x3 x4 x5 x6 x9 x10 x11) (fun w : Int × ax_H => Q = ax_Q G X h0 w.2 (some (.int (Int32.ofInt w.1))))) w) : ax_W G X Q h 280 ls [] := by
  unfold f_X0_thief_280 at e
  refine ax_iconst B dX0_thief_280 ?_
  exact w_X0_thief_281 hSF B Z hn x0 x1 x2 x3 x4 x5 x6 x7 x8 x9 x10 x11 x12 x13 x14 0 (hl.sub [0, 1, 2, 3, 4, 5, 6, 7, 8, 9, 10, 11, 12, 13, 14] rfl) e hp
set_option maxHeartbeats 4000000 in
theorem wb_X0_thief_183 {l : Launch} {G : ax_G} {X : ax_X} {Q : State → Prop} {h0 h : ax_H} {ls : Array Slot} (hSF : ax_SF G) (B : ax_BL l G X cX0_thief 16 RX0 140 3567) (Z : ax_Z X h0 ((some FieldType.int))) (hn : X.2.2.2.2.2.2.2.2.1.name = yX0_thief.name) (x0 : Option Nat) (x1 : Int) (x2 : Int) (x3 : Int) (x4 : Int) (x5 : Int) (x6 : Int) (x7 : Int) (x8 : Int) (x9 : Option Nat) (x10 : Int) (x11 : Int) (x12 : Int) (x13 : Int) (x14 : Int) (x15 : Int) {w : (Int × Int × Int × ax_H) ⊕ ((Int × Int × Int × ax_H) ⊕ (Int × ax_H))} (hl : ax_hl ls 16 [(0, .inr (.inr x0)), (1, .inl x1), (2, .inl x2), (3, .inl x3), (4, .inl x4), (5, .inl x5), (6, .inl x6), (7, .inl x7), (8, .inl x8), (9, .inr (.inr x9)), (10, .inl x10), (11, .inl x11), (12, .inl x12), (13, .inl x13), (14, .inl x14), (15, .inl x15)]) (e : lb_X0_thief_183 G.2.2 x0 x1 x2 x3 x4 x5 x6 x7 x8 x9 x10 x11 x12 x13 x14 x15 h = some w) (hp : (ax_PL (pi_X0_thief_183 G X Q x0 x1 x2 x3 x4 x5 x6 x7 x8 x9 x10 x11 x12) (ax_PL (pi_X0_thief_152 G X Q x0 x1 x2 x3 x4 x5 x6 x9 x10 x11) (fun w : Int × ax_H => Q = ax_Q G X h0 w.2 (some (.int (Int32.ofInt w.1)))))) w) : ax_W G X Q h 183 ls [] := by
  unfold lb_X0_thief_183 at e
  refine ax_iload B dX0_thief_183 hl 15 rfl ?_
  refine ax_iload B dX0_thief_185 hl 5 rfl ?_
  refine ax_icmp_ge (tgt := 249) B dX0_thief_187 (by decide) e (fun e => ?_) (fun e => ?_)
  · refine ax_iload B dX0_thief_190 hl 13 rfl ?_
    refine ax_iload B dX0_thief_192 hl 12 rfl ?_
    refine ax_iload B dX0_thief_194 hl 15 rfl ?_
    refine ax_isI (y := yX0_has) (n := 2) (As := [.int (Int32.ofInt x12), .int (Int32.ofInt x15)]) B (lw_S q1622 q1574 q125 q1575) (by decide +kernel) ⟨Nat.le_of_ble_eq_true rfl, Nat.le_of_ble_eq_true rfl⟩ (fun w1 e1 => mt_X0_has l G hSF x12 x15 _ w1 e1) rfl hl.size (by simp only [List.map_cons, List.map_nil, List.sum_cons, List.sum_nil, va_rf_cat, ax_catI, ax_catL]; decide) dX0_thief_196 e (fun q1 e => ?_)
    refine ax_if_eq (tgt := 210) B dX0_thief_199 (by decide) e (fun e => ?_) (fun e => ?_)
    · refine ax_iconst B dX0_thief_210 ?_
      exact w_X0_thief_211 hSF B Z hn x0 x1 x2 x3 x4 x5 x6 x7 x8 x9 x10 x11 x12 x14 x15 x13 0 (hl.sub [0, 1, 2, 3, 4, 5, 6, 7, 8, 9, 10, 11, 12, 14, 15] rfl) e hp
    · refine ax_aload B dX0_thief_202 hl 9 rfl ?_
      refine ax_iload B dX0_thief_204 hl 15 rfl ?_
      refine ax_iald B kd100 dX0_thief_206 e (fun v2 e => ?_)
      refine ax_goto (tgt := 211) B dX0_thief_207 (by decide) ?_
      exact w_X0_thief_211 hSF B Z hn x0 x1 x2 x3 x4 x5 x6 x7 x8 x9 x10 x11 x12 x14 x15 x13 v2 (hl.sub [0, 1, 2, 3, 4, 5, 6, 7, 8, 9, 10, 11, 12, 14, 15] rfl) e hp
  · obtain ⟨w, e9_1, rfl⟩ := Option.map_eq_some_iff.mp e
    have e := e9_1
    refine ax_iload B dX0_thief_249 hl 13 rfl ?_
    refine ax_iload B dX0_thief_251 hl 7 rfl ?_
    refine ax_icmp_lt (tgt := 276) B dX0_thief_253 (by decide) e (fun e => ?_) (fun e => ?_)
    · exact w_X0_thief_276 hSF B Z hn x0 x1 x2 x3 x4 x5 x6 x7 x8 x9 x10 x11 x12 x13 x14 (hl.sub [0, 1, 2, 3, 4, 5, 6, 7, 8, 9, 10, 11, 12, 13, 14] rfl) e hp
    · refine ax_iload B dX0_thief_256 hl 13 rfl ?_
      refine ax_iload B dX0_thief_258 hl 7 rfl ?_
      refine ax_icmp_ne (tgt := 280) B dX0_thief_260 (by decide) e (fun e => ?_) (fun e => ?_)
      · refine ax_iload B dX0_thief_263 hl 12 rfl ?_
        refine ax_isI (y := yJ16_bitCount) (n := 1) (As := [.int (Int32.ofInt x12)]) B (lw_S q1623 q1624 q174 q1625) (by decide +kernel) ⟨Nat.le_of_ble_eq_true rfl, Nat.le_of_ble_eq_true rfl⟩ (fun w1 e1 => mt_J16_bitCount l G hSF x12 _ w1 e1) rfl hl.size (by decide) dX0_thief_265 e (fun q3 e => ?_)
        refine ax_iload B dX0_thief_268 hl 8 rfl ?_
        refine ax_isI (y := yJ16_bitCount) (n := 1) (As := [.int (Int32.ofInt x8)]) B (lw_S q1623 q1624 q174 q1625) (by decide +kernel) ⟨Nat.le_of_ble_eq_true rfl, Nat.le_of_ble_eq_true rfl⟩ (fun w1 e1 => mt_J16_bitCount l G hSF x8 _ w1 e1) rfl hl.size (by simp only [List.map_cons, List.map_nil, List.sum_cons, List.sum_nil, va_rf_cat, ax_catI, ax_catL]; decide) dX0_thief_270 e (fun q4 e => ?_)
        refine ax_icmp_ge (tgt := 280) B dX0_thief_273 (by decide) e (fun e => ?_) (fun e => ?_)
        · exact w_X0_thief_276 hSF B Z hn x0 x1 x2 x3 x4 x5 x6 x7 x8 x9 x10 x11 x12 x13 x14 (hl.sub [0, 1, 2, 3, 4, 5, 6, 7, 8, 9, 10, 11, 12, 13, 14] rfl) e hp
        · exact w_X0_thief_280 hSF B Z hn x0 x1 x2 x3 x4 x5 x6 x7 x8 x9 x10 x11 x12 x13 x14 (hl.sub [0, 1, 2, 3, 4, 5, 6, 7, 8, 9, 10, 11, 12, 13, 14] rfl) e hp
      · exact w_X0_thief_280 hSF B Z hn x0 x1 x2 x3 x4 x5 x6 x7 x8 x9 x10 x11 x12 x13 x14 (hl.sub [0, 1, 2, 3, 4, 5, 6, 7, 8, 9, 10, 11, 12, 13, 14] rfl) e hp
theorem w_X0_thief_183 {l : Launch} {G : ax_G} {X : ax_X} {Q : State → Prop} {h0 h : ax_H} {ls : Array Slot} (hSF : ax_SF G) (B : ax_BL l G X cX0_thief 16 RX0 140 3567) (Z : ax_Z X h0 ((some FieldType.int))) (hn : X.2.2.2.2.2.2.2.2.1.name = yX0_thief.name) (x0 : Option Nat) (x1 : Int) (x2 : Int) (x3 : Int) (x4 : Int) (x5 : Int) (x6 : Int) (x7 : Int) (x8 : Int) (x9 : Option Nat) (x10 : Int) (x11 : Int) (x12 : Int) (x13 : Int) (x14 : Int) (x15 : Int) {w : (Int × Int × Int × ax_H) ⊕ (Int × ax_H)} (hl : ax_hl ls 16 [(0, .inr (.inr x0)), (1, .inl x1), (2, .inl x2), (3, .inl x3), (4, .inl x4), (5, .inl x5), (6, .inl x6), (7, .inl x7), (8, .inl x8), (9, .inr (.inr x9)), (10, .inl x10), (11, .inl x11), (12, .inl x12), (13, .inl x13), (14, .inl x14), (15, .inl x15)]) (e : f_X0_thief_183 G.2.2 x0 x1 x2 x3 x4 x5 x6 x7 x8 x9 x10 x11 x12 x13 x14 x15 h = some w) (hp : (ax_PL (pi_X0_thief_152 G X Q x0 x1 x2 x3 x4 x5 x6 x9 x10 x11) (fun w : Int × ax_H => Q = ax_Q G X h0 w.2 (some (.int (Int32.ofInt w.1))))) w) : ax_W G X Q h 183 ls [] :=
  ax_iter_W (Pin := pi_X0_thief_183 G X Q x0 x1 x2 x3 x4 x5 x6 x7 x8 x9 x10 x11 x12) (Pout := (ax_PL (pi_X0_thief_152 G X Q x0 x1 x2 x3 x4 x5 x6 x9 x10 x11) (fun w : Int × ax_H => Q = ax_Q G X h0 w.2 (some (.int (Int32.ofInt w.1)))))) (fun s w e hp ls hl => wb_X0_thief_183 hSF B Z hn x0 x1 x2 x3 x4 x5 x6 x7 x8 x9 x10 x11 x12 s.1 s.2.1 s.2.2.1 hl e hp) _ _ e hp ls hl
set_option maxHeartbeats 4000000 in
theorem wb_X0_thief_152 {l : Launch} {G : ax_G} {X : ax_X} {Q : State → Prop} {h0 h : ax_H} {ls : Array Slot} (hSF : ax_SF G) (B : ax_BL l G X cX0_thief 16 RX0 140 3567) (Z : ax_Z X h0 ((some FieldType.int))) (hn : X.2.2.2.2.2.2.2.2.1.name = yX0_thief.name) (x0 : Option Nat) (x1 : Int) (x2 : Int) (x3 : Int) (x4 : Int) (x5 : Int) (x6 : Int) (x7 : Int) (x8 : Int) (x9 : Option Nat) (x10 : Int) (x11 : Int) (x12 : Int) {w : (Int × Int × Int × ax_H) ⊕ (Int × ax_H)} (hl : ax_hl ls 16 [(0, .inr (.inr x0)), (1, .inl x1), (2, .inl x2), (3, .inl x3), (4, .inl x4), (5, .inl x5), (6, .inl x6), (7, .inl x7), (8, .inl x8), (9, .inr (.inr x9)), (10, .inl x10), (11, .inl x11), (12, .inl x12)]) (e : lb_X0_thief_152 G.2.2 x0 x1 x2 x3 x4 x5 x6 x7 x8 x9 x10 x11 x12 h = some w) (hp : (ax_PL (pi_X0_thief_152 G X Q x0 x1 x2 x3 x4 x5 x6 x9 x10 x11) (fun w : Int × ax_H => Q = ax_Q G X h0 w.2 (some (.int (Int32.ofInt w.1))))) w) : ax_W G X Q h 152 ls [] := by
  unfold lb_X0_thief_152 at e
  refine ax_iload B dX0_thief_152 hl 12 rfl ?_
  refine ax_iconst B dX0_thief_154 ?_
  refine ax_iload B dX0_thief_155 hl 5 rfl ?_
  refine ax_ishl' B dX0_thief_157 ?_
  refine ax_icmp_ge (tgt := 329) B dX0_thief_158 (by decide) e (fun e => ?_) (fun e => ?_)
  · refine ax_iload B dX0_thief_161 hl 12 rfl ?_
    refine ax_iload B dX0_thief_163 hl 6 rfl ?_
    refine ax_iconst B dX0_thief_165 ?_
    refine ax_ixor' B dX0_thief_166 ?_
    refine ax_iand' B dX0_thief_167 ?_
    refine ax_if_eq (tgt := 174) B dX0_thief_168 (by decide) e (fun e => ?_) (fun e => ?_)
    · refine ax_iconst B dX0_thief_174 ?_
      refine ax_istore (L' := [(13, .inl 0), (0, .inr (.inr x0)), (1, .inl x1), (2, .inl x2), (3, .inl x3), (4, .inl x4), (5, .inl x5), (6, .inl x6), (7, .inl x7), (8, .inl x8), (9, .inr (.inr x9)), (10, .inl x10), (11, .inl x11), (12, .inl x12)]) B dX0_thief_175 hl (by decide) rfl (fun ls hl => ?_)
      refine ax_iconst B dX0_thief_177 ?_
      refine ax_istore (L' := [(14, .inl 0), (13, .inl 0), (0, .inr (.inr x0)), (1, .inl x1), (2, .inl x2), (3, .inl x3), (4, .inl x4), (5, .inl x5), (6, .inl x6), (7, .inl x7), (8, .inl x8), (9, .inr (.inr x9)), (10, .inl x10), (11, .inl x11), (12, .inl x12)]) B dX0_thief_178 hl (by decide) rfl (fun ls hl => ?_)
      refine ax_iconst B dX0_thief_180 ?_
      refine ax_istore (L' := [(15, .inl 0), (14, .inl 0), (13, .inl 0), (0, .inr (.inr x0)), (1, .inl x1), (2, .inl x2), (3, .inl x3), (4, .inl x4), (5, .inl x5), (6, .inl x6), (7, .inl x7), (8, .inl x8), (9, .inr (.inr x9)), (10, .inl x10), (11, .inl x11), (12, .inl x12)]) B dX0_thief_181 hl (by decide) rfl (fun ls hl => ?_)
      exact w_X0_thief_183 hSF B Z hn x0 x1 x2 x3 x4 x5 x6 x7 x8 x9 x10 x11 x12 0 0 0 (hl.sub [3, 4, 5, 6, 7, 8, 9, 10, 11, 12, 13, 14, 15, 2, 1, 0] rfl) e hp
    · refine ax_goto (tgt := 323) B dX0_thief_171 (by decide) ?_
      exact w_X0_thief_323 hSF B Z hn x0 x1 x2 x3 x4 x5 x6 x7 x8 x9 x10 x11 x12 (hl.sub [0, 1, 2, 3, 4, 5, 6, 7, 8, 9, 10, 11, 12] rfl) e hp
  · obtain ⟨w, e9_2, rfl⟩ := Option.map_eq_some_iff.mp e
    have e := e9_2
    refine ax_iload B dX0_thief_329 hl 8 rfl ?_
    refine ax_iconst B dX0_thief_331 ?_
    refine ax_icmp_ne (tgt := 339) B dX0_thief_332 (by decide) e (fun e => ?_) (fun e => ?_)
    · refine ax_iconst B dX0_thief_335 ?_
      refine ax_goto (tgt := 351) B dX0_thief_336 (by decide) ?_
      have e8 := e
      have hp : Q = _ := hp
      subst hp
      exact ax_ireturn B Z dX0_thief_351 e8
    · refine ax_iload B dX0_thief_339 hl 4 rfl ?_
      refine ax_if_ne (tgt := 349) B dX0_thief_341 (by decide) e (fun e => ?_) (fun e => ?_)
      · refine ax_iload B dX0_thief_344 hl 7 rfl ?_
        refine ax_goto (tgt := 351) B dX0_thief_346 (by decide) ?_
        have e8 := e
        have hp : Q = _ := hp
        subst hp
        exact ax_ireturn B Z dX0_thief_351 e8
      · refine ax_iload B dX0_thief_349 hl 8 rfl ?_
        have e8 := e
        have hp : Q = _ := hp
        subst hp
        exact ax_ireturn B Z dX0_thief_351 e8
theorem w_X0_thief_152 {l : Launch} {G : ax_G} {X : ax_X} {Q : State → Prop} {h0 h : ax_H} {ls : Array Slot} (hSF : ax_SF G) (B : ax_BL l G X cX0_thief 16 RX0 140 3567) (Z : ax_Z X h0 ((some FieldType.int))) (hn : X.2.2.2.2.2.2.2.2.1.name = yX0_thief.name) (x0 : Option Nat) (x1 : Int) (x2 : Int) (x3 : Int) (x4 : Int) (x5 : Int) (x6 : Int) (x7 : Int) (x8 : Int) (x9 : Option Nat) (x10 : Int) (x11 : Int) (x12 : Int) {w : Int × ax_H} (hl : ax_hl ls 16 [(0, .inr (.inr x0)), (1, .inl x1), (2, .inl x2), (3, .inl x3), (4, .inl x4), (5, .inl x5), (6, .inl x6), (7, .inl x7), (8, .inl x8), (9, .inr (.inr x9)), (10, .inl x10), (11, .inl x11), (12, .inl x12)]) (e : f_X0_thief_152 G.2.2 x0 x1 x2 x3 x4 x5 x6 x7 x8 x9 x10 x11 x12 h = some w) (hp : (fun w : Int × ax_H => Q = ax_Q G X h0 w.2 (some (.int (Int32.ofInt w.1)))) w) : ax_W G X Q h 152 ls [] :=
  ax_iter_W (Pin := pi_X0_thief_152 G X Q x0 x1 x2 x3 x4 x5 x6 x9 x10 x11) (Pout := (fun w : Int × ax_H => Q = ax_Q G X h0 w.2 (some (.int (Int32.ofInt w.1))))) (fun s w e hp ls hl => wb_X0_thief_152 hSF B Z hn x0 x1 x2 x3 x4 x5 x6 s.1 s.2.1 x9 x10 x11 s.2.2.1 hl e hp) _ _ e hp ls hl
set_option maxHeartbeats 4000000 in
theorem wb_X0_thief_58 {l : Launch} {G : ax_G} {X : ax_X} {Q : State → Prop} {h0 h : ax_H} {ls : Array Slot} (hSF : ax_SF G) (B : ax_BL l G X cX0_thief 16 RX0 140 3567) (Z : ax_Z X h0 ((some FieldType.int))) (hn : X.2.2.2.2.2.2.2.2.1.name = yX0_thief.name) (x0 : Option Nat) (x1 : Int) (x2 : Int) (x3 : Int) (x4 : Int) (x5 : Int) (x6 : Int) (x7 : Int) (x8 : Int) (x9 : Option Nat) (x10 : Int) {w : (Int × Int × ax_H) ⊕ (Int × ax_H)} (hl : ax_hl ls 16 [(0, .inr (.inr x0)), (1, .inl x1), (2, .inl x2), (3, .inl x3), (4, .inl x4), (5, .inl x5), (6, .inl x6), (7, .inl x7), (8, .inl x8), (9, .inr (.inr x9)), (10, .inl x10)]) (e : lb_X0_thief_58 G.2.2 x0 x1 x2 x3 x4 x5 x6 x7 x8 x9 x10 h = some w) (hp : (ax_PL (pi_X0_thief_58 G X Q x0 x1 x2 x3 x4 x5 x7 x8 x9) (fun w : Int × ax_H => Q = ax_Q G X h0 w.2 (some (.int (Int32.ofInt w.1))))) w) : ax_W G X Q h 58 ls [] := by
  unfold lb_X0_thief_58 at e
  refine ax_iload B dX0_thief_58 hl 10 rfl ?_
  refine ax_iload B dX0_thief_60 hl 5 rfl ?_
  refine ax_icmp_ge (tgt := 127) B dX0_thief_62 (by decide) e (fun e => ?_) (fun e => ?_)
  · refine ax_aload B dX0_thief_65 hl 9 rfl ?_
    refine ax_iload B dX0_thief_67 hl 10 rfl ?_
    refine ax_aload_n B dX0_thief_69 rfl hl 0 rfl ?_
    refine ax_aload_n B dX0_thief_70 rfl hl 0 rfl ?_
    refine ax_ivR (y := yX0_books) (n := 0) (As := []) B kd0 (lw_V q443 q445 qs2 q125 q446) (by decide +kernel) ⟨Nat.le_of_ble_eq_true rfl, Nat.le_of_ble_eq_true rfl⟩ (fun w1 e1 => mt_X0_books l G hSF x0 _ w1 e1) rfl hl.size (by simp only [List.map_cons, List.map_nil, List.sum_cons, List.sum_nil, va_rf_cat, ax_catI, ax_catL]; decide) dX0_thief_71 e (fun q1 e => ?_)
    refine ax_iload B dX0_thief_74 hl 10 rfl ?_
    refine ax_ivI (y := yX0_soldFor) (n := 2) (As := [va_rf q1.1, .int (Int32.ofInt x10)]) B kd0 (lw_V q499 q501 qs9 q125 q502) (by decide +kernel) ⟨Nat.le_of_ble_eq_true rfl, Nat.le_of_ble_eq_true rfl⟩ (fun w1 e1 => mt_X0_soldFor l G hSF x0 q1.1 x10 _ w1 e1) rfl hl.size (by simp only [List.map_cons, List.map_nil, List.sum_cons, List.sum_nil, va_rf_cat, ax_catI, ax_catL]; decide) dX0_thief_76 e (fun q2 e => ?_)
    refine ax_iast B kd100 dX0_thief_79 e (fun h3 e => ?_)
    refine ax_iload B dX0_thief_80 hl 6 rfl ?_
    refine ax_aload_n B dX0_thief_82 rfl hl 0 rfl ?_
    refine ax_ivR (y := yX0_books) (n := 0) (As := []) B kd0 (lw_V q443 q445 qs2 q125 q446) (by decide +kernel) ⟨Nat.le_of_ble_eq_true rfl, Nat.le_of_ble_eq_true rfl⟩ (fun w1 e1 => mt_X0_books l G hSF x0 _ w1 e1) rfl hl.size (by simp only [List.map_cons, List.map_nil, List.sum_cons, List.sum_nil, va_rf_cat, ax_catI, ax_catL]; decide) dX0_thief_83 e (fun q4 e => ?_)
    refine ax_getR B ff_X0_165_2 (fun _ _ => rfl) dX0_thief_86 e (fun v5 e => ?_)
    refine ax_iload B dX0_thief_89 hl 10 rfl ?_
    refine ax_iald B kd100 dX0_thief_91 e (fun v6 e => ?_)
    refine ax_iload_n B dX0_thief_92 rfl hl 2 rfl ?_
    refine ax_icmp_ne (tgt := 117) B dX0_thief_93 (by decide) e (fun e => ?_) (fun e => ?_)
    · refine ax_aload_n B dX0_thief_96 rfl hl 0 rfl ?_
      refine ax_ivR (y := yX0_books) (n := 0) (As := []) B kd0 (lw_V q443 q445 qs2 q125 q446) (by decide +kernel) ⟨Nat.le_of_ble_eq_true rfl, Nat.le_of_ble_eq_true rfl⟩ (fun w1 e1 => mt_X0_books l G hSF x0 _ w1 e1) rfl hl.size (by simp only [List.map_cons, List.map_nil, List.sum_cons, List.sum_nil, va_rf_cat, ax_catI, ax_catL]; decide) dX0_thief_97 e (fun q7 e => ?_)
      refine ax_getR B ff_X0_168_2 (fun _ _ => rfl) dX0_thief_100 e (fun v8 e => ?_)
      refine ax_iload B dX0_thief_103 hl 10 rfl ?_
      refine ax_iald B kd100 dX0_thief_105 e (fun v9 e => ?_)
      refine ax_iload_n B dX0_thief_106 rfl hl 1 rfl ?_
      refine ax_icmp_eq (tgt := 117) B dX0_thief_107 (by decide) e (fun e => ?_) (fun e => ?_)
      · exact w_X0_thief_117 hSF B Z hn x0 x1 x2 x3 x4 x5 x7 x8 x9 x10 x6 (hl.sub [0, 1, 2, 3, 4, 5, 7, 8, 9, 10] rfl) e hp
      · refine ax_iconst B dX0_thief_110 ?_
        refine ax_iload B dX0_thief_111 hl 10 rfl ?_
        refine ax_ishl' B dX0_thief_113 ?_
        refine ax_goto (tgt := 118) B dX0_thief_114 (by decide) ?_
        exact w_X0_thief_118 hSF B Z hn x0 x1 x2 x3 x4 x5 x7 x8 x9 x10 x6 (ax_shl 1 x10) (hl.sub [0, 1, 2, 3, 4, 5, 7, 8, 9, 10] rfl) e hp
    · exact w_X0_thief_117 hSF B Z hn x0 x1 x2 x3 x4 x5 x7 x8 x9 x10 x6 (hl.sub [0, 1, 2, 3, 4, 5, 7, 8, 9, 10] rfl) e hp
  · obtain ⟨w, e9_3, rfl⟩ := Option.map_eq_some_iff.mp e
    have e := e9_3
    refine ax_aload_n B dX0_thief_127 rfl hl 0 rfl ?_
    refine ax_ivR (y := yX0_books) (n := 0) (As := []) B kd0 (lw_V q443 q445 qs2 q125 q446) (by decide +kernel) ⟨Nat.le_of_ble_eq_true rfl, Nat.le_of_ble_eq_true rfl⟩ (fun w1 e1 => mt_X0_books l G hSF x0 _ w1 e1) rfl hl.size (by decide) dX0_thief_128 e (fun q10 e => ?_)
    refine ax_iload_n B dX0_thief_131 rfl hl 2 rfl ?_
    refine ax_iload_n B dX0_thief_132 rfl hl 1 rfl ?_
    refine ax_ivI (y := yX2_owes) (n := 2) (As := [.int (Int32.ofInt x2), .int (Int32.ofInt x1)]) B kd2 (lw_V q507 q508 q509 q130 q510) (by decide +kernel) ⟨Nat.le_of_ble_eq_true rfl, Nat.le_of_ble_eq_true rfl⟩ (fun w1 e1 => mt_X2_owes l G hSF q10.1 x2 x1 _ w1 e1) rfl hl.size (by decide) dX0_thief_133 e (fun q11 e => ?_)
    refine ax_istore (L' := [(10, .inl q11.1), (0, .inr (.inr x0)), (1, .inl x1), (2, .inl x2), (3, .inl x3), (4, .inl x4), (5, .inl x5), (6, .inl x6), (7, .inl x7), (8, .inl x8), (9, .inr (.inr x9))]) B dX0_thief_136 hl (by decide) rfl (fun ls hl => ?_)
    refine ax_aload_n B dX0_thief_138 rfl hl 1 rfl ?_
    refine ax_ivR (y := yX0_books) (n := 0) (As := []) B kd0 (lw_V q443 q445 qs2 q125 q446) (by decide +kernel) ⟨Nat.le_of_ble_eq_true rfl, Nat.le_of_ble_eq_true rfl⟩ (fun w1 e1 => mt_X0_books l G hSF x0 _ w1 e1) rfl hl.size (by decide) dX0_thief_139 e (fun q12 e => ?_)
    refine ax_iload_n B dX0_thief_142 rfl hl 2 rfl ?_
    refine ax_iload_n B dX0_thief_143 rfl hl 3 rfl ?_
    refine ax_ivI (y := yX2_owes) (n := 2) (As := [.int (Int32.ofInt x1), .int (Int32.ofInt x2)]) B kd2 (lw_V q507 q508 q509 q130 q510) (by decide +kernel) ⟨Nat.le_of_ble_eq_true rfl, Nat.le_of_ble_eq_true rfl⟩ (fun w1 e1 => mt_X2_owes l G hSF q12.1 x1 x2 _ w1 e1) rfl hl.size (by decide) dX0_thief_144 e (fun q13 e => ?_)
    refine ax_istore (L' := [(11, .inl q13.1), (10, .inl q11.1), (0, .inr (.inr x0)), (1, .inl x1), (2, .inl x2), (3, .inl x3), (4, .inl x4), (5, .inl x5), (6, .inl x6), (7, .inl x7), (8, .inl x8), (9, .inr (.inr x9))]) B dX0_thief_147 hl (by decide) rfl (fun ls hl => ?_)
    refine ax_iconst B dX0_thief_149 ?_
    refine ax_istore (L' := [(12, .inl 0), (11, .inl q13.1), (10, .inl q11.1), (0, .inr (.inr x0)), (1, .inl x1), (2, .inl x2), (3, .inl x3), (4, .inl x4), (5, .inl x5), (6, .inl x6), (7, .inl x7), (8, .inl x8), (9, .inr (.inr x9))]) B dX0_thief_150 hl (by decide) rfl (fun ls hl => ?_)
    exact w_X0_thief_152 hSF B Z hn x0 x1 x2 x3 x4 x5 x6 x7 x8 x9 q11.1 q13.1 0 (hl.sub [3, 4, 5, 6, 7, 8, 9, 10, 11, 12, 2, 1, 0] rfl) e hp
theorem w_X0_thief_58 {l : Launch} {G : ax_G} {X : ax_X} {Q : State → Prop} {h0 h : ax_H} {ls : Array Slot} (hSF : ax_SF G) (B : ax_BL l G X cX0_thief 16 RX0 140 3567) (Z : ax_Z X h0 ((some FieldType.int))) (hn : X.2.2.2.2.2.2.2.2.1.name = yX0_thief.name) (x0 : Option Nat) (x1 : Int) (x2 : Int) (x3 : Int) (x4 : Int) (x5 : Int) (x6 : Int) (x7 : Int) (x8 : Int) (x9 : Option Nat) (x10 : Int) {w : Int × ax_H} (hl : ax_hl ls 16 [(0, .inr (.inr x0)), (1, .inl x1), (2, .inl x2), (3, .inl x3), (4, .inl x4), (5, .inl x5), (6, .inl x6), (7, .inl x7), (8, .inl x8), (9, .inr (.inr x9)), (10, .inl x10)]) (e : f_X0_thief_58 G.2.2 x0 x1 x2 x3 x4 x5 x6 x7 x8 x9 x10 h = some w) (hp : (fun w : Int × ax_H => Q = ax_Q G X h0 w.2 (some (.int (Int32.ofInt w.1)))) w) : ax_W G X Q h 58 ls [] :=
  ax_iter_W (Pin := pi_X0_thief_58 G X Q x0 x1 x2 x3 x4 x5 x7 x8 x9) (Pout := (fun w : Int × ax_H => Q = ax_Q G X h0 w.2 (some (.int (Int32.ofInt w.1))))) (fun s w e hp ls hl => wb_X0_thief_58 hSF B Z hn x0 x1 x2 x3 x4 x5 s.1 x7 x8 x9 s.2.1 hl e hp) _ _ e hp ls hl
set_option maxHeartbeats 4000000 in
theorem we_X0_thief {l : Launch} {G : ax_G} {X : ax_X} {Q : State → Prop} {h0 h : ax_H} {ls : Array Slot} (hSF : ax_SF G) (B : ax_BL l G X cX0_thief 16 RX0 140 3567) (Z : ax_Z X h0 ((some FieldType.int))) (hn : X.2.2.2.2.2.2.2.2.1.name = yX0_thief.name) (x0 : Option Nat) (x1 : Int) (x2 : Int) (x3 : Int) (x4 : Int) {w : Int × ax_H} (hl : ax_hl ls 16 [(0, .inr (.inr x0)), (1, .inl x1), (2, .inl x2), (3, .inl x3), (4, .inl x4)]) (e : f_X0_thief G.2.2 x0 x1 x2 x3 x4 h = some w) (hp : (fun w : Int × ax_H => Q = ax_Q G X h0 w.2 (some (.int (Int32.ofInt w.1)))) w) : ax_W G X Q h 0 ls [] := by
  unfold f_X0_thief at e
  refine ax_aload_n B dX0_thief_0 rfl hl 0 rfl ?_
  refine ax_iload_n B dX0_thief_1 rfl hl 1 rfl ?_
  refine ax_iload_n B dX0_thief_2 rfl hl 2 rfl ?_
  refine ax_ivI (y := yX0_areTwo) (n := 2) (As := [.int (Int32.ofInt x1), .int (Int32.ofInt x2)]) B kd0 (lw_V q609 q566 qs13 q125 q567) (by decide +kernel) ⟨Nat.le_of_ble_eq_true rfl, Nat.le_of_ble_eq_true rfl⟩ (fun w1 e1 => mt_X0_areTwo l G hSF x0 x1 x2 _ w1 e1) rfl hl.size (by decide) dX0_thief_3 e (fun q1 e => ?_)
  refine ax_if_eq (tgt := 27) B dX0_thief_6 (by decide) e (fun e => ?_) (fun e => ?_)
  · exact w_X0_thief_27 hSF B Z hn (hl.sub [] rfl) e hp
  · refine ax_iload_n B dX0_thief_9 rfl hl 3 rfl ?_
    refine ax_isI (y := yX0_isRoom) (n := 1) (As := [.int (Int32.ofInt x3)]) B (lw_S q431 q432 q125 q433) (by decide +kernel) ⟨Nat.le_of_ble_eq_true rfl, Nat.le_of_ble_eq_true rfl⟩ (fun w1 e1 => mt_X0_isRoom l G hSF x3 _ w1 e1) rfl hl.size (by decide) dX0_thief_10 e (fun q2 e => ?_)
    refine ax_if_eq (tgt := 27) B dX0_thief_13 (by decide) e (fun e => ?_) (fun e => ?_)
    · exact w_X0_thief_27 hSF B Z hn (hl.sub [] rfl) e hp
    · refine ax_iload B dX0_thief_16 hl 4 rfl ?_
      refine ax_i2l' B dX0_thief_18 ?_
      refine ax_lconst (v := 0) B dX0_thief_19 rfl ?_
      refine ax_lconst (v := 1) B dX0_thief_20 rfl ?_
      refine ax_isI (y := yX0_in) (n := 3) (As := [.long (Int64.ofInt (i2 x4)), .long (Int64.ofInt 0), .long (Int64.ofInt 1)]) B (lw_S q420 q421 q125 q422) (by decide +kernel) ⟨Nat.le_of_ble_eq_true rfl, Nat.le_of_ble_eq_true rfl⟩ (fun w1 e1 => mt_X0_in l G hSF (i2 x4) 0 1 _ w1 e1) rfl hl.size (by decide) dX0_thief_21 e (fun q3 e => ?_)
      refine ax_if_ne (tgt := 29) B dX0_thief_24 (by decide) e (fun e => ?_) (fun e => ?_)
      · exact w_X0_thief_27 hSF B Z hn (hl.sub [] rfl) e hp
      · refine ax_aload_n B dX0_thief_29 rfl hl 0 rfl ?_
        refine ax_ivR (y := yX0_books) (n := 0) (As := []) B kd0 (lw_V q443 q445 qs2 q125 q446) (by decide +kernel) ⟨Nat.le_of_ble_eq_true rfl, Nat.le_of_ble_eq_true rfl⟩ (fun w1 e1 => mt_X0_books l G hSF x0 _ w1 e1) rfl hl.size (by decide) dX0_thief_30 e (fun q4 e => ?_)
        refine ax_getI B ff_X0_107_2 (fun _ _ => rfl) dX0_thief_33 e (fun v5 e => ?_)
        refine ax_istore (L' := [(5, .inl v5), (0, .inr (.inr x0)), (1, .inl x1), (2, .inl x2), (3, .inl x3), (4, .inl x4)]) B dX0_thief_36 hl (by decide) rfl (fun ls hl => ?_)
        refine ax_iconst B dX0_thief_38 ?_
        refine ax_istore (L' := [(6, .inl 0), (5, .inl v5), (0, .inr (.inr x0)), (1, .inl x1), (2, .inl x2), (3, .inl x3), (4, .inl x4)]) B dX0_thief_39 hl (by decide) rfl (fun ls hl => ?_)
        refine ax_ldcw B cn_X0_398 dX0_thief_41 ?_
        refine ax_istore (L' := [(7, .inl 100000000), (6, .inl 0), (5, .inl v5), (0, .inr (.inr x0)), (1, .inl x1), (2, .inl x2), (3, .inl x3), (4, .inl x4)]) B dX0_thief_44 hl (by decide) rfl (fun ls hl => ?_)
        refine ax_iconst B dX0_thief_46 ?_
        refine ax_istore (L' := [(8, .inl (-1)), (7, .inl 100000000), (6, .inl 0), (5, .inl v5), (0, .inr (.inr x0)), (1, .inl x1), (2, .inl x2), (3, .inl x3), (4, .inl x4)]) B dX0_thief_47 hl (by decide) rfl (fun ls hl => ?_)
        refine ax_bipush B dX0_thief_49 (by decide) ?_
        refine ax_newa (atype := .int) B kd100 q259 rfl (by decide) dX0_thief_51 e (fun q6 e => ?_)
        refine ax_astore (L' := [(9, .inr (.inr (some q6.1))), (8, .inl (-1)), (7, .inl 100000000), (6, .inl 0), (5, .inl v5), (0, .inr (.inr x0)), (1, .inl x1), (2, .inl x2), (3, .inl x3), (4, .inl x4)]) B dX0_thief_53 hl (by decide) rfl (fun ls hl => ?_)
        refine ax_iconst B dX0_thief_55 ?_
        refine ax_istore (L' := [(10, .inl 0), (9, .inr (.inr (some q6.1))), (8, .inl (-1)), (7, .inl 100000000), (6, .inl 0), (5, .inl v5), (0, .inr (.inr x0)), (1, .inl x1), (2, .inl x2), (3, .inl x3), (4, .inl x4)]) B dX0_thief_56 hl (by decide) rfl (fun ls hl => ?_)
        exact w_X0_thief_58 hSF B Z hn x0 x1 x2 x3 x4 v5 0 100000000 (-1) (some q6.1) 0 (hl.sub [6, 7, 8, 9, 10, 5, 4, 3, 2, 1, 0] rfl) e hp
theorem mt_X0_thief (l : Launch) (G : ax_G) (hSF : ax_SF G) (x0 : Option Nat) (x1 : Int) (x2 : Int) (x3 : Int) (x4 : Int) (h : ax_H) (w : Int × ax_H) (e : f_X0_thief G.2.2 x0 x1 x2 x3 x4 h = some w) : ax_Met l G yX0_thief cX0_thief 16 ((some FieldType.int)) 140 3567 [va_rf x0, .int (Int32.ofInt x1), .int (Int32.ofInt x2), .int (Int32.ofInt x3), .int (Int32.ofInt x4)] h w.2 (some (.int (Int32.ofInt w.1))) :=
  ax_enter [.inr (.inr x0), .inl x1, .inl x2, .inl x3, .inl x4] (y := yX0_thief) hSF (plainFor_of_name (by decide +kernel)) (Nat.le_of_ble_eq_true rfl) (fun X ls B Z hn hl => we_X0_thief hSF B Z hn x0 x1 x2 x3 x4 hl e rfl)
def dkwX0_shutOf_2 : List UInt8 := [180, 0, 194, 182, 1, 17, 29, 162, 0, 6, 21, 6, 172, 132, 6, 1, 167, 255, 219, 2, 172]
abbrev dktX0_shutOf_2 : List UInt8 := dkwX0_shutOf_2 ++ []
def dkwX0_shutOf_1 : List UInt8 := [54, 6, 21, 6, 21, 4, 163, 0, 36, 42, 27, 28, 21, 4, 21, 6, 100, 21, 5, 42, 182, 0, 104]
abbrev dktX0_shutOf_1 : List UInt8 := dkwX0_shutOf_1 ++ dktX0_shutOf_2
def dkwX0_shutOf_0 : List UInt8 := [42, 182, 0, 104, 27, 28, 182, 0, 187, 54, 4, 42, 182, 0, 104, 28, 27, 182, 0, 187, 54, 5, 3]
abbrev dktX0_shutOf_0 : List UInt8 := dkwX0_shutOf_0 ++ dktX0_shutOf_1
theorem dksX0_shutOf_0 : cX0_shutOf.data.toList.drop 0 = dktX0_shutOf_0 := by decide +kernel
theorem dksX0_shutOf_1 : cX0_shutOf.data.toList.drop 23 = dktX0_shutOf_1 := dk_seg dksX0_shutOf_0 23 rfl rfl
theorem dksX0_shutOf_2 : cX0_shutOf.data.toList.drop 46 = dktX0_shutOf_2 := dk_seg dksX0_shutOf_1 23 rfl rfl
theorem dX0_shutOf_0 : decode cX0_shutOf 0 = .ok (.aload_n 0, 1) := dk_42 (dk_at dksX0_shutOf_0 0 rfl rfl)
theorem dX0_shutOf_1 : decode cX0_shutOf 1 = .ok (.invokevirtual 104, 3) := dk_182 0 104 (dk_at dksX0_shutOf_0 1 rfl rfl)
theorem dX0_shutOf_4 : decode cX0_shutOf 4 = .ok (.iload_n 1, 1) := dk_27 (dk_at dksX0_shutOf_0 4 rfl rfl)
theorem dX0_shutOf_5 : decode cX0_shutOf 5 = .ok (.iload_n 2, 1) := dk_28 (dk_at dksX0_shutOf_0 5 rfl rfl)
theorem dX0_shutOf_6 : decode cX0_shutOf 6 = .ok (.invokevirtual 187, 3) := dk_182 0 187 (dk_at dksX0_shutOf_0 6 rfl rfl)
theorem dX0_shutOf_9 : decode cX0_shutOf 9 = .ok (.istore 4, 2) := dk_54 4 (dk_at dksX0_shutOf_0 9 rfl rfl)
theorem dX0_shutOf_11 : decode cX0_shutOf 11 = .ok (.aload_n 0, 1) := dk_42 (dk_at dksX0_shutOf_0 11 rfl rfl)
theorem dX0_shutOf_12 : decode cX0_shutOf 12 = .ok (.invokevirtual 104, 3) := dk_182 0 104 (dk_at dksX0_shutOf_0 12 rfl rfl)
theorem dX0_shutOf_15 : decode cX0_shutOf 15 = .ok (.iload_n 2, 1) := dk_28 (dk_at dksX0_shutOf_0 15 rfl rfl)
theorem dX0_shutOf_16 : decode cX0_shutOf 16 = .ok (.iload_n 1, 1) := dk_27 (dk_at dksX0_shutOf_0 16 rfl rfl)
theorem dX0_shutOf_17 : decode cX0_shutOf 17 = .ok (.invokevirtual 187, 3) := dk_182 0 187 (dk_at dksX0_shutOf_0 17 rfl rfl)
theorem dX0_shutOf_20 : decode cX0_shutOf 20 = .ok (.istore 5, 2) := dk_54 5 (dk_at dksX0_shutOf_0 20 rfl rfl)
theorem dX0_shutOf_22 : decode cX0_shutOf 22 = .ok (.iconst 0, 1) := dk_3 (dk_at dksX0_shutOf_0 22 rfl rfl)
theorem dX0_shutOf_23 : decode cX0_shutOf 23 = .ok (.istore 6, 2) := dk_54 6 (dk_at dksX0_shutOf_1 0 rfl rfl)
theorem dX0_shutOf_25 : decode cX0_shutOf 25 = .ok (.iload 6, 2) := dk_21 6 (dk_at dksX0_shutOf_1 2 rfl rfl)
theorem dX0_shutOf_27 : decode cX0_shutOf 27 = .ok (.iload 4, 2) := dk_21 4 (dk_at dksX0_shutOf_1 4 rfl rfl)
theorem dX0_shutOf_29 : decode cX0_shutOf 29 = .ok (.if_icmp .gt 36, 3) := dk_163 0 36 (dk_at dksX0_shutOf_1 6 rfl rfl)
theorem dX0_shutOf_32 : decode cX0_shutOf 32 = .ok (.aload_n 0, 1) := dk_42 (dk_at dksX0_shutOf_1 9 rfl rfl)
theorem dX0_shutOf_33 : decode cX0_shutOf 33 = .ok (.iload_n 1, 1) := dk_27 (dk_at dksX0_shutOf_1 10 rfl rfl)
theorem dX0_shutOf_34 : decode cX0_shutOf 34 = .ok (.iload_n 2, 1) := dk_28 (dk_at dksX0_shutOf_1 11 rfl rfl)
theorem dX0_shutOf_35 : decode cX0_shutOf 35 = .ok (.iload 4, 2) := dk_21 4 (dk_at dksX0_shutOf_1 12 rfl rfl)
theorem dX0_shutOf_37 : decode cX0_shutOf 37 = .ok (.iload 6, 2) := dk_21 6 (dk_at dksX0_shutOf_1 14 rfl rfl)
theorem dX0_shutOf_39 : decode cX0_shutOf 39 = .ok (.isub, 1) := dk_100 (dk_at dksX0_shutOf_1 16 rfl rfl)
theorem dX0_shutOf_40 : decode cX0_shutOf 40 = .ok (.iload 5, 2) := dk_21 5 (dk_at dksX0_shutOf_1 17 rfl rfl)
theorem dX0_shutOf_42 : decode cX0_shutOf 42 = .ok (.aload_n 0, 1) := dk_42 (dk_at dksX0_shutOf_1 19 rfl rfl)
theorem dX0_shutOf_43 : decode cX0_shutOf 43 = .ok (.invokevirtual 104, 3) := dk_182 0 104 (dk_at dksX0_shutOf_1 20 rfl rfl)
theorem dX0_shutOf_46 : decode cX0_shutOf 46 = .ok (.getfield 194, 3) := dk_180 0 194 (dk_at dksX0_shutOf_2 0 rfl rfl)
theorem dX0_shutOf_49 : decode cX0_shutOf 49 = .ok (.invokevirtual 273, 3) := dk_182 1 17 (dk_at dksX0_shutOf_2 3 rfl rfl)
theorem dX0_shutOf_52 : decode cX0_shutOf 52 = .ok (.iload_n 3, 1) := dk_29 (dk_at dksX0_shutOf_2 6 rfl rfl)
theorem dX0_shutOf_53 : decode cX0_shutOf 53 = .ok (.if_icmp .ge 6, 3) := dk_162 0 6 (dk_at dksX0_shutOf_2 7 rfl rfl)
theorem dX0_shutOf_56 : decode cX0_shutOf 56 = .ok (.iload 6, 2) := dk_21 6 (dk_at dksX0_shutOf_2 10 rfl rfl)
theorem dX0_shutOf_58 : decode cX0_shutOf 58 = .ok (.ireturn, 1) := dk_172 (dk_at dksX0_shutOf_2 12 rfl rfl)
theorem dX0_shutOf_59 : decode cX0_shutOf 59 = .ok (.iinc 6 1, 3) := dk_132 6 1 (dk_at dksX0_shutOf_2 13 rfl rfl)
theorem dX0_shutOf_62 : decode cX0_shutOf 62 = .ok (.goto (-37), 3) := dk_167 255 219 (dk_at dksX0_shutOf_2 16 rfl rfl)
theorem dX0_shutOf_65 : decode cX0_shutOf 65 = .ok (.iconst (-1), 1) := dk_2 (dk_at dksX0_shutOf_2 19 rfl rfl)
theorem dX0_shutOf_66 : decode cX0_shutOf 66 = .ok (.ireturn, 1) := dk_172 (dk_at dksX0_shutOf_2 20 rfl rfl)
noncomputable def lb_X0_shutOf_25 (E : ax_E) (x0 : Option Nat) (x1 : Int) (x2 : Int) (x3 : Int) (x4 : Int) (x5 : Int) (x6 : Int) (h : ax_H) : Option ((Int × ax_H) ⊕ (Int × ax_H)) :=
  if i2 x4 < i2 x6 then
    (some ((-1), h)).map Sum.inr
  else
    (ax_ce E h x0 0).bind fun _ => (f_X0_books E x0 h).bind fun q1 =>
    (ax_gI E q1.2 q1.1 2 6).bind fun v2 =>
    (ax_ce E q1.2 x0 0).bind fun _ => (f_X0_deepBy E x0 x1 x2 (x4 - x6) x5 v2 q1.2).bind fun q3 =>
    if i2 q3.1 < i2 x3 then
      (some (x6, q3.2)).map Sum.inr
    else
      some (.inl ((x6 + 1), q3.2))
noncomputable def f_X0_shutOf_25 (E : ax_E) (x0 : Option Nat) (x1 : Int) (x2 : Int) (x3 : Int) (x4 : Int) (x5 : Int) (x6 : Int) (h : ax_H) : Option (Int × ax_H) :=
  ax_iter (fun s : Int × ax_H => lb_X0_shutOf_25 E x0 x1 x2 x3 x4 x5 s.1 s.2) (x6, h)
noncomputable def f_X0_shutOf (E : ax_E) (x0 : Option Nat) (x1 : Int) (x2 : Int) (x3 : Int) (h : ax_H) : Option (Int × ax_H) :=
  (ax_ce E h x0 0).bind fun _ => (f_X0_books E x0 h).bind fun q1 =>
  (ax_ce E q1.2 q1.1 2).bind fun _ => (f_X2_owes E q1.1 x1 x2 q1.2).bind fun q2 =>
  (ax_ce E q2.2 x0 0).bind fun _ => (f_X0_books E x0 q2.2).bind fun q3 =>
  (ax_ce E q3.2 q3.1 2).bind fun _ => (f_X2_owes E q3.1 x2 x1 q3.2).bind fun q4 =>
  f_X0_shutOf_25 E x0 x1 x2 x3 q2.1 q4.1 0 q4.2
def pi_X0_shutOf_25 (G : ax_G) (X : ax_X) (Q : State → Prop) (x0 : Option Nat) (x1 : Int) (x2 : Int) (x3 : Int) (x4 : Int) (x5 : Int) : Int × ax_H → Prop := fun s => ∀ ls : Array Slot, ax_hl ls 7 [(0, .inr (.inr x0)), (1, .inl x1), (2, .inl x2), (3, .inl x3), (4, .inl x4), (5, .inl x5), (6, .inl s.1)] → ax_W G X Q s.2 25 ls []
set_option maxHeartbeats 4000000 in
theorem wb_X0_shutOf_25 {l : Launch} {G : ax_G} {X : ax_X} {Q : State → Prop} {h0 h : ax_H} {ls : Array Slot} (hSF : ax_SF G) (B : ax_BL l G X cX0_shutOf 7 RX0 139 3544) (Z : ax_Z X h0 ((some FieldType.int))) (hn : X.2.2.2.2.2.2.2.2.1.name = yX0_shutOf.name) (x0 : Option Nat) (x1 : Int) (x2 : Int) (x3 : Int) (x4 : Int) (x5 : Int) (x6 : Int) {w : (Int × ax_H) ⊕ (Int × ax_H)} (hl : ax_hl ls 7 [(0, .inr (.inr x0)), (1, .inl x1), (2, .inl x2), (3, .inl x3), (4, .inl x4), (5, .inl x5), (6, .inl x6)]) (e : lb_X0_shutOf_25 G.2.2 x0 x1 x2 x3 x4 x5 x6 h = some w) (hp : (ax_PL (pi_X0_shutOf_25 G X Q x0 x1 x2 x3 x4 x5) (fun w : Int × ax_H => Q = ax_Q G X h0 w.2 (some (.int (Int32.ofInt w.1))))) w) : ax_W G X Q h 25 ls [] := by
  unfold lb_X0_shutOf_25 at e
  refine ax_iload B dX0_shutOf_25 hl 6 rfl ?_
  refine ax_iload B dX0_shutOf_27 hl 4 rfl ?_
  refine ax_icmp_gt (tgt := 65) B dX0_shutOf_29 (by decide) e (fun e => ?_) (fun e => ?_)
  · obtain ⟨w, e9_1, rfl⟩ := Option.map_eq_some_iff.mp e
    have e := e9_1
    refine ax_iconst B dX0_shutOf_65 ?_
    have e8 := e
    have hp : Q = _ := hp
    subst hp
    exact ax_ireturn B Z dX0_shutOf_66 e8
  · refine ax_aload_n B dX0_shutOf_32 rfl hl 0 rfl ?_
    refine ax_iload_n B dX0_shutOf_33 rfl hl 1 rfl ?_
    refine ax_iload_n B dX0_shutOf_34 rfl hl 2 rfl ?_
    refine ax_iload B dX0_shutOf_35 hl 4 rfl ?_
    refine ax_iload B dX0_shutOf_37 hl 6 rfl ?_
    refine ax_isub' B dX0_shutOf_39 ?_
    refine ax_iload B dX0_shutOf_40 hl 5 rfl ?_
    refine ax_aload_n B dX0_shutOf_42 rfl hl 0 rfl ?_
    refine ax_ivR (y := yX0_books) (n := 0) (As := []) B kd0 (lw_V q443 q445 qs2 q125 q446) (by decide +kernel) ⟨Nat.le_of_ble_eq_true rfl, Nat.le_of_ble_eq_true rfl⟩ (fun w1 e1 => mt_X0_books l G hSF x0 _ w1 e1) rfl hl.size (by simp only [List.map_cons, List.map_nil, List.sum_cons, List.sum_nil, va_rf_cat, ax_catI, ax_catL]; decide) dX0_shutOf_43 e (fun q1 e => ?_)
    refine ax_getI B ff_X0_194_2 (fun _ _ => rfl) dX0_shutOf_46 e (fun v2 e => ?_)
    refine ax_ivI (y := yX0_deepBy) (n := 5) (As := [.int (Int32.ofInt x1), .int (Int32.ofInt x2), .int (Int32.ofInt (x4 - x6)), .int (Int32.ofInt x5), .int (Int32.ofInt v2)]) B kd0 (lw_V q1334 q1336 qs23 q125 q1337) (by decide +kernel) ⟨Nat.le_of_ble_eq_true rfl, Nat.le_of_ble_eq_true rfl⟩ (fun w1 e1 => mt_X0_deepBy l G hSF x0 x1 x2 (x4 - x6) x5 v2 _ w1 e1) rfl hl.size (by decide) dX0_shutOf_49 e (fun q3 e => ?_)
    refine ax_iload_n B dX0_shutOf_52 rfl hl 3 rfl ?_
    refine ax_icmp_ge (tgt := 59) B dX0_shutOf_53 (by decide) e (fun e => ?_) (fun e => ?_)
    · obtain ⟨w, e9_2, rfl⟩ := Option.map_eq_some_iff.mp e
      have e := e9_2
      refine ax_iload B dX0_shutOf_56 hl 6 rfl ?_
      have e8 := e
      have hp : Q = _ := hp
      subst hp
      exact ax_ireturn B Z dX0_shutOf_58 e8
    · refine ax_iinc (L' := [(6, .inl (x6 + 1)), (0, .inr (.inr x0)), (1, .inl x1), (2, .inl x2), (3, .inl x3), (4, .inl x4), (5, .inl x5)]) B dX0_shutOf_59 hl 6 rfl (by decide) rfl (fun ls hl => ?_)
      refine ax_goto (tgt := 25) B dX0_shutOf_62 (by decide) ?_
      cases e
      exact hp _ (hl.sub [1, 2, 3, 4, 5, 6, 0] rfl)
theorem w_X0_shutOf_25 {l : Launch} {G : ax_G} {X : ax_X} {Q : State → Prop} {h0 h : ax_H} {ls : Array Slot} (hSF : ax_SF G) (B : ax_BL l G X cX0_shutOf 7 RX0 139 3544) (Z : ax_Z X h0 ((some FieldType.int))) (hn : X.2.2.2.2.2.2.2.2.1.name = yX0_shutOf.name) (x0 : Option Nat) (x1 : Int) (x2 : Int) (x3 : Int) (x4 : Int) (x5 : Int) (x6 : Int) {w : Int × ax_H} (hl : ax_hl ls 7 [(0, .inr (.inr x0)), (1, .inl x1), (2, .inl x2), (3, .inl x3), (4, .inl x4), (5, .inl x5), (6, .inl x6)]) (e : f_X0_shutOf_25 G.2.2 x0 x1 x2 x3 x4 x5 x6 h = some w) (hp : (fun w : Int × ax_H => Q = ax_Q G X h0 w.2 (some (.int (Int32.ofInt w.1)))) w) : ax_W G X Q h 25 ls [] :=
  ax_iter_W (Pin := pi_X0_shutOf_25 G X Q x0 x1 x2 x3 x4 x5) (Pout := (fun w : Int × ax_H => Q = ax_Q G X h0 w.2 (some (.int (Int32.ofInt w.1))))) (fun s w e hp ls hl => wb_X0_shutOf_25 hSF B Z hn x0 x1 x2 x3 x4 x5 s.1 hl e hp) _ _ e hp ls hl
set_option maxHeartbeats 4000000 in
theorem we_X0_shutOf {l : Launch} {G : ax_G} {X : ax_X} {Q : State → Prop} {h0 h : ax_H} {ls : Array Slot} (hSF : ax_SF G) (B : ax_BL l G X cX0_shutOf 7 RX0 139 3544) (Z : ax_Z X h0 ((some FieldType.int))) (hn : X.2.2.2.2.2.2.2.2.1.name = yX0_shutOf.name) (x0 : Option Nat) (x1 : Int) (x2 : Int) (x3 : Int) {w : Int × ax_H} (hl : ax_hl ls 7 [(0, .inr (.inr x0)), (1, .inl x1), (2, .inl x2), (3, .inl x3)]) (e : f_X0_shutOf G.2.2 x0 x1 x2 x3 h = some w) (hp : (fun w : Int × ax_H => Q = ax_Q G X h0 w.2 (some (.int (Int32.ofInt w.1)))) w) : ax_W G X Q h 0 ls [] := by
  unfold f_X0_shutOf at e
  refine ax_aload_n B dX0_shutOf_0 rfl hl 0 rfl ?_
  refine ax_ivR (y := yX0_books) (n := 0) (As := []) B kd0 (lw_V q443 q445 qs2 q125 q446) (by decide +kernel) ⟨Nat.le_of_ble_eq_true rfl, Nat.le_of_ble_eq_true rfl⟩ (fun w1 e1 => mt_X0_books l G hSF x0 _ w1 e1) rfl hl.size (by decide) dX0_shutOf_1 e (fun q1 e => ?_)
  refine ax_iload_n B dX0_shutOf_4 rfl hl 1 rfl ?_
  refine ax_iload_n B dX0_shutOf_5 rfl hl 2 rfl ?_
  refine ax_ivI (y := yX2_owes) (n := 2) (As := [.int (Int32.ofInt x1), .int (Int32.ofInt x2)]) B kd2 (lw_V q507 q508 q509 q130 q510) (by decide +kernel) ⟨Nat.le_of_ble_eq_true rfl, Nat.le_of_ble_eq_true rfl⟩ (fun w1 e1 => mt_X2_owes l G hSF q1.1 x1 x2 _ w1 e1) rfl hl.size (by decide) dX0_shutOf_6 e (fun q2 e => ?_)
  refine ax_istore (L' := [(4, .inl q2.1), (0, .inr (.inr x0)), (1, .inl x1), (2, .inl x2), (3, .inl x3)]) B dX0_shutOf_9 hl (by decide) rfl (fun ls hl => ?_)
  refine ax_aload_n B dX0_shutOf_11 rfl hl 1 rfl ?_
  refine ax_ivR (y := yX0_books) (n := 0) (As := []) B kd0 (lw_V q443 q445 qs2 q125 q446) (by decide +kernel) ⟨Nat.le_of_ble_eq_true rfl, Nat.le_of_ble_eq_true rfl⟩ (fun w1 e1 => mt_X0_books l G hSF x0 _ w1 e1) rfl hl.size (by decide) dX0_shutOf_12 e (fun q3 e => ?_)
  refine ax_iload_n B dX0_shutOf_15 rfl hl 3 rfl ?_
  refine ax_iload_n B dX0_shutOf_16 rfl hl 2 rfl ?_
  refine ax_ivI (y := yX2_owes) (n := 2) (As := [.int (Int32.ofInt x2), .int (Int32.ofInt x1)]) B kd2 (lw_V q507 q508 q509 q130 q510) (by decide +kernel) ⟨Nat.le_of_ble_eq_true rfl, Nat.le_of_ble_eq_true rfl⟩ (fun w1 e1 => mt_X2_owes l G hSF q3.1 x2 x1 _ w1 e1) rfl hl.size (by decide) dX0_shutOf_17 e (fun q4 e => ?_)
  refine ax_istore (L' := [(5, .inl q4.1), (4, .inl q2.1), (0, .inr (.inr x0)), (1, .inl x1), (2, .inl x2), (3, .inl x3)]) B dX0_shutOf_20 hl (by decide) rfl (fun ls hl => ?_)
  refine ax_iconst B dX0_shutOf_22 ?_
  refine ax_istore (L' := [(6, .inl 0), (5, .inl q4.1), (4, .inl q2.1), (0, .inr (.inr x0)), (1, .inl x1), (2, .inl x2), (3, .inl x3)]) B dX0_shutOf_23 hl (by decide) rfl (fun ls hl => ?_)
  exact w_X0_shutOf_25 hSF B Z hn x0 x1 x2 x3 q2.1 q4.1 0 (hl.sub [3, 4, 5, 6, 2, 1, 0] rfl) e hp
theorem mt_X0_shutOf (l : Launch) (G : ax_G) (hSF : ax_SF G) (x0 : Option Nat) (x1 : Int) (x2 : Int) (x3 : Int) (h : ax_H) (w : Int × ax_H) (e : f_X0_shutOf G.2.2 x0 x1 x2 x3 h = some w) : ax_Met l G yX0_shutOf cX0_shutOf 7 ((some FieldType.int)) 139 3544 [va_rf x0, .int (Int32.ofInt x1), .int (Int32.ofInt x2), .int (Int32.ofInt x3)] h w.2 (some (.int (Int32.ofInt w.1))) :=
  ax_enter [.inr (.inr x0), .inl x1, .inl x2, .inl x3] (y := yX0_shutOf) hSF (plainFor_of_name (by decide +kernel)) (Nat.le_of_ble_eq_true rfl) (fun X ls B Z hn hl => we_X0_shutOf hSF B Z hn x0 x1 x2 x3 hl e rfl)
def dkwX0_shut_1 : List UInt8 := [167, 0, 4, 2, 172]
abbrev dktX0_shut_1 : List UInt8 := dkwX0_shut_1 ++ []
def dkwX0_shut_0 : List UInt8 := [42, 27, 28, 182, 0, 184, 153, 0, 20, 29, 184, 0, 121, 153, 0, 13, 42, 27, 28, 29, 182, 1, 150]
abbrev dktX0_shut_0 : List UInt8 := dkwX0_shut_0 ++ dktX0_shut_1
theorem dksX0_shut_0 : cX0_shut.data.toList.drop 0 = dktX0_shut_0 := by decide +kernel
theorem dksX0_shut_1 : cX0_shut.data.toList.drop 23 = dktX0_shut_1 := dk_seg dksX0_shut_0 23 rfl rfl
theorem dX0_shut_0 : decode cX0_shut 0 = .ok (.aload_n 0, 1) := dk_42 (dk_at dksX0_shut_0 0 rfl rfl)
theorem dX0_shut_1 : decode cX0_shut 1 = .ok (.iload_n 1, 1) := dk_27 (dk_at dksX0_shut_0 1 rfl rfl)
theorem dX0_shut_2 : decode cX0_shut 2 = .ok (.iload_n 2, 1) := dk_28 (dk_at dksX0_shut_0 2 rfl rfl)
theorem dX0_shut_3 : decode cX0_shut 3 = .ok (.invokevirtual 184, 3) := dk_182 0 184 (dk_at dksX0_shut_0 3 rfl rfl)
theorem dX0_shut_6 : decode cX0_shut 6 = .ok (.ifCond .eq 20, 3) := dk_153 0 20 (dk_at dksX0_shut_0 6 rfl rfl)
theorem dX0_shut_9 : decode cX0_shut 9 = .ok (.iload_n 3, 1) := dk_29 (dk_at dksX0_shut_0 9 rfl rfl)
theorem dX0_shut_10 : decode cX0_shut 10 = .ok (.invokestatic 121, 3) := dk_184 0 121 (dk_at dksX0_shut_0 10 rfl rfl)
theorem dX0_shut_13 : decode cX0_shut 13 = .ok (.ifCond .eq 13, 3) := dk_153 0 13 (dk_at dksX0_shut_0 13 rfl rfl)
theorem dX0_shut_16 : decode cX0_shut 16 = .ok (.aload_n 0, 1) := dk_42 (dk_at dksX0_shut_0 16 rfl rfl)
theorem dX0_shut_17 : decode cX0_shut 17 = .ok (.iload_n 1, 1) := dk_27 (dk_at dksX0_shut_0 17 rfl rfl)
theorem dX0_shut_18 : decode cX0_shut 18 = .ok (.iload_n 2, 1) := dk_28 (dk_at dksX0_shut_0 18 rfl rfl)
theorem dX0_shut_19 : decode cX0_shut 19 = .ok (.iload_n 3, 1) := dk_29 (dk_at dksX0_shut_0 19 rfl rfl)
theorem dX0_shut_20 : decode cX0_shut 20 = .ok (.invokevirtual 406, 3) := dk_182 1 150 (dk_at dksX0_shut_0 20 rfl rfl)
theorem dX0_shut_23 : decode cX0_shut 23 = .ok (.goto 4, 3) := dk_167 0 4 (dk_at dksX0_shut_1 0 rfl rfl)
theorem dX0_shut_26 : decode cX0_shut 26 = .ok (.iconst (-1), 1) := dk_2 (dk_at dksX0_shut_1 3 rfl rfl)
theorem dX0_shut_27 : decode cX0_shut 27 = .ok (.ireturn, 1) := dk_172 (dk_at dksX0_shut_1 4 rfl rfl)
noncomputable def f_X0_shut_26 (E : ax_E) (h : ax_H) : Option (Int × ax_H) :=
  some ((-1), h)
noncomputable def f_X0_shut (E : ax_E) (x0 : Option Nat) (x1 : Int) (x2 : Int) (x3 : Int) (h : ax_H) : Option (Int × ax_H) :=
  (ax_ce E h x0 0).bind fun _ => (f_X0_areTwo E x0 x1 x2 h).bind fun q1 =>
  if i2 q1.1 = 0 then
    f_X0_shut_26 E q1.2
  else
    (f_X0_isRoom E x3 q1.2).bind fun q2 =>
    if i2 q2.1 = 0 then
      f_X0_shut_26 E q2.2
    else
      (ax_ce E q2.2 x0 0).bind fun _ => (f_X0_shutOf E x0 x1 x2 x3 q2.2).bind fun q3 =>
      some (q3.1, q3.2)
set_option maxHeartbeats 4000000 in
theorem w_X0_shut_26 {l : Launch} {G : ax_G} {X : ax_X} {Q : State → Prop} {h0 h : ax_H} {ls : Array Slot} (hSF : ax_SF G) (B : ax_BL l G X cX0_shut 4 RX0 140 3570) (Z : ax_Z X h0 ((some FieldType.int))) (hn : X.2.2.2.2.2.2.2.2.1.name = yX0_shut.name) {w : Int × ax_H} (hl : ax_hl ls 4 []) (e : f_X0_shut_26 G.2.2 h = some w) (hp : (fun w : Int × ax_H => Q = ax_Q G X h0 w.2 (some (.int (Int32.ofInt w.1)))) w) : ax_W G X Q h 26 ls [] := by
  unfold f_X0_shut_26 at e
  refine ax_iconst B dX0_shut_26 ?_
  have e8 := e
  have hp : Q = _ := hp
  subst hp
  exact ax_ireturn B Z dX0_shut_27 e8
set_option maxHeartbeats 4000000 in
theorem we_X0_shut {l : Launch} {G : ax_G} {X : ax_X} {Q : State → Prop} {h0 h : ax_H} {ls : Array Slot} (hSF : ax_SF G) (B : ax_BL l G X cX0_shut 4 RX0 140 3570) (Z : ax_Z X h0 ((some FieldType.int))) (hn : X.2.2.2.2.2.2.2.2.1.name = yX0_shut.name) (x0 : Option Nat) (x1 : Int) (x2 : Int) (x3 : Int) {w : Int × ax_H} (hl : ax_hl ls 4 [(0, .inr (.inr x0)), (1, .inl x1), (2, .inl x2), (3, .inl x3)]) (e : f_X0_shut G.2.2 x0 x1 x2 x3 h = some w) (hp : (fun w : Int × ax_H => Q = ax_Q G X h0 w.2 (some (.int (Int32.ofInt w.1)))) w) : ax_W G X Q h 0 ls [] := by
  unfold f_X0_shut at e
  refine ax_aload_n B dX0_shut_0 rfl hl 0 rfl ?_
  refine ax_iload_n B dX0_shut_1 rfl hl 1 rfl ?_
  refine ax_iload_n B dX0_shut_2 rfl hl 2 rfl ?_
  refine ax_ivI (y := yX0_areTwo) (n := 2) (As := [.int (Int32.ofInt x1), .int (Int32.ofInt x2)]) B kd0 (lw_V q609 q566 qs13 q125 q567) (by decide +kernel) ⟨Nat.le_of_ble_eq_true rfl, Nat.le_of_ble_eq_true rfl⟩ (fun w1 e1 => mt_X0_areTwo l G hSF x0 x1 x2 _ w1 e1) rfl hl.size (by decide) dX0_shut_3 e (fun q1 e => ?_)
  refine ax_if_eq (tgt := 26) B dX0_shut_6 (by decide) e (fun e => ?_) (fun e => ?_)
  · exact w_X0_shut_26 hSF B Z hn (hl.sub [] rfl) e hp
  · refine ax_iload_n B dX0_shut_9 rfl hl 3 rfl ?_
    refine ax_isI (y := yX0_isRoom) (n := 1) (As := [.int (Int32.ofInt x3)]) B (lw_S q431 q432 q125 q433) (by decide +kernel) ⟨Nat.le_of_ble_eq_true rfl, Nat.le_of_ble_eq_true rfl⟩ (fun w1 e1 => mt_X0_isRoom l G hSF x3 _ w1 e1) rfl hl.size (by decide) dX0_shut_10 e (fun q2 e => ?_)
    refine ax_if_eq (tgt := 26) B dX0_shut_13 (by decide) e (fun e => ?_) (fun e => ?_)
    · exact w_X0_shut_26 hSF B Z hn (hl.sub [] rfl) e hp
    · refine ax_aload_n B dX0_shut_16 rfl hl 0 rfl ?_
      refine ax_iload_n B dX0_shut_17 rfl hl 1 rfl ?_
      refine ax_iload_n B dX0_shut_18 rfl hl 2 rfl ?_
      refine ax_iload_n B dX0_shut_19 rfl hl 3 rfl ?_
      refine ax_ivI (y := yX0_shutOf) (n := 3) (As := [.int (Int32.ofInt x1), .int (Int32.ofInt x2), .int (Int32.ofInt x3)]) B kd0 (lw_V q1633 q1635 qs35 q125 q1636) (by decide +kernel) ⟨Nat.le_of_ble_eq_true rfl, Nat.le_of_ble_eq_true rfl⟩ (fun w1 e1 => mt_X0_shutOf l G hSF x0 x1 x2 x3 _ w1 e1) rfl hl.size (by decide) dX0_shut_20 e (fun q3 e => ?_)
      refine ax_goto (tgt := 27) B dX0_shut_23 (by decide) ?_
      have e8 := e
      have hp : Q = _ := hp
      subst hp
      exact ax_ireturn B Z dX0_shut_27 e8
theorem mt_X0_shut (l : Launch) (G : ax_G) (hSF : ax_SF G) (x0 : Option Nat) (x1 : Int) (x2 : Int) (x3 : Int) (h : ax_H) (w : Int × ax_H) (e : f_X0_shut G.2.2 x0 x1 x2 x3 h = some w) : ax_Met l G yX0_shut cX0_shut 4 ((some FieldType.int)) 140 3570 [va_rf x0, .int (Int32.ofInt x1), .int (Int32.ofInt x2), .int (Int32.ofInt x3)] h w.2 (some (.int (Int32.ofInt w.1))) :=
  ax_enter [.inr (.inr x0), .inl x1, .inl x2, .inl x3] (y := yX0_shut) hSF (plainFor_of_name (by decide +kernel)) (Nat.le_of_ble_eq_true rfl) (fun X ls B Z hn hl => we_X0_shut hSF B Z hn x0 x1 x2 x3 hl e rfl)
def dkwX0_ban_2 : List UInt8 := [160, 0, 5, 2, 172, 28, 21, 4, 96, 61, 132, 3, 1, 167, 255, 211, 28, 172]
abbrev dktX0_ban_2 : List UInt8 := dkwX0_ban_2 ++ []
def dkwX0_ban_1 : List UInt8 := [162, 0, 40, 29, 27, 160, 0, 7, 3, 167, 0, 10, 42, 29, 27, 4, 182, 1, 150, 54, 4, 21, 4, 2]
abbrev dktX0_ban_1 : List UInt8 := dkwX0_ban_1 ++ dktX0_ban_2
def dkwX0_ban_0 : List UInt8 := [42, 27, 182, 0, 110, 154, 0, 5, 2, 172, 3, 61, 3, 62, 29, 42, 180, 0, 20, 180, 0, 101]
abbrev dktX0_ban_0 : List UInt8 := dkwX0_ban_0 ++ dktX0_ban_1
theorem dksX0_ban_0 : cX0_ban.data.toList.drop 0 = dktX0_ban_0 := by decide +kernel
theorem dksX0_ban_1 : cX0_ban.data.toList.drop 22 = dktX0_ban_1 := dk_seg dksX0_ban_0 22 rfl rfl
theorem dksX0_ban_2 : cX0_ban.data.toList.drop 46 = dktX0_ban_2 := dk_seg dksX0_ban_1 24 rfl rfl
theorem dX0_ban_0 : decode cX0_ban 0 = .ok (.aload_n 0, 1) := dk_42 (dk_at dksX0_ban_0 0 rfl rfl)
theorem dX0_ban_1 : decode cX0_ban 1 = .ok (.iload_n 1, 1) := dk_27 (dk_at dksX0_ban_0 1 rfl rfl)
theorem dX0_ban_2 : decode cX0_ban 2 = .ok (.invokevirtual 110, 3) := dk_182 0 110 (dk_at dksX0_ban_0 2 rfl rfl)
theorem dX0_ban_5 : decode cX0_ban 5 = .ok (.ifCond .ne 5, 3) := dk_154 0 5 (dk_at dksX0_ban_0 5 rfl rfl)
theorem dX0_ban_8 : decode cX0_ban 8 = .ok (.iconst (-1), 1) := dk_2 (dk_at dksX0_ban_0 8 rfl rfl)
theorem dX0_ban_9 : decode cX0_ban 9 = .ok (.ireturn, 1) := dk_172 (dk_at dksX0_ban_0 9 rfl rfl)
theorem dX0_ban_10 : decode cX0_ban 10 = .ok (.iconst 0, 1) := dk_3 (dk_at dksX0_ban_0 10 rfl rfl)
theorem dX0_ban_11 : decode cX0_ban 11 = .ok (.istore_n 2, 1) := dk_61 (dk_at dksX0_ban_0 11 rfl rfl)
theorem dX0_ban_12 : decode cX0_ban 12 = .ok (.iconst 0, 1) := dk_3 (dk_at dksX0_ban_0 12 rfl rfl)
theorem dX0_ban_13 : decode cX0_ban 13 = .ok (.istore_n 3, 1) := dk_62 (dk_at dksX0_ban_0 13 rfl rfl)
theorem dX0_ban_14 : decode cX0_ban 14 = .ok (.iload_n 3, 1) := dk_29 (dk_at dksX0_ban_0 14 rfl rfl)
theorem dX0_ban_15 : decode cX0_ban 15 = .ok (.aload_n 0, 1) := dk_42 (dk_at dksX0_ban_0 15 rfl rfl)
theorem dX0_ban_16 : decode cX0_ban 16 = .ok (.getfield 20, 3) := dk_180 0 20 (dk_at dksX0_ban_0 16 rfl rfl)
theorem dX0_ban_19 : decode cX0_ban 19 = .ok (.getfield 101, 3) := dk_180 0 101 (dk_at dksX0_ban_0 19 rfl rfl)
theorem dX0_ban_22 : decode cX0_ban 22 = .ok (.if_icmp .ge 40, 3) := dk_162 0 40 (dk_at dksX0_ban_1 0 rfl rfl)
theorem dX0_ban_25 : decode cX0_ban 25 = .ok (.iload_n 3, 1) := dk_29 (dk_at dksX0_ban_1 3 rfl rfl)
theorem dX0_ban_26 : decode cX0_ban 26 = .ok (.iload_n 1, 1) := dk_27 (dk_at dksX0_ban_1 4 rfl rfl)
theorem dX0_ban_27 : decode cX0_ban 27 = .ok (.if_icmp .ne 7, 3) := dk_160 0 7 (dk_at dksX0_ban_1 5 rfl rfl)
theorem dX0_ban_30 : decode cX0_ban 30 = .ok (.iconst 0, 1) := dk_3 (dk_at dksX0_ban_1 8 rfl rfl)
theorem dX0_ban_31 : decode cX0_ban 31 = .ok (.goto 10, 3) := dk_167 0 10 (dk_at dksX0_ban_1 9 rfl rfl)
theorem dX0_ban_34 : decode cX0_ban 34 = .ok (.aload_n 0, 1) := dk_42 (dk_at dksX0_ban_1 12 rfl rfl)
theorem dX0_ban_35 : decode cX0_ban 35 = .ok (.iload_n 3, 1) := dk_29 (dk_at dksX0_ban_1 13 rfl rfl)
theorem dX0_ban_36 : decode cX0_ban 36 = .ok (.iload_n 1, 1) := dk_27 (dk_at dksX0_ban_1 14 rfl rfl)
theorem dX0_ban_37 : decode cX0_ban 37 = .ok (.iconst 1, 1) := dk_4 (dk_at dksX0_ban_1 15 rfl rfl)
theorem dX0_ban_38 : decode cX0_ban 38 = .ok (.invokevirtual 406, 3) := dk_182 1 150 (dk_at dksX0_ban_1 16 rfl rfl)
theorem dX0_ban_41 : decode cX0_ban 41 = .ok (.istore 4, 2) := dk_54 4 (dk_at dksX0_ban_1 19 rfl rfl)
theorem dX0_ban_43 : decode cX0_ban 43 = .ok (.iload 4, 2) := dk_21 4 (dk_at dksX0_ban_1 21 rfl rfl)
theorem dX0_ban_45 : decode cX0_ban 45 = .ok (.iconst (-1), 1) := dk_2 (dk_at dksX0_ban_1 23 rfl rfl)
theorem dX0_ban_46 : decode cX0_ban 46 = .ok (.if_icmp .ne 5, 3) := dk_160 0 5 (dk_at dksX0_ban_2 0 rfl rfl)
theorem dX0_ban_49 : decode cX0_ban 49 = .ok (.iconst (-1), 1) := dk_2 (dk_at dksX0_ban_2 3 rfl rfl)
theorem dX0_ban_50 : decode cX0_ban 50 = .ok (.ireturn, 1) := dk_172 (dk_at dksX0_ban_2 4 rfl rfl)
theorem dX0_ban_51 : decode cX0_ban 51 = .ok (.iload_n 2, 1) := dk_28 (dk_at dksX0_ban_2 5 rfl rfl)
theorem dX0_ban_52 : decode cX0_ban 52 = .ok (.iload 4, 2) := dk_21 4 (dk_at dksX0_ban_2 6 rfl rfl)
theorem dX0_ban_54 : decode cX0_ban 54 = .ok (.iadd, 1) := dk_96 (dk_at dksX0_ban_2 8 rfl rfl)
theorem dX0_ban_55 : decode cX0_ban 55 = .ok (.istore_n 2, 1) := dk_61 (dk_at dksX0_ban_2 9 rfl rfl)
theorem dX0_ban_56 : decode cX0_ban 56 = .ok (.iinc 3 1, 3) := dk_132 3 1 (dk_at dksX0_ban_2 10 rfl rfl)
theorem dX0_ban_59 : decode cX0_ban 59 = .ok (.goto (-45), 3) := dk_167 255 211 (dk_at dksX0_ban_2 13 rfl rfl)
theorem dX0_ban_62 : decode cX0_ban 62 = .ok (.iload_n 2, 1) := dk_28 (dk_at dksX0_ban_2 16 rfl rfl)
theorem dX0_ban_63 : decode cX0_ban 63 = .ok (.ireturn, 1) := dk_172 (dk_at dksX0_ban_2 17 rfl rfl)
noncomputable def f_X0_ban_41 (E : ax_E) (x0 : Option Nat) (x1 : Int) (x2 : Int) (x3 : Int) (s0 : Int) (h : ax_H) : Option ((Int × Int × ax_H) ⊕ (Int × ax_H)) :=
  if i2 s0 = i2 (-1) then
    (some ((-1), h)).map Sum.inr
  else
    some (.inl ((x2 + s0), (x3 + 1), h))
noncomputable def lb_X0_ban_14 (E : ax_E) (x0 : Option Nat) (x1 : Int) (x2 : Int) (x3 : Int) (h : ax_H) : Option ((Int × Int × ax_H) ⊕ (Int × ax_H)) :=
  (ax_gR E h x0 0 0).bind fun v1 =>
  (ax_gI E h v1 1 6).bind fun v2 =>
  if i2 x3 < i2 v2 then
    if i2 x3 = i2 x1 then
      f_X0_ban_41 E x0 x1 x2 x3 0 h
    else
      (ax_ce E h x0 0).bind fun _ => (f_X0_shutOf E x0 x3 x1 1 h).bind fun q3 =>
      f_X0_ban_41 E x0 x1 x2 x3 q3.1 q3.2
  else
    (some (x2, h)).map Sum.inr
noncomputable def f_X0_ban_14 (E : ax_E) (x0 : Option Nat) (x1 : Int) (x2 : Int) (x3 : Int) (h : ax_H) : Option (Int × ax_H) :=
  ax_iter (fun s : Int × Int × ax_H => lb_X0_ban_14 E x0 x1 s.1 s.2.1 s.2.2) (x2, x3, h)
noncomputable def f_X0_ban (E : ax_E) (x0 : Option Nat) (x1 : Int) (h : ax_H) : Option (Int × ax_H) :=
  (ax_ce E h x0 0).bind fun _ => (f_X0_isPerson E x0 x1 h).bind fun q1 =>
  if i2 q1.1 = 0 then
    some ((-1), q1.2)
  else
    f_X0_ban_14 E x0 x1 0 0 q1.2
def pi_X0_ban_14 (G : ax_G) (X : ax_X) (Q : State → Prop) (x0 : Option Nat) (x1 : Int) : Int × Int × ax_H → Prop := fun s => ∀ ls : Array Slot, ax_hl ls 5 [(0, .inr (.inr x0)), (1, .inl x1), (2, .inl s.1), (3, .inl s.2.1)] → ax_W G X Q s.2.2 14 ls []
set_option maxHeartbeats 4000000 in
theorem w_X0_ban_41 {l : Launch} {G : ax_G} {X : ax_X} {Q : State → Prop} {h0 h : ax_H} {ls : Array Slot} (hSF : ax_SF G) (B : ax_BL l G X cX0_ban 5 RX0 140 3570) (Z : ax_Z X h0 ((some FieldType.int))) (hn : X.2.2.2.2.2.2.2.2.1.name = yX0_ban.name) (x0 : Option Nat) (x1 : Int) (x2 : Int) (x3 : Int) (s0 : Int) {w : (Int × Int × ax_H) ⊕ (Int × ax_H)} (hl : ax_hl ls 5 [(0, .inr (.inr x0)), (1, .inl x1), (2, .inl x2), (3, .inl x3)]) (e : f_X0_ban_41 G.2.2 x0 x1 x2 x3 s0 h = some w) (hp : (ax_PL (pi_X0_ban_14 G X Q x0 x1) (fun w : Int × ax_H => Q = ax_Q G X h0 w.2 (some (.int (Int32.ofInt w.1))))) w) : ax_W G X Q h 41 ls [.int (Int32.ofInt s0)] := by
  unfold f_X0_ban_41 at e
  refine ax_istore (L' := [(4, .inl s0), (0, .inr (.inr x0)), (1, .inl x1), (2, .inl x2), (3, .inl x3)]) B dX0_ban_41 hl (by decide) rfl (fun ls hl => ?_)
  refine ax_iload B dX0_ban_43 hl 0 rfl ?_
  refine ax_iconst B dX0_ban_45 ?_
  refine ax_icmp_ne (tgt := 51) B dX0_ban_46 (by decide) e (fun e => ?_) (fun e => ?_)
  · obtain ⟨w, e9_1, rfl⟩ := Option.map_eq_some_iff.mp e
    have e := e9_1
    refine ax_iconst B dX0_ban_49 ?_
    have e8 := e
    have hp : Q = _ := hp
    subst hp
    exact ax_ireturn B Z dX0_ban_50 e8
  · refine ax_iload_n B dX0_ban_51 rfl hl 3 rfl ?_
    refine ax_iload B dX0_ban_52 hl 0 rfl ?_
    refine ax_iadd' B dX0_ban_54 ?_
    refine ax_istore_n (L' := [(2, .inl (x2 + s0)), (4, .inl s0), (0, .inr (.inr x0)), (1, .inl x1), (3, .inl x3)]) B dX0_ban_55 rfl hl (by decide) rfl (fun ls hl => ?_)
    refine ax_iinc (L' := [(3, .inl (x3 + 1)), (2, .inl (x2 + s0)), (4, .inl s0), (0, .inr (.inr x0)), (1, .inl x1)]) B dX0_ban_56 hl 4 rfl (by decide) rfl (fun ls hl => ?_)
    refine ax_goto (tgt := 14) B dX0_ban_59 (by decide) ?_
    cases e
    exact hp _ (hl.sub [3, 4, 1, 0] rfl)
set_option maxHeartbeats 4000000 in
theorem wb_X0_ban_14 {l : Launch} {G : ax_G} {X : ax_X} {Q : State → Prop} {h0 h : ax_H} {ls : Array Slot} (hSF : ax_SF G) (B : ax_BL l G X cX0_ban 5 RX0 140 3570) (Z : ax_Z X h0 ((some FieldType.int))) (hn : X.2.2.2.2.2.2.2.2.1.name = yX0_ban.name) (x0 : Option Nat) (x1 : Int) (x2 : Int) (x3 : Int) {w : (Int × Int × ax_H) ⊕ (Int × ax_H)} (hl : ax_hl ls 5 [(0, .inr (.inr x0)), (1, .inl x1), (2, .inl x2), (3, .inl x3)]) (e : lb_X0_ban_14 G.2.2 x0 x1 x2 x3 h = some w) (hp : (ax_PL (pi_X0_ban_14 G X Q x0 x1) (fun w : Int × ax_H => Q = ax_Q G X h0 w.2 (some (.int (Int32.ofInt w.1))))) w) : ax_W G X Q h 14 ls [] := by
  unfold lb_X0_ban_14 at e
  refine ax_iload_n B dX0_ban_14 rfl hl 3 rfl ?_
  refine ax_aload_n B dX0_ban_15 rfl hl 0 rfl ?_
  refine ax_getR B ff_X0_20_0 (fun _ _ => rfl) dX0_ban_16 e (fun v1 e => ?_)
  refine ax_getI B ff_X0_101_1 (fun _ _ => rfl) dX0_ban_19 e (fun v2 e => ?_)
  refine ax_icmp_ge (tgt := 62) B dX0_ban_22 (by decide) e (fun e => ?_) (fun e => ?_)
  · refine ax_iload_n B dX0_ban_25 rfl hl 3 rfl ?_
    refine ax_iload_n B dX0_ban_26 rfl hl 1 rfl ?_
    refine ax_icmp_ne (tgt := 34) B dX0_ban_27 (by decide) e (fun e => ?_) (fun e => ?_)
    · refine ax_iconst B dX0_ban_30 ?_
      refine ax_goto (tgt := 41) B dX0_ban_31 (by decide) ?_
      exact w_X0_ban_41 hSF B Z hn x0 x1 x2 x3 0 (hl.sub [0, 1, 2, 3] rfl) e hp
    · refine ax_aload_n B dX0_ban_34 rfl hl 0 rfl ?_
      refine ax_iload_n B dX0_ban_35 rfl hl 3 rfl ?_
      refine ax_iload_n B dX0_ban_36 rfl hl 1 rfl ?_
      refine ax_iconst B dX0_ban_37 ?_
      refine ax_ivI (y := yX0_shutOf) (n := 3) (As := [.int (Int32.ofInt x3), .int (Int32.ofInt x1), .int (Int32.ofInt 1)]) B kd0 (lw_V q1633 q1635 qs35 q125 q1636) (by decide +kernel) ⟨Nat.le_of_ble_eq_true rfl, Nat.le_of_ble_eq_true rfl⟩ (fun w1 e1 => mt_X0_shutOf l G hSF x0 x3 x1 1 _ w1 e1) rfl hl.size (by decide) dX0_ban_38 e (fun q3 e => ?_)
      exact w_X0_ban_41 hSF B Z hn x0 x1 x2 x3 q3.1 (hl.sub [0, 1, 2, 3] rfl) e hp
  · obtain ⟨w, e9_2, rfl⟩ := Option.map_eq_some_iff.mp e
    have e := e9_2
    refine ax_iload_n B dX0_ban_62 rfl hl 2 rfl ?_
    have e8 := e
    have hp : Q = _ := hp
    subst hp
    exact ax_ireturn B Z dX0_ban_63 e8
theorem w_X0_ban_14 {l : Launch} {G : ax_G} {X : ax_X} {Q : State → Prop} {h0 h : ax_H} {ls : Array Slot} (hSF : ax_SF G) (B : ax_BL l G X cX0_ban 5 RX0 140 3570) (Z : ax_Z X h0 ((some FieldType.int))) (hn : X.2.2.2.2.2.2.2.2.1.name = yX0_ban.name) (x0 : Option Nat) (x1 : Int) (x2 : Int) (x3 : Int) {w : Int × ax_H} (hl : ax_hl ls 5 [(0, .inr (.inr x0)), (1, .inl x1), (2, .inl x2), (3, .inl x3)]) (e : f_X0_ban_14 G.2.2 x0 x1 x2 x3 h = some w) (hp : (fun w : Int × ax_H => Q = ax_Q G X h0 w.2 (some (.int (Int32.ofInt w.1)))) w) : ax_W G X Q h 14 ls [] :=
  ax_iter_W (Pin := pi_X0_ban_14 G X Q x0 x1) (Pout := (fun w : Int × ax_H => Q = ax_Q G X h0 w.2 (some (.int (Int32.ofInt w.1))))) (fun s w e hp ls hl => wb_X0_ban_14 hSF B Z hn x0 x1 s.1 s.2.1 hl e hp) _ _ e hp ls hl
set_option maxHeartbeats 4000000 in
theorem we_X0_ban {l : Launch} {G : ax_G} {X : ax_X} {Q : State → Prop} {h0 h : ax_H} {ls : Array Slot} (hSF : ax_SF G) (B : ax_BL l G X cX0_ban 5 RX0 140 3570) (Z : ax_Z X h0 ((some FieldType.int))) (hn : X.2.2.2.2.2.2.2.2.1.name = yX0_ban.name) (x0 : Option Nat) (x1 : Int) {w : Int × ax_H} (hl : ax_hl ls 5 [(0, .inr (.inr x0)), (1, .inl x1)]) (e : f_X0_ban G.2.2 x0 x1 h = some w) (hp : (fun w : Int × ax_H => Q = ax_Q G X h0 w.2 (some (.int (Int32.ofInt w.1)))) w) : ax_W G X Q h 0 ls [] := by
  unfold f_X0_ban at e
  refine ax_aload_n B dX0_ban_0 rfl hl 0 rfl ?_
  refine ax_iload_n B dX0_ban_1 rfl hl 1 rfl ?_
  refine ax_ivI (y := yX0_isPerson) (n := 1) (As := [.int (Int32.ofInt x1)]) B kd0 (lw_V q459 q461 qs4 q125 q462) (by decide +kernel) ⟨Nat.le_of_ble_eq_true rfl, Nat.le_of_ble_eq_true rfl⟩ (fun w1 e1 => mt_X0_isPerson l G hSF x0 x1 _ w1 e1) rfl hl.size (by decide) dX0_ban_2 e (fun q1 e => ?_)
  refine ax_if_ne (tgt := 10) B dX0_ban_5 (by decide) e (fun e => ?_) (fun e => ?_)
  · refine ax_iconst B dX0_ban_8 ?_
    have e8 := e
    have hp : Q = _ := hp
    subst hp
    exact ax_ireturn B Z dX0_ban_9 e8
  · refine ax_iconst B dX0_ban_10 ?_
    refine ax_istore_n (L' := [(2, .inl 0), (0, .inr (.inr x0)), (1, .inl x1)]) B dX0_ban_11 rfl hl (by decide) rfl (fun ls hl => ?_)
    refine ax_iconst B dX0_ban_12 ?_
    refine ax_istore_n (L' := [(3, .inl 0), (2, .inl 0), (0, .inr (.inr x0)), (1, .inl x1)]) B dX0_ban_13 rfl hl (by decide) rfl (fun ls hl => ?_)
    exact w_X0_ban_14 hSF B Z hn x0 x1 0 0 (hl.sub [2, 3, 1, 0] rfl) e hp
theorem mt_X0_ban (l : Launch) (G : ax_G) (hSF : ax_SF G) (x0 : Option Nat) (x1 : Int) (h : ax_H) (w : Int × ax_H) (e : f_X0_ban G.2.2 x0 x1 h = some w) : ax_Met l G yX0_ban cX0_ban 5 ((some FieldType.int)) 140 3570 [va_rf x0, .int (Int32.ofInt x1)] h w.2 (some (.int (Int32.ofInt w.1))) :=
  ax_enter [.inr (.inr x0), .inl x1] (y := yX0_ban) hSF (plainFor_of_name (by decide +kernel)) (Nat.le_of_ble_eq_true rfl) (fun X ls B Z hn hl => we_X0_ban hSF B Z hn x0 x1 hl e rfl)
def dkwX0_partyAt_2 : List UInt8 := [132, 3, 1, 167, 255, 211, 28, 172]
abbrev dktX0_partyAt_2 : List UInt8 := dkwX0_partyAt_2 ++ []
def dkwX0_partyAt_1 : List UInt8 := [42, 29, 27, 4, 182, 1, 84, 54, 4, 21, 4, 2, 160, 0, 5, 2, 172, 28, 21, 4, 96, 61]
abbrev dktX0_partyAt_1 : List UInt8 := dkwX0_partyAt_1 ++ dktX0_partyAt_2
def dkwX0_partyAt_0 : List UInt8 := [3, 61, 3, 62, 29, 42, 180, 0, 20, 180, 0, 101, 162, 0, 40, 29, 27, 160, 0, 7, 3, 167, 0, 10]
abbrev dktX0_partyAt_0 : List UInt8 := dkwX0_partyAt_0 ++ dktX0_partyAt_1
theorem dksX0_partyAt_0 : cX0_partyAt.data.toList.drop 0 = dktX0_partyAt_0 := by decide +kernel
theorem dksX0_partyAt_1 : cX0_partyAt.data.toList.drop 24 = dktX0_partyAt_1 := dk_seg dksX0_partyAt_0 24 rfl rfl
theorem dksX0_partyAt_2 : cX0_partyAt.data.toList.drop 46 = dktX0_partyAt_2 := dk_seg dksX0_partyAt_1 22 rfl rfl
theorem dX0_partyAt_0 : decode cX0_partyAt 0 = .ok (.iconst 0, 1) := dk_3 (dk_at dksX0_partyAt_0 0 rfl rfl)
theorem dX0_partyAt_1 : decode cX0_partyAt 1 = .ok (.istore_n 2, 1) := dk_61 (dk_at dksX0_partyAt_0 1 rfl rfl)
theorem dX0_partyAt_2 : decode cX0_partyAt 2 = .ok (.iconst 0, 1) := dk_3 (dk_at dksX0_partyAt_0 2 rfl rfl)
theorem dX0_partyAt_3 : decode cX0_partyAt 3 = .ok (.istore_n 3, 1) := dk_62 (dk_at dksX0_partyAt_0 3 rfl rfl)
theorem dX0_partyAt_4 : decode cX0_partyAt 4 = .ok (.iload_n 3, 1) := dk_29 (dk_at dksX0_partyAt_0 4 rfl rfl)
theorem dX0_partyAt_5 : decode cX0_partyAt 5 = .ok (.aload_n 0, 1) := dk_42 (dk_at dksX0_partyAt_0 5 rfl rfl)
theorem dX0_partyAt_6 : decode cX0_partyAt 6 = .ok (.getfield 20, 3) := dk_180 0 20 (dk_at dksX0_partyAt_0 6 rfl rfl)
theorem dX0_partyAt_9 : decode cX0_partyAt 9 = .ok (.getfield 101, 3) := dk_180 0 101 (dk_at dksX0_partyAt_0 9 rfl rfl)
theorem dX0_partyAt_12 : decode cX0_partyAt 12 = .ok (.if_icmp .ge 40, 3) := dk_162 0 40 (dk_at dksX0_partyAt_0 12 rfl rfl)
theorem dX0_partyAt_15 : decode cX0_partyAt 15 = .ok (.iload_n 3, 1) := dk_29 (dk_at dksX0_partyAt_0 15 rfl rfl)
theorem dX0_partyAt_16 : decode cX0_partyAt 16 = .ok (.iload_n 1, 1) := dk_27 (dk_at dksX0_partyAt_0 16 rfl rfl)
theorem dX0_partyAt_17 : decode cX0_partyAt 17 = .ok (.if_icmp .ne 7, 3) := dk_160 0 7 (dk_at dksX0_partyAt_0 17 rfl rfl)
theorem dX0_partyAt_20 : decode cX0_partyAt 20 = .ok (.iconst 0, 1) := dk_3 (dk_at dksX0_partyAt_0 20 rfl rfl)
theorem dX0_partyAt_21 : decode cX0_partyAt 21 = .ok (.goto 10, 3) := dk_167 0 10 (dk_at dksX0_partyAt_0 21 rfl rfl)
theorem dX0_partyAt_24 : decode cX0_partyAt 24 = .ok (.aload_n 0, 1) := dk_42 (dk_at dksX0_partyAt_1 0 rfl rfl)
theorem dX0_partyAt_25 : decode cX0_partyAt 25 = .ok (.iload_n 3, 1) := dk_29 (dk_at dksX0_partyAt_1 1 rfl rfl)
theorem dX0_partyAt_26 : decode cX0_partyAt 26 = .ok (.iload_n 1, 1) := dk_27 (dk_at dksX0_partyAt_1 2 rfl rfl)
theorem dX0_partyAt_27 : decode cX0_partyAt 27 = .ok (.iconst 1, 1) := dk_4 (dk_at dksX0_partyAt_1 3 rfl rfl)
theorem dX0_partyAt_28 : decode cX0_partyAt 28 = .ok (.invokevirtual 340, 3) := dk_182 1 84 (dk_at dksX0_partyAt_1 4 rfl rfl)
theorem dX0_partyAt_31 : decode cX0_partyAt 31 = .ok (.istore 4, 2) := dk_54 4 (dk_at dksX0_partyAt_1 7 rfl rfl)
theorem dX0_partyAt_33 : decode cX0_partyAt 33 = .ok (.iload 4, 2) := dk_21 4 (dk_at dksX0_partyAt_1 9 rfl rfl)
theorem dX0_partyAt_35 : decode cX0_partyAt 35 = .ok (.iconst (-1), 1) := dk_2 (dk_at dksX0_partyAt_1 11 rfl rfl)
theorem dX0_partyAt_36 : decode cX0_partyAt 36 = .ok (.if_icmp .ne 5, 3) := dk_160 0 5 (dk_at dksX0_partyAt_1 12 rfl rfl)
theorem dX0_partyAt_39 : decode cX0_partyAt 39 = .ok (.iconst (-1), 1) := dk_2 (dk_at dksX0_partyAt_1 15 rfl rfl)
theorem dX0_partyAt_40 : decode cX0_partyAt 40 = .ok (.ireturn, 1) := dk_172 (dk_at dksX0_partyAt_1 16 rfl rfl)
theorem dX0_partyAt_41 : decode cX0_partyAt 41 = .ok (.iload_n 2, 1) := dk_28 (dk_at dksX0_partyAt_1 17 rfl rfl)
theorem dX0_partyAt_42 : decode cX0_partyAt 42 = .ok (.iload 4, 2) := dk_21 4 (dk_at dksX0_partyAt_1 18 rfl rfl)
theorem dX0_partyAt_44 : decode cX0_partyAt 44 = .ok (.iadd, 1) := dk_96 (dk_at dksX0_partyAt_1 20 rfl rfl)
theorem dX0_partyAt_45 : decode cX0_partyAt 45 = .ok (.istore_n 2, 1) := dk_61 (dk_at dksX0_partyAt_1 21 rfl rfl)
theorem dX0_partyAt_46 : decode cX0_partyAt 46 = .ok (.iinc 3 1, 3) := dk_132 3 1 (dk_at dksX0_partyAt_2 0 rfl rfl)
theorem dX0_partyAt_49 : decode cX0_partyAt 49 = .ok (.goto (-45), 3) := dk_167 255 211 (dk_at dksX0_partyAt_2 3 rfl rfl)
theorem dX0_partyAt_52 : decode cX0_partyAt 52 = .ok (.iload_n 2, 1) := dk_28 (dk_at dksX0_partyAt_2 6 rfl rfl)
theorem dX0_partyAt_53 : decode cX0_partyAt 53 = .ok (.ireturn, 1) := dk_172 (dk_at dksX0_partyAt_2 7 rfl rfl)
noncomputable def f_X0_partyAt_31 (E : ax_E) (x0 : Option Nat) (x1 : Int) (x2 : Int) (x3 : Int) (s0 : Int) (h : ax_H) : Option ((Int × Int × ax_H) ⊕ (Int × ax_H)) :=
  if i2 s0 = i2 (-1) then
    (some ((-1), h)).map Sum.inr
  else
    some (.inl ((x2 + s0), (x3 + 1), h))
noncomputable def lb_X0_partyAt_4 (E : ax_E) (x0 : Option Nat) (x1 : Int) (x2 : Int) (x3 : Int) (h : ax_H) : Option ((Int × Int × ax_H) ⊕ (Int × ax_H)) :=
  (ax_gR E h x0 0 0).bind fun v1 =>
  (ax_gI E h v1 1 6).bind fun v2 =>
  if i2 x3 < i2 v2 then
    if i2 x3 = i2 x1 then
      f_X0_partyAt_31 E x0 x1 x2 x3 0 h
    else
      (ax_ce E h x0 0).bind fun _ => (f_X0_needOf E x0 x3 x1 1 h).bind fun q3 =>
      f_X0_partyAt_31 E x0 x1 x2 x3 q3.1 q3.2
  else
    (some (x2, h)).map Sum.inr
noncomputable def f_X0_partyAt_4 (E : ax_E) (x0 : Option Nat) (x1 : Int) (x2 : Int) (x3 : Int) (h : ax_H) : Option (Int × ax_H) :=
  ax_iter (fun s : Int × Int × ax_H => lb_X0_partyAt_4 E x0 x1 s.1 s.2.1 s.2.2) (x2, x3, h)
noncomputable def f_X0_partyAt (E : ax_E) (x0 : Option Nat) (x1 : Int) (h : ax_H) : Option (Int × ax_H) :=
  f_X0_partyAt_4 E x0 x1 0 0 h
def pi_X0_partyAt_4 (G : ax_G) (X : ax_X) (Q : State → Prop) (x0 : Option Nat) (x1 : Int) : Int × Int × ax_H → Prop := fun s => ∀ ls : Array Slot, ax_hl ls 5 [(0, .inr (.inr x0)), (1, .inl x1), (2, .inl s.1), (3, .inl s.2.1)] → ax_W G X Q s.2.2 4 ls []
set_option maxHeartbeats 4000000 in
theorem w_X0_partyAt_31 {l : Launch} {G : ax_G} {X : ax_X} {Q : State → Prop} {h0 h : ax_H} {ls : Array Slot} (hSF : ax_SF G) (B : ax_BL l G X cX0_partyAt 5 RX0 140 3570) (Z : ax_Z X h0 ((some FieldType.int))) (hn : X.2.2.2.2.2.2.2.2.1.name = yX0_partyAt.name) (x0 : Option Nat) (x1 : Int) (x2 : Int) (x3 : Int) (s0 : Int) {w : (Int × Int × ax_H) ⊕ (Int × ax_H)} (hl : ax_hl ls 5 [(0, .inr (.inr x0)), (1, .inl x1), (2, .inl x2), (3, .inl x3)]) (e : f_X0_partyAt_31 G.2.2 x0 x1 x2 x3 s0 h = some w) (hp : (ax_PL (pi_X0_partyAt_4 G X Q x0 x1) (fun w : Int × ax_H => Q = ax_Q G X h0 w.2 (some (.int (Int32.ofInt w.1))))) w) : ax_W G X Q h 31 ls [.int (Int32.ofInt s0)] := by
  unfold f_X0_partyAt_31 at e
  refine ax_istore (L' := [(4, .inl s0), (0, .inr (.inr x0)), (1, .inl x1), (2, .inl x2), (3, .inl x3)]) B dX0_partyAt_31 hl (by decide) rfl (fun ls hl => ?_)
  refine ax_iload B dX0_partyAt_33 hl 0 rfl ?_
  refine ax_iconst B dX0_partyAt_35 ?_
  refine ax_icmp_ne (tgt := 41) B dX0_partyAt_36 (by decide) e (fun e => ?_) (fun e => ?_)
  · obtain ⟨w, e9_1, rfl⟩ := Option.map_eq_some_iff.mp e
    have e := e9_1
    refine ax_iconst B dX0_partyAt_39 ?_
    have e8 := e
    have hp : Q = _ := hp
    subst hp
    exact ax_ireturn B Z dX0_partyAt_40 e8
  · refine ax_iload_n B dX0_partyAt_41 rfl hl 3 rfl ?_
    refine ax_iload B dX0_partyAt_42 hl 0 rfl ?_
    refine ax_iadd' B dX0_partyAt_44 ?_
    refine ax_istore_n (L' := [(2, .inl (x2 + s0)), (4, .inl s0), (0, .inr (.inr x0)), (1, .inl x1), (3, .inl x3)]) B dX0_partyAt_45 rfl hl (by decide) rfl (fun ls hl => ?_)
    refine ax_iinc (L' := [(3, .inl (x3 + 1)), (2, .inl (x2 + s0)), (4, .inl s0), (0, .inr (.inr x0)), (1, .inl x1)]) B dX0_partyAt_46 hl 4 rfl (by decide) rfl (fun ls hl => ?_)
    refine ax_goto (tgt := 4) B dX0_partyAt_49 (by decide) ?_
    cases e
    exact hp _ (hl.sub [3, 4, 1, 0] rfl)
set_option maxHeartbeats 4000000 in
theorem wb_X0_partyAt_4 {l : Launch} {G : ax_G} {X : ax_X} {Q : State → Prop} {h0 h : ax_H} {ls : Array Slot} (hSF : ax_SF G) (B : ax_BL l G X cX0_partyAt 5 RX0 140 3570) (Z : ax_Z X h0 ((some FieldType.int))) (hn : X.2.2.2.2.2.2.2.2.1.name = yX0_partyAt.name) (x0 : Option Nat) (x1 : Int) (x2 : Int) (x3 : Int) {w : (Int × Int × ax_H) ⊕ (Int × ax_H)} (hl : ax_hl ls 5 [(0, .inr (.inr x0)), (1, .inl x1), (2, .inl x2), (3, .inl x3)]) (e : lb_X0_partyAt_4 G.2.2 x0 x1 x2 x3 h = some w) (hp : (ax_PL (pi_X0_partyAt_4 G X Q x0 x1) (fun w : Int × ax_H => Q = ax_Q G X h0 w.2 (some (.int (Int32.ofInt w.1))))) w) : ax_W G X Q h 4 ls [] := by
  unfold lb_X0_partyAt_4 at e
  refine ax_iload_n B dX0_partyAt_4 rfl hl 3 rfl ?_
  refine ax_aload_n B dX0_partyAt_5 rfl hl 0 rfl ?_
  refine ax_getR B ff_X0_20_0 (fun _ _ => rfl) dX0_partyAt_6 e (fun v1 e => ?_)
  refine ax_getI B ff_X0_101_1 (fun _ _ => rfl) dX0_partyAt_9 e (fun v2 e => ?_)
  refine ax_icmp_ge (tgt := 52) B dX0_partyAt_12 (by decide) e (fun e => ?_) (fun e => ?_)
  · refine ax_iload_n B dX0_partyAt_15 rfl hl 3 rfl ?_
    refine ax_iload_n B dX0_partyAt_16 rfl hl 1 rfl ?_
    refine ax_icmp_ne (tgt := 24) B dX0_partyAt_17 (by decide) e (fun e => ?_) (fun e => ?_)
    · refine ax_iconst B dX0_partyAt_20 ?_
      refine ax_goto (tgt := 31) B dX0_partyAt_21 (by decide) ?_
      exact w_X0_partyAt_31 hSF B Z hn x0 x1 x2 x3 0 (hl.sub [0, 1, 2, 3] rfl) e hp
    · refine ax_aload_n B dX0_partyAt_24 rfl hl 0 rfl ?_
      refine ax_iload_n B dX0_partyAt_25 rfl hl 3 rfl ?_
      refine ax_iload_n B dX0_partyAt_26 rfl hl 1 rfl ?_
      refine ax_iconst B dX0_partyAt_27 ?_
      refine ax_ivI (y := yX0_needOf) (n := 3) (As := [.int (Int32.ofInt x3), .int (Int32.ofInt x1), .int (Int32.ofInt 1)]) B kd0 (lw_V q1462 q1464 qs32 q125 q1465) (by decide +kernel) ⟨Nat.le_of_ble_eq_true rfl, Nat.le_of_ble_eq_true rfl⟩ (fun w1 e1 => mt_X0_needOf l G hSF x0 x3 x1 1 _ w1 e1) rfl hl.size (by decide) dX0_partyAt_28 e (fun q3 e => ?_)
      exact w_X0_partyAt_31 hSF B Z hn x0 x1 x2 x3 q3.1 (hl.sub [0, 1, 2, 3] rfl) e hp
  · obtain ⟨w, e9_2, rfl⟩ := Option.map_eq_some_iff.mp e
    have e := e9_2
    refine ax_iload_n B dX0_partyAt_52 rfl hl 2 rfl ?_
    have e8 := e
    have hp : Q = _ := hp
    subst hp
    exact ax_ireturn B Z dX0_partyAt_53 e8
theorem w_X0_partyAt_4 {l : Launch} {G : ax_G} {X : ax_X} {Q : State → Prop} {h0 h : ax_H} {ls : Array Slot} (hSF : ax_SF G) (B : ax_BL l G X cX0_partyAt 5 RX0 140 3570) (Z : ax_Z X h0 ((some FieldType.int))) (hn : X.2.2.2.2.2.2.2.2.1.name = yX0_partyAt.name) (x0 : Option Nat) (x1 : Int) (x2 : Int) (x3 : Int) {w : Int × ax_H} (hl : ax_hl ls 5 [(0, .inr (.inr x0)), (1, .inl x1), (2, .inl x2), (3, .inl x3)]) (e : f_X0_partyAt_4 G.2.2 x0 x1 x2 x3 h = some w) (hp : (fun w : Int × ax_H => Q = ax_Q G X h0 w.2 (some (.int (Int32.ofInt w.1)))) w) : ax_W G X Q h 4 ls [] :=
  ax_iter_W (Pin := pi_X0_partyAt_4 G X Q x0 x1) (Pout := (fun w : Int × ax_H => Q = ax_Q G X h0 w.2 (some (.int (Int32.ofInt w.1))))) (fun s w e hp ls hl => wb_X0_partyAt_4 hSF B Z hn x0 x1 s.1 s.2.1 hl e hp) _ _ e hp ls hl
set_option maxHeartbeats 4000000 in
theorem we_X0_partyAt {l : Launch} {G : ax_G} {X : ax_X} {Q : State → Prop} {h0 h : ax_H} {ls : Array Slot} (hSF : ax_SF G) (B : ax_BL l G X cX0_partyAt 5 RX0 140 3570) (Z : ax_Z X h0 ((some FieldType.int))) (hn : X.2.2.2.2.2.2.2.2.1.name = yX0_partyAt.name) (x0 : Option Nat) (x1 : Int) {w : Int × ax_H} (hl : ax_hl ls 5 [(0, .inr (.inr x0)), (1, .inl x1)]) (e : f_X0_partyAt G.2.2 x0 x1 h = some w) (hp : (fun w : Int × ax_H => Q = ax_Q G X h0 w.2 (some (.int (Int32.ofInt w.1)))) w) : ax_W G X Q h 0 ls [] := by
  unfold f_X0_partyAt at e
  refine ax_iconst B dX0_partyAt_0 ?_
  refine ax_istore_n (L' := [(2, .inl 0), (0, .inr (.inr x0)), (1, .inl x1)]) B dX0_partyAt_1 rfl hl (by decide) rfl (fun ls hl => ?_)
  refine ax_iconst B dX0_partyAt_2 ?_
  refine ax_istore_n (L' := [(3, .inl 0), (2, .inl 0), (0, .inr (.inr x0)), (1, .inl x1)]) B dX0_partyAt_3 rfl hl (by decide) rfl (fun ls hl => ?_)
  exact w_X0_partyAt_4 hSF B Z hn x0 x1 0 0 (hl.sub [2, 3, 1, 0] rfl) e hp
theorem mt_X0_partyAt (l : Launch) (G : ax_G) (hSF : ax_SF G) (x0 : Option Nat) (x1 : Int) (h : ax_H) (w : Int × ax_H) (e : f_X0_partyAt G.2.2 x0 x1 h = some w) : ax_Met l G yX0_partyAt cX0_partyAt 5 ((some FieldType.int)) 140 3570 [va_rf x0, .int (Int32.ofInt x1)] h w.2 (some (.int (Int32.ofInt w.1))) :=
  ax_enter [.inr (.inr x0), .inl x1] (y := yX0_partyAt) hSF (plainFor_of_name (by decide +kernel)) (Nat.le_of_ble_eq_true rfl) (fun X ls B Z hn hl => we_X0_partyAt hSF B Z hn x0 x1 hl e rfl)
def dkwX0_party_3 : List UInt8 := [160, 0, 7, 2, 167, 0, 12, 27, 154, 0, 7, 28, 167, 0, 4, 29, 172]
abbrev dktX0_party_3 : List UInt8 := dkwX0_party_3 ++ []
def dkwX0_party_2 : List UInt8 := [21, 5, 29, 161, 0, 6, 167, 0, 9, 21, 5, 62, 21, 4, 61, 132, 4, 1, 167, 255, 212, 28, 2]
abbrev dktX0_party_2 : List UInt8 := dkwX0_party_2 ++ dktX0_party_3
def dkwX0_party_1 : List UInt8 := [180, 0, 20, 180, 0, 101, 162, 0, 38, 42, 21, 4, 182, 1, 153, 54, 5, 21, 5, 2, 159, 0, 18]
abbrev dktX0_party_1 : List UInt8 := dkwX0_party_1 ++ dktX0_party_2
def dkwX0_party_0 : List UInt8 := [27, 133, 9, 10, 184, 0, 5, 154, 0, 5, 2, 172, 2, 61, 19, 1, 142, 62, 3, 54, 4, 21, 4, 42]
abbrev dktX0_party_0 : List UInt8 := dkwX0_party_0 ++ dktX0_party_1
theorem dksX0_party_0 : cX0_party.data.toList.drop 0 = dktX0_party_0 := by decide +kernel
theorem dksX0_party_1 : cX0_party.data.toList.drop 24 = dktX0_party_1 := dk_seg dksX0_party_0 24 rfl rfl
theorem dksX0_party_2 : cX0_party.data.toList.drop 47 = dktX0_party_2 := dk_seg dksX0_party_1 23 rfl rfl
theorem dksX0_party_3 : cX0_party.data.toList.drop 70 = dktX0_party_3 := dk_seg dksX0_party_2 23 rfl rfl
theorem dX0_party_0 : decode cX0_party 0 = .ok (.iload_n 1, 1) := dk_27 (dk_at dksX0_party_0 0 rfl rfl)
theorem dX0_party_1 : decode cX0_party 1 = .ok (.i2l, 1) := dk_133 (dk_at dksX0_party_0 1 rfl rfl)
theorem dX0_party_2 : decode cX0_party 2 = .ok (.lconst 0, 1) := dk_9 (dk_at dksX0_party_0 2 rfl rfl)
theorem dX0_party_3 : decode cX0_party 3 = .ok (.lconst 1, 1) := dk_10 (dk_at dksX0_party_0 3 rfl rfl)
theorem dX0_party_4 : decode cX0_party 4 = .ok (.invokestatic 5, 3) := dk_184 0 5 (dk_at dksX0_party_0 4 rfl rfl)
theorem dX0_party_7 : decode cX0_party 7 = .ok (.ifCond .ne 5, 3) := dk_154 0 5 (dk_at dksX0_party_0 7 rfl rfl)
theorem dX0_party_10 : decode cX0_party 10 = .ok (.iconst (-1), 1) := dk_2 (dk_at dksX0_party_0 10 rfl rfl)
theorem dX0_party_11 : decode cX0_party 11 = .ok (.ireturn, 1) := dk_172 (dk_at dksX0_party_0 11 rfl rfl)
theorem dX0_party_12 : decode cX0_party 12 = .ok (.iconst (-1), 1) := dk_2 (dk_at dksX0_party_0 12 rfl rfl)
theorem dX0_party_13 : decode cX0_party 13 = .ok (.istore_n 2, 1) := dk_61 (dk_at dksX0_party_0 13 rfl rfl)
theorem dX0_party_14 : decode cX0_party 14 = .ok (.ldc_w 398, 3) := dk_19 1 142 (dk_at dksX0_party_0 14 rfl rfl)
theorem dX0_party_17 : decode cX0_party 17 = .ok (.istore_n 3, 1) := dk_62 (dk_at dksX0_party_0 17 rfl rfl)
theorem dX0_party_18 : decode cX0_party 18 = .ok (.iconst 0, 1) := dk_3 (dk_at dksX0_party_0 18 rfl rfl)
theorem dX0_party_19 : decode cX0_party 19 = .ok (.istore 4, 2) := dk_54 4 (dk_at dksX0_party_0 19 rfl rfl)
theorem dX0_party_21 : decode cX0_party 21 = .ok (.iload 4, 2) := dk_21 4 (dk_at dksX0_party_0 21 rfl rfl)
theorem dX0_party_23 : decode cX0_party 23 = .ok (.aload_n 0, 1) := dk_42 (dk_at dksX0_party_0 23 rfl rfl)
theorem dX0_party_24 : decode cX0_party 24 = .ok (.getfield 20, 3) := dk_180 0 20 (dk_at dksX0_party_1 0 rfl rfl)
theorem dX0_party_27 : decode cX0_party 27 = .ok (.getfield 101, 3) := dk_180 0 101 (dk_at dksX0_party_1 3 rfl rfl)
theorem dX0_party_30 : decode cX0_party 30 = .ok (.if_icmp .ge 38, 3) := dk_162 0 38 (dk_at dksX0_party_1 6 rfl rfl)
theorem dX0_party_33 : decode cX0_party 33 = .ok (.aload_n 0, 1) := dk_42 (dk_at dksX0_party_1 9 rfl rfl)
theorem dX0_party_34 : decode cX0_party 34 = .ok (.iload 4, 2) := dk_21 4 (dk_at dksX0_party_1 10 rfl rfl)
theorem dX0_party_36 : decode cX0_party 36 = .ok (.invokevirtual 409, 3) := dk_182 1 153 (dk_at dksX0_party_1 12 rfl rfl)
theorem dX0_party_39 : decode cX0_party 39 = .ok (.istore 5, 2) := dk_54 5 (dk_at dksX0_party_1 15 rfl rfl)
theorem dX0_party_41 : decode cX0_party 41 = .ok (.iload 5, 2) := dk_21 5 (dk_at dksX0_party_1 17 rfl rfl)
theorem dX0_party_43 : decode cX0_party 43 = .ok (.iconst (-1), 1) := dk_2 (dk_at dksX0_party_1 19 rfl rfl)
theorem dX0_party_44 : decode cX0_party 44 = .ok (.if_icmp .eq 18, 3) := dk_159 0 18 (dk_at dksX0_party_1 20 rfl rfl)
theorem dX0_party_47 : decode cX0_party 47 = .ok (.iload 5, 2) := dk_21 5 (dk_at dksX0_party_2 0 rfl rfl)
theorem dX0_party_49 : decode cX0_party 49 = .ok (.iload_n 3, 1) := dk_29 (dk_at dksX0_party_2 2 rfl rfl)
theorem dX0_party_50 : decode cX0_party 50 = .ok (.if_icmp .lt 6, 3) := dk_161 0 6 (dk_at dksX0_party_2 3 rfl rfl)
theorem dX0_party_53 : decode cX0_party 53 = .ok (.goto 9, 3) := dk_167 0 9 (dk_at dksX0_party_2 6 rfl rfl)
theorem dX0_party_56 : decode cX0_party 56 = .ok (.iload 5, 2) := dk_21 5 (dk_at dksX0_party_2 9 rfl rfl)
theorem dX0_party_58 : decode cX0_party 58 = .ok (.istore_n 3, 1) := dk_62 (dk_at dksX0_party_2 11 rfl rfl)
theorem dX0_party_59 : decode cX0_party 59 = .ok (.iload 4, 2) := dk_21 4 (dk_at dksX0_party_2 12 rfl rfl)
theorem dX0_party_61 : decode cX0_party 61 = .ok (.istore_n 2, 1) := dk_61 (dk_at dksX0_party_2 14 rfl rfl)
theorem dX0_party_62 : decode cX0_party 62 = .ok (.iinc 4 1, 3) := dk_132 4 1 (dk_at dksX0_party_2 15 rfl rfl)
theorem dX0_party_65 : decode cX0_party 65 = .ok (.goto (-44), 3) := dk_167 255 212 (dk_at dksX0_party_2 18 rfl rfl)
theorem dX0_party_68 : decode cX0_party 68 = .ok (.iload_n 2, 1) := dk_28 (dk_at dksX0_party_2 21 rfl rfl)
theorem dX0_party_69 : decode cX0_party 69 = .ok (.iconst (-1), 1) := dk_2 (dk_at dksX0_party_2 22 rfl rfl)
theorem dX0_party_70 : decode cX0_party 70 = .ok (.if_icmp .ne 7, 3) := dk_160 0 7 (dk_at dksX0_party_3 0 rfl rfl)
theorem dX0_party_73 : decode cX0_party 73 = .ok (.iconst (-1), 1) := dk_2 (dk_at dksX0_party_3 3 rfl rfl)
theorem dX0_party_74 : decode cX0_party 74 = .ok (.goto 12, 3) := dk_167 0 12 (dk_at dksX0_party_3 4 rfl rfl)
theorem dX0_party_77 : decode cX0_party 77 = .ok (.iload_n 1, 1) := dk_27 (dk_at dksX0_party_3 7 rfl rfl)
theorem dX0_party_78 : decode cX0_party 78 = .ok (.ifCond .ne 7, 3) := dk_154 0 7 (dk_at dksX0_party_3 8 rfl rfl)
theorem dX0_party_81 : decode cX0_party 81 = .ok (.iload_n 2, 1) := dk_28 (dk_at dksX0_party_3 11 rfl rfl)
theorem dX0_party_82 : decode cX0_party 82 = .ok (.goto 4, 3) := dk_167 0 4 (dk_at dksX0_party_3 12 rfl rfl)
theorem dX0_party_85 : decode cX0_party 85 = .ok (.iload_n 3, 1) := dk_29 (dk_at dksX0_party_3 15 rfl rfl)
theorem dX0_party_86 : decode cX0_party 86 = .ok (.ireturn, 1) := dk_172 (dk_at dksX0_party_3 16 rfl rfl)
noncomputable def f_X0_party_62 (E : ax_E) (x0 : Option Nat) (x1 : Int) (x2 : Int) (x3 : Int) (x4 : Int) (h : ax_H) : Option ((Int × Int × Int × ax_H) ⊕ (Int × ax_H)) :=
  some (.inl (x2, x3, (x4 + 1), h))
noncomputable def lb_X0_party_21 (E : ax_E) (x0 : Option Nat) (x1 : Int) (x2 : Int) (x3 : Int) (x4 : Int) (h : ax_H) : Option ((Int × Int × Int × ax_H) ⊕ (Int × ax_H)) :=
  (ax_gR E h x0 0 0).bind fun v1 =>
  (ax_gI E h v1 1 6).bind fun v2 =>
  if i2 x4 < i2 v2 then
    (ax_ce E h x0 0).bind fun _ => (f_X0_partyAt E x0 x4 h).bind fun q3 =>
    if i2 q3.1 = i2 (-1) then
      f_X0_party_62 E x0 x1 x2 x3 x4 q3.2
    else
      if i2 q3.1 < i2 x3 then
        f_X0_party_62 E x0 x1 x4 q3.1 x4 q3.2
      else
        f_X0_party_62 E x0 x1 x2 x3 x4 q3.2
  else
    (if i2 x2 = i2 (-1) then
      some ((-1), h)
    else
      if i2 x1 = 0 then
        some (x2, h)
      else
        some (x3, h)).map Sum.inr
noncomputable def f_X0_party_21 (E : ax_E) (x0 : Option Nat) (x1 : Int) (x2 : Int) (x3 : Int) (x4 : Int) (h : ax_H) : Option (Int × ax_H) :=
  ax_iter (fun s : Int × Int × Int × ax_H => lb_X0_party_21 E x0 x1 s.1 s.2.1 s.2.2.1 s.2.2.2) (x2, x3, x4, h)
noncomputable def f_X0_party (E : ax_E) (x0 : Option Nat) (x1 : Int) (h : ax_H) : Option (Int × ax_H) :=
  (f_X0_in E (i2 x1) 0 1 h).bind fun q1 =>
  if i2 q1.1 = 0 then
    some ((-1), q1.2)
  else
    f_X0_party_21 E x0 x1 (-1) 100000000 0 q1.2
def pi_X0_party_21 (G : ax_G) (X : ax_X) (Q : State → Prop) (x0 : Option Nat) (x1 : Int) : Int × Int × Int × ax_H → Prop := fun s => ∀ ls : Array Slot, ax_hl ls 6 [(0, .inr (.inr x0)), (1, .inl x1), (2, .inl s.1), (3, .inl s.2.1), (4, .inl s.2.2.1)] → ax_W G X Q s.2.2.2 21 ls []
set_option maxHeartbeats 4000000 in
theorem w_X0_party_62 {l : Launch} {G : ax_G} {X : ax_X} {Q : State → Prop} {h0 h : ax_H} {ls : Array Slot} (hSF : ax_SF G) (B : ax_BL l G X cX0_party 6 RX0 141 3594) (Z : ax_Z X h0 ((some FieldType.int))) (hn : X.2.2.2.2.2.2.2.2.1.name = yX0_party.name) (x0 : Option Nat) (x1 : Int) (x2 : Int) (x3 : Int) (x4 : Int) {w : (Int × Int × Int × ax_H) ⊕ (Int × ax_H)} (hl : ax_hl ls 6 [(0, .inr (.inr x0)), (1, .inl x1), (2, .inl x2), (3, .inl x3), (4, .inl x4)]) (e : f_X0_party_62 G.2.2 x0 x1 x2 x3 x4 h = some w) (hp : (ax_PL (pi_X0_party_21 G X Q x0 x1) (fun w : Int × ax_H => Q = ax_Q G X h0 w.2 (some (.int (Int32.ofInt w.1))))) w) : ax_W G X Q h 62 ls [] := by
  unfold f_X0_party_62 at e
  refine ax_iinc (L' := [(4, .inl (x4 + 1)), (0, .inr (.inr x0)), (1, .inl x1), (2, .inl x2), (3, .inl x3)]) B dX0_party_62 hl 4 rfl (by decide) rfl (fun ls hl => ?_)
  refine ax_goto (tgt := 21) B dX0_party_65 (by decide) ?_
  cases e
  exact hp _ (hl.sub [1, 2, 3, 4, 0] rfl)
set_option maxHeartbeats 4000000 in
theorem wb_X0_party_21 {l : Launch} {G : ax_G} {X : ax_X} {Q : State → Prop} {h0 h : ax_H} {ls : Array Slot} (hSF : ax_SF G) (B : ax_BL l G X cX0_party 6 RX0 141 3594) (Z : ax_Z X h0 ((some FieldType.int))) (hn : X.2.2.2.2.2.2.2.2.1.name = yX0_party.name) (x0 : Option Nat) (x1 : Int) (x2 : Int) (x3 : Int) (x4 : Int) {w : (Int × Int × Int × ax_H) ⊕ (Int × ax_H)} (hl : ax_hl ls 6 [(0, .inr (.inr x0)), (1, .inl x1), (2, .inl x2), (3, .inl x3), (4, .inl x4)]) (e : lb_X0_party_21 G.2.2 x0 x1 x2 x3 x4 h = some w) (hp : (ax_PL (pi_X0_party_21 G X Q x0 x1) (fun w : Int × ax_H => Q = ax_Q G X h0 w.2 (some (.int (Int32.ofInt w.1))))) w) : ax_W G X Q h 21 ls [] := by
  unfold lb_X0_party_21 at e
  refine ax_iload B dX0_party_21 hl 4 rfl ?_
  refine ax_aload_n B dX0_party_23 rfl hl 0 rfl ?_
  refine ax_getR B ff_X0_20_0 (fun _ _ => rfl) dX0_party_24 e (fun v1 e => ?_)
  refine ax_getI B ff_X0_101_1 (fun _ _ => rfl) dX0_party_27 e (fun v2 e => ?_)
  refine ax_icmp_ge (tgt := 68) B dX0_party_30 (by decide) e (fun e => ?_) (fun e => ?_)
  · refine ax_aload_n B dX0_party_33 rfl hl 0 rfl ?_
    refine ax_iload B dX0_party_34 hl 4 rfl ?_
    refine ax_ivI (y := yX0_partyAt) (n := 1) (As := [.int (Int32.ofInt x4)]) B kd0 (lw_V q1645 q1647 qs36 q125 q1648) (by decide +kernel) ⟨Nat.le_of_ble_eq_true rfl, Nat.le_of_ble_eq_true rfl⟩ (fun w1 e1 => mt_X0_partyAt l G hSF x0 x4 _ w1 e1) rfl hl.size (by decide) dX0_party_36 e (fun q3 e => ?_)
    refine ax_istore (L' := [(5, .inl q3.1), (0, .inr (.inr x0)), (1, .inl x1), (2, .inl x2), (3, .inl x3), (4, .inl x4)]) B dX0_party_39 hl (by decide) rfl (fun ls hl => ?_)
    refine ax_iload B dX0_party_41 hl 0 rfl ?_
    refine ax_iconst B dX0_party_43 ?_
    refine ax_icmp_eq (tgt := 62) B dX0_party_44 (by decide) e (fun e => ?_) (fun e => ?_)
    · exact w_X0_party_62 hSF B Z hn x0 x1 x2 x3 x4 (hl.sub [1, 2, 3, 4, 5] rfl) e hp
    · refine ax_iload B dX0_party_47 hl 0 rfl ?_
      refine ax_iload_n B dX0_party_49 rfl hl 4 rfl ?_
      refine ax_icmp_lt (tgt := 56) B dX0_party_50 (by decide) e (fun e => ?_) (fun e => ?_)
      · refine ax_iload B dX0_party_56 hl 0 rfl ?_
        refine ax_istore_n (L' := [(3, .inl q3.1), (5, .inl q3.1), (0, .inr (.inr x0)), (1, .inl x1), (2, .inl x2), (4, .inl x4)]) B dX0_party_58 rfl hl (by decide) rfl (fun ls hl => ?_)
        refine ax_iload B dX0_party_59 hl 5 rfl ?_
        refine ax_istore_n (L' := [(2, .inl x4), (3, .inl q3.1), (5, .inl q3.1), (0, .inr (.inr x0)), (1, .inl x1), (4, .inl x4)]) B dX0_party_61 rfl hl (by decide) rfl (fun ls hl => ?_)
        exact w_X0_party_62 hSF B Z hn x0 x1 x4 q3.1 x4 (hl.sub [3, 4, 0, 1, 5] rfl) e hp
      · refine ax_goto (tgt := 62) B dX0_party_53 (by decide) ?_
        exact w_X0_party_62 hSF B Z hn x0 x1 x2 x3 x4 (hl.sub [1, 2, 3, 4, 5] rfl) e hp
  · obtain ⟨w, e9_1, rfl⟩ := Option.map_eq_some_iff.mp e
    have e := e9_1
    refine ax_iload_n B dX0_party_68 rfl hl 2 rfl ?_
    refine ax_iconst B dX0_party_69 ?_
    refine ax_icmp_ne (tgt := 77) B dX0_party_70 (by decide) e (fun e => ?_) (fun e => ?_)
    · refine ax_iconst B dX0_party_73 ?_
      refine ax_goto (tgt := 86) B dX0_party_74 (by decide) ?_
      have e8 := e
      have hp : Q = _ := hp
      subst hp
      exact ax_ireturn B Z dX0_party_86 e8
    · refine ax_iload_n B dX0_party_77 rfl hl 1 rfl ?_
      refine ax_if_ne (tgt := 85) B dX0_party_78 (by decide) e (fun e => ?_) (fun e => ?_)
      · refine ax_iload_n B dX0_party_81 rfl hl 2 rfl ?_
        refine ax_goto (tgt := 86) B dX0_party_82 (by decide) ?_
        have e8 := e
        have hp : Q = _ := hp
        subst hp
        exact ax_ireturn B Z dX0_party_86 e8
      · refine ax_iload_n B dX0_party_85 rfl hl 3 rfl ?_
        have e8 := e
        have hp : Q = _ := hp
        subst hp
        exact ax_ireturn B Z dX0_party_86 e8
theorem w_X0_party_21 {l : Launch} {G : ax_G} {X : ax_X} {Q : State → Prop} {h0 h : ax_H} {ls : Array Slot} (hSF : ax_SF G) (B : ax_BL l G X cX0_party 6 RX0 141 3594) (Z : ax_Z X h0 ((some FieldType.int))) (hn : X.2.2.2.2.2.2.2.2.1.name = yX0_party.name) (x0 : Option Nat) (x1 : Int) (x2 : Int) (x3 : Int) (x4 : Int) {w : Int × ax_H} (hl : ax_hl ls 6 [(0, .inr (.inr x0)), (1, .inl x1), (2, .inl x2), (3, .inl x3), (4, .inl x4)]) (e : f_X0_party_21 G.2.2 x0 x1 x2 x3 x4 h = some w) (hp : (fun w : Int × ax_H => Q = ax_Q G X h0 w.2 (some (.int (Int32.ofInt w.1)))) w) : ax_W G X Q h 21 ls [] :=
  ax_iter_W (Pin := pi_X0_party_21 G X Q x0 x1) (Pout := (fun w : Int × ax_H => Q = ax_Q G X h0 w.2 (some (.int (Int32.ofInt w.1))))) (fun s w e hp ls hl => wb_X0_party_21 hSF B Z hn x0 x1 s.1 s.2.1 s.2.2.1 hl e hp) _ _ e hp ls hl
set_option maxHeartbeats 4000000 in
theorem we_X0_party {l : Launch} {G : ax_G} {X : ax_X} {Q : State → Prop} {h0 h : ax_H} {ls : Array Slot} (hSF : ax_SF G) (B : ax_BL l G X cX0_party 6 RX0 141 3594) (Z : ax_Z X h0 ((some FieldType.int))) (hn : X.2.2.2.2.2.2.2.2.1.name = yX0_party.name) (x0 : Option Nat) (x1 : Int) {w : Int × ax_H} (hl : ax_hl ls 6 [(0, .inr (.inr x0)), (1, .inl x1)]) (e : f_X0_party G.2.2 x0 x1 h = some w) (hp : (fun w : Int × ax_H => Q = ax_Q G X h0 w.2 (some (.int (Int32.ofInt w.1)))) w) : ax_W G X Q h 0 ls [] := by
  unfold f_X0_party at e
  refine ax_iload_n B dX0_party_0 rfl hl 1 rfl ?_
  refine ax_i2l' B dX0_party_1 ?_
  refine ax_lconst (v := 0) B dX0_party_2 rfl ?_
  refine ax_lconst (v := 1) B dX0_party_3 rfl ?_
  refine ax_isI (y := yX0_in) (n := 3) (As := [.long (Int64.ofInt (i2 x1)), .long (Int64.ofInt 0), .long (Int64.ofInt 1)]) B (lw_S q420 q421 q125 q422) (by decide +kernel) ⟨Nat.le_of_ble_eq_true rfl, Nat.le_of_ble_eq_true rfl⟩ (fun w1 e1 => mt_X0_in l G hSF (i2 x1) 0 1 _ w1 e1) rfl hl.size (by decide) dX0_party_4 e (fun q1 e => ?_)
  refine ax_if_ne (tgt := 12) B dX0_party_7 (by decide) e (fun e => ?_) (fun e => ?_)
  · refine ax_iconst B dX0_party_10 ?_
    have e8 := e
    have hp : Q = _ := hp
    subst hp
    exact ax_ireturn B Z dX0_party_11 e8
  · refine ax_iconst B dX0_party_12 ?_
    refine ax_istore_n (L' := [(2, .inl (-1)), (0, .inr (.inr x0)), (1, .inl x1)]) B dX0_party_13 rfl hl (by decide) rfl (fun ls hl => ?_)
    refine ax_ldcw B cn_X0_398 dX0_party_14 ?_
    refine ax_istore_n (L' := [(3, .inl 100000000), (2, .inl (-1)), (0, .inr (.inr x0)), (1, .inl x1)]) B dX0_party_17 rfl hl (by decide) rfl (fun ls hl => ?_)
    refine ax_iconst B dX0_party_18 ?_
    refine ax_istore (L' := [(4, .inl 0), (3, .inl 100000000), (2, .inl (-1)), (0, .inr (.inr x0)), (1, .inl x1)]) B dX0_party_19 hl (by decide) rfl (fun ls hl => ?_)
    exact w_X0_party_21 hSF B Z hn x0 x1 (-1) 100000000 0 (hl.sub [3, 4, 2, 1, 0] rfl) e hp
theorem mt_X0_party (l : Launch) (G : ax_G) (hSF : ax_SF G) (x0 : Option Nat) (x1 : Int) (h : ax_H) (w : Int × ax_H) (e : f_X0_party G.2.2 x0 x1 h = some w) : ax_Met l G yX0_party cX0_party 6 ((some FieldType.int)) 141 3594 [va_rf x0, .int (Int32.ofInt x1)] h w.2 (some (.int (Int32.ofInt w.1))) :=
  ax_enter [.inr (.inr x0), .inl x1] (y := yX0_party) hSF (plainFor_of_name (by decide +kernel)) (Nat.le_of_ble_eq_true rfl) (fun X ls B Z hn hl => we_X0_party hSF B Z hn x0 x1 hl e rfl)
def dkwX27_go_7 : List UInt8 := [167, 255, 183, 177]
abbrev dktX27_go_7 : List UInt8 := dkwX27_go_7 ++ []
def dkwX27_go_6 : List UInt8 := [42, 180, 0, 20, 27, 29, 79, 42, 27, 4, 96, 28, 4, 29, 120, 128, 182, 0, 53, 132, 3, 1]
abbrev dktX27_go_6 : List UInt8 := dkwX27_go_6 ++ dktX27_go_7
def dkwX27_go_5 : List UInt8 := [154, 0, 43, 42, 180, 0, 17, 42, 180, 0, 20, 27, 4, 100, 46, 50, 29, 46, 154, 0, 6, 167, 0, 22]
abbrev dktX27_go_5 : List UInt8 := dkwX27_go_5 ++ dktX27_go_6
def dkwX27_go_4 : List UInt8 := [180, 0, 44, 180, 0, 48, 162, 0, 65, 27, 42, 180, 0, 28, 162, 0, 57, 28, 29, 184, 0, 66]
abbrev dktX27_go_4 : List UInt8 := dkwX27_go_4 ++ dktX27_go_5
def dkwX27_go_3 : List UInt8 := [180, 0, 24, 3, 27, 184, 0, 60, 42, 180, 0, 20, 3, 46, 4, 96, 62, 29, 42, 180, 0, 3]
abbrev dktX27_go_3 : List UInt8 := dkwX27_go_3 ++ dktX27_go_4
def dkwX27_go_2 : List UInt8 := [180, 0, 57, 162, 0, 27, 42, 27, 181, 0, 28, 42, 28, 181, 0, 57, 42, 180, 0, 20, 3, 42]
abbrev dktX27_go_2 : List UInt8 := dkwX27_go_2 ++ dktX27_go_3
def dkwX27_go_1 : List UInt8 := [46, 158, 0, 51, 27, 42, 180, 0, 28, 161, 0, 19, 27, 42, 180, 0, 28, 160, 0, 35, 28, 42]
abbrev dktX27_go_1 : List UInt8 := dkwX27_go_1 ++ dktX27_go_2
def dkwX27_go_0 : List UInt8 := [27, 4, 164, 0, 74, 42, 180, 0, 17, 42, 180, 0, 20, 27, 4, 100, 46, 50, 42, 180, 0, 20, 3, 46]
abbrev dktX27_go_0 : List UInt8 := dkwX27_go_0 ++ dktX27_go_1
theorem dksX27_go_0 : cX27_go.data.toList.drop 0 = dktX27_go_0 := by decide +kernel
theorem dksX27_go_1 : cX27_go.data.toList.drop 24 = dktX27_go_1 := dk_seg dksX27_go_0 24 rfl rfl
theorem dksX27_go_2 : cX27_go.data.toList.drop 46 = dktX27_go_2 := dk_seg dksX27_go_1 22 rfl rfl
theorem dksX27_go_3 : cX27_go.data.toList.drop 68 = dktX27_go_3 := dk_seg dksX27_go_2 22 rfl rfl
theorem dksX27_go_4 : cX27_go.data.toList.drop 90 = dktX27_go_4 := dk_seg dksX27_go_3 22 rfl rfl
theorem dksX27_go_5 : cX27_go.data.toList.drop 112 = dktX27_go_5 := dk_seg dksX27_go_4 22 rfl rfl
theorem dksX27_go_6 : cX27_go.data.toList.drop 136 = dktX27_go_6 := dk_seg dksX27_go_5 24 rfl rfl
theorem dksX27_go_7 : cX27_go.data.toList.drop 158 = dktX27_go_7 := dk_seg dksX27_go_6 22 rfl rfl
theorem dX27_go_0 : decode cX27_go 0 = .ok (.iload_n 1, 1) := dk_27 (dk_at dksX27_go_0 0 rfl rfl)
theorem dX27_go_1 : decode cX27_go 1 = .ok (.iconst 1, 1) := dk_4 (dk_at dksX27_go_0 1 rfl rfl)
theorem dX27_go_2 : decode cX27_go 2 = .ok (.if_icmp .le 74, 3) := dk_164 0 74 (dk_at dksX27_go_0 2 rfl rfl)
theorem dX27_go_5 : decode cX27_go 5 = .ok (.aload_n 0, 1) := dk_42 (dk_at dksX27_go_0 5 rfl rfl)
theorem dX27_go_6 : decode cX27_go 6 = .ok (.getfield 17, 3) := dk_180 0 17 (dk_at dksX27_go_0 6 rfl rfl)
theorem dX27_go_9 : decode cX27_go 9 = .ok (.aload_n 0, 1) := dk_42 (dk_at dksX27_go_0 9 rfl rfl)
theorem dX27_go_10 : decode cX27_go 10 = .ok (.getfield 20, 3) := dk_180 0 20 (dk_at dksX27_go_0 10 rfl rfl)
theorem dX27_go_13 : decode cX27_go 13 = .ok (.iload_n 1, 1) := dk_27 (dk_at dksX27_go_0 13 rfl rfl)
theorem dX27_go_14 : decode cX27_go 14 = .ok (.iconst 1, 1) := dk_4 (dk_at dksX27_go_0 14 rfl rfl)
theorem dX27_go_15 : decode cX27_go 15 = .ok (.isub, 1) := dk_100 (dk_at dksX27_go_0 15 rfl rfl)
theorem dX27_go_16 : decode cX27_go 16 = .ok (.iaload, 1) := dk_46 (dk_at dksX27_go_0 16 rfl rfl)
theorem dX27_go_17 : decode cX27_go 17 = .ok (.aaload, 1) := dk_50 (dk_at dksX27_go_0 17 rfl rfl)
theorem dX27_go_18 : decode cX27_go 18 = .ok (.aload_n 0, 1) := dk_42 (dk_at dksX27_go_0 18 rfl rfl)
theorem dX27_go_19 : decode cX27_go 19 = .ok (.getfield 20, 3) := dk_180 0 20 (dk_at dksX27_go_0 19 rfl rfl)
theorem dX27_go_22 : decode cX27_go 22 = .ok (.iconst 0, 1) := dk_3 (dk_at dksX27_go_0 22 rfl rfl)
theorem dX27_go_23 : decode cX27_go 23 = .ok (.iaload, 1) := dk_46 (dk_at dksX27_go_0 23 rfl rfl)
theorem dX27_go_24 : decode cX27_go 24 = .ok (.iaload, 1) := dk_46 (dk_at dksX27_go_1 0 rfl rfl)
theorem dX27_go_25 : decode cX27_go 25 = .ok (.ifCond .le 51, 3) := dk_158 0 51 (dk_at dksX27_go_1 1 rfl rfl)
theorem dX27_go_28 : decode cX27_go 28 = .ok (.iload_n 1, 1) := dk_27 (dk_at dksX27_go_1 4 rfl rfl)
theorem dX27_go_29 : decode cX27_go 29 = .ok (.aload_n 0, 1) := dk_42 (dk_at dksX27_go_1 5 rfl rfl)
theorem dX27_go_30 : decode cX27_go 30 = .ok (.getfield 28, 3) := dk_180 0 28 (dk_at dksX27_go_1 6 rfl rfl)
theorem dX27_go_33 : decode cX27_go 33 = .ok (.if_icmp .lt 19, 3) := dk_161 0 19 (dk_at dksX27_go_1 9 rfl rfl)
theorem dX27_go_36 : decode cX27_go 36 = .ok (.iload_n 1, 1) := dk_27 (dk_at dksX27_go_1 12 rfl rfl)
theorem dX27_go_37 : decode cX27_go 37 = .ok (.aload_n 0, 1) := dk_42 (dk_at dksX27_go_1 13 rfl rfl)
theorem dX27_go_38 : decode cX27_go 38 = .ok (.getfield 28, 3) := dk_180 0 28 (dk_at dksX27_go_1 14 rfl rfl)
theorem dX27_go_41 : decode cX27_go 41 = .ok (.if_icmp .ne 35, 3) := dk_160 0 35 (dk_at dksX27_go_1 17 rfl rfl)
theorem dX27_go_44 : decode cX27_go 44 = .ok (.iload_n 2, 1) := dk_28 (dk_at dksX27_go_1 20 rfl rfl)
theorem dX27_go_45 : decode cX27_go 45 = .ok (.aload_n 0, 1) := dk_42 (dk_at dksX27_go_1 21 rfl rfl)
theorem dX27_go_46 : decode cX27_go 46 = .ok (.getfield 57, 3) := dk_180 0 57 (dk_at dksX27_go_2 0 rfl rfl)
theorem dX27_go_49 : decode cX27_go 49 = .ok (.if_icmp .ge 27, 3) := dk_162 0 27 (dk_at dksX27_go_2 3 rfl rfl)
theorem dX27_go_52 : decode cX27_go 52 = .ok (.aload_n 0, 1) := dk_42 (dk_at dksX27_go_2 6 rfl rfl)
theorem dX27_go_53 : decode cX27_go 53 = .ok (.iload_n 1, 1) := dk_27 (dk_at dksX27_go_2 7 rfl rfl)
theorem dX27_go_54 : decode cX27_go 54 = .ok (.putfield 28, 3) := dk_181 0 28 (dk_at dksX27_go_2 8 rfl rfl)
theorem dX27_go_57 : decode cX27_go 57 = .ok (.aload_n 0, 1) := dk_42 (dk_at dksX27_go_2 11 rfl rfl)
theorem dX27_go_58 : decode cX27_go 58 = .ok (.iload_n 2, 1) := dk_28 (dk_at dksX27_go_2 12 rfl rfl)
theorem dX27_go_59 : decode cX27_go 59 = .ok (.putfield 57, 3) := dk_181 0 57 (dk_at dksX27_go_2 13 rfl rfl)
theorem dX27_go_62 : decode cX27_go 62 = .ok (.aload_n 0, 1) := dk_42 (dk_at dksX27_go_2 16 rfl rfl)
theorem dX27_go_63 : decode cX27_go 63 = .ok (.getfield 20, 3) := dk_180 0 20 (dk_at dksX27_go_2 17 rfl rfl)
theorem dX27_go_66 : decode cX27_go 66 = .ok (.iconst 0, 1) := dk_3 (dk_at dksX27_go_2 20 rfl rfl)
theorem dX27_go_67 : decode cX27_go 67 = .ok (.aload_n 0, 1) := dk_42 (dk_at dksX27_go_2 21 rfl rfl)
theorem dX27_go_68 : decode cX27_go 68 = .ok (.getfield 24, 3) := dk_180 0 24 (dk_at dksX27_go_3 0 rfl rfl)
theorem dX27_go_71 : decode cX27_go 71 = .ok (.iconst 0, 1) := dk_3 (dk_at dksX27_go_3 3 rfl rfl)
theorem dX27_go_72 : decode cX27_go 72 = .ok (.iload_n 1, 1) := dk_27 (dk_at dksX27_go_3 4 rfl rfl)
theorem dX27_go_73 : decode cX27_go 73 = .ok (.invokestatic 60, 3) := dk_184 0 60 (dk_at dksX27_go_3 5 rfl rfl)
theorem dX27_go_76 : decode cX27_go 76 = .ok (.aload_n 0, 1) := dk_42 (dk_at dksX27_go_3 8 rfl rfl)
theorem dX27_go_77 : decode cX27_go 77 = .ok (.getfield 20, 3) := dk_180 0 20 (dk_at dksX27_go_3 9 rfl rfl)
theorem dX27_go_80 : decode cX27_go 80 = .ok (.iconst 0, 1) := dk_3 (dk_at dksX27_go_3 12 rfl rfl)
theorem dX27_go_81 : decode cX27_go 81 = .ok (.iaload, 1) := dk_46 (dk_at dksX27_go_3 13 rfl rfl)
theorem dX27_go_82 : decode cX27_go 82 = .ok (.iconst 1, 1) := dk_4 (dk_at dksX27_go_3 14 rfl rfl)
theorem dX27_go_83 : decode cX27_go 83 = .ok (.iadd, 1) := dk_96 (dk_at dksX27_go_3 15 rfl rfl)
theorem dX27_go_84 : decode cX27_go 84 = .ok (.istore_n 3, 1) := dk_62 (dk_at dksX27_go_3 16 rfl rfl)
theorem dX27_go_85 : decode cX27_go 85 = .ok (.iload_n 3, 1) := dk_29 (dk_at dksX27_go_3 17 rfl rfl)
theorem dX27_go_86 : decode cX27_go 86 = .ok (.aload_n 0, 1) := dk_42 (dk_at dksX27_go_3 18 rfl rfl)
theorem dX27_go_87 : decode cX27_go 87 = .ok (.getfield 3, 3) := dk_180 0 3 (dk_at dksX27_go_3 19 rfl rfl)
theorem dX27_go_90 : decode cX27_go 90 = .ok (.getfield 44, 3) := dk_180 0 44 (dk_at dksX27_go_4 0 rfl rfl)
theorem dX27_go_93 : decode cX27_go 93 = .ok (.getfield 48, 3) := dk_180 0 48 (dk_at dksX27_go_4 3 rfl rfl)
theorem dX27_go_96 : decode cX27_go 96 = .ok (.if_icmp .ge 65, 3) := dk_162 0 65 (dk_at dksX27_go_4 6 rfl rfl)
theorem dX27_go_99 : decode cX27_go 99 = .ok (.iload_n 1, 1) := dk_27 (dk_at dksX27_go_4 9 rfl rfl)
theorem dX27_go_100 : decode cX27_go 100 = .ok (.aload_n 0, 1) := dk_42 (dk_at dksX27_go_4 10 rfl rfl)
theorem dX27_go_101 : decode cX27_go 101 = .ok (.getfield 28, 3) := dk_180 0 28 (dk_at dksX27_go_4 11 rfl rfl)
theorem dX27_go_104 : decode cX27_go 104 = .ok (.if_icmp .ge 57, 3) := dk_162 0 57 (dk_at dksX27_go_4 14 rfl rfl)
theorem dX27_go_107 : decode cX27_go 107 = .ok (.iload_n 2, 1) := dk_28 (dk_at dksX27_go_4 17 rfl rfl)
theorem dX27_go_108 : decode cX27_go 108 = .ok (.iload_n 3, 1) := dk_29 (dk_at dksX27_go_4 18 rfl rfl)
theorem dX27_go_109 : decode cX27_go 109 = .ok (.invokestatic 66, 3) := dk_184 0 66 (dk_at dksX27_go_4 19 rfl rfl)
theorem dX27_go_112 : decode cX27_go 112 = .ok (.ifCond .ne 43, 3) := dk_154 0 43 (dk_at dksX27_go_5 0 rfl rfl)
theorem dX27_go_115 : decode cX27_go 115 = .ok (.aload_n 0, 1) := dk_42 (dk_at dksX27_go_5 3 rfl rfl)
theorem dX27_go_116 : decode cX27_go 116 = .ok (.getfield 17, 3) := dk_180 0 17 (dk_at dksX27_go_5 4 rfl rfl)
theorem dX27_go_119 : decode cX27_go 119 = .ok (.aload_n 0, 1) := dk_42 (dk_at dksX27_go_5 7 rfl rfl)
theorem dX27_go_120 : decode cX27_go 120 = .ok (.getfield 20, 3) := dk_180 0 20 (dk_at dksX27_go_5 8 rfl rfl)
theorem dX27_go_123 : decode cX27_go 123 = .ok (.iload_n 1, 1) := dk_27 (dk_at dksX27_go_5 11 rfl rfl)
theorem dX27_go_124 : decode cX27_go 124 = .ok (.iconst 1, 1) := dk_4 (dk_at dksX27_go_5 12 rfl rfl)
theorem dX27_go_125 : decode cX27_go 125 = .ok (.isub, 1) := dk_100 (dk_at dksX27_go_5 13 rfl rfl)
theorem dX27_go_126 : decode cX27_go 126 = .ok (.iaload, 1) := dk_46 (dk_at dksX27_go_5 14 rfl rfl)
theorem dX27_go_127 : decode cX27_go 127 = .ok (.aaload, 1) := dk_50 (dk_at dksX27_go_5 15 rfl rfl)
theorem dX27_go_128 : decode cX27_go 128 = .ok (.iload_n 3, 1) := dk_29 (dk_at dksX27_go_5 16 rfl rfl)
theorem dX27_go_129 : decode cX27_go 129 = .ok (.iaload, 1) := dk_46 (dk_at dksX27_go_5 17 rfl rfl)
theorem dX27_go_130 : decode cX27_go 130 = .ok (.ifCond .ne 6, 3) := dk_154 0 6 (dk_at dksX27_go_5 18 rfl rfl)
theorem dX27_go_133 : decode cX27_go 133 = .ok (.goto 22, 3) := dk_167 0 22 (dk_at dksX27_go_5 21 rfl rfl)
theorem dX27_go_136 : decode cX27_go 136 = .ok (.aload_n 0, 1) := dk_42 (dk_at dksX27_go_6 0 rfl rfl)
theorem dX27_go_137 : decode cX27_go 137 = .ok (.getfield 20, 3) := dk_180 0 20 (dk_at dksX27_go_6 1 rfl rfl)
theorem dX27_go_140 : decode cX27_go 140 = .ok (.iload_n 1, 1) := dk_27 (dk_at dksX27_go_6 4 rfl rfl)
theorem dX27_go_141 : decode cX27_go 141 = .ok (.iload_n 3, 1) := dk_29 (dk_at dksX27_go_6 5 rfl rfl)
theorem dX27_go_142 : decode cX27_go 142 = .ok (.iastore, 1) := dk_79 (dk_at dksX27_go_6 6 rfl rfl)
theorem dX27_go_143 : decode cX27_go 143 = .ok (.aload_n 0, 1) := dk_42 (dk_at dksX27_go_6 7 rfl rfl)
theorem dX27_go_144 : decode cX27_go 144 = .ok (.iload_n 1, 1) := dk_27 (dk_at dksX27_go_6 8 rfl rfl)
theorem dX27_go_145 : decode cX27_go 145 = .ok (.iconst 1, 1) := dk_4 (dk_at dksX27_go_6 9 rfl rfl)
theorem dX27_go_146 : decode cX27_go 146 = .ok (.iadd, 1) := dk_96 (dk_at dksX27_go_6 10 rfl rfl)
theorem dX27_go_147 : decode cX27_go 147 = .ok (.iload_n 2, 1) := dk_28 (dk_at dksX27_go_6 11 rfl rfl)
theorem dX27_go_148 : decode cX27_go 148 = .ok (.iconst 1, 1) := dk_4 (dk_at dksX27_go_6 12 rfl rfl)
theorem dX27_go_149 : decode cX27_go 149 = .ok (.iload_n 3, 1) := dk_29 (dk_at dksX27_go_6 13 rfl rfl)
theorem dX27_go_150 : decode cX27_go 150 = .ok (.ishl, 1) := dk_120 (dk_at dksX27_go_6 14 rfl rfl)
theorem dX27_go_151 : decode cX27_go 151 = .ok (.ior, 1) := dk_128 (dk_at dksX27_go_6 15 rfl rfl)
theorem dX27_go_152 : decode cX27_go 152 = .ok (.invokevirtual 53, 3) := dk_182 0 53 (dk_at dksX27_go_6 16 rfl rfl)
theorem dX27_go_155 : decode cX27_go 155 = .ok (.iinc 3 1, 3) := dk_132 3 1 (dk_at dksX27_go_6 19 rfl rfl)
theorem dX27_go_158 : decode cX27_go 158 = .ok (.goto (-73), 3) := dk_167 255 183 (dk_at dksX27_go_7 0 rfl rfl)
theorem dX27_go_161 : decode cX27_go 161 = .ok (.return_, 1) := dk_177 (dk_at dksX27_go_7 3 rfl rfl)
noncomputable def f_X27_go_155 (E : ax_E) (g0 : Option Nat → Int → Int → ax_H → Option (ax_H)) (x0 : Option Nat) (x1 : Int) (x2 : Int) (x3 : Int) (h : ax_H) : Option ((Int × ax_H) ⊕ (ax_H)) :=
  some (.inl ((x3 + 1), h))
noncomputable def lb_X27_go_85 (E : ax_E) (g0 : Option Nat → Int → Int → ax_H → Option (ax_H)) (x0 : Option Nat) (x1 : Int) (x2 : Int) (x3 : Int) (h : ax_H) : Option ((Int × ax_H) ⊕ (ax_H)) :=
  (ax_gR E h x0 27 5).bind fun v1 =>
  (ax_gR E h v1 0 0).bind fun v2 =>
  (ax_gI E h v2 1 6).bind fun v3 =>
  if i2 x3 < i2 v3 then
    (ax_gI E h x0 27 3).bind fun v4 =>
    if i2 x1 < i2 v4 then
      (f_X0_has E x2 x3 h).bind fun q5 =>
      if i2 q5.1 = 0 then
        (ax_gR E q5.2 x0 27 0).bind fun v6 =>
        (ax_gR E q5.2 x0 27 1).bind fun v7 =>
        (ax_ld E q5.2 v7 100 (x1 - 1)).bind fun v8 =>
        (ax_ldR E q5.2 v6 111 v8).bind fun v9 =>
        (ax_ld E q5.2 v9 100 x3).bind fun v10 =>
        if i2 v10 = 0 then
          f_X27_go_155 E g0 x0 x1 x2 x3 q5.2
        else
          (ax_gR E q5.2 x0 27 1).bind fun v11 =>
          (ax_sto q5.2 v11 100 x1 x3).bind fun h12 =>
          (ax_ce E h12 x0 27).bind fun _ => (g0 x0 (x1 + 1) (ax_or x2 (ax_shl 1 x3)) h12).bind fun h13 =>
          f_X27_go_155 E g0 x0 x1 x2 x3 h13
      else
        f_X27_go_155 E g0 x0 x1 x2 x3 q5.2
    else
      (some h).map Sum.inr
  else
    (some h).map Sum.inr
noncomputable def f_X27_go_85 (E : ax_E) (g0 : Option Nat → Int → Int → ax_H → Option (ax_H)) (x0 : Option Nat) (x1 : Int) (x2 : Int) (x3 : Int) (h : ax_H) : Option (ax_H) :=
  ax_iter (fun s : Int × ax_H => lb_X27_go_85 E g0 x0 x1 x2 s.1 s.2) (x3, h)
noncomputable def f_X27_go_76 (E : ax_E) (g0 : Option Nat → Int → Int → ax_H → Option (ax_H)) (x0 : Option Nat) (x1 : Int) (x2 : Int) (h : ax_H) : Option (ax_H) :=
  (ax_gR E h x0 27 1).bind fun v1 =>
  (ax_ld E h v1 100 0).bind fun v2 =>
  f_X27_go_85 E g0 x0 x1 x2 (v2 + 1) h
noncomputable def f_X27_go_52 (E : ax_E) (g0 : Option Nat → Int → Int → ax_H → Option (ax_H)) (x0 : Option Nat) (x1 : Int) (x2 : Int) (h : ax_H) : Option (ax_H) :=
  (ax_pI h x0 27 3 x1).bind fun h1 =>
  (ax_pI h1 x0 27 4 x2).bind fun h2 =>
  (ax_gR E h2 x0 27 1).bind fun v3 =>
  (ax_gR E h2 x0 27 2).bind fun v4 =>
  (ax_cp E h2 ax_anyP v3 100 0 v4 0 x1).bind fun h5 =>
  f_X27_go_76 E g0 x0 x1 x2 h5
noncomputable def f_X27_go (E : ax_E) (g0 : Option Nat → Int → Int → ax_H → Option (ax_H)) (x0 : Option Nat) (x1 : Int) (x2 : Int) (h : ax_H) : Option (ax_H) :=
  if i2 1 < i2 x1 then
    (ax_gR E h x0 27 0).bind fun v1 =>
    (ax_gR E h x0 27 1).bind fun v2 =>
    (ax_ld E h v2 100 (x1 - 1)).bind fun v3 =>
    (ax_ldR E h v1 111 v3).bind fun v4 =>
    (ax_gR E h x0 27 1).bind fun v5 =>
    (ax_ld E h v5 100 0).bind fun v6 =>
    (ax_ld E h v4 100 v6).bind fun v7 =>
    if 0 < i2 v7 then
      (ax_gI E h x0 27 3).bind fun v8 =>
      if i2 x1 < i2 v8 then
        f_X27_go_52 E g0 x0 x1 x2 h
      else
        (ax_gI E h x0 27 3).bind fun v9 =>
        if i2 x1 = i2 v9 then
          (ax_gI E h x0 27 4).bind fun v10 =>
          if i2 x2 < i2 v10 then
            f_X27_go_52 E g0 x0 x1 x2 h
          else
            f_X27_go_76 E g0 x0 x1 x2 h
        else
          f_X27_go_76 E g0 x0 x1 x2 h
    else
      f_X27_go_76 E g0 x0 x1 x2 h
  else
    f_X27_go_76 E g0 x0 x1 x2 h
noncomputable def rg_X27_go (E : ax_E) : Nat → (Option Nat → Int → Int → ax_H → Option (ax_H))
  | 0 => (fun x0 x1 x2 h => none)
  | n + 1 => (fun x0 x1 x2 h => f_X27_go E (rg_X27_go E n) x0 x1 x2 h)
noncomputable def fn_X27_go (E : ax_E) (n : Nat) (x0 : Option Nat) (x1 : Int) (x2 : Int) (h : ax_H) : Option (ax_H) := (rg_X27_go E n) x0 x1 x2 h
def pi_X27_go_85 (G : ax_G) (X : ax_X) (Q : State → Prop) (x0 : Option Nat) (x1 : Int) (x2 : Int) : Int × ax_H → Prop := fun s => ∀ ls : Array Slot, ax_hl ls 4 [(0, .inr (.inr x0)), (1, .inl x1), (2, .inl x2), (3, .inl s.1)] → ax_W G X Q s.2 85 ls []
set_option maxHeartbeats 4000000 in
theorem w_X27_go_155 {l : Launch} {G : ax_G} {X : ax_X} {Q : State → Prop} {h0 h : ax_H} {ls : Array Slot} {g0 : Option Nat → Int → Int → ax_H → Option (ax_H)} {fr lo fr1 lo1 : Nat} (hF : fr1 + 1 ≤ fr ∧ 2 ≤ fr ∧ lo1 + 23 ≤ lo ∧ 61 ≤ lo) (hg0 : ∀ (x0 : Option Nat) (x1 : Int) (x2 : Int) (h : ax_H) (w : ax_H), g0 x0 x1 x2 h = some w → ax_Met l G yX27_go cX27_go 4 none fr1 lo1 [va_rf x0, .int (Int32.ofInt x1), .int (Int32.ofInt x2)] h w none) (hSF : ax_SF G) (B : ax_BL l G X cX27_go 4 RX27 fr lo) (Z : ax_Z X h0 none) (hn : X.2.2.2.2.2.2.2.2.1.name = yX27_go.name) (x0 : Option Nat) (x1 : Int) (x2 : Int) (x3 : Int) {w : (Int × ax_H) ⊕ (ax_H)} (hl : ax_hl ls 4 [(0, .inr (.inr x0)), (1, .inl x1), (2, .inl x2), (3, .inl x3)]) (e : f_X27_go_155 G.2.2 g0 x0 x1 x2 x3 h = some w) (hp : (ax_PL (pi_X27_go_85 G X Q x0 x1 x2) (fun w : ax_H => Q = ax_Q G X h0 w none)) w) : ax_W G X Q h 155 ls [] := by
  unfold f_X27_go_155 at e
  refine ax_iinc (L' := [(3, .inl (x3 + 1)), (0, .inr (.inr x0)), (1, .inl x1), (2, .inl x2)]) B dX27_go_155 hl 3 rfl (by decide) rfl (fun ls hl => ?_)
  refine ax_goto (tgt := 85) B dX27_go_158 (by decide) ?_
  cases e
  exact hp _ (hl.sub [1, 2, 3, 0] rfl)
set_option maxHeartbeats 4000000 in
theorem wb_X27_go_85 {l : Launch} {G : ax_G} {X : ax_X} {Q : State → Prop} {h0 h : ax_H} {ls : Array Slot} {g0 : Option Nat → Int → Int → ax_H → Option (ax_H)} {fr lo fr1 lo1 : Nat} (hF : fr1 + 1 ≤ fr ∧ 2 ≤ fr ∧ lo1 + 23 ≤ lo ∧ 61 ≤ lo) (hg0 : ∀ (x0 : Option Nat) (x1 : Int) (x2 : Int) (h : ax_H) (w : ax_H), g0 x0 x1 x2 h = some w → ax_Met l G yX27_go cX27_go 4 none fr1 lo1 [va_rf x0, .int (Int32.ofInt x1), .int (Int32.ofInt x2)] h w none) (hSF : ax_SF G) (B : ax_BL l G X cX27_go 4 RX27 fr lo) (Z : ax_Z X h0 none) (hn : X.2.2.2.2.2.2.2.2.1.name = yX27_go.name) (x0 : Option Nat) (x1 : Int) (x2 : Int) (x3 : Int) {w : (Int × ax_H) ⊕ (ax_H)} (hl : ax_hl ls 4 [(0, .inr (.inr x0)), (1, .inl x1), (2, .inl x2), (3, .inl x3)]) (e : lb_X27_go_85 G.2.2 g0 x0 x1 x2 x3 h = some w) (hp : (ax_PL (pi_X27_go_85 G X Q x0 x1 x2) (fun w : ax_H => Q = ax_Q G X h0 w none)) w) : ax_W G X Q h 85 ls [] := by
  unfold lb_X27_go_85 at e
  refine ax_iload_n B dX27_go_85 rfl hl 3 rfl ?_
  refine ax_aload_n B dX27_go_86 rfl hl 0 rfl ?_
  refine ax_getR B ff_X27_3_27 (fun _ _ => rfl) dX27_go_87 e (fun v1 e => ?_)
  refine ax_getR B ff_X27_44_0 (fun _ _ => rfl) dX27_go_90 e (fun v2 e => ?_)
  refine ax_getI B ff_X27_48_1 (fun _ _ => rfl) dX27_go_93 e (fun v3 e => ?_)
  refine ax_icmp_ge (tgt := 161) B dX27_go_96 (by decide) e (fun e => ?_) (fun e => ?_)
  · refine ax_iload_n B dX27_go_99 rfl hl 1 rfl ?_
    refine ax_aload_n B dX27_go_100 rfl hl 0 rfl ?_
    refine ax_getI B ff_X27_28_27 (fun _ _ => rfl) dX27_go_101 e (fun v4 e => ?_)
    refine ax_icmp_ge (tgt := 161) B dX27_go_104 (by decide) e (fun e => ?_) (fun e => ?_)
    · refine ax_iload_n B dX27_go_107 rfl hl 2 rfl ?_
      refine ax_iload_n B dX27_go_108 rfl hl 3 rfl ?_
      refine ax_isNI (y := yX0_has) (n := 2) (As := [.int (Int32.ofInt x2), .int (Int32.ofInt x3)]) B q1667 q1574 q125 q1575 (by decide +kernel) (by omega) (fun w1 e1 => mt_X0_has l G hSF x2 x3 _ w1 e1) rfl hl.size (by decide) dX27_go_109 e (fun q5 e => ?_)
      refine ax_if_ne (tgt := 155) B dX27_go_112 (by decide) e (fun e => ?_) (fun e => ?_)
      · refine ax_aload_n B dX27_go_115 rfl hl 0 rfl ?_
        refine ax_getR B ff_X27_17_27 (fun _ _ => rfl) dX27_go_116 e (fun v6 e => ?_)
        refine ax_aload_n B dX27_go_119 rfl hl 0 rfl ?_
        refine ax_getR B ff_X27_20_27 (fun _ _ => rfl) dX27_go_120 e (fun v7 e => ?_)
        refine ax_iload_n B dX27_go_123 rfl hl 1 rfl ?_
        refine ax_iconst B dX27_go_124 ?_
        refine ax_isub' B dX27_go_125 ?_
        refine ax_iald B kd100 dX27_go_126 e (fun v8 e => ?_)
        refine ax_aald rfl B kd111 dX27_go_127 e (fun v9 e => ?_)
        refine ax_iload_n B dX27_go_128 rfl hl 3 rfl ?_
        refine ax_iald B kd100 dX27_go_129 e (fun v10 e => ?_)
        refine ax_if_ne (tgt := 136) B dX27_go_130 (by decide) e (fun e => ?_) (fun e => ?_)
        · refine ax_goto (tgt := 155) B dX27_go_133 (by decide) ?_
          exact w_X27_go_155 hF hg0 hSF B Z hn x0 x1 x2 x3 (hl.sub [0, 1, 2, 3] rfl) e hp
        · refine ax_aload_n B dX27_go_136 rfl hl 0 rfl ?_
          refine ax_getR B ff_X27_20_27 (fun _ _ => rfl) dX27_go_137 e (fun v11 e => ?_)
          refine ax_iload_n B dX27_go_140 rfl hl 1 rfl ?_
          refine ax_iload_n B dX27_go_141 rfl hl 3 rfl ?_
          refine ax_iast B kd100 dX27_go_142 e (fun h12 e => ?_)
          refine ax_aload_n B dX27_go_143 rfl hl 0 rfl ?_
          refine ax_iload_n B dX27_go_144 rfl hl 1 rfl ?_
          refine ax_iconst B dX27_go_145 ?_
          refine ax_iadd' B dX27_go_146 ?_
          refine ax_iload_n B dX27_go_147 rfl hl 2 rfl ?_
          refine ax_iconst B dX27_go_148 ?_
          refine ax_iload_n B dX27_go_149 rfl hl 3 rfl ?_
          refine ax_ishl' B dX27_go_150 ?_
          refine ax_ior' B dX27_go_151 ?_
          refine ax_ivV (y := yX27_go) (n := 2) (As := [.int (Int32.ofInt (x1 + 1)), .int (Int32.ofInt (ax_or x2 (ax_shl 1 x3)))]) B kd27 (lw_V q1662 q1664 qs37 q169 q1665) (by decide +kernel) (by omega) (fun w1 e1 => hg0 x0 (x1 + 1) (ax_or x2 (ax_shl 1 x3)) _ w1 e1) rfl hl.size (by decide) dX27_go_152 e (fun h13 e => ?_)
          exact w_X27_go_155 hF hg0 hSF B Z hn x0 x1 x2 x3 (hl.sub [0, 1, 2, 3] rfl) e hp
      · exact w_X27_go_155 hF hg0 hSF B Z hn x0 x1 x2 x3 (hl.sub [0, 1, 2, 3] rfl) e hp
    · obtain ⟨w, e9_1, rfl⟩ := Option.map_eq_some_iff.mp e
      have e := e9_1
      have e8 := e
      have hp : Q = _ := hp
      subst hp
      exact ax_return B Z dX27_go_161 e8
  · obtain ⟨w, e9_2, rfl⟩ := Option.map_eq_some_iff.mp e
    have e := e9_2
    have e8 := e
    have hp : Q = _ := hp
    subst hp
    exact ax_return B Z dX27_go_161 e8
theorem w_X27_go_85 {l : Launch} {G : ax_G} {X : ax_X} {Q : State → Prop} {h0 h : ax_H} {ls : Array Slot} {g0 : Option Nat → Int → Int → ax_H → Option (ax_H)} {fr lo fr1 lo1 : Nat} (hF : fr1 + 1 ≤ fr ∧ 2 ≤ fr ∧ lo1 + 23 ≤ lo ∧ 61 ≤ lo) (hg0 : ∀ (x0 : Option Nat) (x1 : Int) (x2 : Int) (h : ax_H) (w : ax_H), g0 x0 x1 x2 h = some w → ax_Met l G yX27_go cX27_go 4 none fr1 lo1 [va_rf x0, .int (Int32.ofInt x1), .int (Int32.ofInt x2)] h w none) (hSF : ax_SF G) (B : ax_BL l G X cX27_go 4 RX27 fr lo) (Z : ax_Z X h0 none) (hn : X.2.2.2.2.2.2.2.2.1.name = yX27_go.name) (x0 : Option Nat) (x1 : Int) (x2 : Int) (x3 : Int) {w : ax_H} (hl : ax_hl ls 4 [(0, .inr (.inr x0)), (1, .inl x1), (2, .inl x2), (3, .inl x3)]) (e : f_X27_go_85 G.2.2 g0 x0 x1 x2 x3 h = some w) (hp : (fun w : ax_H => Q = ax_Q G X h0 w none) w) : ax_W G X Q h 85 ls [] :=
  ax_iter_W (Pin := pi_X27_go_85 G X Q x0 x1 x2) (Pout := (fun w : ax_H => Q = ax_Q G X h0 w none)) (fun s w e hp ls hl => wb_X27_go_85 hF hg0 hSF B Z hn x0 x1 x2 s.1 hl e hp) _ _ e hp ls hl
set_option maxHeartbeats 4000000 in
theorem w_X27_go_76 {l : Launch} {G : ax_G} {X : ax_X} {Q : State → Prop} {h0 h : ax_H} {ls : Array Slot} {g0 : Option Nat → Int → Int → ax_H → Option (ax_H)} {fr lo fr1 lo1 : Nat} (hF : fr1 + 1 ≤ fr ∧ 2 ≤ fr ∧ lo1 + 23 ≤ lo ∧ 61 ≤ lo) (hg0 : ∀ (x0 : Option Nat) (x1 : Int) (x2 : Int) (h : ax_H) (w : ax_H), g0 x0 x1 x2 h = some w → ax_Met l G yX27_go cX27_go 4 none fr1 lo1 [va_rf x0, .int (Int32.ofInt x1), .int (Int32.ofInt x2)] h w none) (hSF : ax_SF G) (B : ax_BL l G X cX27_go 4 RX27 fr lo) (Z : ax_Z X h0 none) (hn : X.2.2.2.2.2.2.2.2.1.name = yX27_go.name) (x0 : Option Nat) (x1 : Int) (x2 : Int) {w : ax_H} (hl : ax_hl ls 4 [(0, .inr (.inr x0)), (1, .inl x1), (2, .inl x2)]) (e : f_X27_go_76 G.2.2 g0 x0 x1 x2 h = some w) (hp : (fun w : ax_H => Q = ax_Q G X h0 w none) w) : ax_W G X Q h 76 ls [] := by
  unfold f_X27_go_76 at e
  refine ax_aload_n B dX27_go_76 rfl hl 0 rfl ?_
  refine ax_getR B ff_X27_20_27 (fun _ _ => rfl) dX27_go_77 e (fun v1 e => ?_)
  refine ax_iconst B dX27_go_80 ?_
  refine ax_iald B kd100 dX27_go_81 e (fun v2 e => ?_)
  refine ax_iconst B dX27_go_82 ?_
  refine ax_iadd' B dX27_go_83 ?_
  refine ax_istore_n (L' := [(3, .inl (v2 + 1)), (0, .inr (.inr x0)), (1, .inl x1), (2, .inl x2)]) B dX27_go_84 rfl hl (by decide) rfl (fun ls hl => ?_)
  exact w_X27_go_85 hF hg0 hSF B Z hn x0 x1 x2 (v2 + 1) (hl.sub [1, 2, 3, 0] rfl) e hp
set_option maxHeartbeats 4000000 in
theorem w_X27_go_52 {l : Launch} {G : ax_G} {X : ax_X} {Q : State → Prop} {h0 h : ax_H} {ls : Array Slot} {g0 : Option Nat → Int → Int → ax_H → Option (ax_H)} {fr lo fr1 lo1 : Nat} (hF : fr1 + 1 ≤ fr ∧ 2 ≤ fr ∧ lo1 + 23 ≤ lo ∧ 61 ≤ lo) (hg0 : ∀ (x0 : Option Nat) (x1 : Int) (x2 : Int) (h : ax_H) (w : ax_H), g0 x0 x1 x2 h = some w → ax_Met l G yX27_go cX27_go 4 none fr1 lo1 [va_rf x0, .int (Int32.ofInt x1), .int (Int32.ofInt x2)] h w none) (hSF : ax_SF G) (B : ax_BL l G X cX27_go 4 RX27 fr lo) (Z : ax_Z X h0 none) (hn : X.2.2.2.2.2.2.2.2.1.name = yX27_go.name) (x0 : Option Nat) (x1 : Int) (x2 : Int) {w : ax_H} (hl : ax_hl ls 4 [(0, .inr (.inr x0)), (1, .inl x1), (2, .inl x2)]) (e : f_X27_go_52 G.2.2 g0 x0 x1 x2 h = some w) (hp : (fun w : ax_H => Q = ax_Q G X h0 w none) w) : ax_W G X Q h 52 ls [] := by
  unfold f_X27_go_52 at e
  refine ax_aload_n B dX27_go_52 rfl hl 0 rfl ?_
  refine ax_iload_n B dX27_go_53 rfl hl 1 rfl ?_
  refine ax_putI B ff_X27_28_27 (Or.inl rfl) rfl dX27_go_54 e (fun h1 e => ?_)
  refine ax_aload_n B dX27_go_57 rfl hl 0 rfl ?_
  refine ax_iload_n B dX27_go_58 rfl hl 2 rfl ?_
  refine ax_putI B ff_X27_57_27 (Or.inl rfl) rfl dX27_go_59 e (fun h2 e => ?_)
  refine ax_aload_n B dX27_go_62 rfl hl 0 rfl ?_
  refine ax_getR B ff_X27_20_27 (fun _ _ => rfl) dX27_go_63 e (fun v3 e => ?_)
  refine ax_iconst B dX27_go_66 ?_
  refine ax_aload_n B dX27_go_67 rfl hl 0 rfl ?_
  refine ax_getR B ff_X27_24_27 (fun _ _ => rfl) dX27_go_68 e (fun v4 e => ?_)
  refine ax_iconst B dX27_go_71 ?_
  refine ax_iload_n B dX27_go_72 rfl hl 1 rfl ?_
  refine ax_copyI B q1666 q696 q695 q143 hl.size (by omega) (by simp; omega) dX27_go_73 e (fun h5 e => ?_)
  exact w_X27_go_76 hF hg0 hSF B Z hn x0 x1 x2 (hl.sub [0, 1, 2] rfl) e hp
set_option maxHeartbeats 4000000 in
theorem we_X27_go {l : Launch} {G : ax_G} {X : ax_X} {Q : State → Prop} {h0 h : ax_H} {ls : Array Slot} {g0 : Option Nat → Int → Int → ax_H → Option (ax_H)} {fr lo fr1 lo1 : Nat} (hF : fr1 + 1 ≤ fr ∧ 2 ≤ fr ∧ lo1 + 23 ≤ lo ∧ 61 ≤ lo) (hg0 : ∀ (x0 : Option Nat) (x1 : Int) (x2 : Int) (h : ax_H) (w : ax_H), g0 x0 x1 x2 h = some w → ax_Met l G yX27_go cX27_go 4 none fr1 lo1 [va_rf x0, .int (Int32.ofInt x1), .int (Int32.ofInt x2)] h w none) (hSF : ax_SF G) (B : ax_BL l G X cX27_go 4 RX27 fr lo) (Z : ax_Z X h0 none) (hn : X.2.2.2.2.2.2.2.2.1.name = yX27_go.name) (x0 : Option Nat) (x1 : Int) (x2 : Int) {w : ax_H} (hl : ax_hl ls 4 [(0, .inr (.inr x0)), (1, .inl x1), (2, .inl x2)]) (e : f_X27_go G.2.2 g0 x0 x1 x2 h = some w) (hp : (fun w : ax_H => Q = ax_Q G X h0 w none) w) : ax_W G X Q h 0 ls [] := by
  unfold f_X27_go at e
  refine ax_iload_n B dX27_go_0 rfl hl 1 rfl ?_
  refine ax_iconst B dX27_go_1 ?_
  refine ax_icmp_le (tgt := 76) B dX27_go_2 (by decide) e (fun e => ?_) (fun e => ?_)
  · refine ax_aload_n B dX27_go_5 rfl hl 0 rfl ?_
    refine ax_getR B ff_X27_17_27 (fun _ _ => rfl) dX27_go_6 e (fun v1 e => ?_)
    refine ax_aload_n B dX27_go_9 rfl hl 0 rfl ?_
    refine ax_getR B ff_X27_20_27 (fun _ _ => rfl) dX27_go_10 e (fun v2 e => ?_)
    refine ax_iload_n B dX27_go_13 rfl hl 1 rfl ?_
    refine ax_iconst B dX27_go_14 ?_
    refine ax_isub' B dX27_go_15 ?_
    refine ax_iald B kd100 dX27_go_16 e (fun v3 e => ?_)
    refine ax_aald rfl B kd111 dX27_go_17 e (fun v4 e => ?_)
    refine ax_aload_n B dX27_go_18 rfl hl 0 rfl ?_
    refine ax_getR B ff_X27_20_27 (fun _ _ => rfl) dX27_go_19 e (fun v5 e => ?_)
    refine ax_iconst B dX27_go_22 ?_
    refine ax_iald B kd100 dX27_go_23 e (fun v6 e => ?_)
    refine ax_iald B kd100 dX27_go_24 e (fun v7 e => ?_)
    refine ax_if_le (tgt := 76) B dX27_go_25 (by decide) e (fun e => ?_) (fun e => ?_)
    · refine ax_iload_n B dX27_go_28 rfl hl 1 rfl ?_
      refine ax_aload_n B dX27_go_29 rfl hl 0 rfl ?_
      refine ax_getI B ff_X27_28_27 (fun _ _ => rfl) dX27_go_30 e (fun v8 e => ?_)
      refine ax_icmp_lt (tgt := 52) B dX27_go_33 (by decide) e (fun e => ?_) (fun e => ?_)
      · exact w_X27_go_52 hF hg0 hSF B Z hn x0 x1 x2 (hl.sub [0, 1, 2] rfl) e hp
      · refine ax_iload_n B dX27_go_36 rfl hl 1 rfl ?_
        refine ax_aload_n B dX27_go_37 rfl hl 0 rfl ?_
        refine ax_getI B ff_X27_28_27 (fun _ _ => rfl) dX27_go_38 e (fun v9 e => ?_)
        refine ax_icmp_ne (tgt := 76) B dX27_go_41 (by decide) e (fun e => ?_) (fun e => ?_)
        · refine ax_iload_n B dX27_go_44 rfl hl 2 rfl ?_
          refine ax_aload_n B dX27_go_45 rfl hl 0 rfl ?_
          refine ax_getI B ff_X27_57_27 (fun _ _ => rfl) dX27_go_46 e (fun v10 e => ?_)
          refine ax_icmp_ge (tgt := 76) B dX27_go_49 (by decide) e (fun e => ?_) (fun e => ?_)
          · exact w_X27_go_52 hF hg0 hSF B Z hn x0 x1 x2 (hl.sub [0, 1, 2] rfl) e hp
          · exact w_X27_go_76 hF hg0 hSF B Z hn x0 x1 x2 (hl.sub [0, 1, 2] rfl) e hp
        · exact w_X27_go_76 hF hg0 hSF B Z hn x0 x1 x2 (hl.sub [0, 1, 2] rfl) e hp
    · exact w_X27_go_76 hF hg0 hSF B Z hn x0 x1 x2 (hl.sub [0, 1, 2] rfl) e hp
  · exact w_X27_go_76 hF hg0 hSF B Z hn x0 x1 x2 (hl.sub [0, 1, 2] rfl) e hp
theorem mt_X27_go (l : Launch) (G : ax_G) (hSF : ax_SF G) {g0 : Option Nat → Int → Int → ax_H → Option (ax_H)} {fr lo fr1 lo1 : Nat} (hF : fr1 + 1 ≤ fr ∧ 2 ≤ fr ∧ lo1 + 23 ≤ lo ∧ 61 ≤ lo) (hg0 : ∀ (x0 : Option Nat) (x1 : Int) (x2 : Int) (h : ax_H) (w : ax_H), g0 x0 x1 x2 h = some w → ax_Met l G yX27_go cX27_go 4 none fr1 lo1 [va_rf x0, .int (Int32.ofInt x1), .int (Int32.ofInt x2)] h w none) (x0 : Option Nat) (x1 : Int) (x2 : Int) (h : ax_H) (w : ax_H) (e : f_X27_go G.2.2 g0 x0 x1 x2 h = some w) : ax_Met l G yX27_go cX27_go 4 none fr lo [va_rf x0, .int (Int32.ofInt x1), .int (Int32.ofInt x2)] h w none :=
  ax_enter [.inr (.inr x0), .inl x1, .inl x2] (y := yX27_go) hSF (plainFor_of_name (by decide +kernel)) (Nat.le_of_ble_eq_true rfl) (fun X ls B Z hn hl => we_X27_go hF hg0 hSF B Z hn x0 x1 x2 hl e rfl)
theorem mg_X27_go (l : Launch) (G : ax_G) (hSF : ax_SF G) : ∀ n : Nat, (∀ (x0 : Option Nat) (x1 : Int) (x2 : Int) (h : ax_H) (w : ax_H), (rg_X27_go G.2.2 n) x0 x1 x2 h = some w → ax_Met l G yX27_go cX27_go 4 none (2 + n) (61 + n * 23) [va_rf x0, .int (Int32.ofInt x1), .int (Int32.ofInt x2)] h w none)
  | 0 => fun _ _ _ _ _ e => (by cases e)
  | n + 1 => by
    have ih := mg_X27_go l G hSF n
    exact fun x0 x1 x2 h w e => mt_X27_go l G hSF (fr1 := 2 + n) (lo1 := 61 + n * 23) (by omega) (ih) x0 x1 x2 h w e
theorem mf_X27_go (l : Launch) (G : ax_G) (hSF : ax_SF G) (n : Nat) (x0 : Option Nat) (x1 : Int) (x2 : Int) (h : ax_H) (w : ax_H) (e : fn_X27_go G.2.2 n x0 x1 x2 h = some w) : ax_Met l G yX27_go cX27_go 4 none (2 + n) (61 + n * 23) [va_rf x0, .int (Int32.ofInt x1), .int (Int32.ofInt x2)] h w none := (mg_X27_go l G hSF n) x0 x1 x2 h w e
def dkwX27_init_5 : List UInt8 := [167, 255, 227, 177]
abbrev dktX27_init_5 : List UInt8 := dkwX27_init_5 ++ []
def dkwX27_init_4 : List UInt8 := [180, 0, 48, 162, 0, 24, 42, 180, 0, 20, 3, 29, 79, 42, 4, 4, 29, 120, 182, 0, 53, 132, 3, 1]
abbrev dktX27_init_4 : List UInt8 := dkwX27_init_4 ++ dktX27_init_5
def dkwX27_init_3 : List UInt8 := [46, 44, 180, 0, 41, 29, 46, 96, 79, 132, 3, 1, 167, 255, 218, 3, 62, 29, 43, 180, 0, 44]
abbrev dktX27_init_3 : List UInt8 := dkwX27_init_3 ++ dktX27_init_4
def dkwX27_init_2 : List UInt8 := [180, 0, 32, 162, 0, 36, 42, 180, 0, 17, 44, 180, 0, 35, 29, 46, 50, 44, 180, 0, 38, 29, 46, 92]
abbrev dktX27_init_2 : List UInt8 := dkwX27_init_2 ++ dktX27_init_3
def dkwX27_init_1 : List UInt8 := [188, 10, 181, 0, 20, 42, 16, 7, 188, 10, 181, 0, 24, 42, 18, 27, 181, 0, 28, 3, 62, 29, 44]
abbrev dktX27_init_1 : List UInt8 := dkwX27_init_1 ++ dktX27_init_2
def dkwX27_init_0 : List UInt8 := [42, 43, 181, 0, 3, 42, 183, 0, 9, 42, 16, 7, 16, 7, 197, 0, 15, 2, 181, 0, 17, 42, 16, 7]
abbrev dktX27_init_0 : List UInt8 := dkwX27_init_0 ++ dktX27_init_1
theorem dksX27_init_0 : cX27_init.data.toList.drop 0 = dktX27_init_0 := by decide +kernel
theorem dksX27_init_1 : cX27_init.data.toList.drop 24 = dktX27_init_1 := dk_seg dksX27_init_0 24 rfl rfl
theorem dksX27_init_2 : cX27_init.data.toList.drop 47 = dktX27_init_2 := dk_seg dksX27_init_1 23 rfl rfl
theorem dksX27_init_3 : cX27_init.data.toList.drop 71 = dktX27_init_3 := dk_seg dksX27_init_2 24 rfl rfl
theorem dksX27_init_4 : cX27_init.data.toList.drop 93 = dktX27_init_4 := dk_seg dksX27_init_3 22 rfl rfl
theorem dksX27_init_5 : cX27_init.data.toList.drop 117 = dktX27_init_5 := dk_seg dksX27_init_4 24 rfl rfl
theorem dX27_init_0 : decode cX27_init 0 = .ok (.aload_n 0, 1) := dk_42 (dk_at dksX27_init_0 0 rfl rfl)
theorem dX27_init_1 : decode cX27_init 1 = .ok (.aload_n 1, 1) := dk_43 (dk_at dksX27_init_0 1 rfl rfl)
theorem dX27_init_2 : decode cX27_init 2 = .ok (.putfield 3, 3) := dk_181 0 3 (dk_at dksX27_init_0 2 rfl rfl)
theorem dX27_init_5 : decode cX27_init 5 = .ok (.aload_n 0, 1) := dk_42 (dk_at dksX27_init_0 5 rfl rfl)
theorem dX27_init_6 : decode cX27_init 6 = .ok (.invokespecial 9, 3) := dk_183 0 9 (dk_at dksX27_init_0 6 rfl rfl)
theorem dX27_init_9 : decode cX27_init 9 = .ok (.aload_n 0, 1) := dk_42 (dk_at dksX27_init_0 9 rfl rfl)
theorem dX27_init_10 : decode cX27_init 10 = .ok (.bipush 7, 2) := dk_16 7 (dk_at dksX27_init_0 10 rfl rfl)
theorem dX27_init_12 : decode cX27_init 12 = .ok (.bipush 7, 2) := dk_16 7 (dk_at dksX27_init_0 12 rfl rfl)
theorem dX27_init_14 : decode cX27_init 14 = .ok (.multianewarray 15 2, 4) := by decide +kernel
theorem dX27_init_18 : decode cX27_init 18 = .ok (.putfield 17, 3) := dk_181 0 17 (dk_at dksX27_init_0 18 rfl rfl)
theorem dX27_init_21 : decode cX27_init 21 = .ok (.aload_n 0, 1) := dk_42 (dk_at dksX27_init_0 21 rfl rfl)
theorem dX27_init_22 : decode cX27_init 22 = .ok (.bipush 7, 2) := dk_16 7 (dk_at dksX27_init_0 22 rfl rfl)
theorem dX27_init_24 : decode cX27_init 24 = .ok (.newarray .int, 2) := dk_188_10 (dk_at dksX27_init_1 0 rfl rfl)
theorem dX27_init_26 : decode cX27_init 26 = .ok (.putfield 20, 3) := dk_181 0 20 (dk_at dksX27_init_1 2 rfl rfl)
theorem dX27_init_29 : decode cX27_init 29 = .ok (.aload_n 0, 1) := dk_42 (dk_at dksX27_init_1 5 rfl rfl)
theorem dX27_init_30 : decode cX27_init 30 = .ok (.bipush 7, 2) := dk_16 7 (dk_at dksX27_init_1 6 rfl rfl)
theorem dX27_init_32 : decode cX27_init 32 = .ok (.newarray .int, 2) := dk_188_10 (dk_at dksX27_init_1 8 rfl rfl)
theorem dX27_init_34 : decode cX27_init 34 = .ok (.putfield 24, 3) := dk_181 0 24 (dk_at dksX27_init_1 10 rfl rfl)
theorem dX27_init_37 : decode cX27_init 37 = .ok (.aload_n 0, 1) := dk_42 (dk_at dksX27_init_1 13 rfl rfl)
theorem dX27_init_38 : decode cX27_init 38 = .ok (.ldc 27, 2) := dk_18 27 (dk_at dksX27_init_1 14 rfl rfl)
theorem dX27_init_40 : decode cX27_init 40 = .ok (.putfield 28, 3) := dk_181 0 28 (dk_at dksX27_init_1 16 rfl rfl)
theorem dX27_init_43 : decode cX27_init 43 = .ok (.iconst 0, 1) := dk_3 (dk_at dksX27_init_1 19 rfl rfl)
theorem dX27_init_44 : decode cX27_init 44 = .ok (.istore_n 3, 1) := dk_62 (dk_at dksX27_init_1 20 rfl rfl)
theorem dX27_init_45 : decode cX27_init 45 = .ok (.iload_n 3, 1) := dk_29 (dk_at dksX27_init_1 21 rfl rfl)
theorem dX27_init_46 : decode cX27_init 46 = .ok (.aload_n 2, 1) := dk_44 (dk_at dksX27_init_1 22 rfl rfl)
theorem dX27_init_47 : decode cX27_init 47 = .ok (.getfield 32, 3) := dk_180 0 32 (dk_at dksX27_init_2 0 rfl rfl)
theorem dX27_init_50 : decode cX27_init 50 = .ok (.if_icmp .ge 36, 3) := dk_162 0 36 (dk_at dksX27_init_2 3 rfl rfl)
theorem dX27_init_53 : decode cX27_init 53 = .ok (.aload_n 0, 1) := dk_42 (dk_at dksX27_init_2 6 rfl rfl)
theorem dX27_init_54 : decode cX27_init 54 = .ok (.getfield 17, 3) := dk_180 0 17 (dk_at dksX27_init_2 7 rfl rfl)
theorem dX27_init_57 : decode cX27_init 57 = .ok (.aload_n 2, 1) := dk_44 (dk_at dksX27_init_2 10 rfl rfl)
theorem dX27_init_58 : decode cX27_init 58 = .ok (.getfield 35, 3) := dk_180 0 35 (dk_at dksX27_init_2 11 rfl rfl)
theorem dX27_init_61 : decode cX27_init 61 = .ok (.iload_n 3, 1) := dk_29 (dk_at dksX27_init_2 14 rfl rfl)
theorem dX27_init_62 : decode cX27_init 62 = .ok (.iaload, 1) := dk_46 (dk_at dksX27_init_2 15 rfl rfl)
theorem dX27_init_63 : decode cX27_init 63 = .ok (.aaload, 1) := dk_50 (dk_at dksX27_init_2 16 rfl rfl)
theorem dX27_init_64 : decode cX27_init 64 = .ok (.aload_n 2, 1) := dk_44 (dk_at dksX27_init_2 17 rfl rfl)
theorem dX27_init_65 : decode cX27_init 65 = .ok (.getfield 38, 3) := dk_180 0 38 (dk_at dksX27_init_2 18 rfl rfl)
theorem dX27_init_68 : decode cX27_init 68 = .ok (.iload_n 3, 1) := dk_29 (dk_at dksX27_init_2 21 rfl rfl)
theorem dX27_init_69 : decode cX27_init 69 = .ok (.iaload, 1) := dk_46 (dk_at dksX27_init_2 22 rfl rfl)
theorem dX27_init_70 : decode cX27_init 70 = .ok (.dup2, 1) := dk_92 (dk_at dksX27_init_2 23 rfl rfl)
theorem dX27_init_71 : decode cX27_init 71 = .ok (.iaload, 1) := dk_46 (dk_at dksX27_init_3 0 rfl rfl)
theorem dX27_init_72 : decode cX27_init 72 = .ok (.aload_n 2, 1) := dk_44 (dk_at dksX27_init_3 1 rfl rfl)
theorem dX27_init_73 : decode cX27_init 73 = .ok (.getfield 41, 3) := dk_180 0 41 (dk_at dksX27_init_3 2 rfl rfl)
theorem dX27_init_76 : decode cX27_init 76 = .ok (.iload_n 3, 1) := dk_29 (dk_at dksX27_init_3 5 rfl rfl)
theorem dX27_init_77 : decode cX27_init 77 = .ok (.iaload, 1) := dk_46 (dk_at dksX27_init_3 6 rfl rfl)
theorem dX27_init_78 : decode cX27_init 78 = .ok (.iadd, 1) := dk_96 (dk_at dksX27_init_3 7 rfl rfl)
theorem dX27_init_79 : decode cX27_init 79 = .ok (.iastore, 1) := dk_79 (dk_at dksX27_init_3 8 rfl rfl)
theorem dX27_init_80 : decode cX27_init 80 = .ok (.iinc 3 1, 3) := dk_132 3 1 (dk_at dksX27_init_3 9 rfl rfl)
theorem dX27_init_83 : decode cX27_init 83 = .ok (.goto (-38), 3) := dk_167 255 218 (dk_at dksX27_init_3 12 rfl rfl)
theorem dX27_init_86 : decode cX27_init 86 = .ok (.iconst 0, 1) := dk_3 (dk_at dksX27_init_3 15 rfl rfl)
theorem dX27_init_87 : decode cX27_init 87 = .ok (.istore_n 3, 1) := dk_62 (dk_at dksX27_init_3 16 rfl rfl)
theorem dX27_init_88 : decode cX27_init 88 = .ok (.iload_n 3, 1) := dk_29 (dk_at dksX27_init_3 17 rfl rfl)
theorem dX27_init_89 : decode cX27_init 89 = .ok (.aload_n 1, 1) := dk_43 (dk_at dksX27_init_3 18 rfl rfl)
theorem dX27_init_90 : decode cX27_init 90 = .ok (.getfield 44, 3) := dk_180 0 44 (dk_at dksX27_init_3 19 rfl rfl)
theorem dX27_init_93 : decode cX27_init 93 = .ok (.getfield 48, 3) := dk_180 0 48 (dk_at dksX27_init_4 0 rfl rfl)
theorem dX27_init_96 : decode cX27_init 96 = .ok (.if_icmp .ge 24, 3) := dk_162 0 24 (dk_at dksX27_init_4 3 rfl rfl)
theorem dX27_init_99 : decode cX27_init 99 = .ok (.aload_n 0, 1) := dk_42 (dk_at dksX27_init_4 6 rfl rfl)
theorem dX27_init_100 : decode cX27_init 100 = .ok (.getfield 20, 3) := dk_180 0 20 (dk_at dksX27_init_4 7 rfl rfl)
theorem dX27_init_103 : decode cX27_init 103 = .ok (.iconst 0, 1) := dk_3 (dk_at dksX27_init_4 10 rfl rfl)
theorem dX27_init_104 : decode cX27_init 104 = .ok (.iload_n 3, 1) := dk_29 (dk_at dksX27_init_4 11 rfl rfl)
theorem dX27_init_105 : decode cX27_init 105 = .ok (.iastore, 1) := dk_79 (dk_at dksX27_init_4 12 rfl rfl)
theorem dX27_init_106 : decode cX27_init 106 = .ok (.aload_n 0, 1) := dk_42 (dk_at dksX27_init_4 13 rfl rfl)
theorem dX27_init_107 : decode cX27_init 107 = .ok (.iconst 1, 1) := dk_4 (dk_at dksX27_init_4 14 rfl rfl)
theorem dX27_init_108 : decode cX27_init 108 = .ok (.iconst 1, 1) := dk_4 (dk_at dksX27_init_4 15 rfl rfl)
theorem dX27_init_109 : decode cX27_init 109 = .ok (.iload_n 3, 1) := dk_29 (dk_at dksX27_init_4 16 rfl rfl)
theorem dX27_init_110 : decode cX27_init 110 = .ok (.ishl, 1) := dk_120 (dk_at dksX27_init_4 17 rfl rfl)
theorem dX27_init_111 : decode cX27_init 111 = .ok (.invokevirtual 53, 3) := dk_182 0 53 (dk_at dksX27_init_4 18 rfl rfl)
theorem dX27_init_114 : decode cX27_init 114 = .ok (.iinc 3 1, 3) := dk_132 3 1 (dk_at dksX27_init_4 21 rfl rfl)
theorem dX27_init_117 : decode cX27_init 117 = .ok (.goto (-29), 3) := dk_167 255 227 (dk_at dksX27_init_5 0 rfl rfl)
theorem dX27_init_120 : decode cX27_init 120 = .ok (.return_, 1) := dk_177 (dk_at dksX27_init_5 3 rfl rfl)
noncomputable def lb_X27_init_88 (E : ax_E) (x0 : Option Nat) (x1 : Option Nat) (x3 : Int) (h : ax_H) : Option ((Int × ax_H) ⊕ (ax_H)) :=
  (ax_gR E h x1 0 0).bind fun v1 =>
  (ax_gI E h v1 1 6).bind fun v2 =>
  if i2 x3 < i2 v2 then
    (ax_gR E h x0 27 1).bind fun v3 =>
    (ax_sto h v3 100 0 x3).bind fun h4 =>
    (ax_ce E h4 x0 27).bind fun _ => (fn_X27_go E 64 x0 1 (ax_shl 1 x3) h4).bind fun h5 =>
    some (.inl ((x3 + 1), h5))
  else
    (some h).map Sum.inr
noncomputable def f_X27_init_88 (E : ax_E) (x0 : Option Nat) (x1 : Option Nat) (x3 : Int) (h : ax_H) : Option (ax_H) :=
  ax_iter (fun s : Int × ax_H => lb_X27_init_88 E x0 x1 s.1 s.2) (x3, h)
noncomputable def lb_X27_init_45 (E : ax_E) (x0 : Option Nat) (x1 : Option Nat) (x2 : Option Nat) (x3 : Int) (h : ax_H) : Option ((Int × ax_H) ⊕ (ax_H)) :=
  (ax_gI E h x2 2 5).bind fun v1 =>
  if i2 x3 < i2 v1 then
    (ax_gR E h x0 27 0).bind fun v2 =>
    (ax_gR E h x2 2 1).bind fun v3 =>
    (ax_ld E h v3 100 x3).bind fun v4 =>
    (ax_ldR E h v2 111 v4).bind fun v5 =>
    (ax_gR E h x2 2 2).bind fun v6 =>
    (ax_ld E h v6 100 x3).bind fun v7 =>
    (ax_ld E h v5 100 v7).bind fun v8 =>
    (ax_gR E h x2 2 3).bind fun v9 =>
    (ax_ld E h v9 100 x3).bind fun v10 =>
    (ax_sto h v5 100 v7 (v8 + v10)).bind fun h11 =>
    some (.inl ((x3 + 1), h11))
  else
    (f_X27_init_88 E x0 x1 0 h).map Sum.inr
noncomputable def f_X27_init_45 (E : ax_E) (x0 : Option Nat) (x1 : Option Nat) (x2 : Option Nat) (x3 : Int) (h : ax_H) : Option (ax_H) :=
  ax_iter (fun s : Int × ax_H => lb_X27_init_45 E x0 x1 x2 s.1 s.2) (x3, h)
noncomputable def f_X27_init (E : ax_E) (x0 : Option Nat) (x1 : Option Nat) (x2 : Option Nat) (h : ax_H) : Option (ax_H) :=
  (ax_pR h x0 27 5 x1).bind fun h1 =>
  x0.bind fun _ =>
  (ax_nm E h1 7 7).bind fun q2 =>
  (ax_pR q2.2 x0 27 0 (some q2.1)).bind fun h3 =>
  (ax_na E h3 100 7).bind fun q4 =>
  (ax_pR q4.2 x0 27 1 (some q4.1)).bind fun h5 =>
  (ax_na E h5 100 7).bind fun q6 =>
  (ax_pR q6.2 x0 27 2 (some q6.1)).bind fun h7 =>
  (ax_pI h7 x0 27 3 100000000).bind fun h8 =>
  f_X27_init_45 E x0 x1 x2 0 h8
def pi_X27_init_88 (G : ax_G) (X : ax_X) (Q : State → Prop) (x0 : Option Nat) (x1 : Option Nat) : Int × ax_H → Prop := fun s => ∀ ls : Array Slot, ax_hl ls 4 [(0, .inr (.inr x0)), (1, .inr (.inr x1)), (3, .inl s.1)] → ax_W G X Q s.2 88 ls []
def pi_X27_init_45 (G : ax_G) (X : ax_X) (Q : State → Prop) (x0 : Option Nat) (x1 : Option Nat) (x2 : Option Nat) : Int × ax_H → Prop := fun s => ∀ ls : Array Slot, ax_hl ls 4 [(0, .inr (.inr x0)), (1, .inr (.inr x1)), (2, .inr (.inr x2)), (3, .inl s.1)] → ax_W G X Q s.2 45 ls []
set_option maxHeartbeats 4000000 in
theorem wb_X27_init_88 {l : Launch} {G : ax_G} {X : ax_X} {Q : State → Prop} {h0 h : ax_H} {ls : Array Slot} (hSF : ax_SF G) (B : ax_BL l G X cX27_init 4 RX27 67 1556) (Z : ax_Z X h0 none) (hn : X.2.2.2.2.2.2.2.2.1.name = yX27_init.name) (x0 : Option Nat) (x1 : Option Nat) (x3 : Int) {w : (Int × ax_H) ⊕ (ax_H)} (hl : ax_hl ls 4 [(0, .inr (.inr x0)), (1, .inr (.inr x1)), (3, .inl x3)]) (e : lb_X27_init_88 G.2.2 x0 x1 x3 h = some w) (hp : (ax_PL (pi_X27_init_88 G X Q x0 x1) (fun w : ax_H => Q = ax_Q G X h0 w none)) w) : ax_W G X Q h 88 ls [] := by
  unfold lb_X27_init_88 at e
  refine ax_iload_n B dX27_init_88 rfl hl 2 rfl ?_
  refine ax_aload_n B dX27_init_89 rfl hl 1 rfl ?_
  refine ax_getR B ff_X27_44_0 (fun _ _ => rfl) dX27_init_90 e (fun v1 e => ?_)
  refine ax_getI B ff_X27_48_1 (fun _ _ => rfl) dX27_init_93 e (fun v2 e => ?_)
  refine ax_icmp_ge (tgt := 120) B dX27_init_96 (by decide) e (fun e => ?_) (fun e => ?_)
  · refine ax_aload_n B dX27_init_99 rfl hl 0 rfl ?_
    refine ax_getR B ff_X27_20_27 (fun _ _ => rfl) dX27_init_100 e (fun v3 e => ?_)
    refine ax_iconst B dX27_init_103 ?_
    refine ax_iload_n B dX27_init_104 rfl hl 2 rfl ?_
    refine ax_iast B kd100 dX27_init_105 e (fun h4 e => ?_)
    refine ax_aload_n B dX27_init_106 rfl hl 0 rfl ?_
    refine ax_iconst B dX27_init_107 ?_
    refine ax_iconst B dX27_init_108 ?_
    refine ax_iload_n B dX27_init_109 rfl hl 2 rfl ?_
    refine ax_ishl' B dX27_init_110 ?_
    refine ax_ivV (y := yX27_go) (n := 2) (As := [.int (Int32.ofInt 1), .int (Int32.ofInt (ax_shl 1 x3))]) B kd27 (lw_V q1662 q1664 qs37 q169 q1665) (by decide +kernel) ⟨Nat.le_of_ble_eq_true rfl, Nat.le_of_ble_eq_true rfl⟩ (fun w1 e1 => mf_X27_go l G hSF 64 x0 1 (ax_shl 1 x3) _ w1 e1) rfl hl.size (by decide) dX27_init_111 e (fun h5 e => ?_)
    refine ax_iinc (L' := [(3, .inl (x3 + 1)), (0, .inr (.inr x0)), (1, .inr (.inr x1))]) B dX27_init_114 hl 2 rfl (by decide) rfl (fun ls hl => ?_)
    refine ax_goto (tgt := 88) B dX27_init_117 (by decide) ?_
    cases e
    exact hp _ (hl.sub [1, 2, 0] rfl)
  · obtain ⟨w, e9_1, rfl⟩ := Option.map_eq_some_iff.mp e
    have e := e9_1
    have e8 := e
    have hp : Q = _ := hp
    subst hp
    exact ax_return B Z dX27_init_120 e8
theorem w_X27_init_88 {l : Launch} {G : ax_G} {X : ax_X} {Q : State → Prop} {h0 h : ax_H} {ls : Array Slot} (hSF : ax_SF G) (B : ax_BL l G X cX27_init 4 RX27 67 1556) (Z : ax_Z X h0 none) (hn : X.2.2.2.2.2.2.2.2.1.name = yX27_init.name) (x0 : Option Nat) (x1 : Option Nat) (x3 : Int) {w : ax_H} (hl : ax_hl ls 4 [(0, .inr (.inr x0)), (1, .inr (.inr x1)), (3, .inl x3)]) (e : f_X27_init_88 G.2.2 x0 x1 x3 h = some w) (hp : (fun w : ax_H => Q = ax_Q G X h0 w none) w) : ax_W G X Q h 88 ls [] :=
  ax_iter_W (Pin := pi_X27_init_88 G X Q x0 x1) (Pout := (fun w : ax_H => Q = ax_Q G X h0 w none)) (fun s w e hp ls hl => wb_X27_init_88 hSF B Z hn x0 x1 s.1 hl e hp) _ _ e hp ls hl
set_option maxHeartbeats 4000000 in
theorem wb_X27_init_45 {l : Launch} {G : ax_G} {X : ax_X} {Q : State → Prop} {h0 h : ax_H} {ls : Array Slot} (hSF : ax_SF G) (B : ax_BL l G X cX27_init 4 RX27 67 1556) (Z : ax_Z X h0 none) (hn : X.2.2.2.2.2.2.2.2.1.name = yX27_init.name) (x0 : Option Nat) (x1 : Option Nat) (x2 : Option Nat) (x3 : Int) {w : (Int × ax_H) ⊕ (ax_H)} (hl : ax_hl ls 4 [(0, .inr (.inr x0)), (1, .inr (.inr x1)), (2, .inr (.inr x2)), (3, .inl x3)]) (e : lb_X27_init_45 G.2.2 x0 x1 x2 x3 h = some w) (hp : (ax_PL (pi_X27_init_45 G X Q x0 x1 x2) (fun w : ax_H => Q = ax_Q G X h0 w none)) w) : ax_W G X Q h 45 ls [] := by
  unfold lb_X27_init_45 at e
  refine ax_iload_n B dX27_init_45 rfl hl 3 rfl ?_
  refine ax_aload_n B dX27_init_46 rfl hl 2 rfl ?_
  refine ax_getI B ff_X27_32_2 (fun _ _ => rfl) dX27_init_47 e (fun v1 e => ?_)
  refine ax_icmp_ge (tgt := 86) B dX27_init_50 (by decide) e (fun e => ?_) (fun e => ?_)
  · refine ax_aload_n B dX27_init_53 rfl hl 0 rfl ?_
    refine ax_getR B ff_X27_17_27 (fun _ _ => rfl) dX27_init_54 e (fun v2 e => ?_)
    refine ax_aload_n B dX27_init_57 rfl hl 2 rfl ?_
    refine ax_getR B ff_X27_35_2 (fun _ _ => rfl) dX27_init_58 e (fun v3 e => ?_)
    refine ax_iload_n B dX27_init_61 rfl hl 3 rfl ?_
    refine ax_iald B kd100 dX27_init_62 e (fun v4 e => ?_)
    refine ax_aald rfl B kd111 dX27_init_63 e (fun v5 e => ?_)
    refine ax_aload_n B dX27_init_64 rfl hl 2 rfl ?_
    refine ax_getR B ff_X27_38_2 (fun _ _ => rfl) dX27_init_65 e (fun v6 e => ?_)
    refine ax_iload_n B dX27_init_68 rfl hl 3 rfl ?_
    refine ax_iald B kd100 dX27_init_69 e (fun v7 e => ?_)
    refine ax_dup2 B dX27_init_70 (rfl) (va_rf_cat _) ?_
    refine ax_iald B kd100 dX27_init_71 e (fun v8 e => ?_)
    refine ax_aload_n B dX27_init_72 rfl hl 2 rfl ?_
    refine ax_getR B ff_X27_41_2 (fun _ _ => rfl) dX27_init_73 e (fun v9 e => ?_)
    refine ax_iload_n B dX27_init_76 rfl hl 3 rfl ?_
    refine ax_iald B kd100 dX27_init_77 e (fun v10 e => ?_)
    refine ax_iadd' B dX27_init_78 ?_
    refine ax_iast B kd100 dX27_init_79 e (fun h11 e => ?_)
    refine ax_iinc (L' := [(3, .inl (x3 + 1)), (0, .inr (.inr x0)), (1, .inr (.inr x1)), (2, .inr (.inr x2))]) B dX27_init_80 hl 3 rfl (by decide) rfl (fun ls hl => ?_)
    refine ax_goto (tgt := 45) B dX27_init_83 (by decide) ?_
    cases e
    exact hp _ (hl.sub [1, 2, 3, 0] rfl)
  · obtain ⟨w, e9_2, rfl⟩ := Option.map_eq_some_iff.mp e
    have e := e9_2
    refine ax_iconst B dX27_init_86 ?_
    refine ax_istore_n (L' := [(3, .inl 0), (0, .inr (.inr x0)), (1, .inr (.inr x1)), (2, .inr (.inr x2))]) B dX27_init_87 rfl hl (by decide) rfl (fun ls hl => ?_)
    exact w_X27_init_88 hSF B Z hn x0 x1 0 (hl.sub [1, 2, 0] rfl) e hp
theorem w_X27_init_45 {l : Launch} {G : ax_G} {X : ax_X} {Q : State → Prop} {h0 h : ax_H} {ls : Array Slot} (hSF : ax_SF G) (B : ax_BL l G X cX27_init 4 RX27 67 1556) (Z : ax_Z X h0 none) (hn : X.2.2.2.2.2.2.2.2.1.name = yX27_init.name) (x0 : Option Nat) (x1 : Option Nat) (x2 : Option Nat) (x3 : Int) {w : ax_H} (hl : ax_hl ls 4 [(0, .inr (.inr x0)), (1, .inr (.inr x1)), (2, .inr (.inr x2)), (3, .inl x3)]) (e : f_X27_init_45 G.2.2 x0 x1 x2 x3 h = some w) (hp : (fun w : ax_H => Q = ax_Q G X h0 w none) w) : ax_W G X Q h 45 ls [] :=
  ax_iter_W (Pin := pi_X27_init_45 G X Q x0 x1 x2) (Pout := (fun w : ax_H => Q = ax_Q G X h0 w none)) (fun s w e hp ls hl => wb_X27_init_45 hSF B Z hn x0 x1 x2 s.1 hl e hp) _ _ e hp ls hl
set_option maxHeartbeats 4000000 in
theorem we_X27_init {l : Launch} {G : ax_G} {X : ax_X} {Q : State → Prop} {h0 h : ax_H} {ls : Array Slot} (hSF : ax_SF G) (B : ax_BL l G X cX27_init 4 RX27 67 1556) (Z : ax_Z X h0 none) (hn : X.2.2.2.2.2.2.2.2.1.name = yX27_init.name) (x0 : Option Nat) (x1 : Option Nat) (x2 : Option Nat) {w : ax_H} (hl : ax_hl ls 4 [(0, .inr (.inr x0)), (1, .inr (.inr x1)), (2, .inr (.inr x2))]) (e : f_X27_init G.2.2 x0 x1 x2 h = some w) (hp : (fun w : ax_H => Q = ax_Q G X h0 w none) w) : ax_W G X Q h 0 ls [] := by
  unfold f_X27_init at e
  refine ax_aload_n B dX27_init_0 rfl hl 0 rfl ?_
  refine ax_aload_n B dX27_init_1 rfl hl 1 rfl ?_
  refine ax_putR B ff_X27_3_27 (Or.inr ⟨rfl, rfl, hn⟩) rfl dX27_init_2 e (fun h1 e => ?_)
  refine ax_aload_n B dX27_init_5 rfl hl 0 rfl ?_
  refine ax_oiR B q1658 q183 q184 hl.size (by decide) (by decide) dX27_init_6 e (fun e => ?_)
  refine ax_aload_n B dX27_init_9 rfl hl 0 rfl ?_
  refine ax_bipush B dX27_init_10 (by decide) ?_
  refine ax_bipush B dX27_init_12 (by decide) ?_
  refine ax_ma2 B q1659 q1660 q259 dX27_init_14 e (fun q2 e => ?_)
  refine ax_putR B ff_X27_17_27 (Or.inr ⟨rfl, rfl, hn⟩) rfl dX27_init_18 e (fun h3 e => ?_)
  refine ax_aload_n B dX27_init_21 rfl hl 0 rfl ?_
  refine ax_bipush B dX27_init_22 (by decide) ?_
  refine ax_newa (atype := .int) B kd100 q259 rfl (by decide) dX27_init_24 e (fun q4 e => ?_)
  refine ax_putR B ff_X27_20_27 (Or.inr ⟨rfl, rfl, hn⟩) rfl dX27_init_26 e (fun h5 e => ?_)
  refine ax_aload_n B dX27_init_29 rfl hl 0 rfl ?_
  refine ax_bipush B dX27_init_30 (by decide) ?_
  refine ax_newa (atype := .int) B kd100 q259 rfl (by decide) dX27_init_32 e (fun q6 e => ?_)
  refine ax_putR B ff_X27_24_27 (Or.inr ⟨rfl, rfl, hn⟩) rfl dX27_init_34 e (fun h7 e => ?_)
  refine ax_aload_n B dX27_init_37 rfl hl 0 rfl ?_
  refine ax_ldc B cn_X27_27 dX27_init_38 ?_
  refine ax_putI B ff_X27_28_27 (Or.inl rfl) rfl dX27_init_40 e (fun h8 e => ?_)
  refine ax_iconst B dX27_init_43 ?_
  refine ax_istore_n (L' := [(3, .inl 0), (0, .inr (.inr x0)), (1, .inr (.inr x1)), (2, .inr (.inr x2))]) B dX27_init_44 rfl hl (by decide) rfl (fun ls hl => ?_)
  exact w_X27_init_45 hSF B Z hn x0 x1 x2 0 (hl.sub [1, 2, 3, 0] rfl) e hp
theorem mt_X27_init (l : Launch) (G : ax_G) (hSF : ax_SF G) (x0 : Option Nat) (x1 : Option Nat) (x2 : Option Nat) (h : ax_H) (w : ax_H) (e : f_X27_init G.2.2 x0 x1 x2 h = some w) : ax_Met l G yX27_init cX27_init 4 none 67 1556 [va_rf x0, va_rf x1, va_rf x2] h w none :=
  ax_enter [.inr (.inr x0), .inr (.inr x1), .inr (.inr x2)] (y := yX27_init) hSF (plainFor_of_name (by decide +kernel)) (Nat.le_of_ble_eq_true rfl) (fun X ls B Z hn hl => we_X27_init hSF B Z hn x0 x1 x2 hl e rfl)
def dkwX27_is_0 : List UInt8 := [42, 180, 0, 28, 18, 27, 162, 0, 7, 4, 167, 0, 4, 3, 172]
abbrev dktX27_is_0 : List UInt8 := dkwX27_is_0 ++ []
theorem dksX27_is_0 : cX27_is.data.toList.drop 0 = dktX27_is_0 := by decide +kernel
theorem dX27_is_0 : decode cX27_is 0 = .ok (.aload_n 0, 1) := dk_42 (dk_at dksX27_is_0 0 rfl rfl)
theorem dX27_is_1 : decode cX27_is 1 = .ok (.getfield 28, 3) := dk_180 0 28 (dk_at dksX27_is_0 1 rfl rfl)
theorem dX27_is_4 : decode cX27_is 4 = .ok (.ldc 27, 2) := dk_18 27 (dk_at dksX27_is_0 4 rfl rfl)
theorem dX27_is_6 : decode cX27_is 6 = .ok (.if_icmp .ge 7, 3) := dk_162 0 7 (dk_at dksX27_is_0 6 rfl rfl)
theorem dX27_is_9 : decode cX27_is 9 = .ok (.iconst 1, 1) := dk_4 (dk_at dksX27_is_0 9 rfl rfl)
theorem dX27_is_10 : decode cX27_is 10 = .ok (.goto 4, 3) := dk_167 0 4 (dk_at dksX27_is_0 10 rfl rfl)
theorem dX27_is_13 : decode cX27_is 13 = .ok (.iconst 0, 1) := dk_3 (dk_at dksX27_is_0 13 rfl rfl)
theorem dX27_is_14 : decode cX27_is 14 = .ok (.ireturn, 1) := dk_172 (dk_at dksX27_is_0 14 rfl rfl)
noncomputable def f_X27_is (E : ax_E) (x0 : Option Nat) (h : ax_H) : Option (Int × ax_H) :=
  (ax_gI E h x0 27 3).bind fun v1 =>
  if i2 v1 < i2 100000000 then
    some (1, h)
  else
    some (0, h)
set_option maxHeartbeats 4000000 in
theorem we_X27_is {l : Launch} {G : ax_G} {X : ax_X} {Q : State → Prop} {h0 h : ax_H} {ls : Array Slot} (hSF : ax_SF G) (B : ax_BL l G X cX27_is 1 RX27 1 40) (Z : ax_Z X h0 ((some FieldType.boolean))) (hn : X.2.2.2.2.2.2.2.2.1.name = yX27_is.name) (x0 : Option Nat) {w : Int × ax_H} (hl : ax_hl ls 1 [(0, .inr (.inr x0))]) (e : f_X27_is G.2.2 x0 h = some w) (hp : (fun w : Int × ax_H => Q = ax_Q G X h0 w.2 (some (.int (Int32.ofInt w.1)))) w) : ax_W G X Q h 0 ls [] := by
  unfold f_X27_is at e
  refine ax_aload_n B dX27_is_0 rfl hl 0 rfl ?_
  refine ax_getI B ff_X27_28_27 (fun _ _ => rfl) dX27_is_1 e (fun v1 e => ?_)
  refine ax_ldc B cn_X27_27 dX27_is_4 ?_
  refine ax_icmp_ge (tgt := 13) B dX27_is_6 (by decide) e (fun e => ?_) (fun e => ?_)
  · refine ax_iconst B dX27_is_9 ?_
    refine ax_goto (tgt := 14) B dX27_is_10 (by decide) ?_
    have e8 := e
    have hp : Q = _ := hp
    subst hp
    exact ax_zreturnL (by decide) B Z dX27_is_14 e8
  · refine ax_iconst B dX27_is_13 ?_
    have e8 := e
    have hp : Q = _ := hp
    subst hp
    exact ax_zreturnL (by decide) B Z dX27_is_14 e8
theorem mt_X27_is (l : Launch) (G : ax_G) (hSF : ax_SF G) (x0 : Option Nat) (h : ax_H) (w : Int × ax_H) (e : f_X27_is G.2.2 x0 h = some w) : ax_Met l G yX27_is cX27_is 1 ((some FieldType.boolean)) 1 40 [va_rf x0] h w.2 (some (.int (Int32.ofInt w.1))) :=
  ax_enter [.inr (.inr x0)] (y := yX27_is) hSF (plainFor_of_name (by decide +kernel)) (Nat.le_of_ble_eq_true rfl) (fun X ls B Z hn hl => we_X27_is hSF B Z hn x0 hl e rfl)
def dkwX0_ring_2 : List UInt8 := [184, 0, 5, 153, 0, 12, 44, 180, 1, 165, 27, 46, 167, 0, 4, 2, 172]
abbrev dktX0_ring_2 : List UInt8 := dkwX0_ring_2 ++ []
def dkwX0_ring_1 : List UInt8 := [27, 2, 160, 0, 10, 44, 180, 1, 164, 167, 0, 29, 27, 133, 9, 44, 180, 1, 164, 4, 100, 133]
abbrev dktX0_ring_1 : List UInt8 := dkwX0_ring_1 ++ dktX0_ring_2
def dkwX0_ring_0 : List UInt8 := [187, 1, 156, 89, 42, 42, 182, 0, 104, 183, 1, 158, 77, 44, 182, 1, 161, 154, 0, 7, 2, 167, 0, 41]
abbrev dktX0_ring_0 : List UInt8 := dkwX0_ring_0 ++ dktX0_ring_1
theorem dksX0_ring_0 : cX0_ring.data.toList.drop 0 = dktX0_ring_0 := by decide +kernel
theorem dksX0_ring_1 : cX0_ring.data.toList.drop 24 = dktX0_ring_1 := dk_seg dksX0_ring_0 24 rfl rfl
theorem dksX0_ring_2 : cX0_ring.data.toList.drop 46 = dktX0_ring_2 := dk_seg dksX0_ring_1 22 rfl rfl
theorem dX0_ring_0 : decode cX0_ring 0 = .ok (.new 412, 3) := dk_187 1 156 (dk_at dksX0_ring_0 0 rfl rfl)
theorem dX0_ring_3 : decode cX0_ring 3 = .ok (.dup, 1) := dk_89 (dk_at dksX0_ring_0 3 rfl rfl)
theorem dX0_ring_4 : decode cX0_ring 4 = .ok (.aload_n 0, 1) := dk_42 (dk_at dksX0_ring_0 4 rfl rfl)
theorem dX0_ring_5 : decode cX0_ring 5 = .ok (.aload_n 0, 1) := dk_42 (dk_at dksX0_ring_0 5 rfl rfl)
theorem dX0_ring_6 : decode cX0_ring 6 = .ok (.invokevirtual 104, 3) := dk_182 0 104 (dk_at dksX0_ring_0 6 rfl rfl)
theorem dX0_ring_9 : decode cX0_ring 9 = .ok (.invokespecial 414, 3) := dk_183 1 158 (dk_at dksX0_ring_0 9 rfl rfl)
theorem dX0_ring_12 : decode cX0_ring 12 = .ok (.astore_n 2, 1) := dk_77 (dk_at dksX0_ring_0 12 rfl rfl)
theorem dX0_ring_13 : decode cX0_ring 13 = .ok (.aload_n 2, 1) := dk_44 (dk_at dksX0_ring_0 13 rfl rfl)
theorem dX0_ring_14 : decode cX0_ring 14 = .ok (.invokevirtual 417, 3) := dk_182 1 161 (dk_at dksX0_ring_0 14 rfl rfl)
theorem dX0_ring_17 : decode cX0_ring 17 = .ok (.ifCond .ne 7, 3) := dk_154 0 7 (dk_at dksX0_ring_0 17 rfl rfl)
theorem dX0_ring_20 : decode cX0_ring 20 = .ok (.iconst (-1), 1) := dk_2 (dk_at dksX0_ring_0 20 rfl rfl)
theorem dX0_ring_21 : decode cX0_ring 21 = .ok (.goto 41, 3) := dk_167 0 41 (dk_at dksX0_ring_0 21 rfl rfl)
theorem dX0_ring_24 : decode cX0_ring 24 = .ok (.iload_n 1, 1) := dk_27 (dk_at dksX0_ring_1 0 rfl rfl)
theorem dX0_ring_25 : decode cX0_ring 25 = .ok (.iconst (-1), 1) := dk_2 (dk_at dksX0_ring_1 1 rfl rfl)
theorem dX0_ring_26 : decode cX0_ring 26 = .ok (.if_icmp .ne 10, 3) := dk_160 0 10 (dk_at dksX0_ring_1 2 rfl rfl)
theorem dX0_ring_29 : decode cX0_ring 29 = .ok (.aload_n 2, 1) := dk_44 (dk_at dksX0_ring_1 5 rfl rfl)
theorem dX0_ring_30 : decode cX0_ring 30 = .ok (.getfield 420, 3) := dk_180 1 164 (dk_at dksX0_ring_1 6 rfl rfl)
theorem dX0_ring_33 : decode cX0_ring 33 = .ok (.goto 29, 3) := dk_167 0 29 (dk_at dksX0_ring_1 9 rfl rfl)
theorem dX0_ring_36 : decode cX0_ring 36 = .ok (.iload_n 1, 1) := dk_27 (dk_at dksX0_ring_1 12 rfl rfl)
theorem dX0_ring_37 : decode cX0_ring 37 = .ok (.i2l, 1) := dk_133 (dk_at dksX0_ring_1 13 rfl rfl)
theorem dX0_ring_38 : decode cX0_ring 38 = .ok (.lconst 0, 1) := dk_9 (dk_at dksX0_ring_1 14 rfl rfl)
theorem dX0_ring_39 : decode cX0_ring 39 = .ok (.aload_n 2, 1) := dk_44 (dk_at dksX0_ring_1 15 rfl rfl)
theorem dX0_ring_40 : decode cX0_ring 40 = .ok (.getfield 420, 3) := dk_180 1 164 (dk_at dksX0_ring_1 16 rfl rfl)
theorem dX0_ring_43 : decode cX0_ring 43 = .ok (.iconst 1, 1) := dk_4 (dk_at dksX0_ring_1 19 rfl rfl)
theorem dX0_ring_44 : decode cX0_ring 44 = .ok (.isub, 1) := dk_100 (dk_at dksX0_ring_1 20 rfl rfl)
theorem dX0_ring_45 : decode cX0_ring 45 = .ok (.i2l, 1) := dk_133 (dk_at dksX0_ring_1 21 rfl rfl)
theorem dX0_ring_46 : decode cX0_ring 46 = .ok (.invokestatic 5, 3) := dk_184 0 5 (dk_at dksX0_ring_2 0 rfl rfl)
theorem dX0_ring_49 : decode cX0_ring 49 = .ok (.ifCond .eq 12, 3) := dk_153 0 12 (dk_at dksX0_ring_2 3 rfl rfl)
theorem dX0_ring_52 : decode cX0_ring 52 = .ok (.aload_n 2, 1) := dk_44 (dk_at dksX0_ring_2 6 rfl rfl)
theorem dX0_ring_53 : decode cX0_ring 53 = .ok (.getfield 421, 3) := dk_180 1 165 (dk_at dksX0_ring_2 7 rfl rfl)
theorem dX0_ring_56 : decode cX0_ring 56 = .ok (.iload_n 1, 1) := dk_27 (dk_at dksX0_ring_2 10 rfl rfl)
theorem dX0_ring_57 : decode cX0_ring 57 = .ok (.iaload, 1) := dk_46 (dk_at dksX0_ring_2 11 rfl rfl)
theorem dX0_ring_58 : decode cX0_ring 58 = .ok (.goto 4, 3) := dk_167 0 4 (dk_at dksX0_ring_2 12 rfl rfl)
theorem dX0_ring_61 : decode cX0_ring 61 = .ok (.iconst (-1), 1) := dk_2 (dk_at dksX0_ring_2 15 rfl rfl)
theorem dX0_ring_62 : decode cX0_ring 62 = .ok (.ireturn, 1) := dk_172 (dk_at dksX0_ring_2 16 rfl rfl)
noncomputable def f_X0_ring (E : ax_E) (x0 : Option Nat) (x1 : Int) (h : ax_H) : Option (Int × ax_H) :=
  (ax_nw E h 27 0 6).bind fun q1 =>
  (ax_ce E q1.2 x0 0).bind fun _ => (f_X0_books E x0 q1.2).bind fun q2 =>
  (some q1.1).bind fun _ => (f_X27_init E (some q1.1) x0 q2.1 q2.2).bind fun h3 =>
  (ax_ce E h3 (some q1.1) 27).bind fun _ => (f_X27_is E (some q1.1) h3).bind fun q4 =>
  if i2 q4.1 = 0 then
    some ((-1), q4.2)
  else
    if i2 x1 = i2 (-1) then
      (ax_gI E q4.2 (some q1.1) 27 3).bind fun v5 =>
      some (v5, q4.2)
    else
      (ax_gI E q4.2 (some q1.1) 27 3).bind fun v6 =>
      (f_X0_in E (i2 x1) 0 (i2 (v6 - 1)) q4.2).bind fun q7 =>
      if i2 q7.1 = 0 then
        some ((-1), q7.2)
      else
        (ax_gR E q7.2 (some q1.1) 27 2).bind fun v8 =>
        (ax_ld E q7.2 v8 100 x1).bind fun v9 =>
        some (v9, q7.2)
set_option maxHeartbeats 4000000 in
theorem we_X0_ring {l : Launch} {G : ax_G} {X : ax_X} {Q : State → Prop} {h0 h : ax_H} {ls : Array Slot} (hSF : ax_SF G) (B : ax_BL l G X cX0_ring 3 RX0 68 1579) (Z : ax_Z X h0 ((some FieldType.int))) (hn : X.2.2.2.2.2.2.2.2.1.name = yX0_ring.name) (x0 : Option Nat) (x1 : Int) {w : Int × ax_H} (hl : ax_hl ls 3 [(0, .inr (.inr x0)), (1, .inl x1)]) (e : f_X0_ring G.2.2 x0 x1 h = some w) (hp : (fun w : Int × ax_H => Q = ax_Q G X h0 w.2 (some (.int (Int32.ofInt w.1)))) w) : ax_W G X Q h 0 ls [] := by
  unfold f_X0_ring at e
  refine ax_new B kd27 in_X27 tyX27_ok (fun k hk => ax_dv _ (dfX27 k hk)) q1653 q1654 q169 dX0_ring_0 e (fun q1 e => ?_)
  refine ax_dup B dX0_ring_3 (va_rf_cat _) ?_
  refine ax_aload_n B dX0_ring_4 rfl hl 0 rfl ?_
  refine ax_aload_n B dX0_ring_5 rfl hl 0 rfl ?_
  refine ax_ivR (y := yX0_books) (n := 0) (As := []) B kd0 (lw_V q443 q445 qs2 q125 q446) (by decide +kernel) ⟨Nat.le_of_ble_eq_true rfl, Nat.le_of_ble_eq_true rfl⟩ (fun w1 e1 => mt_X0_books l G hSF x0 _ w1 e1) rfl hl.size (by simp only [List.map_cons, List.map_nil, List.sum_cons, List.sum_nil, va_rf_cat, ax_catI, ax_catL]; decide) dX0_ring_6 e (fun q2 e => ?_)
  refine ax_iiR (y := yX27_init) (n := 2) (As := [va_rf x0, va_rf q2.1]) B q1655 q1656 q169 q1657 rfl (by decide +kernel) ⟨Nat.le_of_ble_eq_true rfl, Nat.le_of_ble_eq_true rfl⟩ (fun w1 e1 => mt_X27_init l G hSF (some q1.1) x0 q2.1 _ w1 e1) rfl hl.size (by simp only [List.map_cons, List.map_nil, List.sum_cons, List.sum_nil, va_rf_cat, ax_catI, ax_catL]; decide) dX0_ring_9 e (fun h3 e => ?_)
  refine ax_astore_n (L' := [(2, .inr (.inr (some q1.1))), (0, .inr (.inr x0)), (1, .inl x1)]) B dX0_ring_12 rfl hl (by decide) rfl (fun ls hl => ?_)
  refine ax_aload_n B dX0_ring_13 rfl hl 0 rfl ?_
  refine ax_ivI (y := yX27_is) (n := 0) (As := []) B kd27 (lw_V q1689 q1690 q1691 q169 q1692) (by decide +kernel) ⟨Nat.le_of_ble_eq_true rfl, Nat.le_of_ble_eq_true rfl⟩ (fun w1 e1 => mt_X27_is l G hSF (some q1.1) _ w1 e1) rfl hl.size (by decide) dX0_ring_14 e (fun q4 e => ?_)
  refine ax_if_ne (tgt := 24) B dX0_ring_17 (by decide) e (fun e => ?_) (fun e => ?_)
  · refine ax_iconst B dX0_ring_20 ?_
    refine ax_goto (tgt := 62) B dX0_ring_21 (by decide) ?_
    have e8 := e
    have hp : Q = _ := hp
    subst hp
    exact ax_ireturn B Z dX0_ring_62 e8
  · refine ax_iload_n B dX0_ring_24 rfl hl 2 rfl ?_
    refine ax_iconst B dX0_ring_25 ?_
    refine ax_icmp_ne (tgt := 36) B dX0_ring_26 (by decide) e (fun e => ?_) (fun e => ?_)
    · refine ax_aload_n B dX0_ring_29 rfl hl 0 rfl ?_
      refine ax_getI B ff_X0_420_27 (fun _ _ => rfl) dX0_ring_30 e (fun v5 e => ?_)
      refine ax_goto (tgt := 62) B dX0_ring_33 (by decide) ?_
      have e8 := e
      have hp : Q = _ := hp
      subst hp
      exact ax_ireturn B Z dX0_ring_62 e8
    · refine ax_iload_n B dX0_ring_36 rfl hl 2 rfl ?_
      refine ax_i2l' B dX0_ring_37 ?_
      refine ax_lconst (v := 0) B dX0_ring_38 rfl ?_
      refine ax_aload_n B dX0_ring_39 rfl hl 0 rfl ?_
      refine ax_getI B ff_X0_420_27 (fun _ _ => rfl) dX0_ring_40 e (fun v6 e => ?_)
      refine ax_iconst B dX0_ring_43 ?_
      refine ax_isub' B dX0_ring_44 ?_
      refine ax_i2l' B dX0_ring_45 ?_
      refine ax_isI (y := yX0_in) (n := 3) (As := [.long (Int64.ofInt (i2 x1)), .long (Int64.ofInt 0), .long (Int64.ofInt (i2 (v6 - 1)))]) B (lw_S q420 q421 q125 q422) (by decide +kernel) ⟨Nat.le_of_ble_eq_true rfl, Nat.le_of_ble_eq_true rfl⟩ (fun w1 e1 => mt_X0_in l G hSF (i2 x1) 0 (i2 (v6 - 1)) _ w1 e1) rfl hl.size (by decide) dX0_ring_46 e (fun q7 e => ?_)
      refine ax_if_eq (tgt := 61) B dX0_ring_49 (by decide) e (fun e => ?_) (fun e => ?_)
      · refine ax_iconst B dX0_ring_61 ?_
        have e8 := e
        have hp : Q = _ := hp
        subst hp
        exact ax_ireturn B Z dX0_ring_62 e8
      · refine ax_aload_n B dX0_ring_52 rfl hl 0 rfl ?_
        refine ax_getR B ff_X0_421_27 (fun _ _ => rfl) dX0_ring_53 e (fun v8 e => ?_)
        refine ax_iload_n B dX0_ring_56 rfl hl 2 rfl ?_
        refine ax_iald B kd100 dX0_ring_57 e (fun v9 e => ?_)
        refine ax_goto (tgt := 62) B dX0_ring_58 (by decide) ?_
        have e8 := e
        have hp : Q = _ := hp
        subst hp
        exact ax_ireturn B Z dX0_ring_62 e8
theorem mt_X0_ring (l : Launch) (G : ax_G) (hSF : ax_SF G) (x0 : Option Nat) (x1 : Int) (h : ax_H) (w : Int × ax_H) (e : f_X0_ring G.2.2 x0 x1 h = some w) : ax_Met l G yX0_ring cX0_ring 3 ((some FieldType.int)) 68 1579 [va_rf x0, .int (Int32.ofInt x1)] h w.2 (some (.int (Int32.ofInt w.1))) :=
  ax_enter [.inr (.inr x0), .inl x1] (y := yX0_ring) hSF (plainFor_of_name (by decide +kernel)) (Nat.le_of_ble_eq_true rfl) (fun X ls B Z hn hl => we_X0_ring hSF B Z hn x0 x1 hl e rfl)
def dkwX27_next_0 : List UInt8 := [42, 180, 0, 24, 27, 4, 96, 42, 180, 0, 28, 112, 46, 172]
abbrev dktX27_next_0 : List UInt8 := dkwX27_next_0 ++ []
theorem dksX27_next_0 : cX27_next.data.toList.drop 0 = dktX27_next_0 := by decide +kernel
theorem dX27_next_0 : decode cX27_next 0 = .ok (.aload_n 0, 1) := dk_42 (dk_at dksX27_next_0 0 rfl rfl)
theorem dX27_next_1 : decode cX27_next 1 = .ok (.getfield 24, 3) := dk_180 0 24 (dk_at dksX27_next_0 1 rfl rfl)
theorem dX27_next_4 : decode cX27_next 4 = .ok (.iload_n 1, 1) := dk_27 (dk_at dksX27_next_0 4 rfl rfl)
theorem dX27_next_5 : decode cX27_next 5 = .ok (.iconst 1, 1) := dk_4 (dk_at dksX27_next_0 5 rfl rfl)
theorem dX27_next_6 : decode cX27_next 6 = .ok (.iadd, 1) := dk_96 (dk_at dksX27_next_0 6 rfl rfl)
theorem dX27_next_7 : decode cX27_next 7 = .ok (.aload_n 0, 1) := dk_42 (dk_at dksX27_next_0 7 rfl rfl)
theorem dX27_next_8 : decode cX27_next 8 = .ok (.getfield 28, 3) := dk_180 0 28 (dk_at dksX27_next_0 8 rfl rfl)
theorem dX27_next_11 : decode cX27_next 11 = .ok (.irem, 1) := dk_112 (dk_at dksX27_next_0 11 rfl rfl)
theorem dX27_next_12 : decode cX27_next 12 = .ok (.iaload, 1) := dk_46 (dk_at dksX27_next_0 12 rfl rfl)
theorem dX27_next_13 : decode cX27_next 13 = .ok (.ireturn, 1) := dk_172 (dk_at dksX27_next_0 13 rfl rfl)
noncomputable def f_X27_next (E : ax_E) (x0 : Option Nat) (x1 : Int) (h : ax_H) : Option (Int × ax_H) :=
  (ax_gR E h x0 27 2).bind fun v1 =>
  (ax_gI E h x0 27 3).bind fun v2 =>
  if i2 v2 = 0 then none else
  (ax_ld E h v1 100 ((i2 (x1 + 1)).tmod (i2 v2))).bind fun v3 =>
  some (v3, h)
set_option maxHeartbeats 4000000 in
theorem we_X27_next {l : Launch} {G : ax_G} {X : ax_X} {Q : State → Prop} {h0 h : ax_H} {ls : Array Slot} (hSF : ax_SF G) (B : ax_BL l G X cX27_next 2 RX27 1 40) (Z : ax_Z X h0 ((some FieldType.int))) (hn : X.2.2.2.2.2.2.2.2.1.name = yX27_next.name) (x0 : Option Nat) (x1 : Int) {w : Int × ax_H} (hl : ax_hl ls 2 [(0, .inr (.inr x0)), (1, .inl x1)]) (e : f_X27_next G.2.2 x0 x1 h = some w) (hp : (fun w : Int × ax_H => Q = ax_Q G X h0 w.2 (some (.int (Int32.ofInt w.1)))) w) : ax_W G X Q h 0 ls [] := by
  unfold f_X27_next at e
  refine ax_aload_n B dX27_next_0 rfl hl 0 rfl ?_
  refine ax_getR B ff_X27_24_27 (fun _ _ => rfl) dX27_next_1 e (fun v1 e => ?_)
  refine ax_iload_n B dX27_next_4 rfl hl 1 rfl ?_
  refine ax_iconst B dX27_next_5 ?_
  refine ax_iadd' B dX27_next_6 ?_
  refine ax_aload_n B dX27_next_7 rfl hl 0 rfl ?_
  refine ax_getI B ff_X27_28_27 (fun _ _ => rfl) dX27_next_8 e (fun v2 e => ?_)
  refine ax_irem' B dX27_next_11 e (fun e => ?_)
  refine ax_iald B kd100 dX27_next_12 e (fun v3 e => ?_)
  have e8 := e
  have hp : Q = _ := hp
  subst hp
  exact ax_ireturn B Z dX27_next_13 e8
theorem mt_X27_next (l : Launch) (G : ax_G) (hSF : ax_SF G) (x0 : Option Nat) (x1 : Int) (h : ax_H) (w : Int × ax_H) (e : f_X27_next G.2.2 x0 x1 h = some w) : ax_Met l G yX27_next cX27_next 2 ((some FieldType.int)) 1 40 [va_rf x0, .int (Int32.ofInt x1)] h w.2 (some (.int (Int32.ofInt w.1))) :=
  ax_enter [.inr (.inr x0), .inl x1] (y := yX27_next) hSF (plainFor_of_name (by decide +kernel)) (Nat.le_of_ble_eq_true rfl) (fun X ls B Z hn hl => we_X27_next hSF B Z hn x0 x1 hl e rfl)
def dkwX27_least_1 : List UInt8 := [50, 42, 28, 182, 0, 70, 46, 184, 0, 74, 60, 132, 2, 1, 167, 255, 223, 27, 172]
abbrev dktX27_least_1 : List UInt8 := dkwX27_least_1 ++ []
def dkwX27_least_0 : List UInt8 := [18, 27, 60, 3, 61, 28, 42, 180, 0, 28, 162, 0, 31, 27, 42, 180, 0, 17, 42, 180, 0, 24, 28, 46]
abbrev dktX27_least_0 : List UInt8 := dkwX27_least_0 ++ dktX27_least_1
theorem dksX27_least_0 : cX27_least.data.toList.drop 0 = dktX27_least_0 := by decide +kernel
theorem dksX27_least_1 : cX27_least.data.toList.drop 24 = dktX27_least_1 := dk_seg dksX27_least_0 24 rfl rfl
theorem dX27_least_0 : decode cX27_least 0 = .ok (.ldc 27, 2) := dk_18 27 (dk_at dksX27_least_0 0 rfl rfl)
theorem dX27_least_2 : decode cX27_least 2 = .ok (.istore_n 1, 1) := dk_60 (dk_at dksX27_least_0 2 rfl rfl)
theorem dX27_least_3 : decode cX27_least 3 = .ok (.iconst 0, 1) := dk_3 (dk_at dksX27_least_0 3 rfl rfl)
theorem dX27_least_4 : decode cX27_least 4 = .ok (.istore_n 2, 1) := dk_61 (dk_at dksX27_least_0 4 rfl rfl)
theorem dX27_least_5 : decode cX27_least 5 = .ok (.iload_n 2, 1) := dk_28 (dk_at dksX27_least_0 5 rfl rfl)
theorem dX27_least_6 : decode cX27_least 6 = .ok (.aload_n 0, 1) := dk_42 (dk_at dksX27_least_0 6 rfl rfl)
theorem dX27_least_7 : decode cX27_least 7 = .ok (.getfield 28, 3) := dk_180 0 28 (dk_at dksX27_least_0 7 rfl rfl)
theorem dX27_least_10 : decode cX27_least 10 = .ok (.if_icmp .ge 31, 3) := dk_162 0 31 (dk_at dksX27_least_0 10 rfl rfl)
theorem dX27_least_13 : decode cX27_least 13 = .ok (.iload_n 1, 1) := dk_27 (dk_at dksX27_least_0 13 rfl rfl)
theorem dX27_least_14 : decode cX27_least 14 = .ok (.aload_n 0, 1) := dk_42 (dk_at dksX27_least_0 14 rfl rfl)
theorem dX27_least_15 : decode cX27_least 15 = .ok (.getfield 17, 3) := dk_180 0 17 (dk_at dksX27_least_0 15 rfl rfl)
theorem dX27_least_18 : decode cX27_least 18 = .ok (.aload_n 0, 1) := dk_42 (dk_at dksX27_least_0 18 rfl rfl)
theorem dX27_least_19 : decode cX27_least 19 = .ok (.getfield 24, 3) := dk_180 0 24 (dk_at dksX27_least_0 19 rfl rfl)
theorem dX27_least_22 : decode cX27_least 22 = .ok (.iload_n 2, 1) := dk_28 (dk_at dksX27_least_0 22 rfl rfl)
theorem dX27_least_23 : decode cX27_least 23 = .ok (.iaload, 1) := dk_46 (dk_at dksX27_least_0 23 rfl rfl)
theorem dX27_least_24 : decode cX27_least 24 = .ok (.aaload, 1) := dk_50 (dk_at dksX27_least_1 0 rfl rfl)
theorem dX27_least_25 : decode cX27_least 25 = .ok (.aload_n 0, 1) := dk_42 (dk_at dksX27_least_1 1 rfl rfl)
theorem dX27_least_26 : decode cX27_least 26 = .ok (.iload_n 2, 1) := dk_28 (dk_at dksX27_least_1 2 rfl rfl)
theorem dX27_least_27 : decode cX27_least 27 = .ok (.invokevirtual 70, 3) := dk_182 0 70 (dk_at dksX27_least_1 3 rfl rfl)
theorem dX27_least_30 : decode cX27_least 30 = .ok (.iaload, 1) := dk_46 (dk_at dksX27_least_1 6 rfl rfl)
theorem dX27_least_31 : decode cX27_least 31 = .ok (.invokestatic 74, 3) := dk_184 0 74 (dk_at dksX27_least_1 7 rfl rfl)
theorem dX27_least_34 : decode cX27_least 34 = .ok (.istore_n 1, 1) := dk_60 (dk_at dksX27_least_1 10 rfl rfl)
theorem dX27_least_35 : decode cX27_least 35 = .ok (.iinc 2 1, 3) := dk_132 2 1 (dk_at dksX27_least_1 11 rfl rfl)
theorem dX27_least_38 : decode cX27_least 38 = .ok (.goto (-33), 3) := dk_167 255 223 (dk_at dksX27_least_1 14 rfl rfl)
theorem dX27_least_41 : decode cX27_least 41 = .ok (.iload_n 1, 1) := dk_27 (dk_at dksX27_least_1 17 rfl rfl)
theorem dX27_least_42 : decode cX27_least 42 = .ok (.ireturn, 1) := dk_172 (dk_at dksX27_least_1 18 rfl rfl)
noncomputable def lb_X27_least_5 (E : ax_E) (x0 : Option Nat) (x1 : Int) (x2 : Int) (h : ax_H) : Option ((Int × Int × ax_H) ⊕ (Int × ax_H)) :=
  (ax_gI E h x0 27 3).bind fun v1 =>
  if i2 x2 < i2 v1 then
    (ax_gR E h x0 27 0).bind fun v2 =>
    (ax_gR E h x0 27 2).bind fun v3 =>
    (ax_ld E h v3 100 x2).bind fun v4 =>
    (ax_ldR E h v2 111 v4).bind fun v5 =>
    (ax_ce E h x0 27).bind fun _ => (f_X27_next E x0 x2 h).bind fun q6 =>
    (ax_ld E q6.2 v5 100 q6.1).bind fun v7 =>
    (f_J3_min E x1 v7 q6.2).bind fun q8 =>
    some (.inl (q8.1, (x2 + 1), q8.2))
  else
    (some (x1, h)).map Sum.inr
noncomputable def f_X27_least_5 (E : ax_E) (x0 : Option Nat) (x1 : Int) (x2 : Int) (h : ax_H) : Option (Int × ax_H) :=
  ax_iter (fun s : Int × Int × ax_H => lb_X27_least_5 E x0 s.1 s.2.1 s.2.2) (x1, x2, h)
noncomputable def f_X27_least (E : ax_E) (x0 : Option Nat) (h : ax_H) : Option (Int × ax_H) :=
  f_X27_least_5 E x0 100000000 0 h
def pi_X27_least_5 (G : ax_G) (X : ax_X) (Q : State → Prop) (x0 : Option Nat) : Int × Int × ax_H → Prop := fun s => ∀ ls : Array Slot, ax_hl ls 3 [(0, .inr (.inr x0)), (1, .inl s.1), (2, .inl s.2.1)] → ax_W G X Q s.2.2 5 ls []
set_option maxHeartbeats 4000000 in
theorem wb_X27_least_5 {l : Launch} {G : ax_G} {X : ax_X} {Q : State → Prop} {h0 h : ax_H} {ls : Array Slot} (hSF : ax_SF G) (B : ax_BL l G X cX27_least 3 RX27 2 61) (Z : ax_Z X h0 ((some FieldType.int))) (hn : X.2.2.2.2.2.2.2.2.1.name = yX27_least.name) (x0 : Option Nat) (x1 : Int) (x2 : Int) {w : (Int × Int × ax_H) ⊕ (Int × ax_H)} (hl : ax_hl ls 3 [(0, .inr (.inr x0)), (1, .inl x1), (2, .inl x2)]) (e : lb_X27_least_5 G.2.2 x0 x1 x2 h = some w) (hp : (ax_PL (pi_X27_least_5 G X Q x0) (fun w : Int × ax_H => Q = ax_Q G X h0 w.2 (some (.int (Int32.ofInt w.1))))) w) : ax_W G X Q h 5 ls [] := by
  unfold lb_X27_least_5 at e
  refine ax_iload_n B dX27_least_5 rfl hl 2 rfl ?_
  refine ax_aload_n B dX27_least_6 rfl hl 0 rfl ?_
  refine ax_getI B ff_X27_28_27 (fun _ _ => rfl) dX27_least_7 e (fun v1 e => ?_)
  refine ax_icmp_ge (tgt := 41) B dX27_least_10 (by decide) e (fun e => ?_) (fun e => ?_)
  · refine ax_iload_n B dX27_least_13 rfl hl 1 rfl ?_
    refine ax_aload_n B dX27_least_14 rfl hl 0 rfl ?_
    refine ax_getR B ff_X27_17_27 (fun _ _ => rfl) dX27_least_15 e (fun v2 e => ?_)
    refine ax_aload_n B dX27_least_18 rfl hl 0 rfl ?_
    refine ax_getR B ff_X27_24_27 (fun _ _ => rfl) dX27_least_19 e (fun v3 e => ?_)
    refine ax_iload_n B dX27_least_22 rfl hl 2 rfl ?_
    refine ax_iald B kd100 dX27_least_23 e (fun v4 e => ?_)
    refine ax_aald rfl B kd111 dX27_least_24 e (fun v5 e => ?_)
    refine ax_aload_n B dX27_least_25 rfl hl 0 rfl ?_
    refine ax_iload_n B dX27_least_26 rfl hl 2 rfl ?_
    refine ax_ivI (y := yX27_next) (n := 1) (As := [.int (Int32.ofInt x2)]) B kd27 (lw_V q1701 q1703 qs38 q169 q1704) (by decide +kernel) ⟨Nat.le_of_ble_eq_true rfl, Nat.le_of_ble_eq_true rfl⟩ (fun w1 e1 => mt_X27_next l G hSF x0 x2 _ w1 e1) rfl hl.size (by simp only [List.map_cons, List.map_nil, List.sum_cons, List.sum_nil, va_rf_cat, ax_catI, ax_catL]; decide) dX27_least_27 e (fun q6 e => ?_)
    refine ax_iald B kd100 dX27_least_30 e (fun v7 e => ?_)
    refine ax_isI (y := yJ3_min) (n := 2) (As := [.int (Int32.ofInt x1), .int (Int32.ofInt v7)]) B (lw_S q1705 q441 q134 q442) (by decide +kernel) ⟨Nat.le_of_ble_eq_true rfl, Nat.le_of_ble_eq_true rfl⟩ (fun w1 e1 => mt_J3_min l G hSF x1 v7 _ w1 e1) rfl hl.size (by decide) dX27_least_31 e (fun q8 e => ?_)
    refine ax_istore_n (L' := [(1, .inl q8.1), (0, .inr (.inr x0)), (2, .inl x2)]) B dX27_least_34 rfl hl (by decide) rfl (fun ls hl => ?_)
    refine ax_iinc (L' := [(2, .inl (x2 + 1)), (1, .inl q8.1), (0, .inr (.inr x0))]) B dX27_least_35 hl 2 rfl (by decide) rfl (fun ls hl => ?_)
    refine ax_goto (tgt := 5) B dX27_least_38 (by decide) ?_
    cases e
    exact hp _ (hl.sub [2, 1, 0] rfl)
  · obtain ⟨w, e9_1, rfl⟩ := Option.map_eq_some_iff.mp e
    have e := e9_1
    refine ax_iload_n B dX27_least_41 rfl hl 1 rfl ?_
    have e8 := e
    have hp : Q = _ := hp
    subst hp
    exact ax_ireturn B Z dX27_least_42 e8
theorem w_X27_least_5 {l : Launch} {G : ax_G} {X : ax_X} {Q : State → Prop} {h0 h : ax_H} {ls : Array Slot} (hSF : ax_SF G) (B : ax_BL l G X cX27_least 3 RX27 2 61) (Z : ax_Z X h0 ((some FieldType.int))) (hn : X.2.2.2.2.2.2.2.2.1.name = yX27_least.name) (x0 : Option Nat) (x1 : Int) (x2 : Int) {w : Int × ax_H} (hl : ax_hl ls 3 [(0, .inr (.inr x0)), (1, .inl x1), (2, .inl x2)]) (e : f_X27_least_5 G.2.2 x0 x1 x2 h = some w) (hp : (fun w : Int × ax_H => Q = ax_Q G X h0 w.2 (some (.int (Int32.ofInt w.1)))) w) : ax_W G X Q h 5 ls [] :=
  ax_iter_W (Pin := pi_X27_least_5 G X Q x0) (Pout := (fun w : Int × ax_H => Q = ax_Q G X h0 w.2 (some (.int (Int32.ofInt w.1))))) (fun s w e hp ls hl => wb_X27_least_5 hSF B Z hn x0 s.1 s.2.1 hl e hp) _ _ e hp ls hl
set_option maxHeartbeats 4000000 in
theorem we_X27_least {l : Launch} {G : ax_G} {X : ax_X} {Q : State → Prop} {h0 h : ax_H} {ls : Array Slot} (hSF : ax_SF G) (B : ax_BL l G X cX27_least 3 RX27 2 61) (Z : ax_Z X h0 ((some FieldType.int))) (hn : X.2.2.2.2.2.2.2.2.1.name = yX27_least.name) (x0 : Option Nat) {w : Int × ax_H} (hl : ax_hl ls 3 [(0, .inr (.inr x0))]) (e : f_X27_least G.2.2 x0 h = some w) (hp : (fun w : Int × ax_H => Q = ax_Q G X h0 w.2 (some (.int (Int32.ofInt w.1)))) w) : ax_W G X Q h 0 ls [] := by
  unfold f_X27_least at e
  refine ax_ldc B cn_X27_27 dX27_least_0 ?_
  refine ax_istore_n (L' := [(1, .inl 100000000), (0, .inr (.inr x0))]) B dX27_least_2 rfl hl (by decide) rfl (fun ls hl => ?_)
  refine ax_iconst B dX27_least_3 ?_
  refine ax_istore_n (L' := [(2, .inl 0), (1, .inl 100000000), (0, .inr (.inr x0))]) B dX27_least_4 rfl hl (by decide) rfl (fun ls hl => ?_)
  exact w_X27_least_5 hSF B Z hn x0 100000000 0 (hl.sub [2, 1, 0] rfl) e hp
theorem mt_X27_least (l : Launch) (G : ax_G) (hSF : ax_SF G) (x0 : Option Nat) (h : ax_H) (w : Int × ax_H) (e : f_X27_least G.2.2 x0 h = some w) : ax_Met l G yX27_least cX27_least 3 ((some FieldType.int)) 2 61 [va_rf x0] h w.2 (some (.int (Int32.ofInt w.1))) :=
  ax_enter [.inr (.inr x0)] (y := yX27_least) hSF (plainFor_of_name (by decide +kernel)) (Nat.le_of_ble_eq_true rfl) (fun X ls B Z hn hl => we_X27_least hSF B Z hn x0 hl e rfl)
