set_option maxRecDepth 100000
def dkwX5_codeAt_0 : List UInt8 := [27, 42, 180, 1, 21, 162, 0, 16, 42, 180, 0, 24, 17, 0, 164, 27, 96, 46, 167, 0, 4, 3, 172]
abbrev dktX5_codeAt_0 : List UInt8 := dkwX5_codeAt_0 ++ []
theorem dksX5_codeAt_0 : cX5_codeAt.data.toList.drop 0 = dktX5_codeAt_0 := by decide +kernel
theorem dX5_codeAt_0 : decode cX5_codeAt 0 = .ok (.iload_n 1, 1) := dk_27 (dk_at dksX5_codeAt_0 0 rfl rfl)
theorem dX5_codeAt_1 : decode cX5_codeAt 1 = .ok (.aload_n 0, 1) := dk_42 (dk_at dksX5_codeAt_0 1 rfl rfl)
theorem dX5_codeAt_2 : decode cX5_codeAt 2 = .ok (.getfield 277, 3) := dk_180 1 21 (dk_at dksX5_codeAt_0 2 rfl rfl)
theorem dX5_codeAt_5 : decode cX5_codeAt 5 = .ok (.if_icmp .ge 16, 3) := dk_162 0 16 (dk_at dksX5_codeAt_0 5 rfl rfl)
theorem dX5_codeAt_8 : decode cX5_codeAt 8 = .ok (.aload_n 0, 1) := dk_42 (dk_at dksX5_codeAt_0 8 rfl rfl)
theorem dX5_codeAt_9 : decode cX5_codeAt 9 = .ok (.getfield 24, 3) := dk_180 0 24 (dk_at dksX5_codeAt_0 9 rfl rfl)
theorem dX5_codeAt_12 : decode cX5_codeAt 12 = .ok (.sipush 164, 3) := dk_17 0 164 (dk_at dksX5_codeAt_0 12 rfl rfl)
theorem dX5_codeAt_15 : decode cX5_codeAt 15 = .ok (.iload_n 1, 1) := dk_27 (dk_at dksX5_codeAt_0 15 rfl rfl)
theorem dX5_codeAt_16 : decode cX5_codeAt 16 = .ok (.iadd, 1) := dk_96 (dk_at dksX5_codeAt_0 16 rfl rfl)
theorem dX5_codeAt_17 : decode cX5_codeAt 17 = .ok (.iaload, 1) := dk_46 (dk_at dksX5_codeAt_0 17 rfl rfl)
theorem dX5_codeAt_18 : decode cX5_codeAt 18 = .ok (.goto 4, 3) := dk_167 0 4 (dk_at dksX5_codeAt_0 18 rfl rfl)
theorem dX5_codeAt_21 : decode cX5_codeAt 21 = .ok (.iconst 0, 1) := dk_3 (dk_at dksX5_codeAt_0 21 rfl rfl)
theorem dX5_codeAt_22 : decode cX5_codeAt 22 = .ok (.ireturn, 1) := dk_172 (dk_at dksX5_codeAt_0 22 rfl rfl)
theorem ff_X5_277_5 : ax_FF RX5 277 5 21 (tyX5 21) 0 false := ⟨RX5, TX5, 61, tyX5, "DebtDoorsModel", kd5, in_X5, tyX5_ok, apX5, by decide, rfl, ⟨fun _ => rfl, fun h => absurd h (by decide)⟩, q1983, Or.inl rfl, fun h => absurd h (by decide)⟩
noncomputable def f_X5_codeAt (E : ax_E) (x0 : Option Nat) (x1 : Int) (h : ax_H) : Option (Int × ax_H) :=
  (ax_gI E h x0 5 21).bind fun v1 =>
  if i2 x1 < i2 v1 then
    (ax_gR E h x0 5 2).bind fun v2 =>
    (ax_ld E h v2 100 (164 + x1)).bind fun v3 =>
    some (v3, h)
  else
    some (0, h)
set_option maxHeartbeats 4000000 in
theorem we_X5_codeAt {l : Launch} {G : ax_G} {X : ax_X} {Q : State → Prop} {h0 h : ax_H} {ls : Array Slot} (hSF : ax_SF G) (B : ax_BL l G X cX5_codeAt 2 RX5 1 40) (Z : ax_Z X h0 ((some FieldType.int))) (hn : X.2.2.2.2.2.2.2.2.1.name = yX5_codeAt.name) (x0 : Option Nat) (x1 : Int) {w : Int × ax_H} (hl : ax_hl ls 2 [(0, .inr (.inr x0)), (1, .inl x1)]) (e : f_X5_codeAt G.2.2 x0 x1 h = some w) (hp : (fun w : Int × ax_H => Q = ax_Q G X h0 w.2 (some (.int (Int32.ofInt w.1)))) w) : ax_W G X Q h 0 ls [] := by
  unfold f_X5_codeAt at e
  refine ax_iload_n B dX5_codeAt_0 rfl hl 1 rfl ?_
  refine ax_aload_n B dX5_codeAt_1 rfl hl 0 rfl ?_
  refine ax_getI B ff_X5_277_5 (fun _ _ => rfl) dX5_codeAt_2 e (fun v1 e => ?_)
  refine ax_icmp_ge (tgt := 21) B dX5_codeAt_5 (by decide) e (fun e => ?_) (fun e => ?_)
  · refine ax_aload_n B dX5_codeAt_8 rfl hl 0 rfl ?_
    refine ax_getR B ff_X5_24_5 (fun _ _ => rfl) dX5_codeAt_9 e (fun v2 e => ?_)
    refine ax_sipush B dX5_codeAt_12 (by decide) ?_
    refine ax_iload_n B dX5_codeAt_15 rfl hl 1 rfl ?_
    refine ax_iadd' B dX5_codeAt_16 ?_
    refine ax_iald B kd100 dX5_codeAt_17 e (fun v3 e => ?_)
    refine ax_goto (tgt := 22) B dX5_codeAt_18 (by decide) ?_
    have e8 := e
    have hp : Q = _ := hp
    subst hp
    exact ax_ireturn B Z dX5_codeAt_22 e8
  · refine ax_iconst B dX5_codeAt_21 ?_
    have e8 := e
    have hp : Q = _ := hp
    subst hp
    exact ax_ireturn B Z dX5_codeAt_22 e8
theorem mt_X5_codeAt (l : Launch) (G : ax_G) (hSF : ax_SF G) (x0 : Option Nat) (x1 : Int) (h : ax_H) (w : Int × ax_H) (e : f_X5_codeAt G.2.2 x0 x1 h = some w) : ax_Met l G yX5_codeAt cX5_codeAt 2 ((some FieldType.int)) 1 40 [va_rf x0, .int (Int32.ofInt x1)] h w.2 (some (.int (Int32.ofInt w.1))) :=
  ax_enter [.inr (.inr x0), .inl x1] (y := yX5_codeAt) hSF (plainFor_of_name (by decide +kernel)) (Nat.le_of_ble_eq_true rfl) (fun X ls B Z hn hl => we_X5_codeAt hSF B Z hn x0 x1 hl e rfl)
def dkwX5_sign_0 : List UInt8 := [16, 100, 26, 96, 172]
abbrev dktX5_sign_0 : List UInt8 := dkwX5_sign_0 ++ []
theorem dksX5_sign_0 : cX5_sign.data.toList.drop 0 = dktX5_sign_0 := by decide +kernel
theorem dX5_sign_0 : decode cX5_sign 0 = .ok (.bipush 100, 2) := dk_16 100 (dk_at dksX5_sign_0 0 rfl rfl)
theorem dX5_sign_2 : decode cX5_sign 2 = .ok (.iload_n 0, 1) := dk_26 (dk_at dksX5_sign_0 2 rfl rfl)
theorem dX5_sign_3 : decode cX5_sign 3 = .ok (.iadd, 1) := dk_96 (dk_at dksX5_sign_0 3 rfl rfl)
theorem dX5_sign_4 : decode cX5_sign 4 = .ok (.ireturn, 1) := dk_172 (dk_at dksX5_sign_0 4 rfl rfl)
noncomputable def f_X5_sign (E : ax_E) (x0 : Int) (h : ax_H) : Option (Int × ax_H) :=
  some ((100 + x0), h)
set_option maxHeartbeats 4000000 in
theorem we_X5_sign {l : Launch} {G : ax_G} {X : ax_X} {Q : State → Prop} {h0 h : ax_H} {ls : Array Slot} (hSF : ax_SF G) (B : ax_BL l G X cX5_sign 1 RX5 1 40) (Z : ax_Z X h0 ((some FieldType.int))) (hn : X.2.2.2.2.2.2.2.2.1.name = yX5_sign.name) (x0 : Int) {w : Int × ax_H} (hl : ax_hl ls 1 [(0, .inl x0)]) (e : f_X5_sign G.2.2 x0 h = some w) (hp : (fun w : Int × ax_H => Q = ax_Q G X h0 w.2 (some (.int (Int32.ofInt w.1)))) w) : ax_W G X Q h 0 ls [] := by
  unfold f_X5_sign at e
  refine ax_bipush B dX5_sign_0 (by decide) ?_
  refine ax_iload_n B dX5_sign_2 rfl hl 0 rfl ?_
  refine ax_iadd' B dX5_sign_3 ?_
  have e8 := e
  have hp : Q = _ := hp
  subst hp
  exact ax_ireturn B Z dX5_sign_4 e8
theorem mt_X5_sign (l : Launch) (G : ax_G) (hSF : ax_SF G) (x0 : Int) (h : ax_H) (w : Int × ax_H) (e : f_X5_sign G.2.2 x0 h = some w) : ax_Met l G yX5_sign cX5_sign 1 ((some FieldType.int)) 1 40 [.int (Int32.ofInt x0)] h w.2 (some (.int (Int32.ofInt w.1))) :=
  ax_enter [.inl x0] (y := yX5_sign) hSF (plainFor_of_name (by decide +kernel)) (Nat.le_of_ble_eq_true rfl) (fun X ls B Z hn hl => we_X5_sign hSF B Z hn x0 hl e rfl)
def dkwX5_passes0_1 : List UInt8 := [180, 1, 24, 4, 96, 181, 1, 24, 28, 172]
abbrev dktX5_passes0_1 : List UInt8 := dkwX5_passes0_1 ++ []
def dkwX5_passes0_0 : List UInt8 := [42, 42, 180, 1, 24, 182, 1, 27, 27, 160, 0, 7, 4, 167, 0, 4, 3, 61, 28, 153, 0, 13, 42, 89]
abbrev dktX5_passes0_0 : List UInt8 := dkwX5_passes0_0 ++ dktX5_passes0_1
theorem dksX5_passes0_0 : cX5_passes0.data.toList.drop 0 = dktX5_passes0_0 := by decide +kernel
theorem dksX5_passes0_1 : cX5_passes0.data.toList.drop 24 = dktX5_passes0_1 := dk_seg dksX5_passes0_0 24 rfl rfl
theorem dX5_passes0_0 : decode cX5_passes0 0 = .ok (.aload_n 0, 1) := dk_42 (dk_at dksX5_passes0_0 0 rfl rfl)
theorem dX5_passes0_1 : decode cX5_passes0 1 = .ok (.aload_n 0, 1) := dk_42 (dk_at dksX5_passes0_0 1 rfl rfl)
theorem dX5_passes0_2 : decode cX5_passes0 2 = .ok (.getfield 280, 3) := dk_180 1 24 (dk_at dksX5_passes0_0 2 rfl rfl)
theorem dX5_passes0_5 : decode cX5_passes0 5 = .ok (.invokevirtual 283, 3) := dk_182 1 27 (dk_at dksX5_passes0_0 5 rfl rfl)
theorem dX5_passes0_8 : decode cX5_passes0 8 = .ok (.iload_n 1, 1) := dk_27 (dk_at dksX5_passes0_0 8 rfl rfl)
theorem dX5_passes0_9 : decode cX5_passes0 9 = .ok (.if_icmp .ne 7, 3) := dk_160 0 7 (dk_at dksX5_passes0_0 9 rfl rfl)
theorem dX5_passes0_12 : decode cX5_passes0 12 = .ok (.iconst 1, 1) := dk_4 (dk_at dksX5_passes0_0 12 rfl rfl)
theorem dX5_passes0_13 : decode cX5_passes0 13 = .ok (.goto 4, 3) := dk_167 0 4 (dk_at dksX5_passes0_0 13 rfl rfl)
theorem dX5_passes0_16 : decode cX5_passes0 16 = .ok (.iconst 0, 1) := dk_3 (dk_at dksX5_passes0_0 16 rfl rfl)
theorem dX5_passes0_17 : decode cX5_passes0 17 = .ok (.istore_n 2, 1) := dk_61 (dk_at dksX5_passes0_0 17 rfl rfl)
theorem dX5_passes0_18 : decode cX5_passes0 18 = .ok (.iload_n 2, 1) := dk_28 (dk_at dksX5_passes0_0 18 rfl rfl)
theorem dX5_passes0_19 : decode cX5_passes0 19 = .ok (.ifCond .eq 13, 3) := dk_153 0 13 (dk_at dksX5_passes0_0 19 rfl rfl)
theorem dX5_passes0_22 : decode cX5_passes0 22 = .ok (.aload_n 0, 1) := dk_42 (dk_at dksX5_passes0_0 22 rfl rfl)
theorem dX5_passes0_23 : decode cX5_passes0 23 = .ok (.dup, 1) := dk_89 (dk_at dksX5_passes0_0 23 rfl rfl)
theorem dX5_passes0_24 : decode cX5_passes0 24 = .ok (.getfield 280, 3) := dk_180 1 24 (dk_at dksX5_passes0_1 0 rfl rfl)
theorem dX5_passes0_27 : decode cX5_passes0 27 = .ok (.iconst 1, 1) := dk_4 (dk_at dksX5_passes0_1 3 rfl rfl)
theorem dX5_passes0_28 : decode cX5_passes0 28 = .ok (.iadd, 1) := dk_96 (dk_at dksX5_passes0_1 4 rfl rfl)
theorem dX5_passes0_29 : decode cX5_passes0 29 = .ok (.putfield 280, 3) := dk_181 1 24 (dk_at dksX5_passes0_1 5 rfl rfl)
theorem dX5_passes0_32 : decode cX5_passes0 32 = .ok (.iload_n 2, 1) := dk_28 (dk_at dksX5_passes0_1 8 rfl rfl)
theorem dX5_passes0_33 : decode cX5_passes0 33 = .ok (.ireturn, 1) := dk_172 (dk_at dksX5_passes0_1 9 rfl rfl)
theorem ff_X5_280_5 : ax_FF RX5 280 5 20 (tyX5 20) 0 false := ⟨RX5, TX5, 61, tyX5, "DebtDoorsModel", kd5, in_X5, tyX5_ok, apX5, by decide, rfl, ⟨fun _ => rfl, fun h => absurd h (by decide)⟩, q1982, Or.inl rfl, fun h => absurd h (by decide)⟩
noncomputable def f_X5_passes0_32 (E : ax_E) (x2 : Int) (h : ax_H) : Option (Int × ax_H) :=
  if x2 = 0 ∨ x2 = 1 then some (x2, h) else none
noncomputable def f_X5_passes0_17 (E : ax_E) (x0 : Option Nat) (s0 : Int) (h : ax_H) : Option (Int × ax_H) :=
  if i2 s0 = 0 then
    f_X5_passes0_32 E s0 h
  else
    (ax_gI E h x0 5 20).bind fun v1 =>
    (ax_pI h x0 5 20 (v1 + 1)).bind fun h2 =>
    f_X5_passes0_32 E s0 h2
noncomputable def f_X5_passes0 (E : ax_E) (x0 : Option Nat) (x1 : Int) (h : ax_H) : Option (Int × ax_H) :=
  (ax_gI E h x0 5 20).bind fun v1 =>
  (ax_ce E h x0 5).bind fun _ => (f_X5_codeAt E x0 v1 h).bind fun q2 =>
  if i2 q2.1 = i2 x1 then
    f_X5_passes0_17 E x0 1 q2.2
  else
    f_X5_passes0_17 E x0 0 q2.2
set_option maxHeartbeats 4000000 in
theorem w_X5_passes0_32 {l : Launch} {G : ax_G} {X : ax_X} {Q : State → Prop} {h0 h : ax_H} {ls : Array Slot} (hSF : ax_SF G) (B : ax_BL l G X cX5_passes0 3 RX5 2 61) (Z : ax_Z X h0 ((some FieldType.boolean))) (hn : X.2.2.2.2.2.2.2.2.1.name = yX5_passes0.name) (x2 : Int) {w : Int × ax_H} (hl : ax_hl ls 3 [(2, .inl x2)]) (e : f_X5_passes0_32 G.2.2 x2 h = some w) (hp : (fun w : Int × ax_H => Q = ax_Q G X h0 w.2 (some (.int (Int32.ofInt w.1)))) w) : ax_W G X Q h 32 ls [] := by
  unfold f_X5_passes0_32 at e
  refine ax_iload_n B dX5_passes0_32 rfl hl 0 rfl ?_
  have e8 := e
  have hp : Q = _ := hp
  subst hp
  exact ax_zreturn B Z dX5_passes0_33 e8
set_option maxHeartbeats 4000000 in
theorem w_X5_passes0_17 {l : Launch} {G : ax_G} {X : ax_X} {Q : State → Prop} {h0 h : ax_H} {ls : Array Slot} (hSF : ax_SF G) (B : ax_BL l G X cX5_passes0 3 RX5 2 61) (Z : ax_Z X h0 ((some FieldType.boolean))) (hn : X.2.2.2.2.2.2.2.2.1.name = yX5_passes0.name) (x0 : Option Nat) (s0 : Int) {w : Int × ax_H} (hl : ax_hl ls 3 [(0, .inr (.inr x0))]) (e : f_X5_passes0_17 G.2.2 x0 s0 h = some w) (hp : (fun w : Int × ax_H => Q = ax_Q G X h0 w.2 (some (.int (Int32.ofInt w.1)))) w) : ax_W G X Q h 17 ls [.int (Int32.ofInt s0)] := by
  unfold f_X5_passes0_17 at e
  refine ax_istore_n (L' := [(2, .inl s0), (0, .inr (.inr x0))]) B dX5_passes0_17 rfl hl (by decide) rfl (fun ls hl => ?_)
  refine ax_iload_n B dX5_passes0_18 rfl hl 0 rfl ?_
  refine ax_if_eq (tgt := 32) B dX5_passes0_19 (by decide) e (fun e => ?_) (fun e => ?_)
  · exact w_X5_passes0_32 hSF B Z hn s0 (hl.sub [0] rfl) e hp
  · refine ax_aload_n B dX5_passes0_22 rfl hl 1 rfl ?_
    refine ax_dup B dX5_passes0_23 (va_rf_cat _) ?_
    refine ax_getI B ff_X5_280_5 (fun _ _ => rfl) dX5_passes0_24 e (fun v1 e => ?_)
    refine ax_iconst B dX5_passes0_27 ?_
    refine ax_iadd' B dX5_passes0_28 ?_
    refine ax_putI B ff_X5_280_5 (Or.inl rfl) rfl dX5_passes0_29 e (fun h2 e => ?_)
    exact w_X5_passes0_32 hSF B Z hn s0 (hl.sub [0] rfl) e hp
set_option maxHeartbeats 4000000 in
theorem we_X5_passes0 {l : Launch} {G : ax_G} {X : ax_X} {Q : State → Prop} {h0 h : ax_H} {ls : Array Slot} (hSF : ax_SF G) (B : ax_BL l G X cX5_passes0 3 RX5 2 61) (Z : ax_Z X h0 ((some FieldType.boolean))) (hn : X.2.2.2.2.2.2.2.2.1.name = yX5_passes0.name) (x0 : Option Nat) (x1 : Int) {w : Int × ax_H} (hl : ax_hl ls 3 [(0, .inr (.inr x0)), (1, .inl x1)]) (e : f_X5_passes0 G.2.2 x0 x1 h = some w) (hp : (fun w : Int × ax_H => Q = ax_Q G X h0 w.2 (some (.int (Int32.ofInt w.1)))) w) : ax_W G X Q h 0 ls [] := by
  unfold f_X5_passes0 at e
  refine ax_aload_n B dX5_passes0_0 rfl hl 0 rfl ?_
  refine ax_aload_n B dX5_passes0_1 rfl hl 0 rfl ?_
  refine ax_getI B ff_X5_280_5 (fun _ _ => rfl) dX5_passes0_2 e (fun v1 e => ?_)
  refine ax_ivI (y := yX5_codeAt) (n := 1) (As := [.int (Int32.ofInt v1)]) B kd5 (lw_V q2250 q2252 qs56 q133 q2253) (by decide +kernel) ⟨Nat.le_of_ble_eq_true rfl, Nat.le_of_ble_eq_true rfl⟩ (fun w1 e1 => mt_X5_codeAt l G hSF x0 v1 _ w1 e1) rfl hl.size (by decide) dX5_passes0_5 e (fun q2 e => ?_)
  refine ax_iload_n B dX5_passes0_8 rfl hl 1 rfl ?_
  refine ax_icmp_ne (tgt := 16) B dX5_passes0_9 (by decide) e (fun e => ?_) (fun e => ?_)
  · refine ax_iconst B dX5_passes0_12 ?_
    refine ax_goto (tgt := 17) B dX5_passes0_13 (by decide) ?_
    exact w_X5_passes0_17 hSF B Z hn x0 1 (hl.sub [0] rfl) e hp
  · refine ax_iconst B dX5_passes0_16 ?_
    exact w_X5_passes0_17 hSF B Z hn x0 0 (hl.sub [0] rfl) e hp
theorem mt_X5_passes0 (l : Launch) (G : ax_G) (hSF : ax_SF G) (x0 : Option Nat) (x1 : Int) (h : ax_H) (w : Int × ax_H) (e : f_X5_passes0 G.2.2 x0 x1 h = some w) : ax_Met l G yX5_passes0 cX5_passes0 3 ((some FieldType.boolean)) 2 61 [va_rf x0, .int (Int32.ofInt x1)] h w.2 (some (.int (Int32.ofInt w.1))) :=
  ax_enter [.inr (.inr x0), .inl x1] (y := yX5_passes0) hSF (plainFor_of_name (by decide +kernel)) (Nat.le_of_ble_eq_true rfl) (fun X ls B Z hn hl => we_X5_passes0 hSF B Z hn x0 x1 hl e rfl)
def dkwX5_bounded_1 : List UInt8 := [181, 1, 34, 42, 180, 1, 34, 153, 0, 7, 9, 167, 0, 4, 31, 173]
abbrev dktX5_bounded_1 : List UInt8 := dkwX5_bounded_1 ++ []
def dkwX5_bounded_0 : List UInt8 := [29, 153, 0, 24, 31, 20, 1, 30, 148, 157, 0, 11, 31, 20, 1, 32, 148, 156, 0, 8, 42, 4]
abbrev dktX5_bounded_0 : List UInt8 := dkwX5_bounded_0 ++ dktX5_bounded_1
theorem dksX5_bounded_0 : cX5_bounded.data.toList.drop 0 = dktX5_bounded_0 := by decide +kernel
theorem dksX5_bounded_1 : cX5_bounded.data.toList.drop 22 = dktX5_bounded_1 := dk_seg dksX5_bounded_0 22 rfl rfl
theorem dX5_bounded_0 : decode cX5_bounded 0 = .ok (.iload_n 3, 1) := dk_29 (dk_at dksX5_bounded_0 0 rfl rfl)
theorem dX5_bounded_1 : decode cX5_bounded 1 = .ok (.ifCond .eq 24, 3) := dk_153 0 24 (dk_at dksX5_bounded_0 1 rfl rfl)
theorem dX5_bounded_4 : decode cX5_bounded 4 = .ok (.lload_n 1, 1) := dk_31 (dk_at dksX5_bounded_0 4 rfl rfl)
theorem dX5_bounded_5 : decode cX5_bounded 5 = .ok (.ldc2_w 286, 3) := dk_20 1 30 (dk_at dksX5_bounded_0 5 rfl rfl)
theorem dX5_bounded_8 : decode cX5_bounded 8 = .ok (.lcmp, 1) := dk_148 (dk_at dksX5_bounded_0 8 rfl rfl)
theorem dX5_bounded_9 : decode cX5_bounded 9 = .ok (.ifCond .gt 11, 3) := dk_157 0 11 (dk_at dksX5_bounded_0 9 rfl rfl)
theorem dX5_bounded_12 : decode cX5_bounded 12 = .ok (.lload_n 1, 1) := dk_31 (dk_at dksX5_bounded_0 12 rfl rfl)
theorem dX5_bounded_13 : decode cX5_bounded 13 = .ok (.ldc2_w 288, 3) := dk_20 1 32 (dk_at dksX5_bounded_0 13 rfl rfl)
theorem dX5_bounded_16 : decode cX5_bounded 16 = .ok (.lcmp, 1) := dk_148 (dk_at dksX5_bounded_0 16 rfl rfl)
theorem dX5_bounded_17 : decode cX5_bounded 17 = .ok (.ifCond .ge 8, 3) := dk_156 0 8 (dk_at dksX5_bounded_0 17 rfl rfl)
theorem dX5_bounded_20 : decode cX5_bounded 20 = .ok (.aload_n 0, 1) := dk_42 (dk_at dksX5_bounded_0 20 rfl rfl)
theorem dX5_bounded_21 : decode cX5_bounded 21 = .ok (.iconst 1, 1) := dk_4 (dk_at dksX5_bounded_0 21 rfl rfl)
theorem dX5_bounded_22 : decode cX5_bounded 22 = .ok (.putfield 290, 3) := dk_181 1 34 (dk_at dksX5_bounded_1 0 rfl rfl)
theorem dX5_bounded_25 : decode cX5_bounded 25 = .ok (.aload_n 0, 1) := dk_42 (dk_at dksX5_bounded_1 3 rfl rfl)
theorem dX5_bounded_26 : decode cX5_bounded 26 = .ok (.getfield 290, 3) := dk_180 1 34 (dk_at dksX5_bounded_1 4 rfl rfl)
theorem dX5_bounded_29 : decode cX5_bounded 29 = .ok (.ifCond .eq 7, 3) := dk_153 0 7 (dk_at dksX5_bounded_1 7 rfl rfl)
theorem dX5_bounded_32 : decode cX5_bounded 32 = .ok (.lconst 0, 1) := dk_9 (dk_at dksX5_bounded_1 10 rfl rfl)
theorem dX5_bounded_33 : decode cX5_bounded 33 = .ok (.goto 4, 3) := dk_167 0 4 (dk_at dksX5_bounded_1 11 rfl rfl)
theorem dX5_bounded_36 : decode cX5_bounded 36 = .ok (.lload_n 1, 1) := dk_31 (dk_at dksX5_bounded_1 14 rfl rfl)
theorem dX5_bounded_37 : decode cX5_bounded 37 = .ok (.lreturn, 1) := dk_173 (dk_at dksX5_bounded_1 15 rfl rfl)
theorem ff_X5_290_5 : ax_FF RX5 290 5 22 (tyX5 22) 0 false := ⟨RX5, TX5, 61, tyX5, "DebtDoorsModel", kd5, in_X5, tyX5_ok, apX5, by decide, rfl, ⟨fun _ => rfl, fun h => absurd h (by decide)⟩, q1984, Or.inl rfl, fun h => absurd h (by decide)⟩
theorem cn_X5_286 : Jvm.Cond.constantLong RX5 286 (Int64.ofInt 1000000000) ∈ lw_all := by rw [show Int64.ofInt 1000000000 = (1000000000 : Int64) by decide]; exact q2278
theorem cn_X5_288 : Jvm.Cond.constantLong RX5 288 (Int64.ofInt (-1000000000)) ∈ lw_all := by rw [show Int64.ofInt (-1000000000) = (-1000000000 : Int64) by decide]; exact q2279
noncomputable def f_X5_bounded_25 (E : ax_E) (x0 : Option Nat) (x1 : Int) (h : ax_H) : Option (Int × ax_H) :=
  (ax_gI E h x0 5 22).bind fun v1 =>
  if i2 v1 = 0 then
    some (x1, h)
  else
    some (0, h)
noncomputable def f_X5_bounded_20 (E : ax_E) (x0 : Option Nat) (x1 : Int) (h : ax_H) : Option (Int × ax_H) :=
  if 1 = 0 ∨ 1 = 1 then (ax_pI h x0 5 22 1).bind fun h1 =>
    f_X5_bounded_25 E x0 x1 h1
  else none
noncomputable def f_X5_bounded (E : ax_E) (x0 : Option Nat) (x1 : Int) (x3 : Int) (h : ax_H) : Option (Int × ax_H) :=
  if i2 x3 = 0 then
    f_X5_bounded_25 E x0 x1 h
  else
    if 0 < i2 (ax_cmp x1 1000000000) then
      f_X5_bounded_20 E x0 x1 h
    else
      if i2 (ax_cmp x1 (-1000000000)) < 0 then
        f_X5_bounded_20 E x0 x1 h
      else
        f_X5_bounded_25 E x0 x1 h
set_option maxHeartbeats 4000000 in
theorem w_X5_bounded_25 {l : Launch} {G : ax_G} {X : ax_X} {Q : State → Prop} {h0 h : ax_H} {ls : Array Slot} (hSF : ax_SF G) (B : ax_BL l G X cX5_bounded 4 RX5 1 40) (Z : ax_Z X h0 ((some FieldType.long))) (hn : X.2.2.2.2.2.2.2.2.1.name = yX5_bounded.name) (x0 : Option Nat) (x1 : Int) {w : Int × ax_H} (hl : ax_hl ls 4 [(0, .inr (.inr x0)), (1, .inr (.inl x1))]) (e : f_X5_bounded_25 G.2.2 x0 x1 h = some w) (hp : (fun w : Int × ax_H => Q = ax_Q G X h0 w.2 (some (.long (Int64.ofInt w.1)))) w) : ax_W G X Q h 25 ls [] := by
  unfold f_X5_bounded_25 at e
  refine ax_aload_n B dX5_bounded_25 rfl hl 0 rfl ?_
  refine ax_getI B ff_X5_290_5 (fun _ _ => rfl) dX5_bounded_26 e (fun v1 e => ?_)
  refine ax_if_eq (tgt := 36) B dX5_bounded_29 (by decide) e (fun e => ?_) (fun e => ?_)
  · refine ax_lload_n B dX5_bounded_36 rfl hl 1 rfl ?_
    have e8 := e
    have hp : Q = _ := hp
    subst hp
    exact ax_lreturn B Z dX5_bounded_37 e8
  · refine ax_lconst (v := 0) B dX5_bounded_32 rfl ?_
    refine ax_goto (tgt := 37) B dX5_bounded_33 (by decide) ?_
    have e8 := e
    have hp : Q = _ := hp
    subst hp
    exact ax_lreturn B Z dX5_bounded_37 e8
set_option maxHeartbeats 4000000 in
theorem w_X5_bounded_20 {l : Launch} {G : ax_G} {X : ax_X} {Q : State → Prop} {h0 h : ax_H} {ls : Array Slot} (hSF : ax_SF G) (B : ax_BL l G X cX5_bounded 4 RX5 1 40) (Z : ax_Z X h0 ((some FieldType.long))) (hn : X.2.2.2.2.2.2.2.2.1.name = yX5_bounded.name) (x0 : Option Nat) (x1 : Int) {w : Int × ax_H} (hl : ax_hl ls 4 [(0, .inr (.inr x0)), (1, .inr (.inl x1))]) (e : f_X5_bounded_20 G.2.2 x0 x1 h = some w) (hp : (fun w : Int × ax_H => Q = ax_Q G X h0 w.2 (some (.long (Int64.ofInt w.1)))) w) : ax_W G X Q h 20 ls [] := by
  unfold f_X5_bounded_20 at e
  refine ax_aload_n B dX5_bounded_20 rfl hl 0 rfl ?_
  refine ax_iconst B dX5_bounded_21 ?_
  refine ax_putZ B ff_X5_290_5 (Or.inl rfl) dX5_bounded_22 e (fun h1 e => ?_)
  exact w_X5_bounded_25 hSF B Z hn x0 x1 (hl.sub [0, 1] rfl) e hp
set_option maxHeartbeats 4000000 in
theorem we_X5_bounded {l : Launch} {G : ax_G} {X : ax_X} {Q : State → Prop} {h0 h : ax_H} {ls : Array Slot} (hSF : ax_SF G) (B : ax_BL l G X cX5_bounded 4 RX5 1 40) (Z : ax_Z X h0 ((some FieldType.long))) (hn : X.2.2.2.2.2.2.2.2.1.name = yX5_bounded.name) (x0 : Option Nat) (x1 : Int) (x3 : Int) {w : Int × ax_H} (hl : ax_hl ls 4 [(0, .inr (.inr x0)), (1, .inr (.inl x1)), (3, .inl x3)]) (e : f_X5_bounded G.2.2 x0 x1 x3 h = some w) (hp : (fun w : Int × ax_H => Q = ax_Q G X h0 w.2 (some (.long (Int64.ofInt w.1)))) w) : ax_W G X Q h 0 ls [] := by
  unfold f_X5_bounded at e
  refine ax_iload_n B dX5_bounded_0 rfl hl 2 rfl ?_
  refine ax_if_eq (tgt := 25) B dX5_bounded_1 (by decide) e (fun e => ?_) (fun e => ?_)
  · exact w_X5_bounded_25 hSF B Z hn x0 x1 (hl.sub [0, 1] rfl) e hp
  · refine ax_lload_n B dX5_bounded_4 rfl hl 1 rfl ?_
    refine ax_ldc2 B cn_X5_286 dX5_bounded_5 ?_
    refine ax_lcmp' B dX5_bounded_8 ?_
    refine ax_if_gt (tgt := 20) B dX5_bounded_9 (by decide) e (fun e => ?_) (fun e => ?_)
    · exact w_X5_bounded_20 hSF B Z hn x0 x1 (hl.sub [0, 1] rfl) e hp
    · refine ax_lload_n B dX5_bounded_12 rfl hl 1 rfl ?_
      refine ax_ldc2 B cn_X5_288 dX5_bounded_13 ?_
      refine ax_lcmp' B dX5_bounded_16 ?_
      refine ax_if_ge (tgt := 25) B dX5_bounded_17 (by decide) e (fun e => ?_) (fun e => ?_)
      · exact w_X5_bounded_20 hSF B Z hn x0 x1 (hl.sub [0, 1] rfl) e hp
      · exact w_X5_bounded_25 hSF B Z hn x0 x1 (hl.sub [0, 1] rfl) e hp
theorem mt_X5_bounded (l : Launch) (G : ax_G) (hSF : ax_SF G) (x0 : Option Nat) (x1 : Int) (x3 : Int) (h : ax_H) (w : Int × ax_H) (e : f_X5_bounded G.2.2 x0 x1 x3 h = some w) : ax_Met l G yX5_bounded cX5_bounded 4 ((some FieldType.long)) 1 40 [va_rf x0, .long (Int64.ofInt x1), .int (Int32.ofInt x3)] h w.2 (some (.long (Int64.ofInt w.1))) :=
  ax_enter [.inr (.inr x0), .inr (.inl x1), .inl x3] (y := yX5_bounded) hSF (plainFor_of_name (by decide +kernel)) (Nat.le_of_ble_eq_true rfl) (fun X ls B Z hn hl => we_X5_bounded hSF B Z hn x0 x1 x3 hl e rfl)
def dkwX5_partOf_10 : List UInt8 := [42, 180, 0, 62, 28, 16, 17, 160, 0, 7, 3, 167, 0, 9, 28, 16, 19, 100, 4, 96, 46, 133, 173]
abbrev dktX5_partOf_10 : List UInt8 := dkwX5_partOf_10 ++ []
def dkwX5_partOf_9 : List UInt8 := [46, 133, 167, 0, 6, 20, 1, 57, 173, 28, 16, 23, 160, 0, 12, 42, 29, 21, 4, 182, 0, 178, 133, 173]
abbrev dktX5_partOf_9 : List UInt8 := dkwX5_partOf_9 ++ dktX5_partOf_10
def dkwX5_partOf_8 : List UInt8 := [46, 133, 173, 28, 16, 22, 160, 0, 27, 42, 29, 182, 0, 152, 153, 0, 15, 42, 180, 0, 24, 3, 29, 96]
abbrev dktX5_partOf_8 : List UInt8 := dkwX5_partOf_8 ++ dktX5_partOf_9
def dkwX5_partOf_7 : List UInt8 := [180, 1, 24, 96, 4, 100, 46, 133, 173, 42, 180, 1, 54, 154, 0, 14, 42, 180, 0, 59, 28, 16, 9, 100]
abbrev dktX5_partOf_7 : List UInt8 := dkwX5_partOf_7 ++ dktX5_partOf_8
def dkwX5_partOf_6 : List UInt8 := [180, 1, 34, 153, 0, 5, 9, 173, 28, 16, 50, 160, 0, 20, 42, 180, 0, 24, 17, 11, 148, 42]
abbrev dktX5_partOf_6 : List UInt8 := dkwX5_partOf_6 ++ dktX5_partOf_7
def dkwX5_partOf_5 : List UInt8 := [180, 1, 24, 96, 46, 54, 4, 42, 89, 180, 1, 24, 4, 96, 181, 1, 24, 27, 153, 0, 10, 42]
abbrev dktX5_partOf_5 : List UInt8 := dkwX5_partOf_5 ++ dktX5_partOf_6
def dkwX5_partOf_4 : List UInt8 := [181, 1, 24, 42, 180, 1, 54, 153, 0, 34, 28, 16, 23, 160, 0, 28, 42, 180, 0, 24, 17, 11, 148, 42]
abbrev dktX5_partOf_4 : List UInt8 := dkwX5_partOf_4 ++ dktX5_partOf_5
def dkwX5_partOf_3 : List UInt8 := [160, 0, 27, 42, 180, 0, 24, 17, 11, 148, 42, 180, 1, 24, 96, 46, 62, 42, 89, 180, 1, 24, 4, 96]
abbrev dktX5_partOf_3 : List UInt8 := dkwX5_partOf_3 ++ dktX5_partOf_4
def dkwX5_partOf_2 : List UInt8 := [180, 1, 24, 4, 96, 181, 1, 24, 42, 180, 1, 54, 153, 0, 39, 28, 16, 22, 159, 0, 9, 28, 16, 23]
abbrev dktX5_partOf_2 : List UInt8 := dkwX5_partOf_2 ++ dktX5_partOf_3
def dkwX5_partOf_1 : List UInt8 := [96, 181, 1, 24, 32, 173, 42, 42, 180, 1, 24, 182, 1, 27, 61, 3, 62, 3, 54, 4, 42, 89]
abbrev dktX5_partOf_1 : List UInt8 := dkwX5_partOf_1 ++ dktX5_partOf_2
def dkwX5_partOf_0 : List UInt8 := [42, 16, 91, 184, 0, 249, 182, 1, 48, 153, 0, 21, 42, 27, 182, 1, 51, 65, 42, 89, 180, 1, 24, 4]
abbrev dktX5_partOf_0 : List UInt8 := dkwX5_partOf_0 ++ dktX5_partOf_1
theorem dksX5_partOf_0 : cX5_partOf.data.toList.drop 0 = dktX5_partOf_0 := by decide +kernel
theorem dksX5_partOf_1 : cX5_partOf.data.toList.drop 24 = dktX5_partOf_1 := dk_seg dksX5_partOf_0 24 rfl rfl
theorem dksX5_partOf_2 : cX5_partOf.data.toList.drop 46 = dktX5_partOf_2 := dk_seg dksX5_partOf_1 22 rfl rfl
theorem dksX5_partOf_3 : cX5_partOf.data.toList.drop 70 = dktX5_partOf_3 := dk_seg dksX5_partOf_2 24 rfl rfl
theorem dksX5_partOf_4 : cX5_partOf.data.toList.drop 94 = dktX5_partOf_4 := dk_seg dksX5_partOf_3 24 rfl rfl
theorem dksX5_partOf_5 : cX5_partOf.data.toList.drop 118 = dktX5_partOf_5 := dk_seg dksX5_partOf_4 24 rfl rfl
theorem dksX5_partOf_6 : cX5_partOf.data.toList.drop 140 = dktX5_partOf_6 := dk_seg dksX5_partOf_5 22 rfl rfl
theorem dksX5_partOf_7 : cX5_partOf.data.toList.drop 162 = dktX5_partOf_7 := dk_seg dksX5_partOf_6 22 rfl rfl
theorem dksX5_partOf_8 : cX5_partOf.data.toList.drop 186 = dktX5_partOf_8 := dk_seg dksX5_partOf_7 24 rfl rfl
theorem dksX5_partOf_9 : cX5_partOf.data.toList.drop 210 = dktX5_partOf_9 := dk_seg dksX5_partOf_8 24 rfl rfl
theorem dksX5_partOf_10 : cX5_partOf.data.toList.drop 234 = dktX5_partOf_10 := dk_seg dksX5_partOf_9 24 rfl rfl
theorem dX5_partOf_0 : decode cX5_partOf 0 = .ok (.aload_n 0, 1) := dk_42 (dk_at dksX5_partOf_0 0 rfl rfl)
theorem dX5_partOf_1 : decode cX5_partOf 1 = .ok (.bipush 91, 2) := dk_16 91 (dk_at dksX5_partOf_0 1 rfl rfl)
theorem dX5_partOf_3 : decode cX5_partOf 3 = .ok (.invokestatic 249, 3) := dk_184 0 249 (dk_at dksX5_partOf_0 3 rfl rfl)
theorem dX5_partOf_6 : decode cX5_partOf 6 = .ok (.invokevirtual 304, 3) := dk_182 1 48 (dk_at dksX5_partOf_0 6 rfl rfl)
theorem dX5_partOf_9 : decode cX5_partOf 9 = .ok (.ifCond .eq 21, 3) := dk_153 0 21 (dk_at dksX5_partOf_0 9 rfl rfl)
theorem dX5_partOf_12 : decode cX5_partOf 12 = .ok (.aload_n 0, 1) := dk_42 (dk_at dksX5_partOf_0 12 rfl rfl)
theorem dX5_partOf_13 : decode cX5_partOf 13 = .ok (.iload_n 1, 1) := dk_27 (dk_at dksX5_partOf_0 13 rfl rfl)
theorem dX5_partOf_14 : decode cX5_partOf 14 = .ok (.invokevirtual 307, 3) := dk_182 1 51 (dk_at dksX5_partOf_0 14 rfl rfl)
theorem dX5_partOf_17 : decode cX5_partOf 17 = .ok (.lstore_n 2, 1) := dk_65 (dk_at dksX5_partOf_0 17 rfl rfl)
theorem dX5_partOf_18 : decode cX5_partOf 18 = .ok (.aload_n 0, 1) := dk_42 (dk_at dksX5_partOf_0 18 rfl rfl)
theorem dX5_partOf_19 : decode cX5_partOf 19 = .ok (.dup, 1) := dk_89 (dk_at dksX5_partOf_0 19 rfl rfl)
theorem dX5_partOf_20 : decode cX5_partOf 20 = .ok (.getfield 280, 3) := dk_180 1 24 (dk_at dksX5_partOf_0 20 rfl rfl)
theorem dX5_partOf_23 : decode cX5_partOf 23 = .ok (.iconst 1, 1) := dk_4 (dk_at dksX5_partOf_0 23 rfl rfl)
theorem dX5_partOf_24 : decode cX5_partOf 24 = .ok (.iadd, 1) := dk_96 (dk_at dksX5_partOf_1 0 rfl rfl)
theorem dX5_partOf_25 : decode cX5_partOf 25 = .ok (.putfield 280, 3) := dk_181 1 24 (dk_at dksX5_partOf_1 1 rfl rfl)
theorem dX5_partOf_28 : decode cX5_partOf 28 = .ok (.lload_n 2, 1) := dk_32 (dk_at dksX5_partOf_1 4 rfl rfl)
theorem dX5_partOf_29 : decode cX5_partOf 29 = .ok (.lreturn, 1) := dk_173 (dk_at dksX5_partOf_1 5 rfl rfl)
theorem dX5_partOf_30 : decode cX5_partOf 30 = .ok (.aload_n 0, 1) := dk_42 (dk_at dksX5_partOf_1 6 rfl rfl)
theorem dX5_partOf_31 : decode cX5_partOf 31 = .ok (.aload_n 0, 1) := dk_42 (dk_at dksX5_partOf_1 7 rfl rfl)
theorem dX5_partOf_32 : decode cX5_partOf 32 = .ok (.getfield 280, 3) := dk_180 1 24 (dk_at dksX5_partOf_1 8 rfl rfl)
theorem dX5_partOf_35 : decode cX5_partOf 35 = .ok (.invokevirtual 283, 3) := dk_182 1 27 (dk_at dksX5_partOf_1 11 rfl rfl)
theorem dX5_partOf_38 : decode cX5_partOf 38 = .ok (.istore_n 2, 1) := dk_61 (dk_at dksX5_partOf_1 14 rfl rfl)
theorem dX5_partOf_39 : decode cX5_partOf 39 = .ok (.iconst 0, 1) := dk_3 (dk_at dksX5_partOf_1 15 rfl rfl)
theorem dX5_partOf_40 : decode cX5_partOf 40 = .ok (.istore_n 3, 1) := dk_62 (dk_at dksX5_partOf_1 16 rfl rfl)
theorem dX5_partOf_41 : decode cX5_partOf 41 = .ok (.iconst 0, 1) := dk_3 (dk_at dksX5_partOf_1 17 rfl rfl)
theorem dX5_partOf_42 : decode cX5_partOf 42 = .ok (.istore 4, 2) := dk_54 4 (dk_at dksX5_partOf_1 18 rfl rfl)
theorem dX5_partOf_44 : decode cX5_partOf 44 = .ok (.aload_n 0, 1) := dk_42 (dk_at dksX5_partOf_1 20 rfl rfl)
theorem dX5_partOf_45 : decode cX5_partOf 45 = .ok (.dup, 1) := dk_89 (dk_at dksX5_partOf_1 21 rfl rfl)
theorem dX5_partOf_46 : decode cX5_partOf 46 = .ok (.getfield 280, 3) := dk_180 1 24 (dk_at dksX5_partOf_2 0 rfl rfl)
theorem dX5_partOf_49 : decode cX5_partOf 49 = .ok (.iconst 1, 1) := dk_4 (dk_at dksX5_partOf_2 3 rfl rfl)
theorem dX5_partOf_50 : decode cX5_partOf 50 = .ok (.iadd, 1) := dk_96 (dk_at dksX5_partOf_2 4 rfl rfl)
theorem dX5_partOf_51 : decode cX5_partOf 51 = .ok (.putfield 280, 3) := dk_181 1 24 (dk_at dksX5_partOf_2 5 rfl rfl)
theorem dX5_partOf_54 : decode cX5_partOf 54 = .ok (.aload_n 0, 1) := dk_42 (dk_at dksX5_partOf_2 8 rfl rfl)
theorem dX5_partOf_55 : decode cX5_partOf 55 = .ok (.getfield 310, 3) := dk_180 1 54 (dk_at dksX5_partOf_2 9 rfl rfl)
theorem dX5_partOf_58 : decode cX5_partOf 58 = .ok (.ifCond .eq 39, 3) := dk_153 0 39 (dk_at dksX5_partOf_2 12 rfl rfl)
theorem dX5_partOf_61 : decode cX5_partOf 61 = .ok (.iload_n 2, 1) := dk_28 (dk_at dksX5_partOf_2 15 rfl rfl)
theorem dX5_partOf_62 : decode cX5_partOf 62 = .ok (.bipush 22, 2) := dk_16 22 (dk_at dksX5_partOf_2 16 rfl rfl)
theorem dX5_partOf_64 : decode cX5_partOf 64 = .ok (.if_icmp .eq 9, 3) := dk_159 0 9 (dk_at dksX5_partOf_2 18 rfl rfl)
theorem dX5_partOf_67 : decode cX5_partOf 67 = .ok (.iload_n 2, 1) := dk_28 (dk_at dksX5_partOf_2 21 rfl rfl)
theorem dX5_partOf_68 : decode cX5_partOf 68 = .ok (.bipush 23, 2) := dk_16 23 (dk_at dksX5_partOf_2 22 rfl rfl)
theorem dX5_partOf_70 : decode cX5_partOf 70 = .ok (.if_icmp .ne 27, 3) := dk_160 0 27 (dk_at dksX5_partOf_3 0 rfl rfl)
theorem dX5_partOf_73 : decode cX5_partOf 73 = .ok (.aload_n 0, 1) := dk_42 (dk_at dksX5_partOf_3 3 rfl rfl)
theorem dX5_partOf_74 : decode cX5_partOf 74 = .ok (.getfield 24, 3) := dk_180 0 24 (dk_at dksX5_partOf_3 4 rfl rfl)
theorem dX5_partOf_77 : decode cX5_partOf 77 = .ok (.sipush 2964, 3) := dk_17 11 148 (dk_at dksX5_partOf_3 7 rfl rfl)
theorem dX5_partOf_80 : decode cX5_partOf 80 = .ok (.aload_n 0, 1) := dk_42 (dk_at dksX5_partOf_3 10 rfl rfl)
theorem dX5_partOf_81 : decode cX5_partOf 81 = .ok (.getfield 280, 3) := dk_180 1 24 (dk_at dksX5_partOf_3 11 rfl rfl)
theorem dX5_partOf_84 : decode cX5_partOf 84 = .ok (.iadd, 1) := dk_96 (dk_at dksX5_partOf_3 14 rfl rfl)
theorem dX5_partOf_85 : decode cX5_partOf 85 = .ok (.iaload, 1) := dk_46 (dk_at dksX5_partOf_3 15 rfl rfl)
theorem dX5_partOf_86 : decode cX5_partOf 86 = .ok (.istore_n 3, 1) := dk_62 (dk_at dksX5_partOf_3 16 rfl rfl)
theorem dX5_partOf_87 : decode cX5_partOf 87 = .ok (.aload_n 0, 1) := dk_42 (dk_at dksX5_partOf_3 17 rfl rfl)
theorem dX5_partOf_88 : decode cX5_partOf 88 = .ok (.dup, 1) := dk_89 (dk_at dksX5_partOf_3 18 rfl rfl)
theorem dX5_partOf_89 : decode cX5_partOf 89 = .ok (.getfield 280, 3) := dk_180 1 24 (dk_at dksX5_partOf_3 19 rfl rfl)
theorem dX5_partOf_92 : decode cX5_partOf 92 = .ok (.iconst 1, 1) := dk_4 (dk_at dksX5_partOf_3 22 rfl rfl)
theorem dX5_partOf_93 : decode cX5_partOf 93 = .ok (.iadd, 1) := dk_96 (dk_at dksX5_partOf_3 23 rfl rfl)
theorem dX5_partOf_94 : decode cX5_partOf 94 = .ok (.putfield 280, 3) := dk_181 1 24 (dk_at dksX5_partOf_4 0 rfl rfl)
theorem dX5_partOf_97 : decode cX5_partOf 97 = .ok (.aload_n 0, 1) := dk_42 (dk_at dksX5_partOf_4 3 rfl rfl)
theorem dX5_partOf_98 : decode cX5_partOf 98 = .ok (.getfield 310, 3) := dk_180 1 54 (dk_at dksX5_partOf_4 4 rfl rfl)
theorem dX5_partOf_101 : decode cX5_partOf 101 = .ok (.ifCond .eq 34, 3) := dk_153 0 34 (dk_at dksX5_partOf_4 7 rfl rfl)
theorem dX5_partOf_104 : decode cX5_partOf 104 = .ok (.iload_n 2, 1) := dk_28 (dk_at dksX5_partOf_4 10 rfl rfl)
theorem dX5_partOf_105 : decode cX5_partOf 105 = .ok (.bipush 23, 2) := dk_16 23 (dk_at dksX5_partOf_4 11 rfl rfl)
theorem dX5_partOf_107 : decode cX5_partOf 107 = .ok (.if_icmp .ne 28, 3) := dk_160 0 28 (dk_at dksX5_partOf_4 13 rfl rfl)
theorem dX5_partOf_110 : decode cX5_partOf 110 = .ok (.aload_n 0, 1) := dk_42 (dk_at dksX5_partOf_4 16 rfl rfl)
theorem dX5_partOf_111 : decode cX5_partOf 111 = .ok (.getfield 24, 3) := dk_180 0 24 (dk_at dksX5_partOf_4 17 rfl rfl)
theorem dX5_partOf_114 : decode cX5_partOf 114 = .ok (.sipush 2964, 3) := dk_17 11 148 (dk_at dksX5_partOf_4 20 rfl rfl)
theorem dX5_partOf_117 : decode cX5_partOf 117 = .ok (.aload_n 0, 1) := dk_42 (dk_at dksX5_partOf_4 23 rfl rfl)
theorem dX5_partOf_118 : decode cX5_partOf 118 = .ok (.getfield 280, 3) := dk_180 1 24 (dk_at dksX5_partOf_5 0 rfl rfl)
theorem dX5_partOf_121 : decode cX5_partOf 121 = .ok (.iadd, 1) := dk_96 (dk_at dksX5_partOf_5 3 rfl rfl)
theorem dX5_partOf_122 : decode cX5_partOf 122 = .ok (.iaload, 1) := dk_46 (dk_at dksX5_partOf_5 4 rfl rfl)
theorem dX5_partOf_123 : decode cX5_partOf 123 = .ok (.istore 4, 2) := dk_54 4 (dk_at dksX5_partOf_5 5 rfl rfl)
theorem dX5_partOf_125 : decode cX5_partOf 125 = .ok (.aload_n 0, 1) := dk_42 (dk_at dksX5_partOf_5 7 rfl rfl)
theorem dX5_partOf_126 : decode cX5_partOf 126 = .ok (.dup, 1) := dk_89 (dk_at dksX5_partOf_5 8 rfl rfl)
theorem dX5_partOf_127 : decode cX5_partOf 127 = .ok (.getfield 280, 3) := dk_180 1 24 (dk_at dksX5_partOf_5 9 rfl rfl)
theorem dX5_partOf_130 : decode cX5_partOf 130 = .ok (.iconst 1, 1) := dk_4 (dk_at dksX5_partOf_5 12 rfl rfl)
theorem dX5_partOf_131 : decode cX5_partOf 131 = .ok (.iadd, 1) := dk_96 (dk_at dksX5_partOf_5 13 rfl rfl)
theorem dX5_partOf_132 : decode cX5_partOf 132 = .ok (.putfield 280, 3) := dk_181 1 24 (dk_at dksX5_partOf_5 14 rfl rfl)
theorem dX5_partOf_135 : decode cX5_partOf 135 = .ok (.iload_n 1, 1) := dk_27 (dk_at dksX5_partOf_5 17 rfl rfl)
theorem dX5_partOf_136 : decode cX5_partOf 136 = .ok (.ifCond .eq 10, 3) := dk_153 0 10 (dk_at dksX5_partOf_5 18 rfl rfl)
theorem dX5_partOf_139 : decode cX5_partOf 139 = .ok (.aload_n 0, 1) := dk_42 (dk_at dksX5_partOf_5 21 rfl rfl)
theorem dX5_partOf_140 : decode cX5_partOf 140 = .ok (.getfield 290, 3) := dk_180 1 34 (dk_at dksX5_partOf_6 0 rfl rfl)
theorem dX5_partOf_143 : decode cX5_partOf 143 = .ok (.ifCond .eq 5, 3) := dk_153 0 5 (dk_at dksX5_partOf_6 3 rfl rfl)
theorem dX5_partOf_146 : decode cX5_partOf 146 = .ok (.lconst 0, 1) := dk_9 (dk_at dksX5_partOf_6 6 rfl rfl)
theorem dX5_partOf_147 : decode cX5_partOf 147 = .ok (.lreturn, 1) := dk_173 (dk_at dksX5_partOf_6 7 rfl rfl)
theorem dX5_partOf_148 : decode cX5_partOf 148 = .ok (.iload_n 2, 1) := dk_28 (dk_at dksX5_partOf_6 8 rfl rfl)
theorem dX5_partOf_149 : decode cX5_partOf 149 = .ok (.bipush 50, 2) := dk_16 50 (dk_at dksX5_partOf_6 9 rfl rfl)
theorem dX5_partOf_151 : decode cX5_partOf 151 = .ok (.if_icmp .ne 20, 3) := dk_160 0 20 (dk_at dksX5_partOf_6 11 rfl rfl)
theorem dX5_partOf_154 : decode cX5_partOf 154 = .ok (.aload_n 0, 1) := dk_42 (dk_at dksX5_partOf_6 14 rfl rfl)
theorem dX5_partOf_155 : decode cX5_partOf 155 = .ok (.getfield 24, 3) := dk_180 0 24 (dk_at dksX5_partOf_6 15 rfl rfl)
theorem dX5_partOf_158 : decode cX5_partOf 158 = .ok (.sipush 2964, 3) := dk_17 11 148 (dk_at dksX5_partOf_6 18 rfl rfl)
theorem dX5_partOf_161 : decode cX5_partOf 161 = .ok (.aload_n 0, 1) := dk_42 (dk_at dksX5_partOf_6 21 rfl rfl)
theorem dX5_partOf_162 : decode cX5_partOf 162 = .ok (.getfield 280, 3) := dk_180 1 24 (dk_at dksX5_partOf_7 0 rfl rfl)
theorem dX5_partOf_165 : decode cX5_partOf 165 = .ok (.iadd, 1) := dk_96 (dk_at dksX5_partOf_7 3 rfl rfl)
theorem dX5_partOf_166 : decode cX5_partOf 166 = .ok (.iconst 1, 1) := dk_4 (dk_at dksX5_partOf_7 4 rfl rfl)
theorem dX5_partOf_167 : decode cX5_partOf 167 = .ok (.isub, 1) := dk_100 (dk_at dksX5_partOf_7 5 rfl rfl)
theorem dX5_partOf_168 : decode cX5_partOf 168 = .ok (.iaload, 1) := dk_46 (dk_at dksX5_partOf_7 6 rfl rfl)
theorem dX5_partOf_169 : decode cX5_partOf 169 = .ok (.i2l, 1) := dk_133 (dk_at dksX5_partOf_7 7 rfl rfl)
theorem dX5_partOf_170 : decode cX5_partOf 170 = .ok (.lreturn, 1) := dk_173 (dk_at dksX5_partOf_7 8 rfl rfl)
theorem dX5_partOf_171 : decode cX5_partOf 171 = .ok (.aload_n 0, 1) := dk_42 (dk_at dksX5_partOf_7 9 rfl rfl)
theorem dX5_partOf_172 : decode cX5_partOf 172 = .ok (.getfield 310, 3) := dk_180 1 54 (dk_at dksX5_partOf_7 10 rfl rfl)
theorem dX5_partOf_175 : decode cX5_partOf 175 = .ok (.ifCond .ne 14, 3) := dk_154 0 14 (dk_at dksX5_partOf_7 13 rfl rfl)
theorem dX5_partOf_178 : decode cX5_partOf 178 = .ok (.aload_n 0, 1) := dk_42 (dk_at dksX5_partOf_7 16 rfl rfl)
theorem dX5_partOf_179 : decode cX5_partOf 179 = .ok (.getfield 59, 3) := dk_180 0 59 (dk_at dksX5_partOf_7 17 rfl rfl)
theorem dX5_partOf_182 : decode cX5_partOf 182 = .ok (.iload_n 2, 1) := dk_28 (dk_at dksX5_partOf_7 20 rfl rfl)
theorem dX5_partOf_183 : decode cX5_partOf 183 = .ok (.bipush 9, 2) := dk_16 9 (dk_at dksX5_partOf_7 21 rfl rfl)
theorem dX5_partOf_185 : decode cX5_partOf 185 = .ok (.isub, 1) := dk_100 (dk_at dksX5_partOf_7 23 rfl rfl)
theorem dX5_partOf_186 : decode cX5_partOf 186 = .ok (.iaload, 1) := dk_46 (dk_at dksX5_partOf_8 0 rfl rfl)
theorem dX5_partOf_187 : decode cX5_partOf 187 = .ok (.i2l, 1) := dk_133 (dk_at dksX5_partOf_8 1 rfl rfl)
theorem dX5_partOf_188 : decode cX5_partOf 188 = .ok (.lreturn, 1) := dk_173 (dk_at dksX5_partOf_8 2 rfl rfl)
theorem dX5_partOf_189 : decode cX5_partOf 189 = .ok (.iload_n 2, 1) := dk_28 (dk_at dksX5_partOf_8 3 rfl rfl)
theorem dX5_partOf_190 : decode cX5_partOf 190 = .ok (.bipush 22, 2) := dk_16 22 (dk_at dksX5_partOf_8 4 rfl rfl)
theorem dX5_partOf_192 : decode cX5_partOf 192 = .ok (.if_icmp .ne 27, 3) := dk_160 0 27 (dk_at dksX5_partOf_8 6 rfl rfl)
theorem dX5_partOf_195 : decode cX5_partOf 195 = .ok (.aload_n 0, 1) := dk_42 (dk_at dksX5_partOf_8 9 rfl rfl)
theorem dX5_partOf_196 : decode cX5_partOf 196 = .ok (.iload_n 3, 1) := dk_29 (dk_at dksX5_partOf_8 10 rfl rfl)
theorem dX5_partOf_197 : decode cX5_partOf 197 = .ok (.invokevirtual 152, 3) := dk_182 0 152 (dk_at dksX5_partOf_8 11 rfl rfl)
theorem dX5_partOf_200 : decode cX5_partOf 200 = .ok (.ifCond .eq 15, 3) := dk_153 0 15 (dk_at dksX5_partOf_8 14 rfl rfl)
theorem dX5_partOf_203 : decode cX5_partOf 203 = .ok (.aload_n 0, 1) := dk_42 (dk_at dksX5_partOf_8 17 rfl rfl)
theorem dX5_partOf_204 : decode cX5_partOf 204 = .ok (.getfield 24, 3) := dk_180 0 24 (dk_at dksX5_partOf_8 18 rfl rfl)
theorem dX5_partOf_207 : decode cX5_partOf 207 = .ok (.iconst 0, 1) := dk_3 (dk_at dksX5_partOf_8 21 rfl rfl)
theorem dX5_partOf_208 : decode cX5_partOf 208 = .ok (.iload_n 3, 1) := dk_29 (dk_at dksX5_partOf_8 22 rfl rfl)
theorem dX5_partOf_209 : decode cX5_partOf 209 = .ok (.iadd, 1) := dk_96 (dk_at dksX5_partOf_8 23 rfl rfl)
theorem dX5_partOf_210 : decode cX5_partOf 210 = .ok (.iaload, 1) := dk_46 (dk_at dksX5_partOf_9 0 rfl rfl)
theorem dX5_partOf_211 : decode cX5_partOf 211 = .ok (.i2l, 1) := dk_133 (dk_at dksX5_partOf_9 1 rfl rfl)
theorem dX5_partOf_212 : decode cX5_partOf 212 = .ok (.goto 6, 3) := dk_167 0 6 (dk_at dksX5_partOf_9 2 rfl rfl)
theorem dX5_partOf_215 : decode cX5_partOf 215 = .ok (.ldc2_w 313, 3) := dk_20 1 57 (dk_at dksX5_partOf_9 5 rfl rfl)
theorem dX5_partOf_218 : decode cX5_partOf 218 = .ok (.lreturn, 1) := dk_173 (dk_at dksX5_partOf_9 8 rfl rfl)
theorem dX5_partOf_219 : decode cX5_partOf 219 = .ok (.iload_n 2, 1) := dk_28 (dk_at dksX5_partOf_9 9 rfl rfl)
theorem dX5_partOf_220 : decode cX5_partOf 220 = .ok (.bipush 23, 2) := dk_16 23 (dk_at dksX5_partOf_9 10 rfl rfl)
theorem dX5_partOf_222 : decode cX5_partOf 222 = .ok (.if_icmp .ne 12, 3) := dk_160 0 12 (dk_at dksX5_partOf_9 12 rfl rfl)
theorem dX5_partOf_225 : decode cX5_partOf 225 = .ok (.aload_n 0, 1) := dk_42 (dk_at dksX5_partOf_9 15 rfl rfl)
theorem dX5_partOf_226 : decode cX5_partOf 226 = .ok (.iload_n 3, 1) := dk_29 (dk_at dksX5_partOf_9 16 rfl rfl)
theorem dX5_partOf_227 : decode cX5_partOf 227 = .ok (.iload 4, 2) := dk_21 4 (dk_at dksX5_partOf_9 17 rfl rfl)
theorem dX5_partOf_229 : decode cX5_partOf 229 = .ok (.invokevirtual 178, 3) := dk_182 0 178 (dk_at dksX5_partOf_9 19 rfl rfl)
theorem dX5_partOf_232 : decode cX5_partOf 232 = .ok (.i2l, 1) := dk_133 (dk_at dksX5_partOf_9 22 rfl rfl)
theorem dX5_partOf_233 : decode cX5_partOf 233 = .ok (.lreturn, 1) := dk_173 (dk_at dksX5_partOf_9 23 rfl rfl)
theorem dX5_partOf_234 : decode cX5_partOf 234 = .ok (.aload_n 0, 1) := dk_42 (dk_at dksX5_partOf_10 0 rfl rfl)
theorem dX5_partOf_235 : decode cX5_partOf 235 = .ok (.getfield 62, 3) := dk_180 0 62 (dk_at dksX5_partOf_10 1 rfl rfl)
theorem dX5_partOf_238 : decode cX5_partOf 238 = .ok (.iload_n 2, 1) := dk_28 (dk_at dksX5_partOf_10 4 rfl rfl)
theorem dX5_partOf_239 : decode cX5_partOf 239 = .ok (.bipush 17, 2) := dk_16 17 (dk_at dksX5_partOf_10 5 rfl rfl)
theorem dX5_partOf_241 : decode cX5_partOf 241 = .ok (.if_icmp .ne 7, 3) := dk_160 0 7 (dk_at dksX5_partOf_10 7 rfl rfl)
theorem dX5_partOf_244 : decode cX5_partOf 244 = .ok (.iconst 0, 1) := dk_3 (dk_at dksX5_partOf_10 10 rfl rfl)
theorem dX5_partOf_245 : decode cX5_partOf 245 = .ok (.goto 9, 3) := dk_167 0 9 (dk_at dksX5_partOf_10 11 rfl rfl)
theorem dX5_partOf_248 : decode cX5_partOf 248 = .ok (.iload_n 2, 1) := dk_28 (dk_at dksX5_partOf_10 14 rfl rfl)
theorem dX5_partOf_249 : decode cX5_partOf 249 = .ok (.bipush 19, 2) := dk_16 19 (dk_at dksX5_partOf_10 15 rfl rfl)
theorem dX5_partOf_251 : decode cX5_partOf 251 = .ok (.isub, 1) := dk_100 (dk_at dksX5_partOf_10 17 rfl rfl)
theorem dX5_partOf_252 : decode cX5_partOf 252 = .ok (.iconst 1, 1) := dk_4 (dk_at dksX5_partOf_10 18 rfl rfl)
theorem dX5_partOf_253 : decode cX5_partOf 253 = .ok (.iadd, 1) := dk_96 (dk_at dksX5_partOf_10 19 rfl rfl)
theorem dX5_partOf_254 : decode cX5_partOf 254 = .ok (.iaload, 1) := dk_46 (dk_at dksX5_partOf_10 20 rfl rfl)
theorem dX5_partOf_255 : decode cX5_partOf 255 = .ok (.i2l, 1) := dk_133 (dk_at dksX5_partOf_10 21 rfl rfl)
theorem dX5_partOf_256 : decode cX5_partOf 256 = .ok (.lreturn, 1) := dk_173 (dk_at dksX5_partOf_10 22 rfl rfl)
def dkwX5_termOf_7 : List UInt8 := [167, 255, 97, 32, 173]
abbrev dktX5_termOf_7 : List UInt8 := dkwX5_termOf_7 ++ []
def dkwX5_termOf_6 : List UInt8 := [184, 0, 249, 160, 0, 10, 32, 22, 5, 109, 167, 0, 7, 32, 22, 5, 113, 27, 182, 1, 41, 65]
abbrev dktX5_termOf_6 : List UInt8 := dkwX5_termOf_6 ++ dktX5_termOf_7
def dkwX5_termOf_5 : List UInt8 := [55, 5, 42, 21, 4, 16, 42, 184, 0, 249, 160, 0, 10, 32, 22, 5, 105, 167, 0, 24, 21, 4, 16, 47]
abbrev dktX5_termOf_5 : List UInt8 := dkwX5_termOf_5 ++ dktX5_termOf_6
def dkwX5_termOf_4 : List UInt8 := [154, 0, 26, 42, 42, 180, 1, 34, 154, 0, 7, 27, 153, 0, 7, 4, 167, 0, 4, 3, 181, 1, 34, 10]
abbrev dktX5_termOf_4 : List UInt8 := dkwX5_termOf_4 ++ dktX5_termOf_5
def dkwX5_termOf_3 : List UInt8 := [181, 1, 24, 42, 27, 182, 1, 45, 55, 5, 21, 4, 16, 42, 184, 0, 249, 159, 0, 33, 22, 5, 9, 148]
abbrev dktX5_termOf_3 : List UInt8 := dkwX5_termOf_3 ++ dktX5_termOf_4
def dkwX5_termOf_2 : List UInt8 := [184, 0, 249, 160, 0, 117, 42, 42, 180, 1, 24, 182, 1, 27, 54, 4, 42, 89, 180, 1, 24, 4, 96]
abbrev dktX5_termOf_2 : List UInt8 := dkwX5_termOf_2 ++ dktX5_termOf_3
def dkwX5_termOf_1 : List UInt8 := [180, 1, 24, 182, 1, 27, 16, 47, 184, 0, 249, 159, 0, 19, 42, 42, 180, 1, 24, 182, 1, 27, 16, 37]
abbrev dktX5_termOf_1 : List UInt8 := dkwX5_termOf_1 ++ dktX5_termOf_2
def dkwX5_termOf_0 : List UInt8 := [42, 27, 182, 1, 45, 65, 42, 42, 180, 1, 24, 182, 1, 27, 16, 42, 184, 0, 249, 159, 0, 35, 42, 42]
abbrev dktX5_termOf_0 : List UInt8 := dkwX5_termOf_0 ++ dktX5_termOf_1
theorem dksX5_termOf_0 : cX5_termOf.data.toList.drop 0 = dktX5_termOf_0 := by decide +kernel
theorem dksX5_termOf_1 : cX5_termOf.data.toList.drop 24 = dktX5_termOf_1 := dk_seg dksX5_termOf_0 24 rfl rfl
theorem dksX5_termOf_2 : cX5_termOf.data.toList.drop 48 = dktX5_termOf_2 := dk_seg dksX5_termOf_1 24 rfl rfl
theorem dksX5_termOf_3 : cX5_termOf.data.toList.drop 71 = dktX5_termOf_3 := dk_seg dksX5_termOf_2 23 rfl rfl
theorem dksX5_termOf_4 : cX5_termOf.data.toList.drop 95 = dktX5_termOf_4 := dk_seg dksX5_termOf_3 24 rfl rfl
theorem dksX5_termOf_5 : cX5_termOf.data.toList.drop 119 = dktX5_termOf_5 := dk_seg dksX5_termOf_4 24 rfl rfl
theorem dksX5_termOf_6 : cX5_termOf.data.toList.drop 143 = dktX5_termOf_6 := dk_seg dksX5_termOf_5 24 rfl rfl
theorem dksX5_termOf_7 : cX5_termOf.data.toList.drop 165 = dktX5_termOf_7 := dk_seg dksX5_termOf_6 22 rfl rfl
theorem dX5_termOf_0 : decode cX5_termOf 0 = .ok (.aload_n 0, 1) := dk_42 (dk_at dksX5_termOf_0 0 rfl rfl)
theorem dX5_termOf_1 : decode cX5_termOf 1 = .ok (.iload_n 1, 1) := dk_27 (dk_at dksX5_termOf_0 1 rfl rfl)
theorem dX5_termOf_2 : decode cX5_termOf 2 = .ok (.invokevirtual 301, 3) := dk_182 1 45 (dk_at dksX5_termOf_0 2 rfl rfl)
theorem dX5_termOf_5 : decode cX5_termOf 5 = .ok (.lstore_n 2, 1) := dk_65 (dk_at dksX5_termOf_0 5 rfl rfl)
theorem dX5_termOf_6 : decode cX5_termOf 6 = .ok (.aload_n 0, 1) := dk_42 (dk_at dksX5_termOf_0 6 rfl rfl)
theorem dX5_termOf_7 : decode cX5_termOf 7 = .ok (.aload_n 0, 1) := dk_42 (dk_at dksX5_termOf_0 7 rfl rfl)
theorem dX5_termOf_8 : decode cX5_termOf 8 = .ok (.getfield 280, 3) := dk_180 1 24 (dk_at dksX5_termOf_0 8 rfl rfl)
theorem dX5_termOf_11 : decode cX5_termOf 11 = .ok (.invokevirtual 283, 3) := dk_182 1 27 (dk_at dksX5_termOf_0 11 rfl rfl)
theorem dX5_termOf_14 : decode cX5_termOf 14 = .ok (.bipush 42, 2) := dk_16 42 (dk_at dksX5_termOf_0 14 rfl rfl)
theorem dX5_termOf_16 : decode cX5_termOf 16 = .ok (.invokestatic 249, 3) := dk_184 0 249 (dk_at dksX5_termOf_0 16 rfl rfl)
theorem dX5_termOf_19 : decode cX5_termOf 19 = .ok (.if_icmp .eq 35, 3) := dk_159 0 35 (dk_at dksX5_termOf_0 19 rfl rfl)
theorem dX5_termOf_22 : decode cX5_termOf 22 = .ok (.aload_n 0, 1) := dk_42 (dk_at dksX5_termOf_0 22 rfl rfl)
theorem dX5_termOf_23 : decode cX5_termOf 23 = .ok (.aload_n 0, 1) := dk_42 (dk_at dksX5_termOf_0 23 rfl rfl)
theorem dX5_termOf_24 : decode cX5_termOf 24 = .ok (.getfield 280, 3) := dk_180 1 24 (dk_at dksX5_termOf_1 0 rfl rfl)
theorem dX5_termOf_27 : decode cX5_termOf 27 = .ok (.invokevirtual 283, 3) := dk_182 1 27 (dk_at dksX5_termOf_1 3 rfl rfl)
theorem dX5_termOf_30 : decode cX5_termOf 30 = .ok (.bipush 47, 2) := dk_16 47 (dk_at dksX5_termOf_1 6 rfl rfl)
theorem dX5_termOf_32 : decode cX5_termOf 32 = .ok (.invokestatic 249, 3) := dk_184 0 249 (dk_at dksX5_termOf_1 8 rfl rfl)
theorem dX5_termOf_35 : decode cX5_termOf 35 = .ok (.if_icmp .eq 19, 3) := dk_159 0 19 (dk_at dksX5_termOf_1 11 rfl rfl)
theorem dX5_termOf_38 : decode cX5_termOf 38 = .ok (.aload_n 0, 1) := dk_42 (dk_at dksX5_termOf_1 14 rfl rfl)
theorem dX5_termOf_39 : decode cX5_termOf 39 = .ok (.aload_n 0, 1) := dk_42 (dk_at dksX5_termOf_1 15 rfl rfl)
theorem dX5_termOf_40 : decode cX5_termOf 40 = .ok (.getfield 280, 3) := dk_180 1 24 (dk_at dksX5_termOf_1 16 rfl rfl)
theorem dX5_termOf_43 : decode cX5_termOf 43 = .ok (.invokevirtual 283, 3) := dk_182 1 27 (dk_at dksX5_termOf_1 19 rfl rfl)
theorem dX5_termOf_46 : decode cX5_termOf 46 = .ok (.bipush 37, 2) := dk_16 37 (dk_at dksX5_termOf_1 22 rfl rfl)
theorem dX5_termOf_48 : decode cX5_termOf 48 = .ok (.invokestatic 249, 3) := dk_184 0 249 (dk_at dksX5_termOf_2 0 rfl rfl)
theorem dX5_termOf_51 : decode cX5_termOf 51 = .ok (.if_icmp .ne 117, 3) := dk_160 0 117 (dk_at dksX5_termOf_2 3 rfl rfl)
theorem dX5_termOf_54 : decode cX5_termOf 54 = .ok (.aload_n 0, 1) := dk_42 (dk_at dksX5_termOf_2 6 rfl rfl)
theorem dX5_termOf_55 : decode cX5_termOf 55 = .ok (.aload_n 0, 1) := dk_42 (dk_at dksX5_termOf_2 7 rfl rfl)
theorem dX5_termOf_56 : decode cX5_termOf 56 = .ok (.getfield 280, 3) := dk_180 1 24 (dk_at dksX5_termOf_2 8 rfl rfl)
theorem dX5_termOf_59 : decode cX5_termOf 59 = .ok (.invokevirtual 283, 3) := dk_182 1 27 (dk_at dksX5_termOf_2 11 rfl rfl)
theorem dX5_termOf_62 : decode cX5_termOf 62 = .ok (.istore 4, 2) := dk_54 4 (dk_at dksX5_termOf_2 14 rfl rfl)
theorem dX5_termOf_64 : decode cX5_termOf 64 = .ok (.aload_n 0, 1) := dk_42 (dk_at dksX5_termOf_2 16 rfl rfl)
theorem dX5_termOf_65 : decode cX5_termOf 65 = .ok (.dup, 1) := dk_89 (dk_at dksX5_termOf_2 17 rfl rfl)
theorem dX5_termOf_66 : decode cX5_termOf 66 = .ok (.getfield 280, 3) := dk_180 1 24 (dk_at dksX5_termOf_2 18 rfl rfl)
theorem dX5_termOf_69 : decode cX5_termOf 69 = .ok (.iconst 1, 1) := dk_4 (dk_at dksX5_termOf_2 21 rfl rfl)
theorem dX5_termOf_70 : decode cX5_termOf 70 = .ok (.iadd, 1) := dk_96 (dk_at dksX5_termOf_2 22 rfl rfl)
theorem dX5_termOf_71 : decode cX5_termOf 71 = .ok (.putfield 280, 3) := dk_181 1 24 (dk_at dksX5_termOf_3 0 rfl rfl)
theorem dX5_termOf_74 : decode cX5_termOf 74 = .ok (.aload_n 0, 1) := dk_42 (dk_at dksX5_termOf_3 3 rfl rfl)
theorem dX5_termOf_75 : decode cX5_termOf 75 = .ok (.iload_n 1, 1) := dk_27 (dk_at dksX5_termOf_3 4 rfl rfl)
theorem dX5_termOf_76 : decode cX5_termOf 76 = .ok (.invokevirtual 301, 3) := dk_182 1 45 (dk_at dksX5_termOf_3 5 rfl rfl)
theorem dX5_termOf_79 : decode cX5_termOf 79 = .ok (.lstore 5, 2) := dk_55 5 (dk_at dksX5_termOf_3 8 rfl rfl)
theorem dX5_termOf_81 : decode cX5_termOf 81 = .ok (.iload 4, 2) := dk_21 4 (dk_at dksX5_termOf_3 10 rfl rfl)
theorem dX5_termOf_83 : decode cX5_termOf 83 = .ok (.bipush 42, 2) := dk_16 42 (dk_at dksX5_termOf_3 12 rfl rfl)
theorem dX5_termOf_85 : decode cX5_termOf 85 = .ok (.invokestatic 249, 3) := dk_184 0 249 (dk_at dksX5_termOf_3 14 rfl rfl)
theorem dX5_termOf_88 : decode cX5_termOf 88 = .ok (.if_icmp .eq 33, 3) := dk_159 0 33 (dk_at dksX5_termOf_3 17 rfl rfl)
theorem dX5_termOf_91 : decode cX5_termOf 91 = .ok (.lload 5, 2) := dk_22 5 (dk_at dksX5_termOf_3 20 rfl rfl)
theorem dX5_termOf_93 : decode cX5_termOf 93 = .ok (.lconst 0, 1) := dk_9 (dk_at dksX5_termOf_3 22 rfl rfl)
theorem dX5_termOf_94 : decode cX5_termOf 94 = .ok (.lcmp, 1) := dk_148 (dk_at dksX5_termOf_3 23 rfl rfl)
theorem dX5_termOf_95 : decode cX5_termOf 95 = .ok (.ifCond .ne 26, 3) := dk_154 0 26 (dk_at dksX5_termOf_4 0 rfl rfl)
theorem dX5_termOf_98 : decode cX5_termOf 98 = .ok (.aload_n 0, 1) := dk_42 (dk_at dksX5_termOf_4 3 rfl rfl)
theorem dX5_termOf_99 : decode cX5_termOf 99 = .ok (.aload_n 0, 1) := dk_42 (dk_at dksX5_termOf_4 4 rfl rfl)
theorem dX5_termOf_100 : decode cX5_termOf 100 = .ok (.getfield 290, 3) := dk_180 1 34 (dk_at dksX5_termOf_4 5 rfl rfl)
theorem dX5_termOf_103 : decode cX5_termOf 103 = .ok (.ifCond .ne 7, 3) := dk_154 0 7 (dk_at dksX5_termOf_4 8 rfl rfl)
theorem dX5_termOf_106 : decode cX5_termOf 106 = .ok (.iload_n 1, 1) := dk_27 (dk_at dksX5_termOf_4 11 rfl rfl)
theorem dX5_termOf_107 : decode cX5_termOf 107 = .ok (.ifCond .eq 7, 3) := dk_153 0 7 (dk_at dksX5_termOf_4 12 rfl rfl)
theorem dX5_termOf_110 : decode cX5_termOf 110 = .ok (.iconst 1, 1) := dk_4 (dk_at dksX5_termOf_4 15 rfl rfl)
theorem dX5_termOf_111 : decode cX5_termOf 111 = .ok (.goto 4, 3) := dk_167 0 4 (dk_at dksX5_termOf_4 16 rfl rfl)
theorem dX5_termOf_114 : decode cX5_termOf 114 = .ok (.iconst 0, 1) := dk_3 (dk_at dksX5_termOf_4 19 rfl rfl)
theorem dX5_termOf_115 : decode cX5_termOf 115 = .ok (.putfield 290, 3) := dk_181 1 34 (dk_at dksX5_termOf_4 20 rfl rfl)
theorem dX5_termOf_118 : decode cX5_termOf 118 = .ok (.lconst 1, 1) := dk_10 (dk_at dksX5_termOf_4 23 rfl rfl)
theorem dX5_termOf_119 : decode cX5_termOf 119 = .ok (.lstore 5, 2) := dk_55 5 (dk_at dksX5_termOf_5 0 rfl rfl)
theorem dX5_termOf_121 : decode cX5_termOf 121 = .ok (.aload_n 0, 1) := dk_42 (dk_at dksX5_termOf_5 2 rfl rfl)
theorem dX5_termOf_122 : decode cX5_termOf 122 = .ok (.iload 4, 2) := dk_21 4 (dk_at dksX5_termOf_5 3 rfl rfl)
theorem dX5_termOf_124 : decode cX5_termOf 124 = .ok (.bipush 42, 2) := dk_16 42 (dk_at dksX5_termOf_5 5 rfl rfl)
theorem dX5_termOf_126 : decode cX5_termOf 126 = .ok (.invokestatic 249, 3) := dk_184 0 249 (dk_at dksX5_termOf_5 7 rfl rfl)
theorem dX5_termOf_129 : decode cX5_termOf 129 = .ok (.if_icmp .ne 10, 3) := dk_160 0 10 (dk_at dksX5_termOf_5 10 rfl rfl)
theorem dX5_termOf_132 : decode cX5_termOf 132 = .ok (.lload_n 2, 1) := dk_32 (dk_at dksX5_termOf_5 13 rfl rfl)
theorem dX5_termOf_133 : decode cX5_termOf 133 = .ok (.lload 5, 2) := dk_22 5 (dk_at dksX5_termOf_5 14 rfl rfl)
theorem dX5_termOf_135 : decode cX5_termOf 135 = .ok (.lmul, 1) := dk_105 (dk_at dksX5_termOf_5 16 rfl rfl)
theorem dX5_termOf_136 : decode cX5_termOf 136 = .ok (.goto 24, 3) := dk_167 0 24 (dk_at dksX5_termOf_5 17 rfl rfl)
theorem dX5_termOf_139 : decode cX5_termOf 139 = .ok (.iload 4, 2) := dk_21 4 (dk_at dksX5_termOf_5 20 rfl rfl)
theorem dX5_termOf_141 : decode cX5_termOf 141 = .ok (.bipush 47, 2) := dk_16 47 (dk_at dksX5_termOf_5 22 rfl rfl)
theorem dX5_termOf_143 : decode cX5_termOf 143 = .ok (.invokestatic 249, 3) := dk_184 0 249 (dk_at dksX5_termOf_6 0 rfl rfl)
theorem dX5_termOf_146 : decode cX5_termOf 146 = .ok (.if_icmp .ne 10, 3) := dk_160 0 10 (dk_at dksX5_termOf_6 3 rfl rfl)
theorem dX5_termOf_149 : decode cX5_termOf 149 = .ok (.lload_n 2, 1) := dk_32 (dk_at dksX5_termOf_6 6 rfl rfl)
theorem dX5_termOf_150 : decode cX5_termOf 150 = .ok (.lload 5, 2) := dk_22 5 (dk_at dksX5_termOf_6 7 rfl rfl)
theorem dX5_termOf_152 : decode cX5_termOf 152 = .ok (.ldiv, 1) := dk_109 (dk_at dksX5_termOf_6 9 rfl rfl)
theorem dX5_termOf_153 : decode cX5_termOf 153 = .ok (.goto 7, 3) := dk_167 0 7 (dk_at dksX5_termOf_6 10 rfl rfl)
theorem dX5_termOf_156 : decode cX5_termOf 156 = .ok (.lload_n 2, 1) := dk_32 (dk_at dksX5_termOf_6 13 rfl rfl)
theorem dX5_termOf_157 : decode cX5_termOf 157 = .ok (.lload 5, 2) := dk_22 5 (dk_at dksX5_termOf_6 14 rfl rfl)
theorem dX5_termOf_159 : decode cX5_termOf 159 = .ok (.lrem, 1) := dk_113 (dk_at dksX5_termOf_6 16 rfl rfl)
theorem dX5_termOf_160 : decode cX5_termOf 160 = .ok (.iload_n 1, 1) := dk_27 (dk_at dksX5_termOf_6 17 rfl rfl)
theorem dX5_termOf_161 : decode cX5_termOf 161 = .ok (.invokevirtual 297, 3) := dk_182 1 41 (dk_at dksX5_termOf_6 18 rfl rfl)
theorem dX5_termOf_164 : decode cX5_termOf 164 = .ok (.lstore_n 2, 1) := dk_65 (dk_at dksX5_termOf_6 21 rfl rfl)
theorem dX5_termOf_165 : decode cX5_termOf 165 = .ok (.goto (-159), 3) := dk_167 255 97 (dk_at dksX5_termOf_7 0 rfl rfl)
theorem dX5_termOf_168 : decode cX5_termOf 168 = .ok (.lload_n 2, 1) := dk_32 (dk_at dksX5_termOf_7 3 rfl rfl)
theorem dX5_termOf_169 : decode cX5_termOf 169 = .ok (.lreturn, 1) := dk_173 (dk_at dksX5_termOf_7 4 rfl rfl)
def dkwX5_sumOf_4 : List UInt8 := [182, 1, 41, 65, 167, 255, 162, 32, 173]
abbrev dktX5_sumOf_4 : List UInt8 := dkwX5_sumOf_4 ++ []
def dkwX5_sumOf_3 : List UInt8 := [27, 182, 1, 37, 55, 5, 42, 21, 4, 153, 0, 10, 32, 22, 5, 97, 167, 0, 7, 32, 22, 5, 101, 27]
abbrev dktX5_sumOf_3 : List UInt8 := dkwX5_sumOf_3 ++ dktX5_sumOf_4
def dkwX5_sumOf_2 : List UInt8 := [184, 0, 249, 160, 0, 7, 4, 167, 0, 4, 3, 54, 4, 42, 89, 180, 1, 24, 4, 96, 181, 1, 24, 42]
abbrev dktX5_sumOf_2 : List UInt8 := dkwX5_sumOf_2 ++ dktX5_sumOf_3
def dkwX5_sumOf_1 : List UInt8 := [180, 1, 24, 182, 1, 27, 16, 45, 184, 0, 249, 160, 0, 68, 42, 42, 180, 1, 24, 182, 1, 27, 16, 43]
abbrev dktX5_sumOf_1 : List UInt8 := dkwX5_sumOf_1 ++ dktX5_sumOf_2
def dkwX5_sumOf_0 : List UInt8 := [42, 27, 182, 1, 37, 65, 42, 42, 180, 1, 24, 182, 1, 27, 16, 43, 184, 0, 249, 159, 0, 19, 42, 42]
abbrev dktX5_sumOf_0 : List UInt8 := dkwX5_sumOf_0 ++ dktX5_sumOf_1
theorem dksX5_sumOf_0 : cX5_sumOf.data.toList.drop 0 = dktX5_sumOf_0 := by decide +kernel
theorem dksX5_sumOf_1 : cX5_sumOf.data.toList.drop 24 = dktX5_sumOf_1 := dk_seg dksX5_sumOf_0 24 rfl rfl
theorem dksX5_sumOf_2 : cX5_sumOf.data.toList.drop 48 = dktX5_sumOf_2 := dk_seg dksX5_sumOf_1 24 rfl rfl
theorem dksX5_sumOf_3 : cX5_sumOf.data.toList.drop 72 = dktX5_sumOf_3 := dk_seg dksX5_sumOf_2 24 rfl rfl
theorem dksX5_sumOf_4 : cX5_sumOf.data.toList.drop 96 = dktX5_sumOf_4 := dk_seg dksX5_sumOf_3 24 rfl rfl
theorem dX5_sumOf_0 : decode cX5_sumOf 0 = .ok (.aload_n 0, 1) := dk_42 (dk_at dksX5_sumOf_0 0 rfl rfl)
theorem dX5_sumOf_1 : decode cX5_sumOf 1 = .ok (.iload_n 1, 1) := dk_27 (dk_at dksX5_sumOf_0 1 rfl rfl)
theorem dX5_sumOf_2 : decode cX5_sumOf 2 = .ok (.invokevirtual 293, 3) := dk_182 1 37 (dk_at dksX5_sumOf_0 2 rfl rfl)
theorem dX5_sumOf_5 : decode cX5_sumOf 5 = .ok (.lstore_n 2, 1) := dk_65 (dk_at dksX5_sumOf_0 5 rfl rfl)
theorem dX5_sumOf_6 : decode cX5_sumOf 6 = .ok (.aload_n 0, 1) := dk_42 (dk_at dksX5_sumOf_0 6 rfl rfl)
theorem dX5_sumOf_7 : decode cX5_sumOf 7 = .ok (.aload_n 0, 1) := dk_42 (dk_at dksX5_sumOf_0 7 rfl rfl)
theorem dX5_sumOf_8 : decode cX5_sumOf 8 = .ok (.getfield 280, 3) := dk_180 1 24 (dk_at dksX5_sumOf_0 8 rfl rfl)
theorem dX5_sumOf_11 : decode cX5_sumOf 11 = .ok (.invokevirtual 283, 3) := dk_182 1 27 (dk_at dksX5_sumOf_0 11 rfl rfl)
theorem dX5_sumOf_14 : decode cX5_sumOf 14 = .ok (.bipush 43, 2) := dk_16 43 (dk_at dksX5_sumOf_0 14 rfl rfl)
theorem dX5_sumOf_16 : decode cX5_sumOf 16 = .ok (.invokestatic 249, 3) := dk_184 0 249 (dk_at dksX5_sumOf_0 16 rfl rfl)
theorem dX5_sumOf_19 : decode cX5_sumOf 19 = .ok (.if_icmp .eq 19, 3) := dk_159 0 19 (dk_at dksX5_sumOf_0 19 rfl rfl)
theorem dX5_sumOf_22 : decode cX5_sumOf 22 = .ok (.aload_n 0, 1) := dk_42 (dk_at dksX5_sumOf_0 22 rfl rfl)
theorem dX5_sumOf_23 : decode cX5_sumOf 23 = .ok (.aload_n 0, 1) := dk_42 (dk_at dksX5_sumOf_0 23 rfl rfl)
theorem dX5_sumOf_24 : decode cX5_sumOf 24 = .ok (.getfield 280, 3) := dk_180 1 24 (dk_at dksX5_sumOf_1 0 rfl rfl)
theorem dX5_sumOf_27 : decode cX5_sumOf 27 = .ok (.invokevirtual 283, 3) := dk_182 1 27 (dk_at dksX5_sumOf_1 3 rfl rfl)
theorem dX5_sumOf_30 : decode cX5_sumOf 30 = .ok (.bipush 45, 2) := dk_16 45 (dk_at dksX5_sumOf_1 6 rfl rfl)
theorem dX5_sumOf_32 : decode cX5_sumOf 32 = .ok (.invokestatic 249, 3) := dk_184 0 249 (dk_at dksX5_sumOf_1 8 rfl rfl)
theorem dX5_sumOf_35 : decode cX5_sumOf 35 = .ok (.if_icmp .ne 68, 3) := dk_160 0 68 (dk_at dksX5_sumOf_1 11 rfl rfl)
theorem dX5_sumOf_38 : decode cX5_sumOf 38 = .ok (.aload_n 0, 1) := dk_42 (dk_at dksX5_sumOf_1 14 rfl rfl)
theorem dX5_sumOf_39 : decode cX5_sumOf 39 = .ok (.aload_n 0, 1) := dk_42 (dk_at dksX5_sumOf_1 15 rfl rfl)
theorem dX5_sumOf_40 : decode cX5_sumOf 40 = .ok (.getfield 280, 3) := dk_180 1 24 (dk_at dksX5_sumOf_1 16 rfl rfl)
theorem dX5_sumOf_43 : decode cX5_sumOf 43 = .ok (.invokevirtual 283, 3) := dk_182 1 27 (dk_at dksX5_sumOf_1 19 rfl rfl)
theorem dX5_sumOf_46 : decode cX5_sumOf 46 = .ok (.bipush 43, 2) := dk_16 43 (dk_at dksX5_sumOf_1 22 rfl rfl)
theorem dX5_sumOf_48 : decode cX5_sumOf 48 = .ok (.invokestatic 249, 3) := dk_184 0 249 (dk_at dksX5_sumOf_2 0 rfl rfl)
theorem dX5_sumOf_51 : decode cX5_sumOf 51 = .ok (.if_icmp .ne 7, 3) := dk_160 0 7 (dk_at dksX5_sumOf_2 3 rfl rfl)
theorem dX5_sumOf_54 : decode cX5_sumOf 54 = .ok (.iconst 1, 1) := dk_4 (dk_at dksX5_sumOf_2 6 rfl rfl)
theorem dX5_sumOf_55 : decode cX5_sumOf 55 = .ok (.goto 4, 3) := dk_167 0 4 (dk_at dksX5_sumOf_2 7 rfl rfl)
theorem dX5_sumOf_58 : decode cX5_sumOf 58 = .ok (.iconst 0, 1) := dk_3 (dk_at dksX5_sumOf_2 10 rfl rfl)
theorem dX5_sumOf_59 : decode cX5_sumOf 59 = .ok (.istore 4, 2) := dk_54 4 (dk_at dksX5_sumOf_2 11 rfl rfl)
theorem dX5_sumOf_61 : decode cX5_sumOf 61 = .ok (.aload_n 0, 1) := dk_42 (dk_at dksX5_sumOf_2 13 rfl rfl)
theorem dX5_sumOf_62 : decode cX5_sumOf 62 = .ok (.dup, 1) := dk_89 (dk_at dksX5_sumOf_2 14 rfl rfl)
theorem dX5_sumOf_63 : decode cX5_sumOf 63 = .ok (.getfield 280, 3) := dk_180 1 24 (dk_at dksX5_sumOf_2 15 rfl rfl)
theorem dX5_sumOf_66 : decode cX5_sumOf 66 = .ok (.iconst 1, 1) := dk_4 (dk_at dksX5_sumOf_2 18 rfl rfl)
theorem dX5_sumOf_67 : decode cX5_sumOf 67 = .ok (.iadd, 1) := dk_96 (dk_at dksX5_sumOf_2 19 rfl rfl)
theorem dX5_sumOf_68 : decode cX5_sumOf 68 = .ok (.putfield 280, 3) := dk_181 1 24 (dk_at dksX5_sumOf_2 20 rfl rfl)
theorem dX5_sumOf_71 : decode cX5_sumOf 71 = .ok (.aload_n 0, 1) := dk_42 (dk_at dksX5_sumOf_2 23 rfl rfl)
theorem dX5_sumOf_72 : decode cX5_sumOf 72 = .ok (.iload_n 1, 1) := dk_27 (dk_at dksX5_sumOf_3 0 rfl rfl)
theorem dX5_sumOf_73 : decode cX5_sumOf 73 = .ok (.invokevirtual 293, 3) := dk_182 1 37 (dk_at dksX5_sumOf_3 1 rfl rfl)
theorem dX5_sumOf_76 : decode cX5_sumOf 76 = .ok (.lstore 5, 2) := dk_55 5 (dk_at dksX5_sumOf_3 4 rfl rfl)
theorem dX5_sumOf_78 : decode cX5_sumOf 78 = .ok (.aload_n 0, 1) := dk_42 (dk_at dksX5_sumOf_3 6 rfl rfl)
theorem dX5_sumOf_79 : decode cX5_sumOf 79 = .ok (.iload 4, 2) := dk_21 4 (dk_at dksX5_sumOf_3 7 rfl rfl)
theorem dX5_sumOf_81 : decode cX5_sumOf 81 = .ok (.ifCond .eq 10, 3) := dk_153 0 10 (dk_at dksX5_sumOf_3 9 rfl rfl)
theorem dX5_sumOf_84 : decode cX5_sumOf 84 = .ok (.lload_n 2, 1) := dk_32 (dk_at dksX5_sumOf_3 12 rfl rfl)
theorem dX5_sumOf_85 : decode cX5_sumOf 85 = .ok (.lload 5, 2) := dk_22 5 (dk_at dksX5_sumOf_3 13 rfl rfl)
theorem dX5_sumOf_87 : decode cX5_sumOf 87 = .ok (.ladd, 1) := dk_97 (dk_at dksX5_sumOf_3 15 rfl rfl)
theorem dX5_sumOf_88 : decode cX5_sumOf 88 = .ok (.goto 7, 3) := dk_167 0 7 (dk_at dksX5_sumOf_3 16 rfl rfl)
theorem dX5_sumOf_91 : decode cX5_sumOf 91 = .ok (.lload_n 2, 1) := dk_32 (dk_at dksX5_sumOf_3 19 rfl rfl)
theorem dX5_sumOf_92 : decode cX5_sumOf 92 = .ok (.lload 5, 2) := dk_22 5 (dk_at dksX5_sumOf_3 20 rfl rfl)
theorem dX5_sumOf_94 : decode cX5_sumOf 94 = .ok (.lsub, 1) := dk_101 (dk_at dksX5_sumOf_3 22 rfl rfl)
theorem dX5_sumOf_95 : decode cX5_sumOf 95 = .ok (.iload_n 1, 1) := dk_27 (dk_at dksX5_sumOf_3 23 rfl rfl)
theorem dX5_sumOf_96 : decode cX5_sumOf 96 = .ok (.invokevirtual 297, 3) := dk_182 1 41 (dk_at dksX5_sumOf_4 0 rfl rfl)
theorem dX5_sumOf_99 : decode cX5_sumOf 99 = .ok (.lstore_n 2, 1) := dk_65 (dk_at dksX5_sumOf_4 3 rfl rfl)
theorem dX5_sumOf_100 : decode cX5_sumOf 100 = .ok (.goto (-94), 3) := dk_167 255 162 (dk_at dksX5_sumOf_4 4 rfl rfl)
theorem dX5_sumOf_103 : decode cX5_sumOf 103 = .ok (.lload_n 2, 1) := dk_32 (dk_at dksX5_sumOf_4 7 rfl rfl)
theorem dX5_sumOf_104 : decode cX5_sumOf 104 = .ok (.lreturn, 1) := dk_173 (dk_at dksX5_sumOf_4 8 rfl rfl)
theorem ff_X5_310_5 : ax_FF RX5 310 5 23 (tyX5 23) 0 false := ⟨RX5, TX5, 61, tyX5, "DebtDoorsModel", kd5, in_X5, tyX5_ok, apX5, by decide, rfl, ⟨fun _ => rfl, fun h => absurd h (by decide)⟩, q1985, Or.inl rfl, fun h => absurd h (by decide)⟩
theorem cn_X5_313 : Jvm.Cond.constantLong RX5 313 (Int64.ofInt (-1)) ∈ lw_all := by rw [show Int64.ofInt (-1) = (-1 : Int64) by decide]; exact q2273
noncomputable def f_X5_partOf_146 (E : ax_E) (g0 : Option Nat → Int → ax_H → Option (Int × ax_H)) (g1 : Option Nat → Int → ax_H → Option (Int × ax_H)) (g2 : Option Nat → Int → ax_H → Option (Int × ax_H)) (h : ax_H) : Option (Int × ax_H) :=
  some (0, h)
noncomputable def f_X5_partOf_254 (E : ax_E) (g0 : Option Nat → Int → ax_H → Option (Int × ax_H)) (g1 : Option Nat → Int → ax_H → Option (Int × ax_H)) (g2 : Option Nat → Int → ax_H → Option (Int × ax_H)) (s0 : Option Nat) (s1 : Int) (h : ax_H) : Option (Int × ax_H) :=
  (ax_ld E h s0 100 s1).bind fun v1 =>
  some ((i2 v1), h)
noncomputable def f_X5_partOf_135 (E : ax_E) (g0 : Option Nat → Int → ax_H → Option (Int × ax_H)) (g1 : Option Nat → Int → ax_H → Option (Int × ax_H)) (g2 : Option Nat → Int → ax_H → Option (Int × ax_H)) (x0 : Option Nat) (x1 : Int) (x2 : Int) (x3 : Int) (x4 : Int) (h : ax_H) : Option (Int × ax_H) :=
  if i2 x1 = 0 then
    f_X5_partOf_146 E g0 g1 g2 h
  else
    (ax_gI E h x0 5 22).bind fun v1 =>
    if i2 v1 = 0 then
      if i2 x2 = i2 50 then
        (ax_gR E h x0 5 2).bind fun v2 =>
        (ax_gI E h x0 5 20).bind fun v3 =>
        (ax_ld E h v2 100 ((2964 + v3) - 1)).bind fun v4 =>
        some ((i2 v4), h)
      else
        (ax_gI E h x0 5 23).bind fun v5 =>
        if i2 v5 = 0 then
          (ax_gR E h x0 5 24).bind fun v6 =>
          (ax_ld E h v6 100 (x2 - 9)).bind fun v7 =>
          some ((i2 v7), h)
        else
          if i2 x2 = i2 22 then
            (ax_ce E h x0 5).bind fun _ => (f_X5_isPerson E x0 x3 h).bind fun q8 =>
            if i2 q8.1 = 0 then
              some ((-1), q8.2)
            else
              (ax_gR E q8.2 x0 5 2).bind fun v9 =>
              (ax_ld E q8.2 v9 100 (0 + x3)).bind fun v10 =>
              some ((i2 v10), q8.2)
          else
            if i2 x2 = i2 23 then
              (ax_ce E h x0 5).bind fun _ => (f_X5_owed E x0 x3 x4 h).bind fun q11 =>
              some ((i2 q11.1), q11.2)
            else
              (ax_gR E h x0 5 25).bind fun v12 =>
              if i2 x2 = i2 17 then
                f_X5_partOf_254 E g0 g1 g2 v12 0 h
              else
                f_X5_partOf_254 E g0 g1 g2 v12 ((x2 - 19) + 1) h
    else
      f_X5_partOf_146 E g0 g1 g2 h
noncomputable def f_X5_partOf_97 (E : ax_E) (g0 : Option Nat → Int → ax_H → Option (Int × ax_H)) (g1 : Option Nat → Int → ax_H → Option (Int × ax_H)) (g2 : Option Nat → Int → ax_H → Option (Int × ax_H)) (x0 : Option Nat) (x1 : Int) (x2 : Int) (x3 : Int) (x4 : Int) (h : ax_H) : Option (Int × ax_H) :=
  (ax_gI E h x0 5 23).bind fun v1 =>
  if i2 v1 = 0 then
    f_X5_partOf_135 E g0 g1 g2 x0 x1 x2 x3 x4 h
  else
    if i2 x2 = i2 23 then
      (ax_gR E h x0 5 2).bind fun v2 =>
      (ax_gI E h x0 5 20).bind fun v3 =>
      (ax_ld E h v2 100 (2964 + v3)).bind fun v4 =>
      (ax_gI E h x0 5 20).bind fun v5 =>
      (ax_pI h x0 5 20 (v5 + 1)).bind fun h6 =>
      f_X5_partOf_135 E g0 g1 g2 x0 x1 x2 x3 v4 h6
    else
      f_X5_partOf_135 E g0 g1 g2 x0 x1 x2 x3 x4 h
noncomputable def f_X5_partOf_73 (E : ax_E) (g0 : Option Nat → Int → ax_H → Option (Int × ax_H)) (g1 : Option Nat → Int → ax_H → Option (Int × ax_H)) (g2 : Option Nat → Int → ax_H → Option (Int × ax_H)) (x0 : Option Nat) (x1 : Int) (x2 : Int) (x4 : Int) (h : ax_H) : Option (Int × ax_H) :=
  (ax_gR E h x0 5 2).bind fun v1 =>
  (ax_gI E h x0 5 20).bind fun v2 =>
  (ax_ld E h v1 100 (2964 + v2)).bind fun v3 =>
  (ax_gI E h x0 5 20).bind fun v4 =>
  (ax_pI h x0 5 20 (v4 + 1)).bind fun h5 =>
  f_X5_partOf_97 E g0 g1 g2 x0 x1 x2 v3 x4 h5
noncomputable def f_X5_partOf (E : ax_E) (g0 : Option Nat → Int → ax_H → Option (Int × ax_H)) (g1 : Option Nat → Int → ax_H → Option (Int × ax_H)) (g2 : Option Nat → Int → ax_H → Option (Int × ax_H)) (x0 : Option Nat) (x1 : Int) (h : ax_H) : Option (Int × ax_H) :=
  (f_X5_sign E 91 h).bind fun q1 =>
  (ax_ce E q1.2 x0 5).bind fun _ => (f_X5_passes0 E x0 q1.1 q1.2).bind fun q2 =>
  if i2 q2.1 = 0 then
    (ax_gI E q2.2 x0 5 20).bind fun v3 =>
    (ax_ce E q2.2 x0 5).bind fun _ => (f_X5_codeAt E x0 v3 q2.2).bind fun q4 =>
    (ax_gI E q4.2 x0 5 20).bind fun v5 =>
    (ax_pI q4.2 x0 5 20 (v5 + 1)).bind fun h6 =>
    (ax_gI E h6 x0 5 23).bind fun v7 =>
    if i2 v7 = 0 then
      f_X5_partOf_97 E g0 g1 g2 x0 x1 q4.1 0 0 h6
    else
      if i2 q4.1 = i2 22 then
        f_X5_partOf_73 E g0 g1 g2 x0 x1 q4.1 0 h6
      else
        if i2 q4.1 = i2 23 then
          f_X5_partOf_73 E g0 g1 g2 x0 x1 q4.1 0 h6
        else
          f_X5_partOf_97 E g0 g1 g2 x0 x1 q4.1 0 0 h6
  else
    (ax_ce E q2.2 x0 5).bind fun _ => (g2 x0 x1 q2.2).bind fun q8 =>
    (ax_gI E q8.2 x0 5 20).bind fun v9 =>
    (ax_pI q8.2 x0 5 20 (v9 + 1)).bind fun h10 =>
    some (q8.1, h10)
noncomputable def f_X5_termOf_160 (E : ax_E) (g0 : Option Nat → Int → ax_H → Option (Int × ax_H)) (g1 : Option Nat → Int → ax_H → Option (Int × ax_H)) (g2 : Option Nat → Int → ax_H → Option (Int × ax_H)) (x0 : Option Nat) (x1 : Int) (s0 : Option Nat) (s1 : Int) (h : ax_H) : Option ((Int × ax_H) ⊕ (Int × ax_H)) :=
  (ax_ce E h s0 5).bind fun _ => (f_X5_bounded E s0 s1 x1 h).bind fun q1 =>
  some (.inl (q1.1, q1.2))
noncomputable def f_X5_termOf_121 (E : ax_E) (g0 : Option Nat → Int → ax_H → Option (Int × ax_H)) (g1 : Option Nat → Int → ax_H → Option (Int × ax_H)) (g2 : Option Nat → Int → ax_H → Option (Int × ax_H)) (x0 : Option Nat) (x1 : Int) (x2 : Int) (x4 : Int) (x5 : Int) (h : ax_H) : Option ((Int × ax_H) ⊕ (Int × ax_H)) :=
  (f_X5_sign E 42 h).bind fun q1 =>
  if i2 x4 = i2 q1.1 then
    f_X5_termOf_160 E g0 g1 g2 x0 x1 x0 (x2 * x5) q1.2
  else
    (f_X5_sign E 47 q1.2).bind fun q2 =>
    if i2 x4 = i2 q2.1 then
      if l2 x5 = 0 then none else
      f_X5_termOf_160 E g0 g1 g2 x0 x1 x0 ((l2 x2).tdiv (l2 x5)) q2.2
    else
      if l2 x5 = 0 then none else
      f_X5_termOf_160 E g0 g1 g2 x0 x1 x0 ((l2 x2).tmod (l2 x5)) q2.2
noncomputable def f_X5_termOf_115 (E : ax_E) (g0 : Option Nat → Int → ax_H → Option (Int × ax_H)) (g1 : Option Nat → Int → ax_H → Option (Int × ax_H)) (g2 : Option Nat → Int → ax_H → Option (Int × ax_H)) (x0 : Option Nat) (x1 : Int) (x2 : Int) (x4 : Int) (s0 : Option Nat) (s1 : Int) (h : ax_H) : Option ((Int × ax_H) ⊕ (Int × ax_H)) :=
  if s1 = 0 ∨ s1 = 1 then (ax_pI h s0 5 22 s1).bind fun h1 =>
    f_X5_termOf_121 E g0 g1 g2 x0 x1 x2 x4 1 h1
  else none
noncomputable def f_X5_termOf_110 (E : ax_E) (g0 : Option Nat → Int → ax_H → Option (Int × ax_H)) (g1 : Option Nat → Int → ax_H → Option (Int × ax_H)) (g2 : Option Nat → Int → ax_H → Option (Int × ax_H)) (x0 : Option Nat) (x1 : Int) (x2 : Int) (x4 : Int) (s0 : Option Nat) (h : ax_H) : Option ((Int × ax_H) ⊕ (Int × ax_H)) :=
  f_X5_termOf_115 E g0 g1 g2 x0 x1 x2 x4 s0 1 h
noncomputable def f_X5_termOf_54 (E : ax_E) (g0 : Option Nat → Int → ax_H → Option (Int × ax_H)) (g1 : Option Nat → Int → ax_H → Option (Int × ax_H)) (g2 : Option Nat → Int → ax_H → Option (Int × ax_H)) (x0 : Option Nat) (x1 : Int) (x2 : Int) (h : ax_H) : Option ((Int × ax_H) ⊕ (Int × ax_H)) :=
  (ax_gI E h x0 5 20).bind fun v1 =>
  (ax_ce E h x0 5).bind fun _ => (f_X5_codeAt E x0 v1 h).bind fun q2 =>
  (ax_gI E q2.2 x0 5 20).bind fun v3 =>
  (ax_pI q2.2 x0 5 20 (v3 + 1)).bind fun h4 =>
  (ax_ce E h4 x0 5).bind fun _ => (g0 x0 x1 h4).bind fun q5 =>
  (f_X5_sign E 42 q5.2).bind fun q6 =>
  if i2 q2.1 = i2 q6.1 then
    f_X5_termOf_121 E g0 g1 g2 x0 x1 x2 q2.1 q5.1 q6.2
  else
    if i2 (ax_cmp q5.1 0) = 0 then
      (ax_gI E q6.2 x0 5 22).bind fun v7 =>
      if i2 v7 = 0 then
        if i2 x1 = 0 then
          f_X5_termOf_115 E g0 g1 g2 x0 x1 x2 q2.1 x0 0 q6.2
        else
          f_X5_termOf_110 E g0 g1 g2 x0 x1 x2 q2.1 x0 q6.2
      else
        f_X5_termOf_110 E g0 g1 g2 x0 x1 x2 q2.1 x0 q6.2
    else
      f_X5_termOf_121 E g0 g1 g2 x0 x1 x2 q2.1 q5.1 q6.2
noncomputable def lb_X5_termOf_6 (E : ax_E) (g0 : Option Nat → Int → ax_H → Option (Int × ax_H)) (g1 : Option Nat → Int → ax_H → Option (Int × ax_H)) (g2 : Option Nat → Int → ax_H → Option (Int × ax_H)) (x0 : Option Nat) (x1 : Int) (x2 : Int) (h : ax_H) : Option ((Int × ax_H) ⊕ (Int × ax_H)) :=
  (ax_gI E h x0 5 20).bind fun v1 =>
  (ax_ce E h x0 5).bind fun _ => (f_X5_codeAt E x0 v1 h).bind fun q2 =>
  (f_X5_sign E 42 q2.2).bind fun q3 =>
  if i2 q2.1 = i2 q3.1 then
    f_X5_termOf_54 E g0 g1 g2 x0 x1 x2 q3.2
  else
    (ax_gI E q3.2 x0 5 20).bind fun v4 =>
    (ax_ce E q3.2 x0 5).bind fun _ => (f_X5_codeAt E x0 v4 q3.2).bind fun q5 =>
    (f_X5_sign E 47 q5.2).bind fun q6 =>
    if i2 q5.1 = i2 q6.1 then
      f_X5_termOf_54 E g0 g1 g2 x0 x1 x2 q6.2
    else
      (ax_gI E q6.2 x0 5 20).bind fun v7 =>
      (ax_ce E q6.2 x0 5).bind fun _ => (f_X5_codeAt E x0 v7 q6.2).bind fun q8 =>
      (f_X5_sign E 37 q8.2).bind fun q9 =>
      if i2 q8.1 = i2 q9.1 then
        f_X5_termOf_54 E g0 g1 g2 x0 x1 x2 q9.2
      else
        (some (x2, q9.2)).map Sum.inr
noncomputable def f_X5_termOf_6 (E : ax_E) (g0 : Option Nat → Int → ax_H → Option (Int × ax_H)) (g1 : Option Nat → Int → ax_H → Option (Int × ax_H)) (g2 : Option Nat → Int → ax_H → Option (Int × ax_H)) (x0 : Option Nat) (x1 : Int) (x2 : Int) (h : ax_H) : Option (Int × ax_H) :=
  ax_iter (fun s : Int × ax_H => lb_X5_termOf_6 E g0 g1 g2 x0 x1 s.1 s.2) (x2, h)
noncomputable def f_X5_termOf (E : ax_E) (g0 : Option Nat → Int → ax_H → Option (Int × ax_H)) (g1 : Option Nat → Int → ax_H → Option (Int × ax_H)) (g2 : Option Nat → Int → ax_H → Option (Int × ax_H)) (x0 : Option Nat) (x1 : Int) (h : ax_H) : Option (Int × ax_H) :=
  (ax_ce E h x0 5).bind fun _ => (g0 x0 x1 h).bind fun q1 =>
  f_X5_termOf_6 E g0 g1 g2 x0 x1 q1.1 q1.2
noncomputable def f_X5_sumOf_95 (E : ax_E) (g0 : Option Nat → Int → ax_H → Option (Int × ax_H)) (g1 : Option Nat → Int → ax_H → Option (Int × ax_H)) (g2 : Option Nat → Int → ax_H → Option (Int × ax_H)) (x0 : Option Nat) (x1 : Int) (s0 : Option Nat) (s1 : Int) (h : ax_H) : Option ((Int × ax_H) ⊕ (Int × ax_H)) :=
  (ax_ce E h s0 5).bind fun _ => (f_X5_bounded E s0 s1 x1 h).bind fun q1 =>
  some (.inl (q1.1, q1.2))
noncomputable def f_X5_sumOf_59 (E : ax_E) (g0 : Option Nat → Int → ax_H → Option (Int × ax_H)) (g1 : Option Nat → Int → ax_H → Option (Int × ax_H)) (g2 : Option Nat → Int → ax_H → Option (Int × ax_H)) (x0 : Option Nat) (x1 : Int) (x2 : Int) (s0 : Int) (h : ax_H) : Option ((Int × ax_H) ⊕ (Int × ax_H)) :=
  (ax_gI E h x0 5 20).bind fun v1 =>
  (ax_pI h x0 5 20 (v1 + 1)).bind fun h2 =>
  (ax_ce E h2 x0 5).bind fun _ => (g1 x0 x1 h2).bind fun q3 =>
  if i2 s0 = 0 then
    f_X5_sumOf_95 E g0 g1 g2 x0 x1 x0 (x2 - q3.1) q3.2
  else
    f_X5_sumOf_95 E g0 g1 g2 x0 x1 x0 (x2 + q3.1) q3.2
noncomputable def f_X5_sumOf_38 (E : ax_E) (g0 : Option Nat → Int → ax_H → Option (Int × ax_H)) (g1 : Option Nat → Int → ax_H → Option (Int × ax_H)) (g2 : Option Nat → Int → ax_H → Option (Int × ax_H)) (x0 : Option Nat) (x1 : Int) (x2 : Int) (h : ax_H) : Option ((Int × ax_H) ⊕ (Int × ax_H)) :=
  (ax_gI E h x0 5 20).bind fun v1 =>
  (ax_ce E h x0 5).bind fun _ => (f_X5_codeAt E x0 v1 h).bind fun q2 =>
  (f_X5_sign E 43 q2.2).bind fun q3 =>
  if i2 q2.1 = i2 q3.1 then
    f_X5_sumOf_59 E g0 g1 g2 x0 x1 x2 1 q3.2
  else
    f_X5_sumOf_59 E g0 g1 g2 x0 x1 x2 0 q3.2
noncomputable def lb_X5_sumOf_6 (E : ax_E) (g0 : Option Nat → Int → ax_H → Option (Int × ax_H)) (g1 : Option Nat → Int → ax_H → Option (Int × ax_H)) (g2 : Option Nat → Int → ax_H → Option (Int × ax_H)) (x0 : Option Nat) (x1 : Int) (x2 : Int) (h : ax_H) : Option ((Int × ax_H) ⊕ (Int × ax_H)) :=
  (ax_gI E h x0 5 20).bind fun v1 =>
  (ax_ce E h x0 5).bind fun _ => (f_X5_codeAt E x0 v1 h).bind fun q2 =>
  (f_X5_sign E 43 q2.2).bind fun q3 =>
  if i2 q2.1 = i2 q3.1 then
    f_X5_sumOf_38 E g0 g1 g2 x0 x1 x2 q3.2
  else
    (ax_gI E q3.2 x0 5 20).bind fun v4 =>
    (ax_ce E q3.2 x0 5).bind fun _ => (f_X5_codeAt E x0 v4 q3.2).bind fun q5 =>
    (f_X5_sign E 45 q5.2).bind fun q6 =>
    if i2 q5.1 = i2 q6.1 then
      f_X5_sumOf_38 E g0 g1 g2 x0 x1 x2 q6.2
    else
      (some (x2, q6.2)).map Sum.inr
noncomputable def f_X5_sumOf_6 (E : ax_E) (g0 : Option Nat → Int → ax_H → Option (Int × ax_H)) (g1 : Option Nat → Int → ax_H → Option (Int × ax_H)) (g2 : Option Nat → Int → ax_H → Option (Int × ax_H)) (x0 : Option Nat) (x1 : Int) (x2 : Int) (h : ax_H) : Option (Int × ax_H) :=
  ax_iter (fun s : Int × ax_H => lb_X5_sumOf_6 E g0 g1 g2 x0 x1 s.1 s.2) (x2, h)
noncomputable def f_X5_sumOf (E : ax_E) (g0 : Option Nat → Int → ax_H → Option (Int × ax_H)) (g1 : Option Nat → Int → ax_H → Option (Int × ax_H)) (g2 : Option Nat → Int → ax_H → Option (Int × ax_H)) (x0 : Option Nat) (x1 : Int) (h : ax_H) : Option (Int × ax_H) :=
  (ax_ce E h x0 5).bind fun _ => (g1 x0 x1 h).bind fun q1 =>
  f_X5_sumOf_6 E g0 g1 g2 x0 x1 q1.1 q1.2
noncomputable def rg_X5_partOf (E : ax_E) : Nat → (Option Nat → Int → ax_H → Option (Int × ax_H)) × (Option Nat → Int → ax_H → Option (Int × ax_H)) × (Option Nat → Int → ax_H → Option (Int × ax_H))
  | 0 => ((fun x0 x1 h => none), (fun x0 x1 h => none), (fun x0 x1 h => none))
  | n + 1 => ((fun x0 x1 h => f_X5_partOf E (rg_X5_partOf E n).1 (rg_X5_partOf E n).2.1 (rg_X5_partOf E n).2.2 x0 x1 h), (fun x0 x1 h => f_X5_termOf E (rg_X5_partOf E n).1 (rg_X5_partOf E n).2.1 (rg_X5_partOf E n).2.2 x0 x1 h), (fun x0 x1 h => f_X5_sumOf E (rg_X5_partOf E n).1 (rg_X5_partOf E n).2.1 (rg_X5_partOf E n).2.2 x0 x1 h))
noncomputable def fn_X5_partOf (E : ax_E) (n : Nat) (x0 : Option Nat) (x1 : Int) (h : ax_H) : Option (Int × ax_H) := (rg_X5_partOf E n).1 x0 x1 h
noncomputable def fn_X5_termOf (E : ax_E) (n : Nat) (x0 : Option Nat) (x1 : Int) (h : ax_H) : Option (Int × ax_H) := (rg_X5_partOf E n).2.1 x0 x1 h
noncomputable def fn_X5_sumOf (E : ax_E) (n : Nat) (x0 : Option Nat) (x1 : Int) (h : ax_H) : Option (Int × ax_H) := (rg_X5_partOf E n).2.2 x0 x1 h
set_option maxHeartbeats 4000000 in
theorem w_X5_partOf_146 {l : Launch} {G : ax_G} {X : ax_X} {Q : State → Prop} {h0 h : ax_H} {ls : Array Slot} {g0 : Option Nat → Int → ax_H → Option (Int × ax_H)} {g1 : Option Nat → Int → ax_H → Option (Int × ax_H)} {g2 : Option Nat → Int → ax_H → Option (Int × ax_H)} {fr lo fr1 lo1 : Nat} (hF : fr1 + 1 ≤ fr ∧ 3 ≤ fr ∧ lo1 + 26 ≤ lo ∧ 87 ≤ lo) (hg0 : ∀ (x0 : Option Nat) (x1 : Int) (h : ax_H) (w : Int × ax_H), g0 x0 x1 h = some w → ax_Met l G yX5_partOf cX5_partOf 5 ((some FieldType.long)) fr1 lo1 [va_rf x0, .int (Int32.ofInt x1)] h w.2 (some (.long (Int64.ofInt w.1)))) (hg1 : ∀ (x0 : Option Nat) (x1 : Int) (h : ax_H) (w : Int × ax_H), g1 x0 x1 h = some w → ax_Met l G yX5_termOf cX5_termOf 7 ((some FieldType.long)) fr1 lo1 [va_rf x0, .int (Int32.ofInt x1)] h w.2 (some (.long (Int64.ofInt w.1)))) (hg2 : ∀ (x0 : Option Nat) (x1 : Int) (h : ax_H) (w : Int × ax_H), g2 x0 x1 h = some w → ax_Met l G yX5_sumOf cX5_sumOf 7 ((some FieldType.long)) fr1 lo1 [va_rf x0, .int (Int32.ofInt x1)] h w.2 (some (.long (Int64.ofInt w.1)))) (hSF : ax_SF G) (B : ax_BL l G X cX5_partOf 5 RX5 fr lo) (Z : ax_Z X h0 ((some FieldType.long))) (hn : X.2.2.2.2.2.2.2.2.1.name = yX5_partOf.name) {w : Int × ax_H} (hl : ax_hl ls 5 []) (e : f_X5_partOf_146 G.2.2 g0 g1 g2 h = some w) (hp : (fun w : Int × ax_H => Q = ax_Q G X h0 w.2 (some (.long (Int64.ofInt w.1)))) w) : ax_W G X Q h 146 ls [] := by
  unfold f_X5_partOf_146 at e
  refine ax_lconst (v := 0) B dX5_partOf_146 rfl ?_
  have e8 := e
  have hp : Q = _ := hp
  subst hp
  exact ax_lreturn B Z dX5_partOf_147 e8
set_option maxHeartbeats 4000000 in
theorem w_X5_partOf_254 {l : Launch} {G : ax_G} {X : ax_X} {Q : State → Prop} {h0 h : ax_H} {ls : Array Slot} {g0 : Option Nat → Int → ax_H → Option (Int × ax_H)} {g1 : Option Nat → Int → ax_H → Option (Int × ax_H)} {g2 : Option Nat → Int → ax_H → Option (Int × ax_H)} {fr lo fr1 lo1 : Nat} (hF : fr1 + 1 ≤ fr ∧ 3 ≤ fr ∧ lo1 + 26 ≤ lo ∧ 87 ≤ lo) (hg0 : ∀ (x0 : Option Nat) (x1 : Int) (h : ax_H) (w : Int × ax_H), g0 x0 x1 h = some w → ax_Met l G yX5_partOf cX5_partOf 5 ((some FieldType.long)) fr1 lo1 [va_rf x0, .int (Int32.ofInt x1)] h w.2 (some (.long (Int64.ofInt w.1)))) (hg1 : ∀ (x0 : Option Nat) (x1 : Int) (h : ax_H) (w : Int × ax_H), g1 x0 x1 h = some w → ax_Met l G yX5_termOf cX5_termOf 7 ((some FieldType.long)) fr1 lo1 [va_rf x0, .int (Int32.ofInt x1)] h w.2 (some (.long (Int64.ofInt w.1)))) (hg2 : ∀ (x0 : Option Nat) (x1 : Int) (h : ax_H) (w : Int × ax_H), g2 x0 x1 h = some w → ax_Met l G yX5_sumOf cX5_sumOf 7 ((some FieldType.long)) fr1 lo1 [va_rf x0, .int (Int32.ofInt x1)] h w.2 (some (.long (Int64.ofInt w.1)))) (hSF : ax_SF G) (B : ax_BL l G X cX5_partOf 5 RX5 fr lo) (Z : ax_Z X h0 ((some FieldType.long))) (hn : X.2.2.2.2.2.2.2.2.1.name = yX5_partOf.name) (s0 : Option Nat) (s1 : Int) {w : Int × ax_H} (hl : ax_hl ls 5 []) (e : f_X5_partOf_254 G.2.2 g0 g1 g2 s0 s1 h = some w) (hp : (fun w : Int × ax_H => Q = ax_Q G X h0 w.2 (some (.long (Int64.ofInt w.1)))) w) : ax_W G X Q h 254 ls [.int (Int32.ofInt s1), va_rf s0] := by
  unfold f_X5_partOf_254 at e
  refine ax_iald B kd100 dX5_partOf_254 e (fun v1 e => ?_)
  refine ax_i2l' B dX5_partOf_255 ?_
  have e8 := e
  have hp : Q = _ := hp
  subst hp
  exact ax_lreturn B Z dX5_partOf_256 e8
set_option maxHeartbeats 4000000 in
theorem w_X5_partOf_135 {l : Launch} {G : ax_G} {X : ax_X} {Q : State → Prop} {h0 h : ax_H} {ls : Array Slot} {g0 : Option Nat → Int → ax_H → Option (Int × ax_H)} {g1 : Option Nat → Int → ax_H → Option (Int × ax_H)} {g2 : Option Nat → Int → ax_H → Option (Int × ax_H)} {fr lo fr1 lo1 : Nat} (hF : fr1 + 1 ≤ fr ∧ 3 ≤ fr ∧ lo1 + 26 ≤ lo ∧ 87 ≤ lo) (hg0 : ∀ (x0 : Option Nat) (x1 : Int) (h : ax_H) (w : Int × ax_H), g0 x0 x1 h = some w → ax_Met l G yX5_partOf cX5_partOf 5 ((some FieldType.long)) fr1 lo1 [va_rf x0, .int (Int32.ofInt x1)] h w.2 (some (.long (Int64.ofInt w.1)))) (hg1 : ∀ (x0 : Option Nat) (x1 : Int) (h : ax_H) (w : Int × ax_H), g1 x0 x1 h = some w → ax_Met l G yX5_termOf cX5_termOf 7 ((some FieldType.long)) fr1 lo1 [va_rf x0, .int (Int32.ofInt x1)] h w.2 (some (.long (Int64.ofInt w.1)))) (hg2 : ∀ (x0 : Option Nat) (x1 : Int) (h : ax_H) (w : Int × ax_H), g2 x0 x1 h = some w → ax_Met l G yX5_sumOf cX5_sumOf 7 ((some FieldType.long)) fr1 lo1 [va_rf x0, .int (Int32.ofInt x1)] h w.2 (some (.long (Int64.ofInt w.1)))) (hSF : ax_SF G) (B : ax_BL l G X cX5_partOf 5 RX5 fr lo) (Z : ax_Z X h0 ((some FieldType.long))) (hn : X.2.2.2.2.2.2.2.2.1.name = yX5_partOf.name) (x0 : Option Nat) (x1 : Int) (x2 : Int) (x3 : Int) (x4 : Int) {w : Int × ax_H} (hl : ax_hl ls 5 [(0, .inr (.inr x0)), (1, .inl x1), (2, .inl x2), (3, .inl x3), (4, .inl x4)]) (e : f_X5_partOf_135 G.2.2 g0 g1 g2 x0 x1 x2 x3 x4 h = some w) (hp : (fun w : Int × ax_H => Q = ax_Q G X h0 w.2 (some (.long (Int64.ofInt w.1)))) w) : ax_W G X Q h 135 ls [] := by
  unfold f_X5_partOf_135 at e
  refine ax_iload_n B dX5_partOf_135 rfl hl 1 rfl ?_
  refine ax_if_eq (tgt := 146) B dX5_partOf_136 (by decide) e (fun e => ?_) (fun e => ?_)
  · exact w_X5_partOf_146 hF hg0 hg1 hg2 hSF B Z hn (hl.sub [] rfl) e hp
  · refine ax_aload_n B dX5_partOf_139 rfl hl 0 rfl ?_
    refine ax_getI B ff_X5_290_5 (fun _ _ => rfl) dX5_partOf_140 e (fun v1 e => ?_)
    refine ax_if_eq (tgt := 148) B dX5_partOf_143 (by decide) e (fun e => ?_) (fun e => ?_)
    · refine ax_iload_n B dX5_partOf_148 rfl hl 2 rfl ?_
      refine ax_bipush B dX5_partOf_149 (by decide) ?_
      refine ax_icmp_ne (tgt := 171) B dX5_partOf_151 (by decide) e (fun e => ?_) (fun e => ?_)
      · refine ax_aload_n B dX5_partOf_154 rfl hl 0 rfl ?_
        refine ax_getR B ff_X5_24_5 (fun _ _ => rfl) dX5_partOf_155 e (fun v2 e => ?_)
        refine ax_sipush B dX5_partOf_158 (by decide) ?_
        refine ax_aload_n B dX5_partOf_161 rfl hl 0 rfl ?_
        refine ax_getI B ff_X5_280_5 (fun _ _ => rfl) dX5_partOf_162 e (fun v3 e => ?_)
        refine ax_iadd' B dX5_partOf_165 ?_
        refine ax_iconst B dX5_partOf_166 ?_
        refine ax_isub' B dX5_partOf_167 ?_
        refine ax_iald B kd100 dX5_partOf_168 e (fun v4 e => ?_)
        refine ax_i2l' B dX5_partOf_169 ?_
        have e8 := e
        have hp : Q = _ := hp
        subst hp
        exact ax_lreturn B Z dX5_partOf_170 e8
      · refine ax_aload_n B dX5_partOf_171 rfl hl 0 rfl ?_
        refine ax_getI B ff_X5_310_5 (fun _ _ => rfl) dX5_partOf_172 e (fun v5 e => ?_)
        refine ax_if_ne (tgt := 189) B dX5_partOf_175 (by decide) e (fun e => ?_) (fun e => ?_)
        · refine ax_aload_n B dX5_partOf_178 rfl hl 0 rfl ?_
          refine ax_getR B ff_X5_59_5 (fun _ _ => rfl) dX5_partOf_179 e (fun v6 e => ?_)
          refine ax_iload_n B dX5_partOf_182 rfl hl 2 rfl ?_
          refine ax_bipush B dX5_partOf_183 (by decide) ?_
          refine ax_isub' B dX5_partOf_185 ?_
          refine ax_iald B kd100 dX5_partOf_186 e (fun v7 e => ?_)
          refine ax_i2l' B dX5_partOf_187 ?_
          have e8 := e
          have hp : Q = _ := hp
          subst hp
          exact ax_lreturn B Z dX5_partOf_188 e8
        · refine ax_iload_n B dX5_partOf_189 rfl hl 2 rfl ?_
          refine ax_bipush B dX5_partOf_190 (by decide) ?_
          refine ax_icmp_ne (tgt := 219) B dX5_partOf_192 (by decide) e (fun e => ?_) (fun e => ?_)
          · refine ax_aload_n B dX5_partOf_195 rfl hl 0 rfl ?_
            refine ax_iload_n B dX5_partOf_196 rfl hl 3 rfl ?_
            refine ax_ivI (y := yX5_isPerson) (n := 1) (As := [.int (Int32.ofInt x3)]) B kd5 (lw_V q2191 q2193 qs45 q133 q2194) (by decide +kernel) (by omega) (fun w1 e1 => mt_X5_isPerson l G hSF x0 x3 _ w1 e1) rfl hl.size (by decide) dX5_partOf_197 e (fun q8 e => ?_)
            refine ax_if_eq (tgt := 215) B dX5_partOf_200 (by decide) e (fun e => ?_) (fun e => ?_)
            · refine ax_ldc2 B cn_X5_313 dX5_partOf_215 ?_
              have e8 := e
              have hp : Q = _ := hp
              subst hp
              exact ax_lreturn B Z dX5_partOf_218 e8
            · refine ax_aload_n B dX5_partOf_203 rfl hl 0 rfl ?_
              refine ax_getR B ff_X5_24_5 (fun _ _ => rfl) dX5_partOf_204 e (fun v9 e => ?_)
              refine ax_iconst B dX5_partOf_207 ?_
              refine ax_iload_n B dX5_partOf_208 rfl hl 3 rfl ?_
              refine ax_iadd' B dX5_partOf_209 ?_
              refine ax_iald B kd100 dX5_partOf_210 e (fun v10 e => ?_)
              refine ax_i2l' B dX5_partOf_211 ?_
              refine ax_goto (tgt := 218) B dX5_partOf_212 (by decide) ?_
              have e8 := e
              have hp : Q = _ := hp
              subst hp
              exact ax_lreturn B Z dX5_partOf_218 e8
          · refine ax_iload_n B dX5_partOf_219 rfl hl 2 rfl ?_
            refine ax_bipush B dX5_partOf_220 (by decide) ?_
            refine ax_icmp_ne (tgt := 234) B dX5_partOf_222 (by decide) e (fun e => ?_) (fun e => ?_)
            · refine ax_aload_n B dX5_partOf_225 rfl hl 0 rfl ?_
              refine ax_iload_n B dX5_partOf_226 rfl hl 3 rfl ?_
              refine ax_iload B dX5_partOf_227 hl 4 rfl ?_
              refine ax_ivI (y := yX5_owed) (n := 2) (As := [.int (Int32.ofInt x3), .int (Int32.ofInt x4)]) B kd5 (lw_V q2234 q2236 qs52 q133 q2237) (by decide +kernel) (by omega) (fun w1 e1 => mt_X5_owed l G hSF x0 x3 x4 _ w1 e1) rfl hl.size (by decide) dX5_partOf_229 e (fun q11 e => ?_)
              refine ax_i2l' B dX5_partOf_232 ?_
              have e8 := e
              have hp : Q = _ := hp
              subst hp
              exact ax_lreturn B Z dX5_partOf_233 e8
            · refine ax_aload_n B dX5_partOf_234 rfl hl 0 rfl ?_
              refine ax_getR B ff_X5_62_5 (fun _ _ => rfl) dX5_partOf_235 e (fun v12 e => ?_)
              refine ax_iload_n B dX5_partOf_238 rfl hl 2 rfl ?_
              refine ax_bipush B dX5_partOf_239 (by decide) ?_
              refine ax_icmp_ne (tgt := 248) B dX5_partOf_241 (by decide) e (fun e => ?_) (fun e => ?_)
              · refine ax_iconst B dX5_partOf_244 ?_
                refine ax_goto (tgt := 254) B dX5_partOf_245 (by decide) ?_
                exact w_X5_partOf_254 hF hg0 hg1 hg2 hSF B Z hn v12 0 (hl.sub [] rfl) e hp
              · refine ax_iload_n B dX5_partOf_248 rfl hl 2 rfl ?_
                refine ax_bipush B dX5_partOf_249 (by decide) ?_
                refine ax_isub' B dX5_partOf_251 ?_
                refine ax_iconst B dX5_partOf_252 ?_
                refine ax_iadd' B dX5_partOf_253 ?_
                exact w_X5_partOf_254 hF hg0 hg1 hg2 hSF B Z hn v12 ((x2 - 19) + 1) (hl.sub [] rfl) e hp
    · exact w_X5_partOf_146 hF hg0 hg1 hg2 hSF B Z hn (hl.sub [] rfl) e hp
set_option maxHeartbeats 4000000 in
theorem w_X5_partOf_97 {l : Launch} {G : ax_G} {X : ax_X} {Q : State → Prop} {h0 h : ax_H} {ls : Array Slot} {g0 : Option Nat → Int → ax_H → Option (Int × ax_H)} {g1 : Option Nat → Int → ax_H → Option (Int × ax_H)} {g2 : Option Nat → Int → ax_H → Option (Int × ax_H)} {fr lo fr1 lo1 : Nat} (hF : fr1 + 1 ≤ fr ∧ 3 ≤ fr ∧ lo1 + 26 ≤ lo ∧ 87 ≤ lo) (hg0 : ∀ (x0 : Option Nat) (x1 : Int) (h : ax_H) (w : Int × ax_H), g0 x0 x1 h = some w → ax_Met l G yX5_partOf cX5_partOf 5 ((some FieldType.long)) fr1 lo1 [va_rf x0, .int (Int32.ofInt x1)] h w.2 (some (.long (Int64.ofInt w.1)))) (hg1 : ∀ (x0 : Option Nat) (x1 : Int) (h : ax_H) (w : Int × ax_H), g1 x0 x1 h = some w → ax_Met l G yX5_termOf cX5_termOf 7 ((some FieldType.long)) fr1 lo1 [va_rf x0, .int (Int32.ofInt x1)] h w.2 (some (.long (Int64.ofInt w.1)))) (hg2 : ∀ (x0 : Option Nat) (x1 : Int) (h : ax_H) (w : Int × ax_H), g2 x0 x1 h = some w → ax_Met l G yX5_sumOf cX5_sumOf 7 ((some FieldType.long)) fr1 lo1 [va_rf x0, .int (Int32.ofInt x1)] h w.2 (some (.long (Int64.ofInt w.1)))) (hSF : ax_SF G) (B : ax_BL l G X cX5_partOf 5 RX5 fr lo) (Z : ax_Z X h0 ((some FieldType.long))) (hn : X.2.2.2.2.2.2.2.2.1.name = yX5_partOf.name) (x0 : Option Nat) (x1 : Int) (x2 : Int) (x3 : Int) (x4 : Int) {w : Int × ax_H} (hl : ax_hl ls 5 [(0, .inr (.inr x0)), (1, .inl x1), (2, .inl x2), (3, .inl x3), (4, .inl x4)]) (e : f_X5_partOf_97 G.2.2 g0 g1 g2 x0 x1 x2 x3 x4 h = some w) (hp : (fun w : Int × ax_H => Q = ax_Q G X h0 w.2 (some (.long (Int64.ofInt w.1)))) w) : ax_W G X Q h 97 ls [] := by
  unfold f_X5_partOf_97 at e
  refine ax_aload_n B dX5_partOf_97 rfl hl 0 rfl ?_
  refine ax_getI B ff_X5_310_5 (fun _ _ => rfl) dX5_partOf_98 e (fun v1 e => ?_)
  refine ax_if_eq (tgt := 135) B dX5_partOf_101 (by decide) e (fun e => ?_) (fun e => ?_)
  · exact w_X5_partOf_135 hF hg0 hg1 hg2 hSF B Z hn x0 x1 x2 x3 x4 (hl.sub [0, 1, 2, 3, 4] rfl) e hp
  · refine ax_iload_n B dX5_partOf_104 rfl hl 2 rfl ?_
    refine ax_bipush B dX5_partOf_105 (by decide) ?_
    refine ax_icmp_ne (tgt := 135) B dX5_partOf_107 (by decide) e (fun e => ?_) (fun e => ?_)
    · refine ax_aload_n B dX5_partOf_110 rfl hl 0 rfl ?_
      refine ax_getR B ff_X5_24_5 (fun _ _ => rfl) dX5_partOf_111 e (fun v2 e => ?_)
      refine ax_sipush B dX5_partOf_114 (by decide) ?_
      refine ax_aload_n B dX5_partOf_117 rfl hl 0 rfl ?_
      refine ax_getI B ff_X5_280_5 (fun _ _ => rfl) dX5_partOf_118 e (fun v3 e => ?_)
      refine ax_iadd' B dX5_partOf_121 ?_
      refine ax_iald B kd100 dX5_partOf_122 e (fun v4 e => ?_)
      refine ax_istore (L' := [(4, .inl v4), (0, .inr (.inr x0)), (1, .inl x1), (2, .inl x2), (3, .inl x3)]) B dX5_partOf_123 hl (by decide) rfl (fun ls hl => ?_)
      refine ax_aload_n B dX5_partOf_125 rfl hl 1 rfl ?_
      refine ax_dup B dX5_partOf_126 (va_rf_cat _) ?_
      refine ax_getI B ff_X5_280_5 (fun _ _ => rfl) dX5_partOf_127 e (fun v5 e => ?_)
      refine ax_iconst B dX5_partOf_130 ?_
      refine ax_iadd' B dX5_partOf_131 ?_
      refine ax_putI B ff_X5_280_5 (Or.inl rfl) rfl dX5_partOf_132 e (fun h6 e => ?_)
      exact w_X5_partOf_135 hF hg0 hg1 hg2 hSF B Z hn x0 x1 x2 x3 v4 (hl.sub [1, 2, 3, 4, 0] rfl) e hp
    · exact w_X5_partOf_135 hF hg0 hg1 hg2 hSF B Z hn x0 x1 x2 x3 x4 (hl.sub [0, 1, 2, 3, 4] rfl) e hp
set_option maxHeartbeats 4000000 in
theorem w_X5_partOf_73 {l : Launch} {G : ax_G} {X : ax_X} {Q : State → Prop} {h0 h : ax_H} {ls : Array Slot} {g0 : Option Nat → Int → ax_H → Option (Int × ax_H)} {g1 : Option Nat → Int → ax_H → Option (Int × ax_H)} {g2 : Option Nat → Int → ax_H → Option (Int × ax_H)} {fr lo fr1 lo1 : Nat} (hF : fr1 + 1 ≤ fr ∧ 3 ≤ fr ∧ lo1 + 26 ≤ lo ∧ 87 ≤ lo) (hg0 : ∀ (x0 : Option Nat) (x1 : Int) (h : ax_H) (w : Int × ax_H), g0 x0 x1 h = some w → ax_Met l G yX5_partOf cX5_partOf 5 ((some FieldType.long)) fr1 lo1 [va_rf x0, .int (Int32.ofInt x1)] h w.2 (some (.long (Int64.ofInt w.1)))) (hg1 : ∀ (x0 : Option Nat) (x1 : Int) (h : ax_H) (w : Int × ax_H), g1 x0 x1 h = some w → ax_Met l G yX5_termOf cX5_termOf 7 ((some FieldType.long)) fr1 lo1 [va_rf x0, .int (Int32.ofInt x1)] h w.2 (some (.long (Int64.ofInt w.1)))) (hg2 : ∀ (x0 : Option Nat) (x1 : Int) (h : ax_H) (w : Int × ax_H), g2 x0 x1 h = some w → ax_Met l G yX5_sumOf cX5_sumOf 7 ((some FieldType.long)) fr1 lo1 [va_rf x0, .int (Int32.ofInt x1)] h w.2 (some (.long (Int64.ofInt w.1)))) (hSF : ax_SF G) (B : ax_BL l G X cX5_partOf 5 RX5 fr lo) (Z : ax_Z X h0 ((some FieldType.long))) (hn : X.2.2.2.2.2.2.2.2.1.name = yX5_partOf.name) (x0 : Option Nat) (x1 : Int) (x2 : Int) (x4 : Int) {w : Int × ax_H} (hl : ax_hl ls 5 [(0, .inr (.inr x0)), (1, .inl x1), (2, .inl x2), (4, .inl x4)]) (e : f_X5_partOf_73 G.2.2 g0 g1 g2 x0 x1 x2 x4 h = some w) (hp : (fun w : Int × ax_H => Q = ax_Q G X h0 w.2 (some (.long (Int64.ofInt w.1)))) w) : ax_W G X Q h 73 ls [] := by
  unfold f_X5_partOf_73 at e
  refine ax_aload_n B dX5_partOf_73 rfl hl 0 rfl ?_
  refine ax_getR B ff_X5_24_5 (fun _ _ => rfl) dX5_partOf_74 e (fun v1 e => ?_)
  refine ax_sipush B dX5_partOf_77 (by decide) ?_
  refine ax_aload_n B dX5_partOf_80 rfl hl 0 rfl ?_
  refine ax_getI B ff_X5_280_5 (fun _ _ => rfl) dX5_partOf_81 e (fun v2 e => ?_)
  refine ax_iadd' B dX5_partOf_84 ?_
  refine ax_iald B kd100 dX5_partOf_85 e (fun v3 e => ?_)
  refine ax_istore_n (L' := [(3, .inl v3), (0, .inr (.inr x0)), (1, .inl x1), (2, .inl x2), (4, .inl x4)]) B dX5_partOf_86 rfl hl (by decide) rfl (fun ls hl => ?_)
  refine ax_aload_n B dX5_partOf_87 rfl hl 1 rfl ?_
  refine ax_dup B dX5_partOf_88 (va_rf_cat _) ?_
  refine ax_getI B ff_X5_280_5 (fun _ _ => rfl) dX5_partOf_89 e (fun v4 e => ?_)
  refine ax_iconst B dX5_partOf_92 ?_
  refine ax_iadd' B dX5_partOf_93 ?_
  refine ax_putI B ff_X5_280_5 (Or.inl rfl) rfl dX5_partOf_94 e (fun h5 e => ?_)
  exact w_X5_partOf_97 hF hg0 hg1 hg2 hSF B Z hn x0 x1 x2 v3 x4 (hl.sub [1, 2, 3, 0, 4] rfl) e hp
set_option maxHeartbeats 4000000 in
theorem we_X5_partOf {l : Launch} {G : ax_G} {X : ax_X} {Q : State → Prop} {h0 h : ax_H} {ls : Array Slot} {g0 : Option Nat → Int → ax_H → Option (Int × ax_H)} {g1 : Option Nat → Int → ax_H → Option (Int × ax_H)} {g2 : Option Nat → Int → ax_H → Option (Int × ax_H)} {fr lo fr1 lo1 : Nat} (hF : fr1 + 1 ≤ fr ∧ 3 ≤ fr ∧ lo1 + 26 ≤ lo ∧ 87 ≤ lo) (hg0 : ∀ (x0 : Option Nat) (x1 : Int) (h : ax_H) (w : Int × ax_H), g0 x0 x1 h = some w → ax_Met l G yX5_partOf cX5_partOf 5 ((some FieldType.long)) fr1 lo1 [va_rf x0, .int (Int32.ofInt x1)] h w.2 (some (.long (Int64.ofInt w.1)))) (hg1 : ∀ (x0 : Option Nat) (x1 : Int) (h : ax_H) (w : Int × ax_H), g1 x0 x1 h = some w → ax_Met l G yX5_termOf cX5_termOf 7 ((some FieldType.long)) fr1 lo1 [va_rf x0, .int (Int32.ofInt x1)] h w.2 (some (.long (Int64.ofInt w.1)))) (hg2 : ∀ (x0 : Option Nat) (x1 : Int) (h : ax_H) (w : Int × ax_H), g2 x0 x1 h = some w → ax_Met l G yX5_sumOf cX5_sumOf 7 ((some FieldType.long)) fr1 lo1 [va_rf x0, .int (Int32.ofInt x1)] h w.2 (some (.long (Int64.ofInt w.1)))) (hSF : ax_SF G) (B : ax_BL l G X cX5_partOf 5 RX5 fr lo) (Z : ax_Z X h0 ((some FieldType.long))) (hn : X.2.2.2.2.2.2.2.2.1.name = yX5_partOf.name) (x0 : Option Nat) (x1 : Int) {w : Int × ax_H} (hl : ax_hl ls 5 [(0, .inr (.inr x0)), (1, .inl x1)]) (e : f_X5_partOf G.2.2 g0 g1 g2 x0 x1 h = some w) (hp : (fun w : Int × ax_H => Q = ax_Q G X h0 w.2 (some (.long (Int64.ofInt w.1)))) w) : ax_W G X Q h 0 ls [] := by
  unfold f_X5_partOf at e
  refine ax_aload_n B dX5_partOf_0 rfl hl 0 rfl ?_
  refine ax_bipush B dX5_partOf_1 (by decide) ?_
  refine ax_isI (y := yX5_sign) (n := 1) (As := [.int (Int32.ofInt 91)]) B (lw_S q2266 q2267 q133 q2268) (by decide +kernel) (by omega) (fun w1 e1 => mt_X5_sign l G hSF 91 _ w1 e1) rfl hl.size (by simp only [List.map_cons, List.map_nil, List.sum_cons, List.sum_nil, va_rf_cat, ax_catI, ax_catL]; decide) dX5_partOf_3 e (fun q1 e => ?_)
  refine ax_ivI (y := yX5_passes0) (n := 1) (As := [.int (Int32.ofInt q1.1)]) B kd5 (lw_V q2269 q2271 qs60 q133 q2272) (by decide +kernel) (by omega) (fun w1 e1 => mt_X5_passes0 l G hSF x0 q1.1 _ w1 e1) rfl hl.size (by decide) dX5_partOf_6 e (fun q2 e => ?_)
  refine ax_if_eq (tgt := 30) B dX5_partOf_9 (by decide) e (fun e => ?_) (fun e => ?_)
  · refine ax_aload_n B dX5_partOf_30 rfl hl 0 rfl ?_
    refine ax_aload_n B dX5_partOf_31 rfl hl 0 rfl ?_
    refine ax_getI B ff_X5_280_5 (fun _ _ => rfl) dX5_partOf_32 e (fun v3 e => ?_)
    refine ax_ivI (y := yX5_codeAt) (n := 1) (As := [.int (Int32.ofInt v3)]) B kd5 (lw_V q2250 q2252 qs56 q133 q2253) (by decide +kernel) (by omega) (fun w1 e1 => mt_X5_codeAt l G hSF x0 v3 _ w1 e1) rfl hl.size (by decide) dX5_partOf_35 e (fun q4 e => ?_)
    refine ax_istore_n (L' := [(2, .inl q4.1), (0, .inr (.inr x0)), (1, .inl x1)]) B dX5_partOf_38 rfl hl (by decide) rfl (fun ls hl => ?_)
    refine ax_iconst B dX5_partOf_39 ?_
    refine ax_istore_n (L' := [(3, .inl 0), (2, .inl q4.1), (0, .inr (.inr x0)), (1, .inl x1)]) B dX5_partOf_40 rfl hl (by decide) rfl (fun ls hl => ?_)
    refine ax_iconst B dX5_partOf_41 ?_
    refine ax_istore (L' := [(4, .inl 0), (3, .inl 0), (2, .inl q4.1), (0, .inr (.inr x0)), (1, .inl x1)]) B dX5_partOf_42 hl (by decide) rfl (fun ls hl => ?_)
    refine ax_aload_n B dX5_partOf_44 rfl hl 3 rfl ?_
    refine ax_dup B dX5_partOf_45 (va_rf_cat _) ?_
    refine ax_getI B ff_X5_280_5 (fun _ _ => rfl) dX5_partOf_46 e (fun v5 e => ?_)
    refine ax_iconst B dX5_partOf_49 ?_
    refine ax_iadd' B dX5_partOf_50 ?_
    refine ax_putI B ff_X5_280_5 (Or.inl rfl) rfl dX5_partOf_51 e (fun h6 e => ?_)
    refine ax_aload_n B dX5_partOf_54 rfl hl 3 rfl ?_
    refine ax_getI B ff_X5_310_5 (fun _ _ => rfl) dX5_partOf_55 e (fun v7 e => ?_)
    refine ax_if_eq (tgt := 97) B dX5_partOf_58 (by decide) e (fun e => ?_) (fun e => ?_)
    · exact w_X5_partOf_97 hF hg0 hg1 hg2 hSF B Z hn x0 x1 q4.1 0 0 (hl.sub [3, 4, 2, 1, 0] rfl) e hp
    · refine ax_iload_n B dX5_partOf_61 rfl hl 2 rfl ?_
      refine ax_bipush B dX5_partOf_62 (by decide) ?_
      refine ax_icmp_eq (tgt := 73) B dX5_partOf_64 (by decide) e (fun e => ?_) (fun e => ?_)
      · exact w_X5_partOf_73 hF hg0 hg1 hg2 hSF B Z hn x0 x1 q4.1 0 (hl.sub [3, 4, 2, 0] rfl) e hp
      · refine ax_iload_n B dX5_partOf_67 rfl hl 2 rfl ?_
        refine ax_bipush B dX5_partOf_68 (by decide) ?_
        refine ax_icmp_ne (tgt := 97) B dX5_partOf_70 (by decide) e (fun e => ?_) (fun e => ?_)
        · exact w_X5_partOf_73 hF hg0 hg1 hg2 hSF B Z hn x0 x1 q4.1 0 (hl.sub [3, 4, 2, 0] rfl) e hp
        · exact w_X5_partOf_97 hF hg0 hg1 hg2 hSF B Z hn x0 x1 q4.1 0 0 (hl.sub [3, 4, 2, 1, 0] rfl) e hp
  · refine ax_aload_n B dX5_partOf_12 rfl hl 0 rfl ?_
    refine ax_iload_n B dX5_partOf_13 rfl hl 1 rfl ?_
    refine ax_ivL (y := yX5_sumOf) (n := 1) (As := [.int (Int32.ofInt x1)]) B kd5 (lw_V q2254 q2256 qs57 q133 q2257) (by decide +kernel) (by omega) (fun w1 e1 => hg2 x0 x1 _ w1 e1) rfl hl.size (by decide) dX5_partOf_14 e (fun q8 e => ?_)
    refine ax_lstore_n (L' := [(2, .inr (.inl q8.1)), (0, .inr (.inr x0)), (1, .inl x1)]) B dX5_partOf_17 rfl hl (by decide) rfl (fun ls hl => ?_)
    refine ax_aload_n B dX5_partOf_18 rfl hl 1 rfl ?_
    refine ax_dup B dX5_partOf_19 (va_rf_cat _) ?_
    refine ax_getI B ff_X5_280_5 (fun _ _ => rfl) dX5_partOf_20 e (fun v9 e => ?_)
    refine ax_iconst B dX5_partOf_23 ?_
    refine ax_iadd' B dX5_partOf_24 ?_
    refine ax_putI B ff_X5_280_5 (Or.inl rfl) rfl dX5_partOf_25 e (fun h10 e => ?_)
    refine ax_lload_n B dX5_partOf_28 rfl hl 0 rfl ?_
    have e8 := e
    have hp : Q = _ := hp
    subst hp
    exact ax_lreturn B Z dX5_partOf_29 e8
theorem mt_X5_partOf (l : Launch) (G : ax_G) (hSF : ax_SF G) {g0 : Option Nat → Int → ax_H → Option (Int × ax_H)} {g1 : Option Nat → Int → ax_H → Option (Int × ax_H)} {g2 : Option Nat → Int → ax_H → Option (Int × ax_H)} {fr lo fr1 lo1 : Nat} (hF : fr1 + 1 ≤ fr ∧ 3 ≤ fr ∧ lo1 + 26 ≤ lo ∧ 87 ≤ lo) (hg0 : ∀ (x0 : Option Nat) (x1 : Int) (h : ax_H) (w : Int × ax_H), g0 x0 x1 h = some w → ax_Met l G yX5_partOf cX5_partOf 5 ((some FieldType.long)) fr1 lo1 [va_rf x0, .int (Int32.ofInt x1)] h w.2 (some (.long (Int64.ofInt w.1)))) (hg1 : ∀ (x0 : Option Nat) (x1 : Int) (h : ax_H) (w : Int × ax_H), g1 x0 x1 h = some w → ax_Met l G yX5_termOf cX5_termOf 7 ((some FieldType.long)) fr1 lo1 [va_rf x0, .int (Int32.ofInt x1)] h w.2 (some (.long (Int64.ofInt w.1)))) (hg2 : ∀ (x0 : Option Nat) (x1 : Int) (h : ax_H) (w : Int × ax_H), g2 x0 x1 h = some w → ax_Met l G yX5_sumOf cX5_sumOf 7 ((some FieldType.long)) fr1 lo1 [va_rf x0, .int (Int32.ofInt x1)] h w.2 (some (.long (Int64.ofInt w.1)))) (x0 : Option Nat) (x1 : Int) (h : ax_H) (w : Int × ax_H) (e : f_X5_partOf G.2.2 g0 g1 g2 x0 x1 h = some w) : ax_Met l G yX5_partOf cX5_partOf 5 ((some FieldType.long)) fr lo [va_rf x0, .int (Int32.ofInt x1)] h w.2 (some (.long (Int64.ofInt w.1))) :=
  ax_enter [.inr (.inr x0), .inl x1] (y := yX5_partOf) hSF (plainFor_of_name (by decide +kernel)) (Nat.le_of_ble_eq_true rfl) (fun X ls B Z hn hl => we_X5_partOf hF hg0 hg1 hg2 hSF B Z hn x0 x1 hl e rfl)
def pi_X5_termOf_6 (G : ax_G) (X : ax_X) (Q : State → Prop) (x0 : Option Nat) (x1 : Int) : Int × ax_H → Prop := fun s => ∀ ls : Array Slot, ax_hl ls 7 [(0, .inr (.inr x0)), (1, .inl x1), (2, .inr (.inl s.1))] → ax_W G X Q s.2 6 ls []
set_option maxHeartbeats 4000000 in
theorem w_X5_termOf_160 {l : Launch} {G : ax_G} {X : ax_X} {Q : State → Prop} {h0 h : ax_H} {ls : Array Slot} {g0 : Option Nat → Int → ax_H → Option (Int × ax_H)} {g1 : Option Nat → Int → ax_H → Option (Int × ax_H)} {g2 : Option Nat → Int → ax_H → Option (Int × ax_H)} {fr lo fr1 lo1 : Nat} (hF : fr1 + 1 ≤ fr ∧ 3 ≤ fr ∧ lo1 + 26 ≤ lo ∧ 87 ≤ lo) (hg0 : ∀ (x0 : Option Nat) (x1 : Int) (h : ax_H) (w : Int × ax_H), g0 x0 x1 h = some w → ax_Met l G yX5_partOf cX5_partOf 5 ((some FieldType.long)) fr1 lo1 [va_rf x0, .int (Int32.ofInt x1)] h w.2 (some (.long (Int64.ofInt w.1)))) (hg1 : ∀ (x0 : Option Nat) (x1 : Int) (h : ax_H) (w : Int × ax_H), g1 x0 x1 h = some w → ax_Met l G yX5_termOf cX5_termOf 7 ((some FieldType.long)) fr1 lo1 [va_rf x0, .int (Int32.ofInt x1)] h w.2 (some (.long (Int64.ofInt w.1)))) (hg2 : ∀ (x0 : Option Nat) (x1 : Int) (h : ax_H) (w : Int × ax_H), g2 x0 x1 h = some w → ax_Met l G yX5_sumOf cX5_sumOf 7 ((some FieldType.long)) fr1 lo1 [va_rf x0, .int (Int32.ofInt x1)] h w.2 (some (.long (Int64.ofInt w.1)))) (hSF : ax_SF G) (B : ax_BL l G X cX5_termOf 7 RX5 fr lo) (Z : ax_Z X h0 ((some FieldType.long))) (hn : X.2.2.2.2.2.2.2.2.1.name = yX5_termOf.name) (x0 : Option Nat) (x1 : Int) (s0 : Option Nat) (s1 : Int) {w : (Int × ax_H) ⊕ (Int × ax_H)} (hl : ax_hl ls 7 [(0, .inr (.inr x0)), (1, .inl x1)]) (e : f_X5_termOf_160 G.2.2 g0 g1 g2 x0 x1 s0 s1 h = some w) (hp : (ax_PL (pi_X5_termOf_6 G X Q x0 x1) (fun w : Int × ax_H => Q = ax_Q G X h0 w.2 (some (.long (Int64.ofInt w.1))))) w) : ax_W G X Q h 160 ls [.long (Int64.ofInt s1), va_rf s0] := by
  unfold f_X5_termOf_160 at e
  refine ax_iload_n B dX5_termOf_160 rfl hl 1 rfl ?_
  refine ax_ivL (y := yX5_bounded) (n := 2) (As := [.long (Int64.ofInt s1), .int (Int32.ofInt x1)]) B kd5 (lw_V q2274 q2276 qs61 q133 q2277) (by decide +kernel) (by omega) (fun w1 e1 => mt_X5_bounded l G hSF s0 s1 x1 _ w1 e1) rfl hl.size (by decide) dX5_termOf_161 e (fun q1 e => ?_)
  refine ax_lstore_n (L' := [(2, .inr (.inl q1.1)), (0, .inr (.inr x0)), (1, .inl x1)]) B dX5_termOf_164 rfl hl (by decide) rfl (fun ls hl => ?_)
  refine ax_goto (tgt := 6) B dX5_termOf_165 (by decide) ?_
  cases e
  exact hp _ (hl.sub [1, 2, 0] rfl)
set_option maxHeartbeats 4000000 in
theorem w_X5_termOf_121 {l : Launch} {G : ax_G} {X : ax_X} {Q : State → Prop} {h0 h : ax_H} {ls : Array Slot} {g0 : Option Nat → Int → ax_H → Option (Int × ax_H)} {g1 : Option Nat → Int → ax_H → Option (Int × ax_H)} {g2 : Option Nat → Int → ax_H → Option (Int × ax_H)} {fr lo fr1 lo1 : Nat} (hF : fr1 + 1 ≤ fr ∧ 3 ≤ fr ∧ lo1 + 26 ≤ lo ∧ 87 ≤ lo) (hg0 : ∀ (x0 : Option Nat) (x1 : Int) (h : ax_H) (w : Int × ax_H), g0 x0 x1 h = some w → ax_Met l G yX5_partOf cX5_partOf 5 ((some FieldType.long)) fr1 lo1 [va_rf x0, .int (Int32.ofInt x1)] h w.2 (some (.long (Int64.ofInt w.1)))) (hg1 : ∀ (x0 : Option Nat) (x1 : Int) (h : ax_H) (w : Int × ax_H), g1 x0 x1 h = some w → ax_Met l G yX5_termOf cX5_termOf 7 ((some FieldType.long)) fr1 lo1 [va_rf x0, .int (Int32.ofInt x1)] h w.2 (some (.long (Int64.ofInt w.1)))) (hg2 : ∀ (x0 : Option Nat) (x1 : Int) (h : ax_H) (w : Int × ax_H), g2 x0 x1 h = some w → ax_Met l G yX5_sumOf cX5_sumOf 7 ((some FieldType.long)) fr1 lo1 [va_rf x0, .int (Int32.ofInt x1)] h w.2 (some (.long (Int64.ofInt w.1)))) (hSF : ax_SF G) (B : ax_BL l G X cX5_termOf 7 RX5 fr lo) (Z : ax_Z X h0 ((some FieldType.long))) (hn : X.2.2.2.2.2.2.2.2.1.name = yX5_termOf.name) (x0 : Option Nat) (x1 : Int) (x2 : Int) (x4 : Int) (x5 : Int) {w : (Int × ax_H) ⊕ (Int × ax_H)} (hl : ax_hl ls 7 [(0, .inr (.inr x0)), (1, .inl x1), (2, .inr (.inl x2)), (4, .inl x4), (5, .inr (.inl x5))]) (e : f_X5_termOf_121 G.2.2 g0 g1 g2 x0 x1 x2 x4 x5 h = some w) (hp : (ax_PL (pi_X5_termOf_6 G X Q x0 x1) (fun w : Int × ax_H => Q = ax_Q G X h0 w.2 (some (.long (Int64.ofInt w.1))))) w) : ax_W G X Q h 121 ls [] := by
  unfold f_X5_termOf_121 at e
  refine ax_aload_n B dX5_termOf_121 rfl hl 0 rfl ?_
  refine ax_iload B dX5_termOf_122 hl 3 rfl ?_
  refine ax_bipush B dX5_termOf_124 (by decide) ?_
  refine ax_isI (y := yX5_sign) (n := 1) (As := [.int (Int32.ofInt 42)]) B (lw_S q2266 q2267 q133 q2268) (by decide +kernel) (by omega) (fun w1 e1 => mt_X5_sign l G hSF 42 _ w1 e1) rfl hl.size (by simp only [List.map_cons, List.map_nil, List.sum_cons, List.sum_nil, va_rf_cat, ax_catI, ax_catL]; decide) dX5_termOf_126 e (fun q1 e => ?_)
  refine ax_icmp_ne (tgt := 139) B dX5_termOf_129 (by decide) e (fun e => ?_) (fun e => ?_)
  · refine ax_lload_n B dX5_termOf_132 rfl hl 2 rfl ?_
    refine ax_lload B dX5_termOf_133 hl 4 rfl ?_
    refine ax_lmul' B dX5_termOf_135 ?_
    refine ax_goto (tgt := 160) B dX5_termOf_136 (by decide) ?_
    exact w_X5_termOf_160 hF hg0 hg1 hg2 hSF B Z hn x0 x1 x0 (x2 * x5) (hl.sub [0, 1] rfl) e hp
  · refine ax_iload B dX5_termOf_139 hl 3 rfl ?_
    refine ax_bipush B dX5_termOf_141 (by decide) ?_
    refine ax_isI (y := yX5_sign) (n := 1) (As := [.int (Int32.ofInt 47)]) B (lw_S q2266 q2267 q133 q2268) (by decide +kernel) (by omega) (fun w1 e1 => mt_X5_sign l G hSF 47 _ w1 e1) rfl hl.size (by simp only [List.map_cons, List.map_nil, List.sum_cons, List.sum_nil, va_rf_cat, ax_catI, ax_catL]; decide) dX5_termOf_143 e (fun q2 e => ?_)
    refine ax_icmp_ne (tgt := 156) B dX5_termOf_146 (by decide) e (fun e => ?_) (fun e => ?_)
    · refine ax_lload_n B dX5_termOf_149 rfl hl 2 rfl ?_
      refine ax_lload B dX5_termOf_150 hl 4 rfl ?_
      refine ax_ldiv' B dX5_termOf_152 e (fun e => ?_)
      refine ax_goto (tgt := 160) B dX5_termOf_153 (by decide) ?_
      exact w_X5_termOf_160 hF hg0 hg1 hg2 hSF B Z hn x0 x1 x0 ((l2 x2).tdiv (l2 x5)) (hl.sub [0, 1] rfl) e hp
    · refine ax_lload_n B dX5_termOf_156 rfl hl 2 rfl ?_
      refine ax_lload B dX5_termOf_157 hl 4 rfl ?_
      refine ax_lrem' B dX5_termOf_159 e (fun e => ?_)
      exact w_X5_termOf_160 hF hg0 hg1 hg2 hSF B Z hn x0 x1 x0 ((l2 x2).tmod (l2 x5)) (hl.sub [0, 1] rfl) e hp
set_option maxHeartbeats 4000000 in
theorem w_X5_termOf_115 {l : Launch} {G : ax_G} {X : ax_X} {Q : State → Prop} {h0 h : ax_H} {ls : Array Slot} {g0 : Option Nat → Int → ax_H → Option (Int × ax_H)} {g1 : Option Nat → Int → ax_H → Option (Int × ax_H)} {g2 : Option Nat → Int → ax_H → Option (Int × ax_H)} {fr lo fr1 lo1 : Nat} (hF : fr1 + 1 ≤ fr ∧ 3 ≤ fr ∧ lo1 + 26 ≤ lo ∧ 87 ≤ lo) (hg0 : ∀ (x0 : Option Nat) (x1 : Int) (h : ax_H) (w : Int × ax_H), g0 x0 x1 h = some w → ax_Met l G yX5_partOf cX5_partOf 5 ((some FieldType.long)) fr1 lo1 [va_rf x0, .int (Int32.ofInt x1)] h w.2 (some (.long (Int64.ofInt w.1)))) (hg1 : ∀ (x0 : Option Nat) (x1 : Int) (h : ax_H) (w : Int × ax_H), g1 x0 x1 h = some w → ax_Met l G yX5_termOf cX5_termOf 7 ((some FieldType.long)) fr1 lo1 [va_rf x0, .int (Int32.ofInt x1)] h w.2 (some (.long (Int64.ofInt w.1)))) (hg2 : ∀ (x0 : Option Nat) (x1 : Int) (h : ax_H) (w : Int × ax_H), g2 x0 x1 h = some w → ax_Met l G yX5_sumOf cX5_sumOf 7 ((some FieldType.long)) fr1 lo1 [va_rf x0, .int (Int32.ofInt x1)] h w.2 (some (.long (Int64.ofInt w.1)))) (hSF : ax_SF G) (B : ax_BL l G X cX5_termOf 7 RX5 fr lo) (Z : ax_Z X h0 ((some FieldType.long))) (hn : X.2.2.2.2.2.2.2.2.1.name = yX5_termOf.name) (x0 : Option Nat) (x1 : Int) (x2 : Int) (x4 : Int) (s0 : Option Nat) (s1 : Int) {w : (Int × ax_H) ⊕ (Int × ax_H)} (hl : ax_hl ls 7 [(0, .inr (.inr x0)), (1, .inl x1), (2, .inr (.inl x2)), (4, .inl x4)]) (e : f_X5_termOf_115 G.2.2 g0 g1 g2 x0 x1 x2 x4 s0 s1 h = some w) (hp : (ax_PL (pi_X5_termOf_6 G X Q x0 x1) (fun w : Int × ax_H => Q = ax_Q G X h0 w.2 (some (.long (Int64.ofInt w.1))))) w) : ax_W G X Q h 115 ls [.int (Int32.ofInt s1), va_rf s0] := by
  unfold f_X5_termOf_115 at e
  refine ax_putZ B ff_X5_290_5 (Or.inl rfl) dX5_termOf_115 e (fun h1 e => ?_)
  refine ax_lconst (v := 1) B dX5_termOf_118 rfl ?_
  refine ax_lstore (L' := [(5, .inr (.inl 1)), (0, .inr (.inr x0)), (1, .inl x1), (2, .inr (.inl x2)), (4, .inl x4)]) B dX5_termOf_119 hl (by decide) rfl (fun ls hl => ?_)
  exact w_X5_termOf_121 hF hg0 hg1 hg2 hSF B Z hn x0 x1 x2 x4 1 (hl.sub [1, 2, 3, 4, 0] rfl) e hp
set_option maxHeartbeats 4000000 in
theorem w_X5_termOf_110 {l : Launch} {G : ax_G} {X : ax_X} {Q : State → Prop} {h0 h : ax_H} {ls : Array Slot} {g0 : Option Nat → Int → ax_H → Option (Int × ax_H)} {g1 : Option Nat → Int → ax_H → Option (Int × ax_H)} {g2 : Option Nat → Int → ax_H → Option (Int × ax_H)} {fr lo fr1 lo1 : Nat} (hF : fr1 + 1 ≤ fr ∧ 3 ≤ fr ∧ lo1 + 26 ≤ lo ∧ 87 ≤ lo) (hg0 : ∀ (x0 : Option Nat) (x1 : Int) (h : ax_H) (w : Int × ax_H), g0 x0 x1 h = some w → ax_Met l G yX5_partOf cX5_partOf 5 ((some FieldType.long)) fr1 lo1 [va_rf x0, .int (Int32.ofInt x1)] h w.2 (some (.long (Int64.ofInt w.1)))) (hg1 : ∀ (x0 : Option Nat) (x1 : Int) (h : ax_H) (w : Int × ax_H), g1 x0 x1 h = some w → ax_Met l G yX5_termOf cX5_termOf 7 ((some FieldType.long)) fr1 lo1 [va_rf x0, .int (Int32.ofInt x1)] h w.2 (some (.long (Int64.ofInt w.1)))) (hg2 : ∀ (x0 : Option Nat) (x1 : Int) (h : ax_H) (w : Int × ax_H), g2 x0 x1 h = some w → ax_Met l G yX5_sumOf cX5_sumOf 7 ((some FieldType.long)) fr1 lo1 [va_rf x0, .int (Int32.ofInt x1)] h w.2 (some (.long (Int64.ofInt w.1)))) (hSF : ax_SF G) (B : ax_BL l G X cX5_termOf 7 RX5 fr lo) (Z : ax_Z X h0 ((some FieldType.long))) (hn : X.2.2.2.2.2.2.2.2.1.name = yX5_termOf.name) (x0 : Option Nat) (x1 : Int) (x2 : Int) (x4 : Int) (s0 : Option Nat) {w : (Int × ax_H) ⊕ (Int × ax_H)} (hl : ax_hl ls 7 [(0, .inr (.inr x0)), (1, .inl x1), (2, .inr (.inl x2)), (4, .inl x4)]) (e : f_X5_termOf_110 G.2.2 g0 g1 g2 x0 x1 x2 x4 s0 h = some w) (hp : (ax_PL (pi_X5_termOf_6 G X Q x0 x1) (fun w : Int × ax_H => Q = ax_Q G X h0 w.2 (some (.long (Int64.ofInt w.1))))) w) : ax_W G X Q h 110 ls [va_rf s0] := by
  unfold f_X5_termOf_110 at e
  refine ax_iconst B dX5_termOf_110 ?_
  refine ax_goto (tgt := 115) B dX5_termOf_111 (by decide) ?_
  exact w_X5_termOf_115 hF hg0 hg1 hg2 hSF B Z hn x0 x1 x2 x4 s0 1 (hl.sub [0, 1, 2, 3] rfl) e hp
set_option maxHeartbeats 4000000 in
theorem w_X5_termOf_54 {l : Launch} {G : ax_G} {X : ax_X} {Q : State → Prop} {h0 h : ax_H} {ls : Array Slot} {g0 : Option Nat → Int → ax_H → Option (Int × ax_H)} {g1 : Option Nat → Int → ax_H → Option (Int × ax_H)} {g2 : Option Nat → Int → ax_H → Option (Int × ax_H)} {fr lo fr1 lo1 : Nat} (hF : fr1 + 1 ≤ fr ∧ 3 ≤ fr ∧ lo1 + 26 ≤ lo ∧ 87 ≤ lo) (hg0 : ∀ (x0 : Option Nat) (x1 : Int) (h : ax_H) (w : Int × ax_H), g0 x0 x1 h = some w → ax_Met l G yX5_partOf cX5_partOf 5 ((some FieldType.long)) fr1 lo1 [va_rf x0, .int (Int32.ofInt x1)] h w.2 (some (.long (Int64.ofInt w.1)))) (hg1 : ∀ (x0 : Option Nat) (x1 : Int) (h : ax_H) (w : Int × ax_H), g1 x0 x1 h = some w → ax_Met l G yX5_termOf cX5_termOf 7 ((some FieldType.long)) fr1 lo1 [va_rf x0, .int (Int32.ofInt x1)] h w.2 (some (.long (Int64.ofInt w.1)))) (hg2 : ∀ (x0 : Option Nat) (x1 : Int) (h : ax_H) (w : Int × ax_H), g2 x0 x1 h = some w → ax_Met l G yX5_sumOf cX5_sumOf 7 ((some FieldType.long)) fr1 lo1 [va_rf x0, .int (Int32.ofInt x1)] h w.2 (some (.long (Int64.ofInt w.1)))) (hSF : ax_SF G) (B : ax_BL l G X cX5_termOf 7 RX5 fr lo) (Z : ax_Z X h0 ((some FieldType.long))) (hn : X.2.2.2.2.2.2.2.2.1.name = yX5_termOf.name) (x0 : Option Nat) (x1 : Int) (x2 : Int) {w : (Int × ax_H) ⊕ (Int × ax_H)} (hl : ax_hl ls 7 [(0, .inr (.inr x0)), (1, .inl x1), (2, .inr (.inl x2))]) (e : f_X5_termOf_54 G.2.2 g0 g1 g2 x0 x1 x2 h = some w) (hp : (ax_PL (pi_X5_termOf_6 G X Q x0 x1) (fun w : Int × ax_H => Q = ax_Q G X h0 w.2 (some (.long (Int64.ofInt w.1))))) w) : ax_W G X Q h 54 ls [] := by
  unfold f_X5_termOf_54 at e
  refine ax_aload_n B dX5_termOf_54 rfl hl 0 rfl ?_
  refine ax_aload_n B dX5_termOf_55 rfl hl 0 rfl ?_
  refine ax_getI B ff_X5_280_5 (fun _ _ => rfl) dX5_termOf_56 e (fun v1 e => ?_)
  refine ax_ivI (y := yX5_codeAt) (n := 1) (As := [.int (Int32.ofInt v1)]) B kd5 (lw_V q2250 q2252 qs56 q133 q2253) (by decide +kernel) (by omega) (fun w1 e1 => mt_X5_codeAt l G hSF x0 v1 _ w1 e1) rfl hl.size (by decide) dX5_termOf_59 e (fun q2 e => ?_)
  refine ax_istore (L' := [(4, .inl q2.1), (0, .inr (.inr x0)), (1, .inl x1), (2, .inr (.inl x2))]) B dX5_termOf_62 hl (by decide) rfl (fun ls hl => ?_)
  refine ax_aload_n B dX5_termOf_64 rfl hl 1 rfl ?_
  refine ax_dup B dX5_termOf_65 (va_rf_cat _) ?_
  refine ax_getI B ff_X5_280_5 (fun _ _ => rfl) dX5_termOf_66 e (fun v3 e => ?_)
  refine ax_iconst B dX5_termOf_69 ?_
  refine ax_iadd' B dX5_termOf_70 ?_
  refine ax_putI B ff_X5_280_5 (Or.inl rfl) rfl dX5_termOf_71 e (fun h4 e => ?_)
  refine ax_aload_n B dX5_termOf_74 rfl hl 1 rfl ?_
  refine ax_iload_n B dX5_termOf_75 rfl hl 2 rfl ?_
  refine ax_ivL (y := yX5_partOf) (n := 1) (As := [.int (Int32.ofInt x1)]) B kd5 (lw_V q2262 q2264 qs59 q133 q2265) (by decide +kernel) (by omega) (fun w1 e1 => hg0 x0 x1 _ w1 e1) rfl hl.size (by decide) dX5_termOf_76 e (fun q5 e => ?_)
  refine ax_lstore (L' := [(5, .inr (.inl q5.1)), (4, .inl q2.1), (0, .inr (.inr x0)), (1, .inl x1), (2, .inr (.inl x2))]) B dX5_termOf_79 hl (by decide) rfl (fun ls hl => ?_)
  refine ax_iload B dX5_termOf_81 hl 1 rfl ?_
  refine ax_bipush B dX5_termOf_83 (by decide) ?_
  refine ax_isI (y := yX5_sign) (n := 1) (As := [.int (Int32.ofInt 42)]) B (lw_S q2266 q2267 q133 q2268) (by decide +kernel) (by omega) (fun w1 e1 => mt_X5_sign l G hSF 42 _ w1 e1) rfl hl.size (by simp only [List.map_cons, List.map_nil, List.sum_cons, List.sum_nil, va_rf_cat, ax_catI, ax_catL]; decide) dX5_termOf_85 e (fun q6 e => ?_)
  refine ax_icmp_eq (tgt := 121) B dX5_termOf_88 (by decide) e (fun e => ?_) (fun e => ?_)
  · exact w_X5_termOf_121 hF hg0 hg1 hg2 hSF B Z hn x0 x1 x2 q2.1 q5.1 (hl.sub [2, 3, 4, 1, 0] rfl) e hp
  · refine ax_lload B dX5_termOf_91 hl 0 rfl ?_
    refine ax_lconst (v := 0) B dX5_termOf_93 rfl ?_
    refine ax_lcmp' B dX5_termOf_94 ?_
    refine ax_if_ne (tgt := 121) B dX5_termOf_95 (by decide) e (fun e => ?_) (fun e => ?_)
    · refine ax_aload_n B dX5_termOf_98 rfl hl 2 rfl ?_
      refine ax_aload_n B dX5_termOf_99 rfl hl 2 rfl ?_
      refine ax_getI B ff_X5_290_5 (fun _ _ => rfl) dX5_termOf_100 e (fun v7 e => ?_)
      refine ax_if_ne (tgt := 110) B dX5_termOf_103 (by decide) e (fun e => ?_) (fun e => ?_)
      · refine ax_iload_n B dX5_termOf_106 rfl hl 3 rfl ?_
        refine ax_if_eq (tgt := 114) B dX5_termOf_107 (by decide) e (fun e => ?_) (fun e => ?_)
        · refine ax_iconst B dX5_termOf_114 ?_
          exact w_X5_termOf_115 hF hg0 hg1 hg2 hSF B Z hn x0 x1 x2 q2.1 x0 0 (hl.sub [2, 3, 4, 1] rfl) e hp
        · exact w_X5_termOf_110 hF hg0 hg1 hg2 hSF B Z hn x0 x1 x2 q2.1 x0 (hl.sub [2, 3, 4, 1] rfl) e hp
      · exact w_X5_termOf_110 hF hg0 hg1 hg2 hSF B Z hn x0 x1 x2 q2.1 x0 (hl.sub [2, 3, 4, 1] rfl) e hp
    · exact w_X5_termOf_121 hF hg0 hg1 hg2 hSF B Z hn x0 x1 x2 q2.1 q5.1 (hl.sub [2, 3, 4, 1, 0] rfl) e hp
set_option maxHeartbeats 4000000 in
theorem wb_X5_termOf_6 {l : Launch} {G : ax_G} {X : ax_X} {Q : State → Prop} {h0 h : ax_H} {ls : Array Slot} {g0 : Option Nat → Int → ax_H → Option (Int × ax_H)} {g1 : Option Nat → Int → ax_H → Option (Int × ax_H)} {g2 : Option Nat → Int → ax_H → Option (Int × ax_H)} {fr lo fr1 lo1 : Nat} (hF : fr1 + 1 ≤ fr ∧ 3 ≤ fr ∧ lo1 + 26 ≤ lo ∧ 87 ≤ lo) (hg0 : ∀ (x0 : Option Nat) (x1 : Int) (h : ax_H) (w : Int × ax_H), g0 x0 x1 h = some w → ax_Met l G yX5_partOf cX5_partOf 5 ((some FieldType.long)) fr1 lo1 [va_rf x0, .int (Int32.ofInt x1)] h w.2 (some (.long (Int64.ofInt w.1)))) (hg1 : ∀ (x0 : Option Nat) (x1 : Int) (h : ax_H) (w : Int × ax_H), g1 x0 x1 h = some w → ax_Met l G yX5_termOf cX5_termOf 7 ((some FieldType.long)) fr1 lo1 [va_rf x0, .int (Int32.ofInt x1)] h w.2 (some (.long (Int64.ofInt w.1)))) (hg2 : ∀ (x0 : Option Nat) (x1 : Int) (h : ax_H) (w : Int × ax_H), g2 x0 x1 h = some w → ax_Met l G yX5_sumOf cX5_sumOf 7 ((some FieldType.long)) fr1 lo1 [va_rf x0, .int (Int32.ofInt x1)] h w.2 (some (.long (Int64.ofInt w.1)))) (hSF : ax_SF G) (B : ax_BL l G X cX5_termOf 7 RX5 fr lo) (Z : ax_Z X h0 ((some FieldType.long))) (hn : X.2.2.2.2.2.2.2.2.1.name = yX5_termOf.name) (x0 : Option Nat) (x1 : Int) (x2 : Int) {w : (Int × ax_H) ⊕ (Int × ax_H)} (hl : ax_hl ls 7 [(0, .inr (.inr x0)), (1, .inl x1), (2, .inr (.inl x2))]) (e : lb_X5_termOf_6 G.2.2 g0 g1 g2 x0 x1 x2 h = some w) (hp : (ax_PL (pi_X5_termOf_6 G X Q x0 x1) (fun w : Int × ax_H => Q = ax_Q G X h0 w.2 (some (.long (Int64.ofInt w.1))))) w) : ax_W G X Q h 6 ls [] := by
  unfold lb_X5_termOf_6 at e
  refine ax_aload_n B dX5_termOf_6 rfl hl 0 rfl ?_
  refine ax_aload_n B dX5_termOf_7 rfl hl 0 rfl ?_
  refine ax_getI B ff_X5_280_5 (fun _ _ => rfl) dX5_termOf_8 e (fun v1 e => ?_)
  refine ax_ivI (y := yX5_codeAt) (n := 1) (As := [.int (Int32.ofInt v1)]) B kd5 (lw_V q2250 q2252 qs56 q133 q2253) (by decide +kernel) (by omega) (fun w1 e1 => mt_X5_codeAt l G hSF x0 v1 _ w1 e1) rfl hl.size (by decide) dX5_termOf_11 e (fun q2 e => ?_)
  refine ax_bipush B dX5_termOf_14 (by decide) ?_
  refine ax_isI (y := yX5_sign) (n := 1) (As := [.int (Int32.ofInt 42)]) B (lw_S q2266 q2267 q133 q2268) (by decide +kernel) (by omega) (fun w1 e1 => mt_X5_sign l G hSF 42 _ w1 e1) rfl hl.size (by simp only [List.map_cons, List.map_nil, List.sum_cons, List.sum_nil, va_rf_cat, ax_catI, ax_catL]; decide) dX5_termOf_16 e (fun q3 e => ?_)
  refine ax_icmp_eq (tgt := 54) B dX5_termOf_19 (by decide) e (fun e => ?_) (fun e => ?_)
  · exact w_X5_termOf_54 hF hg0 hg1 hg2 hSF B Z hn x0 x1 x2 (hl.sub [0, 1, 2] rfl) e hp
  · refine ax_aload_n B dX5_termOf_22 rfl hl 0 rfl ?_
    refine ax_aload_n B dX5_termOf_23 rfl hl 0 rfl ?_
    refine ax_getI B ff_X5_280_5 (fun _ _ => rfl) dX5_termOf_24 e (fun v4 e => ?_)
    refine ax_ivI (y := yX5_codeAt) (n := 1) (As := [.int (Int32.ofInt v4)]) B kd5 (lw_V q2250 q2252 qs56 q133 q2253) (by decide +kernel) (by omega) (fun w1 e1 => mt_X5_codeAt l G hSF x0 v4 _ w1 e1) rfl hl.size (by decide) dX5_termOf_27 e (fun q5 e => ?_)
    refine ax_bipush B dX5_termOf_30 (by decide) ?_
    refine ax_isI (y := yX5_sign) (n := 1) (As := [.int (Int32.ofInt 47)]) B (lw_S q2266 q2267 q133 q2268) (by decide +kernel) (by omega) (fun w1 e1 => mt_X5_sign l G hSF 47 _ w1 e1) rfl hl.size (by simp only [List.map_cons, List.map_nil, List.sum_cons, List.sum_nil, va_rf_cat, ax_catI, ax_catL]; decide) dX5_termOf_32 e (fun q6 e => ?_)
    refine ax_icmp_eq (tgt := 54) B dX5_termOf_35 (by decide) e (fun e => ?_) (fun e => ?_)
    · exact w_X5_termOf_54 hF hg0 hg1 hg2 hSF B Z hn x0 x1 x2 (hl.sub [0, 1, 2] rfl) e hp
    · refine ax_aload_n B dX5_termOf_38 rfl hl 0 rfl ?_
      refine ax_aload_n B dX5_termOf_39 rfl hl 0 rfl ?_
      refine ax_getI B ff_X5_280_5 (fun _ _ => rfl) dX5_termOf_40 e (fun v7 e => ?_)
      refine ax_ivI (y := yX5_codeAt) (n := 1) (As := [.int (Int32.ofInt v7)]) B kd5 (lw_V q2250 q2252 qs56 q133 q2253) (by decide +kernel) (by omega) (fun w1 e1 => mt_X5_codeAt l G hSF x0 v7 _ w1 e1) rfl hl.size (by decide) dX5_termOf_43 e (fun q8 e => ?_)
      refine ax_bipush B dX5_termOf_46 (by decide) ?_
      refine ax_isI (y := yX5_sign) (n := 1) (As := [.int (Int32.ofInt 37)]) B (lw_S q2266 q2267 q133 q2268) (by decide +kernel) (by omega) (fun w1 e1 => mt_X5_sign l G hSF 37 _ w1 e1) rfl hl.size (by simp only [List.map_cons, List.map_nil, List.sum_cons, List.sum_nil, va_rf_cat, ax_catI, ax_catL]; decide) dX5_termOf_48 e (fun q9 e => ?_)
      refine ax_icmp_ne (tgt := 168) B dX5_termOf_51 (by decide) e (fun e => ?_) (fun e => ?_)
      · exact w_X5_termOf_54 hF hg0 hg1 hg2 hSF B Z hn x0 x1 x2 (hl.sub [0, 1, 2] rfl) e hp
      · obtain ⟨w, e9_1, rfl⟩ := Option.map_eq_some_iff.mp e
        have e := e9_1
        refine ax_lload_n B dX5_termOf_168 rfl hl 2 rfl ?_
        have e8 := e
        have hp : Q = _ := hp
        subst hp
        exact ax_lreturn B Z dX5_termOf_169 e8
theorem w_X5_termOf_6 {l : Launch} {G : ax_G} {X : ax_X} {Q : State → Prop} {h0 h : ax_H} {ls : Array Slot} {g0 : Option Nat → Int → ax_H → Option (Int × ax_H)} {g1 : Option Nat → Int → ax_H → Option (Int × ax_H)} {g2 : Option Nat → Int → ax_H → Option (Int × ax_H)} {fr lo fr1 lo1 : Nat} (hF : fr1 + 1 ≤ fr ∧ 3 ≤ fr ∧ lo1 + 26 ≤ lo ∧ 87 ≤ lo) (hg0 : ∀ (x0 : Option Nat) (x1 : Int) (h : ax_H) (w : Int × ax_H), g0 x0 x1 h = some w → ax_Met l G yX5_partOf cX5_partOf 5 ((some FieldType.long)) fr1 lo1 [va_rf x0, .int (Int32.ofInt x1)] h w.2 (some (.long (Int64.ofInt w.1)))) (hg1 : ∀ (x0 : Option Nat) (x1 : Int) (h : ax_H) (w : Int × ax_H), g1 x0 x1 h = some w → ax_Met l G yX5_termOf cX5_termOf 7 ((some FieldType.long)) fr1 lo1 [va_rf x0, .int (Int32.ofInt x1)] h w.2 (some (.long (Int64.ofInt w.1)))) (hg2 : ∀ (x0 : Option Nat) (x1 : Int) (h : ax_H) (w : Int × ax_H), g2 x0 x1 h = some w → ax_Met l G yX5_sumOf cX5_sumOf 7 ((some FieldType.long)) fr1 lo1 [va_rf x0, .int (Int32.ofInt x1)] h w.2 (some (.long (Int64.ofInt w.1)))) (hSF : ax_SF G) (B : ax_BL l G X cX5_termOf 7 RX5 fr lo) (Z : ax_Z X h0 ((some FieldType.long))) (hn : X.2.2.2.2.2.2.2.2.1.name = yX5_termOf.name) (x0 : Option Nat) (x1 : Int) (x2 : Int) {w : Int × ax_H} (hl : ax_hl ls 7 [(0, .inr (.inr x0)), (1, .inl x1), (2, .inr (.inl x2))]) (e : f_X5_termOf_6 G.2.2 g0 g1 g2 x0 x1 x2 h = some w) (hp : (fun w : Int × ax_H => Q = ax_Q G X h0 w.2 (some (.long (Int64.ofInt w.1)))) w) : ax_W G X Q h 6 ls [] :=
  ax_iter_W (Pin := pi_X5_termOf_6 G X Q x0 x1) (Pout := (fun w : Int × ax_H => Q = ax_Q G X h0 w.2 (some (.long (Int64.ofInt w.1))))) (fun s w e hp ls hl => wb_X5_termOf_6 hF hg0 hg1 hg2 hSF B Z hn x0 x1 s.1 hl e hp) _ _ e hp ls hl
set_option maxHeartbeats 4000000 in
theorem we_X5_termOf {l : Launch} {G : ax_G} {X : ax_X} {Q : State → Prop} {h0 h : ax_H} {ls : Array Slot} {g0 : Option Nat → Int → ax_H → Option (Int × ax_H)} {g1 : Option Nat → Int → ax_H → Option (Int × ax_H)} {g2 : Option Nat → Int → ax_H → Option (Int × ax_H)} {fr lo fr1 lo1 : Nat} (hF : fr1 + 1 ≤ fr ∧ 3 ≤ fr ∧ lo1 + 26 ≤ lo ∧ 87 ≤ lo) (hg0 : ∀ (x0 : Option Nat) (x1 : Int) (h : ax_H) (w : Int × ax_H), g0 x0 x1 h = some w → ax_Met l G yX5_partOf cX5_partOf 5 ((some FieldType.long)) fr1 lo1 [va_rf x0, .int (Int32.ofInt x1)] h w.2 (some (.long (Int64.ofInt w.1)))) (hg1 : ∀ (x0 : Option Nat) (x1 : Int) (h : ax_H) (w : Int × ax_H), g1 x0 x1 h = some w → ax_Met l G yX5_termOf cX5_termOf 7 ((some FieldType.long)) fr1 lo1 [va_rf x0, .int (Int32.ofInt x1)] h w.2 (some (.long (Int64.ofInt w.1)))) (hg2 : ∀ (x0 : Option Nat) (x1 : Int) (h : ax_H) (w : Int × ax_H), g2 x0 x1 h = some w → ax_Met l G yX5_sumOf cX5_sumOf 7 ((some FieldType.long)) fr1 lo1 [va_rf x0, .int (Int32.ofInt x1)] h w.2 (some (.long (Int64.ofInt w.1)))) (hSF : ax_SF G) (B : ax_BL l G X cX5_termOf 7 RX5 fr lo) (Z : ax_Z X h0 ((some FieldType.long))) (hn : X.2.2.2.2.2.2.2.2.1.name = yX5_termOf.name) (x0 : Option Nat) (x1 : Int) {w : Int × ax_H} (hl : ax_hl ls 7 [(0, .inr (.inr x0)), (1, .inl x1)]) (e : f_X5_termOf G.2.2 g0 g1 g2 x0 x1 h = some w) (hp : (fun w : Int × ax_H => Q = ax_Q G X h0 w.2 (some (.long (Int64.ofInt w.1)))) w) : ax_W G X Q h 0 ls [] := by
  unfold f_X5_termOf at e
  refine ax_aload_n B dX5_termOf_0 rfl hl 0 rfl ?_
  refine ax_iload_n B dX5_termOf_1 rfl hl 1 rfl ?_
  refine ax_ivL (y := yX5_partOf) (n := 1) (As := [.int (Int32.ofInt x1)]) B kd5 (lw_V q2262 q2264 qs59 q133 q2265) (by decide +kernel) (by omega) (fun w1 e1 => hg0 x0 x1 _ w1 e1) rfl hl.size (by decide) dX5_termOf_2 e (fun q1 e => ?_)
  refine ax_lstore_n (L' := [(2, .inr (.inl q1.1)), (0, .inr (.inr x0)), (1, .inl x1)]) B dX5_termOf_5 rfl hl (by decide) rfl (fun ls hl => ?_)
  exact w_X5_termOf_6 hF hg0 hg1 hg2 hSF B Z hn x0 x1 q1.1 (hl.sub [1, 2, 0] rfl) e hp
theorem mt_X5_termOf (l : Launch) (G : ax_G) (hSF : ax_SF G) {g0 : Option Nat → Int → ax_H → Option (Int × ax_H)} {g1 : Option Nat → Int → ax_H → Option (Int × ax_H)} {g2 : Option Nat → Int → ax_H → Option (Int × ax_H)} {fr lo fr1 lo1 : Nat} (hF : fr1 + 1 ≤ fr ∧ 3 ≤ fr ∧ lo1 + 26 ≤ lo ∧ 87 ≤ lo) (hg0 : ∀ (x0 : Option Nat) (x1 : Int) (h : ax_H) (w : Int × ax_H), g0 x0 x1 h = some w → ax_Met l G yX5_partOf cX5_partOf 5 ((some FieldType.long)) fr1 lo1 [va_rf x0, .int (Int32.ofInt x1)] h w.2 (some (.long (Int64.ofInt w.1)))) (hg1 : ∀ (x0 : Option Nat) (x1 : Int) (h : ax_H) (w : Int × ax_H), g1 x0 x1 h = some w → ax_Met l G yX5_termOf cX5_termOf 7 ((some FieldType.long)) fr1 lo1 [va_rf x0, .int (Int32.ofInt x1)] h w.2 (some (.long (Int64.ofInt w.1)))) (hg2 : ∀ (x0 : Option Nat) (x1 : Int) (h : ax_H) (w : Int × ax_H), g2 x0 x1 h = some w → ax_Met l G yX5_sumOf cX5_sumOf 7 ((some FieldType.long)) fr1 lo1 [va_rf x0, .int (Int32.ofInt x1)] h w.2 (some (.long (Int64.ofInt w.1)))) (x0 : Option Nat) (x1 : Int) (h : ax_H) (w : Int × ax_H) (e : f_X5_termOf G.2.2 g0 g1 g2 x0 x1 h = some w) : ax_Met l G yX5_termOf cX5_termOf 7 ((some FieldType.long)) fr lo [va_rf x0, .int (Int32.ofInt x1)] h w.2 (some (.long (Int64.ofInt w.1))) :=
  ax_enter [.inr (.inr x0), .inl x1] (y := yX5_termOf) hSF (plainFor_of_name (by decide +kernel)) (Nat.le_of_ble_eq_true rfl) (fun X ls B Z hn hl => we_X5_termOf hF hg0 hg1 hg2 hSF B Z hn x0 x1 hl e rfl)
def pi_X5_sumOf_6 (G : ax_G) (X : ax_X) (Q : State → Prop) (x0 : Option Nat) (x1 : Int) : Int × ax_H → Prop := fun s => ∀ ls : Array Slot, ax_hl ls 7 [(0, .inr (.inr x0)), (1, .inl x1), (2, .inr (.inl s.1))] → ax_W G X Q s.2 6 ls []
set_option maxHeartbeats 4000000 in
theorem w_X5_sumOf_95 {l : Launch} {G : ax_G} {X : ax_X} {Q : State → Prop} {h0 h : ax_H} {ls : Array Slot} {g0 : Option Nat → Int → ax_H → Option (Int × ax_H)} {g1 : Option Nat → Int → ax_H → Option (Int × ax_H)} {g2 : Option Nat → Int → ax_H → Option (Int × ax_H)} {fr lo fr1 lo1 : Nat} (hF : fr1 + 1 ≤ fr ∧ 3 ≤ fr ∧ lo1 + 26 ≤ lo ∧ 87 ≤ lo) (hg0 : ∀ (x0 : Option Nat) (x1 : Int) (h : ax_H) (w : Int × ax_H), g0 x0 x1 h = some w → ax_Met l G yX5_partOf cX5_partOf 5 ((some FieldType.long)) fr1 lo1 [va_rf x0, .int (Int32.ofInt x1)] h w.2 (some (.long (Int64.ofInt w.1)))) (hg1 : ∀ (x0 : Option Nat) (x1 : Int) (h : ax_H) (w : Int × ax_H), g1 x0 x1 h = some w → ax_Met l G yX5_termOf cX5_termOf 7 ((some FieldType.long)) fr1 lo1 [va_rf x0, .int (Int32.ofInt x1)] h w.2 (some (.long (Int64.ofInt w.1)))) (hg2 : ∀ (x0 : Option Nat) (x1 : Int) (h : ax_H) (w : Int × ax_H), g2 x0 x1 h = some w → ax_Met l G yX5_sumOf cX5_sumOf 7 ((some FieldType.long)) fr1 lo1 [va_rf x0, .int (Int32.ofInt x1)] h w.2 (some (.long (Int64.ofInt w.1)))) (hSF : ax_SF G) (B : ax_BL l G X cX5_sumOf 7 RX5 fr lo) (Z : ax_Z X h0 ((some FieldType.long))) (hn : X.2.2.2.2.2.2.2.2.1.name = yX5_sumOf.name) (x0 : Option Nat) (x1 : Int) (s0 : Option Nat) (s1 : Int) {w : (Int × ax_H) ⊕ (Int × ax_H)} (hl : ax_hl ls 7 [(0, .inr (.inr x0)), (1, .inl x1)]) (e : f_X5_sumOf_95 G.2.2 g0 g1 g2 x0 x1 s0 s1 h = some w) (hp : (ax_PL (pi_X5_sumOf_6 G X Q x0 x1) (fun w : Int × ax_H => Q = ax_Q G X h0 w.2 (some (.long (Int64.ofInt w.1))))) w) : ax_W G X Q h 95 ls [.long (Int64.ofInt s1), va_rf s0] := by
  unfold f_X5_sumOf_95 at e
  refine ax_iload_n B dX5_sumOf_95 rfl hl 1 rfl ?_
  refine ax_ivL (y := yX5_bounded) (n := 2) (As := [.long (Int64.ofInt s1), .int (Int32.ofInt x1)]) B kd5 (lw_V q2274 q2276 qs61 q133 q2277) (by decide +kernel) (by omega) (fun w1 e1 => mt_X5_bounded l G hSF s0 s1 x1 _ w1 e1) rfl hl.size (by decide) dX5_sumOf_96 e (fun q1 e => ?_)
  refine ax_lstore_n (L' := [(2, .inr (.inl q1.1)), (0, .inr (.inr x0)), (1, .inl x1)]) B dX5_sumOf_99 rfl hl (by decide) rfl (fun ls hl => ?_)
  refine ax_goto (tgt := 6) B dX5_sumOf_100 (by decide) ?_
  cases e
  exact hp _ (hl.sub [1, 2, 0] rfl)
set_option maxHeartbeats 4000000 in
theorem w_X5_sumOf_59 {l : Launch} {G : ax_G} {X : ax_X} {Q : State → Prop} {h0 h : ax_H} {ls : Array Slot} {g0 : Option Nat → Int → ax_H → Option (Int × ax_H)} {g1 : Option Nat → Int → ax_H → Option (Int × ax_H)} {g2 : Option Nat → Int → ax_H → Option (Int × ax_H)} {fr lo fr1 lo1 : Nat} (hF : fr1 + 1 ≤ fr ∧ 3 ≤ fr ∧ lo1 + 26 ≤ lo ∧ 87 ≤ lo) (hg0 : ∀ (x0 : Option Nat) (x1 : Int) (h : ax_H) (w : Int × ax_H), g0 x0 x1 h = some w → ax_Met l G yX5_partOf cX5_partOf 5 ((some FieldType.long)) fr1 lo1 [va_rf x0, .int (Int32.ofInt x1)] h w.2 (some (.long (Int64.ofInt w.1)))) (hg1 : ∀ (x0 : Option Nat) (x1 : Int) (h : ax_H) (w : Int × ax_H), g1 x0 x1 h = some w → ax_Met l G yX5_termOf cX5_termOf 7 ((some FieldType.long)) fr1 lo1 [va_rf x0, .int (Int32.ofInt x1)] h w.2 (some (.long (Int64.ofInt w.1)))) (hg2 : ∀ (x0 : Option Nat) (x1 : Int) (h : ax_H) (w : Int × ax_H), g2 x0 x1 h = some w → ax_Met l G yX5_sumOf cX5_sumOf 7 ((some FieldType.long)) fr1 lo1 [va_rf x0, .int (Int32.ofInt x1)] h w.2 (some (.long (Int64.ofInt w.1)))) (hSF : ax_SF G) (B : ax_BL l G X cX5_sumOf 7 RX5 fr lo) (Z : ax_Z X h0 ((some FieldType.long))) (hn : X.2.2.2.2.2.2.2.2.1.name = yX5_sumOf.name) (x0 : Option Nat) (x1 : Int) (x2 : Int) (s0 : Int) {w : (Int × ax_H) ⊕ (Int × ax_H)} (hl : ax_hl ls 7 [(0, .inr (.inr x0)), (1, .inl x1), (2, .inr (.inl x2))]) (e : f_X5_sumOf_59 G.2.2 g0 g1 g2 x0 x1 x2 s0 h = some w) (hp : (ax_PL (pi_X5_sumOf_6 G X Q x0 x1) (fun w : Int × ax_H => Q = ax_Q G X h0 w.2 (some (.long (Int64.ofInt w.1))))) w) : ax_W G X Q h 59 ls [.int (Int32.ofInt s0)] := by
  unfold f_X5_sumOf_59 at e
  refine ax_istore (L' := [(4, .inl s0), (0, .inr (.inr x0)), (1, .inl x1), (2, .inr (.inl x2))]) B dX5_sumOf_59 hl (by decide) rfl (fun ls hl => ?_)
  refine ax_aload_n B dX5_sumOf_61 rfl hl 1 rfl ?_
  refine ax_dup B dX5_sumOf_62 (va_rf_cat _) ?_
  refine ax_getI B ff_X5_280_5 (fun _ _ => rfl) dX5_sumOf_63 e (fun v1 e => ?_)
  refine ax_iconst B dX5_sumOf_66 ?_
  refine ax_iadd' B dX5_sumOf_67 ?_
  refine ax_putI B ff_X5_280_5 (Or.inl rfl) rfl dX5_sumOf_68 e (fun h2 e => ?_)
  refine ax_aload_n B dX5_sumOf_71 rfl hl 1 rfl ?_
  refine ax_iload_n B dX5_sumOf_72 rfl hl 2 rfl ?_
  refine ax_ivL (y := yX5_termOf) (n := 1) (As := [.int (Int32.ofInt x1)]) B kd5 (lw_V q2258 q2260 qs58 q133 q2261) (by decide +kernel) (by omega) (fun w1 e1 => hg1 x0 x1 _ w1 e1) rfl hl.size (by decide) dX5_sumOf_73 e (fun q3 e => ?_)
  refine ax_lstore (L' := [(5, .inr (.inl q3.1)), (4, .inl s0), (0, .inr (.inr x0)), (1, .inl x1), (2, .inr (.inl x2))]) B dX5_sumOf_76 hl (by decide) rfl (fun ls hl => ?_)
  refine ax_aload_n B dX5_sumOf_78 rfl hl 2 rfl ?_
  refine ax_iload B dX5_sumOf_79 hl 1 rfl ?_
  refine ax_if_eq (tgt := 91) B dX5_sumOf_81 (by decide) e (fun e => ?_) (fun e => ?_)
  · refine ax_lload_n B dX5_sumOf_91 rfl hl 4 rfl ?_
    refine ax_lload B dX5_sumOf_92 hl 0 rfl ?_
    refine ax_lsub' B dX5_sumOf_94 ?_
    exact w_X5_sumOf_95 hF hg0 hg1 hg2 hSF B Z hn x0 x1 x0 (x2 - q3.1) (hl.sub [2, 3] rfl) e hp
  · refine ax_lload_n B dX5_sumOf_84 rfl hl 4 rfl ?_
    refine ax_lload B dX5_sumOf_85 hl 0 rfl ?_
    refine ax_ladd' B dX5_sumOf_87 ?_
    refine ax_goto (tgt := 95) B dX5_sumOf_88 (by decide) ?_
    exact w_X5_sumOf_95 hF hg0 hg1 hg2 hSF B Z hn x0 x1 x0 (x2 + q3.1) (hl.sub [2, 3] rfl) e hp
set_option maxHeartbeats 4000000 in
theorem w_X5_sumOf_38 {l : Launch} {G : ax_G} {X : ax_X} {Q : State → Prop} {h0 h : ax_H} {ls : Array Slot} {g0 : Option Nat → Int → ax_H → Option (Int × ax_H)} {g1 : Option Nat → Int → ax_H → Option (Int × ax_H)} {g2 : Option Nat → Int → ax_H → Option (Int × ax_H)} {fr lo fr1 lo1 : Nat} (hF : fr1 + 1 ≤ fr ∧ 3 ≤ fr ∧ lo1 + 26 ≤ lo ∧ 87 ≤ lo) (hg0 : ∀ (x0 : Option Nat) (x1 : Int) (h : ax_H) (w : Int × ax_H), g0 x0 x1 h = some w → ax_Met l G yX5_partOf cX5_partOf 5 ((some FieldType.long)) fr1 lo1 [va_rf x0, .int (Int32.ofInt x1)] h w.2 (some (.long (Int64.ofInt w.1)))) (hg1 : ∀ (x0 : Option Nat) (x1 : Int) (h : ax_H) (w : Int × ax_H), g1 x0 x1 h = some w → ax_Met l G yX5_termOf cX5_termOf 7 ((some FieldType.long)) fr1 lo1 [va_rf x0, .int (Int32.ofInt x1)] h w.2 (some (.long (Int64.ofInt w.1)))) (hg2 : ∀ (x0 : Option Nat) (x1 : Int) (h : ax_H) (w : Int × ax_H), g2 x0 x1 h = some w → ax_Met l G yX5_sumOf cX5_sumOf 7 ((some FieldType.long)) fr1 lo1 [va_rf x0, .int (Int32.ofInt x1)] h w.2 (some (.long (Int64.ofInt w.1)))) (hSF : ax_SF G) (B : ax_BL l G X cX5_sumOf 7 RX5 fr lo) (Z : ax_Z X h0 ((some FieldType.long))) (hn : X.2.2.2.2.2.2.2.2.1.name = yX5_sumOf.name) (x0 : Option Nat) (x1 : Int) (x2 : Int) {w : (Int × ax_H) ⊕ (Int × ax_H)} (hl : ax_hl ls 7 [(0, .inr (.inr x0)), (1, .inl x1), (2, .inr (.inl x2))]) (e : f_X5_sumOf_38 G.2.2 g0 g1 g2 x0 x1 x2 h = some w) (hp : (ax_PL (pi_X5_sumOf_6 G X Q x0 x1) (fun w : Int × ax_H => Q = ax_Q G X h0 w.2 (some (.long (Int64.ofInt w.1))))) w) : ax_W G X Q h 38 ls [] := by
  unfold f_X5_sumOf_38 at e
  refine ax_aload_n B dX5_sumOf_38 rfl hl 0 rfl ?_
  refine ax_aload_n B dX5_sumOf_39 rfl hl 0 rfl ?_
  refine ax_getI B ff_X5_280_5 (fun _ _ => rfl) dX5_sumOf_40 e (fun v1 e => ?_)
  refine ax_ivI (y := yX5_codeAt) (n := 1) (As := [.int (Int32.ofInt v1)]) B kd5 (lw_V q2250 q2252 qs56 q133 q2253) (by decide +kernel) (by omega) (fun w1 e1 => mt_X5_codeAt l G hSF x0 v1 _ w1 e1) rfl hl.size (by decide) dX5_sumOf_43 e (fun q2 e => ?_)
  refine ax_bipush B dX5_sumOf_46 (by decide) ?_
  refine ax_isI (y := yX5_sign) (n := 1) (As := [.int (Int32.ofInt 43)]) B (lw_S q2266 q2267 q133 q2268) (by decide +kernel) (by omega) (fun w1 e1 => mt_X5_sign l G hSF 43 _ w1 e1) rfl hl.size (by simp only [List.map_cons, List.map_nil, List.sum_cons, List.sum_nil, va_rf_cat, ax_catI, ax_catL]; decide) dX5_sumOf_48 e (fun q3 e => ?_)
  refine ax_icmp_ne (tgt := 58) B dX5_sumOf_51 (by decide) e (fun e => ?_) (fun e => ?_)
  · refine ax_iconst B dX5_sumOf_54 ?_
    refine ax_goto (tgt := 59) B dX5_sumOf_55 (by decide) ?_
    exact w_X5_sumOf_59 hF hg0 hg1 hg2 hSF B Z hn x0 x1 x2 1 (hl.sub [0, 1, 2] rfl) e hp
  · refine ax_iconst B dX5_sumOf_58 ?_
    exact w_X5_sumOf_59 hF hg0 hg1 hg2 hSF B Z hn x0 x1 x2 0 (hl.sub [0, 1, 2] rfl) e hp
set_option maxHeartbeats 4000000 in
theorem wb_X5_sumOf_6 {l : Launch} {G : ax_G} {X : ax_X} {Q : State → Prop} {h0 h : ax_H} {ls : Array Slot} {g0 : Option Nat → Int → ax_H → Option (Int × ax_H)} {g1 : Option Nat → Int → ax_H → Option (Int × ax_H)} {g2 : Option Nat → Int → ax_H → Option (Int × ax_H)} {fr lo fr1 lo1 : Nat} (hF : fr1 + 1 ≤ fr ∧ 3 ≤ fr ∧ lo1 + 26 ≤ lo ∧ 87 ≤ lo) (hg0 : ∀ (x0 : Option Nat) (x1 : Int) (h : ax_H) (w : Int × ax_H), g0 x0 x1 h = some w → ax_Met l G yX5_partOf cX5_partOf 5 ((some FieldType.long)) fr1 lo1 [va_rf x0, .int (Int32.ofInt x1)] h w.2 (some (.long (Int64.ofInt w.1)))) (hg1 : ∀ (x0 : Option Nat) (x1 : Int) (h : ax_H) (w : Int × ax_H), g1 x0 x1 h = some w → ax_Met l G yX5_termOf cX5_termOf 7 ((some FieldType.long)) fr1 lo1 [va_rf x0, .int (Int32.ofInt x1)] h w.2 (some (.long (Int64.ofInt w.1)))) (hg2 : ∀ (x0 : Option Nat) (x1 : Int) (h : ax_H) (w : Int × ax_H), g2 x0 x1 h = some w → ax_Met l G yX5_sumOf cX5_sumOf 7 ((some FieldType.long)) fr1 lo1 [va_rf x0, .int (Int32.ofInt x1)] h w.2 (some (.long (Int64.ofInt w.1)))) (hSF : ax_SF G) (B : ax_BL l G X cX5_sumOf 7 RX5 fr lo) (Z : ax_Z X h0 ((some FieldType.long))) (hn : X.2.2.2.2.2.2.2.2.1.name = yX5_sumOf.name) (x0 : Option Nat) (x1 : Int) (x2 : Int) {w : (Int × ax_H) ⊕ (Int × ax_H)} (hl : ax_hl ls 7 [(0, .inr (.inr x0)), (1, .inl x1), (2, .inr (.inl x2))]) (e : lb_X5_sumOf_6 G.2.2 g0 g1 g2 x0 x1 x2 h = some w) (hp : (ax_PL (pi_X5_sumOf_6 G X Q x0 x1) (fun w : Int × ax_H => Q = ax_Q G X h0 w.2 (some (.long (Int64.ofInt w.1))))) w) : ax_W G X Q h 6 ls [] := by
  unfold lb_X5_sumOf_6 at e
  refine ax_aload_n B dX5_sumOf_6 rfl hl 0 rfl ?_
  refine ax_aload_n B dX5_sumOf_7 rfl hl 0 rfl ?_
  refine ax_getI B ff_X5_280_5 (fun _ _ => rfl) dX5_sumOf_8 e (fun v1 e => ?_)
  refine ax_ivI (y := yX5_codeAt) (n := 1) (As := [.int (Int32.ofInt v1)]) B kd5 (lw_V q2250 q2252 qs56 q133 q2253) (by decide +kernel) (by omega) (fun w1 e1 => mt_X5_codeAt l G hSF x0 v1 _ w1 e1) rfl hl.size (by decide) dX5_sumOf_11 e (fun q2 e => ?_)
  refine ax_bipush B dX5_sumOf_14 (by decide) ?_
  refine ax_isI (y := yX5_sign) (n := 1) (As := [.int (Int32.ofInt 43)]) B (lw_S q2266 q2267 q133 q2268) (by decide +kernel) (by omega) (fun w1 e1 => mt_X5_sign l G hSF 43 _ w1 e1) rfl hl.size (by simp only [List.map_cons, List.map_nil, List.sum_cons, List.sum_nil, va_rf_cat, ax_catI, ax_catL]; decide) dX5_sumOf_16 e (fun q3 e => ?_)
  refine ax_icmp_eq (tgt := 38) B dX5_sumOf_19 (by decide) e (fun e => ?_) (fun e => ?_)
  · exact w_X5_sumOf_38 hF hg0 hg1 hg2 hSF B Z hn x0 x1 x2 (hl.sub [0, 1, 2] rfl) e hp
  · refine ax_aload_n B dX5_sumOf_22 rfl hl 0 rfl ?_
    refine ax_aload_n B dX5_sumOf_23 rfl hl 0 rfl ?_
    refine ax_getI B ff_X5_280_5 (fun _ _ => rfl) dX5_sumOf_24 e (fun v4 e => ?_)
    refine ax_ivI (y := yX5_codeAt) (n := 1) (As := [.int (Int32.ofInt v4)]) B kd5 (lw_V q2250 q2252 qs56 q133 q2253) (by decide +kernel) (by omega) (fun w1 e1 => mt_X5_codeAt l G hSF x0 v4 _ w1 e1) rfl hl.size (by decide) dX5_sumOf_27 e (fun q5 e => ?_)
    refine ax_bipush B dX5_sumOf_30 (by decide) ?_
    refine ax_isI (y := yX5_sign) (n := 1) (As := [.int (Int32.ofInt 45)]) B (lw_S q2266 q2267 q133 q2268) (by decide +kernel) (by omega) (fun w1 e1 => mt_X5_sign l G hSF 45 _ w1 e1) rfl hl.size (by simp only [List.map_cons, List.map_nil, List.sum_cons, List.sum_nil, va_rf_cat, ax_catI, ax_catL]; decide) dX5_sumOf_32 e (fun q6 e => ?_)
    refine ax_icmp_ne (tgt := 103) B dX5_sumOf_35 (by decide) e (fun e => ?_) (fun e => ?_)
    · exact w_X5_sumOf_38 hF hg0 hg1 hg2 hSF B Z hn x0 x1 x2 (hl.sub [0, 1, 2] rfl) e hp
    · obtain ⟨w, e9_1, rfl⟩ := Option.map_eq_some_iff.mp e
      have e := e9_1
      refine ax_lload_n B dX5_sumOf_103 rfl hl 2 rfl ?_
      have e8 := e
      have hp : Q = _ := hp
      subst hp
      exact ax_lreturn B Z dX5_sumOf_104 e8
theorem w_X5_sumOf_6 {l : Launch} {G : ax_G} {X : ax_X} {Q : State → Prop} {h0 h : ax_H} {ls : Array Slot} {g0 : Option Nat → Int → ax_H → Option (Int × ax_H)} {g1 : Option Nat → Int → ax_H → Option (Int × ax_H)} {g2 : Option Nat → Int → ax_H → Option (Int × ax_H)} {fr lo fr1 lo1 : Nat} (hF : fr1 + 1 ≤ fr ∧ 3 ≤ fr ∧ lo1 + 26 ≤ lo ∧ 87 ≤ lo) (hg0 : ∀ (x0 : Option Nat) (x1 : Int) (h : ax_H) (w : Int × ax_H), g0 x0 x1 h = some w → ax_Met l G yX5_partOf cX5_partOf 5 ((some FieldType.long)) fr1 lo1 [va_rf x0, .int (Int32.ofInt x1)] h w.2 (some (.long (Int64.ofInt w.1)))) (hg1 : ∀ (x0 : Option Nat) (x1 : Int) (h : ax_H) (w : Int × ax_H), g1 x0 x1 h = some w → ax_Met l G yX5_termOf cX5_termOf 7 ((some FieldType.long)) fr1 lo1 [va_rf x0, .int (Int32.ofInt x1)] h w.2 (some (.long (Int64.ofInt w.1)))) (hg2 : ∀ (x0 : Option Nat) (x1 : Int) (h : ax_H) (w : Int × ax_H), g2 x0 x1 h = some w → ax_Met l G yX5_sumOf cX5_sumOf 7 ((some FieldType.long)) fr1 lo1 [va_rf x0, .int (Int32.ofInt x1)] h w.2 (some (.long (Int64.ofInt w.1)))) (hSF : ax_SF G) (B : ax_BL l G X cX5_sumOf 7 RX5 fr lo) (Z : ax_Z X h0 ((some FieldType.long))) (hn : X.2.2.2.2.2.2.2.2.1.name = yX5_sumOf.name) (x0 : Option Nat) (x1 : Int) (x2 : Int) {w : Int × ax_H} (hl : ax_hl ls 7 [(0, .inr (.inr x0)), (1, .inl x1), (2, .inr (.inl x2))]) (e : f_X5_sumOf_6 G.2.2 g0 g1 g2 x0 x1 x2 h = some w) (hp : (fun w : Int × ax_H => Q = ax_Q G X h0 w.2 (some (.long (Int64.ofInt w.1)))) w) : ax_W G X Q h 6 ls [] :=
  ax_iter_W (Pin := pi_X5_sumOf_6 G X Q x0 x1) (Pout := (fun w : Int × ax_H => Q = ax_Q G X h0 w.2 (some (.long (Int64.ofInt w.1))))) (fun s w e hp ls hl => wb_X5_sumOf_6 hF hg0 hg1 hg2 hSF B Z hn x0 x1 s.1 hl e hp) _ _ e hp ls hl
set_option maxHeartbeats 4000000 in
theorem we_X5_sumOf {l : Launch} {G : ax_G} {X : ax_X} {Q : State → Prop} {h0 h : ax_H} {ls : Array Slot} {g0 : Option Nat → Int → ax_H → Option (Int × ax_H)} {g1 : Option Nat → Int → ax_H → Option (Int × ax_H)} {g2 : Option Nat → Int → ax_H → Option (Int × ax_H)} {fr lo fr1 lo1 : Nat} (hF : fr1 + 1 ≤ fr ∧ 3 ≤ fr ∧ lo1 + 26 ≤ lo ∧ 87 ≤ lo) (hg0 : ∀ (x0 : Option Nat) (x1 : Int) (h : ax_H) (w : Int × ax_H), g0 x0 x1 h = some w → ax_Met l G yX5_partOf cX5_partOf 5 ((some FieldType.long)) fr1 lo1 [va_rf x0, .int (Int32.ofInt x1)] h w.2 (some (.long (Int64.ofInt w.1)))) (hg1 : ∀ (x0 : Option Nat) (x1 : Int) (h : ax_H) (w : Int × ax_H), g1 x0 x1 h = some w → ax_Met l G yX5_termOf cX5_termOf 7 ((some FieldType.long)) fr1 lo1 [va_rf x0, .int (Int32.ofInt x1)] h w.2 (some (.long (Int64.ofInt w.1)))) (hg2 : ∀ (x0 : Option Nat) (x1 : Int) (h : ax_H) (w : Int × ax_H), g2 x0 x1 h = some w → ax_Met l G yX5_sumOf cX5_sumOf 7 ((some FieldType.long)) fr1 lo1 [va_rf x0, .int (Int32.ofInt x1)] h w.2 (some (.long (Int64.ofInt w.1)))) (hSF : ax_SF G) (B : ax_BL l G X cX5_sumOf 7 RX5 fr lo) (Z : ax_Z X h0 ((some FieldType.long))) (hn : X.2.2.2.2.2.2.2.2.1.name = yX5_sumOf.name) (x0 : Option Nat) (x1 : Int) {w : Int × ax_H} (hl : ax_hl ls 7 [(0, .inr (.inr x0)), (1, .inl x1)]) (e : f_X5_sumOf G.2.2 g0 g1 g2 x0 x1 h = some w) (hp : (fun w : Int × ax_H => Q = ax_Q G X h0 w.2 (some (.long (Int64.ofInt w.1)))) w) : ax_W G X Q h 0 ls [] := by
  unfold f_X5_sumOf at e
  refine ax_aload_n B dX5_sumOf_0 rfl hl 0 rfl ?_
  refine ax_iload_n B dX5_sumOf_1 rfl hl 1 rfl ?_
  refine ax_ivL (y := yX5_termOf) (n := 1) (As := [.int (Int32.ofInt x1)]) B kd5 (lw_V q2258 q2260 qs58 q133 q2261) (by decide +kernel) (by omega) (fun w1 e1 => hg1 x0 x1 _ w1 e1) rfl hl.size (by decide) dX5_sumOf_2 e (fun q1 e => ?_)
  refine ax_lstore_n (L' := [(2, .inr (.inl q1.1)), (0, .inr (.inr x0)), (1, .inl x1)]) B dX5_sumOf_5 rfl hl (by decide) rfl (fun ls hl => ?_)
  exact w_X5_sumOf_6 hF hg0 hg1 hg2 hSF B Z hn x0 x1 q1.1 (hl.sub [1, 2, 0] rfl) e hp
theorem mt_X5_sumOf (l : Launch) (G : ax_G) (hSF : ax_SF G) {g0 : Option Nat → Int → ax_H → Option (Int × ax_H)} {g1 : Option Nat → Int → ax_H → Option (Int × ax_H)} {g2 : Option Nat → Int → ax_H → Option (Int × ax_H)} {fr lo fr1 lo1 : Nat} (hF : fr1 + 1 ≤ fr ∧ 3 ≤ fr ∧ lo1 + 26 ≤ lo ∧ 87 ≤ lo) (hg0 : ∀ (x0 : Option Nat) (x1 : Int) (h : ax_H) (w : Int × ax_H), g0 x0 x1 h = some w → ax_Met l G yX5_partOf cX5_partOf 5 ((some FieldType.long)) fr1 lo1 [va_rf x0, .int (Int32.ofInt x1)] h w.2 (some (.long (Int64.ofInt w.1)))) (hg1 : ∀ (x0 : Option Nat) (x1 : Int) (h : ax_H) (w : Int × ax_H), g1 x0 x1 h = some w → ax_Met l G yX5_termOf cX5_termOf 7 ((some FieldType.long)) fr1 lo1 [va_rf x0, .int (Int32.ofInt x1)] h w.2 (some (.long (Int64.ofInt w.1)))) (hg2 : ∀ (x0 : Option Nat) (x1 : Int) (h : ax_H) (w : Int × ax_H), g2 x0 x1 h = some w → ax_Met l G yX5_sumOf cX5_sumOf 7 ((some FieldType.long)) fr1 lo1 [va_rf x0, .int (Int32.ofInt x1)] h w.2 (some (.long (Int64.ofInt w.1)))) (x0 : Option Nat) (x1 : Int) (h : ax_H) (w : Int × ax_H) (e : f_X5_sumOf G.2.2 g0 g1 g2 x0 x1 h = some w) : ax_Met l G yX5_sumOf cX5_sumOf 7 ((some FieldType.long)) fr lo [va_rf x0, .int (Int32.ofInt x1)] h w.2 (some (.long (Int64.ofInt w.1))) :=
  ax_enter [.inr (.inr x0), .inl x1] (y := yX5_sumOf) hSF (plainFor_of_name (by decide +kernel)) (Nat.le_of_ble_eq_true rfl) (fun X ls B Z hn hl => we_X5_sumOf hF hg0 hg1 hg2 hSF B Z hn x0 x1 hl e rfl)
theorem mg_X5_partOf (l : Launch) (G : ax_G) (hSF : ax_SF G) : ∀ n : Nat, (∀ (x0 : Option Nat) (x1 : Int) (h : ax_H) (w : Int × ax_H), (rg_X5_partOf G.2.2 n).1 x0 x1 h = some w → ax_Met l G yX5_partOf cX5_partOf 5 ((some FieldType.long)) (3 + n) (87 + n * 26) [va_rf x0, .int (Int32.ofInt x1)] h w.2 (some (.long (Int64.ofInt w.1)))) ∧ (∀ (x0 : Option Nat) (x1 : Int) (h : ax_H) (w : Int × ax_H), (rg_X5_partOf G.2.2 n).2.1 x0 x1 h = some w → ax_Met l G yX5_termOf cX5_termOf 7 ((some FieldType.long)) (3 + n) (87 + n * 26) [va_rf x0, .int (Int32.ofInt x1)] h w.2 (some (.long (Int64.ofInt w.1)))) ∧ (∀ (x0 : Option Nat) (x1 : Int) (h : ax_H) (w : Int × ax_H), (rg_X5_partOf G.2.2 n).2.2 x0 x1 h = some w → ax_Met l G yX5_sumOf cX5_sumOf 7 ((some FieldType.long)) (3 + n) (87 + n * 26) [va_rf x0, .int (Int32.ofInt x1)] h w.2 (some (.long (Int64.ofInt w.1))))
  | 0 => ⟨fun _ _ _ _ e => (by cases e), fun _ _ _ _ e => (by cases e), fun _ _ _ _ e => (by cases e)⟩
  | n + 1 => by
    have ih := mg_X5_partOf l G hSF n
    exact ⟨fun x0 x1 h w e => mt_X5_partOf l G hSF (fr1 := 3 + n) (lo1 := 87 + n * 26) (by omega) (ih.1) (ih.2.1) (ih.2.2) x0 x1 h w e, fun x0 x1 h w e => mt_X5_termOf l G hSF (fr1 := 3 + n) (lo1 := 87 + n * 26) (by omega) (ih.1) (ih.2.1) (ih.2.2) x0 x1 h w e, fun x0 x1 h w e => mt_X5_sumOf l G hSF (fr1 := 3 + n) (lo1 := 87 + n * 26) (by omega) (ih.1) (ih.2.1) (ih.2.2) x0 x1 h w e⟩
theorem mf_X5_partOf (l : Launch) (G : ax_G) (hSF : ax_SF G) (n : Nat) (x0 : Option Nat) (x1 : Int) (h : ax_H) (w : Int × ax_H) (e : fn_X5_partOf G.2.2 n x0 x1 h = some w) : ax_Met l G yX5_partOf cX5_partOf 5 ((some FieldType.long)) (3 + n) (87 + n * 26) [va_rf x0, .int (Int32.ofInt x1)] h w.2 (some (.long (Int64.ofInt w.1))) := (mg_X5_partOf l G hSF n).1 x0 x1 h w e
theorem mf_X5_termOf (l : Launch) (G : ax_G) (hSF : ax_SF G) (n : Nat) (x0 : Option Nat) (x1 : Int) (h : ax_H) (w : Int × ax_H) (e : fn_X5_termOf G.2.2 n x0 x1 h = some w) : ax_Met l G yX5_termOf cX5_termOf 7 ((some FieldType.long)) (3 + n) (87 + n * 26) [va_rf x0, .int (Int32.ofInt x1)] h w.2 (some (.long (Int64.ofInt w.1))) := (mg_X5_partOf l G hSF n).2.1 x0 x1 h w e
theorem mf_X5_sumOf (l : Launch) (G : ax_G) (hSF : ax_SF G) (n : Nat) (x0 : Option Nat) (x1 : Int) (h : ax_H) (w : Int × ax_H) (e : fn_X5_sumOf G.2.2 n x0 x1 h = some w) : ax_Met l G yX5_sumOf cX5_sumOf 7 ((some FieldType.long)) (3 + n) (87 + n * 26) [va_rf x0, .int (Int32.ofInt x1)] h w.2 (some (.long (Int64.ofInt w.1))) := (mg_X5_partOf l G hSF n).2.2 x0 x1 h w e
def dkwX5_positiveOf_5 : List UInt8 := [154, 0, 7, 4, 167, 0, 4, 3, 172]
abbrev dktX5_positiveOf_5 : List UInt8 := dkwX5_positiveOf_5 ++ []
def dkwX5_positiveOf_4 : List UInt8 := [21, 4, 16, 62, 184, 0, 249, 160, 0, 13, 32, 22, 5, 148, 158, 0, 17, 167, 0, 10, 32, 22, 5, 148]
abbrev dktX5_positiveOf_4 : List UInt8 := dkwX5_positiveOf_4 ++ dktX5_positiveOf_5
def dkwX5_positiveOf_3 : List UInt8 := [154, 0, 54, 21, 4, 16, 60, 184, 0, 249, 160, 0, 13, 32, 22, 5, 148, 156, 0, 37, 167, 0, 30]
abbrev dktX5_positiveOf_3 : List UInt8 := dkwX5_positiveOf_3 ++ dktX5_positiveOf_4
def dkwX5_positiveOf_2 : List UInt8 := [180, 1, 24, 4, 96, 181, 1, 24, 42, 27, 182, 1, 51, 55, 5, 27, 153, 0, 61, 42, 180, 1, 34]
abbrev dktX5_positiveOf_2 : List UInt8 := dkwX5_positiveOf_2 ++ dktX5_positiveOf_3
def dkwX5_positiveOf_1 : List UInt8 := [96, 181, 1, 24, 28, 172, 42, 27, 182, 1, 51, 65, 42, 42, 180, 1, 24, 182, 1, 27, 54, 4, 42, 89]
abbrev dktX5_positiveOf_1 : List UInt8 := dkwX5_positiveOf_1 ++ dktX5_positiveOf_2
def dkwX5_positiveOf_0 : List UInt8 := [42, 16, 40, 184, 0, 249, 182, 1, 48, 153, 0, 21, 42, 27, 182, 1, 69, 61, 42, 89, 180, 1, 24, 4]
abbrev dktX5_positiveOf_0 : List UInt8 := dkwX5_positiveOf_0 ++ dktX5_positiveOf_1
theorem dksX5_positiveOf_0 : cX5_positiveOf.data.toList.drop 0 = dktX5_positiveOf_0 := by decide +kernel
theorem dksX5_positiveOf_1 : cX5_positiveOf.data.toList.drop 24 = dktX5_positiveOf_1 := dk_seg dksX5_positiveOf_0 24 rfl rfl
theorem dksX5_positiveOf_2 : cX5_positiveOf.data.toList.drop 48 = dktX5_positiveOf_2 := dk_seg dksX5_positiveOf_1 24 rfl rfl
theorem dksX5_positiveOf_3 : cX5_positiveOf.data.toList.drop 71 = dktX5_positiveOf_3 := dk_seg dksX5_positiveOf_2 23 rfl rfl
theorem dksX5_positiveOf_4 : cX5_positiveOf.data.toList.drop 94 = dktX5_positiveOf_4 := dk_seg dksX5_positiveOf_3 23 rfl rfl
theorem dksX5_positiveOf_5 : cX5_positiveOf.data.toList.drop 118 = dktX5_positiveOf_5 := dk_seg dksX5_positiveOf_4 24 rfl rfl
theorem dX5_positiveOf_0 : decode cX5_positiveOf 0 = .ok (.aload_n 0, 1) := dk_42 (dk_at dksX5_positiveOf_0 0 rfl rfl)
theorem dX5_positiveOf_1 : decode cX5_positiveOf 1 = .ok (.bipush 40, 2) := dk_16 40 (dk_at dksX5_positiveOf_0 1 rfl rfl)
theorem dX5_positiveOf_3 : decode cX5_positiveOf 3 = .ok (.invokestatic 249, 3) := dk_184 0 249 (dk_at dksX5_positiveOf_0 3 rfl rfl)
theorem dX5_positiveOf_6 : decode cX5_positiveOf 6 = .ok (.invokevirtual 304, 3) := dk_182 1 48 (dk_at dksX5_positiveOf_0 6 rfl rfl)
theorem dX5_positiveOf_9 : decode cX5_positiveOf 9 = .ok (.ifCond .eq 21, 3) := dk_153 0 21 (dk_at dksX5_positiveOf_0 9 rfl rfl)
theorem dX5_positiveOf_12 : decode cX5_positiveOf 12 = .ok (.aload_n 0, 1) := dk_42 (dk_at dksX5_positiveOf_0 12 rfl rfl)
theorem dX5_positiveOf_13 : decode cX5_positiveOf 13 = .ok (.iload_n 1, 1) := dk_27 (dk_at dksX5_positiveOf_0 13 rfl rfl)
theorem dX5_positiveOf_14 : decode cX5_positiveOf 14 = .ok (.invokevirtual 325, 3) := dk_182 1 69 (dk_at dksX5_positiveOf_0 14 rfl rfl)
theorem dX5_positiveOf_17 : decode cX5_positiveOf 17 = .ok (.istore_n 2, 1) := dk_61 (dk_at dksX5_positiveOf_0 17 rfl rfl)
theorem dX5_positiveOf_18 : decode cX5_positiveOf 18 = .ok (.aload_n 0, 1) := dk_42 (dk_at dksX5_positiveOf_0 18 rfl rfl)
theorem dX5_positiveOf_19 : decode cX5_positiveOf 19 = .ok (.dup, 1) := dk_89 (dk_at dksX5_positiveOf_0 19 rfl rfl)
theorem dX5_positiveOf_20 : decode cX5_positiveOf 20 = .ok (.getfield 280, 3) := dk_180 1 24 (dk_at dksX5_positiveOf_0 20 rfl rfl)
theorem dX5_positiveOf_23 : decode cX5_positiveOf 23 = .ok (.iconst 1, 1) := dk_4 (dk_at dksX5_positiveOf_0 23 rfl rfl)
theorem dX5_positiveOf_24 : decode cX5_positiveOf 24 = .ok (.iadd, 1) := dk_96 (dk_at dksX5_positiveOf_1 0 rfl rfl)
theorem dX5_positiveOf_25 : decode cX5_positiveOf 25 = .ok (.putfield 280, 3) := dk_181 1 24 (dk_at dksX5_positiveOf_1 1 rfl rfl)
theorem dX5_positiveOf_28 : decode cX5_positiveOf 28 = .ok (.iload_n 2, 1) := dk_28 (dk_at dksX5_positiveOf_1 4 rfl rfl)
theorem dX5_positiveOf_29 : decode cX5_positiveOf 29 = .ok (.ireturn, 1) := dk_172 (dk_at dksX5_positiveOf_1 5 rfl rfl)
theorem dX5_positiveOf_30 : decode cX5_positiveOf 30 = .ok (.aload_n 0, 1) := dk_42 (dk_at dksX5_positiveOf_1 6 rfl rfl)
theorem dX5_positiveOf_31 : decode cX5_positiveOf 31 = .ok (.iload_n 1, 1) := dk_27 (dk_at dksX5_positiveOf_1 7 rfl rfl)
theorem dX5_positiveOf_32 : decode cX5_positiveOf 32 = .ok (.invokevirtual 307, 3) := dk_182 1 51 (dk_at dksX5_positiveOf_1 8 rfl rfl)
theorem dX5_positiveOf_35 : decode cX5_positiveOf 35 = .ok (.lstore_n 2, 1) := dk_65 (dk_at dksX5_positiveOf_1 11 rfl rfl)
theorem dX5_positiveOf_36 : decode cX5_positiveOf 36 = .ok (.aload_n 0, 1) := dk_42 (dk_at dksX5_positiveOf_1 12 rfl rfl)
theorem dX5_positiveOf_37 : decode cX5_positiveOf 37 = .ok (.aload_n 0, 1) := dk_42 (dk_at dksX5_positiveOf_1 13 rfl rfl)
theorem dX5_positiveOf_38 : decode cX5_positiveOf 38 = .ok (.getfield 280, 3) := dk_180 1 24 (dk_at dksX5_positiveOf_1 14 rfl rfl)
theorem dX5_positiveOf_41 : decode cX5_positiveOf 41 = .ok (.invokevirtual 283, 3) := dk_182 1 27 (dk_at dksX5_positiveOf_1 17 rfl rfl)
theorem dX5_positiveOf_44 : decode cX5_positiveOf 44 = .ok (.istore 4, 2) := dk_54 4 (dk_at dksX5_positiveOf_1 20 rfl rfl)
theorem dX5_positiveOf_46 : decode cX5_positiveOf 46 = .ok (.aload_n 0, 1) := dk_42 (dk_at dksX5_positiveOf_1 22 rfl rfl)
theorem dX5_positiveOf_47 : decode cX5_positiveOf 47 = .ok (.dup, 1) := dk_89 (dk_at dksX5_positiveOf_1 23 rfl rfl)
theorem dX5_positiveOf_48 : decode cX5_positiveOf 48 = .ok (.getfield 280, 3) := dk_180 1 24 (dk_at dksX5_positiveOf_2 0 rfl rfl)
theorem dX5_positiveOf_51 : decode cX5_positiveOf 51 = .ok (.iconst 1, 1) := dk_4 (dk_at dksX5_positiveOf_2 3 rfl rfl)
theorem dX5_positiveOf_52 : decode cX5_positiveOf 52 = .ok (.iadd, 1) := dk_96 (dk_at dksX5_positiveOf_2 4 rfl rfl)
theorem dX5_positiveOf_53 : decode cX5_positiveOf 53 = .ok (.putfield 280, 3) := dk_181 1 24 (dk_at dksX5_positiveOf_2 5 rfl rfl)
theorem dX5_positiveOf_56 : decode cX5_positiveOf 56 = .ok (.aload_n 0, 1) := dk_42 (dk_at dksX5_positiveOf_2 8 rfl rfl)
theorem dX5_positiveOf_57 : decode cX5_positiveOf 57 = .ok (.iload_n 1, 1) := dk_27 (dk_at dksX5_positiveOf_2 9 rfl rfl)
theorem dX5_positiveOf_58 : decode cX5_positiveOf 58 = .ok (.invokevirtual 307, 3) := dk_182 1 51 (dk_at dksX5_positiveOf_2 10 rfl rfl)
theorem dX5_positiveOf_61 : decode cX5_positiveOf 61 = .ok (.lstore 5, 2) := dk_55 5 (dk_at dksX5_positiveOf_2 13 rfl rfl)
theorem dX5_positiveOf_63 : decode cX5_positiveOf 63 = .ok (.iload_n 1, 1) := dk_27 (dk_at dksX5_positiveOf_2 15 rfl rfl)
theorem dX5_positiveOf_64 : decode cX5_positiveOf 64 = .ok (.ifCond .eq 61, 3) := dk_153 0 61 (dk_at dksX5_positiveOf_2 16 rfl rfl)
theorem dX5_positiveOf_67 : decode cX5_positiveOf 67 = .ok (.aload_n 0, 1) := dk_42 (dk_at dksX5_positiveOf_2 19 rfl rfl)
theorem dX5_positiveOf_68 : decode cX5_positiveOf 68 = .ok (.getfield 290, 3) := dk_180 1 34 (dk_at dksX5_positiveOf_2 20 rfl rfl)
theorem dX5_positiveOf_71 : decode cX5_positiveOf 71 = .ok (.ifCond .ne 54, 3) := dk_154 0 54 (dk_at dksX5_positiveOf_3 0 rfl rfl)
theorem dX5_positiveOf_74 : decode cX5_positiveOf 74 = .ok (.iload 4, 2) := dk_21 4 (dk_at dksX5_positiveOf_3 3 rfl rfl)
theorem dX5_positiveOf_76 : decode cX5_positiveOf 76 = .ok (.bipush 60, 2) := dk_16 60 (dk_at dksX5_positiveOf_3 5 rfl rfl)
theorem dX5_positiveOf_78 : decode cX5_positiveOf 78 = .ok (.invokestatic 249, 3) := dk_184 0 249 (dk_at dksX5_positiveOf_3 7 rfl rfl)
theorem dX5_positiveOf_81 : decode cX5_positiveOf 81 = .ok (.if_icmp .ne 13, 3) := dk_160 0 13 (dk_at dksX5_positiveOf_3 10 rfl rfl)
theorem dX5_positiveOf_84 : decode cX5_positiveOf 84 = .ok (.lload_n 2, 1) := dk_32 (dk_at dksX5_positiveOf_3 13 rfl rfl)
theorem dX5_positiveOf_85 : decode cX5_positiveOf 85 = .ok (.lload 5, 2) := dk_22 5 (dk_at dksX5_positiveOf_3 14 rfl rfl)
theorem dX5_positiveOf_87 : decode cX5_positiveOf 87 = .ok (.lcmp, 1) := dk_148 (dk_at dksX5_positiveOf_3 16 rfl rfl)
theorem dX5_positiveOf_88 : decode cX5_positiveOf 88 = .ok (.ifCond .ge 37, 3) := dk_156 0 37 (dk_at dksX5_positiveOf_3 17 rfl rfl)
theorem dX5_positiveOf_91 : decode cX5_positiveOf 91 = .ok (.goto 30, 3) := dk_167 0 30 (dk_at dksX5_positiveOf_3 20 rfl rfl)
theorem dX5_positiveOf_94 : decode cX5_positiveOf 94 = .ok (.iload 4, 2) := dk_21 4 (dk_at dksX5_positiveOf_4 0 rfl rfl)
theorem dX5_positiveOf_96 : decode cX5_positiveOf 96 = .ok (.bipush 62, 2) := dk_16 62 (dk_at dksX5_positiveOf_4 2 rfl rfl)
theorem dX5_positiveOf_98 : decode cX5_positiveOf 98 = .ok (.invokestatic 249, 3) := dk_184 0 249 (dk_at dksX5_positiveOf_4 4 rfl rfl)
theorem dX5_positiveOf_101 : decode cX5_positiveOf 101 = .ok (.if_icmp .ne 13, 3) := dk_160 0 13 (dk_at dksX5_positiveOf_4 7 rfl rfl)
theorem dX5_positiveOf_104 : decode cX5_positiveOf 104 = .ok (.lload_n 2, 1) := dk_32 (dk_at dksX5_positiveOf_4 10 rfl rfl)
theorem dX5_positiveOf_105 : decode cX5_positiveOf 105 = .ok (.lload 5, 2) := dk_22 5 (dk_at dksX5_positiveOf_4 11 rfl rfl)
theorem dX5_positiveOf_107 : decode cX5_positiveOf 107 = .ok (.lcmp, 1) := dk_148 (dk_at dksX5_positiveOf_4 13 rfl rfl)
theorem dX5_positiveOf_108 : decode cX5_positiveOf 108 = .ok (.ifCond .le 17, 3) := dk_158 0 17 (dk_at dksX5_positiveOf_4 14 rfl rfl)
theorem dX5_positiveOf_111 : decode cX5_positiveOf 111 = .ok (.goto 10, 3) := dk_167 0 10 (dk_at dksX5_positiveOf_4 17 rfl rfl)
theorem dX5_positiveOf_114 : decode cX5_positiveOf 114 = .ok (.lload_n 2, 1) := dk_32 (dk_at dksX5_positiveOf_4 20 rfl rfl)
theorem dX5_positiveOf_115 : decode cX5_positiveOf 115 = .ok (.lload 5, 2) := dk_22 5 (dk_at dksX5_positiveOf_4 21 rfl rfl)
theorem dX5_positiveOf_117 : decode cX5_positiveOf 117 = .ok (.lcmp, 1) := dk_148 (dk_at dksX5_positiveOf_4 23 rfl rfl)
theorem dX5_positiveOf_118 : decode cX5_positiveOf 118 = .ok (.ifCond .ne 7, 3) := dk_154 0 7 (dk_at dksX5_positiveOf_5 0 rfl rfl)
theorem dX5_positiveOf_121 : decode cX5_positiveOf 121 = .ok (.iconst 1, 1) := dk_4 (dk_at dksX5_positiveOf_5 3 rfl rfl)
theorem dX5_positiveOf_122 : decode cX5_positiveOf 122 = .ok (.goto 4, 3) := dk_167 0 4 (dk_at dksX5_positiveOf_5 4 rfl rfl)
theorem dX5_positiveOf_125 : decode cX5_positiveOf 125 = .ok (.iconst 0, 1) := dk_3 (dk_at dksX5_positiveOf_5 7 rfl rfl)
theorem dX5_positiveOf_126 : decode cX5_positiveOf 126 = .ok (.ireturn, 1) := dk_172 (dk_at dksX5_positiveOf_5 8 rfl rfl)
def dkwX5_plainOf_1 : List UInt8 := [42, 27, 182, 1, 66, 28, 159, 0, 7, 4, 167, 0, 4, 3, 172]
abbrev dktX5_plainOf_1 : List UInt8 := dkwX5_plainOf_1 ++ []
def dkwX5_plainOf_0 : List UInt8 := [3, 61, 42, 16, 8, 182, 1, 48, 153, 0, 16, 28, 154, 0, 7, 4, 167, 0, 4, 3, 61, 167, 255, 237]
abbrev dktX5_plainOf_0 : List UInt8 := dkwX5_plainOf_0 ++ dktX5_plainOf_1
theorem dksX5_plainOf_0 : cX5_plainOf.data.toList.drop 0 = dktX5_plainOf_0 := by decide +kernel
theorem dksX5_plainOf_1 : cX5_plainOf.data.toList.drop 24 = dktX5_plainOf_1 := dk_seg dksX5_plainOf_0 24 rfl rfl
theorem dX5_plainOf_0 : decode cX5_plainOf 0 = .ok (.iconst 0, 1) := dk_3 (dk_at dksX5_plainOf_0 0 rfl rfl)
theorem dX5_plainOf_1 : decode cX5_plainOf 1 = .ok (.istore_n 2, 1) := dk_61 (dk_at dksX5_plainOf_0 1 rfl rfl)
theorem dX5_plainOf_2 : decode cX5_plainOf 2 = .ok (.aload_n 0, 1) := dk_42 (dk_at dksX5_plainOf_0 2 rfl rfl)
theorem dX5_plainOf_3 : decode cX5_plainOf 3 = .ok (.bipush 8, 2) := dk_16 8 (dk_at dksX5_plainOf_0 3 rfl rfl)
theorem dX5_plainOf_5 : decode cX5_plainOf 5 = .ok (.invokevirtual 304, 3) := dk_182 1 48 (dk_at dksX5_plainOf_0 5 rfl rfl)
theorem dX5_plainOf_8 : decode cX5_plainOf 8 = .ok (.ifCond .eq 16, 3) := dk_153 0 16 (dk_at dksX5_plainOf_0 8 rfl rfl)
theorem dX5_plainOf_11 : decode cX5_plainOf 11 = .ok (.iload_n 2, 1) := dk_28 (dk_at dksX5_plainOf_0 11 rfl rfl)
theorem dX5_plainOf_12 : decode cX5_plainOf 12 = .ok (.ifCond .ne 7, 3) := dk_154 0 7 (dk_at dksX5_plainOf_0 12 rfl rfl)
theorem dX5_plainOf_15 : decode cX5_plainOf 15 = .ok (.iconst 1, 1) := dk_4 (dk_at dksX5_plainOf_0 15 rfl rfl)
theorem dX5_plainOf_16 : decode cX5_plainOf 16 = .ok (.goto 4, 3) := dk_167 0 4 (dk_at dksX5_plainOf_0 16 rfl rfl)
theorem dX5_plainOf_19 : decode cX5_plainOf 19 = .ok (.iconst 0, 1) := dk_3 (dk_at dksX5_plainOf_0 19 rfl rfl)
theorem dX5_plainOf_20 : decode cX5_plainOf 20 = .ok (.istore_n 2, 1) := dk_61 (dk_at dksX5_plainOf_0 20 rfl rfl)
theorem dX5_plainOf_21 : decode cX5_plainOf 21 = .ok (.goto (-19), 3) := dk_167 255 237 (dk_at dksX5_plainOf_0 21 rfl rfl)
theorem dX5_plainOf_24 : decode cX5_plainOf 24 = .ok (.aload_n 0, 1) := dk_42 (dk_at dksX5_plainOf_1 0 rfl rfl)
theorem dX5_plainOf_25 : decode cX5_plainOf 25 = .ok (.iload_n 1, 1) := dk_27 (dk_at dksX5_plainOf_1 1 rfl rfl)
theorem dX5_plainOf_26 : decode cX5_plainOf 26 = .ok (.invokevirtual 322, 3) := dk_182 1 66 (dk_at dksX5_plainOf_1 2 rfl rfl)
theorem dX5_plainOf_29 : decode cX5_plainOf 29 = .ok (.iload_n 2, 1) := dk_28 (dk_at dksX5_plainOf_1 5 rfl rfl)
theorem dX5_plainOf_30 : decode cX5_plainOf 30 = .ok (.if_icmp .eq 7, 3) := dk_159 0 7 (dk_at dksX5_plainOf_1 6 rfl rfl)
theorem dX5_plainOf_33 : decode cX5_plainOf 33 = .ok (.iconst 1, 1) := dk_4 (dk_at dksX5_plainOf_1 9 rfl rfl)
theorem dX5_plainOf_34 : decode cX5_plainOf 34 = .ok (.goto 4, 3) := dk_167 0 4 (dk_at dksX5_plainOf_1 10 rfl rfl)
theorem dX5_plainOf_37 : decode cX5_plainOf 37 = .ok (.iconst 0, 1) := dk_3 (dk_at dksX5_plainOf_1 13 rfl rfl)
theorem dX5_plainOf_38 : decode cX5_plainOf 38 = .ok (.ireturn, 1) := dk_172 (dk_at dksX5_plainOf_1 14 rfl rfl)
def dkwX5_bothOf_2 : List UInt8 := [167, 255, 215, 28, 172]
abbrev dktX5_bothOf_2 : List UInt8 := dkwX5_bothOf_2 ++ []
def dkwX5_bothOf_1 : List UInt8 := [4, 167, 0, 4, 3, 182, 1, 63, 62, 28, 153, 0, 11, 29, 153, 0, 7, 4, 167, 0, 4, 3, 61]
abbrev dktX5_bothOf_1 : List UInt8 := dkwX5_bothOf_1 ++ dktX5_bothOf_2
def dkwX5_bothOf_0 : List UInt8 := [42, 27, 182, 1, 63, 61, 42, 16, 7, 182, 1, 48, 153, 0, 38, 42, 27, 153, 0, 11, 28, 153, 0, 7]
abbrev dktX5_bothOf_0 : List UInt8 := dkwX5_bothOf_0 ++ dktX5_bothOf_1
theorem dksX5_bothOf_0 : cX5_bothOf.data.toList.drop 0 = dktX5_bothOf_0 := by decide +kernel
theorem dksX5_bothOf_1 : cX5_bothOf.data.toList.drop 24 = dktX5_bothOf_1 := dk_seg dksX5_bothOf_0 24 rfl rfl
theorem dksX5_bothOf_2 : cX5_bothOf.data.toList.drop 47 = dktX5_bothOf_2 := dk_seg dksX5_bothOf_1 23 rfl rfl
theorem dX5_bothOf_0 : decode cX5_bothOf 0 = .ok (.aload_n 0, 1) := dk_42 (dk_at dksX5_bothOf_0 0 rfl rfl)
theorem dX5_bothOf_1 : decode cX5_bothOf 1 = .ok (.iload_n 1, 1) := dk_27 (dk_at dksX5_bothOf_0 1 rfl rfl)
theorem dX5_bothOf_2 : decode cX5_bothOf 2 = .ok (.invokevirtual 319, 3) := dk_182 1 63 (dk_at dksX5_bothOf_0 2 rfl rfl)
theorem dX5_bothOf_5 : decode cX5_bothOf 5 = .ok (.istore_n 2, 1) := dk_61 (dk_at dksX5_bothOf_0 5 rfl rfl)
theorem dX5_bothOf_6 : decode cX5_bothOf 6 = .ok (.aload_n 0, 1) := dk_42 (dk_at dksX5_bothOf_0 6 rfl rfl)
theorem dX5_bothOf_7 : decode cX5_bothOf 7 = .ok (.bipush 7, 2) := dk_16 7 (dk_at dksX5_bothOf_0 7 rfl rfl)
theorem dX5_bothOf_9 : decode cX5_bothOf 9 = .ok (.invokevirtual 304, 3) := dk_182 1 48 (dk_at dksX5_bothOf_0 9 rfl rfl)
theorem dX5_bothOf_12 : decode cX5_bothOf 12 = .ok (.ifCond .eq 38, 3) := dk_153 0 38 (dk_at dksX5_bothOf_0 12 rfl rfl)
theorem dX5_bothOf_15 : decode cX5_bothOf 15 = .ok (.aload_n 0, 1) := dk_42 (dk_at dksX5_bothOf_0 15 rfl rfl)
theorem dX5_bothOf_16 : decode cX5_bothOf 16 = .ok (.iload_n 1, 1) := dk_27 (dk_at dksX5_bothOf_0 16 rfl rfl)
theorem dX5_bothOf_17 : decode cX5_bothOf 17 = .ok (.ifCond .eq 11, 3) := dk_153 0 11 (dk_at dksX5_bothOf_0 17 rfl rfl)
theorem dX5_bothOf_20 : decode cX5_bothOf 20 = .ok (.iload_n 2, 1) := dk_28 (dk_at dksX5_bothOf_0 20 rfl rfl)
theorem dX5_bothOf_21 : decode cX5_bothOf 21 = .ok (.ifCond .eq 7, 3) := dk_153 0 7 (dk_at dksX5_bothOf_0 21 rfl rfl)
theorem dX5_bothOf_24 : decode cX5_bothOf 24 = .ok (.iconst 1, 1) := dk_4 (dk_at dksX5_bothOf_1 0 rfl rfl)
theorem dX5_bothOf_25 : decode cX5_bothOf 25 = .ok (.goto 4, 3) := dk_167 0 4 (dk_at dksX5_bothOf_1 1 rfl rfl)
theorem dX5_bothOf_28 : decode cX5_bothOf 28 = .ok (.iconst 0, 1) := dk_3 (dk_at dksX5_bothOf_1 4 rfl rfl)
theorem dX5_bothOf_29 : decode cX5_bothOf 29 = .ok (.invokevirtual 319, 3) := dk_182 1 63 (dk_at dksX5_bothOf_1 5 rfl rfl)
theorem dX5_bothOf_32 : decode cX5_bothOf 32 = .ok (.istore_n 3, 1) := dk_62 (dk_at dksX5_bothOf_1 8 rfl rfl)
theorem dX5_bothOf_33 : decode cX5_bothOf 33 = .ok (.iload_n 2, 1) := dk_28 (dk_at dksX5_bothOf_1 9 rfl rfl)
theorem dX5_bothOf_34 : decode cX5_bothOf 34 = .ok (.ifCond .eq 11, 3) := dk_153 0 11 (dk_at dksX5_bothOf_1 10 rfl rfl)
theorem dX5_bothOf_37 : decode cX5_bothOf 37 = .ok (.iload_n 3, 1) := dk_29 (dk_at dksX5_bothOf_1 13 rfl rfl)
theorem dX5_bothOf_38 : decode cX5_bothOf 38 = .ok (.ifCond .eq 7, 3) := dk_153 0 7 (dk_at dksX5_bothOf_1 14 rfl rfl)
theorem dX5_bothOf_41 : decode cX5_bothOf 41 = .ok (.iconst 1, 1) := dk_4 (dk_at dksX5_bothOf_1 17 rfl rfl)
theorem dX5_bothOf_42 : decode cX5_bothOf 42 = .ok (.goto 4, 3) := dk_167 0 4 (dk_at dksX5_bothOf_1 18 rfl rfl)
theorem dX5_bothOf_45 : decode cX5_bothOf 45 = .ok (.iconst 0, 1) := dk_3 (dk_at dksX5_bothOf_1 21 rfl rfl)
theorem dX5_bothOf_46 : decode cX5_bothOf 46 = .ok (.istore_n 2, 1) := dk_61 (dk_at dksX5_bothOf_1 22 rfl rfl)
theorem dX5_bothOf_47 : decode cX5_bothOf 47 = .ok (.goto (-41), 3) := dk_167 255 215 (dk_at dksX5_bothOf_2 0 rfl rfl)
theorem dX5_bothOf_50 : decode cX5_bothOf 50 = .ok (.iload_n 2, 1) := dk_28 (dk_at dksX5_bothOf_2 3 rfl rfl)
theorem dX5_bothOf_51 : decode cX5_bothOf 51 = .ok (.ireturn, 1) := dk_172 (dk_at dksX5_bothOf_2 4 rfl rfl)
def dkwX5_testOf_2 : List UInt8 := [167, 255, 215, 28, 172]
abbrev dktX5_testOf_2 : List UInt8 := dkwX5_testOf_2 ++ []
def dkwX5_testOf_1 : List UInt8 := [4, 167, 0, 4, 3, 182, 1, 59, 62, 28, 154, 0, 7, 29, 153, 0, 7, 4, 167, 0, 4, 3, 61]
abbrev dktX5_testOf_1 : List UInt8 := dkwX5_testOf_1 ++ dktX5_testOf_2
def dkwX5_testOf_0 : List UInt8 := [42, 27, 182, 1, 59, 61, 42, 16, 6, 182, 1, 48, 153, 0, 38, 42, 27, 153, 0, 11, 28, 154, 0, 7]
abbrev dktX5_testOf_0 : List UInt8 := dkwX5_testOf_0 ++ dktX5_testOf_1
theorem dksX5_testOf_0 : cX5_testOf.data.toList.drop 0 = dktX5_testOf_0 := by decide +kernel
theorem dksX5_testOf_1 : cX5_testOf.data.toList.drop 24 = dktX5_testOf_1 := dk_seg dksX5_testOf_0 24 rfl rfl
theorem dksX5_testOf_2 : cX5_testOf.data.toList.drop 47 = dktX5_testOf_2 := dk_seg dksX5_testOf_1 23 rfl rfl
theorem dX5_testOf_0 : decode cX5_testOf 0 = .ok (.aload_n 0, 1) := dk_42 (dk_at dksX5_testOf_0 0 rfl rfl)
theorem dX5_testOf_1 : decode cX5_testOf 1 = .ok (.iload_n 1, 1) := dk_27 (dk_at dksX5_testOf_0 1 rfl rfl)
theorem dX5_testOf_2 : decode cX5_testOf 2 = .ok (.invokevirtual 315, 3) := dk_182 1 59 (dk_at dksX5_testOf_0 2 rfl rfl)
theorem dX5_testOf_5 : decode cX5_testOf 5 = .ok (.istore_n 2, 1) := dk_61 (dk_at dksX5_testOf_0 5 rfl rfl)
theorem dX5_testOf_6 : decode cX5_testOf 6 = .ok (.aload_n 0, 1) := dk_42 (dk_at dksX5_testOf_0 6 rfl rfl)
theorem dX5_testOf_7 : decode cX5_testOf 7 = .ok (.bipush 6, 2) := dk_16 6 (dk_at dksX5_testOf_0 7 rfl rfl)
theorem dX5_testOf_9 : decode cX5_testOf 9 = .ok (.invokevirtual 304, 3) := dk_182 1 48 (dk_at dksX5_testOf_0 9 rfl rfl)
theorem dX5_testOf_12 : decode cX5_testOf 12 = .ok (.ifCond .eq 38, 3) := dk_153 0 38 (dk_at dksX5_testOf_0 12 rfl rfl)
theorem dX5_testOf_15 : decode cX5_testOf 15 = .ok (.aload_n 0, 1) := dk_42 (dk_at dksX5_testOf_0 15 rfl rfl)
theorem dX5_testOf_16 : decode cX5_testOf 16 = .ok (.iload_n 1, 1) := dk_27 (dk_at dksX5_testOf_0 16 rfl rfl)
theorem dX5_testOf_17 : decode cX5_testOf 17 = .ok (.ifCond .eq 11, 3) := dk_153 0 11 (dk_at dksX5_testOf_0 17 rfl rfl)
theorem dX5_testOf_20 : decode cX5_testOf 20 = .ok (.iload_n 2, 1) := dk_28 (dk_at dksX5_testOf_0 20 rfl rfl)
theorem dX5_testOf_21 : decode cX5_testOf 21 = .ok (.ifCond .ne 7, 3) := dk_154 0 7 (dk_at dksX5_testOf_0 21 rfl rfl)
theorem dX5_testOf_24 : decode cX5_testOf 24 = .ok (.iconst 1, 1) := dk_4 (dk_at dksX5_testOf_1 0 rfl rfl)
theorem dX5_testOf_25 : decode cX5_testOf 25 = .ok (.goto 4, 3) := dk_167 0 4 (dk_at dksX5_testOf_1 1 rfl rfl)
theorem dX5_testOf_28 : decode cX5_testOf 28 = .ok (.iconst 0, 1) := dk_3 (dk_at dksX5_testOf_1 4 rfl rfl)
theorem dX5_testOf_29 : decode cX5_testOf 29 = .ok (.invokevirtual 315, 3) := dk_182 1 59 (dk_at dksX5_testOf_1 5 rfl rfl)
theorem dX5_testOf_32 : decode cX5_testOf 32 = .ok (.istore_n 3, 1) := dk_62 (dk_at dksX5_testOf_1 8 rfl rfl)
theorem dX5_testOf_33 : decode cX5_testOf 33 = .ok (.iload_n 2, 1) := dk_28 (dk_at dksX5_testOf_1 9 rfl rfl)
theorem dX5_testOf_34 : decode cX5_testOf 34 = .ok (.ifCond .ne 7, 3) := dk_154 0 7 (dk_at dksX5_testOf_1 10 rfl rfl)
theorem dX5_testOf_37 : decode cX5_testOf 37 = .ok (.iload_n 3, 1) := dk_29 (dk_at dksX5_testOf_1 13 rfl rfl)
theorem dX5_testOf_38 : decode cX5_testOf 38 = .ok (.ifCond .eq 7, 3) := dk_153 0 7 (dk_at dksX5_testOf_1 14 rfl rfl)
theorem dX5_testOf_41 : decode cX5_testOf 41 = .ok (.iconst 1, 1) := dk_4 (dk_at dksX5_testOf_1 17 rfl rfl)
theorem dX5_testOf_42 : decode cX5_testOf 42 = .ok (.goto 4, 3) := dk_167 0 4 (dk_at dksX5_testOf_1 18 rfl rfl)
theorem dX5_testOf_45 : decode cX5_testOf 45 = .ok (.iconst 0, 1) := dk_3 (dk_at dksX5_testOf_1 21 rfl rfl)
theorem dX5_testOf_46 : decode cX5_testOf 46 = .ok (.istore_n 2, 1) := dk_61 (dk_at dksX5_testOf_1 22 rfl rfl)
theorem dX5_testOf_47 : decode cX5_testOf 47 = .ok (.goto (-41), 3) := dk_167 255 215 (dk_at dksX5_testOf_2 0 rfl rfl)
theorem dX5_testOf_50 : decode cX5_testOf 50 = .ok (.iload_n 2, 1) := dk_28 (dk_at dksX5_testOf_2 3 rfl rfl)
theorem dX5_testOf_51 : decode cX5_testOf 51 = .ok (.ireturn, 1) := dk_172 (dk_at dksX5_testOf_2 4 rfl rfl)
noncomputable def f_X5_positiveOf_121 (E : ax_E) (g0 : Option Nat → Int → ax_H → Option (Int × ax_H)) (g1 : Option Nat → Int → ax_H → Option (Int × ax_H)) (g2 : Option Nat → Int → ax_H → Option (Int × ax_H)) (g3 : Option Nat → Int → ax_H → Option (Int × ax_H)) (h : ax_H) : Option (Int × ax_H) :=
  some (1, h)
noncomputable def f_X5_positiveOf_125 (E : ax_E) (g0 : Option Nat → Int → ax_H → Option (Int × ax_H)) (g1 : Option Nat → Int → ax_H → Option (Int × ax_H)) (g2 : Option Nat → Int → ax_H → Option (Int × ax_H)) (g3 : Option Nat → Int → ax_H → Option (Int × ax_H)) (h : ax_H) : Option (Int × ax_H) :=
  some (0, h)
noncomputable def f_X5_positiveOf (E : ax_E) (g0 : Option Nat → Int → ax_H → Option (Int × ax_H)) (g1 : Option Nat → Int → ax_H → Option (Int × ax_H)) (g2 : Option Nat → Int → ax_H → Option (Int × ax_H)) (g3 : Option Nat → Int → ax_H → Option (Int × ax_H)) (x0 : Option Nat) (x1 : Int) (h : ax_H) : Option (Int × ax_H) :=
  (f_X5_sign E 40 h).bind fun q1 =>
  (ax_ce E q1.2 x0 5).bind fun _ => (f_X5_passes0 E x0 q1.1 q1.2).bind fun q2 =>
  if i2 q2.1 = 0 then
    (ax_ce E q2.2 x0 5).bind fun _ => (fn_X5_sumOf E 64 x0 x1 q2.2).bind fun q3 =>
    (ax_gI E q3.2 x0 5 20).bind fun v4 =>
    (ax_ce E q3.2 x0 5).bind fun _ => (f_X5_codeAt E x0 v4 q3.2).bind fun q5 =>
    (ax_gI E q5.2 x0 5 20).bind fun v6 =>
    (ax_pI q5.2 x0 5 20 (v6 + 1)).bind fun h7 =>
    (ax_ce E h7 x0 5).bind fun _ => (fn_X5_sumOf E 64 x0 x1 h7).bind fun q8 =>
    if i2 x1 = 0 then
      f_X5_positiveOf_125 E g0 g1 g2 g3 q8.2
    else
      (ax_gI E q8.2 x0 5 22).bind fun v9 =>
      if i2 v9 = 0 then
        (f_X5_sign E 60 q8.2).bind fun q10 =>
        if i2 q5.1 = i2 q10.1 then
          if i2 (ax_cmp q3.1 q8.1) < 0 then
            f_X5_positiveOf_121 E g0 g1 g2 g3 q10.2
          else
            f_X5_positiveOf_125 E g0 g1 g2 g3 q10.2
        else
          (f_X5_sign E 62 q10.2).bind fun q11 =>
          if i2 q5.1 = i2 q11.1 then
            if 0 < i2 (ax_cmp q3.1 q8.1) then
              f_X5_positiveOf_121 E g0 g1 g2 g3 q11.2
            else
              f_X5_positiveOf_125 E g0 g1 g2 g3 q11.2
          else
            if i2 (ax_cmp q3.1 q8.1) = 0 then
              f_X5_positiveOf_121 E g0 g1 g2 g3 q11.2
            else
              f_X5_positiveOf_125 E g0 g1 g2 g3 q11.2
      else
        f_X5_positiveOf_125 E g0 g1 g2 g3 q8.2
  else
    (ax_ce E q2.2 x0 5).bind fun _ => (g3 x0 x1 q2.2).bind fun q12 =>
    (ax_gI E q12.2 x0 5 20).bind fun v13 =>
    (ax_pI q12.2 x0 5 20 (v13 + 1)).bind fun h14 =>
    if q12.1 = 0 ∨ q12.1 = 1 then some (q12.1, h14) else none
noncomputable def f_X5_plainOf_20 (E : ax_E) (g0 : Option Nat → Int → ax_H → Option (Int × ax_H)) (g1 : Option Nat → Int → ax_H → Option (Int × ax_H)) (g2 : Option Nat → Int → ax_H → Option (Int × ax_H)) (g3 : Option Nat → Int → ax_H → Option (Int × ax_H)) (x0 : Option Nat) (x1 : Int) (s0 : Int) (h : ax_H) : Option ((Int × ax_H) ⊕ (Int × ax_H)) :=
  some (.inl (s0, h))
noncomputable def lb_X5_plainOf_2 (E : ax_E) (g0 : Option Nat → Int → ax_H → Option (Int × ax_H)) (g1 : Option Nat → Int → ax_H → Option (Int × ax_H)) (g2 : Option Nat → Int → ax_H → Option (Int × ax_H)) (g3 : Option Nat → Int → ax_H → Option (Int × ax_H)) (x0 : Option Nat) (x1 : Int) (x2 : Int) (h : ax_H) : Option ((Int × ax_H) ⊕ (Int × ax_H)) :=
  (ax_ce E h x0 5).bind fun _ => (f_X5_passes0 E x0 8 h).bind fun q1 =>
  if i2 q1.1 = 0 then
    ((ax_ce E q1.2 x0 5).bind fun _ => (g0 x0 x1 q1.2).bind fun q2 =>
    if i2 q2.1 = i2 x2 then
      some (0, q2.2)
    else
      some (1, q2.2)).map Sum.inr
  else
    if i2 x2 = 0 then
      f_X5_plainOf_20 E g0 g1 g2 g3 x0 x1 1 q1.2
    else
      f_X5_plainOf_20 E g0 g1 g2 g3 x0 x1 0 q1.2
noncomputable def f_X5_plainOf_2 (E : ax_E) (g0 : Option Nat → Int → ax_H → Option (Int × ax_H)) (g1 : Option Nat → Int → ax_H → Option (Int × ax_H)) (g2 : Option Nat → Int → ax_H → Option (Int × ax_H)) (g3 : Option Nat → Int → ax_H → Option (Int × ax_H)) (x0 : Option Nat) (x1 : Int) (x2 : Int) (h : ax_H) : Option (Int × ax_H) :=
  ax_iter (fun s : Int × ax_H => lb_X5_plainOf_2 E g0 g1 g2 g3 x0 x1 s.1 s.2) (x2, h)
noncomputable def f_X5_plainOf (E : ax_E) (g0 : Option Nat → Int → ax_H → Option (Int × ax_H)) (g1 : Option Nat → Int → ax_H → Option (Int × ax_H)) (g2 : Option Nat → Int → ax_H → Option (Int × ax_H)) (g3 : Option Nat → Int → ax_H → Option (Int × ax_H)) (x0 : Option Nat) (x1 : Int) (h : ax_H) : Option (Int × ax_H) :=
  f_X5_plainOf_2 E g0 g1 g2 g3 x0 x1 0 h
noncomputable def f_X5_bothOf_46 (E : ax_E) (g0 : Option Nat → Int → ax_H → Option (Int × ax_H)) (g1 : Option Nat → Int → ax_H → Option (Int × ax_H)) (g2 : Option Nat → Int → ax_H → Option (Int × ax_H)) (g3 : Option Nat → Int → ax_H → Option (Int × ax_H)) (x0 : Option Nat) (x1 : Int) (s0 : Int) (h : ax_H) : Option ((Int × ax_H) ⊕ (Int × ax_H)) :=
  some (.inl (s0, h))
noncomputable def f_X5_bothOf_45 (E : ax_E) (g0 : Option Nat → Int → ax_H → Option (Int × ax_H)) (g1 : Option Nat → Int → ax_H → Option (Int × ax_H)) (g2 : Option Nat → Int → ax_H → Option (Int × ax_H)) (g3 : Option Nat → Int → ax_H → Option (Int × ax_H)) (x0 : Option Nat) (x1 : Int) (h : ax_H) : Option ((Int × ax_H) ⊕ (Int × ax_H)) :=
  f_X5_bothOf_46 E g0 g1 g2 g3 x0 x1 0 h
noncomputable def f_X5_bothOf_29 (E : ax_E) (g0 : Option Nat → Int → ax_H → Option (Int × ax_H)) (g1 : Option Nat → Int → ax_H → Option (Int × ax_H)) (g2 : Option Nat → Int → ax_H → Option (Int × ax_H)) (g3 : Option Nat → Int → ax_H → Option (Int × ax_H)) (x0 : Option Nat) (x1 : Int) (x2 : Int) (s0 : Option Nat) (s1 : Int) (h : ax_H) : Option ((Int × ax_H) ⊕ (Int × ax_H)) :=
  (ax_ce E h s0 5).bind fun _ => (g1 s0 s1 h).bind fun q1 =>
  if i2 x2 = 0 then
    f_X5_bothOf_45 E g0 g1 g2 g3 x0 x1 q1.2
  else
    if i2 q1.1 = 0 then
      f_X5_bothOf_45 E g0 g1 g2 g3 x0 x1 q1.2
    else
      f_X5_bothOf_46 E g0 g1 g2 g3 x0 x1 1 q1.2
noncomputable def f_X5_bothOf_28 (E : ax_E) (g0 : Option Nat → Int → ax_H → Option (Int × ax_H)) (g1 : Option Nat → Int → ax_H → Option (Int × ax_H)) (g2 : Option Nat → Int → ax_H → Option (Int × ax_H)) (g3 : Option Nat → Int → ax_H → Option (Int × ax_H)) (x0 : Option Nat) (x1 : Int) (x2 : Int) (s0 : Option Nat) (h : ax_H) : Option ((Int × ax_H) ⊕ (Int × ax_H)) :=
  f_X5_bothOf_29 E g0 g1 g2 g3 x0 x1 x2 s0 0 h
noncomputable def lb_X5_bothOf_6 (E : ax_E) (g0 : Option Nat → Int → ax_H → Option (Int × ax_H)) (g1 : Option Nat → Int → ax_H → Option (Int × ax_H)) (g2 : Option Nat → Int → ax_H → Option (Int × ax_H)) (g3 : Option Nat → Int → ax_H → Option (Int × ax_H)) (x0 : Option Nat) (x1 : Int) (x2 : Int) (h : ax_H) : Option ((Int × ax_H) ⊕ (Int × ax_H)) :=
  (ax_ce E h x0 5).bind fun _ => (f_X5_passes0 E x0 7 h).bind fun q1 =>
  if i2 q1.1 = 0 then
    (if x2 = 0 ∨ x2 = 1 then some (x2, q1.2) else none).map Sum.inr
  else
    if i2 x1 = 0 then
      f_X5_bothOf_28 E g0 g1 g2 g3 x0 x1 x2 x0 q1.2
    else
      if i2 x2 = 0 then
        f_X5_bothOf_28 E g0 g1 g2 g3 x0 x1 x2 x0 q1.2
      else
        f_X5_bothOf_29 E g0 g1 g2 g3 x0 x1 x2 x0 1 q1.2
noncomputable def f_X5_bothOf_6 (E : ax_E) (g0 : Option Nat → Int → ax_H → Option (Int × ax_H)) (g1 : Option Nat → Int → ax_H → Option (Int × ax_H)) (g2 : Option Nat → Int → ax_H → Option (Int × ax_H)) (g3 : Option Nat → Int → ax_H → Option (Int × ax_H)) (x0 : Option Nat) (x1 : Int) (x2 : Int) (h : ax_H) : Option (Int × ax_H) :=
  ax_iter (fun s : Int × ax_H => lb_X5_bothOf_6 E g0 g1 g2 g3 x0 x1 s.1 s.2) (x2, h)
noncomputable def f_X5_bothOf (E : ax_E) (g0 : Option Nat → Int → ax_H → Option (Int × ax_H)) (g1 : Option Nat → Int → ax_H → Option (Int × ax_H)) (g2 : Option Nat → Int → ax_H → Option (Int × ax_H)) (g3 : Option Nat → Int → ax_H → Option (Int × ax_H)) (x0 : Option Nat) (x1 : Int) (h : ax_H) : Option (Int × ax_H) :=
  (ax_ce E h x0 5).bind fun _ => (g1 x0 x1 h).bind fun q1 =>
  f_X5_bothOf_6 E g0 g1 g2 g3 x0 x1 q1.1 q1.2
noncomputable def f_X5_testOf_46 (E : ax_E) (g0 : Option Nat → Int → ax_H → Option (Int × ax_H)) (g1 : Option Nat → Int → ax_H → Option (Int × ax_H)) (g2 : Option Nat → Int → ax_H → Option (Int × ax_H)) (g3 : Option Nat → Int → ax_H → Option (Int × ax_H)) (x0 : Option Nat) (x1 : Int) (s0 : Int) (h : ax_H) : Option ((Int × ax_H) ⊕ (Int × ax_H)) :=
  some (.inl (s0, h))
noncomputable def f_X5_testOf_41 (E : ax_E) (g0 : Option Nat → Int → ax_H → Option (Int × ax_H)) (g1 : Option Nat → Int → ax_H → Option (Int × ax_H)) (g2 : Option Nat → Int → ax_H → Option (Int × ax_H)) (g3 : Option Nat → Int → ax_H → Option (Int × ax_H)) (x0 : Option Nat) (x1 : Int) (h : ax_H) : Option ((Int × ax_H) ⊕ (Int × ax_H)) :=
  f_X5_testOf_46 E g0 g1 g2 g3 x0 x1 1 h
noncomputable def f_X5_testOf_29 (E : ax_E) (g0 : Option Nat → Int → ax_H → Option (Int × ax_H)) (g1 : Option Nat → Int → ax_H → Option (Int × ax_H)) (g2 : Option Nat → Int → ax_H → Option (Int × ax_H)) (g3 : Option Nat → Int → ax_H → Option (Int × ax_H)) (x0 : Option Nat) (x1 : Int) (x2 : Int) (s0 : Option Nat) (s1 : Int) (h : ax_H) : Option ((Int × ax_H) ⊕ (Int × ax_H)) :=
  (ax_ce E h s0 5).bind fun _ => (g2 s0 s1 h).bind fun q1 =>
  if i2 x2 = 0 then
    if i2 q1.1 = 0 then
      f_X5_testOf_46 E g0 g1 g2 g3 x0 x1 0 q1.2
    else
      f_X5_testOf_41 E g0 g1 g2 g3 x0 x1 q1.2
  else
    f_X5_testOf_41 E g0 g1 g2 g3 x0 x1 q1.2
noncomputable def f_X5_testOf_28 (E : ax_E) (g0 : Option Nat → Int → ax_H → Option (Int × ax_H)) (g1 : Option Nat → Int → ax_H → Option (Int × ax_H)) (g2 : Option Nat → Int → ax_H → Option (Int × ax_H)) (g3 : Option Nat → Int → ax_H → Option (Int × ax_H)) (x0 : Option Nat) (x1 : Int) (x2 : Int) (s0 : Option Nat) (h : ax_H) : Option ((Int × ax_H) ⊕ (Int × ax_H)) :=
  f_X5_testOf_29 E g0 g1 g2 g3 x0 x1 x2 s0 0 h
noncomputable def lb_X5_testOf_6 (E : ax_E) (g0 : Option Nat → Int → ax_H → Option (Int × ax_H)) (g1 : Option Nat → Int → ax_H → Option (Int × ax_H)) (g2 : Option Nat → Int → ax_H → Option (Int × ax_H)) (g3 : Option Nat → Int → ax_H → Option (Int × ax_H)) (x0 : Option Nat) (x1 : Int) (x2 : Int) (h : ax_H) : Option ((Int × ax_H) ⊕ (Int × ax_H)) :=
  (ax_ce E h x0 5).bind fun _ => (f_X5_passes0 E x0 6 h).bind fun q1 =>
  if i2 q1.1 = 0 then
    (if x2 = 0 ∨ x2 = 1 then some (x2, q1.2) else none).map Sum.inr
  else
    if i2 x1 = 0 then
      f_X5_testOf_28 E g0 g1 g2 g3 x0 x1 x2 x0 q1.2
    else
      if i2 x2 = 0 then
        f_X5_testOf_29 E g0 g1 g2 g3 x0 x1 x2 x0 1 q1.2
      else
        f_X5_testOf_28 E g0 g1 g2 g3 x0 x1 x2 x0 q1.2
noncomputable def f_X5_testOf_6 (E : ax_E) (g0 : Option Nat → Int → ax_H → Option (Int × ax_H)) (g1 : Option Nat → Int → ax_H → Option (Int × ax_H)) (g2 : Option Nat → Int → ax_H → Option (Int × ax_H)) (g3 : Option Nat → Int → ax_H → Option (Int × ax_H)) (x0 : Option Nat) (x1 : Int) (x2 : Int) (h : ax_H) : Option (Int × ax_H) :=
  ax_iter (fun s : Int × ax_H => lb_X5_testOf_6 E g0 g1 g2 g3 x0 x1 s.1 s.2) (x2, h)
noncomputable def f_X5_testOf (E : ax_E) (g0 : Option Nat → Int → ax_H → Option (Int × ax_H)) (g1 : Option Nat → Int → ax_H → Option (Int × ax_H)) (g2 : Option Nat → Int → ax_H → Option (Int × ax_H)) (g3 : Option Nat → Int → ax_H → Option (Int × ax_H)) (x0 : Option Nat) (x1 : Int) (h : ax_H) : Option (Int × ax_H) :=
  (ax_ce E h x0 5).bind fun _ => (g2 x0 x1 h).bind fun q1 =>
  f_X5_testOf_6 E g0 g1 g2 g3 x0 x1 q1.1 q1.2
noncomputable def rg_X5_positiveOf (E : ax_E) : Nat → (Option Nat → Int → ax_H → Option (Int × ax_H)) × (Option Nat → Int → ax_H → Option (Int × ax_H)) × (Option Nat → Int → ax_H → Option (Int × ax_H)) × (Option Nat → Int → ax_H → Option (Int × ax_H))
  | 0 => ((fun x0 x1 h => none), (fun x0 x1 h => none), (fun x0 x1 h => none), (fun x0 x1 h => none))
  | n + 1 => ((fun x0 x1 h => f_X5_positiveOf E (rg_X5_positiveOf E n).1 (rg_X5_positiveOf E n).2.1 (rg_X5_positiveOf E n).2.2.1 (rg_X5_positiveOf E n).2.2.2 x0 x1 h), (fun x0 x1 h => f_X5_plainOf E (rg_X5_positiveOf E n).1 (rg_X5_positiveOf E n).2.1 (rg_X5_positiveOf E n).2.2.1 (rg_X5_positiveOf E n).2.2.2 x0 x1 h), (fun x0 x1 h => f_X5_bothOf E (rg_X5_positiveOf E n).1 (rg_X5_positiveOf E n).2.1 (rg_X5_positiveOf E n).2.2.1 (rg_X5_positiveOf E n).2.2.2 x0 x1 h), (fun x0 x1 h => f_X5_testOf E (rg_X5_positiveOf E n).1 (rg_X5_positiveOf E n).2.1 (rg_X5_positiveOf E n).2.2.1 (rg_X5_positiveOf E n).2.2.2 x0 x1 h))
noncomputable def fn_X5_positiveOf (E : ax_E) (n : Nat) (x0 : Option Nat) (x1 : Int) (h : ax_H) : Option (Int × ax_H) := (rg_X5_positiveOf E n).1 x0 x1 h
noncomputable def fn_X5_plainOf (E : ax_E) (n : Nat) (x0 : Option Nat) (x1 : Int) (h : ax_H) : Option (Int × ax_H) := (rg_X5_positiveOf E n).2.1 x0 x1 h
noncomputable def fn_X5_bothOf (E : ax_E) (n : Nat) (x0 : Option Nat) (x1 : Int) (h : ax_H) : Option (Int × ax_H) := (rg_X5_positiveOf E n).2.2.1 x0 x1 h
noncomputable def fn_X5_testOf (E : ax_E) (n : Nat) (x0 : Option Nat) (x1 : Int) (h : ax_H) : Option (Int × ax_H) := (rg_X5_positiveOf E n).2.2.2 x0 x1 h
set_option maxHeartbeats 4000000 in
theorem w_X5_positiveOf_121 {l : Launch} {G : ax_G} {X : ax_X} {Q : State → Prop} {h0 h : ax_H} {ls : Array Slot} {g0 : Option Nat → Int → ax_H → Option (Int × ax_H)} {g1 : Option Nat → Int → ax_H → Option (Int × ax_H)} {g2 : Option Nat → Int → ax_H → Option (Int × ax_H)} {g3 : Option Nat → Int → ax_H → Option (Int × ax_H)} {fr lo fr1 lo1 : Nat} (hF : fr1 + 1 ≤ fr ∧ 68 ≤ fr ∧ lo1 + 26 ≤ lo ∧ 1777 ≤ lo) (hg0 : ∀ (x0 : Option Nat) (x1 : Int) (h : ax_H) (w : Int × ax_H), g0 x0 x1 h = some w → ax_Met l G yX5_positiveOf cX5_positiveOf 7 ((some FieldType.boolean)) fr1 lo1 [va_rf x0, .int (Int32.ofInt x1)] h w.2 (some (.int (Int32.ofInt w.1)))) (hg1 : ∀ (x0 : Option Nat) (x1 : Int) (h : ax_H) (w : Int × ax_H), g1 x0 x1 h = some w → ax_Met l G yX5_plainOf cX5_plainOf 3 ((some FieldType.boolean)) fr1 lo1 [va_rf x0, .int (Int32.ofInt x1)] h w.2 (some (.int (Int32.ofInt w.1)))) (hg2 : ∀ (x0 : Option Nat) (x1 : Int) (h : ax_H) (w : Int × ax_H), g2 x0 x1 h = some w → ax_Met l G yX5_bothOf cX5_bothOf 4 ((some FieldType.boolean)) fr1 lo1 [va_rf x0, .int (Int32.ofInt x1)] h w.2 (some (.int (Int32.ofInt w.1)))) (hg3 : ∀ (x0 : Option Nat) (x1 : Int) (h : ax_H) (w : Int × ax_H), g3 x0 x1 h = some w → ax_Met l G yX5_testOf cX5_testOf 4 ((some FieldType.boolean)) fr1 lo1 [va_rf x0, .int (Int32.ofInt x1)] h w.2 (some (.int (Int32.ofInt w.1)))) (hSF : ax_SF G) (B : ax_BL l G X cX5_positiveOf 7 RX5 fr lo) (Z : ax_Z X h0 ((some FieldType.boolean))) (hn : X.2.2.2.2.2.2.2.2.1.name = yX5_positiveOf.name) {w : Int × ax_H} (hl : ax_hl ls 7 []) (e : f_X5_positiveOf_121 G.2.2 g0 g1 g2 g3 h = some w) (hp : (fun w : Int × ax_H => Q = ax_Q G X h0 w.2 (some (.int (Int32.ofInt w.1)))) w) : ax_W G X Q h 121 ls [] := by
  unfold f_X5_positiveOf_121 at e
  refine ax_iconst B dX5_positiveOf_121 ?_
  refine ax_goto (tgt := 126) B dX5_positiveOf_122 (by decide) ?_
  have e8 := e
  have hp : Q = _ := hp
  subst hp
  exact ax_zreturnL (by decide) B Z dX5_positiveOf_126 e8
set_option maxHeartbeats 4000000 in
theorem w_X5_positiveOf_125 {l : Launch} {G : ax_G} {X : ax_X} {Q : State → Prop} {h0 h : ax_H} {ls : Array Slot} {g0 : Option Nat → Int → ax_H → Option (Int × ax_H)} {g1 : Option Nat → Int → ax_H → Option (Int × ax_H)} {g2 : Option Nat → Int → ax_H → Option (Int × ax_H)} {g3 : Option Nat → Int → ax_H → Option (Int × ax_H)} {fr lo fr1 lo1 : Nat} (hF : fr1 + 1 ≤ fr ∧ 68 ≤ fr ∧ lo1 + 26 ≤ lo ∧ 1777 ≤ lo) (hg0 : ∀ (x0 : Option Nat) (x1 : Int) (h : ax_H) (w : Int × ax_H), g0 x0 x1 h = some w → ax_Met l G yX5_positiveOf cX5_positiveOf 7 ((some FieldType.boolean)) fr1 lo1 [va_rf x0, .int (Int32.ofInt x1)] h w.2 (some (.int (Int32.ofInt w.1)))) (hg1 : ∀ (x0 : Option Nat) (x1 : Int) (h : ax_H) (w : Int × ax_H), g1 x0 x1 h = some w → ax_Met l G yX5_plainOf cX5_plainOf 3 ((some FieldType.boolean)) fr1 lo1 [va_rf x0, .int (Int32.ofInt x1)] h w.2 (some (.int (Int32.ofInt w.1)))) (hg2 : ∀ (x0 : Option Nat) (x1 : Int) (h : ax_H) (w : Int × ax_H), g2 x0 x1 h = some w → ax_Met l G yX5_bothOf cX5_bothOf 4 ((some FieldType.boolean)) fr1 lo1 [va_rf x0, .int (Int32.ofInt x1)] h w.2 (some (.int (Int32.ofInt w.1)))) (hg3 : ∀ (x0 : Option Nat) (x1 : Int) (h : ax_H) (w : Int × ax_H), g3 x0 x1 h = some w → ax_Met l G yX5_testOf cX5_testOf 4 ((some FieldType.boolean)) fr1 lo1 [va_rf x0, .int (Int32.ofInt x1)] h w.2 (some (.int (Int32.ofInt w.1)))) (hSF : ax_SF G) (B : ax_BL l G X cX5_positiveOf 7 RX5 fr lo) (Z : ax_Z X h0 ((some FieldType.boolean))) (hn : X.2.2.2.2.2.2.2.2.1.name = yX5_positiveOf.name) {w : Int × ax_H} (hl : ax_hl ls 7 []) (e : f_X5_positiveOf_125 G.2.2 g0 g1 g2 g3 h = some w) (hp : (fun w : Int × ax_H => Q = ax_Q G X h0 w.2 (some (.int (Int32.ofInt w.1)))) w) : ax_W G X Q h 125 ls [] := by
  unfold f_X5_positiveOf_125 at e
  refine ax_iconst B dX5_positiveOf_125 ?_
  have e8 := e
  have hp : Q = _ := hp
  subst hp
  exact ax_zreturnL (by decide) B Z dX5_positiveOf_126 e8
set_option maxHeartbeats 4000000 in
theorem we_X5_positiveOf {l : Launch} {G : ax_G} {X : ax_X} {Q : State → Prop} {h0 h : ax_H} {ls : Array Slot} {g0 : Option Nat → Int → ax_H → Option (Int × ax_H)} {g1 : Option Nat → Int → ax_H → Option (Int × ax_H)} {g2 : Option Nat → Int → ax_H → Option (Int × ax_H)} {g3 : Option Nat → Int → ax_H → Option (Int × ax_H)} {fr lo fr1 lo1 : Nat} (hF : fr1 + 1 ≤ fr ∧ 68 ≤ fr ∧ lo1 + 26 ≤ lo ∧ 1777 ≤ lo) (hg0 : ∀ (x0 : Option Nat) (x1 : Int) (h : ax_H) (w : Int × ax_H), g0 x0 x1 h = some w → ax_Met l G yX5_positiveOf cX5_positiveOf 7 ((some FieldType.boolean)) fr1 lo1 [va_rf x0, .int (Int32.ofInt x1)] h w.2 (some (.int (Int32.ofInt w.1)))) (hg1 : ∀ (x0 : Option Nat) (x1 : Int) (h : ax_H) (w : Int × ax_H), g1 x0 x1 h = some w → ax_Met l G yX5_plainOf cX5_plainOf 3 ((some FieldType.boolean)) fr1 lo1 [va_rf x0, .int (Int32.ofInt x1)] h w.2 (some (.int (Int32.ofInt w.1)))) (hg2 : ∀ (x0 : Option Nat) (x1 : Int) (h : ax_H) (w : Int × ax_H), g2 x0 x1 h = some w → ax_Met l G yX5_bothOf cX5_bothOf 4 ((some FieldType.boolean)) fr1 lo1 [va_rf x0, .int (Int32.ofInt x1)] h w.2 (some (.int (Int32.ofInt w.1)))) (hg3 : ∀ (x0 : Option Nat) (x1 : Int) (h : ax_H) (w : Int × ax_H), g3 x0 x1 h = some w → ax_Met l G yX5_testOf cX5_testOf 4 ((some FieldType.boolean)) fr1 lo1 [va_rf x0, .int (Int32.ofInt x1)] h w.2 (some (.int (Int32.ofInt w.1)))) (hSF : ax_SF G) (B : ax_BL l G X cX5_positiveOf 7 RX5 fr lo) (Z : ax_Z X h0 ((some FieldType.boolean))) (hn : X.2.2.2.2.2.2.2.2.1.name = yX5_positiveOf.name) (x0 : Option Nat) (x1 : Int) {w : Int × ax_H} (hl : ax_hl ls 7 [(0, .inr (.inr x0)), (1, .inl x1)]) (e : f_X5_positiveOf G.2.2 g0 g1 g2 g3 x0 x1 h = some w) (hp : (fun w : Int × ax_H => Q = ax_Q G X h0 w.2 (some (.int (Int32.ofInt w.1)))) w) : ax_W G X Q h 0 ls [] := by
  unfold f_X5_positiveOf at e
  refine ax_aload_n B dX5_positiveOf_0 rfl hl 0 rfl ?_
  refine ax_bipush B dX5_positiveOf_1 (by decide) ?_
  refine ax_isI (y := yX5_sign) (n := 1) (As := [.int (Int32.ofInt 40)]) B (lw_S q2266 q2267 q133 q2268) (by decide +kernel) (by omega) (fun w1 e1 => mt_X5_sign l G hSF 40 _ w1 e1) rfl hl.size (by simp only [List.map_cons, List.map_nil, List.sum_cons, List.sum_nil, va_rf_cat, ax_catI, ax_catL]; decide) dX5_positiveOf_3 e (fun q1 e => ?_)
  refine ax_ivI (y := yX5_passes0) (n := 1) (As := [.int (Int32.ofInt q1.1)]) B kd5 (lw_V q2269 q2271 qs60 q133 q2272) (by decide +kernel) (by omega) (fun w1 e1 => mt_X5_passes0 l G hSF x0 q1.1 _ w1 e1) rfl hl.size (by decide) dX5_positiveOf_6 e (fun q2 e => ?_)
  refine ax_if_eq (tgt := 30) B dX5_positiveOf_9 (by decide) e (fun e => ?_) (fun e => ?_)
  · refine ax_aload_n B dX5_positiveOf_30 rfl hl 0 rfl ?_
    refine ax_iload_n B dX5_positiveOf_31 rfl hl 1 rfl ?_
    refine ax_ivL (y := yX5_sumOf) (n := 1) (As := [.int (Int32.ofInt x1)]) B kd5 (lw_V q2254 q2256 qs57 q133 q2257) (by decide +kernel) (by omega) (fun w1 e1 => mf_X5_sumOf l G hSF 64 x0 x1 _ w1 e1) rfl hl.size (by decide) dX5_positiveOf_32 e (fun q3 e => ?_)
    refine ax_lstore_n (L' := [(2, .inr (.inl q3.1)), (0, .inr (.inr x0)), (1, .inl x1)]) B dX5_positiveOf_35 rfl hl (by decide) rfl (fun ls hl => ?_)
    refine ax_aload_n B dX5_positiveOf_36 rfl hl 1 rfl ?_
    refine ax_aload_n B dX5_positiveOf_37 rfl hl 1 rfl ?_
    refine ax_getI B ff_X5_280_5 (fun _ _ => rfl) dX5_positiveOf_38 e (fun v4 e => ?_)
    refine ax_ivI (y := yX5_codeAt) (n := 1) (As := [.int (Int32.ofInt v4)]) B kd5 (lw_V q2250 q2252 qs56 q133 q2253) (by decide +kernel) (by omega) (fun w1 e1 => mt_X5_codeAt l G hSF x0 v4 _ w1 e1) rfl hl.size (by decide) dX5_positiveOf_41 e (fun q5 e => ?_)
    refine ax_istore (L' := [(4, .inl q5.1), (2, .inr (.inl q3.1)), (0, .inr (.inr x0)), (1, .inl x1)]) B dX5_positiveOf_44 hl (by decide) rfl (fun ls hl => ?_)
    refine ax_aload_n B dX5_positiveOf_46 rfl hl 2 rfl ?_
    refine ax_dup B dX5_positiveOf_47 (va_rf_cat _) ?_
    refine ax_getI B ff_X5_280_5 (fun _ _ => rfl) dX5_positiveOf_48 e (fun v6 e => ?_)
    refine ax_iconst B dX5_positiveOf_51 ?_
    refine ax_iadd' B dX5_positiveOf_52 ?_
    refine ax_putI B ff_X5_280_5 (Or.inl rfl) rfl dX5_positiveOf_53 e (fun h7 e => ?_)
    refine ax_aload_n B dX5_positiveOf_56 rfl hl 2 rfl ?_
    refine ax_iload_n B dX5_positiveOf_57 rfl hl 3 rfl ?_
    refine ax_ivL (y := yX5_sumOf) (n := 1) (As := [.int (Int32.ofInt x1)]) B kd5 (lw_V q2254 q2256 qs57 q133 q2257) (by decide +kernel) (by omega) (fun w1 e1 => mf_X5_sumOf l G hSF 64 x0 x1 _ w1 e1) rfl hl.size (by decide) dX5_positiveOf_58 e (fun q8 e => ?_)
    refine ax_lstore (L' := [(5, .inr (.inl q8.1)), (4, .inl q5.1), (2, .inr (.inl q3.1)), (0, .inr (.inr x0)), (1, .inl x1)]) B dX5_positiveOf_61 hl (by decide) rfl (fun ls hl => ?_)
    refine ax_iload_n B dX5_positiveOf_63 rfl hl 4 rfl ?_
    refine ax_if_eq (tgt := 125) B dX5_positiveOf_64 (by decide) e (fun e => ?_) (fun e => ?_)
    · exact w_X5_positiveOf_125 hF hg0 hg1 hg2 hg3 hSF B Z hn (hl.sub [] rfl) e hp
    · refine ax_aload_n B dX5_positiveOf_67 rfl hl 3 rfl ?_
      refine ax_getI B ff_X5_290_5 (fun _ _ => rfl) dX5_positiveOf_68 e (fun v9 e => ?_)
      refine ax_if_ne (tgt := 125) B dX5_positiveOf_71 (by decide) e (fun e => ?_) (fun e => ?_)
      · refine ax_iload B dX5_positiveOf_74 hl 1 rfl ?_
        refine ax_bipush B dX5_positiveOf_76 (by decide) ?_
        refine ax_isI (y := yX5_sign) (n := 1) (As := [.int (Int32.ofInt 60)]) B (lw_S q2266 q2267 q133 q2268) (by decide +kernel) (by omega) (fun w1 e1 => mt_X5_sign l G hSF 60 _ w1 e1) rfl hl.size (by simp only [List.map_cons, List.map_nil, List.sum_cons, List.sum_nil, va_rf_cat, ax_catI, ax_catL]; decide) dX5_positiveOf_78 e (fun q10 e => ?_)
        refine ax_icmp_ne (tgt := 94) B dX5_positiveOf_81 (by decide) e (fun e => ?_) (fun e => ?_)
        · refine ax_lload_n B dX5_positiveOf_84 rfl hl 2 rfl ?_
          refine ax_lload B dX5_positiveOf_85 hl 0 rfl ?_
          refine ax_lcmp' B dX5_positiveOf_87 ?_
          refine ax_if_ge (tgt := 125) B dX5_positiveOf_88 (by decide) e (fun e => ?_) (fun e => ?_)
          · refine ax_goto (tgt := 121) B dX5_positiveOf_91 (by decide) ?_
            exact w_X5_positiveOf_121 hF hg0 hg1 hg2 hg3 hSF B Z hn (hl.sub [] rfl) e hp
          · exact w_X5_positiveOf_125 hF hg0 hg1 hg2 hg3 hSF B Z hn (hl.sub [] rfl) e hp
        · refine ax_iload B dX5_positiveOf_94 hl 1 rfl ?_
          refine ax_bipush B dX5_positiveOf_96 (by decide) ?_
          refine ax_isI (y := yX5_sign) (n := 1) (As := [.int (Int32.ofInt 62)]) B (lw_S q2266 q2267 q133 q2268) (by decide +kernel) (by omega) (fun w1 e1 => mt_X5_sign l G hSF 62 _ w1 e1) rfl hl.size (by simp only [List.map_cons, List.map_nil, List.sum_cons, List.sum_nil, va_rf_cat, ax_catI, ax_catL]; decide) dX5_positiveOf_98 e (fun q11 e => ?_)
          refine ax_icmp_ne (tgt := 114) B dX5_positiveOf_101 (by decide) e (fun e => ?_) (fun e => ?_)
          · refine ax_lload_n B dX5_positiveOf_104 rfl hl 2 rfl ?_
            refine ax_lload B dX5_positiveOf_105 hl 0 rfl ?_
            refine ax_lcmp' B dX5_positiveOf_107 ?_
            refine ax_if_le (tgt := 125) B dX5_positiveOf_108 (by decide) e (fun e => ?_) (fun e => ?_)
            · refine ax_goto (tgt := 121) B dX5_positiveOf_111 (by decide) ?_
              exact w_X5_positiveOf_121 hF hg0 hg1 hg2 hg3 hSF B Z hn (hl.sub [] rfl) e hp
            · exact w_X5_positiveOf_125 hF hg0 hg1 hg2 hg3 hSF B Z hn (hl.sub [] rfl) e hp
          · refine ax_lload_n B dX5_positiveOf_114 rfl hl 2 rfl ?_
            refine ax_lload B dX5_positiveOf_115 hl 0 rfl ?_
            refine ax_lcmp' B dX5_positiveOf_117 ?_
            refine ax_if_ne (tgt := 125) B dX5_positiveOf_118 (by decide) e (fun e => ?_) (fun e => ?_)
            · exact w_X5_positiveOf_121 hF hg0 hg1 hg2 hg3 hSF B Z hn (hl.sub [] rfl) e hp
            · exact w_X5_positiveOf_125 hF hg0 hg1 hg2 hg3 hSF B Z hn (hl.sub [] rfl) e hp
      · exact w_X5_positiveOf_125 hF hg0 hg1 hg2 hg3 hSF B Z hn (hl.sub [] rfl) e hp
  · refine ax_aload_n B dX5_positiveOf_12 rfl hl 0 rfl ?_
    refine ax_iload_n B dX5_positiveOf_13 rfl hl 1 rfl ?_
    refine ax_ivI (y := yX5_testOf) (n := 1) (As := [.int (Int32.ofInt x1)]) B kd5 (lw_V q2280 q2282 qs62 q133 q2283) (by decide +kernel) (by omega) (fun w1 e1 => hg3 x0 x1 _ w1 e1) rfl hl.size (by decide) dX5_positiveOf_14 e (fun q12 e => ?_)
    refine ax_istore_n (L' := [(2, .inl q12.1), (0, .inr (.inr x0)), (1, .inl x1)]) B dX5_positiveOf_17 rfl hl (by decide) rfl (fun ls hl => ?_)
    refine ax_aload_n B dX5_positiveOf_18 rfl hl 1 rfl ?_
    refine ax_dup B dX5_positiveOf_19 (va_rf_cat _) ?_
    refine ax_getI B ff_X5_280_5 (fun _ _ => rfl) dX5_positiveOf_20 e (fun v13 e => ?_)
    refine ax_iconst B dX5_positiveOf_23 ?_
    refine ax_iadd' B dX5_positiveOf_24 ?_
    refine ax_putI B ff_X5_280_5 (Or.inl rfl) rfl dX5_positiveOf_25 e (fun h14 e => ?_)
    refine ax_iload_n B dX5_positiveOf_28 rfl hl 0 rfl ?_
    have e8 := e
    have hp : Q = _ := hp
    subst hp
    exact ax_zreturn B Z dX5_positiveOf_29 e8
theorem mt_X5_positiveOf (l : Launch) (G : ax_G) (hSF : ax_SF G) {g0 : Option Nat → Int → ax_H → Option (Int × ax_H)} {g1 : Option Nat → Int → ax_H → Option (Int × ax_H)} {g2 : Option Nat → Int → ax_H → Option (Int × ax_H)} {g3 : Option Nat → Int → ax_H → Option (Int × ax_H)} {fr lo fr1 lo1 : Nat} (hF : fr1 + 1 ≤ fr ∧ 68 ≤ fr ∧ lo1 + 26 ≤ lo ∧ 1777 ≤ lo) (hg0 : ∀ (x0 : Option Nat) (x1 : Int) (h : ax_H) (w : Int × ax_H), g0 x0 x1 h = some w → ax_Met l G yX5_positiveOf cX5_positiveOf 7 ((some FieldType.boolean)) fr1 lo1 [va_rf x0, .int (Int32.ofInt x1)] h w.2 (some (.int (Int32.ofInt w.1)))) (hg1 : ∀ (x0 : Option Nat) (x1 : Int) (h : ax_H) (w : Int × ax_H), g1 x0 x1 h = some w → ax_Met l G yX5_plainOf cX5_plainOf 3 ((some FieldType.boolean)) fr1 lo1 [va_rf x0, .int (Int32.ofInt x1)] h w.2 (some (.int (Int32.ofInt w.1)))) (hg2 : ∀ (x0 : Option Nat) (x1 : Int) (h : ax_H) (w : Int × ax_H), g2 x0 x1 h = some w → ax_Met l G yX5_bothOf cX5_bothOf 4 ((some FieldType.boolean)) fr1 lo1 [va_rf x0, .int (Int32.ofInt x1)] h w.2 (some (.int (Int32.ofInt w.1)))) (hg3 : ∀ (x0 : Option Nat) (x1 : Int) (h : ax_H) (w : Int × ax_H), g3 x0 x1 h = some w → ax_Met l G yX5_testOf cX5_testOf 4 ((some FieldType.boolean)) fr1 lo1 [va_rf x0, .int (Int32.ofInt x1)] h w.2 (some (.int (Int32.ofInt w.1)))) (x0 : Option Nat) (x1 : Int) (h : ax_H) (w : Int × ax_H) (e : f_X5_positiveOf G.2.2 g0 g1 g2 g3 x0 x1 h = some w) : ax_Met l G yX5_positiveOf cX5_positiveOf 7 ((some FieldType.boolean)) fr lo [va_rf x0, .int (Int32.ofInt x1)] h w.2 (some (.int (Int32.ofInt w.1))) :=
  ax_enter [.inr (.inr x0), .inl x1] (y := yX5_positiveOf) hSF (plainFor_of_name (by decide +kernel)) (Nat.le_of_ble_eq_true rfl) (fun X ls B Z hn hl => we_X5_positiveOf hF hg0 hg1 hg2 hg3 hSF B Z hn x0 x1 hl e rfl)
def pi_X5_plainOf_2 (G : ax_G) (X : ax_X) (Q : State → Prop) (x0 : Option Nat) (x1 : Int) : Int × ax_H → Prop := fun s => ∀ ls : Array Slot, ax_hl ls 3 [(0, .inr (.inr x0)), (1, .inl x1), (2, .inl s.1)] → ax_W G X Q s.2 2 ls []
set_option maxHeartbeats 4000000 in
theorem w_X5_plainOf_20 {l : Launch} {G : ax_G} {X : ax_X} {Q : State → Prop} {h0 h : ax_H} {ls : Array Slot} {g0 : Option Nat → Int → ax_H → Option (Int × ax_H)} {g1 : Option Nat → Int → ax_H → Option (Int × ax_H)} {g2 : Option Nat → Int → ax_H → Option (Int × ax_H)} {g3 : Option Nat → Int → ax_H → Option (Int × ax_H)} {fr lo fr1 lo1 : Nat} (hF : fr1 + 1 ≤ fr ∧ 68 ≤ fr ∧ lo1 + 26 ≤ lo ∧ 1777 ≤ lo) (hg0 : ∀ (x0 : Option Nat) (x1 : Int) (h : ax_H) (w : Int × ax_H), g0 x0 x1 h = some w → ax_Met l G yX5_positiveOf cX5_positiveOf 7 ((some FieldType.boolean)) fr1 lo1 [va_rf x0, .int (Int32.ofInt x1)] h w.2 (some (.int (Int32.ofInt w.1)))) (hg1 : ∀ (x0 : Option Nat) (x1 : Int) (h : ax_H) (w : Int × ax_H), g1 x0 x1 h = some w → ax_Met l G yX5_plainOf cX5_plainOf 3 ((some FieldType.boolean)) fr1 lo1 [va_rf x0, .int (Int32.ofInt x1)] h w.2 (some (.int (Int32.ofInt w.1)))) (hg2 : ∀ (x0 : Option Nat) (x1 : Int) (h : ax_H) (w : Int × ax_H), g2 x0 x1 h = some w → ax_Met l G yX5_bothOf cX5_bothOf 4 ((some FieldType.boolean)) fr1 lo1 [va_rf x0, .int (Int32.ofInt x1)] h w.2 (some (.int (Int32.ofInt w.1)))) (hg3 : ∀ (x0 : Option Nat) (x1 : Int) (h : ax_H) (w : Int × ax_H), g3 x0 x1 h = some w → ax_Met l G yX5_testOf cX5_testOf 4 ((some FieldType.boolean)) fr1 lo1 [va_rf x0, .int (Int32.ofInt x1)] h w.2 (some (.int (Int32.ofInt w.1)))) (hSF : ax_SF G) (B : ax_BL l G X cX5_plainOf 3 RX5 fr lo) (Z : ax_Z X h0 ((some FieldType.boolean))) (hn : X.2.2.2.2.2.2.2.2.1.name = yX5_plainOf.name) (x0 : Option Nat) (x1 : Int) (s0 : Int) {w : (Int × ax_H) ⊕ (Int × ax_H)} (hl : ax_hl ls 3 [(0, .inr (.inr x0)), (1, .inl x1)]) (e : f_X5_plainOf_20 G.2.2 g0 g1 g2 g3 x0 x1 s0 h = some w) (hp : (ax_PL (pi_X5_plainOf_2 G X Q x0 x1) (fun w : Int × ax_H => Q = ax_Q G X h0 w.2 (some (.int (Int32.ofInt w.1))))) w) : ax_W G X Q h 20 ls [.int (Int32.ofInt s0)] := by
  unfold f_X5_plainOf_20 at e
  refine ax_istore_n (L' := [(2, .inl s0), (0, .inr (.inr x0)), (1, .inl x1)]) B dX5_plainOf_20 rfl hl (by decide) rfl (fun ls hl => ?_)
  refine ax_goto (tgt := 2) B dX5_plainOf_21 (by decide) ?_
  cases e
  exact hp _ (hl.sub [1, 2, 0] rfl)
set_option maxHeartbeats 4000000 in
theorem wb_X5_plainOf_2 {l : Launch} {G : ax_G} {X : ax_X} {Q : State → Prop} {h0 h : ax_H} {ls : Array Slot} {g0 : Option Nat → Int → ax_H → Option (Int × ax_H)} {g1 : Option Nat → Int → ax_H → Option (Int × ax_H)} {g2 : Option Nat → Int → ax_H → Option (Int × ax_H)} {g3 : Option Nat → Int → ax_H → Option (Int × ax_H)} {fr lo fr1 lo1 : Nat} (hF : fr1 + 1 ≤ fr ∧ 68 ≤ fr ∧ lo1 + 26 ≤ lo ∧ 1777 ≤ lo) (hg0 : ∀ (x0 : Option Nat) (x1 : Int) (h : ax_H) (w : Int × ax_H), g0 x0 x1 h = some w → ax_Met l G yX5_positiveOf cX5_positiveOf 7 ((some FieldType.boolean)) fr1 lo1 [va_rf x0, .int (Int32.ofInt x1)] h w.2 (some (.int (Int32.ofInt w.1)))) (hg1 : ∀ (x0 : Option Nat) (x1 : Int) (h : ax_H) (w : Int × ax_H), g1 x0 x1 h = some w → ax_Met l G yX5_plainOf cX5_plainOf 3 ((some FieldType.boolean)) fr1 lo1 [va_rf x0, .int (Int32.ofInt x1)] h w.2 (some (.int (Int32.ofInt w.1)))) (hg2 : ∀ (x0 : Option Nat) (x1 : Int) (h : ax_H) (w : Int × ax_H), g2 x0 x1 h = some w → ax_Met l G yX5_bothOf cX5_bothOf 4 ((some FieldType.boolean)) fr1 lo1 [va_rf x0, .int (Int32.ofInt x1)] h w.2 (some (.int (Int32.ofInt w.1)))) (hg3 : ∀ (x0 : Option Nat) (x1 : Int) (h : ax_H) (w : Int × ax_H), g3 x0 x1 h = some w → ax_Met l G yX5_testOf cX5_testOf 4 ((some FieldType.boolean)) fr1 lo1 [va_rf x0, .int (Int32.ofInt x1)] h w.2 (some (.int (Int32.ofInt w.1)))) (hSF : ax_SF G) (B : ax_BL l G X cX5_plainOf 3 RX5 fr lo) (Z : ax_Z X h0 ((some FieldType.boolean))) (hn : X.2.2.2.2.2.2.2.2.1.name = yX5_plainOf.name) (x0 : Option Nat) (x1 : Int) (x2 : Int) {w : (Int × ax_H) ⊕ (Int × ax_H)} (hl : ax_hl ls 3 [(0, .inr (.inr x0)), (1, .inl x1), (2, .inl x2)]) (e : lb_X5_plainOf_2 G.2.2 g0 g1 g2 g3 x0 x1 x2 h = some w) (hp : (ax_PL (pi_X5_plainOf_2 G X Q x0 x1) (fun w : Int × ax_H => Q = ax_Q G X h0 w.2 (some (.int (Int32.ofInt w.1))))) w) : ax_W G X Q h 2 ls [] := by
  unfold lb_X5_plainOf_2 at e
  refine ax_aload_n B dX5_plainOf_2 rfl hl 0 rfl ?_
  refine ax_bipush B dX5_plainOf_3 (by decide) ?_
  refine ax_ivI (y := yX5_passes0) (n := 1) (As := [.int (Int32.ofInt 8)]) B kd5 (lw_V q2269 q2271 qs60 q133 q2272) (by decide +kernel) (by omega) (fun w1 e1 => mt_X5_passes0 l G hSF x0 8 _ w1 e1) rfl hl.size (by decide) dX5_plainOf_5 e (fun q1 e => ?_)
  refine ax_if_eq (tgt := 24) B dX5_plainOf_8 (by decide) e (fun e => ?_) (fun e => ?_)
  · obtain ⟨w, e9_1, rfl⟩ := Option.map_eq_some_iff.mp e
    have e := e9_1
    refine ax_aload_n B dX5_plainOf_24 rfl hl 0 rfl ?_
    refine ax_iload_n B dX5_plainOf_25 rfl hl 1 rfl ?_
    refine ax_ivI (y := yX5_positiveOf) (n := 1) (As := [.int (Int32.ofInt x1)]) B kd5 (lw_V q2292 q2294 qs65 q133 q2295) (by decide +kernel) (by omega) (fun w1 e1 => hg0 x0 x1 _ w1 e1) rfl hl.size (by decide) dX5_plainOf_26 e (fun q2 e => ?_)
    refine ax_iload_n B dX5_plainOf_29 rfl hl 2 rfl ?_
    refine ax_icmp_eq (tgt := 37) B dX5_plainOf_30 (by decide) e (fun e => ?_) (fun e => ?_)
    · refine ax_iconst B dX5_plainOf_37 ?_
      have e8 := e
      have hp : Q = _ := hp
      subst hp
      exact ax_zreturnL (by decide) B Z dX5_plainOf_38 e8
    · refine ax_iconst B dX5_plainOf_33 ?_
      refine ax_goto (tgt := 38) B dX5_plainOf_34 (by decide) ?_
      have e8 := e
      have hp : Q = _ := hp
      subst hp
      exact ax_zreturnL (by decide) B Z dX5_plainOf_38 e8
  · refine ax_iload_n B dX5_plainOf_11 rfl hl 2 rfl ?_
    refine ax_if_ne (tgt := 19) B dX5_plainOf_12 (by decide) e (fun e => ?_) (fun e => ?_)
    · refine ax_iconst B dX5_plainOf_15 ?_
      refine ax_goto (tgt := 20) B dX5_plainOf_16 (by decide) ?_
      exact w_X5_plainOf_20 hF hg0 hg1 hg2 hg3 hSF B Z hn x0 x1 1 (hl.sub [0, 1] rfl) e hp
    · refine ax_iconst B dX5_plainOf_19 ?_
      exact w_X5_plainOf_20 hF hg0 hg1 hg2 hg3 hSF B Z hn x0 x1 0 (hl.sub [0, 1] rfl) e hp
theorem w_X5_plainOf_2 {l : Launch} {G : ax_G} {X : ax_X} {Q : State → Prop} {h0 h : ax_H} {ls : Array Slot} {g0 : Option Nat → Int → ax_H → Option (Int × ax_H)} {g1 : Option Nat → Int → ax_H → Option (Int × ax_H)} {g2 : Option Nat → Int → ax_H → Option (Int × ax_H)} {g3 : Option Nat → Int → ax_H → Option (Int × ax_H)} {fr lo fr1 lo1 : Nat} (hF : fr1 + 1 ≤ fr ∧ 68 ≤ fr ∧ lo1 + 26 ≤ lo ∧ 1777 ≤ lo) (hg0 : ∀ (x0 : Option Nat) (x1 : Int) (h : ax_H) (w : Int × ax_H), g0 x0 x1 h = some w → ax_Met l G yX5_positiveOf cX5_positiveOf 7 ((some FieldType.boolean)) fr1 lo1 [va_rf x0, .int (Int32.ofInt x1)] h w.2 (some (.int (Int32.ofInt w.1)))) (hg1 : ∀ (x0 : Option Nat) (x1 : Int) (h : ax_H) (w : Int × ax_H), g1 x0 x1 h = some w → ax_Met l G yX5_plainOf cX5_plainOf 3 ((some FieldType.boolean)) fr1 lo1 [va_rf x0, .int (Int32.ofInt x1)] h w.2 (some (.int (Int32.ofInt w.1)))) (hg2 : ∀ (x0 : Option Nat) (x1 : Int) (h : ax_H) (w : Int × ax_H), g2 x0 x1 h = some w → ax_Met l G yX5_bothOf cX5_bothOf 4 ((some FieldType.boolean)) fr1 lo1 [va_rf x0, .int (Int32.ofInt x1)] h w.2 (some (.int (Int32.ofInt w.1)))) (hg3 : ∀ (x0 : Option Nat) (x1 : Int) (h : ax_H) (w : Int × ax_H), g3 x0 x1 h = some w → ax_Met l G yX5_testOf cX5_testOf 4 ((some FieldType.boolean)) fr1 lo1 [va_rf x0, .int (Int32.ofInt x1)] h w.2 (some (.int (Int32.ofInt w.1)))) (hSF : ax_SF G) (B : ax_BL l G X cX5_plainOf 3 RX5 fr lo) (Z : ax_Z X h0 ((some FieldType.boolean))) (hn : X.2.2.2.2.2.2.2.2.1.name = yX5_plainOf.name) (x0 : Option Nat) (x1 : Int) (x2 : Int) {w : Int × ax_H} (hl : ax_hl ls 3 [(0, .inr (.inr x0)), (1, .inl x1), (2, .inl x2)]) (e : f_X5_plainOf_2 G.2.2 g0 g1 g2 g3 x0 x1 x2 h = some w) (hp : (fun w : Int × ax_H => Q = ax_Q G X h0 w.2 (some (.int (Int32.ofInt w.1)))) w) : ax_W G X Q h 2 ls [] :=
  ax_iter_W (Pin := pi_X5_plainOf_2 G X Q x0 x1) (Pout := (fun w : Int × ax_H => Q = ax_Q G X h0 w.2 (some (.int (Int32.ofInt w.1))))) (fun s w e hp ls hl => wb_X5_plainOf_2 hF hg0 hg1 hg2 hg3 hSF B Z hn x0 x1 s.1 hl e hp) _ _ e hp ls hl
set_option maxHeartbeats 4000000 in
theorem we_X5_plainOf {l : Launch} {G : ax_G} {X : ax_X} {Q : State → Prop} {h0 h : ax_H} {ls : Array Slot} {g0 : Option Nat → Int → ax_H → Option (Int × ax_H)} {g1 : Option Nat → Int → ax_H → Option (Int × ax_H)} {g2 : Option Nat → Int → ax_H → Option (Int × ax_H)} {g3 : Option Nat → Int → ax_H → Option (Int × ax_H)} {fr lo fr1 lo1 : Nat} (hF : fr1 + 1 ≤ fr ∧ 68 ≤ fr ∧ lo1 + 26 ≤ lo ∧ 1777 ≤ lo) (hg0 : ∀ (x0 : Option Nat) (x1 : Int) (h : ax_H) (w : Int × ax_H), g0 x0 x1 h = some w → ax_Met l G yX5_positiveOf cX5_positiveOf 7 ((some FieldType.boolean)) fr1 lo1 [va_rf x0, .int (Int32.ofInt x1)] h w.2 (some (.int (Int32.ofInt w.1)))) (hg1 : ∀ (x0 : Option Nat) (x1 : Int) (h : ax_H) (w : Int × ax_H), g1 x0 x1 h = some w → ax_Met l G yX5_plainOf cX5_plainOf 3 ((some FieldType.boolean)) fr1 lo1 [va_rf x0, .int (Int32.ofInt x1)] h w.2 (some (.int (Int32.ofInt w.1)))) (hg2 : ∀ (x0 : Option Nat) (x1 : Int) (h : ax_H) (w : Int × ax_H), g2 x0 x1 h = some w → ax_Met l G yX5_bothOf cX5_bothOf 4 ((some FieldType.boolean)) fr1 lo1 [va_rf x0, .int (Int32.ofInt x1)] h w.2 (some (.int (Int32.ofInt w.1)))) (hg3 : ∀ (x0 : Option Nat) (x1 : Int) (h : ax_H) (w : Int × ax_H), g3 x0 x1 h = some w → ax_Met l G yX5_testOf cX5_testOf 4 ((some FieldType.boolean)) fr1 lo1 [va_rf x0, .int (Int32.ofInt x1)] h w.2 (some (.int (Int32.ofInt w.1)))) (hSF : ax_SF G) (B : ax_BL l G X cX5_plainOf 3 RX5 fr lo) (Z : ax_Z X h0 ((some FieldType.boolean))) (hn : X.2.2.2.2.2.2.2.2.1.name = yX5_plainOf.name) (x0 : Option Nat) (x1 : Int) {w : Int × ax_H} (hl : ax_hl ls 3 [(0, .inr (.inr x0)), (1, .inl x1)]) (e : f_X5_plainOf G.2.2 g0 g1 g2 g3 x0 x1 h = some w) (hp : (fun w : Int × ax_H => Q = ax_Q G X h0 w.2 (some (.int (Int32.ofInt w.1)))) w) : ax_W G X Q h 0 ls [] := by
  unfold f_X5_plainOf at e
  refine ax_iconst B dX5_plainOf_0 ?_
  refine ax_istore_n (L' := [(2, .inl 0), (0, .inr (.inr x0)), (1, .inl x1)]) B dX5_plainOf_1 rfl hl (by decide) rfl (fun ls hl => ?_)
  exact w_X5_plainOf_2 hF hg0 hg1 hg2 hg3 hSF B Z hn x0 x1 0 (hl.sub [1, 2, 0] rfl) e hp
theorem mt_X5_plainOf (l : Launch) (G : ax_G) (hSF : ax_SF G) {g0 : Option Nat → Int → ax_H → Option (Int × ax_H)} {g1 : Option Nat → Int → ax_H → Option (Int × ax_H)} {g2 : Option Nat → Int → ax_H → Option (Int × ax_H)} {g3 : Option Nat → Int → ax_H → Option (Int × ax_H)} {fr lo fr1 lo1 : Nat} (hF : fr1 + 1 ≤ fr ∧ 68 ≤ fr ∧ lo1 + 26 ≤ lo ∧ 1777 ≤ lo) (hg0 : ∀ (x0 : Option Nat) (x1 : Int) (h : ax_H) (w : Int × ax_H), g0 x0 x1 h = some w → ax_Met l G yX5_positiveOf cX5_positiveOf 7 ((some FieldType.boolean)) fr1 lo1 [va_rf x0, .int (Int32.ofInt x1)] h w.2 (some (.int (Int32.ofInt w.1)))) (hg1 : ∀ (x0 : Option Nat) (x1 : Int) (h : ax_H) (w : Int × ax_H), g1 x0 x1 h = some w → ax_Met l G yX5_plainOf cX5_plainOf 3 ((some FieldType.boolean)) fr1 lo1 [va_rf x0, .int (Int32.ofInt x1)] h w.2 (some (.int (Int32.ofInt w.1)))) (hg2 : ∀ (x0 : Option Nat) (x1 : Int) (h : ax_H) (w : Int × ax_H), g2 x0 x1 h = some w → ax_Met l G yX5_bothOf cX5_bothOf 4 ((some FieldType.boolean)) fr1 lo1 [va_rf x0, .int (Int32.ofInt x1)] h w.2 (some (.int (Int32.ofInt w.1)))) (hg3 : ∀ (x0 : Option Nat) (x1 : Int) (h : ax_H) (w : Int × ax_H), g3 x0 x1 h = some w → ax_Met l G yX5_testOf cX5_testOf 4 ((some FieldType.boolean)) fr1 lo1 [va_rf x0, .int (Int32.ofInt x1)] h w.2 (some (.int (Int32.ofInt w.1)))) (x0 : Option Nat) (x1 : Int) (h : ax_H) (w : Int × ax_H) (e : f_X5_plainOf G.2.2 g0 g1 g2 g3 x0 x1 h = some w) : ax_Met l G yX5_plainOf cX5_plainOf 3 ((some FieldType.boolean)) fr lo [va_rf x0, .int (Int32.ofInt x1)] h w.2 (some (.int (Int32.ofInt w.1))) :=
  ax_enter [.inr (.inr x0), .inl x1] (y := yX5_plainOf) hSF (plainFor_of_name (by decide +kernel)) (Nat.le_of_ble_eq_true rfl) (fun X ls B Z hn hl => we_X5_plainOf hF hg0 hg1 hg2 hg3 hSF B Z hn x0 x1 hl e rfl)
def pi_X5_bothOf_6 (G : ax_G) (X : ax_X) (Q : State → Prop) (x0 : Option Nat) (x1 : Int) : Int × ax_H → Prop := fun s => ∀ ls : Array Slot, ax_hl ls 4 [(0, .inr (.inr x0)), (1, .inl x1), (2, .inl s.1)] → ax_W G X Q s.2 6 ls []
set_option maxHeartbeats 4000000 in
theorem w_X5_bothOf_46 {l : Launch} {G : ax_G} {X : ax_X} {Q : State → Prop} {h0 h : ax_H} {ls : Array Slot} {g0 : Option Nat → Int → ax_H → Option (Int × ax_H)} {g1 : Option Nat → Int → ax_H → Option (Int × ax_H)} {g2 : Option Nat → Int → ax_H → Option (Int × ax_H)} {g3 : Option Nat → Int → ax_H → Option (Int × ax_H)} {fr lo fr1 lo1 : Nat} (hF : fr1 + 1 ≤ fr ∧ 68 ≤ fr ∧ lo1 + 26 ≤ lo ∧ 1777 ≤ lo) (hg0 : ∀ (x0 : Option Nat) (x1 : Int) (h : ax_H) (w : Int × ax_H), g0 x0 x1 h = some w → ax_Met l G yX5_positiveOf cX5_positiveOf 7 ((some FieldType.boolean)) fr1 lo1 [va_rf x0, .int (Int32.ofInt x1)] h w.2 (some (.int (Int32.ofInt w.1)))) (hg1 : ∀ (x0 : Option Nat) (x1 : Int) (h : ax_H) (w : Int × ax_H), g1 x0 x1 h = some w → ax_Met l G yX5_plainOf cX5_plainOf 3 ((some FieldType.boolean)) fr1 lo1 [va_rf x0, .int (Int32.ofInt x1)] h w.2 (some (.int (Int32.ofInt w.1)))) (hg2 : ∀ (x0 : Option Nat) (x1 : Int) (h : ax_H) (w : Int × ax_H), g2 x0 x1 h = some w → ax_Met l G yX5_bothOf cX5_bothOf 4 ((some FieldType.boolean)) fr1 lo1 [va_rf x0, .int (Int32.ofInt x1)] h w.2 (some (.int (Int32.ofInt w.1)))) (hg3 : ∀ (x0 : Option Nat) (x1 : Int) (h : ax_H) (w : Int × ax_H), g3 x0 x1 h = some w → ax_Met l G yX5_testOf cX5_testOf 4 ((some FieldType.boolean)) fr1 lo1 [va_rf x0, .int (Int32.ofInt x1)] h w.2 (some (.int (Int32.ofInt w.1)))) (hSF : ax_SF G) (B : ax_BL l G X cX5_bothOf 4 RX5 fr lo) (Z : ax_Z X h0 ((some FieldType.boolean))) (hn : X.2.2.2.2.2.2.2.2.1.name = yX5_bothOf.name) (x0 : Option Nat) (x1 : Int) (s0 : Int) {w : (Int × ax_H) ⊕ (Int × ax_H)} (hl : ax_hl ls 4 [(0, .inr (.inr x0)), (1, .inl x1)]) (e : f_X5_bothOf_46 G.2.2 g0 g1 g2 g3 x0 x1 s0 h = some w) (hp : (ax_PL (pi_X5_bothOf_6 G X Q x0 x1) (fun w : Int × ax_H => Q = ax_Q G X h0 w.2 (some (.int (Int32.ofInt w.1))))) w) : ax_W G X Q h 46 ls [.int (Int32.ofInt s0)] := by
  unfold f_X5_bothOf_46 at e
  refine ax_istore_n (L' := [(2, .inl s0), (0, .inr (.inr x0)), (1, .inl x1)]) B dX5_bothOf_46 rfl hl (by decide) rfl (fun ls hl => ?_)
  refine ax_goto (tgt := 6) B dX5_bothOf_47 (by decide) ?_
  cases e
  exact hp _ (hl.sub [1, 2, 0] rfl)
set_option maxHeartbeats 4000000 in
theorem w_X5_bothOf_45 {l : Launch} {G : ax_G} {X : ax_X} {Q : State → Prop} {h0 h : ax_H} {ls : Array Slot} {g0 : Option Nat → Int → ax_H → Option (Int × ax_H)} {g1 : Option Nat → Int → ax_H → Option (Int × ax_H)} {g2 : Option Nat → Int → ax_H → Option (Int × ax_H)} {g3 : Option Nat → Int → ax_H → Option (Int × ax_H)} {fr lo fr1 lo1 : Nat} (hF : fr1 + 1 ≤ fr ∧ 68 ≤ fr ∧ lo1 + 26 ≤ lo ∧ 1777 ≤ lo) (hg0 : ∀ (x0 : Option Nat) (x1 : Int) (h : ax_H) (w : Int × ax_H), g0 x0 x1 h = some w → ax_Met l G yX5_positiveOf cX5_positiveOf 7 ((some FieldType.boolean)) fr1 lo1 [va_rf x0, .int (Int32.ofInt x1)] h w.2 (some (.int (Int32.ofInt w.1)))) (hg1 : ∀ (x0 : Option Nat) (x1 : Int) (h : ax_H) (w : Int × ax_H), g1 x0 x1 h = some w → ax_Met l G yX5_plainOf cX5_plainOf 3 ((some FieldType.boolean)) fr1 lo1 [va_rf x0, .int (Int32.ofInt x1)] h w.2 (some (.int (Int32.ofInt w.1)))) (hg2 : ∀ (x0 : Option Nat) (x1 : Int) (h : ax_H) (w : Int × ax_H), g2 x0 x1 h = some w → ax_Met l G yX5_bothOf cX5_bothOf 4 ((some FieldType.boolean)) fr1 lo1 [va_rf x0, .int (Int32.ofInt x1)] h w.2 (some (.int (Int32.ofInt w.1)))) (hg3 : ∀ (x0 : Option Nat) (x1 : Int) (h : ax_H) (w : Int × ax_H), g3 x0 x1 h = some w → ax_Met l G yX5_testOf cX5_testOf 4 ((some FieldType.boolean)) fr1 lo1 [va_rf x0, .int (Int32.ofInt x1)] h w.2 (some (.int (Int32.ofInt w.1)))) (hSF : ax_SF G) (B : ax_BL l G X cX5_bothOf 4 RX5 fr lo) (Z : ax_Z X h0 ((some FieldType.boolean))) (hn : X.2.2.2.2.2.2.2.2.1.name = yX5_bothOf.name) (x0 : Option Nat) (x1 : Int) {w : (Int × ax_H) ⊕ (Int × ax_H)} (hl : ax_hl ls 4 [(0, .inr (.inr x0)), (1, .inl x1)]) (e : f_X5_bothOf_45 G.2.2 g0 g1 g2 g3 x0 x1 h = some w) (hp : (ax_PL (pi_X5_bothOf_6 G X Q x0 x1) (fun w : Int × ax_H => Q = ax_Q G X h0 w.2 (some (.int (Int32.ofInt w.1))))) w) : ax_W G X Q h 45 ls [] := by
  unfold f_X5_bothOf_45 at e
  refine ax_iconst B dX5_bothOf_45 ?_
  exact w_X5_bothOf_46 hF hg0 hg1 hg2 hg3 hSF B Z hn x0 x1 0 (hl.sub [0, 1] rfl) e hp
set_option maxHeartbeats 4000000 in
theorem w_X5_bothOf_29 {l : Launch} {G : ax_G} {X : ax_X} {Q : State → Prop} {h0 h : ax_H} {ls : Array Slot} {g0 : Option Nat → Int → ax_H → Option (Int × ax_H)} {g1 : Option Nat → Int → ax_H → Option (Int × ax_H)} {g2 : Option Nat → Int → ax_H → Option (Int × ax_H)} {g3 : Option Nat → Int → ax_H → Option (Int × ax_H)} {fr lo fr1 lo1 : Nat} (hF : fr1 + 1 ≤ fr ∧ 68 ≤ fr ∧ lo1 + 26 ≤ lo ∧ 1777 ≤ lo) (hg0 : ∀ (x0 : Option Nat) (x1 : Int) (h : ax_H) (w : Int × ax_H), g0 x0 x1 h = some w → ax_Met l G yX5_positiveOf cX5_positiveOf 7 ((some FieldType.boolean)) fr1 lo1 [va_rf x0, .int (Int32.ofInt x1)] h w.2 (some (.int (Int32.ofInt w.1)))) (hg1 : ∀ (x0 : Option Nat) (x1 : Int) (h : ax_H) (w : Int × ax_H), g1 x0 x1 h = some w → ax_Met l G yX5_plainOf cX5_plainOf 3 ((some FieldType.boolean)) fr1 lo1 [va_rf x0, .int (Int32.ofInt x1)] h w.2 (some (.int (Int32.ofInt w.1)))) (hg2 : ∀ (x0 : Option Nat) (x1 : Int) (h : ax_H) (w : Int × ax_H), g2 x0 x1 h = some w → ax_Met l G yX5_bothOf cX5_bothOf 4 ((some FieldType.boolean)) fr1 lo1 [va_rf x0, .int (Int32.ofInt x1)] h w.2 (some (.int (Int32.ofInt w.1)))) (hg3 : ∀ (x0 : Option Nat) (x1 : Int) (h : ax_H) (w : Int × ax_H), g3 x0 x1 h = some w → ax_Met l G yX5_testOf cX5_testOf 4 ((some FieldType.boolean)) fr1 lo1 [va_rf x0, .int (Int32.ofInt x1)] h w.2 (some (.int (Int32.ofInt w.1)))) (hSF : ax_SF G) (B : ax_BL l G X cX5_bothOf 4 RX5 fr lo) (Z : ax_Z X h0 ((some FieldType.boolean))) (hn : X.2.2.2.2.2.2.2.2.1.name = yX5_bothOf.name) (x0 : Option Nat) (x1 : Int) (x2 : Int) (s0 : Option Nat) (s1 : Int) {w : (Int × ax_H) ⊕ (Int × ax_H)} (hl : ax_hl ls 4 [(0, .inr (.inr x0)), (1, .inl x1), (2, .inl x2)]) (e : f_X5_bothOf_29 G.2.2 g0 g1 g2 g3 x0 x1 x2 s0 s1 h = some w) (hp : (ax_PL (pi_X5_bothOf_6 G X Q x0 x1) (fun w : Int × ax_H => Q = ax_Q G X h0 w.2 (some (.int (Int32.ofInt w.1))))) w) : ax_W G X Q h 29 ls [.int (Int32.ofInt s1), va_rf s0] := by
  unfold f_X5_bothOf_29 at e
  refine ax_ivI (y := yX5_plainOf) (n := 1) (As := [.int (Int32.ofInt s1)]) B kd5 (lw_V q2288 q2290 qs64 q133 q2291) (by decide +kernel) (by omega) (fun w1 e1 => hg1 s0 s1 _ w1 e1) rfl hl.size (by decide) dX5_bothOf_29 e (fun q1 e => ?_)
  refine ax_istore_n (L' := [(3, .inl q1.1), (0, .inr (.inr x0)), (1, .inl x1), (2, .inl x2)]) B dX5_bothOf_32 rfl hl (by decide) rfl (fun ls hl => ?_)
  refine ax_iload_n B dX5_bothOf_33 rfl hl 3 rfl ?_
  refine ax_if_eq (tgt := 45) B dX5_bothOf_34 (by decide) e (fun e => ?_) (fun e => ?_)
  · exact w_X5_bothOf_45 hF hg0 hg1 hg2 hg3 hSF B Z hn x0 x1 (hl.sub [1, 2] rfl) e hp
  · refine ax_iload_n B dX5_bothOf_37 rfl hl 0 rfl ?_
    refine ax_if_eq (tgt := 45) B dX5_bothOf_38 (by decide) e (fun e => ?_) (fun e => ?_)
    · exact w_X5_bothOf_45 hF hg0 hg1 hg2 hg3 hSF B Z hn x0 x1 (hl.sub [1, 2] rfl) e hp
    · refine ax_iconst B dX5_bothOf_41 ?_
      refine ax_goto (tgt := 46) B dX5_bothOf_42 (by decide) ?_
      exact w_X5_bothOf_46 hF hg0 hg1 hg2 hg3 hSF B Z hn x0 x1 1 (hl.sub [1, 2] rfl) e hp
set_option maxHeartbeats 4000000 in
theorem w_X5_bothOf_28 {l : Launch} {G : ax_G} {X : ax_X} {Q : State → Prop} {h0 h : ax_H} {ls : Array Slot} {g0 : Option Nat → Int → ax_H → Option (Int × ax_H)} {g1 : Option Nat → Int → ax_H → Option (Int × ax_H)} {g2 : Option Nat → Int → ax_H → Option (Int × ax_H)} {g3 : Option Nat → Int → ax_H → Option (Int × ax_H)} {fr lo fr1 lo1 : Nat} (hF : fr1 + 1 ≤ fr ∧ 68 ≤ fr ∧ lo1 + 26 ≤ lo ∧ 1777 ≤ lo) (hg0 : ∀ (x0 : Option Nat) (x1 : Int) (h : ax_H) (w : Int × ax_H), g0 x0 x1 h = some w → ax_Met l G yX5_positiveOf cX5_positiveOf 7 ((some FieldType.boolean)) fr1 lo1 [va_rf x0, .int (Int32.ofInt x1)] h w.2 (some (.int (Int32.ofInt w.1)))) (hg1 : ∀ (x0 : Option Nat) (x1 : Int) (h : ax_H) (w : Int × ax_H), g1 x0 x1 h = some w → ax_Met l G yX5_plainOf cX5_plainOf 3 ((some FieldType.boolean)) fr1 lo1 [va_rf x0, .int (Int32.ofInt x1)] h w.2 (some (.int (Int32.ofInt w.1)))) (hg2 : ∀ (x0 : Option Nat) (x1 : Int) (h : ax_H) (w : Int × ax_H), g2 x0 x1 h = some w → ax_Met l G yX5_bothOf cX5_bothOf 4 ((some FieldType.boolean)) fr1 lo1 [va_rf x0, .int (Int32.ofInt x1)] h w.2 (some (.int (Int32.ofInt w.1)))) (hg3 : ∀ (x0 : Option Nat) (x1 : Int) (h : ax_H) (w : Int × ax_H), g3 x0 x1 h = some w → ax_Met l G yX5_testOf cX5_testOf 4 ((some FieldType.boolean)) fr1 lo1 [va_rf x0, .int (Int32.ofInt x1)] h w.2 (some (.int (Int32.ofInt w.1)))) (hSF : ax_SF G) (B : ax_BL l G X cX5_bothOf 4 RX5 fr lo) (Z : ax_Z X h0 ((some FieldType.boolean))) (hn : X.2.2.2.2.2.2.2.2.1.name = yX5_bothOf.name) (x0 : Option Nat) (x1 : Int) (x2 : Int) (s0 : Option Nat) {w : (Int × ax_H) ⊕ (Int × ax_H)} (hl : ax_hl ls 4 [(0, .inr (.inr x0)), (1, .inl x1), (2, .inl x2)]) (e : f_X5_bothOf_28 G.2.2 g0 g1 g2 g3 x0 x1 x2 s0 h = some w) (hp : (ax_PL (pi_X5_bothOf_6 G X Q x0 x1) (fun w : Int × ax_H => Q = ax_Q G X h0 w.2 (some (.int (Int32.ofInt w.1))))) w) : ax_W G X Q h 28 ls [va_rf s0] := by
  unfold f_X5_bothOf_28 at e
  refine ax_iconst B dX5_bothOf_28 ?_
  exact w_X5_bothOf_29 hF hg0 hg1 hg2 hg3 hSF B Z hn x0 x1 x2 s0 0 (hl.sub [0, 1, 2] rfl) e hp
set_option maxHeartbeats 4000000 in
theorem wb_X5_bothOf_6 {l : Launch} {G : ax_G} {X : ax_X} {Q : State → Prop} {h0 h : ax_H} {ls : Array Slot} {g0 : Option Nat → Int → ax_H → Option (Int × ax_H)} {g1 : Option Nat → Int → ax_H → Option (Int × ax_H)} {g2 : Option Nat → Int → ax_H → Option (Int × ax_H)} {g3 : Option Nat → Int → ax_H → Option (Int × ax_H)} {fr lo fr1 lo1 : Nat} (hF : fr1 + 1 ≤ fr ∧ 68 ≤ fr ∧ lo1 + 26 ≤ lo ∧ 1777 ≤ lo) (hg0 : ∀ (x0 : Option Nat) (x1 : Int) (h : ax_H) (w : Int × ax_H), g0 x0 x1 h = some w → ax_Met l G yX5_positiveOf cX5_positiveOf 7 ((some FieldType.boolean)) fr1 lo1 [va_rf x0, .int (Int32.ofInt x1)] h w.2 (some (.int (Int32.ofInt w.1)))) (hg1 : ∀ (x0 : Option Nat) (x1 : Int) (h : ax_H) (w : Int × ax_H), g1 x0 x1 h = some w → ax_Met l G yX5_plainOf cX5_plainOf 3 ((some FieldType.boolean)) fr1 lo1 [va_rf x0, .int (Int32.ofInt x1)] h w.2 (some (.int (Int32.ofInt w.1)))) (hg2 : ∀ (x0 : Option Nat) (x1 : Int) (h : ax_H) (w : Int × ax_H), g2 x0 x1 h = some w → ax_Met l G yX5_bothOf cX5_bothOf 4 ((some FieldType.boolean)) fr1 lo1 [va_rf x0, .int (Int32.ofInt x1)] h w.2 (some (.int (Int32.ofInt w.1)))) (hg3 : ∀ (x0 : Option Nat) (x1 : Int) (h : ax_H) (w : Int × ax_H), g3 x0 x1 h = some w → ax_Met l G yX5_testOf cX5_testOf 4 ((some FieldType.boolean)) fr1 lo1 [va_rf x0, .int (Int32.ofInt x1)] h w.2 (some (.int (Int32.ofInt w.1)))) (hSF : ax_SF G) (B : ax_BL l G X cX5_bothOf 4 RX5 fr lo) (Z : ax_Z X h0 ((some FieldType.boolean))) (hn : X.2.2.2.2.2.2.2.2.1.name = yX5_bothOf.name) (x0 : Option Nat) (x1 : Int) (x2 : Int) {w : (Int × ax_H) ⊕ (Int × ax_H)} (hl : ax_hl ls 4 [(0, .inr (.inr x0)), (1, .inl x1), (2, .inl x2)]) (e : lb_X5_bothOf_6 G.2.2 g0 g1 g2 g3 x0 x1 x2 h = some w) (hp : (ax_PL (pi_X5_bothOf_6 G X Q x0 x1) (fun w : Int × ax_H => Q = ax_Q G X h0 w.2 (some (.int (Int32.ofInt w.1))))) w) : ax_W G X Q h 6 ls [] := by
  unfold lb_X5_bothOf_6 at e
  refine ax_aload_n B dX5_bothOf_6 rfl hl 0 rfl ?_
  refine ax_bipush B dX5_bothOf_7 (by decide) ?_
  refine ax_ivI (y := yX5_passes0) (n := 1) (As := [.int (Int32.ofInt 7)]) B kd5 (lw_V q2269 q2271 qs60 q133 q2272) (by decide +kernel) (by omega) (fun w1 e1 => mt_X5_passes0 l G hSF x0 7 _ w1 e1) rfl hl.size (by decide) dX5_bothOf_9 e (fun q1 e => ?_)
  refine ax_if_eq (tgt := 50) B dX5_bothOf_12 (by decide) e (fun e => ?_) (fun e => ?_)
  · obtain ⟨w, e9_1, rfl⟩ := Option.map_eq_some_iff.mp e
    have e := e9_1
    refine ax_iload_n B dX5_bothOf_50 rfl hl 2 rfl ?_
    have e8 := e
    have hp : Q = _ := hp
    subst hp
    exact ax_zreturn B Z dX5_bothOf_51 e8
  · refine ax_aload_n B dX5_bothOf_15 rfl hl 0 rfl ?_
    refine ax_iload_n B dX5_bothOf_16 rfl hl 1 rfl ?_
    refine ax_if_eq (tgt := 28) B dX5_bothOf_17 (by decide) e (fun e => ?_) (fun e => ?_)
    · exact w_X5_bothOf_28 hF hg0 hg1 hg2 hg3 hSF B Z hn x0 x1 x2 x0 (hl.sub [0, 1, 2] rfl) e hp
    · refine ax_iload_n B dX5_bothOf_20 rfl hl 2 rfl ?_
      refine ax_if_eq (tgt := 28) B dX5_bothOf_21 (by decide) e (fun e => ?_) (fun e => ?_)
      · exact w_X5_bothOf_28 hF hg0 hg1 hg2 hg3 hSF B Z hn x0 x1 x2 x0 (hl.sub [0, 1, 2] rfl) e hp
      · refine ax_iconst B dX5_bothOf_24 ?_
        refine ax_goto (tgt := 29) B dX5_bothOf_25 (by decide) ?_
        exact w_X5_bothOf_29 hF hg0 hg1 hg2 hg3 hSF B Z hn x0 x1 x2 x0 1 (hl.sub [0, 1, 2] rfl) e hp
theorem w_X5_bothOf_6 {l : Launch} {G : ax_G} {X : ax_X} {Q : State → Prop} {h0 h : ax_H} {ls : Array Slot} {g0 : Option Nat → Int → ax_H → Option (Int × ax_H)} {g1 : Option Nat → Int → ax_H → Option (Int × ax_H)} {g2 : Option Nat → Int → ax_H → Option (Int × ax_H)} {g3 : Option Nat → Int → ax_H → Option (Int × ax_H)} {fr lo fr1 lo1 : Nat} (hF : fr1 + 1 ≤ fr ∧ 68 ≤ fr ∧ lo1 + 26 ≤ lo ∧ 1777 ≤ lo) (hg0 : ∀ (x0 : Option Nat) (x1 : Int) (h : ax_H) (w : Int × ax_H), g0 x0 x1 h = some w → ax_Met l G yX5_positiveOf cX5_positiveOf 7 ((some FieldType.boolean)) fr1 lo1 [va_rf x0, .int (Int32.ofInt x1)] h w.2 (some (.int (Int32.ofInt w.1)))) (hg1 : ∀ (x0 : Option Nat) (x1 : Int) (h : ax_H) (w : Int × ax_H), g1 x0 x1 h = some w → ax_Met l G yX5_plainOf cX5_plainOf 3 ((some FieldType.boolean)) fr1 lo1 [va_rf x0, .int (Int32.ofInt x1)] h w.2 (some (.int (Int32.ofInt w.1)))) (hg2 : ∀ (x0 : Option Nat) (x1 : Int) (h : ax_H) (w : Int × ax_H), g2 x0 x1 h = some w → ax_Met l G yX5_bothOf cX5_bothOf 4 ((some FieldType.boolean)) fr1 lo1 [va_rf x0, .int (Int32.ofInt x1)] h w.2 (some (.int (Int32.ofInt w.1)))) (hg3 : ∀ (x0 : Option Nat) (x1 : Int) (h : ax_H) (w : Int × ax_H), g3 x0 x1 h = some w → ax_Met l G yX5_testOf cX5_testOf 4 ((some FieldType.boolean)) fr1 lo1 [va_rf x0, .int (Int32.ofInt x1)] h w.2 (some (.int (Int32.ofInt w.1)))) (hSF : ax_SF G) (B : ax_BL l G X cX5_bothOf 4 RX5 fr lo) (Z : ax_Z X h0 ((some FieldType.boolean))) (hn : X.2.2.2.2.2.2.2.2.1.name = yX5_bothOf.name) (x0 : Option Nat) (x1 : Int) (x2 : Int) {w : Int × ax_H} (hl : ax_hl ls 4 [(0, .inr (.inr x0)), (1, .inl x1), (2, .inl x2)]) (e : f_X5_bothOf_6 G.2.2 g0 g1 g2 g3 x0 x1 x2 h = some w) (hp : (fun w : Int × ax_H => Q = ax_Q G X h0 w.2 (some (.int (Int32.ofInt w.1)))) w) : ax_W G X Q h 6 ls [] :=
  ax_iter_W (Pin := pi_X5_bothOf_6 G X Q x0 x1) (Pout := (fun w : Int × ax_H => Q = ax_Q G X h0 w.2 (some (.int (Int32.ofInt w.1))))) (fun s w e hp ls hl => wb_X5_bothOf_6 hF hg0 hg1 hg2 hg3 hSF B Z hn x0 x1 s.1 hl e hp) _ _ e hp ls hl
set_option maxHeartbeats 4000000 in
theorem we_X5_bothOf {l : Launch} {G : ax_G} {X : ax_X} {Q : State → Prop} {h0 h : ax_H} {ls : Array Slot} {g0 : Option Nat → Int → ax_H → Option (Int × ax_H)} {g1 : Option Nat → Int → ax_H → Option (Int × ax_H)} {g2 : Option Nat → Int → ax_H → Option (Int × ax_H)} {g3 : Option Nat → Int → ax_H → Option (Int × ax_H)} {fr lo fr1 lo1 : Nat} (hF : fr1 + 1 ≤ fr ∧ 68 ≤ fr ∧ lo1 + 26 ≤ lo ∧ 1777 ≤ lo) (hg0 : ∀ (x0 : Option Nat) (x1 : Int) (h : ax_H) (w : Int × ax_H), g0 x0 x1 h = some w → ax_Met l G yX5_positiveOf cX5_positiveOf 7 ((some FieldType.boolean)) fr1 lo1 [va_rf x0, .int (Int32.ofInt x1)] h w.2 (some (.int (Int32.ofInt w.1)))) (hg1 : ∀ (x0 : Option Nat) (x1 : Int) (h : ax_H) (w : Int × ax_H), g1 x0 x1 h = some w → ax_Met l G yX5_plainOf cX5_plainOf 3 ((some FieldType.boolean)) fr1 lo1 [va_rf x0, .int (Int32.ofInt x1)] h w.2 (some (.int (Int32.ofInt w.1)))) (hg2 : ∀ (x0 : Option Nat) (x1 : Int) (h : ax_H) (w : Int × ax_H), g2 x0 x1 h = some w → ax_Met l G yX5_bothOf cX5_bothOf 4 ((some FieldType.boolean)) fr1 lo1 [va_rf x0, .int (Int32.ofInt x1)] h w.2 (some (.int (Int32.ofInt w.1)))) (hg3 : ∀ (x0 : Option Nat) (x1 : Int) (h : ax_H) (w : Int × ax_H), g3 x0 x1 h = some w → ax_Met l G yX5_testOf cX5_testOf 4 ((some FieldType.boolean)) fr1 lo1 [va_rf x0, .int (Int32.ofInt x1)] h w.2 (some (.int (Int32.ofInt w.1)))) (hSF : ax_SF G) (B : ax_BL l G X cX5_bothOf 4 RX5 fr lo) (Z : ax_Z X h0 ((some FieldType.boolean))) (hn : X.2.2.2.2.2.2.2.2.1.name = yX5_bothOf.name) (x0 : Option Nat) (x1 : Int) {w : Int × ax_H} (hl : ax_hl ls 4 [(0, .inr (.inr x0)), (1, .inl x1)]) (e : f_X5_bothOf G.2.2 g0 g1 g2 g3 x0 x1 h = some w) (hp : (fun w : Int × ax_H => Q = ax_Q G X h0 w.2 (some (.int (Int32.ofInt w.1)))) w) : ax_W G X Q h 0 ls [] := by
  unfold f_X5_bothOf at e
  refine ax_aload_n B dX5_bothOf_0 rfl hl 0 rfl ?_
  refine ax_iload_n B dX5_bothOf_1 rfl hl 1 rfl ?_
  refine ax_ivI (y := yX5_plainOf) (n := 1) (As := [.int (Int32.ofInt x1)]) B kd5 (lw_V q2288 q2290 qs64 q133 q2291) (by decide +kernel) (by omega) (fun w1 e1 => hg1 x0 x1 _ w1 e1) rfl hl.size (by decide) dX5_bothOf_2 e (fun q1 e => ?_)
  refine ax_istore_n (L' := [(2, .inl q1.1), (0, .inr (.inr x0)), (1, .inl x1)]) B dX5_bothOf_5 rfl hl (by decide) rfl (fun ls hl => ?_)
  exact w_X5_bothOf_6 hF hg0 hg1 hg2 hg3 hSF B Z hn x0 x1 q1.1 (hl.sub [1, 2, 0] rfl) e hp
theorem mt_X5_bothOf (l : Launch) (G : ax_G) (hSF : ax_SF G) {g0 : Option Nat → Int → ax_H → Option (Int × ax_H)} {g1 : Option Nat → Int → ax_H → Option (Int × ax_H)} {g2 : Option Nat → Int → ax_H → Option (Int × ax_H)} {g3 : Option Nat → Int → ax_H → Option (Int × ax_H)} {fr lo fr1 lo1 : Nat} (hF : fr1 + 1 ≤ fr ∧ 68 ≤ fr ∧ lo1 + 26 ≤ lo ∧ 1777 ≤ lo) (hg0 : ∀ (x0 : Option Nat) (x1 : Int) (h : ax_H) (w : Int × ax_H), g0 x0 x1 h = some w → ax_Met l G yX5_positiveOf cX5_positiveOf 7 ((some FieldType.boolean)) fr1 lo1 [va_rf x0, .int (Int32.ofInt x1)] h w.2 (some (.int (Int32.ofInt w.1)))) (hg1 : ∀ (x0 : Option Nat) (x1 : Int) (h : ax_H) (w : Int × ax_H), g1 x0 x1 h = some w → ax_Met l G yX5_plainOf cX5_plainOf 3 ((some FieldType.boolean)) fr1 lo1 [va_rf x0, .int (Int32.ofInt x1)] h w.2 (some (.int (Int32.ofInt w.1)))) (hg2 : ∀ (x0 : Option Nat) (x1 : Int) (h : ax_H) (w : Int × ax_H), g2 x0 x1 h = some w → ax_Met l G yX5_bothOf cX5_bothOf 4 ((some FieldType.boolean)) fr1 lo1 [va_rf x0, .int (Int32.ofInt x1)] h w.2 (some (.int (Int32.ofInt w.1)))) (hg3 : ∀ (x0 : Option Nat) (x1 : Int) (h : ax_H) (w : Int × ax_H), g3 x0 x1 h = some w → ax_Met l G yX5_testOf cX5_testOf 4 ((some FieldType.boolean)) fr1 lo1 [va_rf x0, .int (Int32.ofInt x1)] h w.2 (some (.int (Int32.ofInt w.1)))) (x0 : Option Nat) (x1 : Int) (h : ax_H) (w : Int × ax_H) (e : f_X5_bothOf G.2.2 g0 g1 g2 g3 x0 x1 h = some w) : ax_Met l G yX5_bothOf cX5_bothOf 4 ((some FieldType.boolean)) fr lo [va_rf x0, .int (Int32.ofInt x1)] h w.2 (some (.int (Int32.ofInt w.1))) :=
  ax_enter [.inr (.inr x0), .inl x1] (y := yX5_bothOf) hSF (plainFor_of_name (by decide +kernel)) (Nat.le_of_ble_eq_true rfl) (fun X ls B Z hn hl => we_X5_bothOf hF hg0 hg1 hg2 hg3 hSF B Z hn x0 x1 hl e rfl)
def pi_X5_testOf_6 (G : ax_G) (X : ax_X) (Q : State → Prop) (x0 : Option Nat) (x1 : Int) : Int × ax_H → Prop := fun s => ∀ ls : Array Slot, ax_hl ls 4 [(0, .inr (.inr x0)), (1, .inl x1), (2, .inl s.1)] → ax_W G X Q s.2 6 ls []
set_option maxHeartbeats 4000000 in
theorem w_X5_testOf_46 {l : Launch} {G : ax_G} {X : ax_X} {Q : State → Prop} {h0 h : ax_H} {ls : Array Slot} {g0 : Option Nat → Int → ax_H → Option (Int × ax_H)} {g1 : Option Nat → Int → ax_H → Option (Int × ax_H)} {g2 : Option Nat → Int → ax_H → Option (Int × ax_H)} {g3 : Option Nat → Int → ax_H → Option (Int × ax_H)} {fr lo fr1 lo1 : Nat} (hF : fr1 + 1 ≤ fr ∧ 68 ≤ fr ∧ lo1 + 26 ≤ lo ∧ 1777 ≤ lo) (hg0 : ∀ (x0 : Option Nat) (x1 : Int) (h : ax_H) (w : Int × ax_H), g0 x0 x1 h = some w → ax_Met l G yX5_positiveOf cX5_positiveOf 7 ((some FieldType.boolean)) fr1 lo1 [va_rf x0, .int (Int32.ofInt x1)] h w.2 (some (.int (Int32.ofInt w.1)))) (hg1 : ∀ (x0 : Option Nat) (x1 : Int) (h : ax_H) (w : Int × ax_H), g1 x0 x1 h = some w → ax_Met l G yX5_plainOf cX5_plainOf 3 ((some FieldType.boolean)) fr1 lo1 [va_rf x0, .int (Int32.ofInt x1)] h w.2 (some (.int (Int32.ofInt w.1)))) (hg2 : ∀ (x0 : Option Nat) (x1 : Int) (h : ax_H) (w : Int × ax_H), g2 x0 x1 h = some w → ax_Met l G yX5_bothOf cX5_bothOf 4 ((some FieldType.boolean)) fr1 lo1 [va_rf x0, .int (Int32.ofInt x1)] h w.2 (some (.int (Int32.ofInt w.1)))) (hg3 : ∀ (x0 : Option Nat) (x1 : Int) (h : ax_H) (w : Int × ax_H), g3 x0 x1 h = some w → ax_Met l G yX5_testOf cX5_testOf 4 ((some FieldType.boolean)) fr1 lo1 [va_rf x0, .int (Int32.ofInt x1)] h w.2 (some (.int (Int32.ofInt w.1)))) (hSF : ax_SF G) (B : ax_BL l G X cX5_testOf 4 RX5 fr lo) (Z : ax_Z X h0 ((some FieldType.boolean))) (hn : X.2.2.2.2.2.2.2.2.1.name = yX5_testOf.name) (x0 : Option Nat) (x1 : Int) (s0 : Int) {w : (Int × ax_H) ⊕ (Int × ax_H)} (hl : ax_hl ls 4 [(0, .inr (.inr x0)), (1, .inl x1)]) (e : f_X5_testOf_46 G.2.2 g0 g1 g2 g3 x0 x1 s0 h = some w) (hp : (ax_PL (pi_X5_testOf_6 G X Q x0 x1) (fun w : Int × ax_H => Q = ax_Q G X h0 w.2 (some (.int (Int32.ofInt w.1))))) w) : ax_W G X Q h 46 ls [.int (Int32.ofInt s0)] := by
  unfold f_X5_testOf_46 at e
  refine ax_istore_n (L' := [(2, .inl s0), (0, .inr (.inr x0)), (1, .inl x1)]) B dX5_testOf_46 rfl hl (by decide) rfl (fun ls hl => ?_)
  refine ax_goto (tgt := 6) B dX5_testOf_47 (by decide) ?_
  cases e
  exact hp _ (hl.sub [1, 2, 0] rfl)
set_option maxHeartbeats 4000000 in
theorem w_X5_testOf_41 {l : Launch} {G : ax_G} {X : ax_X} {Q : State → Prop} {h0 h : ax_H} {ls : Array Slot} {g0 : Option Nat → Int → ax_H → Option (Int × ax_H)} {g1 : Option Nat → Int → ax_H → Option (Int × ax_H)} {g2 : Option Nat → Int → ax_H → Option (Int × ax_H)} {g3 : Option Nat → Int → ax_H → Option (Int × ax_H)} {fr lo fr1 lo1 : Nat} (hF : fr1 + 1 ≤ fr ∧ 68 ≤ fr ∧ lo1 + 26 ≤ lo ∧ 1777 ≤ lo) (hg0 : ∀ (x0 : Option Nat) (x1 : Int) (h : ax_H) (w : Int × ax_H), g0 x0 x1 h = some w → ax_Met l G yX5_positiveOf cX5_positiveOf 7 ((some FieldType.boolean)) fr1 lo1 [va_rf x0, .int (Int32.ofInt x1)] h w.2 (some (.int (Int32.ofInt w.1)))) (hg1 : ∀ (x0 : Option Nat) (x1 : Int) (h : ax_H) (w : Int × ax_H), g1 x0 x1 h = some w → ax_Met l G yX5_plainOf cX5_plainOf 3 ((some FieldType.boolean)) fr1 lo1 [va_rf x0, .int (Int32.ofInt x1)] h w.2 (some (.int (Int32.ofInt w.1)))) (hg2 : ∀ (x0 : Option Nat) (x1 : Int) (h : ax_H) (w : Int × ax_H), g2 x0 x1 h = some w → ax_Met l G yX5_bothOf cX5_bothOf 4 ((some FieldType.boolean)) fr1 lo1 [va_rf x0, .int (Int32.ofInt x1)] h w.2 (some (.int (Int32.ofInt w.1)))) (hg3 : ∀ (x0 : Option Nat) (x1 : Int) (h : ax_H) (w : Int × ax_H), g3 x0 x1 h = some w → ax_Met l G yX5_testOf cX5_testOf 4 ((some FieldType.boolean)) fr1 lo1 [va_rf x0, .int (Int32.ofInt x1)] h w.2 (some (.int (Int32.ofInt w.1)))) (hSF : ax_SF G) (B : ax_BL l G X cX5_testOf 4 RX5 fr lo) (Z : ax_Z X h0 ((some FieldType.boolean))) (hn : X.2.2.2.2.2.2.2.2.1.name = yX5_testOf.name) (x0 : Option Nat) (x1 : Int) {w : (Int × ax_H) ⊕ (Int × ax_H)} (hl : ax_hl ls 4 [(0, .inr (.inr x0)), (1, .inl x1)]) (e : f_X5_testOf_41 G.2.2 g0 g1 g2 g3 x0 x1 h = some w) (hp : (ax_PL (pi_X5_testOf_6 G X Q x0 x1) (fun w : Int × ax_H => Q = ax_Q G X h0 w.2 (some (.int (Int32.ofInt w.1))))) w) : ax_W G X Q h 41 ls [] := by
  unfold f_X5_testOf_41 at e
  refine ax_iconst B dX5_testOf_41 ?_
  refine ax_goto (tgt := 46) B dX5_testOf_42 (by decide) ?_
  exact w_X5_testOf_46 hF hg0 hg1 hg2 hg3 hSF B Z hn x0 x1 1 (hl.sub [0, 1] rfl) e hp
set_option maxHeartbeats 4000000 in
theorem w_X5_testOf_29 {l : Launch} {G : ax_G} {X : ax_X} {Q : State → Prop} {h0 h : ax_H} {ls : Array Slot} {g0 : Option Nat → Int → ax_H → Option (Int × ax_H)} {g1 : Option Nat → Int → ax_H → Option (Int × ax_H)} {g2 : Option Nat → Int → ax_H → Option (Int × ax_H)} {g3 : Option Nat → Int → ax_H → Option (Int × ax_H)} {fr lo fr1 lo1 : Nat} (hF : fr1 + 1 ≤ fr ∧ 68 ≤ fr ∧ lo1 + 26 ≤ lo ∧ 1777 ≤ lo) (hg0 : ∀ (x0 : Option Nat) (x1 : Int) (h : ax_H) (w : Int × ax_H), g0 x0 x1 h = some w → ax_Met l G yX5_positiveOf cX5_positiveOf 7 ((some FieldType.boolean)) fr1 lo1 [va_rf x0, .int (Int32.ofInt x1)] h w.2 (some (.int (Int32.ofInt w.1)))) (hg1 : ∀ (x0 : Option Nat) (x1 : Int) (h : ax_H) (w : Int × ax_H), g1 x0 x1 h = some w → ax_Met l G yX5_plainOf cX5_plainOf 3 ((some FieldType.boolean)) fr1 lo1 [va_rf x0, .int (Int32.ofInt x1)] h w.2 (some (.int (Int32.ofInt w.1)))) (hg2 : ∀ (x0 : Option Nat) (x1 : Int) (h : ax_H) (w : Int × ax_H), g2 x0 x1 h = some w → ax_Met l G yX5_bothOf cX5_bothOf 4 ((some FieldType.boolean)) fr1 lo1 [va_rf x0, .int (Int32.ofInt x1)] h w.2 (some (.int (Int32.ofInt w.1)))) (hg3 : ∀ (x0 : Option Nat) (x1 : Int) (h : ax_H) (w : Int × ax_H), g3 x0 x1 h = some w → ax_Met l G yX5_testOf cX5_testOf 4 ((some FieldType.boolean)) fr1 lo1 [va_rf x0, .int (Int32.ofInt x1)] h w.2 (some (.int (Int32.ofInt w.1)))) (hSF : ax_SF G) (B : ax_BL l G X cX5_testOf 4 RX5 fr lo) (Z : ax_Z X h0 ((some FieldType.boolean))) (hn : X.2.2.2.2.2.2.2.2.1.name = yX5_testOf.name) (x0 : Option Nat) (x1 : Int) (x2 : Int) (s0 : Option Nat) (s1 : Int) {w : (Int × ax_H) ⊕ (Int × ax_H)} (hl : ax_hl ls 4 [(0, .inr (.inr x0)), (1, .inl x1), (2, .inl x2)]) (e : f_X5_testOf_29 G.2.2 g0 g1 g2 g3 x0 x1 x2 s0 s1 h = some w) (hp : (ax_PL (pi_X5_testOf_6 G X Q x0 x1) (fun w : Int × ax_H => Q = ax_Q G X h0 w.2 (some (.int (Int32.ofInt w.1))))) w) : ax_W G X Q h 29 ls [.int (Int32.ofInt s1), va_rf s0] := by
  unfold f_X5_testOf_29 at e
  refine ax_ivI (y := yX5_bothOf) (n := 1) (As := [.int (Int32.ofInt s1)]) B kd5 (lw_V q2284 q2286 qs63 q133 q2287) (by decide +kernel) (by omega) (fun w1 e1 => hg2 s0 s1 _ w1 e1) rfl hl.size (by decide) dX5_testOf_29 e (fun q1 e => ?_)
  refine ax_istore_n (L' := [(3, .inl q1.1), (0, .inr (.inr x0)), (1, .inl x1), (2, .inl x2)]) B dX5_testOf_32 rfl hl (by decide) rfl (fun ls hl => ?_)
  refine ax_iload_n B dX5_testOf_33 rfl hl 3 rfl ?_
  refine ax_if_ne (tgt := 41) B dX5_testOf_34 (by decide) e (fun e => ?_) (fun e => ?_)
  · refine ax_iload_n B dX5_testOf_37 rfl hl 0 rfl ?_
    refine ax_if_eq (tgt := 45) B dX5_testOf_38 (by decide) e (fun e => ?_) (fun e => ?_)
    · refine ax_iconst B dX5_testOf_45 ?_
      exact w_X5_testOf_46 hF hg0 hg1 hg2 hg3 hSF B Z hn x0 x1 0 (hl.sub [1, 2] rfl) e hp
    · exact w_X5_testOf_41 hF hg0 hg1 hg2 hg3 hSF B Z hn x0 x1 (hl.sub [1, 2] rfl) e hp
  · exact w_X5_testOf_41 hF hg0 hg1 hg2 hg3 hSF B Z hn x0 x1 (hl.sub [1, 2] rfl) e hp
set_option maxHeartbeats 4000000 in
theorem w_X5_testOf_28 {l : Launch} {G : ax_G} {X : ax_X} {Q : State → Prop} {h0 h : ax_H} {ls : Array Slot} {g0 : Option Nat → Int → ax_H → Option (Int × ax_H)} {g1 : Option Nat → Int → ax_H → Option (Int × ax_H)} {g2 : Option Nat → Int → ax_H → Option (Int × ax_H)} {g3 : Option Nat → Int → ax_H → Option (Int × ax_H)} {fr lo fr1 lo1 : Nat} (hF : fr1 + 1 ≤ fr ∧ 68 ≤ fr ∧ lo1 + 26 ≤ lo ∧ 1777 ≤ lo) (hg0 : ∀ (x0 : Option Nat) (x1 : Int) (h : ax_H) (w : Int × ax_H), g0 x0 x1 h = some w → ax_Met l G yX5_positiveOf cX5_positiveOf 7 ((some FieldType.boolean)) fr1 lo1 [va_rf x0, .int (Int32.ofInt x1)] h w.2 (some (.int (Int32.ofInt w.1)))) (hg1 : ∀ (x0 : Option Nat) (x1 : Int) (h : ax_H) (w : Int × ax_H), g1 x0 x1 h = some w → ax_Met l G yX5_plainOf cX5_plainOf 3 ((some FieldType.boolean)) fr1 lo1 [va_rf x0, .int (Int32.ofInt x1)] h w.2 (some (.int (Int32.ofInt w.1)))) (hg2 : ∀ (x0 : Option Nat) (x1 : Int) (h : ax_H) (w : Int × ax_H), g2 x0 x1 h = some w → ax_Met l G yX5_bothOf cX5_bothOf 4 ((some FieldType.boolean)) fr1 lo1 [va_rf x0, .int (Int32.ofInt x1)] h w.2 (some (.int (Int32.ofInt w.1)))) (hg3 : ∀ (x0 : Option Nat) (x1 : Int) (h : ax_H) (w : Int × ax_H), g3 x0 x1 h = some w → ax_Met l G yX5_testOf cX5_testOf 4 ((some FieldType.boolean)) fr1 lo1 [va_rf x0, .int (Int32.ofInt x1)] h w.2 (some (.int (Int32.ofInt w.1)))) (hSF : ax_SF G) (B : ax_BL l G X cX5_testOf 4 RX5 fr lo) (Z : ax_Z X h0 ((some FieldType.boolean))) (hn : X.2.2.2.2.2.2.2.2.1.name = yX5_testOf.name) (x0 : Option Nat) (x1 : Int) (x2 : Int) (s0 : Option Nat) {w : (Int × ax_H) ⊕ (Int × ax_H)} (hl : ax_hl ls 4 [(0, .inr (.inr x0)), (1, .inl x1), (2, .inl x2)]) (e : f_X5_testOf_28 G.2.2 g0 g1 g2 g3 x0 x1 x2 s0 h = some w) (hp : (ax_PL (pi_X5_testOf_6 G X Q x0 x1) (fun w : Int × ax_H => Q = ax_Q G X h0 w.2 (some (.int (Int32.ofInt w.1))))) w) : ax_W G X Q h 28 ls [va_rf s0] := by
  unfold f_X5_testOf_28 at e
  refine ax_iconst B dX5_testOf_28 ?_
  exact w_X5_testOf_29 hF hg0 hg1 hg2 hg3 hSF B Z hn x0 x1 x2 s0 0 (hl.sub [0, 1, 2] rfl) e hp
set_option maxHeartbeats 4000000 in
theorem wb_X5_testOf_6 {l : Launch} {G : ax_G} {X : ax_X} {Q : State → Prop} {h0 h : ax_H} {ls : Array Slot} {g0 : Option Nat → Int → ax_H → Option (Int × ax_H)} {g1 : Option Nat → Int → ax_H → Option (Int × ax_H)} {g2 : Option Nat → Int → ax_H → Option (Int × ax_H)} {g3 : Option Nat → Int → ax_H → Option (Int × ax_H)} {fr lo fr1 lo1 : Nat} (hF : fr1 + 1 ≤ fr ∧ 68 ≤ fr ∧ lo1 + 26 ≤ lo ∧ 1777 ≤ lo) (hg0 : ∀ (x0 : Option Nat) (x1 : Int) (h : ax_H) (w : Int × ax_H), g0 x0 x1 h = some w → ax_Met l G yX5_positiveOf cX5_positiveOf 7 ((some FieldType.boolean)) fr1 lo1 [va_rf x0, .int (Int32.ofInt x1)] h w.2 (some (.int (Int32.ofInt w.1)))) (hg1 : ∀ (x0 : Option Nat) (x1 : Int) (h : ax_H) (w : Int × ax_H), g1 x0 x1 h = some w → ax_Met l G yX5_plainOf cX5_plainOf 3 ((some FieldType.boolean)) fr1 lo1 [va_rf x0, .int (Int32.ofInt x1)] h w.2 (some (.int (Int32.ofInt w.1)))) (hg2 : ∀ (x0 : Option Nat) (x1 : Int) (h : ax_H) (w : Int × ax_H), g2 x0 x1 h = some w → ax_Met l G yX5_bothOf cX5_bothOf 4 ((some FieldType.boolean)) fr1 lo1 [va_rf x0, .int (Int32.ofInt x1)] h w.2 (some (.int (Int32.ofInt w.1)))) (hg3 : ∀ (x0 : Option Nat) (x1 : Int) (h : ax_H) (w : Int × ax_H), g3 x0 x1 h = some w → ax_Met l G yX5_testOf cX5_testOf 4 ((some FieldType.boolean)) fr1 lo1 [va_rf x0, .int (Int32.ofInt x1)] h w.2 (some (.int (Int32.ofInt w.1)))) (hSF : ax_SF G) (B : ax_BL l G X cX5_testOf 4 RX5 fr lo) (Z : ax_Z X h0 ((some FieldType.boolean))) (hn : X.2.2.2.2.2.2.2.2.1.name = yX5_testOf.name) (x0 : Option Nat) (x1 : Int) (x2 : Int) {w : (Int × ax_H) ⊕ (Int × ax_H)} (hl : ax_hl ls 4 [(0, .inr (.inr x0)), (1, .inl x1), (2, .inl x2)]) (e : lb_X5_testOf_6 G.2.2 g0 g1 g2 g3 x0 x1 x2 h = some w) (hp : (ax_PL (pi_X5_testOf_6 G X Q x0 x1) (fun w : Int × ax_H => Q = ax_Q G X h0 w.2 (some (.int (Int32.ofInt w.1))))) w) : ax_W G X Q h 6 ls [] := by
  unfold lb_X5_testOf_6 at e
  refine ax_aload_n B dX5_testOf_6 rfl hl 0 rfl ?_
  refine ax_bipush B dX5_testOf_7 (by decide) ?_
  refine ax_ivI (y := yX5_passes0) (n := 1) (As := [.int (Int32.ofInt 6)]) B kd5 (lw_V q2269 q2271 qs60 q133 q2272) (by decide +kernel) (by omega) (fun w1 e1 => mt_X5_passes0 l G hSF x0 6 _ w1 e1) rfl hl.size (by decide) dX5_testOf_9 e (fun q1 e => ?_)
  refine ax_if_eq (tgt := 50) B dX5_testOf_12 (by decide) e (fun e => ?_) (fun e => ?_)
  · obtain ⟨w, e9_1, rfl⟩ := Option.map_eq_some_iff.mp e
    have e := e9_1
    refine ax_iload_n B dX5_testOf_50 rfl hl 2 rfl ?_
    have e8 := e
    have hp : Q = _ := hp
    subst hp
    exact ax_zreturn B Z dX5_testOf_51 e8
  · refine ax_aload_n B dX5_testOf_15 rfl hl 0 rfl ?_
    refine ax_iload_n B dX5_testOf_16 rfl hl 1 rfl ?_
    refine ax_if_eq (tgt := 28) B dX5_testOf_17 (by decide) e (fun e => ?_) (fun e => ?_)
    · exact w_X5_testOf_28 hF hg0 hg1 hg2 hg3 hSF B Z hn x0 x1 x2 x0 (hl.sub [0, 1, 2] rfl) e hp
    · refine ax_iload_n B dX5_testOf_20 rfl hl 2 rfl ?_
      refine ax_if_ne (tgt := 28) B dX5_testOf_21 (by decide) e (fun e => ?_) (fun e => ?_)
      · refine ax_iconst B dX5_testOf_24 ?_
        refine ax_goto (tgt := 29) B dX5_testOf_25 (by decide) ?_
        exact w_X5_testOf_29 hF hg0 hg1 hg2 hg3 hSF B Z hn x0 x1 x2 x0 1 (hl.sub [0, 1, 2] rfl) e hp
      · exact w_X5_testOf_28 hF hg0 hg1 hg2 hg3 hSF B Z hn x0 x1 x2 x0 (hl.sub [0, 1, 2] rfl) e hp
theorem w_X5_testOf_6 {l : Launch} {G : ax_G} {X : ax_X} {Q : State → Prop} {h0 h : ax_H} {ls : Array Slot} {g0 : Option Nat → Int → ax_H → Option (Int × ax_H)} {g1 : Option Nat → Int → ax_H → Option (Int × ax_H)} {g2 : Option Nat → Int → ax_H → Option (Int × ax_H)} {g3 : Option Nat → Int → ax_H → Option (Int × ax_H)} {fr lo fr1 lo1 : Nat} (hF : fr1 + 1 ≤ fr ∧ 68 ≤ fr ∧ lo1 + 26 ≤ lo ∧ 1777 ≤ lo) (hg0 : ∀ (x0 : Option Nat) (x1 : Int) (h : ax_H) (w : Int × ax_H), g0 x0 x1 h = some w → ax_Met l G yX5_positiveOf cX5_positiveOf 7 ((some FieldType.boolean)) fr1 lo1 [va_rf x0, .int (Int32.ofInt x1)] h w.2 (some (.int (Int32.ofInt w.1)))) (hg1 : ∀ (x0 : Option Nat) (x1 : Int) (h : ax_H) (w : Int × ax_H), g1 x0 x1 h = some w → ax_Met l G yX5_plainOf cX5_plainOf 3 ((some FieldType.boolean)) fr1 lo1 [va_rf x0, .int (Int32.ofInt x1)] h w.2 (some (.int (Int32.ofInt w.1)))) (hg2 : ∀ (x0 : Option Nat) (x1 : Int) (h : ax_H) (w : Int × ax_H), g2 x0 x1 h = some w → ax_Met l G yX5_bothOf cX5_bothOf 4 ((some FieldType.boolean)) fr1 lo1 [va_rf x0, .int (Int32.ofInt x1)] h w.2 (some (.int (Int32.ofInt w.1)))) (hg3 : ∀ (x0 : Option Nat) (x1 : Int) (h : ax_H) (w : Int × ax_H), g3 x0 x1 h = some w → ax_Met l G yX5_testOf cX5_testOf 4 ((some FieldType.boolean)) fr1 lo1 [va_rf x0, .int (Int32.ofInt x1)] h w.2 (some (.int (Int32.ofInt w.1)))) (hSF : ax_SF G) (B : ax_BL l G X cX5_testOf 4 RX5 fr lo) (Z : ax_Z X h0 ((some FieldType.boolean))) (hn : X.2.2.2.2.2.2.2.2.1.name = yX5_testOf.name) (x0 : Option Nat) (x1 : Int) (x2 : Int) {w : Int × ax_H} (hl : ax_hl ls 4 [(0, .inr (.inr x0)), (1, .inl x1), (2, .inl x2)]) (e : f_X5_testOf_6 G.2.2 g0 g1 g2 g3 x0 x1 x2 h = some w) (hp : (fun w : Int × ax_H => Q = ax_Q G X h0 w.2 (some (.int (Int32.ofInt w.1)))) w) : ax_W G X Q h 6 ls [] :=
  ax_iter_W (Pin := pi_X5_testOf_6 G X Q x0 x1) (Pout := (fun w : Int × ax_H => Q = ax_Q G X h0 w.2 (some (.int (Int32.ofInt w.1))))) (fun s w e hp ls hl => wb_X5_testOf_6 hF hg0 hg1 hg2 hg3 hSF B Z hn x0 x1 s.1 hl e hp) _ _ e hp ls hl
set_option maxHeartbeats 4000000 in
theorem we_X5_testOf {l : Launch} {G : ax_G} {X : ax_X} {Q : State → Prop} {h0 h : ax_H} {ls : Array Slot} {g0 : Option Nat → Int → ax_H → Option (Int × ax_H)} {g1 : Option Nat → Int → ax_H → Option (Int × ax_H)} {g2 : Option Nat → Int → ax_H → Option (Int × ax_H)} {g3 : Option Nat → Int → ax_H → Option (Int × ax_H)} {fr lo fr1 lo1 : Nat} (hF : fr1 + 1 ≤ fr ∧ 68 ≤ fr ∧ lo1 + 26 ≤ lo ∧ 1777 ≤ lo) (hg0 : ∀ (x0 : Option Nat) (x1 : Int) (h : ax_H) (w : Int × ax_H), g0 x0 x1 h = some w → ax_Met l G yX5_positiveOf cX5_positiveOf 7 ((some FieldType.boolean)) fr1 lo1 [va_rf x0, .int (Int32.ofInt x1)] h w.2 (some (.int (Int32.ofInt w.1)))) (hg1 : ∀ (x0 : Option Nat) (x1 : Int) (h : ax_H) (w : Int × ax_H), g1 x0 x1 h = some w → ax_Met l G yX5_plainOf cX5_plainOf 3 ((some FieldType.boolean)) fr1 lo1 [va_rf x0, .int (Int32.ofInt x1)] h w.2 (some (.int (Int32.ofInt w.1)))) (hg2 : ∀ (x0 : Option Nat) (x1 : Int) (h : ax_H) (w : Int × ax_H), g2 x0 x1 h = some w → ax_Met l G yX5_bothOf cX5_bothOf 4 ((some FieldType.boolean)) fr1 lo1 [va_rf x0, .int (Int32.ofInt x1)] h w.2 (some (.int (Int32.ofInt w.1)))) (hg3 : ∀ (x0 : Option Nat) (x1 : Int) (h : ax_H) (w : Int × ax_H), g3 x0 x1 h = some w → ax_Met l G yX5_testOf cX5_testOf 4 ((some FieldType.boolean)) fr1 lo1 [va_rf x0, .int (Int32.ofInt x1)] h w.2 (some (.int (Int32.ofInt w.1)))) (hSF : ax_SF G) (B : ax_BL l G X cX5_testOf 4 RX5 fr lo) (Z : ax_Z X h0 ((some FieldType.boolean))) (hn : X.2.2.2.2.2.2.2.2.1.name = yX5_testOf.name) (x0 : Option Nat) (x1 : Int) {w : Int × ax_H} (hl : ax_hl ls 4 [(0, .inr (.inr x0)), (1, .inl x1)]) (e : f_X5_testOf G.2.2 g0 g1 g2 g3 x0 x1 h = some w) (hp : (fun w : Int × ax_H => Q = ax_Q G X h0 w.2 (some (.int (Int32.ofInt w.1)))) w) : ax_W G X Q h 0 ls [] := by
  unfold f_X5_testOf at e
  refine ax_aload_n B dX5_testOf_0 rfl hl 0 rfl ?_
  refine ax_iload_n B dX5_testOf_1 rfl hl 1 rfl ?_
  refine ax_ivI (y := yX5_bothOf) (n := 1) (As := [.int (Int32.ofInt x1)]) B kd5 (lw_V q2284 q2286 qs63 q133 q2287) (by decide +kernel) (by omega) (fun w1 e1 => hg2 x0 x1 _ w1 e1) rfl hl.size (by decide) dX5_testOf_2 e (fun q1 e => ?_)
  refine ax_istore_n (L' := [(2, .inl q1.1), (0, .inr (.inr x0)), (1, .inl x1)]) B dX5_testOf_5 rfl hl (by decide) rfl (fun ls hl => ?_)
  exact w_X5_testOf_6 hF hg0 hg1 hg2 hg3 hSF B Z hn x0 x1 q1.1 (hl.sub [1, 2, 0] rfl) e hp
theorem mt_X5_testOf (l : Launch) (G : ax_G) (hSF : ax_SF G) {g0 : Option Nat → Int → ax_H → Option (Int × ax_H)} {g1 : Option Nat → Int → ax_H → Option (Int × ax_H)} {g2 : Option Nat → Int → ax_H → Option (Int × ax_H)} {g3 : Option Nat → Int → ax_H → Option (Int × ax_H)} {fr lo fr1 lo1 : Nat} (hF : fr1 + 1 ≤ fr ∧ 68 ≤ fr ∧ lo1 + 26 ≤ lo ∧ 1777 ≤ lo) (hg0 : ∀ (x0 : Option Nat) (x1 : Int) (h : ax_H) (w : Int × ax_H), g0 x0 x1 h = some w → ax_Met l G yX5_positiveOf cX5_positiveOf 7 ((some FieldType.boolean)) fr1 lo1 [va_rf x0, .int (Int32.ofInt x1)] h w.2 (some (.int (Int32.ofInt w.1)))) (hg1 : ∀ (x0 : Option Nat) (x1 : Int) (h : ax_H) (w : Int × ax_H), g1 x0 x1 h = some w → ax_Met l G yX5_plainOf cX5_plainOf 3 ((some FieldType.boolean)) fr1 lo1 [va_rf x0, .int (Int32.ofInt x1)] h w.2 (some (.int (Int32.ofInt w.1)))) (hg2 : ∀ (x0 : Option Nat) (x1 : Int) (h : ax_H) (w : Int × ax_H), g2 x0 x1 h = some w → ax_Met l G yX5_bothOf cX5_bothOf 4 ((some FieldType.boolean)) fr1 lo1 [va_rf x0, .int (Int32.ofInt x1)] h w.2 (some (.int (Int32.ofInt w.1)))) (hg3 : ∀ (x0 : Option Nat) (x1 : Int) (h : ax_H) (w : Int × ax_H), g3 x0 x1 h = some w → ax_Met l G yX5_testOf cX5_testOf 4 ((some FieldType.boolean)) fr1 lo1 [va_rf x0, .int (Int32.ofInt x1)] h w.2 (some (.int (Int32.ofInt w.1)))) (x0 : Option Nat) (x1 : Int) (h : ax_H) (w : Int × ax_H) (e : f_X5_testOf G.2.2 g0 g1 g2 g3 x0 x1 h = some w) : ax_Met l G yX5_testOf cX5_testOf 4 ((some FieldType.boolean)) fr lo [va_rf x0, .int (Int32.ofInt x1)] h w.2 (some (.int (Int32.ofInt w.1))) :=
  ax_enter [.inr (.inr x0), .inl x1] (y := yX5_testOf) hSF (plainFor_of_name (by decide +kernel)) (Nat.le_of_ble_eq_true rfl) (fun X ls B Z hn hl => we_X5_testOf hF hg0 hg1 hg2 hg3 hSF B Z hn x0 x1 hl e rfl)
theorem mg_X5_positiveOf (l : Launch) (G : ax_G) (hSF : ax_SF G) : ∀ n : Nat, (∀ (x0 : Option Nat) (x1 : Int) (h : ax_H) (w : Int × ax_H), (rg_X5_positiveOf G.2.2 n).1 x0 x1 h = some w → ax_Met l G yX5_positiveOf cX5_positiveOf 7 ((some FieldType.boolean)) (68 + n) (1777 + n * 26) [va_rf x0, .int (Int32.ofInt x1)] h w.2 (some (.int (Int32.ofInt w.1)))) ∧ (∀ (x0 : Option Nat) (x1 : Int) (h : ax_H) (w : Int × ax_H), (rg_X5_positiveOf G.2.2 n).2.1 x0 x1 h = some w → ax_Met l G yX5_plainOf cX5_plainOf 3 ((some FieldType.boolean)) (68 + n) (1777 + n * 26) [va_rf x0, .int (Int32.ofInt x1)] h w.2 (some (.int (Int32.ofInt w.1)))) ∧ (∀ (x0 : Option Nat) (x1 : Int) (h : ax_H) (w : Int × ax_H), (rg_X5_positiveOf G.2.2 n).2.2.1 x0 x1 h = some w → ax_Met l G yX5_bothOf cX5_bothOf 4 ((some FieldType.boolean)) (68 + n) (1777 + n * 26) [va_rf x0, .int (Int32.ofInt x1)] h w.2 (some (.int (Int32.ofInt w.1)))) ∧ (∀ (x0 : Option Nat) (x1 : Int) (h : ax_H) (w : Int × ax_H), (rg_X5_positiveOf G.2.2 n).2.2.2 x0 x1 h = some w → ax_Met l G yX5_testOf cX5_testOf 4 ((some FieldType.boolean)) (68 + n) (1777 + n * 26) [va_rf x0, .int (Int32.ofInt x1)] h w.2 (some (.int (Int32.ofInt w.1))))
  | 0 => ⟨fun _ _ _ _ e => (by cases e), fun _ _ _ _ e => (by cases e), fun _ _ _ _ e => (by cases e), fun _ _ _ _ e => (by cases e)⟩
  | n + 1 => by
    have ih := mg_X5_positiveOf l G hSF n
    exact ⟨fun x0 x1 h w e => mt_X5_positiveOf l G hSF (fr1 := 68 + n) (lo1 := 1777 + n * 26) (by omega) (ih.1) (ih.2.1) (ih.2.2.1) (ih.2.2.2) x0 x1 h w e, fun x0 x1 h w e => mt_X5_plainOf l G hSF (fr1 := 68 + n) (lo1 := 1777 + n * 26) (by omega) (ih.1) (ih.2.1) (ih.2.2.1) (ih.2.2.2) x0 x1 h w e, fun x0 x1 h w e => mt_X5_bothOf l G hSF (fr1 := 68 + n) (lo1 := 1777 + n * 26) (by omega) (ih.1) (ih.2.1) (ih.2.2.1) (ih.2.2.2) x0 x1 h w e, fun x0 x1 h w e => mt_X5_testOf l G hSF (fr1 := 68 + n) (lo1 := 1777 + n * 26) (by omega) (ih.1) (ih.2.1) (ih.2.2.1) (ih.2.2.2) x0 x1 h w e⟩
theorem mf_X5_positiveOf (l : Launch) (G : ax_G) (hSF : ax_SF G) (n : Nat) (x0 : Option Nat) (x1 : Int) (h : ax_H) (w : Int × ax_H) (e : fn_X5_positiveOf G.2.2 n x0 x1 h = some w) : ax_Met l G yX5_positiveOf cX5_positiveOf 7 ((some FieldType.boolean)) (68 + n) (1777 + n * 26) [va_rf x0, .int (Int32.ofInt x1)] h w.2 (some (.int (Int32.ofInt w.1))) := (mg_X5_positiveOf l G hSF n).1 x0 x1 h w e
theorem mf_X5_plainOf (l : Launch) (G : ax_G) (hSF : ax_SF G) (n : Nat) (x0 : Option Nat) (x1 : Int) (h : ax_H) (w : Int × ax_H) (e : fn_X5_plainOf G.2.2 n x0 x1 h = some w) : ax_Met l G yX5_plainOf cX5_plainOf 3 ((some FieldType.boolean)) (68 + n) (1777 + n * 26) [va_rf x0, .int (Int32.ofInt x1)] h w.2 (some (.int (Int32.ofInt w.1))) := (mg_X5_positiveOf l G hSF n).2.1 x0 x1 h w e
theorem mf_X5_bothOf (l : Launch) (G : ax_G) (hSF : ax_SF G) (n : Nat) (x0 : Option Nat) (x1 : Int) (h : ax_H) (w : Int × ax_H) (e : fn_X5_bothOf G.2.2 n x0 x1 h = some w) : ax_Met l G yX5_bothOf cX5_bothOf 4 ((some FieldType.boolean)) (68 + n) (1777 + n * 26) [va_rf x0, .int (Int32.ofInt x1)] h w.2 (some (.int (Int32.ofInt w.1))) := (mg_X5_positiveOf l G hSF n).2.2.1 x0 x1 h w e
theorem mf_X5_testOf (l : Launch) (G : ax_G) (hSF : ax_SF G) (n : Nat) (x0 : Option Nat) (x1 : Int) (h : ax_H) (w : Int × ax_H) (e : fn_X5_testOf G.2.2 n x0 x1 h = some w) : ax_Met l G yX5_testOf cX5_testOf 4 ((some FieldType.boolean)) (68 + n) (1777 + n * 26) [va_rf x0, .int (Int32.ofInt x1)] h w.2 (some (.int (Int32.ofInt w.1))) := (mg_X5_positiveOf l G hSF n).2.2.2 x0 x1 h w e
def dkwX5_tells_9 : List UInt8 := [181, 1, 24, 167, 255, 108, 22, 4, 136, 172]
abbrev dktX5_tells_9 : List UInt8 := dkwX5_tells_9 ++ []
def dkwX5_tells_8 : List UInt8 := [22, 7, 28, 133, 148, 158, 0, 8, 28, 133, 167, 0, 5, 22, 7, 55, 4, 42, 89, 180, 1, 24, 4, 96]
abbrev dktX5_tells_8 : List UInt8 := dkwX5_tells_8 ++ dktX5_tells_9
def dkwX5_tells_7 : List UInt8 := [42, 180, 1, 34, 154, 0, 36, 21, 9, 154, 0, 31, 22, 7, 9, 148, 156, 0, 7, 9, 167, 0, 18]
abbrev dktX5_tells_7 : List UInt8 := dkwX5_tells_7 ++ dktX5_tells_8
def dkwX5_tells_6 : List UInt8 := [182, 1, 69, 153, 0, 7, 4, 167, 0, 4, 3, 54, 10, 21, 6, 27, 160, 0, 48, 21, 10, 153, 0, 43]
abbrev dktX5_tells_6 : List UInt8 := dkwX5_tells_6 ++ dktX5_tells_7
def dkwX5_tells_5 : List UInt8 := [55, 7, 42, 180, 1, 34, 54, 9, 42, 3, 181, 1, 34, 42, 8, 182, 1, 48, 153, 0, 11, 42, 4]
abbrev dktX5_tells_5 : List UInt8 := dkwX5_tells_5 ++ dktX5_tells_6
def dkwX5_tells_4 : List UInt8 := [180, 1, 24, 4, 96, 181, 1, 24, 21, 6, 7, 160, 0, 7, 10, 167, 0, 8, 42, 4, 182, 1, 51]
abbrev dktX5_tells_4 : List UInt8 := dkwX5_tells_4 ++ dktX5_tells_5
def dkwX5_tells_3 : List UInt8 := [180, 1, 21, 162, 0, 143, 42, 42, 180, 1, 24, 182, 1, 27, 54, 6, 42, 3, 181, 1, 34, 42, 89]
abbrev dktX5_tells_3 : List UInt8 := dkwX5_tells_3 ++ dktX5_tells_4
def dkwX5_tells_2 : List UInt8 := [17, 0, 157, 42, 180, 0, 24, 17, 0, 156, 46, 96, 46, 96, 181, 1, 21, 42, 180, 1, 24, 42]
abbrev dktX5_tells_2 : List UInt8 := dkwX5_tells_2 ++ dktX5_tells_3
def dkwX5_tells_1 : List UInt8 := [17, 1, 144, 42, 180, 0, 24, 17, 0, 156, 46, 104, 181, 1, 24, 42, 42, 180, 1, 24, 42, 180, 0, 24]
abbrev dktX5_tells_1 : List UInt8 := dkwX5_tells_1 ++ dktX5_tells_2
def dkwX5_tells_0 : List UInt8 := [42, 180, 0, 24, 17, 0, 156, 46, 2, 160, 0, 5, 29, 172, 42, 3, 181, 1, 54, 29, 133, 55, 4, 42]
abbrev dktX5_tells_0 : List UInt8 := dkwX5_tells_0 ++ dktX5_tells_1
theorem dksX5_tells_0 : cX5_tells.data.toList.drop 0 = dktX5_tells_0 := by decide +kernel
theorem dksX5_tells_1 : cX5_tells.data.toList.drop 24 = dktX5_tells_1 := dk_seg dksX5_tells_0 24 rfl rfl
theorem dksX5_tells_2 : cX5_tells.data.toList.drop 48 = dktX5_tells_2 := dk_seg dksX5_tells_1 24 rfl rfl
theorem dksX5_tells_3 : cX5_tells.data.toList.drop 70 = dktX5_tells_3 := dk_seg dksX5_tells_2 22 rfl rfl
theorem dksX5_tells_4 : cX5_tells.data.toList.drop 93 = dktX5_tells_4 := dk_seg dksX5_tells_3 23 rfl rfl
theorem dksX5_tells_5 : cX5_tells.data.toList.drop 116 = dktX5_tells_5 := dk_seg dksX5_tells_4 23 rfl rfl
theorem dksX5_tells_6 : cX5_tells.data.toList.drop 139 = dktX5_tells_6 := dk_seg dksX5_tells_5 23 rfl rfl
theorem dksX5_tells_7 : cX5_tells.data.toList.drop 163 = dktX5_tells_7 := dk_seg dksX5_tells_6 24 rfl rfl
theorem dksX5_tells_8 : cX5_tells.data.toList.drop 186 = dktX5_tells_8 := dk_seg dksX5_tells_7 23 rfl rfl
theorem dksX5_tells_9 : cX5_tells.data.toList.drop 210 = dktX5_tells_9 := dk_seg dksX5_tells_8 24 rfl rfl
theorem dX5_tells_0 : decode cX5_tells 0 = .ok (.aload_n 0, 1) := dk_42 (dk_at dksX5_tells_0 0 rfl rfl)
theorem dX5_tells_1 : decode cX5_tells 1 = .ok (.getfield 24, 3) := dk_180 0 24 (dk_at dksX5_tells_0 1 rfl rfl)
theorem dX5_tells_4 : decode cX5_tells 4 = .ok (.sipush 156, 3) := dk_17 0 156 (dk_at dksX5_tells_0 4 rfl rfl)
theorem dX5_tells_7 : decode cX5_tells 7 = .ok (.iaload, 1) := dk_46 (dk_at dksX5_tells_0 7 rfl rfl)
theorem dX5_tells_8 : decode cX5_tells 8 = .ok (.iconst (-1), 1) := dk_2 (dk_at dksX5_tells_0 8 rfl rfl)
theorem dX5_tells_9 : decode cX5_tells 9 = .ok (.if_icmp .ne 5, 3) := dk_160 0 5 (dk_at dksX5_tells_0 9 rfl rfl)
theorem dX5_tells_12 : decode cX5_tells 12 = .ok (.iload_n 3, 1) := dk_29 (dk_at dksX5_tells_0 12 rfl rfl)
theorem dX5_tells_13 : decode cX5_tells 13 = .ok (.ireturn, 1) := dk_172 (dk_at dksX5_tells_0 13 rfl rfl)
theorem dX5_tells_14 : decode cX5_tells 14 = .ok (.aload_n 0, 1) := dk_42 (dk_at dksX5_tells_0 14 rfl rfl)
theorem dX5_tells_15 : decode cX5_tells 15 = .ok (.iconst 0, 1) := dk_3 (dk_at dksX5_tells_0 15 rfl rfl)
theorem dX5_tells_16 : decode cX5_tells 16 = .ok (.putfield 310, 3) := dk_181 1 54 (dk_at dksX5_tells_0 16 rfl rfl)
theorem dX5_tells_19 : decode cX5_tells 19 = .ok (.iload_n 3, 1) := dk_29 (dk_at dksX5_tells_0 19 rfl rfl)
theorem dX5_tells_20 : decode cX5_tells 20 = .ok (.i2l, 1) := dk_133 (dk_at dksX5_tells_0 20 rfl rfl)
theorem dX5_tells_21 : decode cX5_tells 21 = .ok (.lstore 4, 2) := dk_55 4 (dk_at dksX5_tells_0 21 rfl rfl)
theorem dX5_tells_23 : decode cX5_tells 23 = .ok (.aload_n 0, 1) := dk_42 (dk_at dksX5_tells_0 23 rfl rfl)
theorem dX5_tells_24 : decode cX5_tells 24 = .ok (.sipush 400, 3) := dk_17 1 144 (dk_at dksX5_tells_1 0 rfl rfl)
theorem dX5_tells_27 : decode cX5_tells 27 = .ok (.aload_n 0, 1) := dk_42 (dk_at dksX5_tells_1 3 rfl rfl)
theorem dX5_tells_28 : decode cX5_tells 28 = .ok (.getfield 24, 3) := dk_180 0 24 (dk_at dksX5_tells_1 4 rfl rfl)
theorem dX5_tells_31 : decode cX5_tells 31 = .ok (.sipush 156, 3) := dk_17 0 156 (dk_at dksX5_tells_1 7 rfl rfl)
theorem dX5_tells_34 : decode cX5_tells 34 = .ok (.iaload, 1) := dk_46 (dk_at dksX5_tells_1 10 rfl rfl)
theorem dX5_tells_35 : decode cX5_tells 35 = .ok (.imul, 1) := dk_104 (dk_at dksX5_tells_1 11 rfl rfl)
theorem dX5_tells_36 : decode cX5_tells 36 = .ok (.putfield 280, 3) := dk_181 1 24 (dk_at dksX5_tells_1 12 rfl rfl)
theorem dX5_tells_39 : decode cX5_tells 39 = .ok (.aload_n 0, 1) := dk_42 (dk_at dksX5_tells_1 15 rfl rfl)
theorem dX5_tells_40 : decode cX5_tells 40 = .ok (.aload_n 0, 1) := dk_42 (dk_at dksX5_tells_1 16 rfl rfl)
theorem dX5_tells_41 : decode cX5_tells 41 = .ok (.getfield 280, 3) := dk_180 1 24 (dk_at dksX5_tells_1 17 rfl rfl)
theorem dX5_tells_44 : decode cX5_tells 44 = .ok (.aload_n 0, 1) := dk_42 (dk_at dksX5_tells_1 20 rfl rfl)
theorem dX5_tells_45 : decode cX5_tells 45 = .ok (.getfield 24, 3) := dk_180 0 24 (dk_at dksX5_tells_1 21 rfl rfl)
theorem dX5_tells_48 : decode cX5_tells 48 = .ok (.sipush 157, 3) := dk_17 0 157 (dk_at dksX5_tells_2 0 rfl rfl)
theorem dX5_tells_51 : decode cX5_tells 51 = .ok (.aload_n 0, 1) := dk_42 (dk_at dksX5_tells_2 3 rfl rfl)
theorem dX5_tells_52 : decode cX5_tells 52 = .ok (.getfield 24, 3) := dk_180 0 24 (dk_at dksX5_tells_2 4 rfl rfl)
theorem dX5_tells_55 : decode cX5_tells 55 = .ok (.sipush 156, 3) := dk_17 0 156 (dk_at dksX5_tells_2 7 rfl rfl)
theorem dX5_tells_58 : decode cX5_tells 58 = .ok (.iaload, 1) := dk_46 (dk_at dksX5_tells_2 10 rfl rfl)
theorem dX5_tells_59 : decode cX5_tells 59 = .ok (.iadd, 1) := dk_96 (dk_at dksX5_tells_2 11 rfl rfl)
theorem dX5_tells_60 : decode cX5_tells 60 = .ok (.iaload, 1) := dk_46 (dk_at dksX5_tells_2 12 rfl rfl)
theorem dX5_tells_61 : decode cX5_tells 61 = .ok (.iadd, 1) := dk_96 (dk_at dksX5_tells_2 13 rfl rfl)
theorem dX5_tells_62 : decode cX5_tells 62 = .ok (.putfield 277, 3) := dk_181 1 21 (dk_at dksX5_tells_2 14 rfl rfl)
theorem dX5_tells_65 : decode cX5_tells 65 = .ok (.aload_n 0, 1) := dk_42 (dk_at dksX5_tells_2 17 rfl rfl)
theorem dX5_tells_66 : decode cX5_tells 66 = .ok (.getfield 280, 3) := dk_180 1 24 (dk_at dksX5_tells_2 18 rfl rfl)
theorem dX5_tells_69 : decode cX5_tells 69 = .ok (.aload_n 0, 1) := dk_42 (dk_at dksX5_tells_2 21 rfl rfl)
theorem dX5_tells_70 : decode cX5_tells 70 = .ok (.getfield 277, 3) := dk_180 1 21 (dk_at dksX5_tells_3 0 rfl rfl)
theorem dX5_tells_73 : decode cX5_tells 73 = .ok (.if_icmp .ge 143, 3) := dk_162 0 143 (dk_at dksX5_tells_3 3 rfl rfl)
theorem dX5_tells_76 : decode cX5_tells 76 = .ok (.aload_n 0, 1) := dk_42 (dk_at dksX5_tells_3 6 rfl rfl)
theorem dX5_tells_77 : decode cX5_tells 77 = .ok (.aload_n 0, 1) := dk_42 (dk_at dksX5_tells_3 7 rfl rfl)
theorem dX5_tells_78 : decode cX5_tells 78 = .ok (.getfield 280, 3) := dk_180 1 24 (dk_at dksX5_tells_3 8 rfl rfl)
theorem dX5_tells_81 : decode cX5_tells 81 = .ok (.invokevirtual 283, 3) := dk_182 1 27 (dk_at dksX5_tells_3 11 rfl rfl)
theorem dX5_tells_84 : decode cX5_tells 84 = .ok (.istore 6, 2) := dk_54 6 (dk_at dksX5_tells_3 14 rfl rfl)
theorem dX5_tells_86 : decode cX5_tells 86 = .ok (.aload_n 0, 1) := dk_42 (dk_at dksX5_tells_3 16 rfl rfl)
theorem dX5_tells_87 : decode cX5_tells 87 = .ok (.iconst 0, 1) := dk_3 (dk_at dksX5_tells_3 17 rfl rfl)
theorem dX5_tells_88 : decode cX5_tells 88 = .ok (.putfield 290, 3) := dk_181 1 34 (dk_at dksX5_tells_3 18 rfl rfl)
theorem dX5_tells_91 : decode cX5_tells 91 = .ok (.aload_n 0, 1) := dk_42 (dk_at dksX5_tells_3 21 rfl rfl)
theorem dX5_tells_92 : decode cX5_tells 92 = .ok (.dup, 1) := dk_89 (dk_at dksX5_tells_3 22 rfl rfl)
theorem dX5_tells_93 : decode cX5_tells 93 = .ok (.getfield 280, 3) := dk_180 1 24 (dk_at dksX5_tells_4 0 rfl rfl)
theorem dX5_tells_96 : decode cX5_tells 96 = .ok (.iconst 1, 1) := dk_4 (dk_at dksX5_tells_4 3 rfl rfl)
theorem dX5_tells_97 : decode cX5_tells 97 = .ok (.iadd, 1) := dk_96 (dk_at dksX5_tells_4 4 rfl rfl)
theorem dX5_tells_98 : decode cX5_tells 98 = .ok (.putfield 280, 3) := dk_181 1 24 (dk_at dksX5_tells_4 5 rfl rfl)
theorem dX5_tells_101 : decode cX5_tells 101 = .ok (.iload 6, 2) := dk_21 6 (dk_at dksX5_tells_4 8 rfl rfl)
theorem dX5_tells_103 : decode cX5_tells 103 = .ok (.iconst 4, 1) := dk_7 (dk_at dksX5_tells_4 10 rfl rfl)
theorem dX5_tells_104 : decode cX5_tells 104 = .ok (.if_icmp .ne 7, 3) := dk_160 0 7 (dk_at dksX5_tells_4 11 rfl rfl)
theorem dX5_tells_107 : decode cX5_tells 107 = .ok (.lconst 1, 1) := dk_10 (dk_at dksX5_tells_4 14 rfl rfl)
theorem dX5_tells_108 : decode cX5_tells 108 = .ok (.goto 8, 3) := dk_167 0 8 (dk_at dksX5_tells_4 15 rfl rfl)
theorem dX5_tells_111 : decode cX5_tells 111 = .ok (.aload_n 0, 1) := dk_42 (dk_at dksX5_tells_4 18 rfl rfl)
theorem dX5_tells_112 : decode cX5_tells 112 = .ok (.iconst 1, 1) := dk_4 (dk_at dksX5_tells_4 19 rfl rfl)
theorem dX5_tells_113 : decode cX5_tells 113 = .ok (.invokevirtual 307, 3) := dk_182 1 51 (dk_at dksX5_tells_4 20 rfl rfl)
theorem dX5_tells_116 : decode cX5_tells 116 = .ok (.lstore 7, 2) := dk_55 7 (dk_at dksX5_tells_5 0 rfl rfl)
theorem dX5_tells_118 : decode cX5_tells 118 = .ok (.aload_n 0, 1) := dk_42 (dk_at dksX5_tells_5 2 rfl rfl)
theorem dX5_tells_119 : decode cX5_tells 119 = .ok (.getfield 290, 3) := dk_180 1 34 (dk_at dksX5_tells_5 3 rfl rfl)
theorem dX5_tells_122 : decode cX5_tells 122 = .ok (.istore 9, 2) := dk_54 9 (dk_at dksX5_tells_5 6 rfl rfl)
theorem dX5_tells_124 : decode cX5_tells 124 = .ok (.aload_n 0, 1) := dk_42 (dk_at dksX5_tells_5 8 rfl rfl)
theorem dX5_tells_125 : decode cX5_tells 125 = .ok (.iconst 0, 1) := dk_3 (dk_at dksX5_tells_5 9 rfl rfl)
theorem dX5_tells_126 : decode cX5_tells 126 = .ok (.putfield 290, 3) := dk_181 1 34 (dk_at dksX5_tells_5 10 rfl rfl)
theorem dX5_tells_129 : decode cX5_tells 129 = .ok (.aload_n 0, 1) := dk_42 (dk_at dksX5_tells_5 13 rfl rfl)
theorem dX5_tells_130 : decode cX5_tells 130 = .ok (.iconst 5, 1) := dk_8 (dk_at dksX5_tells_5 14 rfl rfl)
theorem dX5_tells_131 : decode cX5_tells 131 = .ok (.invokevirtual 304, 3) := dk_182 1 48 (dk_at dksX5_tells_5 15 rfl rfl)
theorem dX5_tells_134 : decode cX5_tells 134 = .ok (.ifCond .eq 11, 3) := dk_153 0 11 (dk_at dksX5_tells_5 18 rfl rfl)
theorem dX5_tells_137 : decode cX5_tells 137 = .ok (.aload_n 0, 1) := dk_42 (dk_at dksX5_tells_5 21 rfl rfl)
theorem dX5_tells_138 : decode cX5_tells 138 = .ok (.iconst 1, 1) := dk_4 (dk_at dksX5_tells_5 22 rfl rfl)
theorem dX5_tells_139 : decode cX5_tells 139 = .ok (.invokevirtual 325, 3) := dk_182 1 69 (dk_at dksX5_tells_6 0 rfl rfl)
theorem dX5_tells_142 : decode cX5_tells 142 = .ok (.ifCond .eq 7, 3) := dk_153 0 7 (dk_at dksX5_tells_6 3 rfl rfl)
theorem dX5_tells_145 : decode cX5_tells 145 = .ok (.iconst 1, 1) := dk_4 (dk_at dksX5_tells_6 6 rfl rfl)
theorem dX5_tells_146 : decode cX5_tells 146 = .ok (.goto 4, 3) := dk_167 0 4 (dk_at dksX5_tells_6 7 rfl rfl)
theorem dX5_tells_149 : decode cX5_tells 149 = .ok (.iconst 0, 1) := dk_3 (dk_at dksX5_tells_6 10 rfl rfl)
theorem dX5_tells_150 : decode cX5_tells 150 = .ok (.istore 10, 2) := dk_54 10 (dk_at dksX5_tells_6 11 rfl rfl)
theorem dX5_tells_152 : decode cX5_tells 152 = .ok (.iload 6, 2) := dk_21 6 (dk_at dksX5_tells_6 13 rfl rfl)
theorem dX5_tells_154 : decode cX5_tells 154 = .ok (.iload_n 1, 1) := dk_27 (dk_at dksX5_tells_6 15 rfl rfl)
theorem dX5_tells_155 : decode cX5_tells 155 = .ok (.if_icmp .ne 48, 3) := dk_160 0 48 (dk_at dksX5_tells_6 16 rfl rfl)
theorem dX5_tells_158 : decode cX5_tells 158 = .ok (.iload 10, 2) := dk_21 10 (dk_at dksX5_tells_6 19 rfl rfl)
theorem dX5_tells_160 : decode cX5_tells 160 = .ok (.ifCond .eq 43, 3) := dk_153 0 43 (dk_at dksX5_tells_6 21 rfl rfl)
theorem dX5_tells_163 : decode cX5_tells 163 = .ok (.aload_n 0, 1) := dk_42 (dk_at dksX5_tells_7 0 rfl rfl)
theorem dX5_tells_164 : decode cX5_tells 164 = .ok (.getfield 290, 3) := dk_180 1 34 (dk_at dksX5_tells_7 1 rfl rfl)
theorem dX5_tells_167 : decode cX5_tells 167 = .ok (.ifCond .ne 36, 3) := dk_154 0 36 (dk_at dksX5_tells_7 4 rfl rfl)
theorem dX5_tells_170 : decode cX5_tells 170 = .ok (.iload 9, 2) := dk_21 9 (dk_at dksX5_tells_7 7 rfl rfl)
theorem dX5_tells_172 : decode cX5_tells 172 = .ok (.ifCond .ne 31, 3) := dk_154 0 31 (dk_at dksX5_tells_7 9 rfl rfl)
theorem dX5_tells_175 : decode cX5_tells 175 = .ok (.lload 7, 2) := dk_22 7 (dk_at dksX5_tells_7 12 rfl rfl)
theorem dX5_tells_177 : decode cX5_tells 177 = .ok (.lconst 0, 1) := dk_9 (dk_at dksX5_tells_7 14 rfl rfl)
theorem dX5_tells_178 : decode cX5_tells 178 = .ok (.lcmp, 1) := dk_148 (dk_at dksX5_tells_7 15 rfl rfl)
theorem dX5_tells_179 : decode cX5_tells 179 = .ok (.ifCond .ge 7, 3) := dk_156 0 7 (dk_at dksX5_tells_7 16 rfl rfl)
theorem dX5_tells_182 : decode cX5_tells 182 = .ok (.lconst 0, 1) := dk_9 (dk_at dksX5_tells_7 19 rfl rfl)
theorem dX5_tells_183 : decode cX5_tells 183 = .ok (.goto 18, 3) := dk_167 0 18 (dk_at dksX5_tells_7 20 rfl rfl)
theorem dX5_tells_186 : decode cX5_tells 186 = .ok (.lload 7, 2) := dk_22 7 (dk_at dksX5_tells_8 0 rfl rfl)
theorem dX5_tells_188 : decode cX5_tells 188 = .ok (.iload_n 2, 1) := dk_28 (dk_at dksX5_tells_8 2 rfl rfl)
theorem dX5_tells_189 : decode cX5_tells 189 = .ok (.i2l, 1) := dk_133 (dk_at dksX5_tells_8 3 rfl rfl)
theorem dX5_tells_190 : decode cX5_tells 190 = .ok (.lcmp, 1) := dk_148 (dk_at dksX5_tells_8 4 rfl rfl)
theorem dX5_tells_191 : decode cX5_tells 191 = .ok (.ifCond .le 8, 3) := dk_158 0 8 (dk_at dksX5_tells_8 5 rfl rfl)
theorem dX5_tells_194 : decode cX5_tells 194 = .ok (.iload_n 2, 1) := dk_28 (dk_at dksX5_tells_8 8 rfl rfl)
theorem dX5_tells_195 : decode cX5_tells 195 = .ok (.i2l, 1) := dk_133 (dk_at dksX5_tells_8 9 rfl rfl)
theorem dX5_tells_196 : decode cX5_tells 196 = .ok (.goto 5, 3) := dk_167 0 5 (dk_at dksX5_tells_8 10 rfl rfl)
theorem dX5_tells_199 : decode cX5_tells 199 = .ok (.lload 7, 2) := dk_22 7 (dk_at dksX5_tells_8 13 rfl rfl)
theorem dX5_tells_201 : decode cX5_tells 201 = .ok (.lstore 4, 2) := dk_55 4 (dk_at dksX5_tells_8 15 rfl rfl)
theorem dX5_tells_203 : decode cX5_tells 203 = .ok (.aload_n 0, 1) := dk_42 (dk_at dksX5_tells_8 17 rfl rfl)
theorem dX5_tells_204 : decode cX5_tells 204 = .ok (.dup, 1) := dk_89 (dk_at dksX5_tells_8 18 rfl rfl)
theorem dX5_tells_205 : decode cX5_tells 205 = .ok (.getfield 280, 3) := dk_180 1 24 (dk_at dksX5_tells_8 19 rfl rfl)
theorem dX5_tells_208 : decode cX5_tells 208 = .ok (.iconst 1, 1) := dk_4 (dk_at dksX5_tells_8 22 rfl rfl)
theorem dX5_tells_209 : decode cX5_tells 209 = .ok (.iadd, 1) := dk_96 (dk_at dksX5_tells_8 23 rfl rfl)
theorem dX5_tells_210 : decode cX5_tells 210 = .ok (.putfield 280, 3) := dk_181 1 24 (dk_at dksX5_tells_9 0 rfl rfl)
theorem dX5_tells_213 : decode cX5_tells 213 = .ok (.goto (-148), 3) := dk_167 255 108 (dk_at dksX5_tells_9 3 rfl rfl)
theorem dX5_tells_216 : decode cX5_tells 216 = .ok (.lload 4, 2) := dk_22 4 (dk_at dksX5_tells_9 6 rfl rfl)
theorem dX5_tells_218 : decode cX5_tells 218 = .ok (.l2i, 1) := dk_136 (dk_at dksX5_tells_9 8 rfl rfl)
theorem dX5_tells_219 : decode cX5_tells 219 = .ok (.ireturn, 1) := dk_172 (dk_at dksX5_tells_9 9 rfl rfl)
noncomputable def f_X5_tells_203 (E : ax_E) (x0 : Option Nat) (x1 : Int) (x2 : Int) (x4 : Int) (h : ax_H) : Option ((Int × ax_H) ⊕ (Int × ax_H)) :=
  (ax_gI E h x0 5 20).bind fun v1 =>
  (ax_pI h x0 5 20 (v1 + 1)).bind fun h2 =>
  some (.inl (x4, h2))
noncomputable def f_X5_tells_201 (E : ax_E) (x0 : Option Nat) (x1 : Int) (x2 : Int) (s0 : Int) (h : ax_H) : Option ((Int × ax_H) ⊕ (Int × ax_H)) :=
  f_X5_tells_203 E x0 x1 x2 s0 h
noncomputable def f_X5_tells_150 (E : ax_E) (x0 : Option Nat) (x1 : Int) (x2 : Int) (x4 : Int) (x6 : Int) (x7 : Int) (x9 : Int) (s0 : Int) (h : ax_H) : Option ((Int × ax_H) ⊕ (Int × ax_H)) :=
  if i2 x6 = i2 x1 then
    if i2 s0 = 0 then
      f_X5_tells_203 E x0 x1 x2 x4 h
    else
      (ax_gI E h x0 5 22).bind fun v1 =>
      if i2 v1 = 0 then
        if i2 x9 = 0 then
          if i2 (ax_cmp x7 0) < 0 then
            f_X5_tells_201 E x0 x1 x2 0 h
          else
            if 0 < i2 (ax_cmp x7 (i2 x2)) then
              f_X5_tells_201 E x0 x1 x2 (i2 x2) h
            else
              f_X5_tells_201 E x0 x1 x2 x7 h
        else
          f_X5_tells_203 E x0 x1 x2 x4 h
      else
        f_X5_tells_203 E x0 x1 x2 x4 h
  else
    f_X5_tells_203 E x0 x1 x2 x4 h
noncomputable def f_X5_tells_145 (E : ax_E) (x0 : Option Nat) (x1 : Int) (x2 : Int) (x4 : Int) (x6 : Int) (x7 : Int) (x9 : Int) (h : ax_H) : Option ((Int × ax_H) ⊕ (Int × ax_H)) :=
  f_X5_tells_150 E x0 x1 x2 x4 x6 x7 x9 1 h
noncomputable def f_X5_tells_116 (E : ax_E) (x0 : Option Nat) (x1 : Int) (x2 : Int) (x4 : Int) (x6 : Int) (s0 : Int) (h : ax_H) : Option ((Int × ax_H) ⊕ (Int × ax_H)) :=
  (ax_gI E h x0 5 22).bind fun v1 =>
  if 0 = 0 ∨ 0 = 1 then (ax_pI h x0 5 22 0).bind fun h2 =>
    (ax_ce E h2 x0 5).bind fun _ => (f_X5_passes0 E x0 5 h2).bind fun q3 =>
    if i2 q3.1 = 0 then
      f_X5_tells_145 E x0 x1 x2 x4 x6 s0 v1 q3.2
    else
      (ax_ce E q3.2 x0 5).bind fun _ => (fn_X5_testOf E 64 x0 1 q3.2).bind fun q4 =>
      if i2 q4.1 = 0 then
        f_X5_tells_150 E x0 x1 x2 x4 x6 s0 v1 0 q4.2
      else
        f_X5_tells_145 E x0 x1 x2 x4 x6 s0 v1 q4.2
  else none
noncomputable def lb_X5_tells_65 (E : ax_E) (x0 : Option Nat) (x1 : Int) (x2 : Int) (x4 : Int) (h : ax_H) : Option ((Int × ax_H) ⊕ (Int × ax_H)) :=
  (ax_gI E h x0 5 20).bind fun v1 =>
  (ax_gI E h x0 5 21).bind fun v2 =>
  if i2 v1 < i2 v2 then
    (ax_gI E h x0 5 20).bind fun v3 =>
    (ax_ce E h x0 5).bind fun _ => (f_X5_codeAt E x0 v3 h).bind fun q4 =>
    if 0 = 0 ∨ 0 = 1 then (ax_pI q4.2 x0 5 22 0).bind fun h5 =>
      (ax_gI E h5 x0 5 20).bind fun v6 =>
      (ax_pI h5 x0 5 20 (v6 + 1)).bind fun h7 =>
      if i2 q4.1 = i2 4 then
        f_X5_tells_116 E x0 x1 x2 x4 q4.1 1 h7
      else
        (ax_ce E h7 x0 5).bind fun _ => (fn_X5_sumOf E 64 x0 1 h7).bind fun q8 =>
        f_X5_tells_116 E x0 x1 x2 x4 q4.1 q8.1 q8.2
    else none
  else
    (some (x4, h)).map Sum.inr
noncomputable def f_X5_tells_65 (E : ax_E) (x0 : Option Nat) (x1 : Int) (x2 : Int) (x4 : Int) (h : ax_H) : Option (Int × ax_H) :=
  ax_iter (fun s : Int × ax_H => lb_X5_tells_65 E x0 x1 x2 s.1 s.2) (x4, h)
noncomputable def f_X5_tells (E : ax_E) (x0 : Option Nat) (x1 : Int) (x2 : Int) (x3 : Int) (h : ax_H) : Option (Int × ax_H) :=
  (ax_gR E h x0 5 2).bind fun v1 =>
  (ax_ld E h v1 100 156).bind fun v2 =>
  if i2 v2 = i2 (-1) then
    some (x3, h)
  else
    if 0 = 0 ∨ 0 = 1 then (ax_pI h x0 5 23 0).bind fun h3 =>
      (ax_gR E h3 x0 5 2).bind fun v4 =>
      (ax_ld E h3 v4 100 156).bind fun v5 =>
      (ax_pI h3 x0 5 20 (400 * v5)).bind fun h6 =>
      (ax_gI E h6 x0 5 20).bind fun v7 =>
      (ax_gR E h6 x0 5 2).bind fun v8 =>
      (ax_gR E h6 x0 5 2).bind fun v9 =>
      (ax_ld E h6 v9 100 156).bind fun v10 =>
      (ax_ld E h6 v8 100 (157 + v10)).bind fun v11 =>
      (ax_pI h6 x0 5 21 (v7 + v11)).bind fun h12 =>
      f_X5_tells_65 E x0 x1 x2 (i2 x3) h12
    else none
def pi_X5_tells_65 (G : ax_G) (X : ax_X) (Q : State → Prop) (x0 : Option Nat) (x1 : Int) (x2 : Int) : Int × ax_H → Prop := fun s => ∀ ls : Array Slot, ax_hl ls 11 [(0, .inr (.inr x0)), (1, .inl x1), (2, .inl x2), (4, .inr (.inl s.1))] → ax_W G X Q s.2 65 ls []
set_option maxHeartbeats 4000000 in
theorem w_X5_tells_203 {l : Launch} {G : ax_G} {X : ax_X} {Q : State → Prop} {h0 h : ax_H} {ls : Array Slot} (hSF : ax_SF G) (B : ax_BL l G X cX5_tells 11 RX5 133 3464) (Z : ax_Z X h0 ((some FieldType.int))) (hn : X.2.2.2.2.2.2.2.2.1.name = yX5_tells.name) (x0 : Option Nat) (x1 : Int) (x2 : Int) (x4 : Int) {w : (Int × ax_H) ⊕ (Int × ax_H)} (hl : ax_hl ls 11 [(0, .inr (.inr x0)), (1, .inl x1), (2, .inl x2), (4, .inr (.inl x4))]) (e : f_X5_tells_203 G.2.2 x0 x1 x2 x4 h = some w) (hp : (ax_PL (pi_X5_tells_65 G X Q x0 x1 x2) (fun w : Int × ax_H => Q = ax_Q G X h0 w.2 (some (.int (Int32.ofInt w.1))))) w) : ax_W G X Q h 203 ls [] := by
  unfold f_X5_tells_203 at e
  refine ax_aload_n B dX5_tells_203 rfl hl 0 rfl ?_
  refine ax_dup B dX5_tells_204 (va_rf_cat _) ?_
  refine ax_getI B ff_X5_280_5 (fun _ _ => rfl) dX5_tells_205 e (fun v1 e => ?_)
  refine ax_iconst B dX5_tells_208 ?_
  refine ax_iadd' B dX5_tells_209 ?_
  refine ax_putI B ff_X5_280_5 (Or.inl rfl) rfl dX5_tells_210 e (fun h2 e => ?_)
  refine ax_goto (tgt := 65) B dX5_tells_213 (by decide) ?_
  cases e
  exact hp _ (hl.sub [0, 1, 2, 3] rfl)
set_option maxHeartbeats 4000000 in
theorem w_X5_tells_201 {l : Launch} {G : ax_G} {X : ax_X} {Q : State → Prop} {h0 h : ax_H} {ls : Array Slot} (hSF : ax_SF G) (B : ax_BL l G X cX5_tells 11 RX5 133 3464) (Z : ax_Z X h0 ((some FieldType.int))) (hn : X.2.2.2.2.2.2.2.2.1.name = yX5_tells.name) (x0 : Option Nat) (x1 : Int) (x2 : Int) (s0 : Int) {w : (Int × ax_H) ⊕ (Int × ax_H)} (hl : ax_hl ls 11 [(0, .inr (.inr x0)), (1, .inl x1), (2, .inl x2)]) (e : f_X5_tells_201 G.2.2 x0 x1 x2 s0 h = some w) (hp : (ax_PL (pi_X5_tells_65 G X Q x0 x1 x2) (fun w : Int × ax_H => Q = ax_Q G X h0 w.2 (some (.int (Int32.ofInt w.1))))) w) : ax_W G X Q h 201 ls [.long (Int64.ofInt s0)] := by
  unfold f_X5_tells_201 at e
  refine ax_lstore (L' := [(4, .inr (.inl s0)), (0, .inr (.inr x0)), (1, .inl x1), (2, .inl x2)]) B dX5_tells_201 hl (by decide) rfl (fun ls hl => ?_)
  exact w_X5_tells_203 hSF B Z hn x0 x1 x2 s0 (hl.sub [1, 2, 3, 0] rfl) e hp
set_option maxHeartbeats 4000000 in
theorem w_X5_tells_150 {l : Launch} {G : ax_G} {X : ax_X} {Q : State → Prop} {h0 h : ax_H} {ls : Array Slot} (hSF : ax_SF G) (B : ax_BL l G X cX5_tells 11 RX5 133 3464) (Z : ax_Z X h0 ((some FieldType.int))) (hn : X.2.2.2.2.2.2.2.2.1.name = yX5_tells.name) (x0 : Option Nat) (x1 : Int) (x2 : Int) (x4 : Int) (x6 : Int) (x7 : Int) (x9 : Int) (s0 : Int) {w : (Int × ax_H) ⊕ (Int × ax_H)} (hl : ax_hl ls 11 [(0, .inr (.inr x0)), (1, .inl x1), (2, .inl x2), (4, .inr (.inl x4)), (6, .inl x6), (7, .inr (.inl x7)), (9, .inl x9)]) (e : f_X5_tells_150 G.2.2 x0 x1 x2 x4 x6 x7 x9 s0 h = some w) (hp : (ax_PL (pi_X5_tells_65 G X Q x0 x1 x2) (fun w : Int × ax_H => Q = ax_Q G X h0 w.2 (some (.int (Int32.ofInt w.1))))) w) : ax_W G X Q h 150 ls [.int (Int32.ofInt s0)] := by
  unfold f_X5_tells_150 at e
  refine ax_istore (L' := [(10, .inl s0), (0, .inr (.inr x0)), (1, .inl x1), (2, .inl x2), (4, .inr (.inl x4)), (6, .inl x6), (7, .inr (.inl x7)), (9, .inl x9)]) B dX5_tells_150 hl (by decide) rfl (fun ls hl => ?_)
  refine ax_iload B dX5_tells_152 hl 5 rfl ?_
  refine ax_iload_n B dX5_tells_154 rfl hl 2 rfl ?_
  refine ax_icmp_ne (tgt := 203) B dX5_tells_155 (by decide) e (fun e => ?_) (fun e => ?_)
  · refine ax_iload B dX5_tells_158 hl 0 rfl ?_
    refine ax_if_eq (tgt := 203) B dX5_tells_160 (by decide) e (fun e => ?_) (fun e => ?_)
    · exact w_X5_tells_203 hSF B Z hn x0 x1 x2 x4 (hl.sub [1, 2, 3, 4] rfl) e hp
    · refine ax_aload_n B dX5_tells_163 rfl hl 1 rfl ?_
      refine ax_getI B ff_X5_290_5 (fun _ _ => rfl) dX5_tells_164 e (fun v1 e => ?_)
      refine ax_if_ne (tgt := 203) B dX5_tells_167 (by decide) e (fun e => ?_) (fun e => ?_)
      · refine ax_iload B dX5_tells_170 hl 7 rfl ?_
        refine ax_if_ne (tgt := 203) B dX5_tells_172 (by decide) e (fun e => ?_) (fun e => ?_)
        · refine ax_lload B dX5_tells_175 hl 6 rfl ?_
          refine ax_lconst (v := 0) B dX5_tells_177 rfl ?_
          refine ax_lcmp' B dX5_tells_178 ?_
          refine ax_if_ge (tgt := 186) B dX5_tells_179 (by decide) e (fun e => ?_) (fun e => ?_)
          · refine ax_lconst (v := 0) B dX5_tells_182 rfl ?_
            refine ax_goto (tgt := 201) B dX5_tells_183 (by decide) ?_
            exact w_X5_tells_201 hSF B Z hn x0 x1 x2 0 (hl.sub [1, 2, 3] rfl) e hp
          · refine ax_lload B dX5_tells_186 hl 6 rfl ?_
            refine ax_iload_n B dX5_tells_188 rfl hl 3 rfl ?_
            refine ax_i2l' B dX5_tells_189 ?_
            refine ax_lcmp' B dX5_tells_190 ?_
            refine ax_if_le (tgt := 199) B dX5_tells_191 (by decide) e (fun e => ?_) (fun e => ?_)
            · refine ax_iload_n B dX5_tells_194 rfl hl 3 rfl ?_
              refine ax_i2l' B dX5_tells_195 ?_
              refine ax_goto (tgt := 201) B dX5_tells_196 (by decide) ?_
              exact w_X5_tells_201 hSF B Z hn x0 x1 x2 (i2 x2) (hl.sub [1, 2, 3] rfl) e hp
            · refine ax_lload B dX5_tells_199 hl 6 rfl ?_
              exact w_X5_tells_201 hSF B Z hn x0 x1 x2 x7 (hl.sub [1, 2, 3] rfl) e hp
        · exact w_X5_tells_203 hSF B Z hn x0 x1 x2 x4 (hl.sub [1, 2, 3, 4] rfl) e hp
      · exact w_X5_tells_203 hSF B Z hn x0 x1 x2 x4 (hl.sub [1, 2, 3, 4] rfl) e hp
  · exact w_X5_tells_203 hSF B Z hn x0 x1 x2 x4 (hl.sub [1, 2, 3, 4] rfl) e hp
set_option maxHeartbeats 4000000 in
theorem w_X5_tells_145 {l : Launch} {G : ax_G} {X : ax_X} {Q : State → Prop} {h0 h : ax_H} {ls : Array Slot} (hSF : ax_SF G) (B : ax_BL l G X cX5_tells 11 RX5 133 3464) (Z : ax_Z X h0 ((some FieldType.int))) (hn : X.2.2.2.2.2.2.2.2.1.name = yX5_tells.name) (x0 : Option Nat) (x1 : Int) (x2 : Int) (x4 : Int) (x6 : Int) (x7 : Int) (x9 : Int) {w : (Int × ax_H) ⊕ (Int × ax_H)} (hl : ax_hl ls 11 [(0, .inr (.inr x0)), (1, .inl x1), (2, .inl x2), (4, .inr (.inl x4)), (6, .inl x6), (7, .inr (.inl x7)), (9, .inl x9)]) (e : f_X5_tells_145 G.2.2 x0 x1 x2 x4 x6 x7 x9 h = some w) (hp : (ax_PL (pi_X5_tells_65 G X Q x0 x1 x2) (fun w : Int × ax_H => Q = ax_Q G X h0 w.2 (some (.int (Int32.ofInt w.1))))) w) : ax_W G X Q h 145 ls [] := by
  unfold f_X5_tells_145 at e
  refine ax_iconst B dX5_tells_145 ?_
  refine ax_goto (tgt := 150) B dX5_tells_146 (by decide) ?_
  exact w_X5_tells_150 hSF B Z hn x0 x1 x2 x4 x6 x7 x9 1 (hl.sub [0, 1, 2, 3, 4, 5, 6] rfl) e hp
set_option maxHeartbeats 4000000 in
theorem w_X5_tells_116 {l : Launch} {G : ax_G} {X : ax_X} {Q : State → Prop} {h0 h : ax_H} {ls : Array Slot} (hSF : ax_SF G) (B : ax_BL l G X cX5_tells 11 RX5 133 3464) (Z : ax_Z X h0 ((some FieldType.int))) (hn : X.2.2.2.2.2.2.2.2.1.name = yX5_tells.name) (x0 : Option Nat) (x1 : Int) (x2 : Int) (x4 : Int) (x6 : Int) (s0 : Int) {w : (Int × ax_H) ⊕ (Int × ax_H)} (hl : ax_hl ls 11 [(0, .inr (.inr x0)), (1, .inl x1), (2, .inl x2), (4, .inr (.inl x4)), (6, .inl x6)]) (e : f_X5_tells_116 G.2.2 x0 x1 x2 x4 x6 s0 h = some w) (hp : (ax_PL (pi_X5_tells_65 G X Q x0 x1 x2) (fun w : Int × ax_H => Q = ax_Q G X h0 w.2 (some (.int (Int32.ofInt w.1))))) w) : ax_W G X Q h 116 ls [.long (Int64.ofInt s0)] := by
  unfold f_X5_tells_116 at e
  refine ax_lstore (L' := [(7, .inr (.inl s0)), (0, .inr (.inr x0)), (1, .inl x1), (2, .inl x2), (4, .inr (.inl x4)), (6, .inl x6)]) B dX5_tells_116 hl (by decide) rfl (fun ls hl => ?_)
  refine ax_aload_n B dX5_tells_118 rfl hl 1 rfl ?_
  refine ax_getI B ff_X5_290_5 (fun _ _ => rfl) dX5_tells_119 e (fun v1 e => ?_)
  refine ax_istore (L' := [(9, .inl v1), (7, .inr (.inl s0)), (0, .inr (.inr x0)), (1, .inl x1), (2, .inl x2), (4, .inr (.inl x4)), (6, .inl x6)]) B dX5_tells_122 hl (by decide) rfl (fun ls hl => ?_)
  refine ax_aload_n B dX5_tells_124 rfl hl 2 rfl ?_
  refine ax_iconst B dX5_tells_125 ?_
  refine ax_putZ B ff_X5_290_5 (Or.inl rfl) dX5_tells_126 e (fun h2 e => ?_)
  refine ax_aload_n B dX5_tells_129 rfl hl 2 rfl ?_
  refine ax_iconst B dX5_tells_130 ?_
  refine ax_ivI (y := yX5_passes0) (n := 1) (As := [.int (Int32.ofInt 5)]) B kd5 (lw_V q2269 q2271 qs60 q133 q2272) (by decide +kernel) ⟨Nat.le_of_ble_eq_true rfl, Nat.le_of_ble_eq_true rfl⟩ (fun w1 e1 => mt_X5_passes0 l G hSF x0 5 _ w1 e1) rfl hl.size (by decide) dX5_tells_131 e (fun q3 e => ?_)
  refine ax_if_eq (tgt := 145) B dX5_tells_134 (by decide) e (fun e => ?_) (fun e => ?_)
  · exact w_X5_tells_145 hSF B Z hn x0 x1 x2 x4 x6 s0 v1 (hl.sub [2, 3, 4, 5, 6, 1, 0] rfl) e hp
  · refine ax_aload_n B dX5_tells_137 rfl hl 2 rfl ?_
    refine ax_iconst B dX5_tells_138 ?_
    refine ax_ivI (y := yX5_testOf) (n := 1) (As := [.int (Int32.ofInt 1)]) B kd5 (lw_V q2280 q2282 qs62 q133 q2283) (by decide +kernel) ⟨Nat.le_of_ble_eq_true rfl, Nat.le_of_ble_eq_true rfl⟩ (fun w1 e1 => mf_X5_testOf l G hSF 64 x0 1 _ w1 e1) rfl hl.size (by decide) dX5_tells_139 e (fun q4 e => ?_)
    refine ax_if_eq (tgt := 149) B dX5_tells_142 (by decide) e (fun e => ?_) (fun e => ?_)
    · refine ax_iconst B dX5_tells_149 ?_
      exact w_X5_tells_150 hSF B Z hn x0 x1 x2 x4 x6 s0 v1 0 (hl.sub [2, 3, 4, 5, 6, 1, 0] rfl) e hp
    · exact w_X5_tells_145 hSF B Z hn x0 x1 x2 x4 x6 s0 v1 (hl.sub [2, 3, 4, 5, 6, 1, 0] rfl) e hp
set_option maxHeartbeats 4000000 in
theorem wb_X5_tells_65 {l : Launch} {G : ax_G} {X : ax_X} {Q : State → Prop} {h0 h : ax_H} {ls : Array Slot} (hSF : ax_SF G) (B : ax_BL l G X cX5_tells 11 RX5 133 3464) (Z : ax_Z X h0 ((some FieldType.int))) (hn : X.2.2.2.2.2.2.2.2.1.name = yX5_tells.name) (x0 : Option Nat) (x1 : Int) (x2 : Int) (x4 : Int) {w : (Int × ax_H) ⊕ (Int × ax_H)} (hl : ax_hl ls 11 [(0, .inr (.inr x0)), (1, .inl x1), (2, .inl x2), (4, .inr (.inl x4))]) (e : lb_X5_tells_65 G.2.2 x0 x1 x2 x4 h = some w) (hp : (ax_PL (pi_X5_tells_65 G X Q x0 x1 x2) (fun w : Int × ax_H => Q = ax_Q G X h0 w.2 (some (.int (Int32.ofInt w.1))))) w) : ax_W G X Q h 65 ls [] := by
  unfold lb_X5_tells_65 at e
  refine ax_aload_n B dX5_tells_65 rfl hl 0 rfl ?_
  refine ax_getI B ff_X5_280_5 (fun _ _ => rfl) dX5_tells_66 e (fun v1 e => ?_)
  refine ax_aload_n B dX5_tells_69 rfl hl 0 rfl ?_
  refine ax_getI B ff_X5_277_5 (fun _ _ => rfl) dX5_tells_70 e (fun v2 e => ?_)
  refine ax_icmp_ge (tgt := 216) B dX5_tells_73 (by decide) e (fun e => ?_) (fun e => ?_)
  · refine ax_aload_n B dX5_tells_76 rfl hl 0 rfl ?_
    refine ax_aload_n B dX5_tells_77 rfl hl 0 rfl ?_
    refine ax_getI B ff_X5_280_5 (fun _ _ => rfl) dX5_tells_78 e (fun v3 e => ?_)
    refine ax_ivI (y := yX5_codeAt) (n := 1) (As := [.int (Int32.ofInt v3)]) B kd5 (lw_V q2250 q2252 qs56 q133 q2253) (by decide +kernel) ⟨Nat.le_of_ble_eq_true rfl, Nat.le_of_ble_eq_true rfl⟩ (fun w1 e1 => mt_X5_codeAt l G hSF x0 v3 _ w1 e1) rfl hl.size (by decide) dX5_tells_81 e (fun q4 e => ?_)
    refine ax_istore (L' := [(6, .inl q4.1), (0, .inr (.inr x0)), (1, .inl x1), (2, .inl x2), (4, .inr (.inl x4))]) B dX5_tells_84 hl (by decide) rfl (fun ls hl => ?_)
    refine ax_aload_n B dX5_tells_86 rfl hl 1 rfl ?_
    refine ax_iconst B dX5_tells_87 ?_
    refine ax_putZ B ff_X5_290_5 (Or.inl rfl) dX5_tells_88 e (fun h5 e => ?_)
    refine ax_aload_n B dX5_tells_91 rfl hl 1 rfl ?_
    refine ax_dup B dX5_tells_92 (va_rf_cat _) ?_
    refine ax_getI B ff_X5_280_5 (fun _ _ => rfl) dX5_tells_93 e (fun v6 e => ?_)
    refine ax_iconst B dX5_tells_96 ?_
    refine ax_iadd' B dX5_tells_97 ?_
    refine ax_putI B ff_X5_280_5 (Or.inl rfl) rfl dX5_tells_98 e (fun h7 e => ?_)
    refine ax_iload B dX5_tells_101 hl 0 rfl ?_
    refine ax_iconst B dX5_tells_103 ?_
    refine ax_icmp_ne (tgt := 111) B dX5_tells_104 (by decide) e (fun e => ?_) (fun e => ?_)
    · refine ax_lconst (v := 1) B dX5_tells_107 rfl ?_
      refine ax_goto (tgt := 116) B dX5_tells_108 (by decide) ?_
      exact w_X5_tells_116 hSF B Z hn x0 x1 x2 x4 q4.1 1 (hl.sub [1, 2, 3, 4, 0] rfl) e hp
    · refine ax_aload_n B dX5_tells_111 rfl hl 1 rfl ?_
      refine ax_iconst B dX5_tells_112 ?_
      refine ax_ivL (y := yX5_sumOf) (n := 1) (As := [.int (Int32.ofInt 1)]) B kd5 (lw_V q2254 q2256 qs57 q133 q2257) (by decide +kernel) ⟨Nat.le_of_ble_eq_true rfl, Nat.le_of_ble_eq_true rfl⟩ (fun w1 e1 => mf_X5_sumOf l G hSF 64 x0 1 _ w1 e1) rfl hl.size (by decide) dX5_tells_113 e (fun q8 e => ?_)
      exact w_X5_tells_116 hSF B Z hn x0 x1 x2 x4 q4.1 q8.1 (hl.sub [1, 2, 3, 4, 0] rfl) e hp
  · obtain ⟨w, e9_1, rfl⟩ := Option.map_eq_some_iff.mp e
    have e := e9_1
    refine ax_lload B dX5_tells_216 hl 3 rfl ?_
    refine ax_l2i' B dX5_tells_218 ?_
    have e8 := e
    have hp : Q = _ := hp
    subst hp
    exact ax_ireturn B Z dX5_tells_219 e8
theorem w_X5_tells_65 {l : Launch} {G : ax_G} {X : ax_X} {Q : State → Prop} {h0 h : ax_H} {ls : Array Slot} (hSF : ax_SF G) (B : ax_BL l G X cX5_tells 11 RX5 133 3464) (Z : ax_Z X h0 ((some FieldType.int))) (hn : X.2.2.2.2.2.2.2.2.1.name = yX5_tells.name) (x0 : Option Nat) (x1 : Int) (x2 : Int) (x4 : Int) {w : Int × ax_H} (hl : ax_hl ls 11 [(0, .inr (.inr x0)), (1, .inl x1), (2, .inl x2), (4, .inr (.inl x4))]) (e : f_X5_tells_65 G.2.2 x0 x1 x2 x4 h = some w) (hp : (fun w : Int × ax_H => Q = ax_Q G X h0 w.2 (some (.int (Int32.ofInt w.1)))) w) : ax_W G X Q h 65 ls [] :=
  ax_iter_W (Pin := pi_X5_tells_65 G X Q x0 x1 x2) (Pout := (fun w : Int × ax_H => Q = ax_Q G X h0 w.2 (some (.int (Int32.ofInt w.1))))) (fun s w e hp ls hl => wb_X5_tells_65 hSF B Z hn x0 x1 x2 s.1 hl e hp) _ _ e hp ls hl
set_option maxHeartbeats 4000000 in
theorem we_X5_tells {l : Launch} {G : ax_G} {X : ax_X} {Q : State → Prop} {h0 h : ax_H} {ls : Array Slot} (hSF : ax_SF G) (B : ax_BL l G X cX5_tells 11 RX5 133 3464) (Z : ax_Z X h0 ((some FieldType.int))) (hn : X.2.2.2.2.2.2.2.2.1.name = yX5_tells.name) (x0 : Option Nat) (x1 : Int) (x2 : Int) (x3 : Int) {w : Int × ax_H} (hl : ax_hl ls 11 [(0, .inr (.inr x0)), (1, .inl x1), (2, .inl x2), (3, .inl x3)]) (e : f_X5_tells G.2.2 x0 x1 x2 x3 h = some w) (hp : (fun w : Int × ax_H => Q = ax_Q G X h0 w.2 (some (.int (Int32.ofInt w.1)))) w) : ax_W G X Q h 0 ls [] := by
  unfold f_X5_tells at e
  refine ax_aload_n B dX5_tells_0 rfl hl 0 rfl ?_
  refine ax_getR B ff_X5_24_5 (fun _ _ => rfl) dX5_tells_1 e (fun v1 e => ?_)
  refine ax_sipush B dX5_tells_4 (by decide) ?_
  refine ax_iald B kd100 dX5_tells_7 e (fun v2 e => ?_)
  refine ax_iconst B dX5_tells_8 ?_
  refine ax_icmp_ne (tgt := 14) B dX5_tells_9 (by decide) e (fun e => ?_) (fun e => ?_)
  · refine ax_iload_n B dX5_tells_12 rfl hl 3 rfl ?_
    have e8 := e
    have hp : Q = _ := hp
    subst hp
    exact ax_ireturn B Z dX5_tells_13 e8
  · refine ax_aload_n B dX5_tells_14 rfl hl 0 rfl ?_
    refine ax_iconst B dX5_tells_15 ?_
    refine ax_putZ B ff_X5_310_5 (Or.inl rfl) dX5_tells_16 e (fun h3 e => ?_)
    refine ax_iload_n B dX5_tells_19 rfl hl 3 rfl ?_
    refine ax_i2l' B dX5_tells_20 ?_
    refine ax_lstore (L' := [(4, .inr (.inl (i2 x3))), (0, .inr (.inr x0)), (1, .inl x1), (2, .inl x2), (3, .inl x3)]) B dX5_tells_21 hl (by decide) rfl (fun ls hl => ?_)
    refine ax_aload_n B dX5_tells_23 rfl hl 1 rfl ?_
    refine ax_sipush B dX5_tells_24 (by decide) ?_
    refine ax_aload_n B dX5_tells_27 rfl hl 1 rfl ?_
    refine ax_getR B ff_X5_24_5 (fun _ _ => rfl) dX5_tells_28 e (fun v4 e => ?_)
    refine ax_sipush B dX5_tells_31 (by decide) ?_
    refine ax_iald B kd100 dX5_tells_34 e (fun v5 e => ?_)
    refine ax_imul' B dX5_tells_35 ?_
    refine ax_putI B ff_X5_280_5 (Or.inl rfl) rfl dX5_tells_36 e (fun h6 e => ?_)
    refine ax_aload_n B dX5_tells_39 rfl hl 1 rfl ?_
    refine ax_aload_n B dX5_tells_40 rfl hl 1 rfl ?_
    refine ax_getI B ff_X5_280_5 (fun _ _ => rfl) dX5_tells_41 e (fun v7 e => ?_)
    refine ax_aload_n B dX5_tells_44 rfl hl 1 rfl ?_
    refine ax_getR B ff_X5_24_5 (fun _ _ => rfl) dX5_tells_45 e (fun v8 e => ?_)
    refine ax_sipush B dX5_tells_48 (by decide) ?_
    refine ax_aload_n B dX5_tells_51 rfl hl 1 rfl ?_
    refine ax_getR B ff_X5_24_5 (fun _ _ => rfl) dX5_tells_52 e (fun v9 e => ?_)
    refine ax_sipush B dX5_tells_55 (by decide) ?_
    refine ax_iald B kd100 dX5_tells_58 e (fun v10 e => ?_)
    refine ax_iadd' B dX5_tells_59 ?_
    refine ax_iald B kd100 dX5_tells_60 e (fun v11 e => ?_)
    refine ax_iadd' B dX5_tells_61 ?_
    refine ax_putI B ff_X5_277_5 (Or.inl rfl) rfl dX5_tells_62 e (fun h12 e => ?_)
    exact w_X5_tells_65 hSF B Z hn x0 x1 x2 (i2 x3) (hl.sub [1, 2, 3, 0] rfl) e hp
theorem mt_X5_tells (l : Launch) (G : ax_G) (hSF : ax_SF G) (x0 : Option Nat) (x1 : Int) (x2 : Int) (x3 : Int) (h : ax_H) (w : Int × ax_H) (e : f_X5_tells G.2.2 x0 x1 x2 x3 h = some w) : ax_Met l G yX5_tells cX5_tells 11 ((some FieldType.int)) 133 3464 [va_rf x0, .int (Int32.ofInt x1), .int (Int32.ofInt x2), .int (Int32.ofInt x3)] h w.2 (some (.int (Int32.ofInt w.1))) :=
  ax_enter [.inr (.inr x0), .inl x1, .inl x2, .inl x3] (y := yX5_tells) hSF (plainFor_of_name (by decide +kernel)) (Nat.le_of_ble_eq_true rfl) (fun X ls B Z hn hl => we_X5_tells hSF B Z hn x0 x1 x2 x3 hl e rfl)
def dkwX5_soldFor_1 : List UInt8 := [182, 1, 76, 172]
abbrev dktX5_soldFor_1 : List UInt8 := dkwX5_soldFor_1 ++ []
def dkwX5_soldFor_0 : List UInt8 := [42, 27, 182, 1, 86, 42, 6, 17, 39, 15, 42, 180, 0, 24, 16, 7, 7, 27, 104, 96, 5, 96, 46]
abbrev dktX5_soldFor_0 : List UInt8 := dkwX5_soldFor_0 ++ dktX5_soldFor_1
theorem dksX5_soldFor_0 : cX5_soldFor.data.toList.drop 0 = dktX5_soldFor_0 := by decide +kernel
theorem dksX5_soldFor_1 : cX5_soldFor.data.toList.drop 23 = dktX5_soldFor_1 := dk_seg dksX5_soldFor_0 23 rfl rfl
theorem dX5_soldFor_0 : decode cX5_soldFor 0 = .ok (.aload_n 0, 1) := dk_42 (dk_at dksX5_soldFor_0 0 rfl rfl)
theorem dX5_soldFor_1 : decode cX5_soldFor 1 = .ok (.iload_n 1, 1) := dk_27 (dk_at dksX5_soldFor_0 1 rfl rfl)
theorem dX5_soldFor_2 : decode cX5_soldFor 2 = .ok (.invokevirtual 342, 3) := dk_182 1 86 (dk_at dksX5_soldFor_0 2 rfl rfl)
theorem dX5_soldFor_5 : decode cX5_soldFor 5 = .ok (.aload_n 0, 1) := dk_42 (dk_at dksX5_soldFor_0 5 rfl rfl)
theorem dX5_soldFor_6 : decode cX5_soldFor 6 = .ok (.iconst 3, 1) := dk_6 (dk_at dksX5_soldFor_0 6 rfl rfl)
theorem dX5_soldFor_7 : decode cX5_soldFor 7 = .ok (.sipush 9999, 3) := dk_17 39 15 (dk_at dksX5_soldFor_0 7 rfl rfl)
theorem dX5_soldFor_10 : decode cX5_soldFor 10 = .ok (.aload_n 0, 1) := dk_42 (dk_at dksX5_soldFor_0 10 rfl rfl)
theorem dX5_soldFor_11 : decode cX5_soldFor 11 = .ok (.getfield 24, 3) := dk_180 0 24 (dk_at dksX5_soldFor_0 11 rfl rfl)
theorem dX5_soldFor_14 : decode cX5_soldFor 14 = .ok (.bipush 7, 2) := dk_16 7 (dk_at dksX5_soldFor_0 14 rfl rfl)
theorem dX5_soldFor_16 : decode cX5_soldFor 16 = .ok (.iconst 4, 1) := dk_7 (dk_at dksX5_soldFor_0 16 rfl rfl)
theorem dX5_soldFor_17 : decode cX5_soldFor 17 = .ok (.iload_n 1, 1) := dk_27 (dk_at dksX5_soldFor_0 17 rfl rfl)
theorem dX5_soldFor_18 : decode cX5_soldFor 18 = .ok (.imul, 1) := dk_104 (dk_at dksX5_soldFor_0 18 rfl rfl)
theorem dX5_soldFor_19 : decode cX5_soldFor 19 = .ok (.iadd, 1) := dk_96 (dk_at dksX5_soldFor_0 19 rfl rfl)
theorem dX5_soldFor_20 : decode cX5_soldFor 20 = .ok (.iconst 2, 1) := dk_5 (dk_at dksX5_soldFor_0 20 rfl rfl)
theorem dX5_soldFor_21 : decode cX5_soldFor 21 = .ok (.iadd, 1) := dk_96 (dk_at dksX5_soldFor_0 21 rfl rfl)
theorem dX5_soldFor_22 : decode cX5_soldFor 22 = .ok (.iaload, 1) := dk_46 (dk_at dksX5_soldFor_0 22 rfl rfl)
theorem dX5_soldFor_23 : decode cX5_soldFor 23 = .ok (.invokevirtual 332, 3) := dk_182 1 76 (dk_at dksX5_soldFor_1 0 rfl rfl)
theorem dX5_soldFor_26 : decode cX5_soldFor 26 = .ok (.ireturn, 1) := dk_172 (dk_at dksX5_soldFor_1 3 rfl rfl)
noncomputable def f_X5_soldFor (E : ax_E) (x0 : Option Nat) (x1 : Int) (h : ax_H) : Option (Int × ax_H) :=
  (ax_ce E h x0 5).bind fun _ => (f_X5_setsDebt E x0 x1 h).bind fun h1 =>
  (ax_gR E h1 x0 5 2).bind fun v2 =>
  (ax_ld E h1 v2 100 ((7 + (4 * x1)) + 2)).bind fun v3 =>
  (ax_ce E h1 x0 5).bind fun _ => (f_X5_tells E x0 3 9999 v3 h1).bind fun q4 =>
  some (q4.1, q4.2)
set_option maxHeartbeats 4000000 in
theorem we_X5_soldFor {l : Launch} {G : ax_G} {X : ax_X} {Q : State → Prop} {h0 h : ax_H} {ls : Array Slot} (hSF : ax_SF G) (B : ax_BL l G X cX5_soldFor 2 RX5 134 3494) (Z : ax_Z X h0 ((some FieldType.int))) (hn : X.2.2.2.2.2.2.2.2.1.name = yX5_soldFor.name) (x0 : Option Nat) (x1 : Int) {w : Int × ax_H} (hl : ax_hl ls 2 [(0, .inr (.inr x0)), (1, .inl x1)]) (e : f_X5_soldFor G.2.2 x0 x1 h = some w) (hp : (fun w : Int × ax_H => Q = ax_Q G X h0 w.2 (some (.int (Int32.ofInt w.1)))) w) : ax_W G X Q h 0 ls [] := by
  unfold f_X5_soldFor at e
  refine ax_aload_n B dX5_soldFor_0 rfl hl 0 rfl ?_
  refine ax_iload_n B dX5_soldFor_1 rfl hl 1 rfl ?_
  refine ax_ivV (y := yX5_setsDebt) (n := 1) (As := [.int (Int32.ofInt x1)]) B kd5 (lw_V q2230 q2232 qs51 q133 q2233) (by decide +kernel) ⟨Nat.le_of_ble_eq_true rfl, Nat.le_of_ble_eq_true rfl⟩ (fun w1 e1 => mt_X5_setsDebt l G hSF x0 x1 _ w1 e1) rfl hl.size (by decide) dX5_soldFor_2 e (fun h1 e => ?_)
  refine ax_aload_n B dX5_soldFor_5 rfl hl 0 rfl ?_
  refine ax_iconst B dX5_soldFor_6 ?_
  refine ax_sipush B dX5_soldFor_7 (by decide) ?_
  refine ax_aload_n B dX5_soldFor_10 rfl hl 0 rfl ?_
  refine ax_getR B ff_X5_24_5 (fun _ _ => rfl) dX5_soldFor_11 e (fun v2 e => ?_)
  refine ax_bipush B dX5_soldFor_14 (by decide) ?_
  refine ax_iconst B dX5_soldFor_16 ?_
  refine ax_iload_n B dX5_soldFor_17 rfl hl 1 rfl ?_
  refine ax_imul' B dX5_soldFor_18 ?_
  refine ax_iadd' B dX5_soldFor_19 ?_
  refine ax_iconst B dX5_soldFor_20 ?_
  refine ax_iadd' B dX5_soldFor_21 ?_
  refine ax_iald B kd100 dX5_soldFor_22 e (fun v3 e => ?_)
  refine ax_ivI (y := yX5_tells) (n := 3) (As := [.int (Int32.ofInt 3), .int (Int32.ofInt 9999), .int (Int32.ofInt v3)]) B kd5 (lw_V q2246 q2248 qs55 q133 q2249) (by decide +kernel) ⟨Nat.le_of_ble_eq_true rfl, Nat.le_of_ble_eq_true rfl⟩ (fun w1 e1 => mt_X5_tells l G hSF x0 3 9999 v3 _ w1 e1) rfl hl.size (by decide) dX5_soldFor_23 e (fun q4 e => ?_)
  have e8 := e
  have hp : Q = _ := hp
  subst hp
  exact ax_ireturn B Z dX5_soldFor_26 e8
theorem mt_X5_soldFor (l : Launch) (G : ax_G) (hSF : ax_SF G) (x0 : Option Nat) (x1 : Int) (h : ax_H) (w : Int × ax_H) (e : f_X5_soldFor G.2.2 x0 x1 h = some w) : ax_Met l G yX5_soldFor cX5_soldFor 2 ((some FieldType.int)) 134 3494 [va_rf x0, .int (Int32.ofInt x1)] h w.2 (some (.int (Int32.ofInt w.1))) :=
  ax_enter [.inr (.inr x0), .inl x1] (y := yX5_soldFor) hSF (plainFor_of_name (by decide +kernel)) (Nat.le_of_ble_eq_true rfl) (fun X ls B Z hn hl => we_X5_soldFor hSF B Z hn x0 x1 hl e rfl)
def dkwX5_growsBy_0 : List UInt8 := [42, 27, 182, 1, 86, 42, 5, 16, 99, 3, 182, 1, 76, 172]
abbrev dktX5_growsBy_0 : List UInt8 := dkwX5_growsBy_0 ++ []
theorem dksX5_growsBy_0 : cX5_growsBy.data.toList.drop 0 = dktX5_growsBy_0 := by decide +kernel
theorem dX5_growsBy_0 : decode cX5_growsBy 0 = .ok (.aload_n 0, 1) := dk_42 (dk_at dksX5_growsBy_0 0 rfl rfl)
theorem dX5_growsBy_1 : decode cX5_growsBy 1 = .ok (.iload_n 1, 1) := dk_27 (dk_at dksX5_growsBy_0 1 rfl rfl)
theorem dX5_growsBy_2 : decode cX5_growsBy 2 = .ok (.invokevirtual 342, 3) := dk_182 1 86 (dk_at dksX5_growsBy_0 2 rfl rfl)
theorem dX5_growsBy_5 : decode cX5_growsBy 5 = .ok (.aload_n 0, 1) := dk_42 (dk_at dksX5_growsBy_0 5 rfl rfl)
theorem dX5_growsBy_6 : decode cX5_growsBy 6 = .ok (.iconst 2, 1) := dk_5 (dk_at dksX5_growsBy_0 6 rfl rfl)
theorem dX5_growsBy_7 : decode cX5_growsBy 7 = .ok (.bipush 99, 2) := dk_16 99 (dk_at dksX5_growsBy_0 7 rfl rfl)
theorem dX5_growsBy_9 : decode cX5_growsBy 9 = .ok (.iconst 0, 1) := dk_3 (dk_at dksX5_growsBy_0 9 rfl rfl)
theorem dX5_growsBy_10 : decode cX5_growsBy 10 = .ok (.invokevirtual 332, 3) := dk_182 1 76 (dk_at dksX5_growsBy_0 10 rfl rfl)
theorem dX5_growsBy_13 : decode cX5_growsBy 13 = .ok (.ireturn, 1) := dk_172 (dk_at dksX5_growsBy_0 13 rfl rfl)
noncomputable def f_X5_growsBy (E : ax_E) (x0 : Option Nat) (x1 : Int) (h : ax_H) : Option (Int × ax_H) :=
  (ax_ce E h x0 5).bind fun _ => (f_X5_setsDebt E x0 x1 h).bind fun h1 =>
  (ax_ce E h1 x0 5).bind fun _ => (f_X5_tells E x0 2 99 0 h1).bind fun q2 =>
  some (q2.1, q2.2)
set_option maxHeartbeats 4000000 in
theorem we_X5_growsBy {l : Launch} {G : ax_G} {X : ax_X} {Q : State → Prop} {h0 h : ax_H} {ls : Array Slot} (hSF : ax_SF G) (B : ax_BL l G X cX5_growsBy 2 RX5 134 3494) (Z : ax_Z X h0 ((some FieldType.int))) (hn : X.2.2.2.2.2.2.2.2.1.name = yX5_growsBy.name) (x0 : Option Nat) (x1 : Int) {w : Int × ax_H} (hl : ax_hl ls 2 [(0, .inr (.inr x0)), (1, .inl x1)]) (e : f_X5_growsBy G.2.2 x0 x1 h = some w) (hp : (fun w : Int × ax_H => Q = ax_Q G X h0 w.2 (some (.int (Int32.ofInt w.1)))) w) : ax_W G X Q h 0 ls [] := by
  unfold f_X5_growsBy at e
  refine ax_aload_n B dX5_growsBy_0 rfl hl 0 rfl ?_
  refine ax_iload_n B dX5_growsBy_1 rfl hl 1 rfl ?_
  refine ax_ivV (y := yX5_setsDebt) (n := 1) (As := [.int (Int32.ofInt x1)]) B kd5 (lw_V q2230 q2232 qs51 q133 q2233) (by decide +kernel) ⟨Nat.le_of_ble_eq_true rfl, Nat.le_of_ble_eq_true rfl⟩ (fun w1 e1 => mt_X5_setsDebt l G hSF x0 x1 _ w1 e1) rfl hl.size (by decide) dX5_growsBy_2 e (fun h1 e => ?_)
  refine ax_aload_n B dX5_growsBy_5 rfl hl 0 rfl ?_
  refine ax_iconst B dX5_growsBy_6 ?_
  refine ax_bipush B dX5_growsBy_7 (by decide) ?_
  refine ax_iconst B dX5_growsBy_9 ?_
  refine ax_ivI (y := yX5_tells) (n := 3) (As := [.int (Int32.ofInt 2), .int (Int32.ofInt 99), .int (Int32.ofInt 0)]) B kd5 (lw_V q2246 q2248 qs55 q133 q2249) (by decide +kernel) ⟨Nat.le_of_ble_eq_true rfl, Nat.le_of_ble_eq_true rfl⟩ (fun w1 e1 => mt_X5_tells l G hSF x0 2 99 0 _ w1 e1) rfl hl.size (by decide) dX5_growsBy_10 e (fun q2 e => ?_)
  have e8 := e
  have hp : Q = _ := hp
  subst hp
  exact ax_ireturn B Z dX5_growsBy_13 e8
theorem mt_X5_growsBy (l : Launch) (G : ax_G) (hSF : ax_SF G) (x0 : Option Nat) (x1 : Int) (h : ax_H) (w : Int × ax_H) (e : f_X5_growsBy G.2.2 x0 x1 h = some w) : ax_Met l G yX5_growsBy cX5_growsBy 2 ((some FieldType.int)) 134 3494 [va_rf x0, .int (Int32.ofInt x1)] h w.2 (some (.int (Int32.ofInt w.1))) :=
  ax_enter [.inr (.inr x0), .inl x1] (y := yX5_growsBy) hSF (plainFor_of_name (by decide +kernel)) (Nat.le_of_ble_eq_true rfl) (fun X ls B Z hn hl => we_X5_growsBy hSF B Z hn x0 x1 hl e rfl)
def dkwX5_at_2 : List UInt8 := [8, 160, 0, 11, 42, 27, 182, 0, 175, 167, 0, 4, 2, 172]
abbrev dktX5_at_2 : List UInt8 := dkwX5_at_2 ++ []
def dkwX5_at_1 : List UInt8 := [16, 7, 7, 27, 104, 96, 28, 96, 46, 172, 28, 7, 160, 0, 11, 42, 27, 182, 0, 172, 167, 0, 17, 28]
abbrev dktX5_at_1 : List UInt8 := dkwX5_at_1 ++ dktX5_at_2
def dkwX5_at_0 : List UInt8 := [42, 27, 182, 0, 169, 154, 0, 5, 2, 172, 28, 3, 6, 184, 0, 123, 153, 0, 17, 42, 180, 0, 24]
abbrev dktX5_at_0 : List UInt8 := dkwX5_at_0 ++ dktX5_at_1
theorem dksX5_at_0 : cX5_at.data.toList.drop 0 = dktX5_at_0 := by decide +kernel
theorem dksX5_at_1 : cX5_at.data.toList.drop 23 = dktX5_at_1 := dk_seg dksX5_at_0 23 rfl rfl
theorem dksX5_at_2 : cX5_at.data.toList.drop 47 = dktX5_at_2 := dk_seg dksX5_at_1 24 rfl rfl
theorem dX5_at_0 : decode cX5_at 0 = .ok (.aload_n 0, 1) := dk_42 (dk_at dksX5_at_0 0 rfl rfl)
theorem dX5_at_1 : decode cX5_at 1 = .ok (.iload_n 1, 1) := dk_27 (dk_at dksX5_at_0 1 rfl rfl)
theorem dX5_at_2 : decode cX5_at 2 = .ok (.invokevirtual 169, 3) := dk_182 0 169 (dk_at dksX5_at_0 2 rfl rfl)
theorem dX5_at_5 : decode cX5_at 5 = .ok (.ifCond .ne 5, 3) := dk_154 0 5 (dk_at dksX5_at_0 5 rfl rfl)
theorem dX5_at_8 : decode cX5_at 8 = .ok (.iconst (-1), 1) := dk_2 (dk_at dksX5_at_0 8 rfl rfl)
theorem dX5_at_9 : decode cX5_at 9 = .ok (.ireturn, 1) := dk_172 (dk_at dksX5_at_0 9 rfl rfl)
theorem dX5_at_10 : decode cX5_at 10 = .ok (.iload_n 2, 1) := dk_28 (dk_at dksX5_at_0 10 rfl rfl)
theorem dX5_at_11 : decode cX5_at 11 = .ok (.iconst 0, 1) := dk_3 (dk_at dksX5_at_0 11 rfl rfl)
theorem dX5_at_12 : decode cX5_at 12 = .ok (.iconst 3, 1) := dk_6 (dk_at dksX5_at_0 12 rfl rfl)
theorem dX5_at_13 : decode cX5_at 13 = .ok (.invokestatic 123, 3) := dk_184 0 123 (dk_at dksX5_at_0 13 rfl rfl)
theorem dX5_at_16 : decode cX5_at 16 = .ok (.ifCond .eq 17, 3) := dk_153 0 17 (dk_at dksX5_at_0 16 rfl rfl)
theorem dX5_at_19 : decode cX5_at 19 = .ok (.aload_n 0, 1) := dk_42 (dk_at dksX5_at_0 19 rfl rfl)
theorem dX5_at_20 : decode cX5_at 20 = .ok (.getfield 24, 3) := dk_180 0 24 (dk_at dksX5_at_0 20 rfl rfl)
theorem dX5_at_23 : decode cX5_at 23 = .ok (.bipush 7, 2) := dk_16 7 (dk_at dksX5_at_1 0 rfl rfl)
theorem dX5_at_25 : decode cX5_at 25 = .ok (.iconst 4, 1) := dk_7 (dk_at dksX5_at_1 2 rfl rfl)
theorem dX5_at_26 : decode cX5_at 26 = .ok (.iload_n 1, 1) := dk_27 (dk_at dksX5_at_1 3 rfl rfl)
theorem dX5_at_27 : decode cX5_at 27 = .ok (.imul, 1) := dk_104 (dk_at dksX5_at_1 4 rfl rfl)
theorem dX5_at_28 : decode cX5_at 28 = .ok (.iadd, 1) := dk_96 (dk_at dksX5_at_1 5 rfl rfl)
theorem dX5_at_29 : decode cX5_at 29 = .ok (.iload_n 2, 1) := dk_28 (dk_at dksX5_at_1 6 rfl rfl)
theorem dX5_at_30 : decode cX5_at 30 = .ok (.iadd, 1) := dk_96 (dk_at dksX5_at_1 7 rfl rfl)
theorem dX5_at_31 : decode cX5_at 31 = .ok (.iaload, 1) := dk_46 (dk_at dksX5_at_1 8 rfl rfl)
theorem dX5_at_32 : decode cX5_at 32 = .ok (.ireturn, 1) := dk_172 (dk_at dksX5_at_1 9 rfl rfl)
theorem dX5_at_33 : decode cX5_at 33 = .ok (.iload_n 2, 1) := dk_28 (dk_at dksX5_at_1 10 rfl rfl)
theorem dX5_at_34 : decode cX5_at 34 = .ok (.iconst 4, 1) := dk_7 (dk_at dksX5_at_1 11 rfl rfl)
theorem dX5_at_35 : decode cX5_at 35 = .ok (.if_icmp .ne 11, 3) := dk_160 0 11 (dk_at dksX5_at_1 12 rfl rfl)
theorem dX5_at_38 : decode cX5_at 38 = .ok (.aload_n 0, 1) := dk_42 (dk_at dksX5_at_1 15 rfl rfl)
theorem dX5_at_39 : decode cX5_at 39 = .ok (.iload_n 1, 1) := dk_27 (dk_at dksX5_at_1 16 rfl rfl)
theorem dX5_at_40 : decode cX5_at 40 = .ok (.invokevirtual 172, 3) := dk_182 0 172 (dk_at dksX5_at_1 17 rfl rfl)
theorem dX5_at_43 : decode cX5_at 43 = .ok (.goto 17, 3) := dk_167 0 17 (dk_at dksX5_at_1 20 rfl rfl)
theorem dX5_at_46 : decode cX5_at 46 = .ok (.iload_n 2, 1) := dk_28 (dk_at dksX5_at_1 23 rfl rfl)
theorem dX5_at_47 : decode cX5_at 47 = .ok (.iconst 5, 1) := dk_8 (dk_at dksX5_at_2 0 rfl rfl)
theorem dX5_at_48 : decode cX5_at 48 = .ok (.if_icmp .ne 11, 3) := dk_160 0 11 (dk_at dksX5_at_2 1 rfl rfl)
theorem dX5_at_51 : decode cX5_at 51 = .ok (.aload_n 0, 1) := dk_42 (dk_at dksX5_at_2 4 rfl rfl)
theorem dX5_at_52 : decode cX5_at 52 = .ok (.iload_n 1, 1) := dk_27 (dk_at dksX5_at_2 5 rfl rfl)
theorem dX5_at_53 : decode cX5_at 53 = .ok (.invokevirtual 175, 3) := dk_182 0 175 (dk_at dksX5_at_2 6 rfl rfl)
theorem dX5_at_56 : decode cX5_at 56 = .ok (.goto 4, 3) := dk_167 0 4 (dk_at dksX5_at_2 9 rfl rfl)
theorem dX5_at_59 : decode cX5_at 59 = .ok (.iconst (-1), 1) := dk_2 (dk_at dksX5_at_2 12 rfl rfl)
theorem dX5_at_60 : decode cX5_at 60 = .ok (.ireturn, 1) := dk_172 (dk_at dksX5_at_2 13 rfl rfl)
noncomputable def f_X5_at (E : ax_E) (x0 : Option Nat) (x1 : Int) (x2 : Int) (h : ax_H) : Option (Int × ax_H) :=
  (ax_ce E h x0 5).bind fun _ => (f_X5_isDebt E x0 x1 h).bind fun q1 =>
  if i2 q1.1 = 0 then
    some ((-1), q1.2)
  else
    (f_X5_lies E x2 0 3 q1.2).bind fun q2 =>
    if i2 q2.1 = 0 then
      if i2 x2 = i2 4 then
        (ax_ce E q2.2 x0 5).bind fun _ => (f_X5_soldFor E x0 x1 q2.2).bind fun q3 =>
        some (q3.1, q3.2)
      else
        if i2 x2 = i2 5 then
          (ax_ce E q2.2 x0 5).bind fun _ => (f_X5_growsBy E x0 x1 q2.2).bind fun q4 =>
          some (q4.1, q4.2)
        else
          some ((-1), q2.2)
    else
      (ax_gR E q2.2 x0 5 2).bind fun v5 =>
      (ax_ld E q2.2 v5 100 ((7 + (4 * x1)) + x2)).bind fun v6 =>
      some (v6, q2.2)
set_option maxHeartbeats 4000000 in
theorem we_X5_at {l : Launch} {G : ax_G} {X : ax_X} {Q : State → Prop} {h0 h : ax_H} {ls : Array Slot} (hSF : ax_SF G) (B : ax_BL l G X cX5_at 3 RX5 135 3515) (Z : ax_Z X h0 ((some FieldType.int))) (hn : X.2.2.2.2.2.2.2.2.1.name = yX5_at.name) (x0 : Option Nat) (x1 : Int) (x2 : Int) {w : Int × ax_H} (hl : ax_hl ls 3 [(0, .inr (.inr x0)), (1, .inl x1), (2, .inl x2)]) (e : f_X5_at G.2.2 x0 x1 x2 h = some w) (hp : (fun w : Int × ax_H => Q = ax_Q G X h0 w.2 (some (.int (Int32.ofInt w.1)))) w) : ax_W G X Q h 0 ls [] := by
  unfold f_X5_at at e
  refine ax_aload_n B dX5_at_0 rfl hl 0 rfl ?_
  refine ax_iload_n B dX5_at_1 rfl hl 1 rfl ?_
  refine ax_ivI (y := yX5_isDebt) (n := 1) (As := [.int (Int32.ofInt x1)]) B kd5 (lw_V q2222 q2224 qs49 q133 q2225) (by decide +kernel) ⟨Nat.le_of_ble_eq_true rfl, Nat.le_of_ble_eq_true rfl⟩ (fun w1 e1 => mt_X5_isDebt l G hSF x0 x1 _ w1 e1) rfl hl.size (by decide) dX5_at_2 e (fun q1 e => ?_)
  refine ax_if_ne (tgt := 10) B dX5_at_5 (by decide) e (fun e => ?_) (fun e => ?_)
  · refine ax_iconst B dX5_at_8 ?_
    have e8 := e
    have hp : Q = _ := hp
    subst hp
    exact ax_ireturn B Z dX5_at_9 e8
  · refine ax_iload_n B dX5_at_10 rfl hl 2 rfl ?_
    refine ax_iconst B dX5_at_11 ?_
    refine ax_iconst B dX5_at_12 ?_
    refine ax_isI (y := yX5_lies) (n := 3) (As := [.int (Int32.ofInt x2), .int (Int32.ofInt 0), .int (Int32.ofInt 3)]) B (lw_S q2151 q2152 q133 q2153) (by decide +kernel) ⟨Nat.le_of_ble_eq_true rfl, Nat.le_of_ble_eq_true rfl⟩ (fun w1 e1 => mt_X5_lies l G hSF x2 0 3 _ w1 e1) rfl hl.size (by decide) dX5_at_13 e (fun q2 e => ?_)
    refine ax_if_eq (tgt := 33) B dX5_at_16 (by decide) e (fun e => ?_) (fun e => ?_)
    · refine ax_iload_n B dX5_at_33 rfl hl 2 rfl ?_
      refine ax_iconst B dX5_at_34 ?_
      refine ax_icmp_ne (tgt := 46) B dX5_at_35 (by decide) e (fun e => ?_) (fun e => ?_)
      · refine ax_aload_n B dX5_at_38 rfl hl 0 rfl ?_
        refine ax_iload_n B dX5_at_39 rfl hl 1 rfl ?_
        refine ax_ivI (y := yX5_soldFor) (n := 1) (As := [.int (Int32.ofInt x1)]) B kd5 (lw_V q2226 q2228 qs50 q133 q2229) (by decide +kernel) ⟨Nat.le_of_ble_eq_true rfl, Nat.le_of_ble_eq_true rfl⟩ (fun w1 e1 => mt_X5_soldFor l G hSF x0 x1 _ w1 e1) rfl hl.size (by decide) dX5_at_40 e (fun q3 e => ?_)
        refine ax_goto (tgt := 60) B dX5_at_43 (by decide) ?_
        have e8 := e
        have hp : Q = _ := hp
        subst hp
        exact ax_ireturn B Z dX5_at_60 e8
      · refine ax_iload_n B dX5_at_46 rfl hl 2 rfl ?_
        refine ax_iconst B dX5_at_47 ?_
        refine ax_icmp_ne (tgt := 59) B dX5_at_48 (by decide) e (fun e => ?_) (fun e => ?_)
        · refine ax_aload_n B dX5_at_51 rfl hl 0 rfl ?_
          refine ax_iload_n B dX5_at_52 rfl hl 1 rfl ?_
          refine ax_ivI (y := yX5_growsBy) (n := 1) (As := [.int (Int32.ofInt x1)]) B kd5 (lw_V q2296 q2298 qs66 q133 q2299) (by decide +kernel) ⟨Nat.le_of_ble_eq_true rfl, Nat.le_of_ble_eq_true rfl⟩ (fun w1 e1 => mt_X5_growsBy l G hSF x0 x1 _ w1 e1) rfl hl.size (by decide) dX5_at_53 e (fun q4 e => ?_)
          refine ax_goto (tgt := 60) B dX5_at_56 (by decide) ?_
          have e8 := e
          have hp : Q = _ := hp
          subst hp
          exact ax_ireturn B Z dX5_at_60 e8
        · refine ax_iconst B dX5_at_59 ?_
          have e8 := e
          have hp : Q = _ := hp
          subst hp
          exact ax_ireturn B Z dX5_at_60 e8
    · refine ax_aload_n B dX5_at_19 rfl hl 0 rfl ?_
      refine ax_getR B ff_X5_24_5 (fun _ _ => rfl) dX5_at_20 e (fun v5 e => ?_)
      refine ax_bipush B dX5_at_23 (by decide) ?_
      refine ax_iconst B dX5_at_25 ?_
      refine ax_iload_n B dX5_at_26 rfl hl 1 rfl ?_
      refine ax_imul' B dX5_at_27 ?_
      refine ax_iadd' B dX5_at_28 ?_
      refine ax_iload_n B dX5_at_29 rfl hl 2 rfl ?_
      refine ax_iadd' B dX5_at_30 ?_
      refine ax_iald B kd100 dX5_at_31 e (fun v6 e => ?_)
      have e8 := e
      have hp : Q = _ := hp
      subst hp
      exact ax_ireturn B Z dX5_at_32 e8
theorem mt_X5_at (l : Launch) (G : ax_G) (hSF : ax_SF G) (x0 : Option Nat) (x1 : Int) (x2 : Int) (h : ax_H) (w : Int × ax_H) (e : f_X5_at G.2.2 x0 x1 x2 h = some w) : ax_Met l G yX5_at cX5_at 3 ((some FieldType.int)) 135 3515 [va_rf x0, .int (Int32.ofInt x1), .int (Int32.ofInt x2)] h w.2 (some (.int (Int32.ofInt w.1))) :=
  ax_enter [.inr (.inr x0), .inl x1, .inl x2] (y := yX5_at) hSF (plainFor_of_name (by decide +kernel)) (Nat.le_of_ble_eq_true rfl) (fun X ls B Z hn hl => we_X5_at hSF B Z hn x0 x1 x2 hl e rfl)
def dkwX5_owes_1 : List UInt8 := [182, 0, 178, 167, 0, 4, 2, 172]
abbrev dktX5_owes_1 : List UInt8 := dkwX5_owes_1 ++ []
def dkwX5_owes_0 : List UInt8 := [42, 27, 182, 0, 152, 153, 0, 25, 42, 28, 182, 0, 152, 153, 0, 17, 27, 28, 159, 0, 12, 42, 27, 28]
abbrev dktX5_owes_0 : List UInt8 := dkwX5_owes_0 ++ dktX5_owes_1
theorem dksX5_owes_0 : cX5_owes.data.toList.drop 0 = dktX5_owes_0 := by decide +kernel
theorem dksX5_owes_1 : cX5_owes.data.toList.drop 24 = dktX5_owes_1 := dk_seg dksX5_owes_0 24 rfl rfl
theorem dX5_owes_0 : decode cX5_owes 0 = .ok (.aload_n 0, 1) := dk_42 (dk_at dksX5_owes_0 0 rfl rfl)
theorem dX5_owes_1 : decode cX5_owes 1 = .ok (.iload_n 1, 1) := dk_27 (dk_at dksX5_owes_0 1 rfl rfl)
theorem dX5_owes_2 : decode cX5_owes 2 = .ok (.invokevirtual 152, 3) := dk_182 0 152 (dk_at dksX5_owes_0 2 rfl rfl)
theorem dX5_owes_5 : decode cX5_owes 5 = .ok (.ifCond .eq 25, 3) := dk_153 0 25 (dk_at dksX5_owes_0 5 rfl rfl)
theorem dX5_owes_8 : decode cX5_owes 8 = .ok (.aload_n 0, 1) := dk_42 (dk_at dksX5_owes_0 8 rfl rfl)
theorem dX5_owes_9 : decode cX5_owes 9 = .ok (.iload_n 2, 1) := dk_28 (dk_at dksX5_owes_0 9 rfl rfl)
theorem dX5_owes_10 : decode cX5_owes 10 = .ok (.invokevirtual 152, 3) := dk_182 0 152 (dk_at dksX5_owes_0 10 rfl rfl)
theorem dX5_owes_13 : decode cX5_owes 13 = .ok (.ifCond .eq 17, 3) := dk_153 0 17 (dk_at dksX5_owes_0 13 rfl rfl)
theorem dX5_owes_16 : decode cX5_owes 16 = .ok (.iload_n 1, 1) := dk_27 (dk_at dksX5_owes_0 16 rfl rfl)
theorem dX5_owes_17 : decode cX5_owes 17 = .ok (.iload_n 2, 1) := dk_28 (dk_at dksX5_owes_0 17 rfl rfl)
theorem dX5_owes_18 : decode cX5_owes 18 = .ok (.if_icmp .eq 12, 3) := dk_159 0 12 (dk_at dksX5_owes_0 18 rfl rfl)
theorem dX5_owes_21 : decode cX5_owes 21 = .ok (.aload_n 0, 1) := dk_42 (dk_at dksX5_owes_0 21 rfl rfl)
theorem dX5_owes_22 : decode cX5_owes 22 = .ok (.iload_n 1, 1) := dk_27 (dk_at dksX5_owes_0 22 rfl rfl)
theorem dX5_owes_23 : decode cX5_owes 23 = .ok (.iload_n 2, 1) := dk_28 (dk_at dksX5_owes_0 23 rfl rfl)
theorem dX5_owes_24 : decode cX5_owes 24 = .ok (.invokevirtual 178, 3) := dk_182 0 178 (dk_at dksX5_owes_1 0 rfl rfl)
theorem dX5_owes_27 : decode cX5_owes 27 = .ok (.goto 4, 3) := dk_167 0 4 (dk_at dksX5_owes_1 3 rfl rfl)
theorem dX5_owes_30 : decode cX5_owes 30 = .ok (.iconst (-1), 1) := dk_2 (dk_at dksX5_owes_1 6 rfl rfl)
theorem dX5_owes_31 : decode cX5_owes 31 = .ok (.ireturn, 1) := dk_172 (dk_at dksX5_owes_1 7 rfl rfl)
noncomputable def f_X5_owes_30 (E : ax_E) (h : ax_H) : Option (Int × ax_H) :=
  some ((-1), h)
noncomputable def f_X5_owes (E : ax_E) (x0 : Option Nat) (x1 : Int) (x2 : Int) (h : ax_H) : Option (Int × ax_H) :=
  (ax_ce E h x0 5).bind fun _ => (f_X5_isPerson E x0 x1 h).bind fun q1 =>
  if i2 q1.1 = 0 then
    f_X5_owes_30 E q1.2
  else
    (ax_ce E q1.2 x0 5).bind fun _ => (f_X5_isPerson E x0 x2 q1.2).bind fun q2 =>
    if i2 q2.1 = 0 then
      f_X5_owes_30 E q2.2
    else
      if i2 x1 = i2 x2 then
        f_X5_owes_30 E q2.2
      else
        (ax_ce E q2.2 x0 5).bind fun _ => (f_X5_owed E x0 x1 x2 q2.2).bind fun q3 =>
        some (q3.1, q3.2)
set_option maxHeartbeats 4000000 in
theorem w_X5_owes_30 {l : Launch} {G : ax_G} {X : ax_X} {Q : State → Prop} {h0 h : ax_H} {ls : Array Slot} (hSF : ax_SF G) (B : ax_BL l G X cX5_owes 3 RX5 3 87) (Z : ax_Z X h0 ((some FieldType.int))) (hn : X.2.2.2.2.2.2.2.2.1.name = yX5_owes.name) {w : Int × ax_H} (hl : ax_hl ls 3 []) (e : f_X5_owes_30 G.2.2 h = some w) (hp : (fun w : Int × ax_H => Q = ax_Q G X h0 w.2 (some (.int (Int32.ofInt w.1)))) w) : ax_W G X Q h 30 ls [] := by
  unfold f_X5_owes_30 at e
  refine ax_iconst B dX5_owes_30 ?_
  have e8 := e
  have hp : Q = _ := hp
  subst hp
  exact ax_ireturn B Z dX5_owes_31 e8
set_option maxHeartbeats 4000000 in
theorem we_X5_owes {l : Launch} {G : ax_G} {X : ax_X} {Q : State → Prop} {h0 h : ax_H} {ls : Array Slot} (hSF : ax_SF G) (B : ax_BL l G X cX5_owes 3 RX5 3 87) (Z : ax_Z X h0 ((some FieldType.int))) (hn : X.2.2.2.2.2.2.2.2.1.name = yX5_owes.name) (x0 : Option Nat) (x1 : Int) (x2 : Int) {w : Int × ax_H} (hl : ax_hl ls 3 [(0, .inr (.inr x0)), (1, .inl x1), (2, .inl x2)]) (e : f_X5_owes G.2.2 x0 x1 x2 h = some w) (hp : (fun w : Int × ax_H => Q = ax_Q G X h0 w.2 (some (.int (Int32.ofInt w.1)))) w) : ax_W G X Q h 0 ls [] := by
  unfold f_X5_owes at e
  refine ax_aload_n B dX5_owes_0 rfl hl 0 rfl ?_
  refine ax_iload_n B dX5_owes_1 rfl hl 1 rfl ?_
  refine ax_ivI (y := yX5_isPerson) (n := 1) (As := [.int (Int32.ofInt x1)]) B kd5 (lw_V q2191 q2193 qs45 q133 q2194) (by decide +kernel) ⟨Nat.le_of_ble_eq_true rfl, Nat.le_of_ble_eq_true rfl⟩ (fun w1 e1 => mt_X5_isPerson l G hSF x0 x1 _ w1 e1) rfl hl.size (by decide) dX5_owes_2 e (fun q1 e => ?_)
  refine ax_if_eq (tgt := 30) B dX5_owes_5 (by decide) e (fun e => ?_) (fun e => ?_)
  · exact w_X5_owes_30 hSF B Z hn (hl.sub [] rfl) e hp
  · refine ax_aload_n B dX5_owes_8 rfl hl 0 rfl ?_
    refine ax_iload_n B dX5_owes_9 rfl hl 2 rfl ?_
    refine ax_ivI (y := yX5_isPerson) (n := 1) (As := [.int (Int32.ofInt x2)]) B kd5 (lw_V q2191 q2193 qs45 q133 q2194) (by decide +kernel) ⟨Nat.le_of_ble_eq_true rfl, Nat.le_of_ble_eq_true rfl⟩ (fun w1 e1 => mt_X5_isPerson l G hSF x0 x2 _ w1 e1) rfl hl.size (by decide) dX5_owes_10 e (fun q2 e => ?_)
    refine ax_if_eq (tgt := 30) B dX5_owes_13 (by decide) e (fun e => ?_) (fun e => ?_)
    · exact w_X5_owes_30 hSF B Z hn (hl.sub [] rfl) e hp
    · refine ax_iload_n B dX5_owes_16 rfl hl 1 rfl ?_
      refine ax_iload_n B dX5_owes_17 rfl hl 2 rfl ?_
      refine ax_icmp_eq (tgt := 30) B dX5_owes_18 (by decide) e (fun e => ?_) (fun e => ?_)
      · exact w_X5_owes_30 hSF B Z hn (hl.sub [] rfl) e hp
      · refine ax_aload_n B dX5_owes_21 rfl hl 0 rfl ?_
        refine ax_iload_n B dX5_owes_22 rfl hl 1 rfl ?_
        refine ax_iload_n B dX5_owes_23 rfl hl 2 rfl ?_
        refine ax_ivI (y := yX5_owed) (n := 2) (As := [.int (Int32.ofInt x1), .int (Int32.ofInt x2)]) B kd5 (lw_V q2234 q2236 qs52 q133 q2237) (by decide +kernel) ⟨Nat.le_of_ble_eq_true rfl, Nat.le_of_ble_eq_true rfl⟩ (fun w1 e1 => mt_X5_owed l G hSF x0 x1 x2 _ w1 e1) rfl hl.size (by decide) dX5_owes_24 e (fun q3 e => ?_)
        refine ax_goto (tgt := 31) B dX5_owes_27 (by decide) ?_
        have e8 := e
        have hp : Q = _ := hp
        subst hp
        exact ax_ireturn B Z dX5_owes_31 e8
theorem mt_X5_owes (l : Launch) (G : ax_G) (hSF : ax_SF G) (x0 : Option Nat) (x1 : Int) (x2 : Int) (h : ax_H) (w : Int × ax_H) (e : f_X5_owes G.2.2 x0 x1 x2 h = some w) : ax_Met l G yX5_owes cX5_owes 3 ((some FieldType.int)) 3 87 [va_rf x0, .int (Int32.ofInt x1), .int (Int32.ofInt x2)] h w.2 (some (.int (Int32.ofInt w.1))) :=
  ax_enter [.inr (.inr x0), .inl x1, .inl x2] (y := yX5_owes) hSF (plainFor_of_name (by decide +kernel)) (Nat.le_of_ble_eq_true rfl) (fun X ls B Z hn hl => we_X5_owes hSF B Z hn x0 x1 x2 hl e rfl)
def dkwX5_terms_2 : List UInt8 := [62, 42, 180, 0, 24, 29, 46, 54, 4, 42, 180, 0, 24, 29, 28, 79, 42, 21, 4, 182, 0, 130, 172]
abbrev dktX5_terms_2 : List UInt8 := dkwX5_terms_2 ++ []
def dkwX5_terms_1 : List UInt8 := [184, 0, 123, 154, 0, 9, 42, 2, 182, 0, 127, 172, 27, 154, 0, 8, 16, 72, 167, 0, 6, 17, 0, 151]
abbrev dktX5_terms_1 : List UInt8 := dkwX5_terms_1 ++ dktX5_terms_2
def dkwX5_terms_0 : List UInt8 := [27, 3, 4, 184, 0, 123, 153, 0, 23, 28, 3, 27, 154, 0, 9, 17, 3, 231, 167, 0, 5, 16, 9]
abbrev dktX5_terms_0 : List UInt8 := dkwX5_terms_0 ++ dktX5_terms_1
theorem dksX5_terms_0 : cX5_terms.data.toList.drop 0 = dktX5_terms_0 := by decide +kernel
theorem dksX5_terms_1 : cX5_terms.data.toList.drop 23 = dktX5_terms_1 := dk_seg dksX5_terms_0 23 rfl rfl
theorem dksX5_terms_2 : cX5_terms.data.toList.drop 47 = dktX5_terms_2 := dk_seg dksX5_terms_1 24 rfl rfl
theorem dX5_terms_0 : decode cX5_terms 0 = .ok (.iload_n 1, 1) := dk_27 (dk_at dksX5_terms_0 0 rfl rfl)
theorem dX5_terms_1 : decode cX5_terms 1 = .ok (.iconst 0, 1) := dk_3 (dk_at dksX5_terms_0 1 rfl rfl)
theorem dX5_terms_2 : decode cX5_terms 2 = .ok (.iconst 1, 1) := dk_4 (dk_at dksX5_terms_0 2 rfl rfl)
theorem dX5_terms_3 : decode cX5_terms 3 = .ok (.invokestatic 123, 3) := dk_184 0 123 (dk_at dksX5_terms_0 3 rfl rfl)
theorem dX5_terms_6 : decode cX5_terms 6 = .ok (.ifCond .eq 23, 3) := dk_153 0 23 (dk_at dksX5_terms_0 6 rfl rfl)
theorem dX5_terms_9 : decode cX5_terms 9 = .ok (.iload_n 2, 1) := dk_28 (dk_at dksX5_terms_0 9 rfl rfl)
theorem dX5_terms_10 : decode cX5_terms 10 = .ok (.iconst 0, 1) := dk_3 (dk_at dksX5_terms_0 10 rfl rfl)
theorem dX5_terms_11 : decode cX5_terms 11 = .ok (.iload_n 1, 1) := dk_27 (dk_at dksX5_terms_0 11 rfl rfl)
theorem dX5_terms_12 : decode cX5_terms 12 = .ok (.ifCond .ne 9, 3) := dk_154 0 9 (dk_at dksX5_terms_0 12 rfl rfl)
theorem dX5_terms_15 : decode cX5_terms 15 = .ok (.sipush 999, 3) := dk_17 3 231 (dk_at dksX5_terms_0 15 rfl rfl)
theorem dX5_terms_18 : decode cX5_terms 18 = .ok (.goto 5, 3) := dk_167 0 5 (dk_at dksX5_terms_0 18 rfl rfl)
theorem dX5_terms_21 : decode cX5_terms 21 = .ok (.bipush 9, 2) := dk_16 9 (dk_at dksX5_terms_0 21 rfl rfl)
theorem dX5_terms_23 : decode cX5_terms 23 = .ok (.invokestatic 123, 3) := dk_184 0 123 (dk_at dksX5_terms_1 0 rfl rfl)
theorem dX5_terms_26 : decode cX5_terms 26 = .ok (.ifCond .ne 9, 3) := dk_154 0 9 (dk_at dksX5_terms_1 3 rfl rfl)
theorem dX5_terms_29 : decode cX5_terms 29 = .ok (.aload_n 0, 1) := dk_42 (dk_at dksX5_terms_1 6 rfl rfl)
theorem dX5_terms_30 : decode cX5_terms 30 = .ok (.iconst (-1), 1) := dk_2 (dk_at dksX5_terms_1 7 rfl rfl)
theorem dX5_terms_31 : decode cX5_terms 31 = .ok (.invokevirtual 127, 3) := dk_182 0 127 (dk_at dksX5_terms_1 8 rfl rfl)
theorem dX5_terms_34 : decode cX5_terms 34 = .ok (.ireturn, 1) := dk_172 (dk_at dksX5_terms_1 11 rfl rfl)
theorem dX5_terms_35 : decode cX5_terms 35 = .ok (.iload_n 1, 1) := dk_27 (dk_at dksX5_terms_1 12 rfl rfl)
theorem dX5_terms_36 : decode cX5_terms 36 = .ok (.ifCond .ne 8, 3) := dk_154 0 8 (dk_at dksX5_terms_1 13 rfl rfl)
theorem dX5_terms_39 : decode cX5_terms 39 = .ok (.bipush 72, 2) := dk_16 72 (dk_at dksX5_terms_1 16 rfl rfl)
theorem dX5_terms_41 : decode cX5_terms 41 = .ok (.goto 6, 3) := dk_167 0 6 (dk_at dksX5_terms_1 18 rfl rfl)
theorem dX5_terms_44 : decode cX5_terms 44 = .ok (.sipush 151, 3) := dk_17 0 151 (dk_at dksX5_terms_1 21 rfl rfl)
theorem dX5_terms_47 : decode cX5_terms 47 = .ok (.istore_n 3, 1) := dk_62 (dk_at dksX5_terms_2 0 rfl rfl)
theorem dX5_terms_48 : decode cX5_terms 48 = .ok (.aload_n 0, 1) := dk_42 (dk_at dksX5_terms_2 1 rfl rfl)
theorem dX5_terms_49 : decode cX5_terms 49 = .ok (.getfield 24, 3) := dk_180 0 24 (dk_at dksX5_terms_2 2 rfl rfl)
theorem dX5_terms_52 : decode cX5_terms 52 = .ok (.iload_n 3, 1) := dk_29 (dk_at dksX5_terms_2 5 rfl rfl)
theorem dX5_terms_53 : decode cX5_terms 53 = .ok (.iaload, 1) := dk_46 (dk_at dksX5_terms_2 6 rfl rfl)
theorem dX5_terms_54 : decode cX5_terms 54 = .ok (.istore 4, 2) := dk_54 4 (dk_at dksX5_terms_2 7 rfl rfl)
theorem dX5_terms_56 : decode cX5_terms 56 = .ok (.aload_n 0, 1) := dk_42 (dk_at dksX5_terms_2 9 rfl rfl)
theorem dX5_terms_57 : decode cX5_terms 57 = .ok (.getfield 24, 3) := dk_180 0 24 (dk_at dksX5_terms_2 10 rfl rfl)
theorem dX5_terms_60 : decode cX5_terms 60 = .ok (.iload_n 3, 1) := dk_29 (dk_at dksX5_terms_2 13 rfl rfl)
theorem dX5_terms_61 : decode cX5_terms 61 = .ok (.iload_n 2, 1) := dk_28 (dk_at dksX5_terms_2 14 rfl rfl)
theorem dX5_terms_62 : decode cX5_terms 62 = .ok (.iastore, 1) := dk_79 (dk_at dksX5_terms_2 15 rfl rfl)
theorem dX5_terms_63 : decode cX5_terms 63 = .ok (.aload_n 0, 1) := dk_42 (dk_at dksX5_terms_2 16 rfl rfl)
theorem dX5_terms_64 : decode cX5_terms 64 = .ok (.iload 4, 2) := dk_21 4 (dk_at dksX5_terms_2 17 rfl rfl)
theorem dX5_terms_66 : decode cX5_terms 66 = .ok (.invokevirtual 130, 3) := dk_182 0 130 (dk_at dksX5_terms_2 19 rfl rfl)
theorem dX5_terms_69 : decode cX5_terms 69 = .ok (.ireturn, 1) := dk_172 (dk_at dksX5_terms_2 22 rfl rfl)
noncomputable def f_X5_terms_29 (E : ax_E) (x0 : Option Nat) (h : ax_H) : Option (Int × ax_H) :=
  (ax_ce E h x0 5).bind fun _ => (f_X5_refuses E x0 (-1) h).bind fun q1 =>
  some (q1.1, q1.2)
noncomputable def f_X5_terms_47 (E : ax_E) (x0 : Option Nat) (x2 : Int) (s0 : Int) (h : ax_H) : Option (Int × ax_H) :=
  (ax_gR E h x0 5 2).bind fun v1 =>
  (ax_ld E h v1 100 s0).bind fun v2 =>
  (ax_gR E h x0 5 2).bind fun v3 =>
  (ax_sto h v3 100 s0 x2).bind fun h4 =>
  (ax_ce E h4 x0 5).bind fun _ => (f_X5_settled E x0 v2 h4).bind fun q5 =>
  some (q5.1, q5.2)
noncomputable def f_X5_terms_23 (E : ax_E) (x0 : Option Nat) (x1 : Int) (x2 : Int) (s0 : Int) (s1 : Int) (s2 : Int) (h : ax_H) : Option (Int × ax_H) :=
  (f_X5_lies E s0 s1 s2 h).bind fun q1 =>
  if i2 q1.1 = 0 then
    f_X5_terms_29 E x0 q1.2
  else
    if i2 x1 = 0 then
      f_X5_terms_47 E x0 x2 72 q1.2
    else
      f_X5_terms_47 E x0 x2 151 q1.2
noncomputable def f_X5_terms (E : ax_E) (x0 : Option Nat) (x1 : Int) (x2 : Int) (h : ax_H) : Option (Int × ax_H) :=
  (f_X5_lies E x1 0 1 h).bind fun q1 =>
  if i2 q1.1 = 0 then
    f_X5_terms_29 E x0 q1.2
  else
    if i2 x1 = 0 then
      f_X5_terms_23 E x0 x1 x2 x2 0 999 q1.2
    else
      f_X5_terms_23 E x0 x1 x2 x2 0 9 q1.2
set_option maxHeartbeats 4000000 in
theorem w_X5_terms_29 {l : Launch} {G : ax_G} {X : ax_X} {Q : State → Prop} {h0 h : ax_H} {ls : Array Slot} (hSF : ax_SF G) (B : ax_BL l G X cX5_terms 5 RX5 3 82) (Z : ax_Z X h0 ((some FieldType.int))) (hn : X.2.2.2.2.2.2.2.2.1.name = yX5_terms.name) (x0 : Option Nat) {w : Int × ax_H} (hl : ax_hl ls 5 [(0, .inr (.inr x0))]) (e : f_X5_terms_29 G.2.2 x0 h = some w) (hp : (fun w : Int × ax_H => Q = ax_Q G X h0 w.2 (some (.int (Int32.ofInt w.1)))) w) : ax_W G X Q h 29 ls [] := by
  unfold f_X5_terms_29 at e
  refine ax_aload_n B dX5_terms_29 rfl hl 0 rfl ?_
  refine ax_iconst B dX5_terms_30 ?_
  refine ax_ivI (y := yX5_refuses) (n := 1) (As := [.int (Int32.ofInt (-1))]) B kd5 (lw_V q2154 q2156 qs41 q133 q2157) (by decide +kernel) ⟨Nat.le_of_ble_eq_true rfl, Nat.le_of_ble_eq_true rfl⟩ (fun w1 e1 => mt_X5_refuses l G hSF x0 (-1) _ w1 e1) rfl hl.size (by decide) dX5_terms_31 e (fun q1 e => ?_)
  have e8 := e
  have hp : Q = _ := hp
  subst hp
  exact ax_ireturn B Z dX5_terms_34 e8
set_option maxHeartbeats 4000000 in
theorem w_X5_terms_47 {l : Launch} {G : ax_G} {X : ax_X} {Q : State → Prop} {h0 h : ax_H} {ls : Array Slot} (hSF : ax_SF G) (B : ax_BL l G X cX5_terms 5 RX5 3 82) (Z : ax_Z X h0 ((some FieldType.int))) (hn : X.2.2.2.2.2.2.2.2.1.name = yX5_terms.name) (x0 : Option Nat) (x2 : Int) (s0 : Int) {w : Int × ax_H} (hl : ax_hl ls 5 [(0, .inr (.inr x0)), (2, .inl x2)]) (e : f_X5_terms_47 G.2.2 x0 x2 s0 h = some w) (hp : (fun w : Int × ax_H => Q = ax_Q G X h0 w.2 (some (.int (Int32.ofInt w.1)))) w) : ax_W G X Q h 47 ls [.int (Int32.ofInt s0)] := by
  unfold f_X5_terms_47 at e
  refine ax_istore_n (L' := [(3, .inl s0), (0, .inr (.inr x0)), (2, .inl x2)]) B dX5_terms_47 rfl hl (by decide) rfl (fun ls hl => ?_)
  refine ax_aload_n B dX5_terms_48 rfl hl 1 rfl ?_
  refine ax_getR B ff_X5_24_5 (fun _ _ => rfl) dX5_terms_49 e (fun v1 e => ?_)
  refine ax_iload_n B dX5_terms_52 rfl hl 0 rfl ?_
  refine ax_iald B kd100 dX5_terms_53 e (fun v2 e => ?_)
  refine ax_istore (L' := [(4, .inl v2), (3, .inl s0), (0, .inr (.inr x0)), (2, .inl x2)]) B dX5_terms_54 hl (by decide) rfl (fun ls hl => ?_)
  refine ax_aload_n B dX5_terms_56 rfl hl 2 rfl ?_
  refine ax_getR B ff_X5_24_5 (fun _ _ => rfl) dX5_terms_57 e (fun v3 e => ?_)
  refine ax_iload_n B dX5_terms_60 rfl hl 1 rfl ?_
  refine ax_iload_n B dX5_terms_61 rfl hl 3 rfl ?_
  refine ax_iast B kd100 dX5_terms_62 e (fun h4 e => ?_)
  refine ax_aload_n B dX5_terms_63 rfl hl 2 rfl ?_
  refine ax_iload B dX5_terms_64 hl 0 rfl ?_
  refine ax_ivI (y := yX5_settled) (n := 1) (As := [.int (Int32.ofInt v2)]) B kd5 (lw_V q2166 q2168 qs43 q133 q2169) (by decide +kernel) ⟨Nat.le_of_ble_eq_true rfl, Nat.le_of_ble_eq_true rfl⟩ (fun w1 e1 => mt_X5_settled l G hSF x0 v2 _ w1 e1) rfl hl.size (by decide) dX5_terms_66 e (fun q5 e => ?_)
  have e8 := e
  have hp : Q = _ := hp
  subst hp
  exact ax_ireturn B Z dX5_terms_69 e8
set_option maxHeartbeats 4000000 in
theorem w_X5_terms_23 {l : Launch} {G : ax_G} {X : ax_X} {Q : State → Prop} {h0 h : ax_H} {ls : Array Slot} (hSF : ax_SF G) (B : ax_BL l G X cX5_terms 5 RX5 3 82) (Z : ax_Z X h0 ((some FieldType.int))) (hn : X.2.2.2.2.2.2.2.2.1.name = yX5_terms.name) (x0 : Option Nat) (x1 : Int) (x2 : Int) (s0 : Int) (s1 : Int) (s2 : Int) {w : Int × ax_H} (hl : ax_hl ls 5 [(0, .inr (.inr x0)), (1, .inl x1), (2, .inl x2)]) (e : f_X5_terms_23 G.2.2 x0 x1 x2 s0 s1 s2 h = some w) (hp : (fun w : Int × ax_H => Q = ax_Q G X h0 w.2 (some (.int (Int32.ofInt w.1)))) w) : ax_W G X Q h 23 ls [.int (Int32.ofInt s2), .int (Int32.ofInt s1), .int (Int32.ofInt s0)] := by
  unfold f_X5_terms_23 at e
  refine ax_isI (y := yX5_lies) (n := 3) (As := [.int (Int32.ofInt s0), .int (Int32.ofInt s1), .int (Int32.ofInt s2)]) B (lw_S q2151 q2152 q133 q2153) (by decide +kernel) ⟨Nat.le_of_ble_eq_true rfl, Nat.le_of_ble_eq_true rfl⟩ (fun w1 e1 => mt_X5_lies l G hSF s0 s1 s2 _ w1 e1) rfl hl.size (by decide) dX5_terms_23 e (fun q1 e => ?_)
  refine ax_if_ne (tgt := 35) B dX5_terms_26 (by decide) e (fun e => ?_) (fun e => ?_)
  · exact w_X5_terms_29 hSF B Z hn x0 (hl.sub [0] rfl) e hp
  · refine ax_iload_n B dX5_terms_35 rfl hl 1 rfl ?_
    refine ax_if_ne (tgt := 44) B dX5_terms_36 (by decide) e (fun e => ?_) (fun e => ?_)
    · refine ax_bipush B dX5_terms_39 (by decide) ?_
      refine ax_goto (tgt := 47) B dX5_terms_41 (by decide) ?_
      exact w_X5_terms_47 hSF B Z hn x0 x2 72 (hl.sub [0, 2] rfl) e hp
    · refine ax_sipush B dX5_terms_44 (by decide) ?_
      exact w_X5_terms_47 hSF B Z hn x0 x2 151 (hl.sub [0, 2] rfl) e hp
set_option maxHeartbeats 4000000 in
theorem we_X5_terms {l : Launch} {G : ax_G} {X : ax_X} {Q : State → Prop} {h0 h : ax_H} {ls : Array Slot} (hSF : ax_SF G) (B : ax_BL l G X cX5_terms 5 RX5 3 82) (Z : ax_Z X h0 ((some FieldType.int))) (hn : X.2.2.2.2.2.2.2.2.1.name = yX5_terms.name) (x0 : Option Nat) (x1 : Int) (x2 : Int) {w : Int × ax_H} (hl : ax_hl ls 5 [(0, .inr (.inr x0)), (1, .inl x1), (2, .inl x2)]) (e : f_X5_terms G.2.2 x0 x1 x2 h = some w) (hp : (fun w : Int × ax_H => Q = ax_Q G X h0 w.2 (some (.int (Int32.ofInt w.1)))) w) : ax_W G X Q h 0 ls [] := by
  unfold f_X5_terms at e
  refine ax_iload_n B dX5_terms_0 rfl hl 1 rfl ?_
  refine ax_iconst B dX5_terms_1 ?_
  refine ax_iconst B dX5_terms_2 ?_
  refine ax_isI (y := yX5_lies) (n := 3) (As := [.int (Int32.ofInt x1), .int (Int32.ofInt 0), .int (Int32.ofInt 1)]) B (lw_S q2151 q2152 q133 q2153) (by decide +kernel) ⟨Nat.le_of_ble_eq_true rfl, Nat.le_of_ble_eq_true rfl⟩ (fun w1 e1 => mt_X5_lies l G hSF x1 0 1 _ w1 e1) rfl hl.size (by decide) dX5_terms_3 e (fun q1 e => ?_)
  refine ax_if_eq (tgt := 29) B dX5_terms_6 (by decide) e (fun e => ?_) (fun e => ?_)
  · exact w_X5_terms_29 hSF B Z hn x0 (hl.sub [0] rfl) e hp
  · refine ax_iload_n B dX5_terms_9 rfl hl 2 rfl ?_
    refine ax_iconst B dX5_terms_10 ?_
    refine ax_iload_n B dX5_terms_11 rfl hl 1 rfl ?_
    refine ax_if_ne (tgt := 21) B dX5_terms_12 (by decide) e (fun e => ?_) (fun e => ?_)
    · refine ax_sipush B dX5_terms_15 (by decide) ?_
      refine ax_goto (tgt := 23) B dX5_terms_18 (by decide) ?_
      exact w_X5_terms_23 hSF B Z hn x0 x1 x2 x2 0 999 (hl.sub [0, 1, 2] rfl) e hp
    · refine ax_bipush B dX5_terms_21 (by decide) ?_
      exact w_X5_terms_23 hSF B Z hn x0 x1 x2 x2 0 9 (hl.sub [0, 1, 2] rfl) e hp
theorem mt_X5_terms (l : Launch) (G : ax_G) (hSF : ax_SF G) (x0 : Option Nat) (x1 : Int) (x2 : Int) (h : ax_H) (w : Int × ax_H) (e : f_X5_terms G.2.2 x0 x1 x2 h = some w) : ax_Met l G yX5_terms cX5_terms 5 ((some FieldType.int)) 3 82 [va_rf x0, .int (Int32.ofInt x1), .int (Int32.ofInt x2)] h w.2 (some (.int (Int32.ofInt w.1))) :=
  ax_enter [.inr (.inr x0), .inl x1, .inl x2] (y := yX5_terms) hSF (plainFor_of_name (by decide +kernel)) (Nat.le_of_ble_eq_true rfl) (fun X ls B Z hn hl => we_X5_terms hSF B Z hn x0 x1 x2 hl e rfl)
def dkwX5_row_7 : List UInt8 := [132, 3, 4, 167, 255, 128, 42, 28, 182, 0, 130, 172]
abbrev dktX5_row_7 : List UInt8 := dkwX5_row_7 ++ []
def dkwX5_row_6 : List UInt8 := [3, 96, 61, 42, 89, 180, 0, 184, 21, 5, 153, 0, 7, 3, 167, 0, 4, 4, 96, 181, 0, 184]
abbrev dktX5_row_6 : List UInt8 := dkwX5_row_6 ++ dktX5_row_7
def dkwX5_row_5 : List UInt8 := [51, 42, 180, 0, 41, 29, 4, 96, 51, 21, 4, 182, 0, 162, 28, 21, 5, 153, 0, 7, 4, 167, 0, 4]
abbrev dktX5_row_5 : List UInt8 := dkwX5_row_5 ++ dktX5_row_6
def dkwX5_row_4 : List UInt8 := [182, 0, 158, 154, 0, 7, 4, 167, 0, 4, 3, 54, 5, 21, 5, 153, 0, 23, 42, 42, 180, 0, 41, 29]
abbrev dktX5_row_4 : List UInt8 := dkwX5_row_4 ++ dktX5_row_5
def dkwX5_row_3 : List UInt8 := [17, 0, 255, 126, 96, 54, 4, 42, 42, 180, 0, 41, 29, 51, 42, 180, 0, 41, 29, 4, 96, 51, 21, 4]
abbrev dktX5_row_3 : List UInt8 := dkwX5_row_3 ++ dktX5_row_4
def dkwX5_row_2 : List UInt8 := [180, 0, 41, 29, 5, 96, 51, 17, 0, 255, 126, 17, 1, 0, 104, 42, 180, 0, 41, 29, 6, 96, 51]
abbrev dktX5_row_2 : List UInt8 := dkwX5_row_2 ++ dktX5_row_3
def dkwX5_row_1 : List UInt8 := [27, 7, 112, 154, 0, 7, 3, 167, 0, 4, 4, 181, 0, 184, 3, 62, 29, 7, 96, 27, 163, 0, 127, 42]
abbrev dktX5_row_1 : List UInt8 := dkwX5_row_1 ++ dktX5_row_2
def dkwX5_row_0 : List UInt8 := [42, 180, 0, 181, 60, 42, 3, 181, 0, 181, 27, 154, 0, 10, 42, 16, 250, 182, 0, 127, 172, 3, 61, 42]
abbrev dktX5_row_0 : List UInt8 := dkwX5_row_0 ++ dktX5_row_1
theorem dksX5_row_0 : cX5_row.data.toList.drop 0 = dktX5_row_0 := by decide +kernel
theorem dksX5_row_1 : cX5_row.data.toList.drop 24 = dktX5_row_1 := dk_seg dksX5_row_0 24 rfl rfl
theorem dksX5_row_2 : cX5_row.data.toList.drop 48 = dktX5_row_2 := dk_seg dksX5_row_1 24 rfl rfl
theorem dksX5_row_3 : cX5_row.data.toList.drop 71 = dktX5_row_3 := dk_seg dksX5_row_2 23 rfl rfl
theorem dksX5_row_4 : cX5_row.data.toList.drop 95 = dktX5_row_4 := dk_seg dksX5_row_3 24 rfl rfl
theorem dksX5_row_5 : cX5_row.data.toList.drop 119 = dktX5_row_5 := dk_seg dksX5_row_4 24 rfl rfl
theorem dksX5_row_6 : cX5_row.data.toList.drop 143 = dktX5_row_6 := dk_seg dksX5_row_5 24 rfl rfl
theorem dksX5_row_7 : cX5_row.data.toList.drop 165 = dktX5_row_7 := dk_seg dksX5_row_6 22 rfl rfl
theorem dX5_row_0 : decode cX5_row 0 = .ok (.aload_n 0, 1) := dk_42 (dk_at dksX5_row_0 0 rfl rfl)
theorem dX5_row_1 : decode cX5_row 1 = .ok (.getfield 181, 3) := dk_180 0 181 (dk_at dksX5_row_0 1 rfl rfl)
theorem dX5_row_4 : decode cX5_row 4 = .ok (.istore_n 1, 1) := dk_60 (dk_at dksX5_row_0 4 rfl rfl)
theorem dX5_row_5 : decode cX5_row 5 = .ok (.aload_n 0, 1) := dk_42 (dk_at dksX5_row_0 5 rfl rfl)
theorem dX5_row_6 : decode cX5_row 6 = .ok (.iconst 0, 1) := dk_3 (dk_at dksX5_row_0 6 rfl rfl)
theorem dX5_row_7 : decode cX5_row 7 = .ok (.putfield 181, 3) := dk_181 0 181 (dk_at dksX5_row_0 7 rfl rfl)
theorem dX5_row_10 : decode cX5_row 10 = .ok (.iload_n 1, 1) := dk_27 (dk_at dksX5_row_0 10 rfl rfl)
theorem dX5_row_11 : decode cX5_row 11 = .ok (.ifCond .ne 10, 3) := dk_154 0 10 (dk_at dksX5_row_0 11 rfl rfl)
theorem dX5_row_14 : decode cX5_row 14 = .ok (.aload_n 0, 1) := dk_42 (dk_at dksX5_row_0 14 rfl rfl)
theorem dX5_row_15 : decode cX5_row 15 = .ok (.bipush (-6), 2) := dk_16 250 (dk_at dksX5_row_0 15 rfl rfl)
theorem dX5_row_17 : decode cX5_row 17 = .ok (.invokevirtual 127, 3) := dk_182 0 127 (dk_at dksX5_row_0 17 rfl rfl)
theorem dX5_row_20 : decode cX5_row 20 = .ok (.ireturn, 1) := dk_172 (dk_at dksX5_row_0 20 rfl rfl)
theorem dX5_row_21 : decode cX5_row 21 = .ok (.iconst 0, 1) := dk_3 (dk_at dksX5_row_0 21 rfl rfl)
theorem dX5_row_22 : decode cX5_row 22 = .ok (.istore_n 2, 1) := dk_61 (dk_at dksX5_row_0 22 rfl rfl)
theorem dX5_row_23 : decode cX5_row 23 = .ok (.aload_n 0, 1) := dk_42 (dk_at dksX5_row_0 23 rfl rfl)
theorem dX5_row_24 : decode cX5_row 24 = .ok (.iload_n 1, 1) := dk_27 (dk_at dksX5_row_1 0 rfl rfl)
theorem dX5_row_25 : decode cX5_row 25 = .ok (.iconst 4, 1) := dk_7 (dk_at dksX5_row_1 1 rfl rfl)
theorem dX5_row_26 : decode cX5_row 26 = .ok (.irem, 1) := dk_112 (dk_at dksX5_row_1 2 rfl rfl)
theorem dX5_row_27 : decode cX5_row 27 = .ok (.ifCond .ne 7, 3) := dk_154 0 7 (dk_at dksX5_row_1 3 rfl rfl)
theorem dX5_row_30 : decode cX5_row 30 = .ok (.iconst 0, 1) := dk_3 (dk_at dksX5_row_1 6 rfl rfl)
theorem dX5_row_31 : decode cX5_row 31 = .ok (.goto 4, 3) := dk_167 0 4 (dk_at dksX5_row_1 7 rfl rfl)
theorem dX5_row_34 : decode cX5_row 34 = .ok (.iconst 1, 1) := dk_4 (dk_at dksX5_row_1 10 rfl rfl)
theorem dX5_row_35 : decode cX5_row 35 = .ok (.putfield 184, 3) := dk_181 0 184 (dk_at dksX5_row_1 11 rfl rfl)
theorem dX5_row_38 : decode cX5_row 38 = .ok (.iconst 0, 1) := dk_3 (dk_at dksX5_row_1 14 rfl rfl)
theorem dX5_row_39 : decode cX5_row 39 = .ok (.istore_n 3, 1) := dk_62 (dk_at dksX5_row_1 15 rfl rfl)
theorem dX5_row_40 : decode cX5_row 40 = .ok (.iload_n 3, 1) := dk_29 (dk_at dksX5_row_1 16 rfl rfl)
theorem dX5_row_41 : decode cX5_row 41 = .ok (.iconst 4, 1) := dk_7 (dk_at dksX5_row_1 17 rfl rfl)
theorem dX5_row_42 : decode cX5_row 42 = .ok (.iadd, 1) := dk_96 (dk_at dksX5_row_1 18 rfl rfl)
theorem dX5_row_43 : decode cX5_row 43 = .ok (.iload_n 1, 1) := dk_27 (dk_at dksX5_row_1 19 rfl rfl)
theorem dX5_row_44 : decode cX5_row 44 = .ok (.if_icmp .gt 127, 3) := dk_163 0 127 (dk_at dksX5_row_1 20 rfl rfl)
theorem dX5_row_47 : decode cX5_row 47 = .ok (.aload_n 0, 1) := dk_42 (dk_at dksX5_row_1 23 rfl rfl)
theorem dX5_row_48 : decode cX5_row 48 = .ok (.getfield 41, 3) := dk_180 0 41 (dk_at dksX5_row_2 0 rfl rfl)
theorem dX5_row_51 : decode cX5_row 51 = .ok (.iload_n 3, 1) := dk_29 (dk_at dksX5_row_2 3 rfl rfl)
theorem dX5_row_52 : decode cX5_row 52 = .ok (.iconst 2, 1) := dk_5 (dk_at dksX5_row_2 4 rfl rfl)
theorem dX5_row_53 : decode cX5_row 53 = .ok (.iadd, 1) := dk_96 (dk_at dksX5_row_2 5 rfl rfl)
theorem dX5_row_54 : decode cX5_row 54 = .ok (.baload, 1) := dk_51 (dk_at dksX5_row_2 6 rfl rfl)
theorem dX5_row_55 : decode cX5_row 55 = .ok (.sipush 255, 3) := dk_17 0 255 (dk_at dksX5_row_2 7 rfl rfl)
theorem dX5_row_58 : decode cX5_row 58 = .ok (.iand, 1) := dk_126 (dk_at dksX5_row_2 10 rfl rfl)
theorem dX5_row_59 : decode cX5_row 59 = .ok (.sipush 256, 3) := dk_17 1 0 (dk_at dksX5_row_2 11 rfl rfl)
theorem dX5_row_62 : decode cX5_row 62 = .ok (.imul, 1) := dk_104 (dk_at dksX5_row_2 14 rfl rfl)
theorem dX5_row_63 : decode cX5_row 63 = .ok (.aload_n 0, 1) := dk_42 (dk_at dksX5_row_2 15 rfl rfl)
theorem dX5_row_64 : decode cX5_row 64 = .ok (.getfield 41, 3) := dk_180 0 41 (dk_at dksX5_row_2 16 rfl rfl)
theorem dX5_row_67 : decode cX5_row 67 = .ok (.iload_n 3, 1) := dk_29 (dk_at dksX5_row_2 19 rfl rfl)
theorem dX5_row_68 : decode cX5_row 68 = .ok (.iconst 3, 1) := dk_6 (dk_at dksX5_row_2 20 rfl rfl)
theorem dX5_row_69 : decode cX5_row 69 = .ok (.iadd, 1) := dk_96 (dk_at dksX5_row_2 21 rfl rfl)
theorem dX5_row_70 : decode cX5_row 70 = .ok (.baload, 1) := dk_51 (dk_at dksX5_row_2 22 rfl rfl)
theorem dX5_row_71 : decode cX5_row 71 = .ok (.sipush 255, 3) := dk_17 0 255 (dk_at dksX5_row_3 0 rfl rfl)
theorem dX5_row_74 : decode cX5_row 74 = .ok (.iand, 1) := dk_126 (dk_at dksX5_row_3 3 rfl rfl)
theorem dX5_row_75 : decode cX5_row 75 = .ok (.iadd, 1) := dk_96 (dk_at dksX5_row_3 4 rfl rfl)
theorem dX5_row_76 : decode cX5_row 76 = .ok (.istore 4, 2) := dk_54 4 (dk_at dksX5_row_3 5 rfl rfl)
theorem dX5_row_78 : decode cX5_row 78 = .ok (.aload_n 0, 1) := dk_42 (dk_at dksX5_row_3 7 rfl rfl)
theorem dX5_row_79 : decode cX5_row 79 = .ok (.aload_n 0, 1) := dk_42 (dk_at dksX5_row_3 8 rfl rfl)
theorem dX5_row_80 : decode cX5_row 80 = .ok (.getfield 41, 3) := dk_180 0 41 (dk_at dksX5_row_3 9 rfl rfl)
theorem dX5_row_83 : decode cX5_row 83 = .ok (.iload_n 3, 1) := dk_29 (dk_at dksX5_row_3 12 rfl rfl)
theorem dX5_row_84 : decode cX5_row 84 = .ok (.baload, 1) := dk_51 (dk_at dksX5_row_3 13 rfl rfl)
theorem dX5_row_85 : decode cX5_row 85 = .ok (.aload_n 0, 1) := dk_42 (dk_at dksX5_row_3 14 rfl rfl)
theorem dX5_row_86 : decode cX5_row 86 = .ok (.getfield 41, 3) := dk_180 0 41 (dk_at dksX5_row_3 15 rfl rfl)
theorem dX5_row_89 : decode cX5_row 89 = .ok (.iload_n 3, 1) := dk_29 (dk_at dksX5_row_3 18 rfl rfl)
theorem dX5_row_90 : decode cX5_row 90 = .ok (.iconst 1, 1) := dk_4 (dk_at dksX5_row_3 19 rfl rfl)
theorem dX5_row_91 : decode cX5_row 91 = .ok (.iadd, 1) := dk_96 (dk_at dksX5_row_3 20 rfl rfl)
theorem dX5_row_92 : decode cX5_row 92 = .ok (.baload, 1) := dk_51 (dk_at dksX5_row_3 21 rfl rfl)
theorem dX5_row_93 : decode cX5_row 93 = .ok (.iload 4, 2) := dk_21 4 (dk_at dksX5_row_3 22 rfl rfl)
theorem dX5_row_95 : decode cX5_row 95 = .ok (.invokevirtual 158, 3) := dk_182 0 158 (dk_at dksX5_row_4 0 rfl rfl)
theorem dX5_row_98 : decode cX5_row 98 = .ok (.ifCond .ne 7, 3) := dk_154 0 7 (dk_at dksX5_row_4 3 rfl rfl)
theorem dX5_row_101 : decode cX5_row 101 = .ok (.iconst 1, 1) := dk_4 (dk_at dksX5_row_4 6 rfl rfl)
theorem dX5_row_102 : decode cX5_row 102 = .ok (.goto 4, 3) := dk_167 0 4 (dk_at dksX5_row_4 7 rfl rfl)
theorem dX5_row_105 : decode cX5_row 105 = .ok (.iconst 0, 1) := dk_3 (dk_at dksX5_row_4 10 rfl rfl)
theorem dX5_row_106 : decode cX5_row 106 = .ok (.istore 5, 2) := dk_54 5 (dk_at dksX5_row_4 11 rfl rfl)
theorem dX5_row_108 : decode cX5_row 108 = .ok (.iload 5, 2) := dk_21 5 (dk_at dksX5_row_4 13 rfl rfl)
theorem dX5_row_110 : decode cX5_row 110 = .ok (.ifCond .eq 23, 3) := dk_153 0 23 (dk_at dksX5_row_4 15 rfl rfl)
theorem dX5_row_113 : decode cX5_row 113 = .ok (.aload_n 0, 1) := dk_42 (dk_at dksX5_row_4 18 rfl rfl)
theorem dX5_row_114 : decode cX5_row 114 = .ok (.aload_n 0, 1) := dk_42 (dk_at dksX5_row_4 19 rfl rfl)
theorem dX5_row_115 : decode cX5_row 115 = .ok (.getfield 41, 3) := dk_180 0 41 (dk_at dksX5_row_4 20 rfl rfl)
theorem dX5_row_118 : decode cX5_row 118 = .ok (.iload_n 3, 1) := dk_29 (dk_at dksX5_row_4 23 rfl rfl)
theorem dX5_row_119 : decode cX5_row 119 = .ok (.baload, 1) := dk_51 (dk_at dksX5_row_5 0 rfl rfl)
theorem dX5_row_120 : decode cX5_row 120 = .ok (.aload_n 0, 1) := dk_42 (dk_at dksX5_row_5 1 rfl rfl)
theorem dX5_row_121 : decode cX5_row 121 = .ok (.getfield 41, 3) := dk_180 0 41 (dk_at dksX5_row_5 2 rfl rfl)
theorem dX5_row_124 : decode cX5_row 124 = .ok (.iload_n 3, 1) := dk_29 (dk_at dksX5_row_5 5 rfl rfl)
theorem dX5_row_125 : decode cX5_row 125 = .ok (.iconst 1, 1) := dk_4 (dk_at dksX5_row_5 6 rfl rfl)
theorem dX5_row_126 : decode cX5_row 126 = .ok (.iadd, 1) := dk_96 (dk_at dksX5_row_5 7 rfl rfl)
theorem dX5_row_127 : decode cX5_row 127 = .ok (.baload, 1) := dk_51 (dk_at dksX5_row_5 8 rfl rfl)
theorem dX5_row_128 : decode cX5_row 128 = .ok (.iload 4, 2) := dk_21 4 (dk_at dksX5_row_5 9 rfl rfl)
theorem dX5_row_130 : decode cX5_row 130 = .ok (.invokevirtual 162, 3) := dk_182 0 162 (dk_at dksX5_row_5 11 rfl rfl)
theorem dX5_row_133 : decode cX5_row 133 = .ok (.iload_n 2, 1) := dk_28 (dk_at dksX5_row_5 14 rfl rfl)
theorem dX5_row_134 : decode cX5_row 134 = .ok (.iload 5, 2) := dk_21 5 (dk_at dksX5_row_5 15 rfl rfl)
theorem dX5_row_136 : decode cX5_row 136 = .ok (.ifCond .eq 7, 3) := dk_153 0 7 (dk_at dksX5_row_5 17 rfl rfl)
theorem dX5_row_139 : decode cX5_row 139 = .ok (.iconst 1, 1) := dk_4 (dk_at dksX5_row_5 20 rfl rfl)
theorem dX5_row_140 : decode cX5_row 140 = .ok (.goto 4, 3) := dk_167 0 4 (dk_at dksX5_row_5 21 rfl rfl)
theorem dX5_row_143 : decode cX5_row 143 = .ok (.iconst 0, 1) := dk_3 (dk_at dksX5_row_6 0 rfl rfl)
theorem dX5_row_144 : decode cX5_row 144 = .ok (.iadd, 1) := dk_96 (dk_at dksX5_row_6 1 rfl rfl)
theorem dX5_row_145 : decode cX5_row 145 = .ok (.istore_n 2, 1) := dk_61 (dk_at dksX5_row_6 2 rfl rfl)
theorem dX5_row_146 : decode cX5_row 146 = .ok (.aload_n 0, 1) := dk_42 (dk_at dksX5_row_6 3 rfl rfl)
theorem dX5_row_147 : decode cX5_row 147 = .ok (.dup, 1) := dk_89 (dk_at dksX5_row_6 4 rfl rfl)
theorem dX5_row_148 : decode cX5_row 148 = .ok (.getfield 184, 3) := dk_180 0 184 (dk_at dksX5_row_6 5 rfl rfl)
theorem dX5_row_151 : decode cX5_row 151 = .ok (.iload 5, 2) := dk_21 5 (dk_at dksX5_row_6 8 rfl rfl)
theorem dX5_row_153 : decode cX5_row 153 = .ok (.ifCond .eq 7, 3) := dk_153 0 7 (dk_at dksX5_row_6 10 rfl rfl)
theorem dX5_row_156 : decode cX5_row 156 = .ok (.iconst 0, 1) := dk_3 (dk_at dksX5_row_6 13 rfl rfl)
theorem dX5_row_157 : decode cX5_row 157 = .ok (.goto 4, 3) := dk_167 0 4 (dk_at dksX5_row_6 14 rfl rfl)
theorem dX5_row_160 : decode cX5_row 160 = .ok (.iconst 1, 1) := dk_4 (dk_at dksX5_row_6 17 rfl rfl)
theorem dX5_row_161 : decode cX5_row 161 = .ok (.iadd, 1) := dk_96 (dk_at dksX5_row_6 18 rfl rfl)
theorem dX5_row_162 : decode cX5_row 162 = .ok (.putfield 184, 3) := dk_181 0 184 (dk_at dksX5_row_6 19 rfl rfl)
theorem dX5_row_165 : decode cX5_row 165 = .ok (.iinc 3 4, 3) := dk_132 3 4 (dk_at dksX5_row_7 0 rfl rfl)
theorem dX5_row_168 : decode cX5_row 168 = .ok (.goto (-128), 3) := dk_167 255 128 (dk_at dksX5_row_7 3 rfl rfl)
theorem dX5_row_171 : decode cX5_row 171 = .ok (.aload_n 0, 1) := dk_42 (dk_at dksX5_row_7 6 rfl rfl)
theorem dX5_row_172 : decode cX5_row 172 = .ok (.iload_n 2, 1) := dk_28 (dk_at dksX5_row_7 7 rfl rfl)
theorem dX5_row_173 : decode cX5_row 173 = .ok (.invokevirtual 130, 3) := dk_182 0 130 (dk_at dksX5_row_7 8 rfl rfl)
theorem dX5_row_176 : decode cX5_row 176 = .ok (.ireturn, 1) := dk_172 (dk_at dksX5_row_7 11 rfl rfl)
theorem ff_X5_184_5 : ax_FF RX5 184 5 6 (tyX5 6) 0 false := ⟨RX5, TX5, 61, tyX5, "DebtDoorsModel", kd5, in_X5, tyX5_ok, apX5, by decide, rfl, ⟨fun _ => rfl, fun h => absurd h (by decide)⟩, q1968, Or.inl rfl, fun h => absurd h (by decide)⟩
theorem ff_X5_181_5 : ax_FF RX5 181 5 11 (tyX5 11) 0 false := ⟨RX5, TX5, 61, tyX5, "DebtDoorsModel", kd5, in_X5, tyX5_ok, apX5, by decide, rfl, ⟨fun _ => rfl, fun h => absurd h (by decide)⟩, q1973, Or.inl rfl, fun h => absurd h (by decide)⟩
noncomputable def f_X5_row_161 (E : ax_E) (x0 : Option Nat) (x1 : Int) (x2 : Int) (x3 : Int) (s0 : Option Nat) (s1 : Int) (s2 : Int) (h : ax_H) : Option ((Int × Int × ax_H) ⊕ (Int × ax_H)) :=
  (ax_pI h s0 5 6 (s1 + s2)).bind fun h1 =>
  some (.inl (x2, (x3 + 4), h1))
noncomputable def f_X5_row_144 (E : ax_E) (x0 : Option Nat) (x1 : Int) (x3 : Int) (x5 : Int) (s0 : Int) (s1 : Int) (h : ax_H) : Option ((Int × Int × ax_H) ⊕ (Int × ax_H)) :=
  (ax_gI E h x0 5 6).bind fun v1 =>
  if i2 x5 = 0 then
    f_X5_row_161 E x0 x1 (s0 + s1) x3 x0 v1 1 h
  else
    f_X5_row_161 E x0 x1 (s0 + s1) x3 x0 v1 0 h
noncomputable def f_X5_row_133 (E : ax_E) (x0 : Option Nat) (x1 : Int) (x2 : Int) (x3 : Int) (x5 : Int) (h : ax_H) : Option ((Int × Int × ax_H) ⊕ (Int × ax_H)) :=
  if i2 x5 = 0 then
    f_X5_row_144 E x0 x1 x3 x5 x2 0 h
  else
    f_X5_row_144 E x0 x1 x3 x5 x2 1 h
noncomputable def f_X5_row_106 (E : ax_E) (x0 : Option Nat) (x1 : Int) (x2 : Int) (x3 : Int) (x4 : Int) (s0 : Int) (h : ax_H) : Option ((Int × Int × ax_H) ⊕ (Int × ax_H)) :=
  if i2 s0 = 0 then
    f_X5_row_133 E x0 x1 x2 x3 s0 h
  else
    (ax_gR E h x0 5 9).bind fun v1 =>
    (ax_ld E h v1 101 x3).bind fun v2 =>
    (ax_gR E h x0 5 9).bind fun v3 =>
    (ax_ld E h v3 101 (x3 + 1)).bind fun v4 =>
    (ax_ce E h x0 5).bind fun _ => (f_X5_adds E x0 v2 v4 x4 h).bind fun h5 =>
    f_X5_row_133 E x0 x1 x2 x3 s0 h5
noncomputable def lb_X5_row_40 (E : ax_E) (x0 : Option Nat) (x1 : Int) (x2 : Int) (x3 : Int) (h : ax_H) : Option ((Int × Int × ax_H) ⊕ (Int × ax_H)) :=
  if i2 x1 < i2 (x3 + 4) then
    ((ax_ce E h x0 5).bind fun _ => (f_X5_settled E x0 x2 h).bind fun q1 =>
    some (q1.1, q1.2)).map Sum.inr
  else
    (ax_gR E h x0 5 9).bind fun v2 =>
    (ax_ld E h v2 101 (x3 + 2)).bind fun v3 =>
    (ax_gR E h x0 5 9).bind fun v4 =>
    (ax_ld E h v4 101 (x3 + 3)).bind fun v5 =>
    (ax_gR E h x0 5 9).bind fun v6 =>
    (ax_ld E h v6 101 x3).bind fun v7 =>
    (ax_gR E h x0 5 9).bind fun v8 =>
    (ax_ld E h v8 101 (x3 + 1)).bind fun v9 =>
    (ax_ce E h x0 5).bind fun _ => (f_X5_whyNot E x0 v7 v9 (((ax_and v3 255) * 256) + (ax_and v5 255)) h).bind fun q10 =>
    if i2 q10.1 = 0 then
      f_X5_row_106 E x0 x1 x2 x3 (((ax_and v3 255) * 256) + (ax_and v5 255)) 1 q10.2
    else
      f_X5_row_106 E x0 x1 x2 x3 (((ax_and v3 255) * 256) + (ax_and v5 255)) 0 q10.2
noncomputable def f_X5_row_40 (E : ax_E) (x0 : Option Nat) (x1 : Int) (x2 : Int) (x3 : Int) (h : ax_H) : Option (Int × ax_H) :=
  ax_iter (fun s : Int × Int × ax_H => lb_X5_row_40 E x0 x1 s.1 s.2.1 s.2.2) (x2, x3, h)
noncomputable def f_X5_row_35 (E : ax_E) (x0 : Option Nat) (x1 : Int) (x2 : Int) (s0 : Option Nat) (s1 : Int) (h : ax_H) : Option (Int × ax_H) :=
  (ax_pI h s0 5 6 s1).bind fun h1 =>
  f_X5_row_40 E x0 x1 x2 0 h1
noncomputable def f_X5_row (E : ax_E) (x0 : Option Nat) (h : ax_H) : Option (Int × ax_H) :=
  (ax_gI E h x0 5 11).bind fun v1 =>
  (ax_pI h x0 5 11 0).bind fun h2 =>
  if i2 v1 = 0 then
    (ax_ce E h2 x0 5).bind fun _ => (f_X5_refuses E x0 (-6) h2).bind fun q3 =>
    some (q3.1, q3.2)
  else
    if i2 4 = 0 then none else
    if i2 ((i2 v1).tmod (i2 4)) = 0 then
      f_X5_row_35 E x0 v1 0 x0 0 h2
    else
      f_X5_row_35 E x0 v1 0 x0 1 h2
def pi_X5_row_40 (G : ax_G) (X : ax_X) (Q : State → Prop) (x0 : Option Nat) (x1 : Int) : Int × Int × ax_H → Prop := fun s => ∀ ls : Array Slot, ax_hl ls 6 [(0, .inr (.inr x0)), (1, .inl x1), (2, .inl s.1), (3, .inl s.2.1)] → ax_W G X Q s.2.2 40 ls []
set_option maxHeartbeats 4000000 in
theorem w_X5_row_161 {l : Launch} {G : ax_G} {X : ax_X} {Q : State → Prop} {h0 h : ax_H} {ls : Array Slot} (hSF : ax_SF G) (B : ax_BL l G X cX5_row 6 RX5 4 106) (Z : ax_Z X h0 ((some FieldType.int))) (hn : X.2.2.2.2.2.2.2.2.1.name = yX5_row.name) (x0 : Option Nat) (x1 : Int) (x2 : Int) (x3 : Int) (s0 : Option Nat) (s1 : Int) (s2 : Int) {w : (Int × Int × ax_H) ⊕ (Int × ax_H)} (hl : ax_hl ls 6 [(0, .inr (.inr x0)), (1, .inl x1), (2, .inl x2), (3, .inl x3)]) (e : f_X5_row_161 G.2.2 x0 x1 x2 x3 s0 s1 s2 h = some w) (hp : (ax_PL (pi_X5_row_40 G X Q x0 x1) (fun w : Int × ax_H => Q = ax_Q G X h0 w.2 (some (.int (Int32.ofInt w.1))))) w) : ax_W G X Q h 161 ls [.int (Int32.ofInt s2), .int (Int32.ofInt s1), va_rf s0] := by
  unfold f_X5_row_161 at e
  refine ax_iadd' B dX5_row_161 ?_
  refine ax_putI B ff_X5_184_5 (Or.inl rfl) rfl dX5_row_162 e (fun h1 e => ?_)
  refine ax_iinc (L' := [(3, .inl (x3 + 4)), (0, .inr (.inr x0)), (1, .inl x1), (2, .inl x2)]) B dX5_row_165 hl 3 rfl (by decide) rfl (fun ls hl => ?_)
  refine ax_goto (tgt := 40) B dX5_row_168 (by decide) ?_
  cases e
  exact hp _ (hl.sub [1, 2, 3, 0] rfl)
set_option maxHeartbeats 4000000 in
theorem w_X5_row_144 {l : Launch} {G : ax_G} {X : ax_X} {Q : State → Prop} {h0 h : ax_H} {ls : Array Slot} (hSF : ax_SF G) (B : ax_BL l G X cX5_row 6 RX5 4 106) (Z : ax_Z X h0 ((some FieldType.int))) (hn : X.2.2.2.2.2.2.2.2.1.name = yX5_row.name) (x0 : Option Nat) (x1 : Int) (x3 : Int) (x5 : Int) (s0 : Int) (s1 : Int) {w : (Int × Int × ax_H) ⊕ (Int × ax_H)} (hl : ax_hl ls 6 [(0, .inr (.inr x0)), (1, .inl x1), (3, .inl x3), (5, .inl x5)]) (e : f_X5_row_144 G.2.2 x0 x1 x3 x5 s0 s1 h = some w) (hp : (ax_PL (pi_X5_row_40 G X Q x0 x1) (fun w : Int × ax_H => Q = ax_Q G X h0 w.2 (some (.int (Int32.ofInt w.1))))) w) : ax_W G X Q h 144 ls [.int (Int32.ofInt s1), .int (Int32.ofInt s0)] := by
  unfold f_X5_row_144 at e
  refine ax_iadd' B dX5_row_144 ?_
  refine ax_istore_n (L' := [(2, .inl (s0 + s1)), (0, .inr (.inr x0)), (1, .inl x1), (3, .inl x3), (5, .inl x5)]) B dX5_row_145 rfl hl (by decide) rfl (fun ls hl => ?_)
  refine ax_aload_n B dX5_row_146 rfl hl 1 rfl ?_
  refine ax_dup B dX5_row_147 (va_rf_cat _) ?_
  refine ax_getI B ff_X5_184_5 (fun _ _ => rfl) dX5_row_148 e (fun v1 e => ?_)
  refine ax_iload B dX5_row_151 hl 4 rfl ?_
  refine ax_if_eq (tgt := 160) B dX5_row_153 (by decide) e (fun e => ?_) (fun e => ?_)
  · refine ax_iconst B dX5_row_160 ?_
    exact w_X5_row_161 hSF B Z hn x0 x1 (s0 + s1) x3 x0 v1 1 (hl.sub [1, 2, 0, 3] rfl) e hp
  · refine ax_iconst B dX5_row_156 ?_
    refine ax_goto (tgt := 161) B dX5_row_157 (by decide) ?_
    exact w_X5_row_161 hSF B Z hn x0 x1 (s0 + s1) x3 x0 v1 0 (hl.sub [1, 2, 0, 3] rfl) e hp
set_option maxHeartbeats 4000000 in
theorem w_X5_row_133 {l : Launch} {G : ax_G} {X : ax_X} {Q : State → Prop} {h0 h : ax_H} {ls : Array Slot} (hSF : ax_SF G) (B : ax_BL l G X cX5_row 6 RX5 4 106) (Z : ax_Z X h0 ((some FieldType.int))) (hn : X.2.2.2.2.2.2.2.2.1.name = yX5_row.name) (x0 : Option Nat) (x1 : Int) (x2 : Int) (x3 : Int) (x5 : Int) {w : (Int × Int × ax_H) ⊕ (Int × ax_H)} (hl : ax_hl ls 6 [(0, .inr (.inr x0)), (1, .inl x1), (2, .inl x2), (3, .inl x3), (5, .inl x5)]) (e : f_X5_row_133 G.2.2 x0 x1 x2 x3 x5 h = some w) (hp : (ax_PL (pi_X5_row_40 G X Q x0 x1) (fun w : Int × ax_H => Q = ax_Q G X h0 w.2 (some (.int (Int32.ofInt w.1))))) w) : ax_W G X Q h 133 ls [] := by
  unfold f_X5_row_133 at e
  refine ax_iload_n B dX5_row_133 rfl hl 2 rfl ?_
  refine ax_iload B dX5_row_134 hl 4 rfl ?_
  refine ax_if_eq (tgt := 143) B dX5_row_136 (by decide) e (fun e => ?_) (fun e => ?_)
  · refine ax_iconst B dX5_row_143 ?_
    exact w_X5_row_144 hSF B Z hn x0 x1 x3 x5 x2 0 (hl.sub [0, 1, 3, 4] rfl) e hp
  · refine ax_iconst B dX5_row_139 ?_
    refine ax_goto (tgt := 144) B dX5_row_140 (by decide) ?_
    exact w_X5_row_144 hSF B Z hn x0 x1 x3 x5 x2 1 (hl.sub [0, 1, 3, 4] rfl) e hp
set_option maxHeartbeats 4000000 in
theorem w_X5_row_106 {l : Launch} {G : ax_G} {X : ax_X} {Q : State → Prop} {h0 h : ax_H} {ls : Array Slot} (hSF : ax_SF G) (B : ax_BL l G X cX5_row 6 RX5 4 106) (Z : ax_Z X h0 ((some FieldType.int))) (hn : X.2.2.2.2.2.2.2.2.1.name = yX5_row.name) (x0 : Option Nat) (x1 : Int) (x2 : Int) (x3 : Int) (x4 : Int) (s0 : Int) {w : (Int × Int × ax_H) ⊕ (Int × ax_H)} (hl : ax_hl ls 6 [(0, .inr (.inr x0)), (1, .inl x1), (2, .inl x2), (3, .inl x3), (4, .inl x4)]) (e : f_X5_row_106 G.2.2 x0 x1 x2 x3 x4 s0 h = some w) (hp : (ax_PL (pi_X5_row_40 G X Q x0 x1) (fun w : Int × ax_H => Q = ax_Q G X h0 w.2 (some (.int (Int32.ofInt w.1))))) w) : ax_W G X Q h 106 ls [.int (Int32.ofInt s0)] := by
  unfold f_X5_row_106 at e
  refine ax_istore (L' := [(5, .inl s0), (0, .inr (.inr x0)), (1, .inl x1), (2, .inl x2), (3, .inl x3), (4, .inl x4)]) B dX5_row_106 hl (by decide) rfl (fun ls hl => ?_)
  refine ax_iload B dX5_row_108 hl 0 rfl ?_
  refine ax_if_eq (tgt := 133) B dX5_row_110 (by decide) e (fun e => ?_) (fun e => ?_)
  · exact w_X5_row_133 hSF B Z hn x0 x1 x2 x3 s0 (hl.sub [1, 2, 3, 4, 0] rfl) e hp
  · refine ax_aload_n B dX5_row_113 rfl hl 1 rfl ?_
    refine ax_aload_n B dX5_row_114 rfl hl 1 rfl ?_
    refine ax_getR B ff_X5_41_5 (fun _ _ => rfl) dX5_row_115 e (fun v1 e => ?_)
    refine ax_iload_n B dX5_row_118 rfl hl 4 rfl ?_
    refine ax_bald B kd101 dX5_row_119 e (fun v2 e => ?_)
    refine ax_aload_n B dX5_row_120 rfl hl 1 rfl ?_
    refine ax_getR B ff_X5_41_5 (fun _ _ => rfl) dX5_row_121 e (fun v3 e => ?_)
    refine ax_iload_n B dX5_row_124 rfl hl 4 rfl ?_
    refine ax_iconst B dX5_row_125 ?_
    refine ax_iadd' B dX5_row_126 ?_
    refine ax_bald B kd101 dX5_row_127 e (fun v4 e => ?_)
    refine ax_iload B dX5_row_128 hl 5 rfl ?_
    refine ax_ivV (y := yX5_adds) (n := 3) (As := [.int (Int32.ofInt v2), .int (Int32.ofInt v4), .int (Int32.ofInt x4)]) B kd5 (lw_V q2214 q2216 qs48 q133 q2217) (by decide +kernel) ⟨Nat.le_of_ble_eq_true rfl, Nat.le_of_ble_eq_true rfl⟩ (fun w1 e1 => mt_X5_adds l G hSF x0 v2 v4 x4 _ w1 e1) rfl hl.size (by decide) dX5_row_130 e (fun h5 e => ?_)
    exact w_X5_row_133 hSF B Z hn x0 x1 x2 x3 s0 (hl.sub [1, 2, 3, 4, 0] rfl) e hp
set_option maxHeartbeats 4000000 in
theorem wb_X5_row_40 {l : Launch} {G : ax_G} {X : ax_X} {Q : State → Prop} {h0 h : ax_H} {ls : Array Slot} (hSF : ax_SF G) (B : ax_BL l G X cX5_row 6 RX5 4 106) (Z : ax_Z X h0 ((some FieldType.int))) (hn : X.2.2.2.2.2.2.2.2.1.name = yX5_row.name) (x0 : Option Nat) (x1 : Int) (x2 : Int) (x3 : Int) {w : (Int × Int × ax_H) ⊕ (Int × ax_H)} (hl : ax_hl ls 6 [(0, .inr (.inr x0)), (1, .inl x1), (2, .inl x2), (3, .inl x3)]) (e : lb_X5_row_40 G.2.2 x0 x1 x2 x3 h = some w) (hp : (ax_PL (pi_X5_row_40 G X Q x0 x1) (fun w : Int × ax_H => Q = ax_Q G X h0 w.2 (some (.int (Int32.ofInt w.1))))) w) : ax_W G X Q h 40 ls [] := by
  unfold lb_X5_row_40 at e
  refine ax_iload_n B dX5_row_40 rfl hl 3 rfl ?_
  refine ax_iconst B dX5_row_41 ?_
  refine ax_iadd' B dX5_row_42 ?_
  refine ax_iload_n B dX5_row_43 rfl hl 1 rfl ?_
  refine ax_icmp_gt (tgt := 171) B dX5_row_44 (by decide) e (fun e => ?_) (fun e => ?_)
  · obtain ⟨w, e9_1, rfl⟩ := Option.map_eq_some_iff.mp e
    have e := e9_1
    refine ax_aload_n B dX5_row_171 rfl hl 0 rfl ?_
    refine ax_iload_n B dX5_row_172 rfl hl 2 rfl ?_
    refine ax_ivI (y := yX5_settled) (n := 1) (As := [.int (Int32.ofInt x2)]) B kd5 (lw_V q2166 q2168 qs43 q133 q2169) (by decide +kernel) ⟨Nat.le_of_ble_eq_true rfl, Nat.le_of_ble_eq_true rfl⟩ (fun w1 e1 => mt_X5_settled l G hSF x0 x2 _ w1 e1) rfl hl.size (by decide) dX5_row_173 e (fun q1 e => ?_)
    have e8 := e
    have hp : Q = _ := hp
    subst hp
    exact ax_ireturn B Z dX5_row_176 e8
  · refine ax_aload_n B dX5_row_47 rfl hl 0 rfl ?_
    refine ax_getR B ff_X5_41_5 (fun _ _ => rfl) dX5_row_48 e (fun v2 e => ?_)
    refine ax_iload_n B dX5_row_51 rfl hl 3 rfl ?_
    refine ax_iconst B dX5_row_52 ?_
    refine ax_iadd' B dX5_row_53 ?_
    refine ax_bald B kd101 dX5_row_54 e (fun v3 e => ?_)
    refine ax_sipush B dX5_row_55 (by decide) ?_
    refine ax_iand' B dX5_row_58 ?_
    refine ax_sipush B dX5_row_59 (by decide) ?_
    refine ax_imul' B dX5_row_62 ?_
    refine ax_aload_n B dX5_row_63 rfl hl 0 rfl ?_
    refine ax_getR B ff_X5_41_5 (fun _ _ => rfl) dX5_row_64 e (fun v4 e => ?_)
    refine ax_iload_n B dX5_row_67 rfl hl 3 rfl ?_
    refine ax_iconst B dX5_row_68 ?_
    refine ax_iadd' B dX5_row_69 ?_
    refine ax_bald B kd101 dX5_row_70 e (fun v5 e => ?_)
    refine ax_sipush B dX5_row_71 (by decide) ?_
    refine ax_iand' B dX5_row_74 ?_
    refine ax_iadd' B dX5_row_75 ?_
    refine ax_istore (L' := [(4, .inl (((ax_and v3 255) * 256) + (ax_and v5 255))), (0, .inr (.inr x0)), (1, .inl x1), (2, .inl x2), (3, .inl x3)]) B dX5_row_76 hl (by decide) rfl (fun ls hl => ?_)
    refine ax_aload_n B dX5_row_78 rfl hl 1 rfl ?_
    refine ax_aload_n B dX5_row_79 rfl hl 1 rfl ?_
    refine ax_getR B ff_X5_41_5 (fun _ _ => rfl) dX5_row_80 e (fun v6 e => ?_)
    refine ax_iload_n B dX5_row_83 rfl hl 4 rfl ?_
    refine ax_bald B kd101 dX5_row_84 e (fun v7 e => ?_)
    refine ax_aload_n B dX5_row_85 rfl hl 1 rfl ?_
    refine ax_getR B ff_X5_41_5 (fun _ _ => rfl) dX5_row_86 e (fun v8 e => ?_)
    refine ax_iload_n B dX5_row_89 rfl hl 4 rfl ?_
    refine ax_iconst B dX5_row_90 ?_
    refine ax_iadd' B dX5_row_91 ?_
    refine ax_bald B kd101 dX5_row_92 e (fun v9 e => ?_)
    refine ax_iload B dX5_row_93 hl 0 rfl ?_
    refine ax_ivI (y := yX5_whyNot) (n := 3) (As := [.int (Int32.ofInt v7), .int (Int32.ofInt v9), .int (Int32.ofInt (((ax_and v3 255) * 256) + (ax_and v5 255)))]) B kd5 (lw_V q2203 q2205 qs46 q133 q2206) (by decide +kernel) ⟨Nat.le_of_ble_eq_true rfl, Nat.le_of_ble_eq_true rfl⟩ (fun w1 e1 => mt_X5_whyNot l G hSF x0 v7 v9 (((ax_and v3 255) * 256) + (ax_and v5 255)) _ w1 e1) rfl hl.size (by decide) dX5_row_95 e (fun q10 e => ?_)
    refine ax_if_ne (tgt := 105) B dX5_row_98 (by decide) e (fun e => ?_) (fun e => ?_)
    · refine ax_iconst B dX5_row_101 ?_
      refine ax_goto (tgt := 106) B dX5_row_102 (by decide) ?_
      exact w_X5_row_106 hSF B Z hn x0 x1 x2 x3 (((ax_and v3 255) * 256) + (ax_and v5 255)) 1 (hl.sub [1, 2, 3, 4, 0] rfl) e hp
    · refine ax_iconst B dX5_row_105 ?_
      exact w_X5_row_106 hSF B Z hn x0 x1 x2 x3 (((ax_and v3 255) * 256) + (ax_and v5 255)) 0 (hl.sub [1, 2, 3, 4, 0] rfl) e hp
theorem w_X5_row_40 {l : Launch} {G : ax_G} {X : ax_X} {Q : State → Prop} {h0 h : ax_H} {ls : Array Slot} (hSF : ax_SF G) (B : ax_BL l G X cX5_row 6 RX5 4 106) (Z : ax_Z X h0 ((some FieldType.int))) (hn : X.2.2.2.2.2.2.2.2.1.name = yX5_row.name) (x0 : Option Nat) (x1 : Int) (x2 : Int) (x3 : Int) {w : Int × ax_H} (hl : ax_hl ls 6 [(0, .inr (.inr x0)), (1, .inl x1), (2, .inl x2), (3, .inl x3)]) (e : f_X5_row_40 G.2.2 x0 x1 x2 x3 h = some w) (hp : (fun w : Int × ax_H => Q = ax_Q G X h0 w.2 (some (.int (Int32.ofInt w.1)))) w) : ax_W G X Q h 40 ls [] :=
  ax_iter_W (Pin := pi_X5_row_40 G X Q x0 x1) (Pout := (fun w : Int × ax_H => Q = ax_Q G X h0 w.2 (some (.int (Int32.ofInt w.1))))) (fun s w e hp ls hl => wb_X5_row_40 hSF B Z hn x0 x1 s.1 s.2.1 hl e hp) _ _ e hp ls hl
set_option maxHeartbeats 4000000 in
theorem w_X5_row_35 {l : Launch} {G : ax_G} {X : ax_X} {Q : State → Prop} {h0 h : ax_H} {ls : Array Slot} (hSF : ax_SF G) (B : ax_BL l G X cX5_row 6 RX5 4 106) (Z : ax_Z X h0 ((some FieldType.int))) (hn : X.2.2.2.2.2.2.2.2.1.name = yX5_row.name) (x0 : Option Nat) (x1 : Int) (x2 : Int) (s0 : Option Nat) (s1 : Int) {w : Int × ax_H} (hl : ax_hl ls 6 [(0, .inr (.inr x0)), (1, .inl x1), (2, .inl x2)]) (e : f_X5_row_35 G.2.2 x0 x1 x2 s0 s1 h = some w) (hp : (fun w : Int × ax_H => Q = ax_Q G X h0 w.2 (some (.int (Int32.ofInt w.1)))) w) : ax_W G X Q h 35 ls [.int (Int32.ofInt s1), va_rf s0] := by
  unfold f_X5_row_35 at e
  refine ax_putI B ff_X5_184_5 (Or.inl rfl) rfl dX5_row_35 e (fun h1 e => ?_)
  refine ax_iconst B dX5_row_38 ?_
  refine ax_istore_n (L' := [(3, .inl 0), (0, .inr (.inr x0)), (1, .inl x1), (2, .inl x2)]) B dX5_row_39 rfl hl (by decide) rfl (fun ls hl => ?_)
  exact w_X5_row_40 hSF B Z hn x0 x1 x2 0 (hl.sub [1, 2, 3, 0] rfl) e hp
set_option maxHeartbeats 4000000 in
theorem we_X5_row {l : Launch} {G : ax_G} {X : ax_X} {Q : State → Prop} {h0 h : ax_H} {ls : Array Slot} (hSF : ax_SF G) (B : ax_BL l G X cX5_row 6 RX5 4 106) (Z : ax_Z X h0 ((some FieldType.int))) (hn : X.2.2.2.2.2.2.2.2.1.name = yX5_row.name) (x0 : Option Nat) {w : Int × ax_H} (hl : ax_hl ls 6 [(0, .inr (.inr x0))]) (e : f_X5_row G.2.2 x0 h = some w) (hp : (fun w : Int × ax_H => Q = ax_Q G X h0 w.2 (some (.int (Int32.ofInt w.1)))) w) : ax_W G X Q h 0 ls [] := by
  unfold f_X5_row at e
  refine ax_aload_n B dX5_row_0 rfl hl 0 rfl ?_
  refine ax_getI B ff_X5_181_5 (fun _ _ => rfl) dX5_row_1 e (fun v1 e => ?_)
  refine ax_istore_n (L' := [(1, .inl v1), (0, .inr (.inr x0))]) B dX5_row_4 rfl hl (by decide) rfl (fun ls hl => ?_)
  refine ax_aload_n B dX5_row_5 rfl hl 1 rfl ?_
  refine ax_iconst B dX5_row_6 ?_
  refine ax_putI B ff_X5_181_5 (Or.inl rfl) rfl dX5_row_7 e (fun h2 e => ?_)
  refine ax_iload_n B dX5_row_10 rfl hl 0 rfl ?_
  refine ax_if_ne (tgt := 21) B dX5_row_11 (by decide) e (fun e => ?_) (fun e => ?_)
  · refine ax_aload_n B dX5_row_14 rfl hl 1 rfl ?_
    refine ax_bipush B dX5_row_15 (by decide) ?_
    refine ax_ivI (y := yX5_refuses) (n := 1) (As := [.int (Int32.ofInt (-6))]) B kd5 (lw_V q2154 q2156 qs41 q133 q2157) (by decide +kernel) ⟨Nat.le_of_ble_eq_true rfl, Nat.le_of_ble_eq_true rfl⟩ (fun w1 e1 => mt_X5_refuses l G hSF x0 (-6) _ w1 e1) rfl hl.size (by decide) dX5_row_17 e (fun q3 e => ?_)
    have e8 := e
    have hp : Q = _ := hp
    subst hp
    exact ax_ireturn B Z dX5_row_20 e8
  · refine ax_iconst B dX5_row_21 ?_
    refine ax_istore_n (L' := [(2, .inl 0), (1, .inl v1), (0, .inr (.inr x0))]) B dX5_row_22 rfl hl (by decide) rfl (fun ls hl => ?_)
    refine ax_aload_n B dX5_row_23 rfl hl 2 rfl ?_
    refine ax_iload_n B dX5_row_24 rfl hl 1 rfl ?_
    refine ax_iconst B dX5_row_25 ?_
    refine ax_irem' B dX5_row_26 e (fun e => ?_)
    refine ax_if_ne (tgt := 34) B dX5_row_27 (by decide) e (fun e => ?_) (fun e => ?_)
    · refine ax_iconst B dX5_row_30 ?_
      refine ax_goto (tgt := 35) B dX5_row_31 (by decide) ?_
      exact w_X5_row_35 hSF B Z hn x0 v1 0 x0 0 (hl.sub [2, 1, 0] rfl) e hp
    · refine ax_iconst B dX5_row_34 ?_
      exact w_X5_row_35 hSF B Z hn x0 v1 0 x0 1 (hl.sub [2, 1, 0] rfl) e hp
theorem mt_X5_row (l : Launch) (G : ax_G) (hSF : ax_SF G) (x0 : Option Nat) (h : ax_H) (w : Int × ax_H) (e : f_X5_row G.2.2 x0 h = some w) : ax_Met l G yX5_row cX5_row 6 ((some FieldType.int)) 4 106 [va_rf x0] h w.2 (some (.int (Int32.ofInt w.1))) :=
  ax_enter [.inr (.inr x0)] (y := yX5_row) hSF (plainFor_of_name (by decide +kernel)) (Nat.le_of_ble_eq_true rfl) (fun X ls B Z hn hl => we_X5_row hSF B Z hn x0 hl e rfl)
theorem dX5_blots_0 : decode cX5_blots 0 = .ok (.aload_n 0, 1) := by decide +kernel
theorem dX5_blots_1 : decode cX5_blots 1 = .ok (.getfield 184, 3) := by decide +kernel
theorem dX5_blots_4 : decode cX5_blots 4 = .ok (.ireturn, 1) := by decide +kernel
noncomputable def f_X5_blots (E : ax_E) (x0 : Option Nat) (h : ax_H) : Option (Int × ax_H) :=
  (ax_gI E h x0 5 6).bind fun v1 =>
  some (v1, h)
set_option maxHeartbeats 4000000 in
theorem we_X5_blots {l : Launch} {G : ax_G} {X : ax_X} {Q : State → Prop} {h0 h : ax_H} {ls : Array Slot} (hSF : ax_SF G) (B : ax_BL l G X cX5_blots 1 RX5 1 40) (Z : ax_Z X h0 ((some FieldType.int))) (hn : X.2.2.2.2.2.2.2.2.1.name = yX5_blots.name) (x0 : Option Nat) {w : Int × ax_H} (hl : ax_hl ls 1 [(0, .inr (.inr x0))]) (e : f_X5_blots G.2.2 x0 h = some w) (hp : (fun w : Int × ax_H => Q = ax_Q G X h0 w.2 (some (.int (Int32.ofInt w.1)))) w) : ax_W G X Q h 0 ls [] := by
  unfold f_X5_blots at e
  refine ax_aload_n B dX5_blots_0 rfl hl 0 rfl ?_
  refine ax_getI B ff_X5_184_5 (fun _ _ => rfl) dX5_blots_1 e (fun v1 e => ?_)
  have e8 := e
  have hp : Q = _ := hp
  subst hp
  exact ax_ireturn B Z dX5_blots_4 e8
theorem mt_X5_blots (l : Launch) (G : ax_G) (hSF : ax_SF G) (x0 : Option Nat) (h : ax_H) (w : Int × ax_H) (e : f_X5_blots G.2.2 x0 h = some w) : ax_Met l G yX5_blots cX5_blots 1 ((some FieldType.int)) 1 40 [va_rf x0] h w.2 (some (.int (Int32.ofInt w.1))) :=
  ax_enter [.inr (.inr x0)] (y := yX5_blots) hSF (plainFor_of_name (by decide +kernel)) (Nat.le_of_ble_eq_true rfl) (fun X ls B Z hn hl => we_X5_blots hSF B Z hn x0 hl e rfl)
def dkwX5_feed_5 : List UInt8 := [180, 0, 181, 172]
abbrev dktX5_feed_5 : List UInt8 := dkwX5_feed_5 ++ []
def dkwX5_feed_4 : List UInt8 := [100, 122, 145, 84, 132, 6, 1, 167, 255, 213, 42, 89, 180, 0, 181, 16, 20, 96, 181, 0, 181, 42]
abbrev dktX5_feed_4 : List UInt8 := dkwX5_feed_4 ++ dktX5_feed_5
def dkwX5_feed_3 : List UInt8 := [180, 0, 181, 21, 6, 96, 42, 180, 0, 44, 21, 6, 7, 108, 46, 16, 24, 16, 8, 21, 6, 7, 112, 104]
abbrev dktX5_feed_3 : List UInt8 := dkwX5_feed_3 ++ dktX5_feed_4
def dkwX5_feed_2 : List UInt8 := [180, 0, 44, 7, 21, 5, 79, 3, 54, 6, 21, 6, 16, 20, 162, 0, 42, 42, 180, 0, 41, 42]
abbrev dktX5_feed_2 : List UInt8 := dkwX5_feed_2 ++ dktX5_feed_3
def dkwX5_feed_1 : List UInt8 := [180, 0, 44, 4, 28, 79, 42, 180, 0, 44, 5, 29, 79, 42, 180, 0, 44, 6, 21, 4, 79, 42]
abbrev dktX5_feed_1 : List UInt8 := dkwX5_feed_1 ++ dktX5_feed_2
def dkwX5_feed_0 : List UInt8 := [42, 180, 0, 181, 16, 20, 96, 17, 1, 144, 164, 0, 5, 2, 172, 42, 180, 0, 44, 3, 27, 79, 42]
abbrev dktX5_feed_0 : List UInt8 := dkwX5_feed_0 ++ dktX5_feed_1
theorem dksX5_feed_0 : cX5_feed.data.toList.drop 0 = dktX5_feed_0 := by decide +kernel
theorem dksX5_feed_1 : cX5_feed.data.toList.drop 23 = dktX5_feed_1 := dk_seg dksX5_feed_0 23 rfl rfl
theorem dksX5_feed_2 : cX5_feed.data.toList.drop 45 = dktX5_feed_2 := dk_seg dksX5_feed_1 22 rfl rfl
theorem dksX5_feed_3 : cX5_feed.data.toList.drop 67 = dktX5_feed_3 := dk_seg dksX5_feed_2 22 rfl rfl
theorem dksX5_feed_4 : cX5_feed.data.toList.drop 91 = dktX5_feed_4 := dk_seg dksX5_feed_3 24 rfl rfl
theorem dksX5_feed_5 : cX5_feed.data.toList.drop 113 = dktX5_feed_5 := dk_seg dksX5_feed_4 22 rfl rfl
theorem dX5_feed_0 : decode cX5_feed 0 = .ok (.aload_n 0, 1) := dk_42 (dk_at dksX5_feed_0 0 rfl rfl)
theorem dX5_feed_1 : decode cX5_feed 1 = .ok (.getfield 181, 3) := dk_180 0 181 (dk_at dksX5_feed_0 1 rfl rfl)
theorem dX5_feed_4 : decode cX5_feed 4 = .ok (.bipush 20, 2) := dk_16 20 (dk_at dksX5_feed_0 4 rfl rfl)
theorem dX5_feed_6 : decode cX5_feed 6 = .ok (.iadd, 1) := dk_96 (dk_at dksX5_feed_0 6 rfl rfl)
theorem dX5_feed_7 : decode cX5_feed 7 = .ok (.sipush 400, 3) := dk_17 1 144 (dk_at dksX5_feed_0 7 rfl rfl)
theorem dX5_feed_10 : decode cX5_feed 10 = .ok (.if_icmp .le 5, 3) := dk_164 0 5 (dk_at dksX5_feed_0 10 rfl rfl)
theorem dX5_feed_13 : decode cX5_feed 13 = .ok (.iconst (-1), 1) := dk_2 (dk_at dksX5_feed_0 13 rfl rfl)
theorem dX5_feed_14 : decode cX5_feed 14 = .ok (.ireturn, 1) := dk_172 (dk_at dksX5_feed_0 14 rfl rfl)
theorem dX5_feed_15 : decode cX5_feed 15 = .ok (.aload_n 0, 1) := dk_42 (dk_at dksX5_feed_0 15 rfl rfl)
theorem dX5_feed_16 : decode cX5_feed 16 = .ok (.getfield 44, 3) := dk_180 0 44 (dk_at dksX5_feed_0 16 rfl rfl)
theorem dX5_feed_19 : decode cX5_feed 19 = .ok (.iconst 0, 1) := dk_3 (dk_at dksX5_feed_0 19 rfl rfl)
theorem dX5_feed_20 : decode cX5_feed 20 = .ok (.iload_n 1, 1) := dk_27 (dk_at dksX5_feed_0 20 rfl rfl)
theorem dX5_feed_21 : decode cX5_feed 21 = .ok (.iastore, 1) := dk_79 (dk_at dksX5_feed_0 21 rfl rfl)
theorem dX5_feed_22 : decode cX5_feed 22 = .ok (.aload_n 0, 1) := dk_42 (dk_at dksX5_feed_0 22 rfl rfl)
theorem dX5_feed_23 : decode cX5_feed 23 = .ok (.getfield 44, 3) := dk_180 0 44 (dk_at dksX5_feed_1 0 rfl rfl)
theorem dX5_feed_26 : decode cX5_feed 26 = .ok (.iconst 1, 1) := dk_4 (dk_at dksX5_feed_1 3 rfl rfl)
theorem dX5_feed_27 : decode cX5_feed 27 = .ok (.iload_n 2, 1) := dk_28 (dk_at dksX5_feed_1 4 rfl rfl)
theorem dX5_feed_28 : decode cX5_feed 28 = .ok (.iastore, 1) := dk_79 (dk_at dksX5_feed_1 5 rfl rfl)
theorem dX5_feed_29 : decode cX5_feed 29 = .ok (.aload_n 0, 1) := dk_42 (dk_at dksX5_feed_1 6 rfl rfl)
theorem dX5_feed_30 : decode cX5_feed 30 = .ok (.getfield 44, 3) := dk_180 0 44 (dk_at dksX5_feed_1 7 rfl rfl)
theorem dX5_feed_33 : decode cX5_feed 33 = .ok (.iconst 2, 1) := dk_5 (dk_at dksX5_feed_1 10 rfl rfl)
theorem dX5_feed_34 : decode cX5_feed 34 = .ok (.iload_n 3, 1) := dk_29 (dk_at dksX5_feed_1 11 rfl rfl)
theorem dX5_feed_35 : decode cX5_feed 35 = .ok (.iastore, 1) := dk_79 (dk_at dksX5_feed_1 12 rfl rfl)
theorem dX5_feed_36 : decode cX5_feed 36 = .ok (.aload_n 0, 1) := dk_42 (dk_at dksX5_feed_1 13 rfl rfl)
theorem dX5_feed_37 : decode cX5_feed 37 = .ok (.getfield 44, 3) := dk_180 0 44 (dk_at dksX5_feed_1 14 rfl rfl)
theorem dX5_feed_40 : decode cX5_feed 40 = .ok (.iconst 3, 1) := dk_6 (dk_at dksX5_feed_1 17 rfl rfl)
theorem dX5_feed_41 : decode cX5_feed 41 = .ok (.iload 4, 2) := dk_21 4 (dk_at dksX5_feed_1 18 rfl rfl)
theorem dX5_feed_43 : decode cX5_feed 43 = .ok (.iastore, 1) := dk_79 (dk_at dksX5_feed_1 20 rfl rfl)
theorem dX5_feed_44 : decode cX5_feed 44 = .ok (.aload_n 0, 1) := dk_42 (dk_at dksX5_feed_1 21 rfl rfl)
theorem dX5_feed_45 : decode cX5_feed 45 = .ok (.getfield 44, 3) := dk_180 0 44 (dk_at dksX5_feed_2 0 rfl rfl)
theorem dX5_feed_48 : decode cX5_feed 48 = .ok (.iconst 4, 1) := dk_7 (dk_at dksX5_feed_2 3 rfl rfl)
theorem dX5_feed_49 : decode cX5_feed 49 = .ok (.iload 5, 2) := dk_21 5 (dk_at dksX5_feed_2 4 rfl rfl)
theorem dX5_feed_51 : decode cX5_feed 51 = .ok (.iastore, 1) := dk_79 (dk_at dksX5_feed_2 6 rfl rfl)
theorem dX5_feed_52 : decode cX5_feed 52 = .ok (.iconst 0, 1) := dk_3 (dk_at dksX5_feed_2 7 rfl rfl)
theorem dX5_feed_53 : decode cX5_feed 53 = .ok (.istore 6, 2) := dk_54 6 (dk_at dksX5_feed_2 8 rfl rfl)
theorem dX5_feed_55 : decode cX5_feed 55 = .ok (.iload 6, 2) := dk_21 6 (dk_at dksX5_feed_2 10 rfl rfl)
theorem dX5_feed_57 : decode cX5_feed 57 = .ok (.bipush 20, 2) := dk_16 20 (dk_at dksX5_feed_2 12 rfl rfl)
theorem dX5_feed_59 : decode cX5_feed 59 = .ok (.if_icmp .ge 42, 3) := dk_162 0 42 (dk_at dksX5_feed_2 14 rfl rfl)
theorem dX5_feed_62 : decode cX5_feed 62 = .ok (.aload_n 0, 1) := dk_42 (dk_at dksX5_feed_2 17 rfl rfl)
theorem dX5_feed_63 : decode cX5_feed 63 = .ok (.getfield 41, 3) := dk_180 0 41 (dk_at dksX5_feed_2 18 rfl rfl)
theorem dX5_feed_66 : decode cX5_feed 66 = .ok (.aload_n 0, 1) := dk_42 (dk_at dksX5_feed_2 21 rfl rfl)
theorem dX5_feed_67 : decode cX5_feed 67 = .ok (.getfield 181, 3) := dk_180 0 181 (dk_at dksX5_feed_3 0 rfl rfl)
theorem dX5_feed_70 : decode cX5_feed 70 = .ok (.iload 6, 2) := dk_21 6 (dk_at dksX5_feed_3 3 rfl rfl)
theorem dX5_feed_72 : decode cX5_feed 72 = .ok (.iadd, 1) := dk_96 (dk_at dksX5_feed_3 5 rfl rfl)
theorem dX5_feed_73 : decode cX5_feed 73 = .ok (.aload_n 0, 1) := dk_42 (dk_at dksX5_feed_3 6 rfl rfl)
theorem dX5_feed_74 : decode cX5_feed 74 = .ok (.getfield 44, 3) := dk_180 0 44 (dk_at dksX5_feed_3 7 rfl rfl)
theorem dX5_feed_77 : decode cX5_feed 77 = .ok (.iload 6, 2) := dk_21 6 (dk_at dksX5_feed_3 10 rfl rfl)
theorem dX5_feed_79 : decode cX5_feed 79 = .ok (.iconst 4, 1) := dk_7 (dk_at dksX5_feed_3 12 rfl rfl)
theorem dX5_feed_80 : decode cX5_feed 80 = .ok (.idiv, 1) := dk_108 (dk_at dksX5_feed_3 13 rfl rfl)
theorem dX5_feed_81 : decode cX5_feed 81 = .ok (.iaload, 1) := dk_46 (dk_at dksX5_feed_3 14 rfl rfl)
theorem dX5_feed_82 : decode cX5_feed 82 = .ok (.bipush 24, 2) := dk_16 24 (dk_at dksX5_feed_3 15 rfl rfl)
theorem dX5_feed_84 : decode cX5_feed 84 = .ok (.bipush 8, 2) := dk_16 8 (dk_at dksX5_feed_3 17 rfl rfl)
theorem dX5_feed_86 : decode cX5_feed 86 = .ok (.iload 6, 2) := dk_21 6 (dk_at dksX5_feed_3 19 rfl rfl)
theorem dX5_feed_88 : decode cX5_feed 88 = .ok (.iconst 4, 1) := dk_7 (dk_at dksX5_feed_3 21 rfl rfl)
theorem dX5_feed_89 : decode cX5_feed 89 = .ok (.irem, 1) := dk_112 (dk_at dksX5_feed_3 22 rfl rfl)
theorem dX5_feed_90 : decode cX5_feed 90 = .ok (.imul, 1) := dk_104 (dk_at dksX5_feed_3 23 rfl rfl)
theorem dX5_feed_91 : decode cX5_feed 91 = .ok (.isub, 1) := dk_100 (dk_at dksX5_feed_4 0 rfl rfl)
theorem dX5_feed_92 : decode cX5_feed 92 = .ok (.ishr, 1) := dk_122 (dk_at dksX5_feed_4 1 rfl rfl)
theorem dX5_feed_93 : decode cX5_feed 93 = .ok (.i2b, 1) := dk_145 (dk_at dksX5_feed_4 2 rfl rfl)
theorem dX5_feed_94 : decode cX5_feed 94 = .ok (.bastore, 1) := dk_84 (dk_at dksX5_feed_4 3 rfl rfl)
theorem dX5_feed_95 : decode cX5_feed 95 = .ok (.iinc 6 1, 3) := dk_132 6 1 (dk_at dksX5_feed_4 4 rfl rfl)
theorem dX5_feed_98 : decode cX5_feed 98 = .ok (.goto (-43), 3) := dk_167 255 213 (dk_at dksX5_feed_4 7 rfl rfl)
theorem dX5_feed_101 : decode cX5_feed 101 = .ok (.aload_n 0, 1) := dk_42 (dk_at dksX5_feed_4 10 rfl rfl)
theorem dX5_feed_102 : decode cX5_feed 102 = .ok (.dup, 1) := dk_89 (dk_at dksX5_feed_4 11 rfl rfl)
theorem dX5_feed_103 : decode cX5_feed 103 = .ok (.getfield 181, 3) := dk_180 0 181 (dk_at dksX5_feed_4 12 rfl rfl)
theorem dX5_feed_106 : decode cX5_feed 106 = .ok (.bipush 20, 2) := dk_16 20 (dk_at dksX5_feed_4 15 rfl rfl)
theorem dX5_feed_108 : decode cX5_feed 108 = .ok (.iadd, 1) := dk_96 (dk_at dksX5_feed_4 17 rfl rfl)
theorem dX5_feed_109 : decode cX5_feed 109 = .ok (.putfield 181, 3) := dk_181 0 181 (dk_at dksX5_feed_4 18 rfl rfl)
theorem dX5_feed_112 : decode cX5_feed 112 = .ok (.aload_n 0, 1) := dk_42 (dk_at dksX5_feed_4 21 rfl rfl)
theorem dX5_feed_113 : decode cX5_feed 113 = .ok (.getfield 181, 3) := dk_180 0 181 (dk_at dksX5_feed_5 0 rfl rfl)
theorem dX5_feed_116 : decode cX5_feed 116 = .ok (.ireturn, 1) := dk_172 (dk_at dksX5_feed_5 3 rfl rfl)
noncomputable def lb_X5_feed_55 (E : ax_E) (x0 : Option Nat) (x6 : Int) (h : ax_H) : Option ((Int × ax_H) ⊕ (Int × ax_H)) :=
  if i2 x6 < i2 20 then
    (ax_gR E h x0 5 9).bind fun v1 =>
    (ax_gI E h x0 5 11).bind fun v2 =>
    (ax_gR E h x0 5 10).bind fun v3 =>
    if i2 4 = 0 then none else
    (ax_ld E h v3 100 ((i2 x6).tdiv (i2 4))).bind fun v4 =>
    if i2 4 = 0 then none else
    (ax_sto h v1 101 (v2 + x6) (b2 (b2 (ax_shr v4 (24 - (8 * ((i2 x6).tmod (i2 4)))))))).bind fun h5 =>
    some (.inl ((x6 + 1), h5))
  else
    ((ax_gI E h x0 5 11).bind fun v6 =>
    (ax_pI h x0 5 11 (v6 + 20)).bind fun h7 =>
    (ax_gI E h7 x0 5 11).bind fun v8 =>
    some (v8, h7)).map Sum.inr
noncomputable def f_X5_feed_55 (E : ax_E) (x0 : Option Nat) (x6 : Int) (h : ax_H) : Option (Int × ax_H) :=
  ax_iter (fun s : Int × ax_H => lb_X5_feed_55 E x0 s.1 s.2) (x6, h)
noncomputable def f_X5_feed (E : ax_E) (x0 : Option Nat) (x1 : Int) (x2 : Int) (x3 : Int) (x4 : Int) (x5 : Int) (h : ax_H) : Option (Int × ax_H) :=
  (ax_gI E h x0 5 11).bind fun v1 =>
  if i2 400 < i2 (v1 + 20) then
    some ((-1), h)
  else
    (ax_gR E h x0 5 10).bind fun v2 =>
    (ax_sto h v2 100 0 x1).bind fun h3 =>
    (ax_gR E h3 x0 5 10).bind fun v4 =>
    (ax_sto h3 v4 100 1 x2).bind fun h5 =>
    (ax_gR E h5 x0 5 10).bind fun v6 =>
    (ax_sto h5 v6 100 2 x3).bind fun h7 =>
    (ax_gR E h7 x0 5 10).bind fun v8 =>
    (ax_sto h7 v8 100 3 x4).bind fun h9 =>
    (ax_gR E h9 x0 5 10).bind fun v10 =>
    (ax_sto h9 v10 100 4 x5).bind fun h11 =>
    f_X5_feed_55 E x0 0 h11
def pi_X5_feed_55 (G : ax_G) (X : ax_X) (Q : State → Prop) (x0 : Option Nat) : Int × ax_H → Prop := fun s => ∀ ls : Array Slot, ax_hl ls 7 [(0, .inr (.inr x0)), (6, .inl s.1)] → ax_W G X Q s.2 55 ls []
set_option maxHeartbeats 4000000 in
theorem wb_X5_feed_55 {l : Launch} {G : ax_G} {X : ax_X} {Q : State → Prop} {h0 h : ax_H} {ls : Array Slot} (hSF : ax_SF G) (B : ax_BL l G X cX5_feed 7 RX5 1 40) (Z : ax_Z X h0 ((some FieldType.int))) (hn : X.2.2.2.2.2.2.2.2.1.name = yX5_feed.name) (x0 : Option Nat) (x6 : Int) {w : (Int × ax_H) ⊕ (Int × ax_H)} (hl : ax_hl ls 7 [(0, .inr (.inr x0)), (6, .inl x6)]) (e : lb_X5_feed_55 G.2.2 x0 x6 h = some w) (hp : (ax_PL (pi_X5_feed_55 G X Q x0) (fun w : Int × ax_H => Q = ax_Q G X h0 w.2 (some (.int (Int32.ofInt w.1))))) w) : ax_W G X Q h 55 ls [] := by
  unfold lb_X5_feed_55 at e
  refine ax_iload B dX5_feed_55 hl 1 rfl ?_
  refine ax_bipush B dX5_feed_57 (by decide) ?_
  refine ax_icmp_ge (tgt := 101) B dX5_feed_59 (by decide) e (fun e => ?_) (fun e => ?_)
  · refine ax_aload_n B dX5_feed_62 rfl hl 0 rfl ?_
    refine ax_getR B ff_X5_41_5 (fun _ _ => rfl) dX5_feed_63 e (fun v1 e => ?_)
    refine ax_aload_n B dX5_feed_66 rfl hl 0 rfl ?_
    refine ax_getI B ff_X5_181_5 (fun _ _ => rfl) dX5_feed_67 e (fun v2 e => ?_)
    refine ax_iload B dX5_feed_70 hl 1 rfl ?_
    refine ax_iadd' B dX5_feed_72 ?_
    refine ax_aload_n B dX5_feed_73 rfl hl 0 rfl ?_
    refine ax_getR B ff_X5_44_5 (fun _ _ => rfl) dX5_feed_74 e (fun v3 e => ?_)
    refine ax_iload B dX5_feed_77 hl 1 rfl ?_
    refine ax_iconst B dX5_feed_79 ?_
    refine ax_idiv' B dX5_feed_80 e (fun e => ?_)
    refine ax_iald B kd100 dX5_feed_81 e (fun v4 e => ?_)
    refine ax_bipush B dX5_feed_82 (by decide) ?_
    refine ax_bipush B dX5_feed_84 (by decide) ?_
    refine ax_iload B dX5_feed_86 hl 1 rfl ?_
    refine ax_iconst B dX5_feed_88 ?_
    refine ax_irem' B dX5_feed_89 e (fun e => ?_)
    refine ax_imul' B dX5_feed_90 ?_
    refine ax_isub' B dX5_feed_91 ?_
    refine ax_ishr' B dX5_feed_92 ?_
    refine ax_i2b' B dX5_feed_93 ?_
    refine ax_bast B kd101 dX5_feed_94 e (fun h5 e => ?_)
    refine ax_iinc (L' := [(6, .inl (x6 + 1)), (0, .inr (.inr x0))]) B dX5_feed_95 hl 1 rfl (by decide) rfl (fun ls hl => ?_)
    refine ax_goto (tgt := 55) B dX5_feed_98 (by decide) ?_
    cases e
    exact hp _ (hl.sub [1, 0] rfl)
  · obtain ⟨w, e9_1, rfl⟩ := Option.map_eq_some_iff.mp e
    have e := e9_1
    refine ax_aload_n B dX5_feed_101 rfl hl 0 rfl ?_
    refine ax_dup B dX5_feed_102 (va_rf_cat _) ?_
    refine ax_getI B ff_X5_181_5 (fun _ _ => rfl) dX5_feed_103 e (fun v6 e => ?_)
    refine ax_bipush B dX5_feed_106 (by decide) ?_
    refine ax_iadd' B dX5_feed_108 ?_
    refine ax_putI B ff_X5_181_5 (Or.inl rfl) rfl dX5_feed_109 e (fun h7 e => ?_)
    refine ax_aload_n B dX5_feed_112 rfl hl 0 rfl ?_
    refine ax_getI B ff_X5_181_5 (fun _ _ => rfl) dX5_feed_113 e (fun v8 e => ?_)
    have e8 := e
    have hp : Q = _ := hp
    subst hp
    exact ax_ireturn B Z dX5_feed_116 e8
theorem w_X5_feed_55 {l : Launch} {G : ax_G} {X : ax_X} {Q : State → Prop} {h0 h : ax_H} {ls : Array Slot} (hSF : ax_SF G) (B : ax_BL l G X cX5_feed 7 RX5 1 40) (Z : ax_Z X h0 ((some FieldType.int))) (hn : X.2.2.2.2.2.2.2.2.1.name = yX5_feed.name) (x0 : Option Nat) (x6 : Int) {w : Int × ax_H} (hl : ax_hl ls 7 [(0, .inr (.inr x0)), (6, .inl x6)]) (e : f_X5_feed_55 G.2.2 x0 x6 h = some w) (hp : (fun w : Int × ax_H => Q = ax_Q G X h0 w.2 (some (.int (Int32.ofInt w.1)))) w) : ax_W G X Q h 55 ls [] :=
  ax_iter_W (Pin := pi_X5_feed_55 G X Q x0) (Pout := (fun w : Int × ax_H => Q = ax_Q G X h0 w.2 (some (.int (Int32.ofInt w.1))))) (fun s w e hp ls hl => wb_X5_feed_55 hSF B Z hn x0 s.1 hl e hp) _ _ e hp ls hl
set_option maxHeartbeats 4000000 in
theorem we_X5_feed {l : Launch} {G : ax_G} {X : ax_X} {Q : State → Prop} {h0 h : ax_H} {ls : Array Slot} (hSF : ax_SF G) (B : ax_BL l G X cX5_feed 7 RX5 1 40) (Z : ax_Z X h0 ((some FieldType.int))) (hn : X.2.2.2.2.2.2.2.2.1.name = yX5_feed.name) (x0 : Option Nat) (x1 : Int) (x2 : Int) (x3 : Int) (x4 : Int) (x5 : Int) {w : Int × ax_H} (hl : ax_hl ls 7 [(0, .inr (.inr x0)), (1, .inl x1), (2, .inl x2), (3, .inl x3), (4, .inl x4), (5, .inl x5)]) (e : f_X5_feed G.2.2 x0 x1 x2 x3 x4 x5 h = some w) (hp : (fun w : Int × ax_H => Q = ax_Q G X h0 w.2 (some (.int (Int32.ofInt w.1)))) w) : ax_W G X Q h 0 ls [] := by
  unfold f_X5_feed at e
  refine ax_aload_n B dX5_feed_0 rfl hl 0 rfl ?_
  refine ax_getI B ff_X5_181_5 (fun _ _ => rfl) dX5_feed_1 e (fun v1 e => ?_)
  refine ax_bipush B dX5_feed_4 (by decide) ?_
  refine ax_iadd' B dX5_feed_6 ?_
  refine ax_sipush B dX5_feed_7 (by decide) ?_
  refine ax_icmp_le (tgt := 15) B dX5_feed_10 (by decide) e (fun e => ?_) (fun e => ?_)
  · refine ax_iconst B dX5_feed_13 ?_
    have e8 := e
    have hp : Q = _ := hp
    subst hp
    exact ax_ireturn B Z dX5_feed_14 e8
  · refine ax_aload_n B dX5_feed_15 rfl hl 0 rfl ?_
    refine ax_getR B ff_X5_44_5 (fun _ _ => rfl) dX5_feed_16 e (fun v2 e => ?_)
    refine ax_iconst B dX5_feed_19 ?_
    refine ax_iload_n B dX5_feed_20 rfl hl 1 rfl ?_
    refine ax_iast B kd100 dX5_feed_21 e (fun h3 e => ?_)
    refine ax_aload_n B dX5_feed_22 rfl hl 0 rfl ?_
    refine ax_getR B ff_X5_44_5 (fun _ _ => rfl) dX5_feed_23 e (fun v4 e => ?_)
    refine ax_iconst B dX5_feed_26 ?_
    refine ax_iload_n B dX5_feed_27 rfl hl 2 rfl ?_
    refine ax_iast B kd100 dX5_feed_28 e (fun h5 e => ?_)
    refine ax_aload_n B dX5_feed_29 rfl hl 0 rfl ?_
    refine ax_getR B ff_X5_44_5 (fun _ _ => rfl) dX5_feed_30 e (fun v6 e => ?_)
    refine ax_iconst B dX5_feed_33 ?_
    refine ax_iload_n B dX5_feed_34 rfl hl 3 rfl ?_
    refine ax_iast B kd100 dX5_feed_35 e (fun h7 e => ?_)
    refine ax_aload_n B dX5_feed_36 rfl hl 0 rfl ?_
    refine ax_getR B ff_X5_44_5 (fun _ _ => rfl) dX5_feed_37 e (fun v8 e => ?_)
    refine ax_iconst B dX5_feed_40 ?_
    refine ax_iload B dX5_feed_41 hl 4 rfl ?_
    refine ax_iast B kd100 dX5_feed_43 e (fun h9 e => ?_)
    refine ax_aload_n B dX5_feed_44 rfl hl 0 rfl ?_
    refine ax_getR B ff_X5_44_5 (fun _ _ => rfl) dX5_feed_45 e (fun v10 e => ?_)
    refine ax_iconst B dX5_feed_48 ?_
    refine ax_iload B dX5_feed_49 hl 5 rfl ?_
    refine ax_iast B kd100 dX5_feed_51 e (fun h11 e => ?_)
    refine ax_iconst B dX5_feed_52 ?_
    refine ax_istore (L' := [(6, .inl 0), (0, .inr (.inr x0)), (1, .inl x1), (2, .inl x2), (3, .inl x3), (4, .inl x4), (5, .inl x5)]) B dX5_feed_53 hl (by decide) rfl (fun ls hl => ?_)
    exact w_X5_feed_55 hSF B Z hn x0 0 (hl.sub [1, 0] rfl) e hp
theorem mt_X5_feed (l : Launch) (G : ax_G) (hSF : ax_SF G) (x0 : Option Nat) (x1 : Int) (x2 : Int) (x3 : Int) (x4 : Int) (x5 : Int) (h : ax_H) (w : Int × ax_H) (e : f_X5_feed G.2.2 x0 x1 x2 x3 x4 x5 h = some w) : ax_Met l G yX5_feed cX5_feed 7 ((some FieldType.int)) 1 40 [va_rf x0, .int (Int32.ofInt x1), .int (Int32.ofInt x2), .int (Int32.ofInt x3), .int (Int32.ofInt x4), .int (Int32.ofInt x5)] h w.2 (some (.int (Int32.ofInt w.1))) :=
  ax_enter [.inr (.inr x0), .inl x1, .inl x2, .inl x3, .inl x4, .inl x5] (y := yX5_feed) hSF (plainFor_of_name (by decide +kernel)) (Nat.le_of_ble_eq_true rfl) (fun X ls B Z hn hl => we_X5_feed hSF B Z hn x0 x1 x2 x3 x4 x5 hl e rfl)
def dkwX5_end_0 : List UInt8 := [27, 3, 42, 180, 0, 181, 184, 0, 123, 154, 0, 5, 2, 172, 42, 27, 181, 0, 181, 27, 172]
abbrev dktX5_end_0 : List UInt8 := dkwX5_end_0 ++ []
theorem dksX5_end_0 : cX5_end.data.toList.drop 0 = dktX5_end_0 := by decide +kernel
theorem dX5_end_0 : decode cX5_end 0 = .ok (.iload_n 1, 1) := dk_27 (dk_at dksX5_end_0 0 rfl rfl)
theorem dX5_end_1 : decode cX5_end 1 = .ok (.iconst 0, 1) := dk_3 (dk_at dksX5_end_0 1 rfl rfl)
theorem dX5_end_2 : decode cX5_end 2 = .ok (.aload_n 0, 1) := dk_42 (dk_at dksX5_end_0 2 rfl rfl)
theorem dX5_end_3 : decode cX5_end 3 = .ok (.getfield 181, 3) := dk_180 0 181 (dk_at dksX5_end_0 3 rfl rfl)
theorem dX5_end_6 : decode cX5_end 6 = .ok (.invokestatic 123, 3) := dk_184 0 123 (dk_at dksX5_end_0 6 rfl rfl)
theorem dX5_end_9 : decode cX5_end 9 = .ok (.ifCond .ne 5, 3) := dk_154 0 5 (dk_at dksX5_end_0 9 rfl rfl)
theorem dX5_end_12 : decode cX5_end 12 = .ok (.iconst (-1), 1) := dk_2 (dk_at dksX5_end_0 12 rfl rfl)
theorem dX5_end_13 : decode cX5_end 13 = .ok (.ireturn, 1) := dk_172 (dk_at dksX5_end_0 13 rfl rfl)
theorem dX5_end_14 : decode cX5_end 14 = .ok (.aload_n 0, 1) := dk_42 (dk_at dksX5_end_0 14 rfl rfl)
theorem dX5_end_15 : decode cX5_end 15 = .ok (.iload_n 1, 1) := dk_27 (dk_at dksX5_end_0 15 rfl rfl)
theorem dX5_end_16 : decode cX5_end 16 = .ok (.putfield 181, 3) := dk_181 0 181 (dk_at dksX5_end_0 16 rfl rfl)
theorem dX5_end_19 : decode cX5_end 19 = .ok (.iload_n 1, 1) := dk_27 (dk_at dksX5_end_0 19 rfl rfl)
theorem dX5_end_20 : decode cX5_end 20 = .ok (.ireturn, 1) := dk_172 (dk_at dksX5_end_0 20 rfl rfl)
noncomputable def f_X5_end (E : ax_E) (x0 : Option Nat) (x1 : Int) (h : ax_H) : Option (Int × ax_H) :=
  (ax_gI E h x0 5 11).bind fun v1 =>
  (f_X5_lies E x1 0 v1 h).bind fun q2 =>
  if i2 q2.1 = 0 then
    some ((-1), q2.2)
  else
    (ax_pI q2.2 x0 5 11 x1).bind fun h3 =>
    some (x1, h3)
set_option maxHeartbeats 4000000 in
theorem we_X5_end {l : Launch} {G : ax_G} {X : ax_X} {Q : State → Prop} {h0 h : ax_H} {ls : Array Slot} (hSF : ax_SF G) (B : ax_BL l G X cX5_end 2 RX5 2 62) (Z : ax_Z X h0 ((some FieldType.int))) (hn : X.2.2.2.2.2.2.2.2.1.name = yX5_end.name) (x0 : Option Nat) (x1 : Int) {w : Int × ax_H} (hl : ax_hl ls 2 [(0, .inr (.inr x0)), (1, .inl x1)]) (e : f_X5_end G.2.2 x0 x1 h = some w) (hp : (fun w : Int × ax_H => Q = ax_Q G X h0 w.2 (some (.int (Int32.ofInt w.1)))) w) : ax_W G X Q h 0 ls [] := by
  unfold f_X5_end at e
  refine ax_iload_n B dX5_end_0 rfl hl 1 rfl ?_
  refine ax_iconst B dX5_end_1 ?_
  refine ax_aload_n B dX5_end_2 rfl hl 0 rfl ?_
  refine ax_getI B ff_X5_181_5 (fun _ _ => rfl) dX5_end_3 e (fun v1 e => ?_)
  refine ax_isI (y := yX5_lies) (n := 3) (As := [.int (Int32.ofInt x1), .int (Int32.ofInt 0), .int (Int32.ofInt v1)]) B (lw_S q2151 q2152 q133 q2153) (by decide +kernel) ⟨Nat.le_of_ble_eq_true rfl, Nat.le_of_ble_eq_true rfl⟩ (fun w1 e1 => mt_X5_lies l G hSF x1 0 v1 _ w1 e1) rfl hl.size (by decide) dX5_end_6 e (fun q2 e => ?_)
  refine ax_if_ne (tgt := 14) B dX5_end_9 (by decide) e (fun e => ?_) (fun e => ?_)
  · refine ax_iconst B dX5_end_12 ?_
    have e8 := e
    have hp : Q = _ := hp
    subst hp
    exact ax_ireturn B Z dX5_end_13 e8
  · refine ax_aload_n B dX5_end_14 rfl hl 0 rfl ?_
    refine ax_iload_n B dX5_end_15 rfl hl 1 rfl ?_
    refine ax_putI B ff_X5_181_5 (Or.inl rfl) rfl dX5_end_16 e (fun h3 e => ?_)
    refine ax_iload_n B dX5_end_19 rfl hl 1 rfl ?_
    have e8 := e
    have hp : Q = _ := hp
    subst hp
    exact ax_ireturn B Z dX5_end_20 e8
theorem mt_X5_end (l : Launch) (G : ax_G) (hSF : ax_SF G) (x0 : Option Nat) (x1 : Int) (h : ax_H) (w : Int × ax_H) (e : f_X5_end G.2.2 x0 x1 h = some w) : ax_Met l G yX5_end cX5_end 2 ((some FieldType.int)) 2 62 [va_rf x0, .int (Int32.ofInt x1)] h w.2 (some (.int (Int32.ofInt w.1))) :=
  ax_enter [.inr (.inr x0), .inl x1] (y := yX5_end) hSF (plainFor_of_name (by decide +kernel)) (Nat.le_of_ble_eq_true rfl) (fun X ls B Z hn hl => we_X5_end hSF B Z hn x0 x1 hl e rfl)
def dkwX5_isSmall_0 : List UInt8 := [26, 16, 97, 161, 0, 13, 26, 16, 122, 163, 0, 7, 4, 167, 0, 4, 3, 172]
abbrev dktX5_isSmall_0 : List UInt8 := dkwX5_isSmall_0 ++ []
theorem dksX5_isSmall_0 : cX5_isSmall.data.toList.drop 0 = dktX5_isSmall_0 := by decide +kernel
theorem dX5_isSmall_0 : decode cX5_isSmall 0 = .ok (.iload_n 0, 1) := dk_26 (dk_at dksX5_isSmall_0 0 rfl rfl)
theorem dX5_isSmall_1 : decode cX5_isSmall 1 = .ok (.bipush 97, 2) := dk_16 97 (dk_at dksX5_isSmall_0 1 rfl rfl)
theorem dX5_isSmall_3 : decode cX5_isSmall 3 = .ok (.if_icmp .lt 13, 3) := dk_161 0 13 (dk_at dksX5_isSmall_0 3 rfl rfl)
theorem dX5_isSmall_6 : decode cX5_isSmall 6 = .ok (.iload_n 0, 1) := dk_26 (dk_at dksX5_isSmall_0 6 rfl rfl)
theorem dX5_isSmall_7 : decode cX5_isSmall 7 = .ok (.bipush 122, 2) := dk_16 122 (dk_at dksX5_isSmall_0 7 rfl rfl)
theorem dX5_isSmall_9 : decode cX5_isSmall 9 = .ok (.if_icmp .gt 7, 3) := dk_163 0 7 (dk_at dksX5_isSmall_0 9 rfl rfl)
theorem dX5_isSmall_12 : decode cX5_isSmall 12 = .ok (.iconst 1, 1) := dk_4 (dk_at dksX5_isSmall_0 12 rfl rfl)
theorem dX5_isSmall_13 : decode cX5_isSmall 13 = .ok (.goto 4, 3) := dk_167 0 4 (dk_at dksX5_isSmall_0 13 rfl rfl)
theorem dX5_isSmall_16 : decode cX5_isSmall 16 = .ok (.iconst 0, 1) := dk_3 (dk_at dksX5_isSmall_0 16 rfl rfl)
theorem dX5_isSmall_17 : decode cX5_isSmall 17 = .ok (.ireturn, 1) := dk_172 (dk_at dksX5_isSmall_0 17 rfl rfl)
noncomputable def f_X5_isSmall_16 (E : ax_E) (h : ax_H) : Option (Int × ax_H) :=
  some (0, h)
noncomputable def f_X5_isSmall (E : ax_E) (x0 : Int) (h : ax_H) : Option (Int × ax_H) :=
  if i2 x0 < i2 97 then
    f_X5_isSmall_16 E h
  else
    if i2 122 < i2 x0 then
      f_X5_isSmall_16 E h
    else
      some (1, h)
set_option maxHeartbeats 4000000 in
theorem w_X5_isSmall_16 {l : Launch} {G : ax_G} {X : ax_X} {Q : State → Prop} {h0 h : ax_H} {ls : Array Slot} (hSF : ax_SF G) (B : ax_BL l G X cX5_isSmall 1 RX5 1 40) (Z : ax_Z X h0 ((some FieldType.boolean))) (hn : X.2.2.2.2.2.2.2.2.1.name = yX5_isSmall.name) {w : Int × ax_H} (hl : ax_hl ls 1 []) (e : f_X5_isSmall_16 G.2.2 h = some w) (hp : (fun w : Int × ax_H => Q = ax_Q G X h0 w.2 (some (.int (Int32.ofInt w.1)))) w) : ax_W G X Q h 16 ls [] := by
  unfold f_X5_isSmall_16 at e
  refine ax_iconst B dX5_isSmall_16 ?_
  have e8 := e
  have hp : Q = _ := hp
  subst hp
  exact ax_zreturnL (by decide) B Z dX5_isSmall_17 e8
set_option maxHeartbeats 4000000 in
theorem we_X5_isSmall {l : Launch} {G : ax_G} {X : ax_X} {Q : State → Prop} {h0 h : ax_H} {ls : Array Slot} (hSF : ax_SF G) (B : ax_BL l G X cX5_isSmall 1 RX5 1 40) (Z : ax_Z X h0 ((some FieldType.boolean))) (hn : X.2.2.2.2.2.2.2.2.1.name = yX5_isSmall.name) (x0 : Int) {w : Int × ax_H} (hl : ax_hl ls 1 [(0, .inl x0)]) (e : f_X5_isSmall G.2.2 x0 h = some w) (hp : (fun w : Int × ax_H => Q = ax_Q G X h0 w.2 (some (.int (Int32.ofInt w.1)))) w) : ax_W G X Q h 0 ls [] := by
  unfold f_X5_isSmall at e
  refine ax_iload_n B dX5_isSmall_0 rfl hl 0 rfl ?_
  refine ax_bipush B dX5_isSmall_1 (by decide) ?_
  refine ax_icmp_lt (tgt := 16) B dX5_isSmall_3 (by decide) e (fun e => ?_) (fun e => ?_)
  · exact w_X5_isSmall_16 hSF B Z hn (hl.sub [] rfl) e hp
  · refine ax_iload_n B dX5_isSmall_6 rfl hl 0 rfl ?_
    refine ax_bipush B dX5_isSmall_7 (by decide) ?_
    refine ax_icmp_gt (tgt := 16) B dX5_isSmall_9 (by decide) e (fun e => ?_) (fun e => ?_)
    · exact w_X5_isSmall_16 hSF B Z hn (hl.sub [] rfl) e hp
    · refine ax_iconst B dX5_isSmall_12 ?_
      refine ax_goto (tgt := 17) B dX5_isSmall_13 (by decide) ?_
      have e8 := e
      have hp : Q = _ := hp
      subst hp
      exact ax_zreturnL (by decide) B Z dX5_isSmall_17 e8
theorem mt_X5_isSmall (l : Launch) (G : ax_G) (hSF : ax_SF G) (x0 : Int) (h : ax_H) (w : Int × ax_H) (e : f_X5_isSmall G.2.2 x0 h = some w) : ax_Met l G yX5_isSmall cX5_isSmall 1 ((some FieldType.boolean)) 1 40 [.int (Int32.ofInt x0)] h w.2 (some (.int (Int32.ofInt w.1))) :=
  ax_enter [.inl x0] (y := yX5_isSmall) hSF (plainFor_of_name (by decide +kernel)) (Nat.le_of_ble_eq_true rfl) (fun X ls B Z hn hl => we_X5_isSmall hSF B Z hn x0 hl e rfl)
def dkwX5_isDigit_0 : List UInt8 := [26, 16, 48, 161, 0, 13, 26, 16, 57, 163, 0, 7, 4, 167, 0, 4, 3, 172]
abbrev dktX5_isDigit_0 : List UInt8 := dkwX5_isDigit_0 ++ []
theorem dksX5_isDigit_0 : cX5_isDigit.data.toList.drop 0 = dktX5_isDigit_0 := by decide +kernel
theorem dX5_isDigit_0 : decode cX5_isDigit 0 = .ok (.iload_n 0, 1) := dk_26 (dk_at dksX5_isDigit_0 0 rfl rfl)
theorem dX5_isDigit_1 : decode cX5_isDigit 1 = .ok (.bipush 48, 2) := dk_16 48 (dk_at dksX5_isDigit_0 1 rfl rfl)
theorem dX5_isDigit_3 : decode cX5_isDigit 3 = .ok (.if_icmp .lt 13, 3) := dk_161 0 13 (dk_at dksX5_isDigit_0 3 rfl rfl)
theorem dX5_isDigit_6 : decode cX5_isDigit 6 = .ok (.iload_n 0, 1) := dk_26 (dk_at dksX5_isDigit_0 6 rfl rfl)
theorem dX5_isDigit_7 : decode cX5_isDigit 7 = .ok (.bipush 57, 2) := dk_16 57 (dk_at dksX5_isDigit_0 7 rfl rfl)
theorem dX5_isDigit_9 : decode cX5_isDigit 9 = .ok (.if_icmp .gt 7, 3) := dk_163 0 7 (dk_at dksX5_isDigit_0 9 rfl rfl)
theorem dX5_isDigit_12 : decode cX5_isDigit 12 = .ok (.iconst 1, 1) := dk_4 (dk_at dksX5_isDigit_0 12 rfl rfl)
theorem dX5_isDigit_13 : decode cX5_isDigit 13 = .ok (.goto 4, 3) := dk_167 0 4 (dk_at dksX5_isDigit_0 13 rfl rfl)
theorem dX5_isDigit_16 : decode cX5_isDigit 16 = .ok (.iconst 0, 1) := dk_3 (dk_at dksX5_isDigit_0 16 rfl rfl)
theorem dX5_isDigit_17 : decode cX5_isDigit 17 = .ok (.ireturn, 1) := dk_172 (dk_at dksX5_isDigit_0 17 rfl rfl)
noncomputable def f_X5_isDigit_16 (E : ax_E) (h : ax_H) : Option (Int × ax_H) :=
  some (0, h)
noncomputable def f_X5_isDigit (E : ax_E) (x0 : Int) (h : ax_H) : Option (Int × ax_H) :=
  if i2 x0 < i2 48 then
    f_X5_isDigit_16 E h
  else
    if i2 57 < i2 x0 then
      f_X5_isDigit_16 E h
    else
      some (1, h)
set_option maxHeartbeats 4000000 in
theorem w_X5_isDigit_16 {l : Launch} {G : ax_G} {X : ax_X} {Q : State → Prop} {h0 h : ax_H} {ls : Array Slot} (hSF : ax_SF G) (B : ax_BL l G X cX5_isDigit 1 RX5 1 40) (Z : ax_Z X h0 ((some FieldType.boolean))) (hn : X.2.2.2.2.2.2.2.2.1.name = yX5_isDigit.name) {w : Int × ax_H} (hl : ax_hl ls 1 []) (e : f_X5_isDigit_16 G.2.2 h = some w) (hp : (fun w : Int × ax_H => Q = ax_Q G X h0 w.2 (some (.int (Int32.ofInt w.1)))) w) : ax_W G X Q h 16 ls [] := by
  unfold f_X5_isDigit_16 at e
  refine ax_iconst B dX5_isDigit_16 ?_
  have e8 := e
  have hp : Q = _ := hp
  subst hp
  exact ax_zreturnL (by decide) B Z dX5_isDigit_17 e8
set_option maxHeartbeats 4000000 in
theorem we_X5_isDigit {l : Launch} {G : ax_G} {X : ax_X} {Q : State → Prop} {h0 h : ax_H} {ls : Array Slot} (hSF : ax_SF G) (B : ax_BL l G X cX5_isDigit 1 RX5 1 40) (Z : ax_Z X h0 ((some FieldType.boolean))) (hn : X.2.2.2.2.2.2.2.2.1.name = yX5_isDigit.name) (x0 : Int) {w : Int × ax_H} (hl : ax_hl ls 1 [(0, .inl x0)]) (e : f_X5_isDigit G.2.2 x0 h = some w) (hp : (fun w : Int × ax_H => Q = ax_Q G X h0 w.2 (some (.int (Int32.ofInt w.1)))) w) : ax_W G X Q h 0 ls [] := by
  unfold f_X5_isDigit at e
  refine ax_iload_n B dX5_isDigit_0 rfl hl 0 rfl ?_
  refine ax_bipush B dX5_isDigit_1 (by decide) ?_
  refine ax_icmp_lt (tgt := 16) B dX5_isDigit_3 (by decide) e (fun e => ?_) (fun e => ?_)
  · exact w_X5_isDigit_16 hSF B Z hn (hl.sub [] rfl) e hp
  · refine ax_iload_n B dX5_isDigit_6 rfl hl 0 rfl ?_
    refine ax_bipush B dX5_isDigit_7 (by decide) ?_
    refine ax_icmp_gt (tgt := 16) B dX5_isDigit_9 (by decide) e (fun e => ?_) (fun e => ?_)
    · exact w_X5_isDigit_16 hSF B Z hn (hl.sub [] rfl) e hp
    · refine ax_iconst B dX5_isDigit_12 ?_
      refine ax_goto (tgt := 17) B dX5_isDigit_13 (by decide) ?_
      have e8 := e
      have hp : Q = _ := hp
      subst hp
      exact ax_zreturnL (by decide) B Z dX5_isDigit_17 e8
theorem mt_X5_isDigit (l : Launch) (G : ax_G) (hSF : ax_SF G) (x0 : Int) (h : ax_H) (w : Int × ax_H) (e : f_X5_isDigit G.2.2 x0 h = some w) : ax_Met l G yX5_isDigit cX5_isDigit 1 ((some FieldType.boolean)) 1 40 [.int (Int32.ofInt x0)] h w.2 (some (.int (Int32.ofInt w.1))) :=
  ax_enter [.inl x0] (y := yX5_isDigit) hSF (plainFor_of_name (by decide +kernel)) (Nat.le_of_ble_eq_true rfl) (fun X ls B Z hn hl => we_X5_isDigit hSF B Z hn x0 hl e rfl)
def dkwX5_wordOf_5 : List UInt8 := [96, 96, 54, 4, 132, 3, 1, 167, 255, 138, 3, 172]
abbrev dktX5_wordOf_5 : List UInt8 := dkwX5_wordOf_5 ++ []
def dkwX5_wordOf_4 : List UInt8 := [167, 0, 4, 3, 54, 6, 132, 7, 1, 167, 255, 212, 21, 6, 153, 0, 5, 29, 172, 21, 4, 21, 5, 4]
abbrev dktX5_wordOf_4 : List UInt8 := dkwX5_wordOf_4 ++ dktX5_wordOf_5
def dkwX5_wordOf_3 : List UInt8 := [180, 0, 37, 21, 4, 21, 7, 96, 51, 42, 180, 0, 41, 27, 21, 7, 96, 51, 160, 0, 7, 4]
abbrev dktX5_wordOf_3 : List UInt8 := dkwX5_wordOf_3 ++ dktX5_wordOf_4
def dkwX5_wordOf_2 : List UInt8 := [167, 0, 4, 3, 54, 6, 3, 54, 7, 21, 7, 21, 5, 162, 0, 43, 21, 6, 153, 0, 38, 42]
abbrev dktX5_wordOf_2 : List UInt8 := dkwX5_wordOf_2 ++ dktX5_wordOf_3
def dkwX5_wordOf_1 : List UInt8 := [21, 5, 96, 51, 16, 32, 159, 0, 9, 132, 5, 1, 167, 255, 238, 21, 5, 28, 27, 100, 160, 0, 7, 4]
abbrev dktX5_wordOf_1 : List UInt8 := dkwX5_wordOf_1 ++ dktX5_wordOf_2
def dkwX5_wordOf_0 : List UInt8 := [4, 62, 3, 54, 4, 21, 4, 42, 180, 0, 37, 190, 162, 0, 114, 3, 54, 5, 42, 180, 0, 37, 21, 4]
abbrev dktX5_wordOf_0 : List UInt8 := dkwX5_wordOf_0 ++ dktX5_wordOf_1
theorem dksX5_wordOf_0 : cX5_wordOf.data.toList.drop 0 = dktX5_wordOf_0 := by decide +kernel
theorem dksX5_wordOf_1 : cX5_wordOf.data.toList.drop 24 = dktX5_wordOf_1 := dk_seg dksX5_wordOf_0 24 rfl rfl
theorem dksX5_wordOf_2 : cX5_wordOf.data.toList.drop 48 = dktX5_wordOf_2 := dk_seg dksX5_wordOf_1 24 rfl rfl
theorem dksX5_wordOf_3 : cX5_wordOf.data.toList.drop 70 = dktX5_wordOf_3 := dk_seg dksX5_wordOf_2 22 rfl rfl
theorem dksX5_wordOf_4 : cX5_wordOf.data.toList.drop 92 = dktX5_wordOf_4 := dk_seg dksX5_wordOf_3 22 rfl rfl
theorem dksX5_wordOf_5 : cX5_wordOf.data.toList.drop 116 = dktX5_wordOf_5 := dk_seg dksX5_wordOf_4 24 rfl rfl
theorem dX5_wordOf_0 : decode cX5_wordOf 0 = .ok (.iconst 1, 1) := dk_4 (dk_at dksX5_wordOf_0 0 rfl rfl)
theorem dX5_wordOf_1 : decode cX5_wordOf 1 = .ok (.istore_n 3, 1) := dk_62 (dk_at dksX5_wordOf_0 1 rfl rfl)
theorem dX5_wordOf_2 : decode cX5_wordOf 2 = .ok (.iconst 0, 1) := dk_3 (dk_at dksX5_wordOf_0 2 rfl rfl)
theorem dX5_wordOf_3 : decode cX5_wordOf 3 = .ok (.istore 4, 2) := dk_54 4 (dk_at dksX5_wordOf_0 3 rfl rfl)
theorem dX5_wordOf_5 : decode cX5_wordOf 5 = .ok (.iload 4, 2) := dk_21 4 (dk_at dksX5_wordOf_0 5 rfl rfl)
theorem dX5_wordOf_7 : decode cX5_wordOf 7 = .ok (.aload_n 0, 1) := dk_42 (dk_at dksX5_wordOf_0 7 rfl rfl)
theorem dX5_wordOf_8 : decode cX5_wordOf 8 = .ok (.getfield 37, 3) := dk_180 0 37 (dk_at dksX5_wordOf_0 8 rfl rfl)
theorem dX5_wordOf_11 : decode cX5_wordOf 11 = .ok (.arraylength, 1) := dk_190 (dk_at dksX5_wordOf_0 11 rfl rfl)
theorem dX5_wordOf_12 : decode cX5_wordOf 12 = .ok (.if_icmp .ge 114, 3) := dk_162 0 114 (dk_at dksX5_wordOf_0 12 rfl rfl)
theorem dX5_wordOf_15 : decode cX5_wordOf 15 = .ok (.iconst 0, 1) := dk_3 (dk_at dksX5_wordOf_0 15 rfl rfl)
theorem dX5_wordOf_16 : decode cX5_wordOf 16 = .ok (.istore 5, 2) := dk_54 5 (dk_at dksX5_wordOf_0 16 rfl rfl)
theorem dX5_wordOf_18 : decode cX5_wordOf 18 = .ok (.aload_n 0, 1) := dk_42 (dk_at dksX5_wordOf_0 18 rfl rfl)
theorem dX5_wordOf_19 : decode cX5_wordOf 19 = .ok (.getfield 37, 3) := dk_180 0 37 (dk_at dksX5_wordOf_0 19 rfl rfl)
theorem dX5_wordOf_22 : decode cX5_wordOf 22 = .ok (.iload 4, 2) := dk_21 4 (dk_at dksX5_wordOf_0 22 rfl rfl)
theorem dX5_wordOf_24 : decode cX5_wordOf 24 = .ok (.iload 5, 2) := dk_21 5 (dk_at dksX5_wordOf_1 0 rfl rfl)
theorem dX5_wordOf_26 : decode cX5_wordOf 26 = .ok (.iadd, 1) := dk_96 (dk_at dksX5_wordOf_1 2 rfl rfl)
theorem dX5_wordOf_27 : decode cX5_wordOf 27 = .ok (.baload, 1) := dk_51 (dk_at dksX5_wordOf_1 3 rfl rfl)
theorem dX5_wordOf_28 : decode cX5_wordOf 28 = .ok (.bipush 32, 2) := dk_16 32 (dk_at dksX5_wordOf_1 4 rfl rfl)
theorem dX5_wordOf_30 : decode cX5_wordOf 30 = .ok (.if_icmp .eq 9, 3) := dk_159 0 9 (dk_at dksX5_wordOf_1 6 rfl rfl)
theorem dX5_wordOf_33 : decode cX5_wordOf 33 = .ok (.iinc 5 1, 3) := dk_132 5 1 (dk_at dksX5_wordOf_1 9 rfl rfl)
theorem dX5_wordOf_36 : decode cX5_wordOf 36 = .ok (.goto (-18), 3) := dk_167 255 238 (dk_at dksX5_wordOf_1 12 rfl rfl)
theorem dX5_wordOf_39 : decode cX5_wordOf 39 = .ok (.iload 5, 2) := dk_21 5 (dk_at dksX5_wordOf_1 15 rfl rfl)
theorem dX5_wordOf_41 : decode cX5_wordOf 41 = .ok (.iload_n 2, 1) := dk_28 (dk_at dksX5_wordOf_1 17 rfl rfl)
theorem dX5_wordOf_42 : decode cX5_wordOf 42 = .ok (.iload_n 1, 1) := dk_27 (dk_at dksX5_wordOf_1 18 rfl rfl)
theorem dX5_wordOf_43 : decode cX5_wordOf 43 = .ok (.isub, 1) := dk_100 (dk_at dksX5_wordOf_1 19 rfl rfl)
theorem dX5_wordOf_44 : decode cX5_wordOf 44 = .ok (.if_icmp .ne 7, 3) := dk_160 0 7 (dk_at dksX5_wordOf_1 20 rfl rfl)
theorem dX5_wordOf_47 : decode cX5_wordOf 47 = .ok (.iconst 1, 1) := dk_4 (dk_at dksX5_wordOf_1 23 rfl rfl)
theorem dX5_wordOf_48 : decode cX5_wordOf 48 = .ok (.goto 4, 3) := dk_167 0 4 (dk_at dksX5_wordOf_2 0 rfl rfl)
theorem dX5_wordOf_51 : decode cX5_wordOf 51 = .ok (.iconst 0, 1) := dk_3 (dk_at dksX5_wordOf_2 3 rfl rfl)
theorem dX5_wordOf_52 : decode cX5_wordOf 52 = .ok (.istore 6, 2) := dk_54 6 (dk_at dksX5_wordOf_2 4 rfl rfl)
theorem dX5_wordOf_54 : decode cX5_wordOf 54 = .ok (.iconst 0, 1) := dk_3 (dk_at dksX5_wordOf_2 6 rfl rfl)
theorem dX5_wordOf_55 : decode cX5_wordOf 55 = .ok (.istore 7, 2) := dk_54 7 (dk_at dksX5_wordOf_2 7 rfl rfl)
theorem dX5_wordOf_57 : decode cX5_wordOf 57 = .ok (.iload 7, 2) := dk_21 7 (dk_at dksX5_wordOf_2 9 rfl rfl)
theorem dX5_wordOf_59 : decode cX5_wordOf 59 = .ok (.iload 5, 2) := dk_21 5 (dk_at dksX5_wordOf_2 11 rfl rfl)
theorem dX5_wordOf_61 : decode cX5_wordOf 61 = .ok (.if_icmp .ge 43, 3) := dk_162 0 43 (dk_at dksX5_wordOf_2 13 rfl rfl)
theorem dX5_wordOf_64 : decode cX5_wordOf 64 = .ok (.iload 6, 2) := dk_21 6 (dk_at dksX5_wordOf_2 16 rfl rfl)
theorem dX5_wordOf_66 : decode cX5_wordOf 66 = .ok (.ifCond .eq 38, 3) := dk_153 0 38 (dk_at dksX5_wordOf_2 18 rfl rfl)
theorem dX5_wordOf_69 : decode cX5_wordOf 69 = .ok (.aload_n 0, 1) := dk_42 (dk_at dksX5_wordOf_2 21 rfl rfl)
theorem dX5_wordOf_70 : decode cX5_wordOf 70 = .ok (.getfield 37, 3) := dk_180 0 37 (dk_at dksX5_wordOf_3 0 rfl rfl)
theorem dX5_wordOf_73 : decode cX5_wordOf 73 = .ok (.iload 4, 2) := dk_21 4 (dk_at dksX5_wordOf_3 3 rfl rfl)
theorem dX5_wordOf_75 : decode cX5_wordOf 75 = .ok (.iload 7, 2) := dk_21 7 (dk_at dksX5_wordOf_3 5 rfl rfl)
theorem dX5_wordOf_77 : decode cX5_wordOf 77 = .ok (.iadd, 1) := dk_96 (dk_at dksX5_wordOf_3 7 rfl rfl)
theorem dX5_wordOf_78 : decode cX5_wordOf 78 = .ok (.baload, 1) := dk_51 (dk_at dksX5_wordOf_3 8 rfl rfl)
theorem dX5_wordOf_79 : decode cX5_wordOf 79 = .ok (.aload_n 0, 1) := dk_42 (dk_at dksX5_wordOf_3 9 rfl rfl)
theorem dX5_wordOf_80 : decode cX5_wordOf 80 = .ok (.getfield 41, 3) := dk_180 0 41 (dk_at dksX5_wordOf_3 10 rfl rfl)
theorem dX5_wordOf_83 : decode cX5_wordOf 83 = .ok (.iload_n 1, 1) := dk_27 (dk_at dksX5_wordOf_3 13 rfl rfl)
theorem dX5_wordOf_84 : decode cX5_wordOf 84 = .ok (.iload 7, 2) := dk_21 7 (dk_at dksX5_wordOf_3 14 rfl rfl)
theorem dX5_wordOf_86 : decode cX5_wordOf 86 = .ok (.iadd, 1) := dk_96 (dk_at dksX5_wordOf_3 16 rfl rfl)
theorem dX5_wordOf_87 : decode cX5_wordOf 87 = .ok (.baload, 1) := dk_51 (dk_at dksX5_wordOf_3 17 rfl rfl)
theorem dX5_wordOf_88 : decode cX5_wordOf 88 = .ok (.if_icmp .ne 7, 3) := dk_160 0 7 (dk_at dksX5_wordOf_3 18 rfl rfl)
theorem dX5_wordOf_91 : decode cX5_wordOf 91 = .ok (.iconst 1, 1) := dk_4 (dk_at dksX5_wordOf_3 21 rfl rfl)
theorem dX5_wordOf_92 : decode cX5_wordOf 92 = .ok (.goto 4, 3) := dk_167 0 4 (dk_at dksX5_wordOf_4 0 rfl rfl)
theorem dX5_wordOf_95 : decode cX5_wordOf 95 = .ok (.iconst 0, 1) := dk_3 (dk_at dksX5_wordOf_4 3 rfl rfl)
theorem dX5_wordOf_96 : decode cX5_wordOf 96 = .ok (.istore 6, 2) := dk_54 6 (dk_at dksX5_wordOf_4 4 rfl rfl)
theorem dX5_wordOf_98 : decode cX5_wordOf 98 = .ok (.iinc 7 1, 3) := dk_132 7 1 (dk_at dksX5_wordOf_4 6 rfl rfl)
theorem dX5_wordOf_101 : decode cX5_wordOf 101 = .ok (.goto (-44), 3) := dk_167 255 212 (dk_at dksX5_wordOf_4 9 rfl rfl)
theorem dX5_wordOf_104 : decode cX5_wordOf 104 = .ok (.iload 6, 2) := dk_21 6 (dk_at dksX5_wordOf_4 12 rfl rfl)
theorem dX5_wordOf_106 : decode cX5_wordOf 106 = .ok (.ifCond .eq 5, 3) := dk_153 0 5 (dk_at dksX5_wordOf_4 14 rfl rfl)
theorem dX5_wordOf_109 : decode cX5_wordOf 109 = .ok (.iload_n 3, 1) := dk_29 (dk_at dksX5_wordOf_4 17 rfl rfl)
theorem dX5_wordOf_110 : decode cX5_wordOf 110 = .ok (.ireturn, 1) := dk_172 (dk_at dksX5_wordOf_4 18 rfl rfl)
theorem dX5_wordOf_111 : decode cX5_wordOf 111 = .ok (.iload 4, 2) := dk_21 4 (dk_at dksX5_wordOf_4 19 rfl rfl)
theorem dX5_wordOf_113 : decode cX5_wordOf 113 = .ok (.iload 5, 2) := dk_21 5 (dk_at dksX5_wordOf_4 21 rfl rfl)
theorem dX5_wordOf_115 : decode cX5_wordOf 115 = .ok (.iconst 1, 1) := dk_4 (dk_at dksX5_wordOf_4 23 rfl rfl)
theorem dX5_wordOf_116 : decode cX5_wordOf 116 = .ok (.iadd, 1) := dk_96 (dk_at dksX5_wordOf_5 0 rfl rfl)
theorem dX5_wordOf_117 : decode cX5_wordOf 117 = .ok (.iadd, 1) := dk_96 (dk_at dksX5_wordOf_5 1 rfl rfl)
theorem dX5_wordOf_118 : decode cX5_wordOf 118 = .ok (.istore 4, 2) := dk_54 4 (dk_at dksX5_wordOf_5 2 rfl rfl)
theorem dX5_wordOf_120 : decode cX5_wordOf 120 = .ok (.iinc 3 1, 3) := dk_132 3 1 (dk_at dksX5_wordOf_5 4 rfl rfl)
theorem dX5_wordOf_123 : decode cX5_wordOf 123 = .ok (.goto (-118), 3) := dk_167 255 138 (dk_at dksX5_wordOf_5 7 rfl rfl)
theorem dX5_wordOf_126 : decode cX5_wordOf 126 = .ok (.iconst 0, 1) := dk_3 (dk_at dksX5_wordOf_5 10 rfl rfl)
theorem dX5_wordOf_127 : decode cX5_wordOf 127 = .ok (.ireturn, 1) := dk_172 (dk_at dksX5_wordOf_5 11 rfl rfl)
noncomputable def f_X5_wordOf_96 (E : ax_E) (x0 : Option Nat) (x1 : Int) (x2 : Int) (x3 : Int) (x4 : Int) (x5 : Int) (x7 : Int) (s0 : Int) (h : ax_H) : Option ((Int × Int × ax_H) ⊕ ((Int × Int × ax_H) ⊕ (Int × ax_H))) :=
  some (.inl (s0, (x7 + 1), h))
noncomputable def f_X5_wordOf_104 (E : ax_E) (x0 : Option Nat) (x1 : Int) (x2 : Int) (x3 : Int) (x4 : Int) (x5 : Int) (x6 : Int) (h : ax_H) : Option ((Int × Int × ax_H) ⊕ (Int × ax_H)) :=
  if i2 x6 = 0 then
    some (.inl ((x3 + 1), (x4 + (x5 + 1)), h))
  else
    (some (x3, h)).map Sum.inr
noncomputable def lb_X5_wordOf_57 (E : ax_E) (x0 : Option Nat) (x1 : Int) (x2 : Int) (x3 : Int) (x4 : Int) (x5 : Int) (x6 : Int) (x7 : Int) (h : ax_H) : Option ((Int × Int × ax_H) ⊕ ((Int × Int × ax_H) ⊕ (Int × ax_H))) :=
  if i2 x7 < i2 x5 then
    if i2 x6 = 0 then
      (f_X5_wordOf_104 E x0 x1 x2 x3 x4 x5 x6 h).map Sum.inr
    else
      (ax_gR E h x0 5 7).bind fun v1 =>
      (ax_ld E h v1 101 (x4 + x7)).bind fun v2 =>
      (ax_gR E h x0 5 9).bind fun v3 =>
      (ax_ld E h v3 101 (x1 + x7)).bind fun v4 =>
      if i2 v2 = i2 v4 then
        f_X5_wordOf_96 E x0 x1 x2 x3 x4 x5 x7 1 h
      else
        f_X5_wordOf_96 E x0 x1 x2 x3 x4 x5 x7 0 h
  else
    (f_X5_wordOf_104 E x0 x1 x2 x3 x4 x5 x6 h).map Sum.inr
noncomputable def f_X5_wordOf_57 (E : ax_E) (x0 : Option Nat) (x1 : Int) (x2 : Int) (x3 : Int) (x4 : Int) (x5 : Int) (x6 : Int) (x7 : Int) (h : ax_H) : Option ((Int × Int × ax_H) ⊕ (Int × ax_H)) :=
  ax_iter (fun s : Int × Int × ax_H => lb_X5_wordOf_57 E x0 x1 x2 x3 x4 x5 s.1 s.2.1 s.2.2) (x6, x7, h)
noncomputable def f_X5_wordOf_52 (E : ax_E) (x0 : Option Nat) (x1 : Int) (x2 : Int) (x3 : Int) (x4 : Int) (x5 : Int) (s0 : Int) (h : ax_H) : Option ((Int × Int × ax_H) ⊕ (Int × ax_H)) :=
  f_X5_wordOf_57 E x0 x1 x2 x3 x4 x5 s0 0 h
noncomputable def lb_X5_wordOf_18 (E : ax_E) (x0 : Option Nat) (x1 : Int) (x2 : Int) (x3 : Int) (x4 : Int) (x5 : Int) (h : ax_H) : Option ((Int × ax_H) ⊕ ((Int × Int × ax_H) ⊕ (Int × ax_H))) :=
  (ax_gR E h x0 5 7).bind fun v1 =>
  (ax_ld E h v1 101 (x4 + x5)).bind fun v2 =>
  if i2 v2 = i2 32 then
    (if i2 x5 = i2 (x2 - x1) then
      f_X5_wordOf_52 E x0 x1 x2 x3 x4 x5 1 h
    else
      f_X5_wordOf_52 E x0 x1 x2 x3 x4 x5 0 h).map Sum.inr
  else
    some (.inl ((x5 + 1), h))
noncomputable def f_X5_wordOf_18 (E : ax_E) (x0 : Option Nat) (x1 : Int) (x2 : Int) (x3 : Int) (x4 : Int) (x5 : Int) (h : ax_H) : Option ((Int × Int × ax_H) ⊕ (Int × ax_H)) :=
  ax_iter (fun s : Int × ax_H => lb_X5_wordOf_18 E x0 x1 x2 x3 x4 s.1 s.2) (x5, h)
noncomputable def lb_X5_wordOf_5 (E : ax_E) (x0 : Option Nat) (x1 : Int) (x2 : Int) (x3 : Int) (x4 : Int) (h : ax_H) : Option ((Int × Int × ax_H) ⊕ (Int × ax_H)) :=
  (ax_gR E h x0 5 7).bind fun v1 =>
  (ax_len E h v1 101).bind fun v2 =>
  if i2 x4 < i2 v2 then
    f_X5_wordOf_18 E x0 x1 x2 x3 x4 0 h
  else
    (some (0, h)).map Sum.inr
noncomputable def f_X5_wordOf_5 (E : ax_E) (x0 : Option Nat) (x1 : Int) (x2 : Int) (x3 : Int) (x4 : Int) (h : ax_H) : Option (Int × ax_H) :=
  ax_iter (fun s : Int × Int × ax_H => lb_X5_wordOf_5 E x0 x1 x2 s.1 s.2.1 s.2.2) (x3, x4, h)
noncomputable def f_X5_wordOf (E : ax_E) (x0 : Option Nat) (x1 : Int) (x2 : Int) (h : ax_H) : Option (Int × ax_H) :=
  f_X5_wordOf_5 E x0 x1 x2 1 0 h
def pi_X5_wordOf_57 (G : ax_G) (X : ax_X) (Q : State → Prop) (x0 : Option Nat) (x1 : Int) (x2 : Int) (x3 : Int) (x4 : Int) (x5 : Int) : Int × Int × ax_H → Prop := fun s => ∀ ls : Array Slot, ax_hl ls 8 [(0, .inr (.inr x0)), (1, .inl x1), (2, .inl x2), (3, .inl x3), (4, .inl x4), (5, .inl x5), (6, .inl s.1), (7, .inl s.2.1)] → ax_W G X Q s.2.2 57 ls []
def pi_X5_wordOf_18 (G : ax_G) (X : ax_X) (Q : State → Prop) (x0 : Option Nat) (x1 : Int) (x2 : Int) (x3 : Int) (x4 : Int) : Int × ax_H → Prop := fun s => ∀ ls : Array Slot, ax_hl ls 8 [(0, .inr (.inr x0)), (1, .inl x1), (2, .inl x2), (3, .inl x3), (4, .inl x4), (5, .inl s.1)] → ax_W G X Q s.2 18 ls []
def pi_X5_wordOf_5 (G : ax_G) (X : ax_X) (Q : State → Prop) (x0 : Option Nat) (x1 : Int) (x2 : Int) : Int × Int × ax_H → Prop := fun s => ∀ ls : Array Slot, ax_hl ls 8 [(0, .inr (.inr x0)), (1, .inl x1), (2, .inl x2), (3, .inl s.1), (4, .inl s.2.1)] → ax_W G X Q s.2.2 5 ls []
set_option maxHeartbeats 4000000 in
theorem w_X5_wordOf_96 {l : Launch} {G : ax_G} {X : ax_X} {Q : State → Prop} {h0 h : ax_H} {ls : Array Slot} (hSF : ax_SF G) (B : ax_BL l G X cX5_wordOf 8 RX5 1 40) (Z : ax_Z X h0 ((some FieldType.int))) (hn : X.2.2.2.2.2.2.2.2.1.name = yX5_wordOf.name) (x0 : Option Nat) (x1 : Int) (x2 : Int) (x3 : Int) (x4 : Int) (x5 : Int) (x7 : Int) (s0 : Int) {w : (Int × Int × ax_H) ⊕ ((Int × Int × ax_H) ⊕ (Int × ax_H))} (hl : ax_hl ls 8 [(0, .inr (.inr x0)), (1, .inl x1), (2, .inl x2), (3, .inl x3), (4, .inl x4), (5, .inl x5), (7, .inl x7)]) (e : f_X5_wordOf_96 G.2.2 x0 x1 x2 x3 x4 x5 x7 s0 h = some w) (hp : (ax_PL (pi_X5_wordOf_57 G X Q x0 x1 x2 x3 x4 x5) (ax_PL (pi_X5_wordOf_5 G X Q x0 x1 x2) (fun w : Int × ax_H => Q = ax_Q G X h0 w.2 (some (.int (Int32.ofInt w.1)))))) w) : ax_W G X Q h 96 ls [.int (Int32.ofInt s0)] := by
  unfold f_X5_wordOf_96 at e
  refine ax_istore (L' := [(6, .inl s0), (0, .inr (.inr x0)), (1, .inl x1), (2, .inl x2), (3, .inl x3), (4, .inl x4), (5, .inl x5), (7, .inl x7)]) B dX5_wordOf_96 hl (by decide) rfl (fun ls hl => ?_)
  refine ax_iinc (L' := [(7, .inl (x7 + 1)), (6, .inl s0), (0, .inr (.inr x0)), (1, .inl x1), (2, .inl x2), (3, .inl x3), (4, .inl x4), (5, .inl x5)]) B dX5_wordOf_98 hl 7 rfl (by decide) rfl (fun ls hl => ?_)
  refine ax_goto (tgt := 57) B dX5_wordOf_101 (by decide) ?_
  cases e
  exact hp _ (hl.sub [2, 3, 4, 5, 6, 7, 1, 0] rfl)
set_option maxHeartbeats 4000000 in
theorem w_X5_wordOf_104 {l : Launch} {G : ax_G} {X : ax_X} {Q : State → Prop} {h0 h : ax_H} {ls : Array Slot} (hSF : ax_SF G) (B : ax_BL l G X cX5_wordOf 8 RX5 1 40) (Z : ax_Z X h0 ((some FieldType.int))) (hn : X.2.2.2.2.2.2.2.2.1.name = yX5_wordOf.name) (x0 : Option Nat) (x1 : Int) (x2 : Int) (x3 : Int) (x4 : Int) (x5 : Int) (x6 : Int) {w : (Int × Int × ax_H) ⊕ (Int × ax_H)} (hl : ax_hl ls 8 [(0, .inr (.inr x0)), (1, .inl x1), (2, .inl x2), (3, .inl x3), (4, .inl x4), (5, .inl x5), (6, .inl x6)]) (e : f_X5_wordOf_104 G.2.2 x0 x1 x2 x3 x4 x5 x6 h = some w) (hp : (ax_PL (pi_X5_wordOf_5 G X Q x0 x1 x2) (fun w : Int × ax_H => Q = ax_Q G X h0 w.2 (some (.int (Int32.ofInt w.1))))) w) : ax_W G X Q h 104 ls [] := by
  unfold f_X5_wordOf_104 at e
  refine ax_iload B dX5_wordOf_104 hl 6 rfl ?_
  refine ax_if_eq (tgt := 111) B dX5_wordOf_106 (by decide) e (fun e => ?_) (fun e => ?_)
  · refine ax_iload B dX5_wordOf_111 hl 4 rfl ?_
    refine ax_iload B dX5_wordOf_113 hl 5 rfl ?_
    refine ax_iconst B dX5_wordOf_115 ?_
    refine ax_iadd' B dX5_wordOf_116 ?_
    refine ax_iadd' B dX5_wordOf_117 ?_
    refine ax_istore (L' := [(4, .inl (x4 + (x5 + 1))), (0, .inr (.inr x0)), (1, .inl x1), (2, .inl x2), (3, .inl x3), (5, .inl x5), (6, .inl x6)]) B dX5_wordOf_118 hl (by decide) rfl (fun ls hl => ?_)
    refine ax_iinc (L' := [(3, .inl (x3 + 1)), (4, .inl (x4 + (x5 + 1))), (0, .inr (.inr x0)), (1, .inl x1), (2, .inl x2), (5, .inl x5), (6, .inl x6)]) B dX5_wordOf_120 hl 4 rfl (by decide) rfl (fun ls hl => ?_)
    refine ax_goto (tgt := 5) B dX5_wordOf_123 (by decide) ?_
    cases e
    exact hp _ (hl.sub [2, 3, 4, 0, 1] rfl)
  · obtain ⟨w, e9_1, rfl⟩ := Option.map_eq_some_iff.mp e
    have e := e9_1
    refine ax_iload_n B dX5_wordOf_109 rfl hl 3 rfl ?_
    have e8 := e
    have hp : Q = _ := hp
    subst hp
    exact ax_ireturn B Z dX5_wordOf_110 e8
set_option maxHeartbeats 4000000 in
theorem wb_X5_wordOf_57 {l : Launch} {G : ax_G} {X : ax_X} {Q : State → Prop} {h0 h : ax_H} {ls : Array Slot} (hSF : ax_SF G) (B : ax_BL l G X cX5_wordOf 8 RX5 1 40) (Z : ax_Z X h0 ((some FieldType.int))) (hn : X.2.2.2.2.2.2.2.2.1.name = yX5_wordOf.name) (x0 : Option Nat) (x1 : Int) (x2 : Int) (x3 : Int) (x4 : Int) (x5 : Int) (x6 : Int) (x7 : Int) {w : (Int × Int × ax_H) ⊕ ((Int × Int × ax_H) ⊕ (Int × ax_H))} (hl : ax_hl ls 8 [(0, .inr (.inr x0)), (1, .inl x1), (2, .inl x2), (3, .inl x3), (4, .inl x4), (5, .inl x5), (6, .inl x6), (7, .inl x7)]) (e : lb_X5_wordOf_57 G.2.2 x0 x1 x2 x3 x4 x5 x6 x7 h = some w) (hp : (ax_PL (pi_X5_wordOf_57 G X Q x0 x1 x2 x3 x4 x5) (ax_PL (pi_X5_wordOf_5 G X Q x0 x1 x2) (fun w : Int × ax_H => Q = ax_Q G X h0 w.2 (some (.int (Int32.ofInt w.1)))))) w) : ax_W G X Q h 57 ls [] := by
  unfold lb_X5_wordOf_57 at e
  refine ax_iload B dX5_wordOf_57 hl 7 rfl ?_
  refine ax_iload B dX5_wordOf_59 hl 5 rfl ?_
  refine ax_icmp_ge (tgt := 104) B dX5_wordOf_61 (by decide) e (fun e => ?_) (fun e => ?_)
  · refine ax_iload B dX5_wordOf_64 hl 6 rfl ?_
    refine ax_if_eq (tgt := 104) B dX5_wordOf_66 (by decide) e (fun e => ?_) (fun e => ?_)
    · obtain ⟨w, e9_2, rfl⟩ := Option.map_eq_some_iff.mp e
      have e := e9_2
      exact w_X5_wordOf_104 hSF B Z hn x0 x1 x2 x3 x4 x5 x6 (hl.sub [0, 1, 2, 3, 4, 5, 6] rfl) e hp
    · refine ax_aload_n B dX5_wordOf_69 rfl hl 0 rfl ?_
      refine ax_getR B ff_X5_37_5 (fun _ _ => rfl) dX5_wordOf_70 e (fun v1 e => ?_)
      refine ax_iload B dX5_wordOf_73 hl 4 rfl ?_
      refine ax_iload B dX5_wordOf_75 hl 7 rfl ?_
      refine ax_iadd' B dX5_wordOf_77 ?_
      refine ax_bald B kd101 dX5_wordOf_78 e (fun v2 e => ?_)
      refine ax_aload_n B dX5_wordOf_79 rfl hl 0 rfl ?_
      refine ax_getR B ff_X5_41_5 (fun _ _ => rfl) dX5_wordOf_80 e (fun v3 e => ?_)
      refine ax_iload_n B dX5_wordOf_83 rfl hl 1 rfl ?_
      refine ax_iload B dX5_wordOf_84 hl 7 rfl ?_
      refine ax_iadd' B dX5_wordOf_86 ?_
      refine ax_bald B kd101 dX5_wordOf_87 e (fun v4 e => ?_)
      refine ax_icmp_ne (tgt := 95) B dX5_wordOf_88 (by decide) e (fun e => ?_) (fun e => ?_)
      · refine ax_iconst B dX5_wordOf_91 ?_
        refine ax_goto (tgt := 96) B dX5_wordOf_92 (by decide) ?_
        exact w_X5_wordOf_96 hSF B Z hn x0 x1 x2 x3 x4 x5 x7 1 (hl.sub [0, 1, 2, 3, 4, 5, 7] rfl) e hp
      · refine ax_iconst B dX5_wordOf_95 ?_
        exact w_X5_wordOf_96 hSF B Z hn x0 x1 x2 x3 x4 x5 x7 0 (hl.sub [0, 1, 2, 3, 4, 5, 7] rfl) e hp
  · obtain ⟨w, e9_3, rfl⟩ := Option.map_eq_some_iff.mp e
    have e := e9_3
    exact w_X5_wordOf_104 hSF B Z hn x0 x1 x2 x3 x4 x5 x6 (hl.sub [0, 1, 2, 3, 4, 5, 6] rfl) e hp
theorem w_X5_wordOf_57 {l : Launch} {G : ax_G} {X : ax_X} {Q : State → Prop} {h0 h : ax_H} {ls : Array Slot} (hSF : ax_SF G) (B : ax_BL l G X cX5_wordOf 8 RX5 1 40) (Z : ax_Z X h0 ((some FieldType.int))) (hn : X.2.2.2.2.2.2.2.2.1.name = yX5_wordOf.name) (x0 : Option Nat) (x1 : Int) (x2 : Int) (x3 : Int) (x4 : Int) (x5 : Int) (x6 : Int) (x7 : Int) {w : (Int × Int × ax_H) ⊕ (Int × ax_H)} (hl : ax_hl ls 8 [(0, .inr (.inr x0)), (1, .inl x1), (2, .inl x2), (3, .inl x3), (4, .inl x4), (5, .inl x5), (6, .inl x6), (7, .inl x7)]) (e : f_X5_wordOf_57 G.2.2 x0 x1 x2 x3 x4 x5 x6 x7 h = some w) (hp : (ax_PL (pi_X5_wordOf_5 G X Q x0 x1 x2) (fun w : Int × ax_H => Q = ax_Q G X h0 w.2 (some (.int (Int32.ofInt w.1))))) w) : ax_W G X Q h 57 ls [] :=
  ax_iter_W (Pin := pi_X5_wordOf_57 G X Q x0 x1 x2 x3 x4 x5) (Pout := (ax_PL (pi_X5_wordOf_5 G X Q x0 x1 x2) (fun w : Int × ax_H => Q = ax_Q G X h0 w.2 (some (.int (Int32.ofInt w.1)))))) (fun s w e hp ls hl => wb_X5_wordOf_57 hSF B Z hn x0 x1 x2 x3 x4 x5 s.1 s.2.1 hl e hp) _ _ e hp ls hl
set_option maxHeartbeats 4000000 in
theorem w_X5_wordOf_52 {l : Launch} {G : ax_G} {X : ax_X} {Q : State → Prop} {h0 h : ax_H} {ls : Array Slot} (hSF : ax_SF G) (B : ax_BL l G X cX5_wordOf 8 RX5 1 40) (Z : ax_Z X h0 ((some FieldType.int))) (hn : X.2.2.2.2.2.2.2.2.1.name = yX5_wordOf.name) (x0 : Option Nat) (x1 : Int) (x2 : Int) (x3 : Int) (x4 : Int) (x5 : Int) (s0 : Int) {w : (Int × Int × ax_H) ⊕ (Int × ax_H)} (hl : ax_hl ls 8 [(0, .inr (.inr x0)), (1, .inl x1), (2, .inl x2), (3, .inl x3), (4, .inl x4), (5, .inl x5)]) (e : f_X5_wordOf_52 G.2.2 x0 x1 x2 x3 x4 x5 s0 h = some w) (hp : (ax_PL (pi_X5_wordOf_5 G X Q x0 x1 x2) (fun w : Int × ax_H => Q = ax_Q G X h0 w.2 (some (.int (Int32.ofInt w.1))))) w) : ax_W G X Q h 52 ls [.int (Int32.ofInt s0)] := by
  unfold f_X5_wordOf_52 at e
  refine ax_istore (L' := [(6, .inl s0), (0, .inr (.inr x0)), (1, .inl x1), (2, .inl x2), (3, .inl x3), (4, .inl x4), (5, .inl x5)]) B dX5_wordOf_52 hl (by decide) rfl (fun ls hl => ?_)
  refine ax_iconst B dX5_wordOf_54 ?_
  refine ax_istore (L' := [(7, .inl 0), (6, .inl s0), (0, .inr (.inr x0)), (1, .inl x1), (2, .inl x2), (3, .inl x3), (4, .inl x4), (5, .inl x5)]) B dX5_wordOf_55 hl (by decide) rfl (fun ls hl => ?_)
  exact w_X5_wordOf_57 hSF B Z hn x0 x1 x2 x3 x4 x5 s0 0 (hl.sub [2, 3, 4, 5, 6, 7, 1, 0] rfl) e hp
set_option maxHeartbeats 4000000 in
theorem wb_X5_wordOf_18 {l : Launch} {G : ax_G} {X : ax_X} {Q : State → Prop} {h0 h : ax_H} {ls : Array Slot} (hSF : ax_SF G) (B : ax_BL l G X cX5_wordOf 8 RX5 1 40) (Z : ax_Z X h0 ((some FieldType.int))) (hn : X.2.2.2.2.2.2.2.2.1.name = yX5_wordOf.name) (x0 : Option Nat) (x1 : Int) (x2 : Int) (x3 : Int) (x4 : Int) (x5 : Int) {w : (Int × ax_H) ⊕ ((Int × Int × ax_H) ⊕ (Int × ax_H))} (hl : ax_hl ls 8 [(0, .inr (.inr x0)), (1, .inl x1), (2, .inl x2), (3, .inl x3), (4, .inl x4), (5, .inl x5)]) (e : lb_X5_wordOf_18 G.2.2 x0 x1 x2 x3 x4 x5 h = some w) (hp : (ax_PL (pi_X5_wordOf_18 G X Q x0 x1 x2 x3 x4) (ax_PL (pi_X5_wordOf_5 G X Q x0 x1 x2) (fun w : Int × ax_H => Q = ax_Q G X h0 w.2 (some (.int (Int32.ofInt w.1)))))) w) : ax_W G X Q h 18 ls [] := by
  unfold lb_X5_wordOf_18 at e
  refine ax_aload_n B dX5_wordOf_18 rfl hl 0 rfl ?_
  refine ax_getR B ff_X5_37_5 (fun _ _ => rfl) dX5_wordOf_19 e (fun v1 e => ?_)
  refine ax_iload B dX5_wordOf_22 hl 4 rfl ?_
  refine ax_iload B dX5_wordOf_24 hl 5 rfl ?_
  refine ax_iadd' B dX5_wordOf_26 ?_
  refine ax_bald B kd101 dX5_wordOf_27 e (fun v2 e => ?_)
  refine ax_bipush B dX5_wordOf_28 (by decide) ?_
  refine ax_icmp_eq (tgt := 39) B dX5_wordOf_30 (by decide) e (fun e => ?_) (fun e => ?_)
  · obtain ⟨w, e9_4, rfl⟩ := Option.map_eq_some_iff.mp e
    have e := e9_4
    refine ax_iload B dX5_wordOf_39 hl 5 rfl ?_
    refine ax_iload_n B dX5_wordOf_41 rfl hl 2 rfl ?_
    refine ax_iload_n B dX5_wordOf_42 rfl hl 1 rfl ?_
    refine ax_isub' B dX5_wordOf_43 ?_
    refine ax_icmp_ne (tgt := 51) B dX5_wordOf_44 (by decide) e (fun e => ?_) (fun e => ?_)
    · refine ax_iconst B dX5_wordOf_47 ?_
      refine ax_goto (tgt := 52) B dX5_wordOf_48 (by decide) ?_
      exact w_X5_wordOf_52 hSF B Z hn x0 x1 x2 x3 x4 x5 1 (hl.sub [0, 1, 2, 3, 4, 5] rfl) e hp
    · refine ax_iconst B dX5_wordOf_51 ?_
      exact w_X5_wordOf_52 hSF B Z hn x0 x1 x2 x3 x4 x5 0 (hl.sub [0, 1, 2, 3, 4, 5] rfl) e hp
  · refine ax_iinc (L' := [(5, .inl (x5 + 1)), (0, .inr (.inr x0)), (1, .inl x1), (2, .inl x2), (3, .inl x3), (4, .inl x4)]) B dX5_wordOf_33 hl 5 rfl (by decide) rfl (fun ls hl => ?_)
    refine ax_goto (tgt := 18) B dX5_wordOf_36 (by decide) ?_
    cases e
    exact hp _ (hl.sub [1, 2, 3, 4, 5, 0] rfl)
theorem w_X5_wordOf_18 {l : Launch} {G : ax_G} {X : ax_X} {Q : State → Prop} {h0 h : ax_H} {ls : Array Slot} (hSF : ax_SF G) (B : ax_BL l G X cX5_wordOf 8 RX5 1 40) (Z : ax_Z X h0 ((some FieldType.int))) (hn : X.2.2.2.2.2.2.2.2.1.name = yX5_wordOf.name) (x0 : Option Nat) (x1 : Int) (x2 : Int) (x3 : Int) (x4 : Int) (x5 : Int) {w : (Int × Int × ax_H) ⊕ (Int × ax_H)} (hl : ax_hl ls 8 [(0, .inr (.inr x0)), (1, .inl x1), (2, .inl x2), (3, .inl x3), (4, .inl x4), (5, .inl x5)]) (e : f_X5_wordOf_18 G.2.2 x0 x1 x2 x3 x4 x5 h = some w) (hp : (ax_PL (pi_X5_wordOf_5 G X Q x0 x1 x2) (fun w : Int × ax_H => Q = ax_Q G X h0 w.2 (some (.int (Int32.ofInt w.1))))) w) : ax_W G X Q h 18 ls [] :=
  ax_iter_W (Pin := pi_X5_wordOf_18 G X Q x0 x1 x2 x3 x4) (Pout := (ax_PL (pi_X5_wordOf_5 G X Q x0 x1 x2) (fun w : Int × ax_H => Q = ax_Q G X h0 w.2 (some (.int (Int32.ofInt w.1)))))) (fun s w e hp ls hl => wb_X5_wordOf_18 hSF B Z hn x0 x1 x2 x3 x4 s.1 hl e hp) _ _ e hp ls hl
set_option maxHeartbeats 4000000 in
theorem wb_X5_wordOf_5 {l : Launch} {G : ax_G} {X : ax_X} {Q : State → Prop} {h0 h : ax_H} {ls : Array Slot} (hSF : ax_SF G) (B : ax_BL l G X cX5_wordOf 8 RX5 1 40) (Z : ax_Z X h0 ((some FieldType.int))) (hn : X.2.2.2.2.2.2.2.2.1.name = yX5_wordOf.name) (x0 : Option Nat) (x1 : Int) (x2 : Int) (x3 : Int) (x4 : Int) {w : (Int × Int × ax_H) ⊕ (Int × ax_H)} (hl : ax_hl ls 8 [(0, .inr (.inr x0)), (1, .inl x1), (2, .inl x2), (3, .inl x3), (4, .inl x4)]) (e : lb_X5_wordOf_5 G.2.2 x0 x1 x2 x3 x4 h = some w) (hp : (ax_PL (pi_X5_wordOf_5 G X Q x0 x1 x2) (fun w : Int × ax_H => Q = ax_Q G X h0 w.2 (some (.int (Int32.ofInt w.1))))) w) : ax_W G X Q h 5 ls [] := by
  unfold lb_X5_wordOf_5 at e
  refine ax_iload B dX5_wordOf_5 hl 4 rfl ?_
  refine ax_aload_n B dX5_wordOf_7 rfl hl 0 rfl ?_
  refine ax_getR B ff_X5_37_5 (fun _ _ => rfl) dX5_wordOf_8 e (fun v1 e => ?_)
  refine ax_alen B kd101 dX5_wordOf_11 e (fun v2 e => ?_)
  refine ax_icmp_ge (tgt := 126) B dX5_wordOf_12 (by decide) e (fun e => ?_) (fun e => ?_)
  · refine ax_iconst B dX5_wordOf_15 ?_
    refine ax_istore (L' := [(5, .inl 0), (0, .inr (.inr x0)), (1, .inl x1), (2, .inl x2), (3, .inl x3), (4, .inl x4)]) B dX5_wordOf_16 hl (by decide) rfl (fun ls hl => ?_)
    exact w_X5_wordOf_18 hSF B Z hn x0 x1 x2 x3 x4 0 (hl.sub [1, 2, 3, 4, 5, 0] rfl) e hp
  · obtain ⟨w, e9_5, rfl⟩ := Option.map_eq_some_iff.mp e
    have e := e9_5
    refine ax_iconst B dX5_wordOf_126 ?_
    have e8 := e
    have hp : Q = _ := hp
    subst hp
    exact ax_ireturn B Z dX5_wordOf_127 e8
theorem w_X5_wordOf_5 {l : Launch} {G : ax_G} {X : ax_X} {Q : State → Prop} {h0 h : ax_H} {ls : Array Slot} (hSF : ax_SF G) (B : ax_BL l G X cX5_wordOf 8 RX5 1 40) (Z : ax_Z X h0 ((some FieldType.int))) (hn : X.2.2.2.2.2.2.2.2.1.name = yX5_wordOf.name) (x0 : Option Nat) (x1 : Int) (x2 : Int) (x3 : Int) (x4 : Int) {w : Int × ax_H} (hl : ax_hl ls 8 [(0, .inr (.inr x0)), (1, .inl x1), (2, .inl x2), (3, .inl x3), (4, .inl x4)]) (e : f_X5_wordOf_5 G.2.2 x0 x1 x2 x3 x4 h = some w) (hp : (fun w : Int × ax_H => Q = ax_Q G X h0 w.2 (some (.int (Int32.ofInt w.1)))) w) : ax_W G X Q h 5 ls [] :=
  ax_iter_W (Pin := pi_X5_wordOf_5 G X Q x0 x1 x2) (Pout := (fun w : Int × ax_H => Q = ax_Q G X h0 w.2 (some (.int (Int32.ofInt w.1))))) (fun s w e hp ls hl => wb_X5_wordOf_5 hSF B Z hn x0 x1 x2 s.1 s.2.1 hl e hp) _ _ e hp ls hl
set_option maxHeartbeats 4000000 in
theorem we_X5_wordOf {l : Launch} {G : ax_G} {X : ax_X} {Q : State → Prop} {h0 h : ax_H} {ls : Array Slot} (hSF : ax_SF G) (B : ax_BL l G X cX5_wordOf 8 RX5 1 40) (Z : ax_Z X h0 ((some FieldType.int))) (hn : X.2.2.2.2.2.2.2.2.1.name = yX5_wordOf.name) (x0 : Option Nat) (x1 : Int) (x2 : Int) {w : Int × ax_H} (hl : ax_hl ls 8 [(0, .inr (.inr x0)), (1, .inl x1), (2, .inl x2)]) (e : f_X5_wordOf G.2.2 x0 x1 x2 h = some w) (hp : (fun w : Int × ax_H => Q = ax_Q G X h0 w.2 (some (.int (Int32.ofInt w.1)))) w) : ax_W G X Q h 0 ls [] := by
  unfold f_X5_wordOf at e
  refine ax_iconst B dX5_wordOf_0 ?_
  refine ax_istore_n (L' := [(3, .inl 1), (0, .inr (.inr x0)), (1, .inl x1), (2, .inl x2)]) B dX5_wordOf_1 rfl hl (by decide) rfl (fun ls hl => ?_)
  refine ax_iconst B dX5_wordOf_2 ?_
  refine ax_istore (L' := [(4, .inl 0), (3, .inl 1), (0, .inr (.inr x0)), (1, .inl x1), (2, .inl x2)]) B dX5_wordOf_3 hl (by decide) rfl (fun ls hl => ?_)
  exact w_X5_wordOf_5 hSF B Z hn x0 x1 x2 1 0 (hl.sub [2, 3, 4, 1, 0] rfl) e hp
theorem mt_X5_wordOf (l : Launch) (G : ax_G) (hSF : ax_SF G) (x0 : Option Nat) (x1 : Int) (x2 : Int) (h : ax_H) (w : Int × ax_H) (e : f_X5_wordOf G.2.2 x0 x1 x2 h = some w) : ax_Met l G yX5_wordOf cX5_wordOf 8 ((some FieldType.int)) 1 40 [va_rf x0, .int (Int32.ofInt x1), .int (Int32.ofInt x2)] h w.2 (some (.int (Int32.ofInt w.1))) :=
  ax_enter [.inr (.inr x0), .inl x1, .inl x2] (y := yX5_wordOf) hSF (plainFor_of_name (by decide +kernel)) (Nat.le_of_ble_eq_true rfl) (fun X ls B Z hn hl => we_X5_wordOf hSF B Z hn x0 x1 x2 hl e rfl)
def dkwX5_splits_12 : List UInt8 := [3, 79, 42, 180, 0, 53, 42, 180, 0, 187, 3, 79, 177]
abbrev dktX5_splits_12 : List UInt8 := dkwX5_splits_12 ++ []
def dkwX5_splits_11 : List UInt8 := [21, 4, 61, 167, 255, 3, 42, 180, 0, 56, 42, 180, 0, 187, 27, 79, 42, 180, 0, 50, 42, 180, 0, 187]
abbrev dktX5_splits_11 : List UInt8 := dkwX5_splits_11 ++ dktX5_splits_12
def dkwX5_splits_10 : List UInt8 := [21, 5, 51, 96, 16, 48, 100, 79, 132, 5, 1, 167, 255, 181, 42, 89, 180, 0, 187, 4, 96, 181, 0, 187]
abbrev dktX5_splits_10 : List UInt8 := dkwX5_splits_10 ++ dktX5_splits_11
def dkwX5_splits_9 : List UInt8 := [180, 0, 187, 46, 167, 0, 26, 16, 10, 42, 180, 0, 53, 42, 180, 0, 187, 46, 104, 42, 180, 0, 41]
abbrev dktX5_splits_9 : List UInt8 := dkwX5_splits_9 ++ dktX5_splits_10
def dkwX5_splits_8 : List UInt8 := [42, 180, 0, 187, 42, 180, 0, 53, 42, 180, 0, 187, 46, 18, 199, 164, 0, 15, 42, 180, 0, 53, 42]
abbrev dktX5_splits_8 : List UInt8 := dkwX5_splits_8 ++ dktX5_splits_9
def dkwX5_splits_7 : List UInt8 := [126, 96, 79, 28, 54, 5, 21, 5, 21, 4, 162, 0, 74, 29, 184, 0, 193, 153, 0, 67, 42, 180, 0, 53]
abbrev dktX5_splits_7 : List UInt8 := dkwX5_splits_7 ++ dktX5_splits_8
def dkwX5_splits_6 : List UInt8 := [182, 0, 196, 167, 0, 23, 29, 184, 0, 193, 153, 0, 8, 16, 50, 167, 0, 11, 16, 100, 29, 17, 0, 255]
abbrev dktX5_splits_6 : List UInt8 := dkwX5_splits_6 ++ dktX5_splits_7
def dkwX5_splits_5 : List UInt8 := [180, 0, 187, 3, 79, 42, 180, 0, 50, 42, 180, 0, 187, 29, 184, 0, 190, 153, 0, 13, 42, 28, 21, 4]
abbrev dktX5_splits_5 : List UInt8 := dkwX5_splits_5 ++ dktX5_splits_6
def dkwX5_splits_4 : List UInt8 := [153, 0, 9, 132, 4, 1, 167, 255, 234, 42, 180, 0, 56, 42, 180, 0, 187, 28, 79, 42, 180, 0, 53, 42]
abbrev dktX5_splits_4 : List UInt8 := dkwX5_splits_4 ++ dktX5_splits_5
def dkwX5_splits_3 : List UInt8 := [184, 0, 193, 153, 0, 28, 21, 4, 27, 162, 0, 22, 42, 180, 0, 41, 21, 4, 51, 184, 0, 193]
abbrev dktX5_splits_3 : List UInt8 := dkwX5_splits_3 ++ dktX5_splits_4
def dkwX5_splits_2 : List UInt8 := [162, 0, 22, 42, 180, 0, 41, 21, 4, 51, 184, 0, 190, 153, 0, 9, 132, 4, 1, 167, 255, 234, 29]
abbrev dktX5_splits_2 : List UInt8 := dkwX5_splits_2 ++ dktX5_splits_3
def dkwX5_splits_1 : List UInt8 := [160, 0, 9, 132, 2, 1, 167, 255, 235, 28, 4, 96, 54, 4, 29, 184, 0, 190, 153, 0, 28, 21, 4, 27]
abbrev dktX5_splits_1 : List UInt8 := dkwX5_splits_1 ++ dktX5_splits_2
def dkwX5_splits_0 : List UInt8 := [42, 3, 181, 0, 187, 3, 61, 28, 27, 162, 0, 254, 42, 180, 0, 41, 28, 51, 62, 29, 16, 32]
abbrev dktX5_splits_0 : List UInt8 := dkwX5_splits_0 ++ dktX5_splits_1
theorem dksX5_splits_0 : cX5_splits.data.toList.drop 0 = dktX5_splits_0 := by decide +kernel
theorem dksX5_splits_1 : cX5_splits.data.toList.drop 22 = dktX5_splits_1 := dk_seg dksX5_splits_0 22 rfl rfl
theorem dksX5_splits_2 : cX5_splits.data.toList.drop 46 = dktX5_splits_2 := dk_seg dksX5_splits_1 24 rfl rfl
theorem dksX5_splits_3 : cX5_splits.data.toList.drop 69 = dktX5_splits_3 := dk_seg dksX5_splits_2 23 rfl rfl
theorem dksX5_splits_4 : cX5_splits.data.toList.drop 91 = dktX5_splits_4 := dk_seg dksX5_splits_3 22 rfl rfl
theorem dksX5_splits_5 : cX5_splits.data.toList.drop 115 = dktX5_splits_5 := dk_seg dksX5_splits_4 24 rfl rfl
theorem dksX5_splits_6 : cX5_splits.data.toList.drop 139 = dktX5_splits_6 := dk_seg dksX5_splits_5 24 rfl rfl
theorem dksX5_splits_7 : cX5_splits.data.toList.drop 163 = dktX5_splits_7 := dk_seg dksX5_splits_6 24 rfl rfl
theorem dksX5_splits_8 : cX5_splits.data.toList.drop 187 = dktX5_splits_8 := dk_seg dksX5_splits_7 24 rfl rfl
theorem dksX5_splits_9 : cX5_splits.data.toList.drop 210 = dktX5_splits_9 := dk_seg dksX5_splits_8 23 rfl rfl
theorem dksX5_splits_10 : cX5_splits.data.toList.drop 233 = dktX5_splits_10 := dk_seg dksX5_splits_9 23 rfl rfl
theorem dksX5_splits_11 : cX5_splits.data.toList.drop 257 = dktX5_splits_11 := dk_seg dksX5_splits_10 24 rfl rfl
theorem dksX5_splits_12 : cX5_splits.data.toList.drop 281 = dktX5_splits_12 := dk_seg dksX5_splits_11 24 rfl rfl
theorem dX5_splits_0 : decode cX5_splits 0 = .ok (.aload_n 0, 1) := dk_42 (dk_at dksX5_splits_0 0 rfl rfl)
theorem dX5_splits_1 : decode cX5_splits 1 = .ok (.iconst 0, 1) := dk_3 (dk_at dksX5_splits_0 1 rfl rfl)
theorem dX5_splits_2 : decode cX5_splits 2 = .ok (.putfield 187, 3) := dk_181 0 187 (dk_at dksX5_splits_0 2 rfl rfl)
theorem dX5_splits_5 : decode cX5_splits 5 = .ok (.iconst 0, 1) := dk_3 (dk_at dksX5_splits_0 5 rfl rfl)
theorem dX5_splits_6 : decode cX5_splits 6 = .ok (.istore_n 2, 1) := dk_61 (dk_at dksX5_splits_0 6 rfl rfl)
theorem dX5_splits_7 : decode cX5_splits 7 = .ok (.iload_n 2, 1) := dk_28 (dk_at dksX5_splits_0 7 rfl rfl)
theorem dX5_splits_8 : decode cX5_splits 8 = .ok (.iload_n 1, 1) := dk_27 (dk_at dksX5_splits_0 8 rfl rfl)
theorem dX5_splits_9 : decode cX5_splits 9 = .ok (.if_icmp .ge 254, 3) := dk_162 0 254 (dk_at dksX5_splits_0 9 rfl rfl)
theorem dX5_splits_12 : decode cX5_splits 12 = .ok (.aload_n 0, 1) := dk_42 (dk_at dksX5_splits_0 12 rfl rfl)
theorem dX5_splits_13 : decode cX5_splits 13 = .ok (.getfield 41, 3) := dk_180 0 41 (dk_at dksX5_splits_0 13 rfl rfl)
theorem dX5_splits_16 : decode cX5_splits 16 = .ok (.iload_n 2, 1) := dk_28 (dk_at dksX5_splits_0 16 rfl rfl)
theorem dX5_splits_17 : decode cX5_splits 17 = .ok (.baload, 1) := dk_51 (dk_at dksX5_splits_0 17 rfl rfl)
theorem dX5_splits_18 : decode cX5_splits 18 = .ok (.istore_n 3, 1) := dk_62 (dk_at dksX5_splits_0 18 rfl rfl)
theorem dX5_splits_19 : decode cX5_splits 19 = .ok (.iload_n 3, 1) := dk_29 (dk_at dksX5_splits_0 19 rfl rfl)
theorem dX5_splits_20 : decode cX5_splits 20 = .ok (.bipush 32, 2) := dk_16 32 (dk_at dksX5_splits_0 20 rfl rfl)
theorem dX5_splits_22 : decode cX5_splits 22 = .ok (.if_icmp .ne 9, 3) := dk_160 0 9 (dk_at dksX5_splits_1 0 rfl rfl)
theorem dX5_splits_25 : decode cX5_splits 25 = .ok (.iinc 2 1, 3) := dk_132 2 1 (dk_at dksX5_splits_1 3 rfl rfl)
theorem dX5_splits_28 : decode cX5_splits 28 = .ok (.goto (-21), 3) := dk_167 255 235 (dk_at dksX5_splits_1 6 rfl rfl)
theorem dX5_splits_31 : decode cX5_splits 31 = .ok (.iload_n 2, 1) := dk_28 (dk_at dksX5_splits_1 9 rfl rfl)
theorem dX5_splits_32 : decode cX5_splits 32 = .ok (.iconst 1, 1) := dk_4 (dk_at dksX5_splits_1 10 rfl rfl)
theorem dX5_splits_33 : decode cX5_splits 33 = .ok (.iadd, 1) := dk_96 (dk_at dksX5_splits_1 11 rfl rfl)
theorem dX5_splits_34 : decode cX5_splits 34 = .ok (.istore 4, 2) := dk_54 4 (dk_at dksX5_splits_1 12 rfl rfl)
theorem dX5_splits_36 : decode cX5_splits 36 = .ok (.iload_n 3, 1) := dk_29 (dk_at dksX5_splits_1 14 rfl rfl)
theorem dX5_splits_37 : decode cX5_splits 37 = .ok (.invokestatic 190, 3) := dk_184 0 190 (dk_at dksX5_splits_1 15 rfl rfl)
theorem dX5_splits_40 : decode cX5_splits 40 = .ok (.ifCond .eq 28, 3) := dk_153 0 28 (dk_at dksX5_splits_1 18 rfl rfl)
theorem dX5_splits_43 : decode cX5_splits 43 = .ok (.iload 4, 2) := dk_21 4 (dk_at dksX5_splits_1 21 rfl rfl)
theorem dX5_splits_45 : decode cX5_splits 45 = .ok (.iload_n 1, 1) := dk_27 (dk_at dksX5_splits_1 23 rfl rfl)
theorem dX5_splits_46 : decode cX5_splits 46 = .ok (.if_icmp .ge 22, 3) := dk_162 0 22 (dk_at dksX5_splits_2 0 rfl rfl)
theorem dX5_splits_49 : decode cX5_splits 49 = .ok (.aload_n 0, 1) := dk_42 (dk_at dksX5_splits_2 3 rfl rfl)
theorem dX5_splits_50 : decode cX5_splits 50 = .ok (.getfield 41, 3) := dk_180 0 41 (dk_at dksX5_splits_2 4 rfl rfl)
theorem dX5_splits_53 : decode cX5_splits 53 = .ok (.iload 4, 2) := dk_21 4 (dk_at dksX5_splits_2 7 rfl rfl)
theorem dX5_splits_55 : decode cX5_splits 55 = .ok (.baload, 1) := dk_51 (dk_at dksX5_splits_2 9 rfl rfl)
theorem dX5_splits_56 : decode cX5_splits 56 = .ok (.invokestatic 190, 3) := dk_184 0 190 (dk_at dksX5_splits_2 10 rfl rfl)
theorem dX5_splits_59 : decode cX5_splits 59 = .ok (.ifCond .eq 9, 3) := dk_153 0 9 (dk_at dksX5_splits_2 13 rfl rfl)
theorem dX5_splits_62 : decode cX5_splits 62 = .ok (.iinc 4 1, 3) := dk_132 4 1 (dk_at dksX5_splits_2 16 rfl rfl)
theorem dX5_splits_65 : decode cX5_splits 65 = .ok (.goto (-22), 3) := dk_167 255 234 (dk_at dksX5_splits_2 19 rfl rfl)
theorem dX5_splits_68 : decode cX5_splits 68 = .ok (.iload_n 3, 1) := dk_29 (dk_at dksX5_splits_2 22 rfl rfl)
theorem dX5_splits_69 : decode cX5_splits 69 = .ok (.invokestatic 193, 3) := dk_184 0 193 (dk_at dksX5_splits_3 0 rfl rfl)
theorem dX5_splits_72 : decode cX5_splits 72 = .ok (.ifCond .eq 28, 3) := dk_153 0 28 (dk_at dksX5_splits_3 3 rfl rfl)
theorem dX5_splits_75 : decode cX5_splits 75 = .ok (.iload 4, 2) := dk_21 4 (dk_at dksX5_splits_3 6 rfl rfl)
theorem dX5_splits_77 : decode cX5_splits 77 = .ok (.iload_n 1, 1) := dk_27 (dk_at dksX5_splits_3 8 rfl rfl)
theorem dX5_splits_78 : decode cX5_splits 78 = .ok (.if_icmp .ge 22, 3) := dk_162 0 22 (dk_at dksX5_splits_3 9 rfl rfl)
theorem dX5_splits_81 : decode cX5_splits 81 = .ok (.aload_n 0, 1) := dk_42 (dk_at dksX5_splits_3 12 rfl rfl)
theorem dX5_splits_82 : decode cX5_splits 82 = .ok (.getfield 41, 3) := dk_180 0 41 (dk_at dksX5_splits_3 13 rfl rfl)
theorem dX5_splits_85 : decode cX5_splits 85 = .ok (.iload 4, 2) := dk_21 4 (dk_at dksX5_splits_3 16 rfl rfl)
theorem dX5_splits_87 : decode cX5_splits 87 = .ok (.baload, 1) := dk_51 (dk_at dksX5_splits_3 18 rfl rfl)
theorem dX5_splits_88 : decode cX5_splits 88 = .ok (.invokestatic 193, 3) := dk_184 0 193 (dk_at dksX5_splits_3 19 rfl rfl)
theorem dX5_splits_91 : decode cX5_splits 91 = .ok (.ifCond .eq 9, 3) := dk_153 0 9 (dk_at dksX5_splits_4 0 rfl rfl)
theorem dX5_splits_94 : decode cX5_splits 94 = .ok (.iinc 4 1, 3) := dk_132 4 1 (dk_at dksX5_splits_4 3 rfl rfl)
theorem dX5_splits_97 : decode cX5_splits 97 = .ok (.goto (-22), 3) := dk_167 255 234 (dk_at dksX5_splits_4 6 rfl rfl)
theorem dX5_splits_100 : decode cX5_splits 100 = .ok (.aload_n 0, 1) := dk_42 (dk_at dksX5_splits_4 9 rfl rfl)
theorem dX5_splits_101 : decode cX5_splits 101 = .ok (.getfield 56, 3) := dk_180 0 56 (dk_at dksX5_splits_4 10 rfl rfl)
theorem dX5_splits_104 : decode cX5_splits 104 = .ok (.aload_n 0, 1) := dk_42 (dk_at dksX5_splits_4 13 rfl rfl)
theorem dX5_splits_105 : decode cX5_splits 105 = .ok (.getfield 187, 3) := dk_180 0 187 (dk_at dksX5_splits_4 14 rfl rfl)
theorem dX5_splits_108 : decode cX5_splits 108 = .ok (.iload_n 2, 1) := dk_28 (dk_at dksX5_splits_4 17 rfl rfl)
theorem dX5_splits_109 : decode cX5_splits 109 = .ok (.iastore, 1) := dk_79 (dk_at dksX5_splits_4 18 rfl rfl)
theorem dX5_splits_110 : decode cX5_splits 110 = .ok (.aload_n 0, 1) := dk_42 (dk_at dksX5_splits_4 19 rfl rfl)
theorem dX5_splits_111 : decode cX5_splits 111 = .ok (.getfield 53, 3) := dk_180 0 53 (dk_at dksX5_splits_4 20 rfl rfl)
theorem dX5_splits_114 : decode cX5_splits 114 = .ok (.aload_n 0, 1) := dk_42 (dk_at dksX5_splits_4 23 rfl rfl)
theorem dX5_splits_115 : decode cX5_splits 115 = .ok (.getfield 187, 3) := dk_180 0 187 (dk_at dksX5_splits_5 0 rfl rfl)
theorem dX5_splits_118 : decode cX5_splits 118 = .ok (.iconst 0, 1) := dk_3 (dk_at dksX5_splits_5 3 rfl rfl)
theorem dX5_splits_119 : decode cX5_splits 119 = .ok (.iastore, 1) := dk_79 (dk_at dksX5_splits_5 4 rfl rfl)
theorem dX5_splits_120 : decode cX5_splits 120 = .ok (.aload_n 0, 1) := dk_42 (dk_at dksX5_splits_5 5 rfl rfl)
theorem dX5_splits_121 : decode cX5_splits 121 = .ok (.getfield 50, 3) := dk_180 0 50 (dk_at dksX5_splits_5 6 rfl rfl)
theorem dX5_splits_124 : decode cX5_splits 124 = .ok (.aload_n 0, 1) := dk_42 (dk_at dksX5_splits_5 9 rfl rfl)
theorem dX5_splits_125 : decode cX5_splits 125 = .ok (.getfield 187, 3) := dk_180 0 187 (dk_at dksX5_splits_5 10 rfl rfl)
theorem dX5_splits_128 : decode cX5_splits 128 = .ok (.iload_n 3, 1) := dk_29 (dk_at dksX5_splits_5 13 rfl rfl)
theorem dX5_splits_129 : decode cX5_splits 129 = .ok (.invokestatic 190, 3) := dk_184 0 190 (dk_at dksX5_splits_5 14 rfl rfl)
theorem dX5_splits_132 : decode cX5_splits 132 = .ok (.ifCond .eq 13, 3) := dk_153 0 13 (dk_at dksX5_splits_5 17 rfl rfl)
theorem dX5_splits_135 : decode cX5_splits 135 = .ok (.aload_n 0, 1) := dk_42 (dk_at dksX5_splits_5 20 rfl rfl)
theorem dX5_splits_136 : decode cX5_splits 136 = .ok (.iload_n 2, 1) := dk_28 (dk_at dksX5_splits_5 21 rfl rfl)
theorem dX5_splits_137 : decode cX5_splits 137 = .ok (.iload 4, 2) := dk_21 4 (dk_at dksX5_splits_5 22 rfl rfl)
theorem dX5_splits_139 : decode cX5_splits 139 = .ok (.invokevirtual 196, 3) := dk_182 0 196 (dk_at dksX5_splits_6 0 rfl rfl)
theorem dX5_splits_142 : decode cX5_splits 142 = .ok (.goto 23, 3) := dk_167 0 23 (dk_at dksX5_splits_6 3 rfl rfl)
theorem dX5_splits_145 : decode cX5_splits 145 = .ok (.iload_n 3, 1) := dk_29 (dk_at dksX5_splits_6 6 rfl rfl)
theorem dX5_splits_146 : decode cX5_splits 146 = .ok (.invokestatic 193, 3) := dk_184 0 193 (dk_at dksX5_splits_6 7 rfl rfl)
theorem dX5_splits_149 : decode cX5_splits 149 = .ok (.ifCond .eq 8, 3) := dk_153 0 8 (dk_at dksX5_splits_6 10 rfl rfl)
theorem dX5_splits_152 : decode cX5_splits 152 = .ok (.bipush 50, 2) := dk_16 50 (dk_at dksX5_splits_6 13 rfl rfl)
theorem dX5_splits_154 : decode cX5_splits 154 = .ok (.goto 11, 3) := dk_167 0 11 (dk_at dksX5_splits_6 15 rfl rfl)
theorem dX5_splits_157 : decode cX5_splits 157 = .ok (.bipush 100, 2) := dk_16 100 (dk_at dksX5_splits_6 18 rfl rfl)
theorem dX5_splits_159 : decode cX5_splits 159 = .ok (.iload_n 3, 1) := dk_29 (dk_at dksX5_splits_6 20 rfl rfl)
theorem dX5_splits_160 : decode cX5_splits 160 = .ok (.sipush 255, 3) := dk_17 0 255 (dk_at dksX5_splits_6 21 rfl rfl)
theorem dX5_splits_163 : decode cX5_splits 163 = .ok (.iand, 1) := dk_126 (dk_at dksX5_splits_7 0 rfl rfl)
theorem dX5_splits_164 : decode cX5_splits 164 = .ok (.iadd, 1) := dk_96 (dk_at dksX5_splits_7 1 rfl rfl)
theorem dX5_splits_165 : decode cX5_splits 165 = .ok (.iastore, 1) := dk_79 (dk_at dksX5_splits_7 2 rfl rfl)
theorem dX5_splits_166 : decode cX5_splits 166 = .ok (.iload_n 2, 1) := dk_28 (dk_at dksX5_splits_7 3 rfl rfl)
theorem dX5_splits_167 : decode cX5_splits 167 = .ok (.istore 5, 2) := dk_54 5 (dk_at dksX5_splits_7 4 rfl rfl)
theorem dX5_splits_169 : decode cX5_splits 169 = .ok (.iload 5, 2) := dk_21 5 (dk_at dksX5_splits_7 6 rfl rfl)
theorem dX5_splits_171 : decode cX5_splits 171 = .ok (.iload 4, 2) := dk_21 4 (dk_at dksX5_splits_7 8 rfl rfl)
theorem dX5_splits_173 : decode cX5_splits 173 = .ok (.if_icmp .ge 74, 3) := dk_162 0 74 (dk_at dksX5_splits_7 10 rfl rfl)
theorem dX5_splits_176 : decode cX5_splits 176 = .ok (.iload_n 3, 1) := dk_29 (dk_at dksX5_splits_7 13 rfl rfl)
theorem dX5_splits_177 : decode cX5_splits 177 = .ok (.invokestatic 193, 3) := dk_184 0 193 (dk_at dksX5_splits_7 14 rfl rfl)
theorem dX5_splits_180 : decode cX5_splits 180 = .ok (.ifCond .eq 67, 3) := dk_153 0 67 (dk_at dksX5_splits_7 17 rfl rfl)
theorem dX5_splits_183 : decode cX5_splits 183 = .ok (.aload_n 0, 1) := dk_42 (dk_at dksX5_splits_7 20 rfl rfl)
theorem dX5_splits_184 : decode cX5_splits 184 = .ok (.getfield 53, 3) := dk_180 0 53 (dk_at dksX5_splits_7 21 rfl rfl)
theorem dX5_splits_187 : decode cX5_splits 187 = .ok (.aload_n 0, 1) := dk_42 (dk_at dksX5_splits_8 0 rfl rfl)
theorem dX5_splits_188 : decode cX5_splits 188 = .ok (.getfield 187, 3) := dk_180 0 187 (dk_at dksX5_splits_8 1 rfl rfl)
theorem dX5_splits_191 : decode cX5_splits 191 = .ok (.aload_n 0, 1) := dk_42 (dk_at dksX5_splits_8 4 rfl rfl)
theorem dX5_splits_192 : decode cX5_splits 192 = .ok (.getfield 53, 3) := dk_180 0 53 (dk_at dksX5_splits_8 5 rfl rfl)
theorem dX5_splits_195 : decode cX5_splits 195 = .ok (.aload_n 0, 1) := dk_42 (dk_at dksX5_splits_8 8 rfl rfl)
theorem dX5_splits_196 : decode cX5_splits 196 = .ok (.getfield 187, 3) := dk_180 0 187 (dk_at dksX5_splits_8 9 rfl rfl)
theorem dX5_splits_199 : decode cX5_splits 199 = .ok (.iaload, 1) := dk_46 (dk_at dksX5_splits_8 12 rfl rfl)
theorem dX5_splits_200 : decode cX5_splits 200 = .ok (.ldc 199, 2) := dk_18 199 (dk_at dksX5_splits_8 13 rfl rfl)
theorem dX5_splits_202 : decode cX5_splits 202 = .ok (.if_icmp .le 15, 3) := dk_164 0 15 (dk_at dksX5_splits_8 15 rfl rfl)
theorem dX5_splits_205 : decode cX5_splits 205 = .ok (.aload_n 0, 1) := dk_42 (dk_at dksX5_splits_8 18 rfl rfl)
theorem dX5_splits_206 : decode cX5_splits 206 = .ok (.getfield 53, 3) := dk_180 0 53 (dk_at dksX5_splits_8 19 rfl rfl)
theorem dX5_splits_209 : decode cX5_splits 209 = .ok (.aload_n 0, 1) := dk_42 (dk_at dksX5_splits_8 22 rfl rfl)
theorem dX5_splits_210 : decode cX5_splits 210 = .ok (.getfield 187, 3) := dk_180 0 187 (dk_at dksX5_splits_9 0 rfl rfl)
theorem dX5_splits_213 : decode cX5_splits 213 = .ok (.iaload, 1) := dk_46 (dk_at dksX5_splits_9 3 rfl rfl)
theorem dX5_splits_214 : decode cX5_splits 214 = .ok (.goto 26, 3) := dk_167 0 26 (dk_at dksX5_splits_9 4 rfl rfl)
theorem dX5_splits_217 : decode cX5_splits 217 = .ok (.bipush 10, 2) := dk_16 10 (dk_at dksX5_splits_9 7 rfl rfl)
theorem dX5_splits_219 : decode cX5_splits 219 = .ok (.aload_n 0, 1) := dk_42 (dk_at dksX5_splits_9 9 rfl rfl)
theorem dX5_splits_220 : decode cX5_splits 220 = .ok (.getfield 53, 3) := dk_180 0 53 (dk_at dksX5_splits_9 10 rfl rfl)
theorem dX5_splits_223 : decode cX5_splits 223 = .ok (.aload_n 0, 1) := dk_42 (dk_at dksX5_splits_9 13 rfl rfl)
theorem dX5_splits_224 : decode cX5_splits 224 = .ok (.getfield 187, 3) := dk_180 0 187 (dk_at dksX5_splits_9 14 rfl rfl)
theorem dX5_splits_227 : decode cX5_splits 227 = .ok (.iaload, 1) := dk_46 (dk_at dksX5_splits_9 17 rfl rfl)
theorem dX5_splits_228 : decode cX5_splits 228 = .ok (.imul, 1) := dk_104 (dk_at dksX5_splits_9 18 rfl rfl)
theorem dX5_splits_229 : decode cX5_splits 229 = .ok (.aload_n 0, 1) := dk_42 (dk_at dksX5_splits_9 19 rfl rfl)
theorem dX5_splits_230 : decode cX5_splits 230 = .ok (.getfield 41, 3) := dk_180 0 41 (dk_at dksX5_splits_9 20 rfl rfl)
theorem dX5_splits_233 : decode cX5_splits 233 = .ok (.iload 5, 2) := dk_21 5 (dk_at dksX5_splits_10 0 rfl rfl)
theorem dX5_splits_235 : decode cX5_splits 235 = .ok (.baload, 1) := dk_51 (dk_at dksX5_splits_10 2 rfl rfl)
theorem dX5_splits_236 : decode cX5_splits 236 = .ok (.iadd, 1) := dk_96 (dk_at dksX5_splits_10 3 rfl rfl)
theorem dX5_splits_237 : decode cX5_splits 237 = .ok (.bipush 48, 2) := dk_16 48 (dk_at dksX5_splits_10 4 rfl rfl)
theorem dX5_splits_239 : decode cX5_splits 239 = .ok (.isub, 1) := dk_100 (dk_at dksX5_splits_10 6 rfl rfl)
theorem dX5_splits_240 : decode cX5_splits 240 = .ok (.iastore, 1) := dk_79 (dk_at dksX5_splits_10 7 rfl rfl)
theorem dX5_splits_241 : decode cX5_splits 241 = .ok (.iinc 5 1, 3) := dk_132 5 1 (dk_at dksX5_splits_10 8 rfl rfl)
theorem dX5_splits_244 : decode cX5_splits 244 = .ok (.goto (-75), 3) := dk_167 255 181 (dk_at dksX5_splits_10 11 rfl rfl)
theorem dX5_splits_247 : decode cX5_splits 247 = .ok (.aload_n 0, 1) := dk_42 (dk_at dksX5_splits_10 14 rfl rfl)
theorem dX5_splits_248 : decode cX5_splits 248 = .ok (.dup, 1) := dk_89 (dk_at dksX5_splits_10 15 rfl rfl)
theorem dX5_splits_249 : decode cX5_splits 249 = .ok (.getfield 187, 3) := dk_180 0 187 (dk_at dksX5_splits_10 16 rfl rfl)
theorem dX5_splits_252 : decode cX5_splits 252 = .ok (.iconst 1, 1) := dk_4 (dk_at dksX5_splits_10 19 rfl rfl)
theorem dX5_splits_253 : decode cX5_splits 253 = .ok (.iadd, 1) := dk_96 (dk_at dksX5_splits_10 20 rfl rfl)
theorem dX5_splits_254 : decode cX5_splits 254 = .ok (.putfield 187, 3) := dk_181 0 187 (dk_at dksX5_splits_10 21 rfl rfl)
theorem dX5_splits_257 : decode cX5_splits 257 = .ok (.iload 4, 2) := dk_21 4 (dk_at dksX5_splits_11 0 rfl rfl)
theorem dX5_splits_259 : decode cX5_splits 259 = .ok (.istore_n 2, 1) := dk_61 (dk_at dksX5_splits_11 2 rfl rfl)
theorem dX5_splits_260 : decode cX5_splits 260 = .ok (.goto (-253), 3) := dk_167 255 3 (dk_at dksX5_splits_11 3 rfl rfl)
theorem dX5_splits_263 : decode cX5_splits 263 = .ok (.aload_n 0, 1) := dk_42 (dk_at dksX5_splits_11 6 rfl rfl)
theorem dX5_splits_264 : decode cX5_splits 264 = .ok (.getfield 56, 3) := dk_180 0 56 (dk_at dksX5_splits_11 7 rfl rfl)
theorem dX5_splits_267 : decode cX5_splits 267 = .ok (.aload_n 0, 1) := dk_42 (dk_at dksX5_splits_11 10 rfl rfl)
theorem dX5_splits_268 : decode cX5_splits 268 = .ok (.getfield 187, 3) := dk_180 0 187 (dk_at dksX5_splits_11 11 rfl rfl)
theorem dX5_splits_271 : decode cX5_splits 271 = .ok (.iload_n 1, 1) := dk_27 (dk_at dksX5_splits_11 14 rfl rfl)
theorem dX5_splits_272 : decode cX5_splits 272 = .ok (.iastore, 1) := dk_79 (dk_at dksX5_splits_11 15 rfl rfl)
theorem dX5_splits_273 : decode cX5_splits 273 = .ok (.aload_n 0, 1) := dk_42 (dk_at dksX5_splits_11 16 rfl rfl)
theorem dX5_splits_274 : decode cX5_splits 274 = .ok (.getfield 50, 3) := dk_180 0 50 (dk_at dksX5_splits_11 17 rfl rfl)
theorem dX5_splits_277 : decode cX5_splits 277 = .ok (.aload_n 0, 1) := dk_42 (dk_at dksX5_splits_11 20 rfl rfl)
theorem dX5_splits_278 : decode cX5_splits 278 = .ok (.getfield 187, 3) := dk_180 0 187 (dk_at dksX5_splits_11 21 rfl rfl)
theorem dX5_splits_281 : decode cX5_splits 281 = .ok (.iconst 0, 1) := dk_3 (dk_at dksX5_splits_12 0 rfl rfl)
theorem dX5_splits_282 : decode cX5_splits 282 = .ok (.iastore, 1) := dk_79 (dk_at dksX5_splits_12 1 rfl rfl)
theorem dX5_splits_283 : decode cX5_splits 283 = .ok (.aload_n 0, 1) := dk_42 (dk_at dksX5_splits_12 2 rfl rfl)
theorem dX5_splits_284 : decode cX5_splits 284 = .ok (.getfield 53, 3) := dk_180 0 53 (dk_at dksX5_splits_12 3 rfl rfl)
theorem dX5_splits_287 : decode cX5_splits 287 = .ok (.aload_n 0, 1) := dk_42 (dk_at dksX5_splits_12 6 rfl rfl)
theorem dX5_splits_288 : decode cX5_splits 288 = .ok (.getfield 187, 3) := dk_180 0 187 (dk_at dksX5_splits_12 7 rfl rfl)
theorem dX5_splits_291 : decode cX5_splits 291 = .ok (.iconst 0, 1) := dk_3 (dk_at dksX5_splits_12 10 rfl rfl)
theorem dX5_splits_292 : decode cX5_splits 292 = .ok (.iastore, 1) := dk_79 (dk_at dksX5_splits_12 11 rfl rfl)
theorem dX5_splits_293 : decode cX5_splits 293 = .ok (.return_, 1) := dk_177 (dk_at dksX5_splits_12 12 rfl rfl)
theorem ff_X5_187_5 : ax_FF RX5 187 5 16 (tyX5 16) 0 false := ⟨RX5, TX5, 61, tyX5, "DebtDoorsModel", kd5, in_X5, tyX5_ok, apX5, by decide, rfl, ⟨fun _ => rfl, fun h => absurd h (by decide)⟩, q1978, Or.inl rfl, fun h => absurd h (by decide)⟩
theorem cn_X5_199 : Jvm.Cond.constant RX5 199 (Int32.ofInt 1000000) ∈ lw_all := by rw [show Int32.ofInt 1000000 = (1000000 : Int32) by decide]; exact q2346
noncomputable def f_X5_splits_240 (E : ax_E) (x0 : Option Nat) (x1 : Int) (x3 : Int) (x4 : Int) (x5 : Int) (s0 : Option Nat) (s1 : Int) (s2 : Int) (h : ax_H) : Option ((Int × ax_H) ⊕ ((Int × ax_H) ⊕ (ax_H))) :=
  (ax_sto h s0 100 s1 s2).bind fun h1 =>
  some (.inl ((x5 + 1), h1))
noncomputable def f_X5_splits_247 (E : ax_E) (x0 : Option Nat) (x1 : Int) (x4 : Int) (h : ax_H) : Option ((Int × ax_H) ⊕ (ax_H)) :=
  (ax_gI E h x0 5 16).bind fun v1 =>
  (ax_pI h x0 5 16 (v1 + 1)).bind fun h2 =>
  some (.inl (x4, h2))
noncomputable def lb_X5_splits_169 (E : ax_E) (x0 : Option Nat) (x1 : Int) (x3 : Int) (x4 : Int) (x5 : Int) (h : ax_H) : Option ((Int × ax_H) ⊕ ((Int × ax_H) ⊕ (ax_H))) :=
  if i2 x5 < i2 x4 then
    (f_X5_isDigit E x3 h).bind fun q1 =>
    if i2 q1.1 = 0 then
      (f_X5_splits_247 E x0 x1 x4 q1.2).map Sum.inr
    else
      (ax_gR E q1.2 x0 5 14).bind fun v2 =>
      (ax_gI E q1.2 x0 5 16).bind fun v3 =>
      (ax_gR E q1.2 x0 5 14).bind fun v4 =>
      (ax_gI E q1.2 x0 5 16).bind fun v5 =>
      (ax_ld E q1.2 v4 100 v5).bind fun v6 =>
      if i2 1000000 < i2 v6 then
        (ax_gR E q1.2 x0 5 14).bind fun v7 =>
        (ax_gI E q1.2 x0 5 16).bind fun v8 =>
        (ax_ld E q1.2 v7 100 v8).bind fun v9 =>
        f_X5_splits_240 E x0 x1 x3 x4 x5 v2 v3 v9 q1.2
      else
        (ax_gR E q1.2 x0 5 14).bind fun v10 =>
        (ax_gI E q1.2 x0 5 16).bind fun v11 =>
        (ax_ld E q1.2 v10 100 v11).bind fun v12 =>
        (ax_gR E q1.2 x0 5 9).bind fun v13 =>
        (ax_ld E q1.2 v13 101 x5).bind fun v14 =>
        f_X5_splits_240 E x0 x1 x3 x4 x5 v2 v3 (((10 * v12) + v14) - 48) q1.2
  else
    (f_X5_splits_247 E x0 x1 x4 h).map Sum.inr
noncomputable def f_X5_splits_169 (E : ax_E) (x0 : Option Nat) (x1 : Int) (x3 : Int) (x4 : Int) (x5 : Int) (h : ax_H) : Option ((Int × ax_H) ⊕ (ax_H)) :=
  ax_iter (fun s : Int × ax_H => lb_X5_splits_169 E x0 x1 x3 x4 s.1 s.2) (x5, h)
noncomputable def f_X5_splits_165 (E : ax_E) (x0 : Option Nat) (x1 : Int) (x2 : Int) (x3 : Int) (x4 : Int) (s0 : Option Nat) (s1 : Int) (s2 : Int) (h : ax_H) : Option ((Int × ax_H) ⊕ (ax_H)) :=
  (ax_sto h s0 100 s1 s2).bind fun h1 =>
  f_X5_splits_169 E x0 x1 x3 x4 x2 h1
noncomputable def f_X5_splits_100 (E : ax_E) (x0 : Option Nat) (x1 : Int) (x2 : Int) (x3 : Int) (x4 : Int) (h : ax_H) : Option ((Int × ax_H) ⊕ (ax_H)) :=
  (ax_gR E h x0 5 15).bind fun v1 =>
  (ax_gI E h x0 5 16).bind fun v2 =>
  (ax_sto h v1 100 v2 x2).bind fun h3 =>
  (ax_gR E h3 x0 5 14).bind fun v4 =>
  (ax_gI E h3 x0 5 16).bind fun v5 =>
  (ax_sto h3 v4 100 v5 0).bind fun h6 =>
  (ax_gR E h6 x0 5 13).bind fun v7 =>
  (ax_gI E h6 x0 5 16).bind fun v8 =>
  (f_X5_isSmall E x3 h6).bind fun q9 =>
  if i2 q9.1 = 0 then
    (f_X5_isDigit E x3 q9.2).bind fun q10 =>
    if i2 q10.1 = 0 then
      f_X5_splits_165 E x0 x1 x2 x3 x4 v7 v8 (100 + (ax_and x3 255)) q10.2
    else
      f_X5_splits_165 E x0 x1 x2 x3 x4 v7 v8 50 q10.2
  else
    (ax_ce E q9.2 x0 5).bind fun _ => (f_X5_wordOf E x0 x2 x4 q9.2).bind fun q11 =>
    f_X5_splits_165 E x0 x1 x2 x3 x4 v7 v8 q11.1 q11.2
noncomputable def lb_X5_splits_75 (E : ax_E) (x0 : Option Nat) (x1 : Int) (x2 : Int) (x3 : Int) (x4 : Int) (h : ax_H) : Option ((Int × ax_H) ⊕ ((Int × ax_H) ⊕ (ax_H))) :=
  if i2 x4 < i2 x1 then
    (ax_gR E h x0 5 9).bind fun v1 =>
    (ax_ld E h v1 101 x4).bind fun v2 =>
    (f_X5_isDigit E v2 h).bind fun q3 =>
    if i2 q3.1 = 0 then
      (f_X5_splits_100 E x0 x1 x2 x3 x4 q3.2).map Sum.inr
    else
      some (.inl ((x4 + 1), q3.2))
  else
    (f_X5_splits_100 E x0 x1 x2 x3 x4 h).map Sum.inr
noncomputable def f_X5_splits_75 (E : ax_E) (x0 : Option Nat) (x1 : Int) (x2 : Int) (x3 : Int) (x4 : Int) (h : ax_H) : Option ((Int × ax_H) ⊕ (ax_H)) :=
  ax_iter (fun s : Int × ax_H => lb_X5_splits_75 E x0 x1 x2 x3 s.1 s.2) (x4, h)
noncomputable def f_X5_splits_68 (E : ax_E) (x0 : Option Nat) (x1 : Int) (x2 : Int) (x3 : Int) (x4 : Int) (h : ax_H) : Option ((Int × ax_H) ⊕ (ax_H)) :=
  (f_X5_isDigit E x3 h).bind fun q1 =>
  if i2 q1.1 = 0 then
    f_X5_splits_100 E x0 x1 x2 x3 x4 q1.2
  else
    f_X5_splits_75 E x0 x1 x2 x3 x4 q1.2
noncomputable def lb_X5_splits_43 (E : ax_E) (x0 : Option Nat) (x1 : Int) (x2 : Int) (x3 : Int) (x4 : Int) (h : ax_H) : Option ((Int × ax_H) ⊕ ((Int × ax_H) ⊕ (ax_H))) :=
  if i2 x4 < i2 x1 then
    (ax_gR E h x0 5 9).bind fun v1 =>
    (ax_ld E h v1 101 x4).bind fun v2 =>
    (f_X5_isSmall E v2 h).bind fun q3 =>
    if i2 q3.1 = 0 then
      (f_X5_splits_68 E x0 x1 x2 x3 x4 q3.2).map Sum.inr
    else
      some (.inl ((x4 + 1), q3.2))
  else
    (f_X5_splits_68 E x0 x1 x2 x3 x4 h).map Sum.inr
noncomputable def f_X5_splits_43 (E : ax_E) (x0 : Option Nat) (x1 : Int) (x2 : Int) (x3 : Int) (x4 : Int) (h : ax_H) : Option ((Int × ax_H) ⊕ (ax_H)) :=
  ax_iter (fun s : Int × ax_H => lb_X5_splits_43 E x0 x1 x2 x3 s.1 s.2) (x4, h)
noncomputable def lb_X5_splits_7 (E : ax_E) (x0 : Option Nat) (x1 : Int) (x2 : Int) (h : ax_H) : Option ((Int × ax_H) ⊕ (ax_H)) :=
  if i2 x2 < i2 x1 then
    (ax_gR E h x0 5 9).bind fun v1 =>
    (ax_ld E h v1 101 x2).bind fun v2 =>
    if i2 v2 = i2 32 then
      some (.inl ((x2 + 1), h))
    else
      (f_X5_isSmall E v2 h).bind fun q3 =>
      if i2 q3.1 = 0 then
        f_X5_splits_68 E x0 x1 x2 v2 (x2 + 1) q3.2
      else
        f_X5_splits_43 E x0 x1 x2 v2 (x2 + 1) q3.2
  else
    ((ax_gR E h x0 5 15).bind fun v4 =>
    (ax_gI E h x0 5 16).bind fun v5 =>
    (ax_sto h v4 100 v5 x1).bind fun h6 =>
    (ax_gR E h6 x0 5 13).bind fun v7 =>
    (ax_gI E h6 x0 5 16).bind fun v8 =>
    (ax_sto h6 v7 100 v8 0).bind fun h9 =>
    (ax_gR E h9 x0 5 14).bind fun v10 =>
    (ax_gI E h9 x0 5 16).bind fun v11 =>
    (ax_sto h9 v10 100 v11 0).bind fun h12 =>
    some h12).map Sum.inr
noncomputable def f_X5_splits_7 (E : ax_E) (x0 : Option Nat) (x1 : Int) (x2 : Int) (h : ax_H) : Option (ax_H) :=
  ax_iter (fun s : Int × ax_H => lb_X5_splits_7 E x0 x1 s.1 s.2) (x2, h)
noncomputable def f_X5_splits (E : ax_E) (x0 : Option Nat) (x1 : Int) (h : ax_H) : Option (ax_H) :=
  (ax_pI h x0 5 16 0).bind fun h1 =>
  f_X5_splits_7 E x0 x1 0 h1
def pi_X5_splits_169 (G : ax_G) (X : ax_X) (Q : State → Prop) (x0 : Option Nat) (x1 : Int) (x3 : Int) (x4 : Int) : Int × ax_H → Prop := fun s => ∀ ls : Array Slot, ax_hl ls 6 [(0, .inr (.inr x0)), (1, .inl x1), (3, .inl x3), (4, .inl x4), (5, .inl s.1)] → ax_W G X Q s.2 169 ls []
def pi_X5_splits_75 (G : ax_G) (X : ax_X) (Q : State → Prop) (x0 : Option Nat) (x1 : Int) (x2 : Int) (x3 : Int) : Int × ax_H → Prop := fun s => ∀ ls : Array Slot, ax_hl ls 6 [(0, .inr (.inr x0)), (1, .inl x1), (2, .inl x2), (3, .inl x3), (4, .inl s.1)] → ax_W G X Q s.2 75 ls []
def pi_X5_splits_43 (G : ax_G) (X : ax_X) (Q : State → Prop) (x0 : Option Nat) (x1 : Int) (x2 : Int) (x3 : Int) : Int × ax_H → Prop := fun s => ∀ ls : Array Slot, ax_hl ls 6 [(0, .inr (.inr x0)), (1, .inl x1), (2, .inl x2), (3, .inl x3), (4, .inl s.1)] → ax_W G X Q s.2 43 ls []
def pi_X5_splits_7 (G : ax_G) (X : ax_X) (Q : State → Prop) (x0 : Option Nat) (x1 : Int) : Int × ax_H → Prop := fun s => ∀ ls : Array Slot, ax_hl ls 6 [(0, .inr (.inr x0)), (1, .inl x1), (2, .inl s.1)] → ax_W G X Q s.2 7 ls []
set_option maxHeartbeats 4000000 in
theorem w_X5_splits_240 {l : Launch} {G : ax_G} {X : ax_X} {Q : State → Prop} {h0 h : ax_H} {ls : Array Slot} (hSF : ax_SF G) (B : ax_BL l G X cX5_splits 6 RX5 2 67) (Z : ax_Z X h0 none) (hn : X.2.2.2.2.2.2.2.2.1.name = yX5_splits.name) (x0 : Option Nat) (x1 : Int) (x3 : Int) (x4 : Int) (x5 : Int) (s0 : Option Nat) (s1 : Int) (s2 : Int) {w : (Int × ax_H) ⊕ ((Int × ax_H) ⊕ (ax_H))} (hl : ax_hl ls 6 [(0, .inr (.inr x0)), (1, .inl x1), (3, .inl x3), (4, .inl x4), (5, .inl x5)]) (e : f_X5_splits_240 G.2.2 x0 x1 x3 x4 x5 s0 s1 s2 h = some w) (hp : (ax_PL (pi_X5_splits_169 G X Q x0 x1 x3 x4) (ax_PL (pi_X5_splits_7 G X Q x0 x1) (fun w : ax_H => Q = ax_Q G X h0 w none))) w) : ax_W G X Q h 240 ls [.int (Int32.ofInt s2), .int (Int32.ofInt s1), va_rf s0] := by
  unfold f_X5_splits_240 at e
  refine ax_iast B kd100 dX5_splits_240 e (fun h1 e => ?_)
  refine ax_iinc (L' := [(5, .inl (x5 + 1)), (0, .inr (.inr x0)), (1, .inl x1), (3, .inl x3), (4, .inl x4)]) B dX5_splits_241 hl 4 rfl (by decide) rfl (fun ls hl => ?_)
  refine ax_goto (tgt := 169) B dX5_splits_244 (by decide) ?_
  cases e
  exact hp _ (hl.sub [1, 2, 3, 4, 0] rfl)
set_option maxHeartbeats 4000000 in
theorem w_X5_splits_247 {l : Launch} {G : ax_G} {X : ax_X} {Q : State → Prop} {h0 h : ax_H} {ls : Array Slot} (hSF : ax_SF G) (B : ax_BL l G X cX5_splits 6 RX5 2 67) (Z : ax_Z X h0 none) (hn : X.2.2.2.2.2.2.2.2.1.name = yX5_splits.name) (x0 : Option Nat) (x1 : Int) (x4 : Int) {w : (Int × ax_H) ⊕ (ax_H)} (hl : ax_hl ls 6 [(0, .inr (.inr x0)), (1, .inl x1), (4, .inl x4)]) (e : f_X5_splits_247 G.2.2 x0 x1 x4 h = some w) (hp : (ax_PL (pi_X5_splits_7 G X Q x0 x1) (fun w : ax_H => Q = ax_Q G X h0 w none)) w) : ax_W G X Q h 247 ls [] := by
  unfold f_X5_splits_247 at e
  refine ax_aload_n B dX5_splits_247 rfl hl 0 rfl ?_
  refine ax_dup B dX5_splits_248 (va_rf_cat _) ?_
  refine ax_getI B ff_X5_187_5 (fun _ _ => rfl) dX5_splits_249 e (fun v1 e => ?_)
  refine ax_iconst B dX5_splits_252 ?_
  refine ax_iadd' B dX5_splits_253 ?_
  refine ax_putI B ff_X5_187_5 (Or.inl rfl) rfl dX5_splits_254 e (fun h2 e => ?_)
  refine ax_iload B dX5_splits_257 hl 2 rfl ?_
  refine ax_istore_n (L' := [(2, .inl x4), (0, .inr (.inr x0)), (1, .inl x1), (4, .inl x4)]) B dX5_splits_259 rfl hl (by decide) rfl (fun ls hl => ?_)
  refine ax_goto (tgt := 7) B dX5_splits_260 (by decide) ?_
  cases e
  exact hp _ (hl.sub [1, 2, 0] rfl)
set_option maxHeartbeats 4000000 in
theorem wb_X5_splits_169 {l : Launch} {G : ax_G} {X : ax_X} {Q : State → Prop} {h0 h : ax_H} {ls : Array Slot} (hSF : ax_SF G) (B : ax_BL l G X cX5_splits 6 RX5 2 67) (Z : ax_Z X h0 none) (hn : X.2.2.2.2.2.2.2.2.1.name = yX5_splits.name) (x0 : Option Nat) (x1 : Int) (x3 : Int) (x4 : Int) (x5 : Int) {w : (Int × ax_H) ⊕ ((Int × ax_H) ⊕ (ax_H))} (hl : ax_hl ls 6 [(0, .inr (.inr x0)), (1, .inl x1), (3, .inl x3), (4, .inl x4), (5, .inl x5)]) (e : lb_X5_splits_169 G.2.2 x0 x1 x3 x4 x5 h = some w) (hp : (ax_PL (pi_X5_splits_169 G X Q x0 x1 x3 x4) (ax_PL (pi_X5_splits_7 G X Q x0 x1) (fun w : ax_H => Q = ax_Q G X h0 w none))) w) : ax_W G X Q h 169 ls [] := by
  unfold lb_X5_splits_169 at e
  refine ax_iload B dX5_splits_169 hl 4 rfl ?_
  refine ax_iload B dX5_splits_171 hl 3 rfl ?_
  refine ax_icmp_ge (tgt := 247) B dX5_splits_173 (by decide) e (fun e => ?_) (fun e => ?_)
  · refine ax_iload_n B dX5_splits_176 rfl hl 2 rfl ?_
    refine ax_isI (y := yX5_isDigit) (n := 1) (As := [.int (Int32.ofInt x3)]) B (lw_S q2339 q2340 q133 q2341) (by decide +kernel) ⟨Nat.le_of_ble_eq_true rfl, Nat.le_of_ble_eq_true rfl⟩ (fun w1 e1 => mt_X5_isDigit l G hSF x3 _ w1 e1) rfl hl.size (by decide) dX5_splits_177 e (fun q1 e => ?_)
    refine ax_if_eq (tgt := 247) B dX5_splits_180 (by decide) e (fun e => ?_) (fun e => ?_)
    · obtain ⟨w, e9_1, rfl⟩ := Option.map_eq_some_iff.mp e
      have e := e9_1
      exact w_X5_splits_247 hSF B Z hn x0 x1 x4 (hl.sub [0, 1, 3] rfl) e hp
    · refine ax_aload_n B dX5_splits_183 rfl hl 0 rfl ?_
      refine ax_getR B ff_X5_53_5 (fun _ _ => rfl) dX5_splits_184 e (fun v2 e => ?_)
      refine ax_aload_n B dX5_splits_187 rfl hl 0 rfl ?_
      refine ax_getI B ff_X5_187_5 (fun _ _ => rfl) dX5_splits_188 e (fun v3 e => ?_)
      refine ax_aload_n B dX5_splits_191 rfl hl 0 rfl ?_
      refine ax_getR B ff_X5_53_5 (fun _ _ => rfl) dX5_splits_192 e (fun v4 e => ?_)
      refine ax_aload_n B dX5_splits_195 rfl hl 0 rfl ?_
      refine ax_getI B ff_X5_187_5 (fun _ _ => rfl) dX5_splits_196 e (fun v5 e => ?_)
      refine ax_iald B kd100 dX5_splits_199 e (fun v6 e => ?_)
      refine ax_ldc B cn_X5_199 dX5_splits_200 ?_
      refine ax_icmp_le (tgt := 217) B dX5_splits_202 (by decide) e (fun e => ?_) (fun e => ?_)
      · refine ax_aload_n B dX5_splits_205 rfl hl 0 rfl ?_
        refine ax_getR B ff_X5_53_5 (fun _ _ => rfl) dX5_splits_206 e (fun v7 e => ?_)
        refine ax_aload_n B dX5_splits_209 rfl hl 0 rfl ?_
        refine ax_getI B ff_X5_187_5 (fun _ _ => rfl) dX5_splits_210 e (fun v8 e => ?_)
        refine ax_iald B kd100 dX5_splits_213 e (fun v9 e => ?_)
        refine ax_goto (tgt := 240) B dX5_splits_214 (by decide) ?_
        exact w_X5_splits_240 hSF B Z hn x0 x1 x3 x4 x5 v2 v3 v9 (hl.sub [0, 1, 2, 3, 4] rfl) e hp
      · refine ax_bipush B dX5_splits_217 (by decide) ?_
        refine ax_aload_n B dX5_splits_219 rfl hl 0 rfl ?_
        refine ax_getR B ff_X5_53_5 (fun _ _ => rfl) dX5_splits_220 e (fun v10 e => ?_)
        refine ax_aload_n B dX5_splits_223 rfl hl 0 rfl ?_
        refine ax_getI B ff_X5_187_5 (fun _ _ => rfl) dX5_splits_224 e (fun v11 e => ?_)
        refine ax_iald B kd100 dX5_splits_227 e (fun v12 e => ?_)
        refine ax_imul' B dX5_splits_228 ?_
        refine ax_aload_n B dX5_splits_229 rfl hl 0 rfl ?_
        refine ax_getR B ff_X5_41_5 (fun _ _ => rfl) dX5_splits_230 e (fun v13 e => ?_)
        refine ax_iload B dX5_splits_233 hl 4 rfl ?_
        refine ax_bald B kd101 dX5_splits_235 e (fun v14 e => ?_)
        refine ax_iadd' B dX5_splits_236 ?_
        refine ax_bipush B dX5_splits_237 (by decide) ?_
        refine ax_isub' B dX5_splits_239 ?_
        exact w_X5_splits_240 hSF B Z hn x0 x1 x3 x4 x5 v2 v3 (((10 * v12) + v14) - 48) (hl.sub [0, 1, 2, 3, 4] rfl) e hp
  · obtain ⟨w, e9_2, rfl⟩ := Option.map_eq_some_iff.mp e
    have e := e9_2
    exact w_X5_splits_247 hSF B Z hn x0 x1 x4 (hl.sub [0, 1, 3] rfl) e hp
theorem w_X5_splits_169 {l : Launch} {G : ax_G} {X : ax_X} {Q : State → Prop} {h0 h : ax_H} {ls : Array Slot} (hSF : ax_SF G) (B : ax_BL l G X cX5_splits 6 RX5 2 67) (Z : ax_Z X h0 none) (hn : X.2.2.2.2.2.2.2.2.1.name = yX5_splits.name) (x0 : Option Nat) (x1 : Int) (x3 : Int) (x4 : Int) (x5 : Int) {w : (Int × ax_H) ⊕ (ax_H)} (hl : ax_hl ls 6 [(0, .inr (.inr x0)), (1, .inl x1), (3, .inl x3), (4, .inl x4), (5, .inl x5)]) (e : f_X5_splits_169 G.2.2 x0 x1 x3 x4 x5 h = some w) (hp : (ax_PL (pi_X5_splits_7 G X Q x0 x1) (fun w : ax_H => Q = ax_Q G X h0 w none)) w) : ax_W G X Q h 169 ls [] :=
  ax_iter_W (Pin := pi_X5_splits_169 G X Q x0 x1 x3 x4) (Pout := (ax_PL (pi_X5_splits_7 G X Q x0 x1) (fun w : ax_H => Q = ax_Q G X h0 w none))) (fun s w e hp ls hl => wb_X5_splits_169 hSF B Z hn x0 x1 x3 x4 s.1 hl e hp) _ _ e hp ls hl
set_option maxHeartbeats 4000000 in
theorem w_X5_splits_165 {l : Launch} {G : ax_G} {X : ax_X} {Q : State → Prop} {h0 h : ax_H} {ls : Array Slot} (hSF : ax_SF G) (B : ax_BL l G X cX5_splits 6 RX5 2 67) (Z : ax_Z X h0 none) (hn : X.2.2.2.2.2.2.2.2.1.name = yX5_splits.name) (x0 : Option Nat) (x1 : Int) (x2 : Int) (x3 : Int) (x4 : Int) (s0 : Option Nat) (s1 : Int) (s2 : Int) {w : (Int × ax_H) ⊕ (ax_H)} (hl : ax_hl ls 6 [(0, .inr (.inr x0)), (1, .inl x1), (2, .inl x2), (3, .inl x3), (4, .inl x4)]) (e : f_X5_splits_165 G.2.2 x0 x1 x2 x3 x4 s0 s1 s2 h = some w) (hp : (ax_PL (pi_X5_splits_7 G X Q x0 x1) (fun w : ax_H => Q = ax_Q G X h0 w none)) w) : ax_W G X Q h 165 ls [.int (Int32.ofInt s2), .int (Int32.ofInt s1), va_rf s0] := by
  unfold f_X5_splits_165 at e
  refine ax_iast B kd100 dX5_splits_165 e (fun h1 e => ?_)
  refine ax_iload_n B dX5_splits_166 rfl hl 2 rfl ?_
  refine ax_istore (L' := [(5, .inl x2), (0, .inr (.inr x0)), (1, .inl x1), (2, .inl x2), (3, .inl x3), (4, .inl x4)]) B dX5_splits_167 hl (by decide) rfl (fun ls hl => ?_)
  exact w_X5_splits_169 hSF B Z hn x0 x1 x3 x4 x2 (hl.sub [1, 2, 4, 5, 0] rfl) e hp
set_option maxHeartbeats 4000000 in
theorem w_X5_splits_100 {l : Launch} {G : ax_G} {X : ax_X} {Q : State → Prop} {h0 h : ax_H} {ls : Array Slot} (hSF : ax_SF G) (B : ax_BL l G X cX5_splits 6 RX5 2 67) (Z : ax_Z X h0 none) (hn : X.2.2.2.2.2.2.2.2.1.name = yX5_splits.name) (x0 : Option Nat) (x1 : Int) (x2 : Int) (x3 : Int) (x4 : Int) {w : (Int × ax_H) ⊕ (ax_H)} (hl : ax_hl ls 6 [(0, .inr (.inr x0)), (1, .inl x1), (2, .inl x2), (3, .inl x3), (4, .inl x4)]) (e : f_X5_splits_100 G.2.2 x0 x1 x2 x3 x4 h = some w) (hp : (ax_PL (pi_X5_splits_7 G X Q x0 x1) (fun w : ax_H => Q = ax_Q G X h0 w none)) w) : ax_W G X Q h 100 ls [] := by
  unfold f_X5_splits_100 at e
  refine ax_aload_n B dX5_splits_100 rfl hl 0 rfl ?_
  refine ax_getR B ff_X5_56_5 (fun _ _ => rfl) dX5_splits_101 e (fun v1 e => ?_)
  refine ax_aload_n B dX5_splits_104 rfl hl 0 rfl ?_
  refine ax_getI B ff_X5_187_5 (fun _ _ => rfl) dX5_splits_105 e (fun v2 e => ?_)
  refine ax_iload_n B dX5_splits_108 rfl hl 2 rfl ?_
  refine ax_iast B kd100 dX5_splits_109 e (fun h3 e => ?_)
  refine ax_aload_n B dX5_splits_110 rfl hl 0 rfl ?_
  refine ax_getR B ff_X5_53_5 (fun _ _ => rfl) dX5_splits_111 e (fun v4 e => ?_)
  refine ax_aload_n B dX5_splits_114 rfl hl 0 rfl ?_
  refine ax_getI B ff_X5_187_5 (fun _ _ => rfl) dX5_splits_115 e (fun v5 e => ?_)
  refine ax_iconst B dX5_splits_118 ?_
  refine ax_iast B kd100 dX5_splits_119 e (fun h6 e => ?_)
  refine ax_aload_n B dX5_splits_120 rfl hl 0 rfl ?_
  refine ax_getR B ff_X5_50_5 (fun _ _ => rfl) dX5_splits_121 e (fun v7 e => ?_)
  refine ax_aload_n B dX5_splits_124 rfl hl 0 rfl ?_
  refine ax_getI B ff_X5_187_5 (fun _ _ => rfl) dX5_splits_125 e (fun v8 e => ?_)
  refine ax_iload_n B dX5_splits_128 rfl hl 3 rfl ?_
  refine ax_isI (y := yX5_isSmall) (n := 1) (As := [.int (Int32.ofInt x3)]) B (lw_S q2336 q2337 q133 q2338) (by decide +kernel) ⟨Nat.le_of_ble_eq_true rfl, Nat.le_of_ble_eq_true rfl⟩ (fun w1 e1 => mt_X5_isSmall l G hSF x3 _ w1 e1) rfl hl.size (by simp only [List.map_cons, List.map_nil, List.sum_cons, List.sum_nil, va_rf_cat, ax_catI, ax_catL]; decide) dX5_splits_129 e (fun q9 e => ?_)
  refine ax_if_eq (tgt := 145) B dX5_splits_132 (by decide) e (fun e => ?_) (fun e => ?_)
  · refine ax_iload_n B dX5_splits_145 rfl hl 3 rfl ?_
    refine ax_isI (y := yX5_isDigit) (n := 1) (As := [.int (Int32.ofInt x3)]) B (lw_S q2339 q2340 q133 q2341) (by decide +kernel) ⟨Nat.le_of_ble_eq_true rfl, Nat.le_of_ble_eq_true rfl⟩ (fun w1 e1 => mt_X5_isDigit l G hSF x3 _ w1 e1) rfl hl.size (by simp only [List.map_cons, List.map_nil, List.sum_cons, List.sum_nil, va_rf_cat, ax_catI, ax_catL]; decide) dX5_splits_146 e (fun q10 e => ?_)
    refine ax_if_eq (tgt := 157) B dX5_splits_149 (by decide) e (fun e => ?_) (fun e => ?_)
    · refine ax_bipush B dX5_splits_157 (by decide) ?_
      refine ax_iload_n B dX5_splits_159 rfl hl 3 rfl ?_
      refine ax_sipush B dX5_splits_160 (by decide) ?_
      refine ax_iand' B dX5_splits_163 ?_
      refine ax_iadd' B dX5_splits_164 ?_
      exact w_X5_splits_165 hSF B Z hn x0 x1 x2 x3 x4 v7 v8 (100 + (ax_and x3 255)) (hl.sub [0, 1, 2, 3, 4] rfl) e hp
    · refine ax_bipush B dX5_splits_152 (by decide) ?_
      refine ax_goto (tgt := 165) B dX5_splits_154 (by decide) ?_
      exact w_X5_splits_165 hSF B Z hn x0 x1 x2 x3 x4 v7 v8 50 (hl.sub [0, 1, 2, 3, 4] rfl) e hp
  · refine ax_aload_n B dX5_splits_135 rfl hl 0 rfl ?_
    refine ax_iload_n B dX5_splits_136 rfl hl 2 rfl ?_
    refine ax_iload B dX5_splits_137 hl 4 rfl ?_
    refine ax_ivI (y := yX5_wordOf) (n := 2) (As := [.int (Int32.ofInt x2), .int (Int32.ofInt x4)]) B kd5 (lw_V q2342 q2344 qs69 q133 q2345) (by decide +kernel) ⟨Nat.le_of_ble_eq_true rfl, Nat.le_of_ble_eq_true rfl⟩ (fun w1 e1 => mt_X5_wordOf l G hSF x0 x2 x4 _ w1 e1) rfl hl.size (by simp only [List.map_cons, List.map_nil, List.sum_cons, List.sum_nil, va_rf_cat, ax_catI, ax_catL]; decide) dX5_splits_139 e (fun q11 e => ?_)
    refine ax_goto (tgt := 165) B dX5_splits_142 (by decide) ?_
    exact w_X5_splits_165 hSF B Z hn x0 x1 x2 x3 x4 v7 v8 q11.1 (hl.sub [0, 1, 2, 3, 4] rfl) e hp
set_option maxHeartbeats 4000000 in
theorem wb_X5_splits_75 {l : Launch} {G : ax_G} {X : ax_X} {Q : State → Prop} {h0 h : ax_H} {ls : Array Slot} (hSF : ax_SF G) (B : ax_BL l G X cX5_splits 6 RX5 2 67) (Z : ax_Z X h0 none) (hn : X.2.2.2.2.2.2.2.2.1.name = yX5_splits.name) (x0 : Option Nat) (x1 : Int) (x2 : Int) (x3 : Int) (x4 : Int) {w : (Int × ax_H) ⊕ ((Int × ax_H) ⊕ (ax_H))} (hl : ax_hl ls 6 [(0, .inr (.inr x0)), (1, .inl x1), (2, .inl x2), (3, .inl x3), (4, .inl x4)]) (e : lb_X5_splits_75 G.2.2 x0 x1 x2 x3 x4 h = some w) (hp : (ax_PL (pi_X5_splits_75 G X Q x0 x1 x2 x3) (ax_PL (pi_X5_splits_7 G X Q x0 x1) (fun w : ax_H => Q = ax_Q G X h0 w none))) w) : ax_W G X Q h 75 ls [] := by
  unfold lb_X5_splits_75 at e
  refine ax_iload B dX5_splits_75 hl 4 rfl ?_
  refine ax_iload_n B dX5_splits_77 rfl hl 1 rfl ?_
  refine ax_icmp_ge (tgt := 100) B dX5_splits_78 (by decide) e (fun e => ?_) (fun e => ?_)
  · refine ax_aload_n B dX5_splits_81 rfl hl 0 rfl ?_
    refine ax_getR B ff_X5_41_5 (fun _ _ => rfl) dX5_splits_82 e (fun v1 e => ?_)
    refine ax_iload B dX5_splits_85 hl 4 rfl ?_
    refine ax_bald B kd101 dX5_splits_87 e (fun v2 e => ?_)
    refine ax_isI (y := yX5_isDigit) (n := 1) (As := [.int (Int32.ofInt v2)]) B (lw_S q2339 q2340 q133 q2341) (by decide +kernel) ⟨Nat.le_of_ble_eq_true rfl, Nat.le_of_ble_eq_true rfl⟩ (fun w1 e1 => mt_X5_isDigit l G hSF v2 _ w1 e1) rfl hl.size (by decide) dX5_splits_88 e (fun q3 e => ?_)
    refine ax_if_eq (tgt := 100) B dX5_splits_91 (by decide) e (fun e => ?_) (fun e => ?_)
    · obtain ⟨w, e9_3, rfl⟩ := Option.map_eq_some_iff.mp e
      have e := e9_3
      exact w_X5_splits_100 hSF B Z hn x0 x1 x2 x3 x4 (hl.sub [0, 1, 2, 3, 4] rfl) e hp
    · refine ax_iinc (L' := [(4, .inl (x4 + 1)), (0, .inr (.inr x0)), (1, .inl x1), (2, .inl x2), (3, .inl x3)]) B dX5_splits_94 hl 4 rfl (by decide) rfl (fun ls hl => ?_)
      refine ax_goto (tgt := 75) B dX5_splits_97 (by decide) ?_
      cases e
      exact hp _ (hl.sub [1, 2, 3, 4, 0] rfl)
  · obtain ⟨w, e9_4, rfl⟩ := Option.map_eq_some_iff.mp e
    have e := e9_4
    exact w_X5_splits_100 hSF B Z hn x0 x1 x2 x3 x4 (hl.sub [0, 1, 2, 3, 4] rfl) e hp
theorem w_X5_splits_75 {l : Launch} {G : ax_G} {X : ax_X} {Q : State → Prop} {h0 h : ax_H} {ls : Array Slot} (hSF : ax_SF G) (B : ax_BL l G X cX5_splits 6 RX5 2 67) (Z : ax_Z X h0 none) (hn : X.2.2.2.2.2.2.2.2.1.name = yX5_splits.name) (x0 : Option Nat) (x1 : Int) (x2 : Int) (x3 : Int) (x4 : Int) {w : (Int × ax_H) ⊕ (ax_H)} (hl : ax_hl ls 6 [(0, .inr (.inr x0)), (1, .inl x1), (2, .inl x2), (3, .inl x3), (4, .inl x4)]) (e : f_X5_splits_75 G.2.2 x0 x1 x2 x3 x4 h = some w) (hp : (ax_PL (pi_X5_splits_7 G X Q x0 x1) (fun w : ax_H => Q = ax_Q G X h0 w none)) w) : ax_W G X Q h 75 ls [] :=
  ax_iter_W (Pin := pi_X5_splits_75 G X Q x0 x1 x2 x3) (Pout := (ax_PL (pi_X5_splits_7 G X Q x0 x1) (fun w : ax_H => Q = ax_Q G X h0 w none))) (fun s w e hp ls hl => wb_X5_splits_75 hSF B Z hn x0 x1 x2 x3 s.1 hl e hp) _ _ e hp ls hl
set_option maxHeartbeats 4000000 in
theorem w_X5_splits_68 {l : Launch} {G : ax_G} {X : ax_X} {Q : State → Prop} {h0 h : ax_H} {ls : Array Slot} (hSF : ax_SF G) (B : ax_BL l G X cX5_splits 6 RX5 2 67) (Z : ax_Z X h0 none) (hn : X.2.2.2.2.2.2.2.2.1.name = yX5_splits.name) (x0 : Option Nat) (x1 : Int) (x2 : Int) (x3 : Int) (x4 : Int) {w : (Int × ax_H) ⊕ (ax_H)} (hl : ax_hl ls 6 [(0, .inr (.inr x0)), (1, .inl x1), (2, .inl x2), (3, .inl x3), (4, .inl x4)]) (e : f_X5_splits_68 G.2.2 x0 x1 x2 x3 x4 h = some w) (hp : (ax_PL (pi_X5_splits_7 G X Q x0 x1) (fun w : ax_H => Q = ax_Q G X h0 w none)) w) : ax_W G X Q h 68 ls [] := by
  unfold f_X5_splits_68 at e
  refine ax_iload_n B dX5_splits_68 rfl hl 3 rfl ?_
  refine ax_isI (y := yX5_isDigit) (n := 1) (As := [.int (Int32.ofInt x3)]) B (lw_S q2339 q2340 q133 q2341) (by decide +kernel) ⟨Nat.le_of_ble_eq_true rfl, Nat.le_of_ble_eq_true rfl⟩ (fun w1 e1 => mt_X5_isDigit l G hSF x3 _ w1 e1) rfl hl.size (by decide) dX5_splits_69 e (fun q1 e => ?_)
  refine ax_if_eq (tgt := 100) B dX5_splits_72 (by decide) e (fun e => ?_) (fun e => ?_)
  · exact w_X5_splits_100 hSF B Z hn x0 x1 x2 x3 x4 (hl.sub [0, 1, 2, 3, 4] rfl) e hp
  · exact w_X5_splits_75 hSF B Z hn x0 x1 x2 x3 x4 (hl.sub [0, 1, 2, 3, 4] rfl) e hp
set_option maxHeartbeats 4000000 in
theorem wb_X5_splits_43 {l : Launch} {G : ax_G} {X : ax_X} {Q : State → Prop} {h0 h : ax_H} {ls : Array Slot} (hSF : ax_SF G) (B : ax_BL l G X cX5_splits 6 RX5 2 67) (Z : ax_Z X h0 none) (hn : X.2.2.2.2.2.2.2.2.1.name = yX5_splits.name) (x0 : Option Nat) (x1 : Int) (x2 : Int) (x3 : Int) (x4 : Int) {w : (Int × ax_H) ⊕ ((Int × ax_H) ⊕ (ax_H))} (hl : ax_hl ls 6 [(0, .inr (.inr x0)), (1, .inl x1), (2, .inl x2), (3, .inl x3), (4, .inl x4)]) (e : lb_X5_splits_43 G.2.2 x0 x1 x2 x3 x4 h = some w) (hp : (ax_PL (pi_X5_splits_43 G X Q x0 x1 x2 x3) (ax_PL (pi_X5_splits_7 G X Q x0 x1) (fun w : ax_H => Q = ax_Q G X h0 w none))) w) : ax_W G X Q h 43 ls [] := by
  unfold lb_X5_splits_43 at e
  refine ax_iload B dX5_splits_43 hl 4 rfl ?_
  refine ax_iload_n B dX5_splits_45 rfl hl 1 rfl ?_
  refine ax_icmp_ge (tgt := 68) B dX5_splits_46 (by decide) e (fun e => ?_) (fun e => ?_)
  · refine ax_aload_n B dX5_splits_49 rfl hl 0 rfl ?_
    refine ax_getR B ff_X5_41_5 (fun _ _ => rfl) dX5_splits_50 e (fun v1 e => ?_)
    refine ax_iload B dX5_splits_53 hl 4 rfl ?_
    refine ax_bald B kd101 dX5_splits_55 e (fun v2 e => ?_)
    refine ax_isI (y := yX5_isSmall) (n := 1) (As := [.int (Int32.ofInt v2)]) B (lw_S q2336 q2337 q133 q2338) (by decide +kernel) ⟨Nat.le_of_ble_eq_true rfl, Nat.le_of_ble_eq_true rfl⟩ (fun w1 e1 => mt_X5_isSmall l G hSF v2 _ w1 e1) rfl hl.size (by decide) dX5_splits_56 e (fun q3 e => ?_)
    refine ax_if_eq (tgt := 68) B dX5_splits_59 (by decide) e (fun e => ?_) (fun e => ?_)
    · obtain ⟨w, e9_5, rfl⟩ := Option.map_eq_some_iff.mp e
      have e := e9_5
      exact w_X5_splits_68 hSF B Z hn x0 x1 x2 x3 x4 (hl.sub [0, 1, 2, 3, 4] rfl) e hp
    · refine ax_iinc (L' := [(4, .inl (x4 + 1)), (0, .inr (.inr x0)), (1, .inl x1), (2, .inl x2), (3, .inl x3)]) B dX5_splits_62 hl 4 rfl (by decide) rfl (fun ls hl => ?_)
      refine ax_goto (tgt := 43) B dX5_splits_65 (by decide) ?_
      cases e
      exact hp _ (hl.sub [1, 2, 3, 4, 0] rfl)
  · obtain ⟨w, e9_6, rfl⟩ := Option.map_eq_some_iff.mp e
    have e := e9_6
    exact w_X5_splits_68 hSF B Z hn x0 x1 x2 x3 x4 (hl.sub [0, 1, 2, 3, 4] rfl) e hp
theorem w_X5_splits_43 {l : Launch} {G : ax_G} {X : ax_X} {Q : State → Prop} {h0 h : ax_H} {ls : Array Slot} (hSF : ax_SF G) (B : ax_BL l G X cX5_splits 6 RX5 2 67) (Z : ax_Z X h0 none) (hn : X.2.2.2.2.2.2.2.2.1.name = yX5_splits.name) (x0 : Option Nat) (x1 : Int) (x2 : Int) (x3 : Int) (x4 : Int) {w : (Int × ax_H) ⊕ (ax_H)} (hl : ax_hl ls 6 [(0, .inr (.inr x0)), (1, .inl x1), (2, .inl x2), (3, .inl x3), (4, .inl x4)]) (e : f_X5_splits_43 G.2.2 x0 x1 x2 x3 x4 h = some w) (hp : (ax_PL (pi_X5_splits_7 G X Q x0 x1) (fun w : ax_H => Q = ax_Q G X h0 w none)) w) : ax_W G X Q h 43 ls [] :=
  ax_iter_W (Pin := pi_X5_splits_43 G X Q x0 x1 x2 x3) (Pout := (ax_PL (pi_X5_splits_7 G X Q x0 x1) (fun w : ax_H => Q = ax_Q G X h0 w none))) (fun s w e hp ls hl => wb_X5_splits_43 hSF B Z hn x0 x1 x2 x3 s.1 hl e hp) _ _ e hp ls hl
set_option maxHeartbeats 4000000 in
theorem wb_X5_splits_7 {l : Launch} {G : ax_G} {X : ax_X} {Q : State → Prop} {h0 h : ax_H} {ls : Array Slot} (hSF : ax_SF G) (B : ax_BL l G X cX5_splits 6 RX5 2 67) (Z : ax_Z X h0 none) (hn : X.2.2.2.2.2.2.2.2.1.name = yX5_splits.name) (x0 : Option Nat) (x1 : Int) (x2 : Int) {w : (Int × ax_H) ⊕ (ax_H)} (hl : ax_hl ls 6 [(0, .inr (.inr x0)), (1, .inl x1), (2, .inl x2)]) (e : lb_X5_splits_7 G.2.2 x0 x1 x2 h = some w) (hp : (ax_PL (pi_X5_splits_7 G X Q x0 x1) (fun w : ax_H => Q = ax_Q G X h0 w none)) w) : ax_W G X Q h 7 ls [] := by
  unfold lb_X5_splits_7 at e
  refine ax_iload_n B dX5_splits_7 rfl hl 2 rfl ?_
  refine ax_iload_n B dX5_splits_8 rfl hl 1 rfl ?_
  refine ax_icmp_ge (tgt := 263) B dX5_splits_9 (by decide) e (fun e => ?_) (fun e => ?_)
  · refine ax_aload_n B dX5_splits_12 rfl hl 0 rfl ?_
    refine ax_getR B ff_X5_41_5 (fun _ _ => rfl) dX5_splits_13 e (fun v1 e => ?_)
    refine ax_iload_n B dX5_splits_16 rfl hl 2 rfl ?_
    refine ax_bald B kd101 dX5_splits_17 e (fun v2 e => ?_)
    refine ax_istore_n (L' := [(3, .inl v2), (0, .inr (.inr x0)), (1, .inl x1), (2, .inl x2)]) B dX5_splits_18 rfl hl (by decide) rfl (fun ls hl => ?_)
    refine ax_iload_n B dX5_splits_19 rfl hl 0 rfl ?_
    refine ax_bipush B dX5_splits_20 (by decide) ?_
    refine ax_icmp_ne (tgt := 31) B dX5_splits_22 (by decide) e (fun e => ?_) (fun e => ?_)
    · refine ax_iinc (L' := [(2, .inl (x2 + 1)), (3, .inl v2), (0, .inr (.inr x0)), (1, .inl x1)]) B dX5_splits_25 hl 3 rfl (by decide) rfl (fun ls hl => ?_)
      refine ax_goto (tgt := 7) B dX5_splits_28 (by decide) ?_
      cases e
      exact hp _ (hl.sub [2, 3, 0] rfl)
    · refine ax_iload_n B dX5_splits_31 rfl hl 3 rfl ?_
      refine ax_iconst B dX5_splits_32 ?_
      refine ax_iadd' B dX5_splits_33 ?_
      refine ax_istore (L' := [(4, .inl (x2 + 1)), (3, .inl v2), (0, .inr (.inr x0)), (1, .inl x1), (2, .inl x2)]) B dX5_splits_34 hl (by decide) rfl (fun ls hl => ?_)
      refine ax_iload_n B dX5_splits_36 rfl hl 1 rfl ?_
      refine ax_isI (y := yX5_isSmall) (n := 1) (As := [.int (Int32.ofInt v2)]) B (lw_S q2336 q2337 q133 q2338) (by decide +kernel) ⟨Nat.le_of_ble_eq_true rfl, Nat.le_of_ble_eq_true rfl⟩ (fun w1 e1 => mt_X5_isSmall l G hSF v2 _ w1 e1) rfl hl.size (by decide) dX5_splits_37 e (fun q3 e => ?_)
      refine ax_if_eq (tgt := 68) B dX5_splits_40 (by decide) e (fun e => ?_) (fun e => ?_)
      · exact w_X5_splits_68 hSF B Z hn x0 x1 x2 v2 (x2 + 1) (hl.sub [2, 3, 4, 1, 0] rfl) e hp
      · exact w_X5_splits_43 hSF B Z hn x0 x1 x2 v2 (x2 + 1) (hl.sub [2, 3, 4, 1, 0] rfl) e hp
  · obtain ⟨w, e9_7, rfl⟩ := Option.map_eq_some_iff.mp e
    have e := e9_7
    refine ax_aload_n B dX5_splits_263 rfl hl 0 rfl ?_
    refine ax_getR B ff_X5_56_5 (fun _ _ => rfl) dX5_splits_264 e (fun v4 e => ?_)
    refine ax_aload_n B dX5_splits_267 rfl hl 0 rfl ?_
    refine ax_getI B ff_X5_187_5 (fun _ _ => rfl) dX5_splits_268 e (fun v5 e => ?_)
    refine ax_iload_n B dX5_splits_271 rfl hl 1 rfl ?_
    refine ax_iast B kd100 dX5_splits_272 e (fun h6 e => ?_)
    refine ax_aload_n B dX5_splits_273 rfl hl 0 rfl ?_
    refine ax_getR B ff_X5_50_5 (fun _ _ => rfl) dX5_splits_274 e (fun v7 e => ?_)
    refine ax_aload_n B dX5_splits_277 rfl hl 0 rfl ?_
    refine ax_getI B ff_X5_187_5 (fun _ _ => rfl) dX5_splits_278 e (fun v8 e => ?_)
    refine ax_iconst B dX5_splits_281 ?_
    refine ax_iast B kd100 dX5_splits_282 e (fun h9 e => ?_)
    refine ax_aload_n B dX5_splits_283 rfl hl 0 rfl ?_
    refine ax_getR B ff_X5_53_5 (fun _ _ => rfl) dX5_splits_284 e (fun v10 e => ?_)
    refine ax_aload_n B dX5_splits_287 rfl hl 0 rfl ?_
    refine ax_getI B ff_X5_187_5 (fun _ _ => rfl) dX5_splits_288 e (fun v11 e => ?_)
    refine ax_iconst B dX5_splits_291 ?_
    refine ax_iast B kd100 dX5_splits_292 e (fun h12 e => ?_)
    have e8 := e
    have hp : Q = _ := hp
    subst hp
    exact ax_return B Z dX5_splits_293 e8
theorem w_X5_splits_7 {l : Launch} {G : ax_G} {X : ax_X} {Q : State → Prop} {h0 h : ax_H} {ls : Array Slot} (hSF : ax_SF G) (B : ax_BL l G X cX5_splits 6 RX5 2 67) (Z : ax_Z X h0 none) (hn : X.2.2.2.2.2.2.2.2.1.name = yX5_splits.name) (x0 : Option Nat) (x1 : Int) (x2 : Int) {w : ax_H} (hl : ax_hl ls 6 [(0, .inr (.inr x0)), (1, .inl x1), (2, .inl x2)]) (e : f_X5_splits_7 G.2.2 x0 x1 x2 h = some w) (hp : (fun w : ax_H => Q = ax_Q G X h0 w none) w) : ax_W G X Q h 7 ls [] :=
  ax_iter_W (Pin := pi_X5_splits_7 G X Q x0 x1) (Pout := (fun w : ax_H => Q = ax_Q G X h0 w none)) (fun s w e hp ls hl => wb_X5_splits_7 hSF B Z hn x0 x1 s.1 hl e hp) _ _ e hp ls hl
set_option maxHeartbeats 4000000 in
theorem we_X5_splits {l : Launch} {G : ax_G} {X : ax_X} {Q : State → Prop} {h0 h : ax_H} {ls : Array Slot} (hSF : ax_SF G) (B : ax_BL l G X cX5_splits 6 RX5 2 67) (Z : ax_Z X h0 none) (hn : X.2.2.2.2.2.2.2.2.1.name = yX5_splits.name) (x0 : Option Nat) (x1 : Int) {w : ax_H} (hl : ax_hl ls 6 [(0, .inr (.inr x0)), (1, .inl x1)]) (e : f_X5_splits G.2.2 x0 x1 h = some w) (hp : (fun w : ax_H => Q = ax_Q G X h0 w none) w) : ax_W G X Q h 0 ls [] := by
  unfold f_X5_splits at e
  refine ax_aload_n B dX5_splits_0 rfl hl 0 rfl ?_
  refine ax_iconst B dX5_splits_1 ?_
  refine ax_putI B ff_X5_187_5 (Or.inl rfl) rfl dX5_splits_2 e (fun h1 e => ?_)
  refine ax_iconst B dX5_splits_5 ?_
  refine ax_istore_n (L' := [(2, .inl 0), (0, .inr (.inr x0)), (1, .inl x1)]) B dX5_splits_6 rfl hl (by decide) rfl (fun ls hl => ?_)
  exact w_X5_splits_7 hSF B Z hn x0 x1 0 (hl.sub [1, 2, 0] rfl) e hp
theorem mt_X5_splits (l : Launch) (G : ax_G) (hSF : ax_SF G) (x0 : Option Nat) (x1 : Int) (h : ax_H) (w : ax_H) (e : f_X5_splits G.2.2 x0 x1 h = some w) : ax_Met l G yX5_splits cX5_splits 6 none 2 67 [va_rf x0, .int (Int32.ofInt x1)] h w none :=
  ax_enter [.inr (.inr x0), .inl x1] (y := yX5_splits) hSF (plainFor_of_name (by decide +kernel)) (Nat.le_of_ble_eq_true rfl) (fun X ls B Z hn hl => we_X5_splits hSF B Z hn x0 x1 hl e rfl)
def dkwX5_fine_0 : List UInt8 := [42, 180, 0, 200, 2, 160, 0, 7, 4, 167, 0, 4, 3, 172]
abbrev dktX5_fine_0 : List UInt8 := dkwX5_fine_0 ++ []
theorem dksX5_fine_0 : cX5_fine.data.toList.drop 0 = dktX5_fine_0 := by decide +kernel
theorem dX5_fine_0 : decode cX5_fine 0 = .ok (.aload_n 0, 1) := dk_42 (dk_at dksX5_fine_0 0 rfl rfl)
theorem dX5_fine_1 : decode cX5_fine 1 = .ok (.getfield 200, 3) := dk_180 0 200 (dk_at dksX5_fine_0 1 rfl rfl)
theorem dX5_fine_4 : decode cX5_fine 4 = .ok (.iconst (-1), 1) := dk_2 (dk_at dksX5_fine_0 4 rfl rfl)
theorem dX5_fine_5 : decode cX5_fine 5 = .ok (.if_icmp .ne 7, 3) := dk_160 0 7 (dk_at dksX5_fine_0 5 rfl rfl)
theorem dX5_fine_8 : decode cX5_fine 8 = .ok (.iconst 1, 1) := dk_4 (dk_at dksX5_fine_0 8 rfl rfl)
theorem dX5_fine_9 : decode cX5_fine 9 = .ok (.goto 4, 3) := dk_167 0 4 (dk_at dksX5_fine_0 9 rfl rfl)
theorem dX5_fine_12 : decode cX5_fine 12 = .ok (.iconst 0, 1) := dk_3 (dk_at dksX5_fine_0 12 rfl rfl)
theorem dX5_fine_13 : decode cX5_fine 13 = .ok (.ireturn, 1) := dk_172 (dk_at dksX5_fine_0 13 rfl rfl)
theorem ff_X5_200_5 : ax_FF RX5 200 5 19 (tyX5 19) 0 false := ⟨RX5, TX5, 61, tyX5, "DebtDoorsModel", kd5, in_X5, tyX5_ok, apX5, by decide, rfl, ⟨fun _ => rfl, fun h => absurd h (by decide)⟩, q1981, Or.inl rfl, fun h => absurd h (by decide)⟩
noncomputable def f_X5_fine (E : ax_E) (x0 : Option Nat) (h : ax_H) : Option (Int × ax_H) :=
  (ax_gI E h x0 5 19).bind fun v1 =>
  if i2 v1 = i2 (-1) then
    some (1, h)
  else
    some (0, h)
set_option maxHeartbeats 4000000 in
theorem we_X5_fine {l : Launch} {G : ax_G} {X : ax_X} {Q : State → Prop} {h0 h : ax_H} {ls : Array Slot} (hSF : ax_SF G) (B : ax_BL l G X cX5_fine 1 RX5 1 40) (Z : ax_Z X h0 ((some FieldType.boolean))) (hn : X.2.2.2.2.2.2.2.2.1.name = yX5_fine.name) (x0 : Option Nat) {w : Int × ax_H} (hl : ax_hl ls 1 [(0, .inr (.inr x0))]) (e : f_X5_fine G.2.2 x0 h = some w) (hp : (fun w : Int × ax_H => Q = ax_Q G X h0 w.2 (some (.int (Int32.ofInt w.1)))) w) : ax_W G X Q h 0 ls [] := by
  unfold f_X5_fine at e
  refine ax_aload_n B dX5_fine_0 rfl hl 0 rfl ?_
  refine ax_getI B ff_X5_200_5 (fun _ _ => rfl) dX5_fine_1 e (fun v1 e => ?_)
  refine ax_iconst B dX5_fine_4 ?_
  refine ax_icmp_ne (tgt := 12) B dX5_fine_5 (by decide) e (fun e => ?_) (fun e => ?_)
  · refine ax_iconst B dX5_fine_8 ?_
    refine ax_goto (tgt := 13) B dX5_fine_9 (by decide) ?_
    have e8 := e
    have hp : Q = _ := hp
    subst hp
    exact ax_zreturnL (by decide) B Z dX5_fine_13 e8
  · refine ax_iconst B dX5_fine_12 ?_
    have e8 := e
    have hp : Q = _ := hp
    subst hp
    exact ax_zreturnL (by decide) B Z dX5_fine_13 e8
theorem mt_X5_fine (l : Launch) (G : ax_G) (hSF : ax_SF G) (x0 : Option Nat) (h : ax_H) (w : Int × ax_H) (e : f_X5_fine G.2.2 x0 h = some w) : ax_Met l G yX5_fine cX5_fine 1 ((some FieldType.boolean)) 1 40 [va_rf x0] h w.2 (some (.int (Int32.ofInt w.1))) :=
  ax_enter [.inr (.inr x0)] (y := yX5_fine) hSF (plainFor_of_name (by decide +kernel)) (Nat.le_of_ble_eq_true rfl) (fun X ls B Z hn hl => we_X5_fine hSF B Z hn x0 hl e rfl)
def dkwX5_takes0_1 : List UInt8 := [3, 61, 28, 153, 0, 13, 42, 89, 180, 0, 207, 4, 96, 181, 0, 207, 28, 172]
abbrev dktX5_takes0_1 : List UInt8 := dkwX5_takes0_1 ++ []
def dkwX5_takes0_0 : List UInt8 := [42, 182, 0, 203, 153, 0, 20, 42, 180, 0, 50, 42, 180, 0, 207, 46, 27, 160, 0, 7, 4, 167, 0, 4]
abbrev dktX5_takes0_0 : List UInt8 := dkwX5_takes0_0 ++ dktX5_takes0_1
theorem dksX5_takes0_0 : cX5_takes0.data.toList.drop 0 = dktX5_takes0_0 := by decide +kernel
theorem dksX5_takes0_1 : cX5_takes0.data.toList.drop 24 = dktX5_takes0_1 := dk_seg dksX5_takes0_0 24 rfl rfl
theorem dX5_takes0_0 : decode cX5_takes0 0 = .ok (.aload_n 0, 1) := dk_42 (dk_at dksX5_takes0_0 0 rfl rfl)
theorem dX5_takes0_1 : decode cX5_takes0 1 = .ok (.invokevirtual 203, 3) := dk_182 0 203 (dk_at dksX5_takes0_0 1 rfl rfl)
theorem dX5_takes0_4 : decode cX5_takes0 4 = .ok (.ifCond .eq 20, 3) := dk_153 0 20 (dk_at dksX5_takes0_0 4 rfl rfl)
theorem dX5_takes0_7 : decode cX5_takes0 7 = .ok (.aload_n 0, 1) := dk_42 (dk_at dksX5_takes0_0 7 rfl rfl)
theorem dX5_takes0_8 : decode cX5_takes0 8 = .ok (.getfield 50, 3) := dk_180 0 50 (dk_at dksX5_takes0_0 8 rfl rfl)
theorem dX5_takes0_11 : decode cX5_takes0 11 = .ok (.aload_n 0, 1) := dk_42 (dk_at dksX5_takes0_0 11 rfl rfl)
theorem dX5_takes0_12 : decode cX5_takes0 12 = .ok (.getfield 207, 3) := dk_180 0 207 (dk_at dksX5_takes0_0 12 rfl rfl)
theorem dX5_takes0_15 : decode cX5_takes0 15 = .ok (.iaload, 1) := dk_46 (dk_at dksX5_takes0_0 15 rfl rfl)
theorem dX5_takes0_16 : decode cX5_takes0 16 = .ok (.iload_n 1, 1) := dk_27 (dk_at dksX5_takes0_0 16 rfl rfl)
theorem dX5_takes0_17 : decode cX5_takes0 17 = .ok (.if_icmp .ne 7, 3) := dk_160 0 7 (dk_at dksX5_takes0_0 17 rfl rfl)
theorem dX5_takes0_20 : decode cX5_takes0 20 = .ok (.iconst 1, 1) := dk_4 (dk_at dksX5_takes0_0 20 rfl rfl)
theorem dX5_takes0_21 : decode cX5_takes0 21 = .ok (.goto 4, 3) := dk_167 0 4 (dk_at dksX5_takes0_0 21 rfl rfl)
theorem dX5_takes0_24 : decode cX5_takes0 24 = .ok (.iconst 0, 1) := dk_3 (dk_at dksX5_takes0_1 0 rfl rfl)
theorem dX5_takes0_25 : decode cX5_takes0 25 = .ok (.istore_n 2, 1) := dk_61 (dk_at dksX5_takes0_1 1 rfl rfl)
theorem dX5_takes0_26 : decode cX5_takes0 26 = .ok (.iload_n 2, 1) := dk_28 (dk_at dksX5_takes0_1 2 rfl rfl)
theorem dX5_takes0_27 : decode cX5_takes0 27 = .ok (.ifCond .eq 13, 3) := dk_153 0 13 (dk_at dksX5_takes0_1 3 rfl rfl)
theorem dX5_takes0_30 : decode cX5_takes0 30 = .ok (.aload_n 0, 1) := dk_42 (dk_at dksX5_takes0_1 6 rfl rfl)
theorem dX5_takes0_31 : decode cX5_takes0 31 = .ok (.dup, 1) := dk_89 (dk_at dksX5_takes0_1 7 rfl rfl)
theorem dX5_takes0_32 : decode cX5_takes0 32 = .ok (.getfield 207, 3) := dk_180 0 207 (dk_at dksX5_takes0_1 8 rfl rfl)
theorem dX5_takes0_35 : decode cX5_takes0 35 = .ok (.iconst 1, 1) := dk_4 (dk_at dksX5_takes0_1 11 rfl rfl)
theorem dX5_takes0_36 : decode cX5_takes0 36 = .ok (.iadd, 1) := dk_96 (dk_at dksX5_takes0_1 12 rfl rfl)
theorem dX5_takes0_37 : decode cX5_takes0 37 = .ok (.putfield 207, 3) := dk_181 0 207 (dk_at dksX5_takes0_1 13 rfl rfl)
theorem dX5_takes0_40 : decode cX5_takes0 40 = .ok (.iload_n 2, 1) := dk_28 (dk_at dksX5_takes0_1 16 rfl rfl)
theorem dX5_takes0_41 : decode cX5_takes0 41 = .ok (.ireturn, 1) := dk_172 (dk_at dksX5_takes0_1 17 rfl rfl)
theorem ff_X5_207_5 : ax_FF RX5 207 5 17 (tyX5 17) 0 false := ⟨RX5, TX5, 61, tyX5, "DebtDoorsModel", kd5, in_X5, tyX5_ok, apX5, by decide, rfl, ⟨fun _ => rfl, fun h => absurd h (by decide)⟩, q1979, Or.inl rfl, fun h => absurd h (by decide)⟩
noncomputable def f_X5_takes0_40 (E : ax_E) (x2 : Int) (h : ax_H) : Option (Int × ax_H) :=
  if x2 = 0 ∨ x2 = 1 then some (x2, h) else none
noncomputable def f_X5_takes0_25 (E : ax_E) (x0 : Option Nat) (s0 : Int) (h : ax_H) : Option (Int × ax_H) :=
  if i2 s0 = 0 then
    f_X5_takes0_40 E s0 h
  else
    (ax_gI E h x0 5 17).bind fun v1 =>
    (ax_pI h x0 5 17 (v1 + 1)).bind fun h2 =>
    f_X5_takes0_40 E s0 h2
noncomputable def f_X5_takes0_24 (E : ax_E) (x0 : Option Nat) (h : ax_H) : Option (Int × ax_H) :=
  f_X5_takes0_25 E x0 0 h
noncomputable def f_X5_takes0 (E : ax_E) (x0 : Option Nat) (x1 : Int) (h : ax_H) : Option (Int × ax_H) :=
  (ax_ce E h x0 5).bind fun _ => (f_X5_fine E x0 h).bind fun q1 =>
  if i2 q1.1 = 0 then
    f_X5_takes0_24 E x0 q1.2
  else
    (ax_gR E q1.2 x0 5 13).bind fun v2 =>
    (ax_gI E q1.2 x0 5 17).bind fun v3 =>
    (ax_ld E q1.2 v2 100 v3).bind fun v4 =>
    if i2 v4 = i2 x1 then
      f_X5_takes0_25 E x0 1 q1.2
    else
      f_X5_takes0_24 E x0 q1.2
set_option maxHeartbeats 4000000 in
theorem w_X5_takes0_40 {l : Launch} {G : ax_G} {X : ax_X} {Q : State → Prop} {h0 h : ax_H} {ls : Array Slot} (hSF : ax_SF G) (B : ax_BL l G X cX5_takes0 3 RX5 2 60) (Z : ax_Z X h0 ((some FieldType.boolean))) (hn : X.2.2.2.2.2.2.2.2.1.name = yX5_takes0.name) (x2 : Int) {w : Int × ax_H} (hl : ax_hl ls 3 [(2, .inl x2)]) (e : f_X5_takes0_40 G.2.2 x2 h = some w) (hp : (fun w : Int × ax_H => Q = ax_Q G X h0 w.2 (some (.int (Int32.ofInt w.1)))) w) : ax_W G X Q h 40 ls [] := by
  unfold f_X5_takes0_40 at e
  refine ax_iload_n B dX5_takes0_40 rfl hl 0 rfl ?_
  have e8 := e
  have hp : Q = _ := hp
  subst hp
  exact ax_zreturn B Z dX5_takes0_41 e8
set_option maxHeartbeats 4000000 in
theorem w_X5_takes0_25 {l : Launch} {G : ax_G} {X : ax_X} {Q : State → Prop} {h0 h : ax_H} {ls : Array Slot} (hSF : ax_SF G) (B : ax_BL l G X cX5_takes0 3 RX5 2 60) (Z : ax_Z X h0 ((some FieldType.boolean))) (hn : X.2.2.2.2.2.2.2.2.1.name = yX5_takes0.name) (x0 : Option Nat) (s0 : Int) {w : Int × ax_H} (hl : ax_hl ls 3 [(0, .inr (.inr x0))]) (e : f_X5_takes0_25 G.2.2 x0 s0 h = some w) (hp : (fun w : Int × ax_H => Q = ax_Q G X h0 w.2 (some (.int (Int32.ofInt w.1)))) w) : ax_W G X Q h 25 ls [.int (Int32.ofInt s0)] := by
  unfold f_X5_takes0_25 at e
  refine ax_istore_n (L' := [(2, .inl s0), (0, .inr (.inr x0))]) B dX5_takes0_25 rfl hl (by decide) rfl (fun ls hl => ?_)
  refine ax_iload_n B dX5_takes0_26 rfl hl 0 rfl ?_
  refine ax_if_eq (tgt := 40) B dX5_takes0_27 (by decide) e (fun e => ?_) (fun e => ?_)
  · exact w_X5_takes0_40 hSF B Z hn s0 (hl.sub [0] rfl) e hp
  · refine ax_aload_n B dX5_takes0_30 rfl hl 1 rfl ?_
    refine ax_dup B dX5_takes0_31 (va_rf_cat _) ?_
    refine ax_getI B ff_X5_207_5 (fun _ _ => rfl) dX5_takes0_32 e (fun v1 e => ?_)
    refine ax_iconst B dX5_takes0_35 ?_
    refine ax_iadd' B dX5_takes0_36 ?_
    refine ax_putI B ff_X5_207_5 (Or.inl rfl) rfl dX5_takes0_37 e (fun h2 e => ?_)
    exact w_X5_takes0_40 hSF B Z hn s0 (hl.sub [0] rfl) e hp
set_option maxHeartbeats 4000000 in
theorem w_X5_takes0_24 {l : Launch} {G : ax_G} {X : ax_X} {Q : State → Prop} {h0 h : ax_H} {ls : Array Slot} (hSF : ax_SF G) (B : ax_BL l G X cX5_takes0 3 RX5 2 60) (Z : ax_Z X h0 ((some FieldType.boolean))) (hn : X.2.2.2.2.2.2.2.2.1.name = yX5_takes0.name) (x0 : Option Nat) {w : Int × ax_H} (hl : ax_hl ls 3 [(0, .inr (.inr x0))]) (e : f_X5_takes0_24 G.2.2 x0 h = some w) (hp : (fun w : Int × ax_H => Q = ax_Q G X h0 w.2 (some (.int (Int32.ofInt w.1)))) w) : ax_W G X Q h 24 ls [] := by
  unfold f_X5_takes0_24 at e
  refine ax_iconst B dX5_takes0_24 ?_
  exact w_X5_takes0_25 hSF B Z hn x0 0 (hl.sub [0] rfl) e hp
set_option maxHeartbeats 4000000 in
theorem we_X5_takes0 {l : Launch} {G : ax_G} {X : ax_X} {Q : State → Prop} {h0 h : ax_H} {ls : Array Slot} (hSF : ax_SF G) (B : ax_BL l G X cX5_takes0 3 RX5 2 60) (Z : ax_Z X h0 ((some FieldType.boolean))) (hn : X.2.2.2.2.2.2.2.2.1.name = yX5_takes0.name) (x0 : Option Nat) (x1 : Int) {w : Int × ax_H} (hl : ax_hl ls 3 [(0, .inr (.inr x0)), (1, .inl x1)]) (e : f_X5_takes0 G.2.2 x0 x1 h = some w) (hp : (fun w : Int × ax_H => Q = ax_Q G X h0 w.2 (some (.int (Int32.ofInt w.1)))) w) : ax_W G X Q h 0 ls [] := by
  unfold f_X5_takes0 at e
  refine ax_aload_n B dX5_takes0_0 rfl hl 0 rfl ?_
  refine ax_ivI (y := yX5_fine) (n := 0) (As := []) B kd5 (lw_V q2359 q2361 qs73 q133 q2362) (by decide +kernel) ⟨Nat.le_of_ble_eq_true rfl, Nat.le_of_ble_eq_true rfl⟩ (fun w1 e1 => mt_X5_fine l G hSF x0 _ w1 e1) rfl hl.size (by decide) dX5_takes0_1 e (fun q1 e => ?_)
  refine ax_if_eq (tgt := 24) B dX5_takes0_4 (by decide) e (fun e => ?_) (fun e => ?_)
  · exact w_X5_takes0_24 hSF B Z hn x0 (hl.sub [0] rfl) e hp
  · refine ax_aload_n B dX5_takes0_7 rfl hl 0 rfl ?_
    refine ax_getR B ff_X5_50_5 (fun _ _ => rfl) dX5_takes0_8 e (fun v2 e => ?_)
    refine ax_aload_n B dX5_takes0_11 rfl hl 0 rfl ?_
    refine ax_getI B ff_X5_207_5 (fun _ _ => rfl) dX5_takes0_12 e (fun v3 e => ?_)
    refine ax_iald B kd100 dX5_takes0_15 e (fun v4 e => ?_)
    refine ax_iload_n B dX5_takes0_16 rfl hl 1 rfl ?_
    refine ax_icmp_ne (tgt := 24) B dX5_takes0_17 (by decide) e (fun e => ?_) (fun e => ?_)
    · refine ax_iconst B dX5_takes0_20 ?_
      refine ax_goto (tgt := 25) B dX5_takes0_21 (by decide) ?_
      exact w_X5_takes0_25 hSF B Z hn x0 1 (hl.sub [0] rfl) e hp
    · exact w_X5_takes0_24 hSF B Z hn x0 (hl.sub [0] rfl) e hp
theorem mt_X5_takes0 (l : Launch) (G : ax_G) (hSF : ax_SF G) (x0 : Option Nat) (x1 : Int) (h : ax_H) (w : Int × ax_H) (e : f_X5_takes0 G.2.2 x0 x1 h = some w) : ax_Met l G yX5_takes0 cX5_takes0 3 ((some FieldType.boolean)) 2 60 [va_rf x0, .int (Int32.ofInt x1)] h w.2 (some (.int (Int32.ofInt w.1))) :=
  ax_enter [.inr (.inr x0), .inl x1] (y := yX5_takes0) hSF (plainFor_of_name (by decide +kernel)) (Nat.le_of_ble_eq_true rfl) (fun X ls B Z hn hl => we_X5_takes0 hSF B Z hn x0 x1 hl e rfl)
def dkwX5_faults_0 : List UInt8 := [42, 182, 0, 203, 153, 0, 16, 42, 42, 180, 0, 56, 42, 180, 0, 207, 46, 181, 0, 200, 177]
abbrev dktX5_faults_0 : List UInt8 := dkwX5_faults_0 ++ []
theorem dksX5_faults_0 : cX5_faults.data.toList.drop 0 = dktX5_faults_0 := by decide +kernel
theorem dX5_faults_0 : decode cX5_faults 0 = .ok (.aload_n 0, 1) := dk_42 (dk_at dksX5_faults_0 0 rfl rfl)
theorem dX5_faults_1 : decode cX5_faults 1 = .ok (.invokevirtual 203, 3) := dk_182 0 203 (dk_at dksX5_faults_0 1 rfl rfl)
theorem dX5_faults_4 : decode cX5_faults 4 = .ok (.ifCond .eq 16, 3) := dk_153 0 16 (dk_at dksX5_faults_0 4 rfl rfl)
theorem dX5_faults_7 : decode cX5_faults 7 = .ok (.aload_n 0, 1) := dk_42 (dk_at dksX5_faults_0 7 rfl rfl)
theorem dX5_faults_8 : decode cX5_faults 8 = .ok (.aload_n 0, 1) := dk_42 (dk_at dksX5_faults_0 8 rfl rfl)
theorem dX5_faults_9 : decode cX5_faults 9 = .ok (.getfield 56, 3) := dk_180 0 56 (dk_at dksX5_faults_0 9 rfl rfl)
theorem dX5_faults_12 : decode cX5_faults 12 = .ok (.aload_n 0, 1) := dk_42 (dk_at dksX5_faults_0 12 rfl rfl)
theorem dX5_faults_13 : decode cX5_faults 13 = .ok (.getfield 207, 3) := dk_180 0 207 (dk_at dksX5_faults_0 13 rfl rfl)
theorem dX5_faults_16 : decode cX5_faults 16 = .ok (.iaload, 1) := dk_46 (dk_at dksX5_faults_0 16 rfl rfl)
theorem dX5_faults_17 : decode cX5_faults 17 = .ok (.putfield 200, 3) := dk_181 0 200 (dk_at dksX5_faults_0 17 rfl rfl)
theorem dX5_faults_20 : decode cX5_faults 20 = .ok (.return_, 1) := dk_177 (dk_at dksX5_faults_0 20 rfl rfl)
noncomputable def f_X5_faults (E : ax_E) (x0 : Option Nat) (h : ax_H) : Option (ax_H) :=
  (ax_ce E h x0 5).bind fun _ => (f_X5_fine E x0 h).bind fun q1 =>
  if i2 q1.1 = 0 then
    some q1.2
  else
    (ax_gR E q1.2 x0 5 15).bind fun v2 =>
    (ax_gI E q1.2 x0 5 17).bind fun v3 =>
    (ax_ld E q1.2 v2 100 v3).bind fun v4 =>
    (ax_pI q1.2 x0 5 19 v4).bind fun h5 =>
    some h5
set_option maxHeartbeats 4000000 in
theorem we_X5_faults {l : Launch} {G : ax_G} {X : ax_X} {Q : State → Prop} {h0 h : ax_H} {ls : Array Slot} (hSF : ax_SF G) (B : ax_BL l G X cX5_faults 1 RX5 2 60) (Z : ax_Z X h0 none) (hn : X.2.2.2.2.2.2.2.2.1.name = yX5_faults.name) (x0 : Option Nat) {w : ax_H} (hl : ax_hl ls 1 [(0, .inr (.inr x0))]) (e : f_X5_faults G.2.2 x0 h = some w) (hp : (fun w : ax_H => Q = ax_Q G X h0 w none) w) : ax_W G X Q h 0 ls [] := by
  unfold f_X5_faults at e
  refine ax_aload_n B dX5_faults_0 rfl hl 0 rfl ?_
  refine ax_ivI (y := yX5_fine) (n := 0) (As := []) B kd5 (lw_V q2359 q2361 qs73 q133 q2362) (by decide +kernel) ⟨Nat.le_of_ble_eq_true rfl, Nat.le_of_ble_eq_true rfl⟩ (fun w1 e1 => mt_X5_fine l G hSF x0 _ w1 e1) rfl hl.size (by decide) dX5_faults_1 e (fun q1 e => ?_)
  refine ax_if_eq (tgt := 20) B dX5_faults_4 (by decide) e (fun e => ?_) (fun e => ?_)
  · have e8 := e
    have hp : Q = _ := hp
    subst hp
    exact ax_return B Z dX5_faults_20 e8
  · refine ax_aload_n B dX5_faults_7 rfl hl 0 rfl ?_
    refine ax_aload_n B dX5_faults_8 rfl hl 0 rfl ?_
    refine ax_getR B ff_X5_56_5 (fun _ _ => rfl) dX5_faults_9 e (fun v2 e => ?_)
    refine ax_aload_n B dX5_faults_12 rfl hl 0 rfl ?_
    refine ax_getI B ff_X5_207_5 (fun _ _ => rfl) dX5_faults_13 e (fun v3 e => ?_)
    refine ax_iald B kd100 dX5_faults_16 e (fun v4 e => ?_)
    refine ax_putI B ff_X5_200_5 (Or.inl rfl) rfl dX5_faults_17 e (fun h5 e => ?_)
    have e8 := e
    have hp : Q = _ := hp
    subst hp
    exact ax_return B Z dX5_faults_20 e8
theorem mt_X5_faults (l : Launch) (G : ax_G) (hSF : ax_SF G) (x0 : Option Nat) (h : ax_H) (w : ax_H) (e : f_X5_faults G.2.2 x0 h = some w) : ax_Met l G yX5_faults cX5_faults 1 none 2 60 [va_rf x0] h w none :=
  ax_enter [.inr (.inr x0)] (y := yX5_faults) hSF (plainFor_of_name (by decide +kernel)) (Nat.le_of_ble_eq_true rfl) (fun X ls B Z hn hl => we_X5_faults hSF B Z hn x0 hl e rfl)
def dkwX5_must_0 : List UInt8 := [42, 27, 182, 0, 210, 154, 0, 7, 42, 182, 0, 213, 177]
abbrev dktX5_must_0 : List UInt8 := dkwX5_must_0 ++ []
theorem dksX5_must_0 : cX5_must.data.toList.drop 0 = dktX5_must_0 := by decide +kernel
theorem dX5_must_0 : decode cX5_must 0 = .ok (.aload_n 0, 1) := dk_42 (dk_at dksX5_must_0 0 rfl rfl)
theorem dX5_must_1 : decode cX5_must 1 = .ok (.iload_n 1, 1) := dk_27 (dk_at dksX5_must_0 1 rfl rfl)
theorem dX5_must_2 : decode cX5_must 2 = .ok (.invokevirtual 210, 3) := dk_182 0 210 (dk_at dksX5_must_0 2 rfl rfl)
theorem dX5_must_5 : decode cX5_must 5 = .ok (.ifCond .ne 7, 3) := dk_154 0 7 (dk_at dksX5_must_0 5 rfl rfl)
theorem dX5_must_8 : decode cX5_must 8 = .ok (.aload_n 0, 1) := dk_42 (dk_at dksX5_must_0 8 rfl rfl)
theorem dX5_must_9 : decode cX5_must 9 = .ok (.invokevirtual 213, 3) := dk_182 0 213 (dk_at dksX5_must_0 9 rfl rfl)
theorem dX5_must_12 : decode cX5_must 12 = .ok (.return_, 1) := dk_177 (dk_at dksX5_must_0 12 rfl rfl)
noncomputable def f_X5_must (E : ax_E) (x0 : Option Nat) (x1 : Int) (h : ax_H) : Option (ax_H) :=
  (ax_ce E h x0 5).bind fun _ => (f_X5_takes0 E x0 x1 h).bind fun q1 =>
  if i2 q1.1 = 0 then
    (ax_ce E q1.2 x0 5).bind fun _ => (f_X5_faults E x0 q1.2).bind fun h2 =>
    some h2
  else
    some q1.2
set_option maxHeartbeats 4000000 in
theorem we_X5_must {l : Launch} {G : ax_G} {X : ax_X} {Q : State → Prop} {h0 h : ax_H} {ls : Array Slot} (hSF : ax_SF G) (B : ax_BL l G X cX5_must 2 RX5 3 82) (Z : ax_Z X h0 none) (hn : X.2.2.2.2.2.2.2.2.1.name = yX5_must.name) (x0 : Option Nat) (x1 : Int) {w : ax_H} (hl : ax_hl ls 2 [(0, .inr (.inr x0)), (1, .inl x1)]) (e : f_X5_must G.2.2 x0 x1 h = some w) (hp : (fun w : ax_H => Q = ax_Q G X h0 w none) w) : ax_W G X Q h 0 ls [] := by
  unfold f_X5_must at e
  refine ax_aload_n B dX5_must_0 rfl hl 0 rfl ?_
  refine ax_iload_n B dX5_must_1 rfl hl 1 rfl ?_
  refine ax_ivI (y := yX5_takes0) (n := 1) (As := [.int (Int32.ofInt x1)]) B kd5 (lw_V q2355 q2357 qs72 q133 q2358) (by decide +kernel) ⟨Nat.le_of_ble_eq_true rfl, Nat.le_of_ble_eq_true rfl⟩ (fun w1 e1 => mt_X5_takes0 l G hSF x0 x1 _ w1 e1) rfl hl.size (by decide) dX5_must_2 e (fun q1 e => ?_)
  refine ax_if_ne (tgt := 12) B dX5_must_5 (by decide) e (fun e => ?_) (fun e => ?_)
  · refine ax_aload_n B dX5_must_8 rfl hl 0 rfl ?_
    refine ax_ivV (y := yX5_faults) (n := 0) (As := []) B kd5 (lw_V q2375 q2377 qs77 q133 q2378) (by decide +kernel) ⟨Nat.le_of_ble_eq_true rfl, Nat.le_of_ble_eq_true rfl⟩ (fun w1 e1 => mt_X5_faults l G hSF x0 _ w1 e1) rfl hl.size (by decide) dX5_must_9 e (fun h2 e => ?_)
    have e8 := e
    have hp : Q = _ := hp
    subst hp
    exact ax_return B Z dX5_must_12 e8
  · have e8 := e
    have hp : Q = _ := hp
    subst hp
    exact ax_return B Z dX5_must_12 e8
theorem mt_X5_must (l : Launch) (G : ax_G) (hSF : ax_SF G) (x0 : Option Nat) (x1 : Int) (h : ax_H) (w : ax_H) (e : f_X5_must G.2.2 x0 x1 h = some w) : ax_Met l G yX5_must cX5_must 2 none 3 82 [va_rf x0, .int (Int32.ofInt x1)] h w none :=
  ax_enter [.inr (.inr x0), .inl x1] (y := yX5_must) hSF (plainFor_of_name (by decide +kernel)) (Nat.le_of_ble_eq_true rfl) (fun X ls B Z hn hl => we_X5_must hSF B Z hn x0 x1 hl e rfl)
def dkwX5_isValue_1 : List UInt8 := [4, 167, 0, 15, 3, 167, 0, 11, 27, 16, 9, 16, 18, 184, 0, 123, 172]
abbrev dktX5_isValue_1 : List UInt8 := dkwX5_isValue_1 ++ []
def dkwX5_isValue_0 : List UInt8 := [42, 180, 0, 219, 153, 0, 28, 27, 16, 17, 159, 0, 14, 27, 16, 19, 16, 23, 184, 0, 123, 153, 0, 7]
abbrev dktX5_isValue_0 : List UInt8 := dkwX5_isValue_0 ++ dktX5_isValue_1
theorem dksX5_isValue_0 : cX5_isValue.data.toList.drop 0 = dktX5_isValue_0 := by decide +kernel
theorem dksX5_isValue_1 : cX5_isValue.data.toList.drop 24 = dktX5_isValue_1 := dk_seg dksX5_isValue_0 24 rfl rfl
theorem dX5_isValue_0 : decode cX5_isValue 0 = .ok (.aload_n 0, 1) := dk_42 (dk_at dksX5_isValue_0 0 rfl rfl)
theorem dX5_isValue_1 : decode cX5_isValue 1 = .ok (.getfield 219, 3) := dk_180 0 219 (dk_at dksX5_isValue_0 1 rfl rfl)
theorem dX5_isValue_4 : decode cX5_isValue 4 = .ok (.ifCond .eq 28, 3) := dk_153 0 28 (dk_at dksX5_isValue_0 4 rfl rfl)
theorem dX5_isValue_7 : decode cX5_isValue 7 = .ok (.iload_n 1, 1) := dk_27 (dk_at dksX5_isValue_0 7 rfl rfl)
theorem dX5_isValue_8 : decode cX5_isValue 8 = .ok (.bipush 17, 2) := dk_16 17 (dk_at dksX5_isValue_0 8 rfl rfl)
theorem dX5_isValue_10 : decode cX5_isValue 10 = .ok (.if_icmp .eq 14, 3) := dk_159 0 14 (dk_at dksX5_isValue_0 10 rfl rfl)
theorem dX5_isValue_13 : decode cX5_isValue 13 = .ok (.iload_n 1, 1) := dk_27 (dk_at dksX5_isValue_0 13 rfl rfl)
theorem dX5_isValue_14 : decode cX5_isValue 14 = .ok (.bipush 19, 2) := dk_16 19 (dk_at dksX5_isValue_0 14 rfl rfl)
theorem dX5_isValue_16 : decode cX5_isValue 16 = .ok (.bipush 23, 2) := dk_16 23 (dk_at dksX5_isValue_0 16 rfl rfl)
theorem dX5_isValue_18 : decode cX5_isValue 18 = .ok (.invokestatic 123, 3) := dk_184 0 123 (dk_at dksX5_isValue_0 18 rfl rfl)
theorem dX5_isValue_21 : decode cX5_isValue 21 = .ok (.ifCond .eq 7, 3) := dk_153 0 7 (dk_at dksX5_isValue_0 21 rfl rfl)
theorem dX5_isValue_24 : decode cX5_isValue 24 = .ok (.iconst 1, 1) := dk_4 (dk_at dksX5_isValue_1 0 rfl rfl)
theorem dX5_isValue_25 : decode cX5_isValue 25 = .ok (.goto 15, 3) := dk_167 0 15 (dk_at dksX5_isValue_1 1 rfl rfl)
theorem dX5_isValue_28 : decode cX5_isValue 28 = .ok (.iconst 0, 1) := dk_3 (dk_at dksX5_isValue_1 4 rfl rfl)
theorem dX5_isValue_29 : decode cX5_isValue 29 = .ok (.goto 11, 3) := dk_167 0 11 (dk_at dksX5_isValue_1 5 rfl rfl)
theorem dX5_isValue_32 : decode cX5_isValue 32 = .ok (.iload_n 1, 1) := dk_27 (dk_at dksX5_isValue_1 8 rfl rfl)
theorem dX5_isValue_33 : decode cX5_isValue 33 = .ok (.bipush 9, 2) := dk_16 9 (dk_at dksX5_isValue_1 9 rfl rfl)
theorem dX5_isValue_35 : decode cX5_isValue 35 = .ok (.bipush 18, 2) := dk_16 18 (dk_at dksX5_isValue_1 11 rfl rfl)
theorem dX5_isValue_37 : decode cX5_isValue 37 = .ok (.invokestatic 123, 3) := dk_184 0 123 (dk_at dksX5_isValue_1 13 rfl rfl)
theorem dX5_isValue_40 : decode cX5_isValue 40 = .ok (.ireturn, 1) := dk_172 (dk_at dksX5_isValue_1 16 rfl rfl)
theorem ff_X5_219_5 : ax_FF RX5 219 5 8 (tyX5 8) 0 false := ⟨RX5, TX5, 61, tyX5, "DebtDoorsModel", kd5, in_X5, tyX5_ok, apX5, by decide, rfl, ⟨fun _ => rfl, fun h => absurd h (by decide)⟩, q1970, Or.inl rfl, fun h => absurd h (by decide)⟩
noncomputable def f_X5_isValue_24 (E : ax_E) (h : ax_H) : Option (Int × ax_H) :=
  some (1, h)
noncomputable def f_X5_isValue (E : ax_E) (x0 : Option Nat) (x1 : Int) (h : ax_H) : Option (Int × ax_H) :=
  (ax_gI E h x0 5 8).bind fun v1 =>
  if i2 v1 = 0 then
    (f_X5_lies E x1 9 18 h).bind fun q2 =>
    if q2.1 = 0 ∨ q2.1 = 1 then some (q2.1, q2.2) else none
  else
    if i2 x1 = i2 17 then
      f_X5_isValue_24 E h
    else
      (f_X5_lies E x1 19 23 h).bind fun q3 =>
      if i2 q3.1 = 0 then
        some (0, q3.2)
      else
        f_X5_isValue_24 E q3.2
set_option maxHeartbeats 4000000 in
theorem w_X5_isValue_24 {l : Launch} {G : ax_G} {X : ax_X} {Q : State → Prop} {h0 h : ax_H} {ls : Array Slot} (hSF : ax_SF G) (B : ax_BL l G X cX5_isValue 2 RX5 2 62) (Z : ax_Z X h0 ((some FieldType.boolean))) (hn : X.2.2.2.2.2.2.2.2.1.name = yX5_isValue.name) {w : Int × ax_H} (hl : ax_hl ls 2 []) (e : f_X5_isValue_24 G.2.2 h = some w) (hp : (fun w : Int × ax_H => Q = ax_Q G X h0 w.2 (some (.int (Int32.ofInt w.1)))) w) : ax_W G X Q h 24 ls [] := by
  unfold f_X5_isValue_24 at e
  refine ax_iconst B dX5_isValue_24 ?_
  refine ax_goto (tgt := 40) B dX5_isValue_25 (by decide) ?_
  have e8 := e
  have hp : Q = _ := hp
  subst hp
  exact ax_zreturnL (by decide) B Z dX5_isValue_40 e8
set_option maxHeartbeats 4000000 in
theorem we_X5_isValue {l : Launch} {G : ax_G} {X : ax_X} {Q : State → Prop} {h0 h : ax_H} {ls : Array Slot} (hSF : ax_SF G) (B : ax_BL l G X cX5_isValue 2 RX5 2 62) (Z : ax_Z X h0 ((some FieldType.boolean))) (hn : X.2.2.2.2.2.2.2.2.1.name = yX5_isValue.name) (x0 : Option Nat) (x1 : Int) {w : Int × ax_H} (hl : ax_hl ls 2 [(0, .inr (.inr x0)), (1, .inl x1)]) (e : f_X5_isValue G.2.2 x0 x1 h = some w) (hp : (fun w : Int × ax_H => Q = ax_Q G X h0 w.2 (some (.int (Int32.ofInt w.1)))) w) : ax_W G X Q h 0 ls [] := by
  unfold f_X5_isValue at e
  refine ax_aload_n B dX5_isValue_0 rfl hl 0 rfl ?_
  refine ax_getI B ff_X5_219_5 (fun _ _ => rfl) dX5_isValue_1 e (fun v1 e => ?_)
  refine ax_if_eq (tgt := 32) B dX5_isValue_4 (by decide) e (fun e => ?_) (fun e => ?_)
  · refine ax_iload_n B dX5_isValue_32 rfl hl 1 rfl ?_
    refine ax_bipush B dX5_isValue_33 (by decide) ?_
    refine ax_bipush B dX5_isValue_35 (by decide) ?_
    refine ax_isI (y := yX5_lies) (n := 3) (As := [.int (Int32.ofInt x1), .int (Int32.ofInt 9), .int (Int32.ofInt 18)]) B (lw_S q2151 q2152 q133 q2153) (by decide +kernel) ⟨Nat.le_of_ble_eq_true rfl, Nat.le_of_ble_eq_true rfl⟩ (fun w1 e1 => mt_X5_lies l G hSF x1 9 18 _ w1 e1) rfl hl.size (by decide) dX5_isValue_37 e (fun q2 e => ?_)
    have e8 := e
    have hp : Q = _ := hp
    subst hp
    exact ax_zreturn B Z dX5_isValue_40 e8
  · refine ax_iload_n B dX5_isValue_7 rfl hl 1 rfl ?_
    refine ax_bipush B dX5_isValue_8 (by decide) ?_
    refine ax_icmp_eq (tgt := 24) B dX5_isValue_10 (by decide) e (fun e => ?_) (fun e => ?_)
    · exact w_X5_isValue_24 hSF B Z hn (hl.sub [] rfl) e hp
    · refine ax_iload_n B dX5_isValue_13 rfl hl 1 rfl ?_
      refine ax_bipush B dX5_isValue_14 (by decide) ?_
      refine ax_bipush B dX5_isValue_16 (by decide) ?_
      refine ax_isI (y := yX5_lies) (n := 3) (As := [.int (Int32.ofInt x1), .int (Int32.ofInt 19), .int (Int32.ofInt 23)]) B (lw_S q2151 q2152 q133 q2153) (by decide +kernel) ⟨Nat.le_of_ble_eq_true rfl, Nat.le_of_ble_eq_true rfl⟩ (fun w1 e1 => mt_X5_lies l G hSF x1 19 23 _ w1 e1) rfl hl.size (by decide) dX5_isValue_18 e (fun q3 e => ?_)
      refine ax_if_eq (tgt := 28) B dX5_isValue_21 (by decide) e (fun e => ?_) (fun e => ?_)
      · refine ax_iconst B dX5_isValue_28 ?_
        refine ax_goto (tgt := 40) B dX5_isValue_29 (by decide) ?_
        have e8 := e
        have hp : Q = _ := hp
        subst hp
        exact ax_zreturnL (by decide) B Z dX5_isValue_40 e8
      · exact w_X5_isValue_24 hSF B Z hn (hl.sub [] rfl) e hp
theorem mt_X5_isValue (l : Launch) (G : ax_G) (hSF : ax_SF G) (x0 : Option Nat) (x1 : Int) (h : ax_H) (w : Int × ax_H) (e : f_X5_isValue G.2.2 x0 x1 h = some w) : ax_Met l G yX5_isValue cX5_isValue 2 ((some FieldType.boolean)) 2 62 [va_rf x0, .int (Int32.ofInt x1)] h w.2 (some (.int (Int32.ofInt w.1))) :=
  ax_enter [.inr (.inr x0), .inl x1] (y := yX5_isValue) hSF (plainFor_of_name (by decide +kernel)) (Nat.le_of_ble_eq_true rfl) (fun X ls B Z hn hl => we_X5_isValue hSF B Z hn x0 x1 hl e rfl)
def dkwX5_leaf_1 : List UInt8 := [182, 0, 203, 153, 0, 13, 42, 89, 180, 0, 207, 4, 96, 181, 0, 207, 177]
abbrev dktX5_leaf_1 : List UInt8 := dkwX5_leaf_1 ++ []
def dkwX5_leaf_0 : List UInt8 := [42, 180, 0, 216, 16, 50, 160, 0, 7, 42, 182, 0, 213, 42, 89, 180, 0, 216, 4, 96, 181, 0, 216, 42]
abbrev dktX5_leaf_0 : List UInt8 := dkwX5_leaf_0 ++ dktX5_leaf_1
theorem dksX5_leaf_0 : cX5_leaf.data.toList.drop 0 = dktX5_leaf_0 := by decide +kernel
theorem dksX5_leaf_1 : cX5_leaf.data.toList.drop 24 = dktX5_leaf_1 := dk_seg dksX5_leaf_0 24 rfl rfl
theorem dX5_leaf_0 : decode cX5_leaf 0 = .ok (.aload_n 0, 1) := dk_42 (dk_at dksX5_leaf_0 0 rfl rfl)
theorem dX5_leaf_1 : decode cX5_leaf 1 = .ok (.getfield 216, 3) := dk_180 0 216 (dk_at dksX5_leaf_0 1 rfl rfl)
theorem dX5_leaf_4 : decode cX5_leaf 4 = .ok (.bipush 50, 2) := dk_16 50 (dk_at dksX5_leaf_0 4 rfl rfl)
theorem dX5_leaf_6 : decode cX5_leaf 6 = .ok (.if_icmp .ne 7, 3) := dk_160 0 7 (dk_at dksX5_leaf_0 6 rfl rfl)
theorem dX5_leaf_9 : decode cX5_leaf 9 = .ok (.aload_n 0, 1) := dk_42 (dk_at dksX5_leaf_0 9 rfl rfl)
theorem dX5_leaf_10 : decode cX5_leaf 10 = .ok (.invokevirtual 213, 3) := dk_182 0 213 (dk_at dksX5_leaf_0 10 rfl rfl)
theorem dX5_leaf_13 : decode cX5_leaf 13 = .ok (.aload_n 0, 1) := dk_42 (dk_at dksX5_leaf_0 13 rfl rfl)
theorem dX5_leaf_14 : decode cX5_leaf 14 = .ok (.dup, 1) := dk_89 (dk_at dksX5_leaf_0 14 rfl rfl)
theorem dX5_leaf_15 : decode cX5_leaf 15 = .ok (.getfield 216, 3) := dk_180 0 216 (dk_at dksX5_leaf_0 15 rfl rfl)
theorem dX5_leaf_18 : decode cX5_leaf 18 = .ok (.iconst 1, 1) := dk_4 (dk_at dksX5_leaf_0 18 rfl rfl)
theorem dX5_leaf_19 : decode cX5_leaf 19 = .ok (.iadd, 1) := dk_96 (dk_at dksX5_leaf_0 19 rfl rfl)
theorem dX5_leaf_20 : decode cX5_leaf 20 = .ok (.putfield 216, 3) := dk_181 0 216 (dk_at dksX5_leaf_0 20 rfl rfl)
theorem dX5_leaf_23 : decode cX5_leaf 23 = .ok (.aload_n 0, 1) := dk_42 (dk_at dksX5_leaf_0 23 rfl rfl)
theorem dX5_leaf_24 : decode cX5_leaf 24 = .ok (.invokevirtual 203, 3) := dk_182 0 203 (dk_at dksX5_leaf_1 0 rfl rfl)
theorem dX5_leaf_27 : decode cX5_leaf 27 = .ok (.ifCond .eq 13, 3) := dk_153 0 13 (dk_at dksX5_leaf_1 3 rfl rfl)
theorem dX5_leaf_30 : decode cX5_leaf 30 = .ok (.aload_n 0, 1) := dk_42 (dk_at dksX5_leaf_1 6 rfl rfl)
theorem dX5_leaf_31 : decode cX5_leaf 31 = .ok (.dup, 1) := dk_89 (dk_at dksX5_leaf_1 7 rfl rfl)
theorem dX5_leaf_32 : decode cX5_leaf 32 = .ok (.getfield 207, 3) := dk_180 0 207 (dk_at dksX5_leaf_1 8 rfl rfl)
theorem dX5_leaf_35 : decode cX5_leaf 35 = .ok (.iconst 1, 1) := dk_4 (dk_at dksX5_leaf_1 11 rfl rfl)
theorem dX5_leaf_36 : decode cX5_leaf 36 = .ok (.iadd, 1) := dk_96 (dk_at dksX5_leaf_1 12 rfl rfl)
theorem dX5_leaf_37 : decode cX5_leaf 37 = .ok (.putfield 207, 3) := dk_181 0 207 (dk_at dksX5_leaf_1 13 rfl rfl)
theorem dX5_leaf_40 : decode cX5_leaf 40 = .ok (.return_, 1) := dk_177 (dk_at dksX5_leaf_1 16 rfl rfl)
theorem ff_X5_216_5 : ax_FF RX5 216 5 18 (tyX5 18) 0 false := ⟨RX5, TX5, 61, tyX5, "DebtDoorsModel", kd5, in_X5, tyX5_ok, apX5, by decide, rfl, ⟨fun _ => rfl, fun h => absurd h (by decide)⟩, q1980, Or.inl rfl, fun h => absurd h (by decide)⟩
noncomputable def f_X5_leaf_13 (E : ax_E) (x0 : Option Nat) (h : ax_H) : Option (ax_H) :=
  (ax_gI E h x0 5 18).bind fun v1 =>
  (ax_pI h x0 5 18 (v1 + 1)).bind fun h2 =>
  (ax_ce E h2 x0 5).bind fun _ => (f_X5_fine E x0 h2).bind fun q3 =>
  if i2 q3.1 = 0 then
    some q3.2
  else
    (ax_gI E q3.2 x0 5 17).bind fun v4 =>
    (ax_pI q3.2 x0 5 17 (v4 + 1)).bind fun h5 =>
    some h5
noncomputable def f_X5_leaf (E : ax_E) (x0 : Option Nat) (h : ax_H) : Option (ax_H) :=
  (ax_gI E h x0 5 18).bind fun v1 =>
  if i2 v1 = i2 50 then
    (ax_ce E h x0 5).bind fun _ => (f_X5_faults E x0 h).bind fun h2 =>
    f_X5_leaf_13 E x0 h2
  else
    f_X5_leaf_13 E x0 h
set_option maxHeartbeats 4000000 in
theorem w_X5_leaf_13 {l : Launch} {G : ax_G} {X : ax_X} {Q : State → Prop} {h0 h : ax_H} {ls : Array Slot} (hSF : ax_SF G) (B : ax_BL l G X cX5_leaf 1 RX5 3 80) (Z : ax_Z X h0 none) (hn : X.2.2.2.2.2.2.2.2.1.name = yX5_leaf.name) (x0 : Option Nat) {w : ax_H} (hl : ax_hl ls 1 [(0, .inr (.inr x0))]) (e : f_X5_leaf_13 G.2.2 x0 h = some w) (hp : (fun w : ax_H => Q = ax_Q G X h0 w none) w) : ax_W G X Q h 13 ls [] := by
  unfold f_X5_leaf_13 at e
  refine ax_aload_n B dX5_leaf_13 rfl hl 0 rfl ?_
  refine ax_dup B dX5_leaf_14 (va_rf_cat _) ?_
  refine ax_getI B ff_X5_216_5 (fun _ _ => rfl) dX5_leaf_15 e (fun v1 e => ?_)
  refine ax_iconst B dX5_leaf_18 ?_
  refine ax_iadd' B dX5_leaf_19 ?_
  refine ax_putI B ff_X5_216_5 (Or.inl rfl) rfl dX5_leaf_20 e (fun h2 e => ?_)
  refine ax_aload_n B dX5_leaf_23 rfl hl 0 rfl ?_
  refine ax_ivI (y := yX5_fine) (n := 0) (As := []) B kd5 (lw_V q2359 q2361 qs73 q133 q2362) (by decide +kernel) ⟨Nat.le_of_ble_eq_true rfl, Nat.le_of_ble_eq_true rfl⟩ (fun w1 e1 => mt_X5_fine l G hSF x0 _ w1 e1) rfl hl.size (by decide) dX5_leaf_24 e (fun q3 e => ?_)
  refine ax_if_eq (tgt := 40) B dX5_leaf_27 (by decide) e (fun e => ?_) (fun e => ?_)
  · have e8 := e
    have hp : Q = _ := hp
    subst hp
    exact ax_return B Z dX5_leaf_40 e8
  · refine ax_aload_n B dX5_leaf_30 rfl hl 0 rfl ?_
    refine ax_dup B dX5_leaf_31 (va_rf_cat _) ?_
    refine ax_getI B ff_X5_207_5 (fun _ _ => rfl) dX5_leaf_32 e (fun v4 e => ?_)
    refine ax_iconst B dX5_leaf_35 ?_
    refine ax_iadd' B dX5_leaf_36 ?_
    refine ax_putI B ff_X5_207_5 (Or.inl rfl) rfl dX5_leaf_37 e (fun h5 e => ?_)
    have e8 := e
    have hp : Q = _ := hp
    subst hp
    exact ax_return B Z dX5_leaf_40 e8
set_option maxHeartbeats 4000000 in
theorem we_X5_leaf {l : Launch} {G : ax_G} {X : ax_X} {Q : State → Prop} {h0 h : ax_H} {ls : Array Slot} (hSF : ax_SF G) (B : ax_BL l G X cX5_leaf 1 RX5 3 80) (Z : ax_Z X h0 none) (hn : X.2.2.2.2.2.2.2.2.1.name = yX5_leaf.name) (x0 : Option Nat) {w : ax_H} (hl : ax_hl ls 1 [(0, .inr (.inr x0))]) (e : f_X5_leaf G.2.2 x0 h = some w) (hp : (fun w : ax_H => Q = ax_Q G X h0 w none) w) : ax_W G X Q h 0 ls [] := by
  unfold f_X5_leaf at e
  refine ax_aload_n B dX5_leaf_0 rfl hl 0 rfl ?_
  refine ax_getI B ff_X5_216_5 (fun _ _ => rfl) dX5_leaf_1 e (fun v1 e => ?_)
  refine ax_bipush B dX5_leaf_4 (by decide) ?_
  refine ax_icmp_ne (tgt := 13) B dX5_leaf_6 (by decide) e (fun e => ?_) (fun e => ?_)
  · refine ax_aload_n B dX5_leaf_9 rfl hl 0 rfl ?_
    refine ax_ivV (y := yX5_faults) (n := 0) (As := []) B kd5 (lw_V q2375 q2377 qs77 q133 q2378) (by decide +kernel) ⟨Nat.le_of_ble_eq_true rfl, Nat.le_of_ble_eq_true rfl⟩ (fun w1 e1 => mt_X5_faults l G hSF x0 _ w1 e1) rfl hl.size (by decide) dX5_leaf_10 e (fun h2 e => ?_)
    exact w_X5_leaf_13 hSF B Z hn x0 (hl.sub [0] rfl) e hp
  · exact w_X5_leaf_13 hSF B Z hn x0 (hl.sub [0] rfl) e hp
theorem mt_X5_leaf (l : Launch) (G : ax_G) (hSF : ax_SF G) (x0 : Option Nat) (h : ax_H) (w : ax_H) (e : f_X5_leaf G.2.2 x0 h = some w) : ax_Met l G yX5_leaf cX5_leaf 1 none 3 80 [va_rf x0] h w none :=
  ax_enter [.inr (.inr x0)] (y := yX5_leaf) hSF (plainFor_of_name (by decide +kernel)) (Nat.le_of_ble_eq_true rfl) (fun X ls B Z hn hl => we_X5_leaf hSF B Z hn x0 hl e rfl)
