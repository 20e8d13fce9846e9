set_option maxRecDepth 100000
def dkwX5_mustNumber_2 : List UInt8 := [153, 0, 13, 42, 89, 180, 0, 207, 4, 96, 181, 0, 207, 177]
abbrev dktX5_mustNumber_2 : List UInt8 := dkwX5_mustNumber_2 ++ []
def dkwX5_mustNumber_1 : List UInt8 := [180, 0, 53, 42, 180, 0, 207, 46, 27, 28, 184, 0, 123, 154, 0, 7, 42, 182, 0, 213, 42, 182, 0, 203]
abbrev dktX5_mustNumber_1 : List UInt8 := dkwX5_mustNumber_1 ++ dktX5_mustNumber_2
def dkwX5_mustNumber_0 : List UInt8 := [42, 182, 0, 203, 153, 0, 38, 42, 180, 0, 50, 42, 180, 0, 207, 46, 16, 50, 160, 0, 20, 42]
abbrev dktX5_mustNumber_0 : List UInt8 := dkwX5_mustNumber_0 ++ dktX5_mustNumber_1
theorem dksX5_mustNumber_0 : cX5_mustNumber.data.toList.drop 0 = dktX5_mustNumber_0 := by decide +kernel
theorem dksX5_mustNumber_1 : cX5_mustNumber.data.toList.drop 22 = dktX5_mustNumber_1 := dk_seg dksX5_mustNumber_0 22 rfl rfl
theorem dksX5_mustNumber_2 : cX5_mustNumber.data.toList.drop 46 = dktX5_mustNumber_2 := dk_seg dksX5_mustNumber_1 24 rfl rfl
theorem dX5_mustNumber_0 : decode cX5_mustNumber 0 = .ok (.aload_n 0, 1) := dk_42 (dk_at dksX5_mustNumber_0 0 rfl rfl)
theorem dX5_mustNumber_1 : decode cX5_mustNumber 1 = .ok (.invokevirtual 203, 3) := dk_182 0 203 (dk_at dksX5_mustNumber_0 1 rfl rfl)
theorem dX5_mustNumber_4 : decode cX5_mustNumber 4 = .ok (.ifCond .eq 38, 3) := dk_153 0 38 (dk_at dksX5_mustNumber_0 4 rfl rfl)
theorem dX5_mustNumber_7 : decode cX5_mustNumber 7 = .ok (.aload_n 0, 1) := dk_42 (dk_at dksX5_mustNumber_0 7 rfl rfl)
theorem dX5_mustNumber_8 : decode cX5_mustNumber 8 = .ok (.getfield 50, 3) := dk_180 0 50 (dk_at dksX5_mustNumber_0 8 rfl rfl)
theorem dX5_mustNumber_11 : decode cX5_mustNumber 11 = .ok (.aload_n 0, 1) := dk_42 (dk_at dksX5_mustNumber_0 11 rfl rfl)
theorem dX5_mustNumber_12 : decode cX5_mustNumber 12 = .ok (.getfield 207, 3) := dk_180 0 207 (dk_at dksX5_mustNumber_0 12 rfl rfl)
theorem dX5_mustNumber_15 : decode cX5_mustNumber 15 = .ok (.iaload, 1) := dk_46 (dk_at dksX5_mustNumber_0 15 rfl rfl)
theorem dX5_mustNumber_16 : decode cX5_mustNumber 16 = .ok (.bipush 50, 2) := dk_16 50 (dk_at dksX5_mustNumber_0 16 rfl rfl)
theorem dX5_mustNumber_18 : decode cX5_mustNumber 18 = .ok (.if_icmp .ne 20, 3) := dk_160 0 20 (dk_at dksX5_mustNumber_0 18 rfl rfl)
theorem dX5_mustNumber_21 : decode cX5_mustNumber 21 = .ok (.aload_n 0, 1) := dk_42 (dk_at dksX5_mustNumber_0 21 rfl rfl)
theorem dX5_mustNumber_22 : decode cX5_mustNumber 22 = .ok (.getfield 53, 3) := dk_180 0 53 (dk_at dksX5_mustNumber_1 0 rfl rfl)
theorem dX5_mustNumber_25 : decode cX5_mustNumber 25 = .ok (.aload_n 0, 1) := dk_42 (dk_at dksX5_mustNumber_1 3 rfl rfl)
theorem dX5_mustNumber_26 : decode cX5_mustNumber 26 = .ok (.getfield 207, 3) := dk_180 0 207 (dk_at dksX5_mustNumber_1 4 rfl rfl)
theorem dX5_mustNumber_29 : decode cX5_mustNumber 29 = .ok (.iaload, 1) := dk_46 (dk_at dksX5_mustNumber_1 7 rfl rfl)
theorem dX5_mustNumber_30 : decode cX5_mustNumber 30 = .ok (.iload_n 1, 1) := dk_27 (dk_at dksX5_mustNumber_1 8 rfl rfl)
theorem dX5_mustNumber_31 : decode cX5_mustNumber 31 = .ok (.iload_n 2, 1) := dk_28 (dk_at dksX5_mustNumber_1 9 rfl rfl)
theorem dX5_mustNumber_32 : decode cX5_mustNumber 32 = .ok (.invokestatic 123, 3) := dk_184 0 123 (dk_at dksX5_mustNumber_1 10 rfl rfl)
theorem dX5_mustNumber_35 : decode cX5_mustNumber 35 = .ok (.ifCond .ne 7, 3) := dk_154 0 7 (dk_at dksX5_mustNumber_1 13 rfl rfl)
theorem dX5_mustNumber_38 : decode cX5_mustNumber 38 = .ok (.aload_n 0, 1) := dk_42 (dk_at dksX5_mustNumber_1 16 rfl rfl)
theorem dX5_mustNumber_39 : decode cX5_mustNumber 39 = .ok (.invokevirtual 213, 3) := dk_182 0 213 (dk_at dksX5_mustNumber_1 17 rfl rfl)
theorem dX5_mustNumber_42 : decode cX5_mustNumber 42 = .ok (.aload_n 0, 1) := dk_42 (dk_at dksX5_mustNumber_1 20 rfl rfl)
theorem dX5_mustNumber_43 : decode cX5_mustNumber 43 = .ok (.invokevirtual 203, 3) := dk_182 0 203 (dk_at dksX5_mustNumber_1 21 rfl rfl)
theorem dX5_mustNumber_46 : decode cX5_mustNumber 46 = .ok (.ifCond .eq 13, 3) := dk_153 0 13 (dk_at dksX5_mustNumber_2 0 rfl rfl)
theorem dX5_mustNumber_49 : decode cX5_mustNumber 49 = .ok (.aload_n 0, 1) := dk_42 (dk_at dksX5_mustNumber_2 3 rfl rfl)
theorem dX5_mustNumber_50 : decode cX5_mustNumber 50 = .ok (.dup, 1) := dk_89 (dk_at dksX5_mustNumber_2 4 rfl rfl)
theorem dX5_mustNumber_51 : decode cX5_mustNumber 51 = .ok (.getfield 207, 3) := dk_180 0 207 (dk_at dksX5_mustNumber_2 5 rfl rfl)
theorem dX5_mustNumber_54 : decode cX5_mustNumber 54 = .ok (.iconst 1, 1) := dk_4 (dk_at dksX5_mustNumber_2 8 rfl rfl)
theorem dX5_mustNumber_55 : decode cX5_mustNumber 55 = .ok (.iadd, 1) := dk_96 (dk_at dksX5_mustNumber_2 9 rfl rfl)
theorem dX5_mustNumber_56 : decode cX5_mustNumber 56 = .ok (.putfield 207, 3) := dk_181 0 207 (dk_at dksX5_mustNumber_2 10 rfl rfl)
theorem dX5_mustNumber_59 : decode cX5_mustNumber 59 = .ok (.return_, 1) := dk_177 (dk_at dksX5_mustNumber_2 13 rfl rfl)
noncomputable def f_X5_mustNumber_42 (E : ax_E) (x0 : Option Nat) (h : ax_H) : Option (ax_H) :=
  (ax_ce E h x0 5).bind fun _ => (f_X5_fine E x0 h).bind fun q1 =>
  if i2 q1.1 = 0 then
    some q1.2
  else
    (ax_gI E q1.2 x0 5 17).bind fun v2 =>
    (ax_pI q1.2 x0 5 17 (v2 + 1)).bind fun h3 =>
    some h3
noncomputable def f_X5_mustNumber_38 (E : ax_E) (x0 : Option Nat) (h : ax_H) : Option (ax_H) :=
  (ax_ce E h x0 5).bind fun _ => (f_X5_faults E x0 h).bind fun h1 =>
  f_X5_mustNumber_42 E x0 h1
noncomputable def f_X5_mustNumber (E : ax_E) (x0 : Option Nat) (x1 : Int) (x2 : Int) (h : ax_H) : Option (ax_H) :=
  (ax_ce E h x0 5).bind fun _ => (f_X5_fine E x0 h).bind fun q1 =>
  if i2 q1.1 = 0 then
    f_X5_mustNumber_42 E x0 q1.2
  else
    (ax_gR E q1.2 x0 5 13).bind fun v2 =>
    (ax_gI E q1.2 x0 5 17).bind fun v3 =>
    (ax_ld E q1.2 v2 100 v3).bind fun v4 =>
    if i2 v4 = i2 50 then
      (ax_gR E q1.2 x0 5 14).bind fun v5 =>
      (ax_gI E q1.2 x0 5 17).bind fun v6 =>
      (ax_ld E q1.2 v5 100 v6).bind fun v7 =>
      (f_X5_lies E v7 x1 x2 q1.2).bind fun q8 =>
      if i2 q8.1 = 0 then
        f_X5_mustNumber_38 E x0 q8.2
      else
        f_X5_mustNumber_42 E x0 q8.2
    else
      f_X5_mustNumber_38 E x0 q1.2
set_option maxHeartbeats 4000000 in
theorem w_X5_mustNumber_42 {l : Launch} {G : ax_G} {X : ax_X} {Q : State → Prop} {h0 h : ax_H} {ls : Array Slot} (hSF : ax_SF G) (B : ax_BL l G X cX5_mustNumber 3 RX5 3 80) (Z : ax_Z X h0 none) (hn : X.2.2.2.2.2.2.2.2.1.name = yX5_mustNumber.name) (x0 : Option Nat) {w : ax_H} (hl : ax_hl ls 3 [(0, .inr (.inr x0))]) (e : f_X5_mustNumber_42 G.2.2 x0 h = some w) (hp : (fun w : ax_H => Q = ax_Q G X h0 w none) w) : ax_W G X Q h 42 ls [] := by
  unfold f_X5_mustNumber_42 at e
  refine ax_aload_n B dX5_mustNumber_42 rfl hl 0 rfl ?_
  refine ax_ivI (y := yX5_fine) (n := 0) (As := []) B kd5 (lw_V q2359 q2361 qs73 q133 q2362) (by decide +kernel) ⟨Nat.le_of_ble_eq_true rfl, Nat.le_of_ble_eq_true rfl⟩ (fun w1 e1 => mt_X5_fine l G hSF x0 _ w1 e1) rfl hl.size (by decide) dX5_mustNumber_43 e (fun q1 e => ?_)
  refine ax_if_eq (tgt := 59) B dX5_mustNumber_46 (by decide) e (fun e => ?_) (fun e => ?_)
  · have e8 := e
    have hp : Q = _ := hp
    subst hp
    exact ax_return B Z dX5_mustNumber_59 e8
  · refine ax_aload_n B dX5_mustNumber_49 rfl hl 0 rfl ?_
    refine ax_dup B dX5_mustNumber_50 (va_rf_cat _) ?_
    refine ax_getI B ff_X5_207_5 (fun _ _ => rfl) dX5_mustNumber_51 e (fun v2 e => ?_)
    refine ax_iconst B dX5_mustNumber_54 ?_
    refine ax_iadd' B dX5_mustNumber_55 ?_
    refine ax_putI B ff_X5_207_5 (Or.inl rfl) rfl dX5_mustNumber_56 e (fun h3 e => ?_)
    have e8 := e
    have hp : Q = _ := hp
    subst hp
    exact ax_return B Z dX5_mustNumber_59 e8
set_option maxHeartbeats 4000000 in
theorem w_X5_mustNumber_38 {l : Launch} {G : ax_G} {X : ax_X} {Q : State → Prop} {h0 h : ax_H} {ls : Array Slot} (hSF : ax_SF G) (B : ax_BL l G X cX5_mustNumber 3 RX5 3 80) (Z : ax_Z X h0 none) (hn : X.2.2.2.2.2.2.2.2.1.name = yX5_mustNumber.name) (x0 : Option Nat) {w : ax_H} (hl : ax_hl ls 3 [(0, .inr (.inr x0))]) (e : f_X5_mustNumber_38 G.2.2 x0 h = some w) (hp : (fun w : ax_H => Q = ax_Q G X h0 w none) w) : ax_W G X Q h 38 ls [] := by
  unfold f_X5_mustNumber_38 at e
  refine ax_aload_n B dX5_mustNumber_38 rfl hl 0 rfl ?_
  refine ax_ivV (y := yX5_faults) (n := 0) (As := []) B kd5 (lw_V q2375 q2377 qs77 q133 q2378) (by decide +kernel) ⟨Nat.le_of_ble_eq_true rfl, Nat.le_of_ble_eq_true rfl⟩ (fun w1 e1 => mt_X5_faults l G hSF x0 _ w1 e1) rfl hl.size (by decide) dX5_mustNumber_39 e (fun h1 e => ?_)
  exact w_X5_mustNumber_42 hSF B Z hn x0 (hl.sub [0] rfl) e hp
set_option maxHeartbeats 4000000 in
theorem we_X5_mustNumber {l : Launch} {G : ax_G} {X : ax_X} {Q : State → Prop} {h0 h : ax_H} {ls : Array Slot} (hSF : ax_SF G) (B : ax_BL l G X cX5_mustNumber 3 RX5 3 80) (Z : ax_Z X h0 none) (hn : X.2.2.2.2.2.2.2.2.1.name = yX5_mustNumber.name) (x0 : Option Nat) (x1 : Int) (x2 : Int) {w : ax_H} (hl : ax_hl ls 3 [(0, .inr (.inr x0)), (1, .inl x1), (2, .inl x2)]) (e : f_X5_mustNumber G.2.2 x0 x1 x2 h = some w) (hp : (fun w : ax_H => Q = ax_Q G X h0 w none) w) : ax_W G X Q h 0 ls [] := by
  unfold f_X5_mustNumber at e
  refine ax_aload_n B dX5_mustNumber_0 rfl hl 0 rfl ?_
  refine ax_ivI (y := yX5_fine) (n := 0) (As := []) B kd5 (lw_V q2359 q2361 qs73 q133 q2362) (by decide +kernel) ⟨Nat.le_of_ble_eq_true rfl, Nat.le_of_ble_eq_true rfl⟩ (fun w1 e1 => mt_X5_fine l G hSF x0 _ w1 e1) rfl hl.size (by decide) dX5_mustNumber_1 e (fun q1 e => ?_)
  refine ax_if_eq (tgt := 42) B dX5_mustNumber_4 (by decide) e (fun e => ?_) (fun e => ?_)
  · exact w_X5_mustNumber_42 hSF B Z hn x0 (hl.sub [0] rfl) e hp
  · refine ax_aload_n B dX5_mustNumber_7 rfl hl 0 rfl ?_
    refine ax_getR B ff_X5_50_5 (fun _ _ => rfl) dX5_mustNumber_8 e (fun v2 e => ?_)
    refine ax_aload_n B dX5_mustNumber_11 rfl hl 0 rfl ?_
    refine ax_getI B ff_X5_207_5 (fun _ _ => rfl) dX5_mustNumber_12 e (fun v3 e => ?_)
    refine ax_iald B kd100 dX5_mustNumber_15 e (fun v4 e => ?_)
    refine ax_bipush B dX5_mustNumber_16 (by decide) ?_
    refine ax_icmp_ne (tgt := 38) B dX5_mustNumber_18 (by decide) e (fun e => ?_) (fun e => ?_)
    · refine ax_aload_n B dX5_mustNumber_21 rfl hl 0 rfl ?_
      refine ax_getR B ff_X5_53_5 (fun _ _ => rfl) dX5_mustNumber_22 e (fun v5 e => ?_)
      refine ax_aload_n B dX5_mustNumber_25 rfl hl 0 rfl ?_
      refine ax_getI B ff_X5_207_5 (fun _ _ => rfl) dX5_mustNumber_26 e (fun v6 e => ?_)
      refine ax_iald B kd100 dX5_mustNumber_29 e (fun v7 e => ?_)
      refine ax_iload_n B dX5_mustNumber_30 rfl hl 1 rfl ?_
      refine ax_iload_n B dX5_mustNumber_31 rfl hl 2 rfl ?_
      refine ax_isI (y := yX5_lies) (n := 3) (As := [.int (Int32.ofInt v7), .int (Int32.ofInt x1), .int (Int32.ofInt x2)]) B (lw_S q2151 q2152 q133 q2153) (by decide +kernel) ⟨Nat.le_of_ble_eq_true rfl, Nat.le_of_ble_eq_true rfl⟩ (fun w1 e1 => mt_X5_lies l G hSF v7 x1 x2 _ w1 e1) rfl hl.size (by decide) dX5_mustNumber_32 e (fun q8 e => ?_)
      refine ax_if_ne (tgt := 42) B dX5_mustNumber_35 (by decide) e (fun e => ?_) (fun e => ?_)
      · exact w_X5_mustNumber_38 hSF B Z hn x0 (hl.sub [0] rfl) e hp
      · exact w_X5_mustNumber_42 hSF B Z hn x0 (hl.sub [0] rfl) e hp
    · exact w_X5_mustNumber_38 hSF B Z hn x0 (hl.sub [0] rfl) e hp
theorem mt_X5_mustNumber (l : Launch) (G : ax_G) (hSF : ax_SF G) (x0 : Option Nat) (x1 : Int) (x2 : Int) (h : ax_H) (w : ax_H) (e : f_X5_mustNumber G.2.2 x0 x1 x2 h = some w) : ax_Met l G yX5_mustNumber cX5_mustNumber 3 none 3 80 [va_rf x0, .int (Int32.ofInt x1), .int (Int32.ofInt x2)] h w none :=
  ax_enter [.inr (.inr x0), .inl x1, .inl x2] (y := yX5_mustNumber) hSF (plainFor_of_name (by decide +kernel)) (Nat.le_of_ble_eq_true rfl) (fun X ls B Z hn hl => we_X5_mustNumber hSF B Z hn x0 x1 x2 hl e rfl)
def dkwX5_readPart_6 : List UInt8 := [16, 23, 160, 0, 17, 42, 3, 16, 6, 182, 0, 233, 167, 0, 7, 42, 182, 0, 213, 177]
abbrev dktX5_readPart_6 : List UInt8 := dkwX5_readPart_6 ++ []
def dkwX5_readPart_5 : List UInt8 := [159, 0, 9, 28, 16, 23, 160, 0, 10, 42, 3, 16, 6, 182, 0, 233, 42, 180, 0, 219, 153, 0, 23, 28]
abbrev dktX5_readPart_5 : List UInt8 := dkwX5_readPart_5 ++ dktX5_readPart_6
def dkwX5_readPart_4 : List UInt8 := [42, 28, 182, 1, 3, 153, 0, 56, 42, 182, 1, 6, 42, 180, 0, 219, 153, 0, 22, 28, 16, 22]
abbrev dktX5_readPart_4 : List UInt8 := dkwX5_readPart_4 ++ dktX5_readPart_5
def dkwX5_readPart_3 : List UInt8 := [167, 0, 89, 28, 16, 50, 160, 0, 18, 42, 180, 0, 53, 42, 180, 0, 207, 46, 17, 3, 232, 164, 0, 11]
abbrev dktX5_readPart_3 : List UInt8 := dkwX5_readPart_3 ++ dktX5_readPart_4
def dkwX5_readPart_2 : List UInt8 := [180, 0, 207, 4, 96, 181, 0, 207, 42, 27, 4, 96, 182, 0, 223, 42, 16, 93, 184, 0, 249, 182, 0, 227]
abbrev dktX5_readPart_2 : List UInt8 := dkwX5_readPart_2 ++ dktX5_readPart_3
def dkwX5_readPart_1 : List UInt8 := [160, 0, 50, 27, 16, 8, 160, 0, 7, 42, 182, 0, 213, 42, 182, 0, 203, 154, 0, 4, 177, 42, 89]
abbrev dktX5_readPart_1 : List UInt8 := dkwX5_readPart_1 ++ dktX5_readPart_2
def dkwX5_readPart_0 : List UInt8 := [42, 182, 0, 203, 154, 0, 4, 177, 42, 180, 0, 50, 42, 180, 0, 207, 46, 61, 28, 16, 91, 184, 0, 249]
abbrev dktX5_readPart_0 : List UInt8 := dkwX5_readPart_0 ++ dktX5_readPart_1
theorem dksX5_readPart_0 : cX5_readPart.data.toList.drop 0 = dktX5_readPart_0 := by decide +kernel
theorem dksX5_readPart_1 : cX5_readPart.data.toList.drop 24 = dktX5_readPart_1 := dk_seg dksX5_readPart_0 24 rfl rfl
theorem dksX5_readPart_2 : cX5_readPart.data.toList.drop 47 = dktX5_readPart_2 := dk_seg dksX5_readPart_1 23 rfl rfl
theorem dksX5_readPart_3 : cX5_readPart.data.toList.drop 71 = dktX5_readPart_3 := dk_seg dksX5_readPart_2 24 rfl rfl
theorem dksX5_readPart_4 : cX5_readPart.data.toList.drop 95 = dktX5_readPart_4 := dk_seg dksX5_readPart_3 24 rfl rfl
theorem dksX5_readPart_5 : cX5_readPart.data.toList.drop 117 = dktX5_readPart_5 := dk_seg dksX5_readPart_4 22 rfl rfl
theorem dksX5_readPart_6 : cX5_readPart.data.toList.drop 141 = dktX5_readPart_6 := dk_seg dksX5_readPart_5 24 rfl rfl
theorem dX5_readPart_0 : decode cX5_readPart 0 = .ok (.aload_n 0, 1) := dk_42 (dk_at dksX5_readPart_0 0 rfl rfl)
theorem dX5_readPart_1 : decode cX5_readPart 1 = .ok (.invokevirtual 203, 3) := dk_182 0 203 (dk_at dksX5_readPart_0 1 rfl rfl)
theorem dX5_readPart_4 : decode cX5_readPart 4 = .ok (.ifCond .ne 4, 3) := dk_154 0 4 (dk_at dksX5_readPart_0 4 rfl rfl)
theorem dX5_readPart_7 : decode cX5_readPart 7 = .ok (.return_, 1) := dk_177 (dk_at dksX5_readPart_0 7 rfl rfl)
theorem dX5_readPart_8 : decode cX5_readPart 8 = .ok (.aload_n 0, 1) := dk_42 (dk_at dksX5_readPart_0 8 rfl rfl)
theorem dX5_readPart_9 : decode cX5_readPart 9 = .ok (.getfield 50, 3) := dk_180 0 50 (dk_at dksX5_readPart_0 9 rfl rfl)
theorem dX5_readPart_12 : decode cX5_readPart 12 = .ok (.aload_n 0, 1) := dk_42 (dk_at dksX5_readPart_0 12 rfl rfl)
theorem dX5_readPart_13 : decode cX5_readPart 13 = .ok (.getfield 207, 3) := dk_180 0 207 (dk_at dksX5_readPart_0 13 rfl rfl)
theorem dX5_readPart_16 : decode cX5_readPart 16 = .ok (.iaload, 1) := dk_46 (dk_at dksX5_readPart_0 16 rfl rfl)
theorem dX5_readPart_17 : decode cX5_readPart 17 = .ok (.istore_n 2, 1) := dk_61 (dk_at dksX5_readPart_0 17 rfl rfl)
theorem dX5_readPart_18 : decode cX5_readPart 18 = .ok (.iload_n 2, 1) := dk_28 (dk_at dksX5_readPart_0 18 rfl rfl)
theorem dX5_readPart_19 : decode cX5_readPart 19 = .ok (.bipush 91, 2) := dk_16 91 (dk_at dksX5_readPart_0 19 rfl rfl)
theorem dX5_readPart_21 : decode cX5_readPart 21 = .ok (.invokestatic 249, 3) := dk_184 0 249 (dk_at dksX5_readPart_0 21 rfl rfl)
theorem dX5_readPart_24 : decode cX5_readPart 24 = .ok (.if_icmp .ne 50, 3) := dk_160 0 50 (dk_at dksX5_readPart_1 0 rfl rfl)
theorem dX5_readPart_27 : decode cX5_readPart 27 = .ok (.iload_n 1, 1) := dk_27 (dk_at dksX5_readPart_1 3 rfl rfl)
theorem dX5_readPart_28 : decode cX5_readPart 28 = .ok (.bipush 8, 2) := dk_16 8 (dk_at dksX5_readPart_1 4 rfl rfl)
theorem dX5_readPart_30 : decode cX5_readPart 30 = .ok (.if_icmp .ne 7, 3) := dk_160 0 7 (dk_at dksX5_readPart_1 6 rfl rfl)
theorem dX5_readPart_33 : decode cX5_readPart 33 = .ok (.aload_n 0, 1) := dk_42 (dk_at dksX5_readPart_1 9 rfl rfl)
theorem dX5_readPart_34 : decode cX5_readPart 34 = .ok (.invokevirtual 213, 3) := dk_182 0 213 (dk_at dksX5_readPart_1 10 rfl rfl)
theorem dX5_readPart_37 : decode cX5_readPart 37 = .ok (.aload_n 0, 1) := dk_42 (dk_at dksX5_readPart_1 13 rfl rfl)
theorem dX5_readPart_38 : decode cX5_readPart 38 = .ok (.invokevirtual 203, 3) := dk_182 0 203 (dk_at dksX5_readPart_1 14 rfl rfl)
theorem dX5_readPart_41 : decode cX5_readPart 41 = .ok (.ifCond .ne 4, 3) := dk_154 0 4 (dk_at dksX5_readPart_1 17 rfl rfl)
theorem dX5_readPart_44 : decode cX5_readPart 44 = .ok (.return_, 1) := dk_177 (dk_at dksX5_readPart_1 20 rfl rfl)
theorem dX5_readPart_45 : decode cX5_readPart 45 = .ok (.aload_n 0, 1) := dk_42 (dk_at dksX5_readPart_1 21 rfl rfl)
theorem dX5_readPart_46 : decode cX5_readPart 46 = .ok (.dup, 1) := dk_89 (dk_at dksX5_readPart_1 22 rfl rfl)
theorem dX5_readPart_47 : decode cX5_readPart 47 = .ok (.getfield 207, 3) := dk_180 0 207 (dk_at dksX5_readPart_2 0 rfl rfl)
theorem dX5_readPart_50 : decode cX5_readPart 50 = .ok (.iconst 1, 1) := dk_4 (dk_at dksX5_readPart_2 3 rfl rfl)
theorem dX5_readPart_51 : decode cX5_readPart 51 = .ok (.iadd, 1) := dk_96 (dk_at dksX5_readPart_2 4 rfl rfl)
theorem dX5_readPart_52 : decode cX5_readPart 52 = .ok (.putfield 207, 3) := dk_181 0 207 (dk_at dksX5_readPart_2 5 rfl rfl)
theorem dX5_readPart_55 : decode cX5_readPart 55 = .ok (.aload_n 0, 1) := dk_42 (dk_at dksX5_readPart_2 8 rfl rfl)
theorem dX5_readPart_56 : decode cX5_readPart 56 = .ok (.iload_n 1, 1) := dk_27 (dk_at dksX5_readPart_2 9 rfl rfl)
theorem dX5_readPart_57 : decode cX5_readPart 57 = .ok (.iconst 1, 1) := dk_4 (dk_at dksX5_readPart_2 10 rfl rfl)
theorem dX5_readPart_58 : decode cX5_readPart 58 = .ok (.iadd, 1) := dk_96 (dk_at dksX5_readPart_2 11 rfl rfl)
theorem dX5_readPart_59 : decode cX5_readPart 59 = .ok (.invokevirtual 223, 3) := dk_182 0 223 (dk_at dksX5_readPart_2 12 rfl rfl)
theorem dX5_readPart_62 : decode cX5_readPart 62 = .ok (.aload_n 0, 1) := dk_42 (dk_at dksX5_readPart_2 15 rfl rfl)
theorem dX5_readPart_63 : decode cX5_readPart 63 = .ok (.bipush 93, 2) := dk_16 93 (dk_at dksX5_readPart_2 16 rfl rfl)
theorem dX5_readPart_65 : decode cX5_readPart 65 = .ok (.invokestatic 249, 3) := dk_184 0 249 (dk_at dksX5_readPart_2 18 rfl rfl)
theorem dX5_readPart_68 : decode cX5_readPart 68 = .ok (.invokevirtual 227, 3) := dk_182 0 227 (dk_at dksX5_readPart_2 21 rfl rfl)
theorem dX5_readPart_71 : decode cX5_readPart 71 = .ok (.goto 89, 3) := dk_167 0 89 (dk_at dksX5_readPart_3 0 rfl rfl)
theorem dX5_readPart_74 : decode cX5_readPart 74 = .ok (.iload_n 2, 1) := dk_28 (dk_at dksX5_readPart_3 3 rfl rfl)
theorem dX5_readPart_75 : decode cX5_readPart 75 = .ok (.bipush 50, 2) := dk_16 50 (dk_at dksX5_readPart_3 4 rfl rfl)
theorem dX5_readPart_77 : decode cX5_readPart 77 = .ok (.if_icmp .ne 18, 3) := dk_160 0 18 (dk_at dksX5_readPart_3 6 rfl rfl)
theorem dX5_readPart_80 : decode cX5_readPart 80 = .ok (.aload_n 0, 1) := dk_42 (dk_at dksX5_readPart_3 9 rfl rfl)
theorem dX5_readPart_81 : decode cX5_readPart 81 = .ok (.getfield 53, 3) := dk_180 0 53 (dk_at dksX5_readPart_3 10 rfl rfl)
theorem dX5_readPart_84 : decode cX5_readPart 84 = .ok (.aload_n 0, 1) := dk_42 (dk_at dksX5_readPart_3 13 rfl rfl)
theorem dX5_readPart_85 : decode cX5_readPart 85 = .ok (.getfield 207, 3) := dk_180 0 207 (dk_at dksX5_readPart_3 14 rfl rfl)
theorem dX5_readPart_88 : decode cX5_readPart 88 = .ok (.iaload, 1) := dk_46 (dk_at dksX5_readPart_3 17 rfl rfl)
theorem dX5_readPart_89 : decode cX5_readPart 89 = .ok (.sipush 1000, 3) := dk_17 3 232 (dk_at dksX5_readPart_3 18 rfl rfl)
theorem dX5_readPart_92 : decode cX5_readPart 92 = .ok (.if_icmp .le 11, 3) := dk_164 0 11 (dk_at dksX5_readPart_3 21 rfl rfl)
theorem dX5_readPart_95 : decode cX5_readPart 95 = .ok (.aload_n 0, 1) := dk_42 (dk_at dksX5_readPart_4 0 rfl rfl)
theorem dX5_readPart_96 : decode cX5_readPart 96 = .ok (.iload_n 2, 1) := dk_28 (dk_at dksX5_readPart_4 1 rfl rfl)
theorem dX5_readPart_97 : decode cX5_readPart 97 = .ok (.invokevirtual 259, 3) := dk_182 1 3 (dk_at dksX5_readPart_4 2 rfl rfl)
theorem dX5_readPart_100 : decode cX5_readPart 100 = .ok (.ifCond .eq 56, 3) := dk_153 0 56 (dk_at dksX5_readPart_4 5 rfl rfl)
theorem dX5_readPart_103 : decode cX5_readPart 103 = .ok (.aload_n 0, 1) := dk_42 (dk_at dksX5_readPart_4 8 rfl rfl)
theorem dX5_readPart_104 : decode cX5_readPart 104 = .ok (.invokevirtual 262, 3) := dk_182 1 6 (dk_at dksX5_readPart_4 9 rfl rfl)
theorem dX5_readPart_107 : decode cX5_readPart 107 = .ok (.aload_n 0, 1) := dk_42 (dk_at dksX5_readPart_4 12 rfl rfl)
theorem dX5_readPart_108 : decode cX5_readPart 108 = .ok (.getfield 219, 3) := dk_180 0 219 (dk_at dksX5_readPart_4 13 rfl rfl)
theorem dX5_readPart_111 : decode cX5_readPart 111 = .ok (.ifCond .eq 22, 3) := dk_153 0 22 (dk_at dksX5_readPart_4 16 rfl rfl)
theorem dX5_readPart_114 : decode cX5_readPart 114 = .ok (.iload_n 2, 1) := dk_28 (dk_at dksX5_readPart_4 19 rfl rfl)
theorem dX5_readPart_115 : decode cX5_readPart 115 = .ok (.bipush 22, 2) := dk_16 22 (dk_at dksX5_readPart_4 20 rfl rfl)
theorem dX5_readPart_117 : decode cX5_readPart 117 = .ok (.if_icmp .eq 9, 3) := dk_159 0 9 (dk_at dksX5_readPart_5 0 rfl rfl)
theorem dX5_readPart_120 : decode cX5_readPart 120 = .ok (.iload_n 2, 1) := dk_28 (dk_at dksX5_readPart_5 3 rfl rfl)
theorem dX5_readPart_121 : decode cX5_readPart 121 = .ok (.bipush 23, 2) := dk_16 23 (dk_at dksX5_readPart_5 4 rfl rfl)
theorem dX5_readPart_123 : decode cX5_readPart 123 = .ok (.if_icmp .ne 10, 3) := dk_160 0 10 (dk_at dksX5_readPart_5 6 rfl rfl)
theorem dX5_readPart_126 : decode cX5_readPart 126 = .ok (.aload_n 0, 1) := dk_42 (dk_at dksX5_readPart_5 9 rfl rfl)
theorem dX5_readPart_127 : decode cX5_readPart 127 = .ok (.iconst 0, 1) := dk_3 (dk_at dksX5_readPart_5 10 rfl rfl)
theorem dX5_readPart_128 : decode cX5_readPart 128 = .ok (.bipush 6, 2) := dk_16 6 (dk_at dksX5_readPart_5 11 rfl rfl)
theorem dX5_readPart_130 : decode cX5_readPart 130 = .ok (.invokevirtual 233, 3) := dk_182 0 233 (dk_at dksX5_readPart_5 13 rfl rfl)
theorem dX5_readPart_133 : decode cX5_readPart 133 = .ok (.aload_n 0, 1) := dk_42 (dk_at dksX5_readPart_5 16 rfl rfl)
theorem dX5_readPart_134 : decode cX5_readPart 134 = .ok (.getfield 219, 3) := dk_180 0 219 (dk_at dksX5_readPart_5 17 rfl rfl)
theorem dX5_readPart_137 : decode cX5_readPart 137 = .ok (.ifCond .eq 23, 3) := dk_153 0 23 (dk_at dksX5_readPart_5 20 rfl rfl)
theorem dX5_readPart_140 : decode cX5_readPart 140 = .ok (.iload_n 2, 1) := dk_28 (dk_at dksX5_readPart_5 23 rfl rfl)
theorem dX5_readPart_141 : decode cX5_readPart 141 = .ok (.bipush 23, 2) := dk_16 23 (dk_at dksX5_readPart_6 0 rfl rfl)
theorem dX5_readPart_143 : decode cX5_readPart 143 = .ok (.if_icmp .ne 17, 3) := dk_160 0 17 (dk_at dksX5_readPart_6 2 rfl rfl)
theorem dX5_readPart_146 : decode cX5_readPart 146 = .ok (.aload_n 0, 1) := dk_42 (dk_at dksX5_readPart_6 5 rfl rfl)
theorem dX5_readPart_147 : decode cX5_readPart 147 = .ok (.iconst 0, 1) := dk_3 (dk_at dksX5_readPart_6 6 rfl rfl)
theorem dX5_readPart_148 : decode cX5_readPart 148 = .ok (.bipush 6, 2) := dk_16 6 (dk_at dksX5_readPart_6 7 rfl rfl)
theorem dX5_readPart_150 : decode cX5_readPart 150 = .ok (.invokevirtual 233, 3) := dk_182 0 233 (dk_at dksX5_readPart_6 9 rfl rfl)
theorem dX5_readPart_153 : decode cX5_readPart 153 = .ok (.goto 7, 3) := dk_167 0 7 (dk_at dksX5_readPart_6 12 rfl rfl)
theorem dX5_readPart_156 : decode cX5_readPart 156 = .ok (.aload_n 0, 1) := dk_42 (dk_at dksX5_readPart_6 15 rfl rfl)
theorem dX5_readPart_157 : decode cX5_readPart 157 = .ok (.invokevirtual 213, 3) := dk_182 0 213 (dk_at dksX5_readPart_6 16 rfl rfl)
theorem dX5_readPart_160 : decode cX5_readPart 160 = .ok (.return_, 1) := dk_177 (dk_at dksX5_readPart_6 19 rfl rfl)
def dkwX5_readTerm_2 : List UInt8 := [167, 255, 215, 177]
abbrev dktX5_readTerm_2 : List UInt8 := dkwX5_readTerm_2 ++ []
def dkwX5_readTerm_1 : List UInt8 := [182, 0, 210, 154, 0, 15, 42, 16, 37, 184, 0, 249, 182, 0, 210, 153, 0, 11, 42, 27, 182, 1, 0]
abbrev dktX5_readTerm_1 : List UInt8 := dkwX5_readTerm_1 ++ dktX5_readTerm_2
def dkwX5_readTerm_0 : List UInt8 := [42, 27, 182, 1, 0, 42, 16, 42, 184, 0, 249, 182, 0, 210, 154, 0, 27, 42, 16, 47, 184, 0, 249]
abbrev dktX5_readTerm_0 : List UInt8 := dkwX5_readTerm_0 ++ dktX5_readTerm_1
theorem dksX5_readTerm_0 : cX5_readTerm.data.toList.drop 0 = dktX5_readTerm_0 := by decide +kernel
theorem dksX5_readTerm_1 : cX5_readTerm.data.toList.drop 23 = dktX5_readTerm_1 := dk_seg dksX5_readTerm_0 23 rfl rfl
theorem dksX5_readTerm_2 : cX5_readTerm.data.toList.drop 46 = dktX5_readTerm_2 := dk_seg dksX5_readTerm_1 23 rfl rfl
theorem dX5_readTerm_0 : decode cX5_readTerm 0 = .ok (.aload_n 0, 1) := dk_42 (dk_at dksX5_readTerm_0 0 rfl rfl)
theorem dX5_readTerm_1 : decode cX5_readTerm 1 = .ok (.iload_n 1, 1) := dk_27 (dk_at dksX5_readTerm_0 1 rfl rfl)
theorem dX5_readTerm_2 : decode cX5_readTerm 2 = .ok (.invokevirtual 256, 3) := dk_182 1 0 (dk_at dksX5_readTerm_0 2 rfl rfl)
theorem dX5_readTerm_5 : decode cX5_readTerm 5 = .ok (.aload_n 0, 1) := dk_42 (dk_at dksX5_readTerm_0 5 rfl rfl)
theorem dX5_readTerm_6 : decode cX5_readTerm 6 = .ok (.bipush 42, 2) := dk_16 42 (dk_at dksX5_readTerm_0 6 rfl rfl)
theorem dX5_readTerm_8 : decode cX5_readTerm 8 = .ok (.invokestatic 249, 3) := dk_184 0 249 (dk_at dksX5_readTerm_0 8 rfl rfl)
theorem dX5_readTerm_11 : decode cX5_readTerm 11 = .ok (.invokevirtual 210, 3) := dk_182 0 210 (dk_at dksX5_readTerm_0 11 rfl rfl)
theorem dX5_readTerm_14 : decode cX5_readTerm 14 = .ok (.ifCond .ne 27, 3) := dk_154 0 27 (dk_at dksX5_readTerm_0 14 rfl rfl)
theorem dX5_readTerm_17 : decode cX5_readTerm 17 = .ok (.aload_n 0, 1) := dk_42 (dk_at dksX5_readTerm_0 17 rfl rfl)
theorem dX5_readTerm_18 : decode cX5_readTerm 18 = .ok (.bipush 47, 2) := dk_16 47 (dk_at dksX5_readTerm_0 18 rfl rfl)
theorem dX5_readTerm_20 : decode cX5_readTerm 20 = .ok (.invokestatic 249, 3) := dk_184 0 249 (dk_at dksX5_readTerm_0 20 rfl rfl)
theorem dX5_readTerm_23 : decode cX5_readTerm 23 = .ok (.invokevirtual 210, 3) := dk_182 0 210 (dk_at dksX5_readTerm_1 0 rfl rfl)
theorem dX5_readTerm_26 : decode cX5_readTerm 26 = .ok (.ifCond .ne 15, 3) := dk_154 0 15 (dk_at dksX5_readTerm_1 3 rfl rfl)
theorem dX5_readTerm_29 : decode cX5_readTerm 29 = .ok (.aload_n 0, 1) := dk_42 (dk_at dksX5_readTerm_1 6 rfl rfl)
theorem dX5_readTerm_30 : decode cX5_readTerm 30 = .ok (.bipush 37, 2) := dk_16 37 (dk_at dksX5_readTerm_1 7 rfl rfl)
theorem dX5_readTerm_32 : decode cX5_readTerm 32 = .ok (.invokestatic 249, 3) := dk_184 0 249 (dk_at dksX5_readTerm_1 9 rfl rfl)
theorem dX5_readTerm_35 : decode cX5_readTerm 35 = .ok (.invokevirtual 210, 3) := dk_182 0 210 (dk_at dksX5_readTerm_1 12 rfl rfl)
theorem dX5_readTerm_38 : decode cX5_readTerm 38 = .ok (.ifCond .eq 11, 3) := dk_153 0 11 (dk_at dksX5_readTerm_1 15 rfl rfl)
theorem dX5_readTerm_41 : decode cX5_readTerm 41 = .ok (.aload_n 0, 1) := dk_42 (dk_at dksX5_readTerm_1 18 rfl rfl)
theorem dX5_readTerm_42 : decode cX5_readTerm 42 = .ok (.iload_n 1, 1) := dk_27 (dk_at dksX5_readTerm_1 19 rfl rfl)
theorem dX5_readTerm_43 : decode cX5_readTerm 43 = .ok (.invokevirtual 256, 3) := dk_182 1 0 (dk_at dksX5_readTerm_1 20 rfl rfl)
theorem dX5_readTerm_46 : decode cX5_readTerm 46 = .ok (.goto (-41), 3) := dk_167 255 215 (dk_at dksX5_readTerm_2 0 rfl rfl)
theorem dX5_readTerm_49 : decode cX5_readTerm 49 = .ok (.return_, 1) := dk_177 (dk_at dksX5_readTerm_2 3 rfl rfl)
def dkwX5_readSum_1 : List UInt8 := [182, 0, 210, 153, 0, 11, 42, 27, 182, 0, 253, 167, 255, 227, 177]
abbrev dktX5_readSum_1 : List UInt8 := dkwX5_readSum_1 ++ []
def dkwX5_readSum_0 : List UInt8 := [42, 27, 182, 0, 253, 42, 16, 43, 184, 0, 249, 182, 0, 210, 154, 0, 15, 42, 16, 45, 184, 0, 249]
abbrev dktX5_readSum_0 : List UInt8 := dkwX5_readSum_0 ++ dktX5_readSum_1
theorem dksX5_readSum_0 : cX5_readSum.data.toList.drop 0 = dktX5_readSum_0 := by decide +kernel
theorem dksX5_readSum_1 : cX5_readSum.data.toList.drop 23 = dktX5_readSum_1 := dk_seg dksX5_readSum_0 23 rfl rfl
theorem dX5_readSum_0 : decode cX5_readSum 0 = .ok (.aload_n 0, 1) := dk_42 (dk_at dksX5_readSum_0 0 rfl rfl)
theorem dX5_readSum_1 : decode cX5_readSum 1 = .ok (.iload_n 1, 1) := dk_27 (dk_at dksX5_readSum_0 1 rfl rfl)
theorem dX5_readSum_2 : decode cX5_readSum 2 = .ok (.invokevirtual 253, 3) := dk_182 0 253 (dk_at dksX5_readSum_0 2 rfl rfl)
theorem dX5_readSum_5 : decode cX5_readSum 5 = .ok (.aload_n 0, 1) := dk_42 (dk_at dksX5_readSum_0 5 rfl rfl)
theorem dX5_readSum_6 : decode cX5_readSum 6 = .ok (.bipush 43, 2) := dk_16 43 (dk_at dksX5_readSum_0 6 rfl rfl)
theorem dX5_readSum_8 : decode cX5_readSum 8 = .ok (.invokestatic 249, 3) := dk_184 0 249 (dk_at dksX5_readSum_0 8 rfl rfl)
theorem dX5_readSum_11 : decode cX5_readSum 11 = .ok (.invokevirtual 210, 3) := dk_182 0 210 (dk_at dksX5_readSum_0 11 rfl rfl)
theorem dX5_readSum_14 : decode cX5_readSum 14 = .ok (.ifCond .ne 15, 3) := dk_154 0 15 (dk_at dksX5_readSum_0 14 rfl rfl)
theorem dX5_readSum_17 : decode cX5_readSum 17 = .ok (.aload_n 0, 1) := dk_42 (dk_at dksX5_readSum_0 17 rfl rfl)
theorem dX5_readSum_18 : decode cX5_readSum 18 = .ok (.bipush 45, 2) := dk_16 45 (dk_at dksX5_readSum_0 18 rfl rfl)
theorem dX5_readSum_20 : decode cX5_readSum 20 = .ok (.invokestatic 249, 3) := dk_184 0 249 (dk_at dksX5_readSum_0 20 rfl rfl)
theorem dX5_readSum_23 : decode cX5_readSum 23 = .ok (.invokevirtual 210, 3) := dk_182 0 210 (dk_at dksX5_readSum_1 0 rfl rfl)
theorem dX5_readSum_26 : decode cX5_readSum 26 = .ok (.ifCond .eq 11, 3) := dk_153 0 11 (dk_at dksX5_readSum_1 3 rfl rfl)
theorem dX5_readSum_29 : decode cX5_readSum 29 = .ok (.aload_n 0, 1) := dk_42 (dk_at dksX5_readSum_1 6 rfl rfl)
theorem dX5_readSum_30 : decode cX5_readSum 30 = .ok (.iload_n 1, 1) := dk_27 (dk_at dksX5_readSum_1 7 rfl rfl)
theorem dX5_readSum_31 : decode cX5_readSum 31 = .ok (.invokevirtual 253, 3) := dk_182 0 253 (dk_at dksX5_readSum_1 8 rfl rfl)
theorem dX5_readSum_34 : decode cX5_readSum 34 = .ok (.goto (-29), 3) := dk_167 255 227 (dk_at dksX5_readSum_1 11 rfl rfl)
theorem dX5_readSum_37 : decode cX5_readSum 37 = .ok (.return_, 1) := dk_177 (dk_at dksX5_readSum_1 14 rfl rfl)
noncomputable def f_X5_readPart_37 (E : ax_E) (g0 : Option Nat → Int → ax_H → Option (ax_H)) (g1 : Option Nat → Int → ax_H → Option (ax_H)) (g2 : Option Nat → Int → ax_H → Option (ax_H)) (x0 : Option Nat) (x1 : Int) (h : ax_H) : Option (ax_H) :=
  (ax_ce E h x0 5).bind fun _ => (f_X5_fine E x0 h).bind fun q1 =>
  if i2 q1.1 = 0 then
    some q1.2
  else
    (ax_gI E q1.2 x0 5 17).bind fun v2 =>
    (ax_pI q1.2 x0 5 17 (v2 + 1)).bind fun h3 =>
    (ax_ce E h3 x0 5).bind fun _ => (g2 x0 (x1 + 1) h3).bind fun h4 =>
    (f_X5_sign E 93 h4).bind fun q5 =>
    (ax_ce E q5.2 x0 5).bind fun _ => (f_X5_must E x0 q5.1 q5.2).bind fun h6 =>
    some h6
noncomputable def f_X5_readPart_133 (E : ax_E) (g0 : Option Nat → Int → ax_H → Option (ax_H)) (g1 : Option Nat → Int → ax_H → Option (ax_H)) (g2 : Option Nat → Int → ax_H → Option (ax_H)) (x0 : Option Nat) (x2 : Int) (h : ax_H) : Option (ax_H) :=
  (ax_gI E h x0 5 8).bind fun v1 =>
  if i2 v1 = 0 then
    some h
  else
    if i2 x2 = i2 23 then
      (ax_ce E h x0 5).bind fun _ => (f_X5_mustNumber E x0 0 6 h).bind fun h2 =>
      some h2
    else
      some h
noncomputable def f_X5_readPart_126 (E : ax_E) (g0 : Option Nat → Int → ax_H → Option (ax_H)) (g1 : Option Nat → Int → ax_H → Option (ax_H)) (g2 : Option Nat → Int → ax_H → Option (ax_H)) (x0 : Option Nat) (x2 : Int) (h : ax_H) : Option (ax_H) :=
  (ax_ce E h x0 5).bind fun _ => (f_X5_mustNumber E x0 0 6 h).bind fun h1 =>
  f_X5_readPart_133 E g0 g1 g2 x0 x2 h1
noncomputable def f_X5_readPart_103 (E : ax_E) (g0 : Option Nat → Int → ax_H → Option (ax_H)) (g1 : Option Nat → Int → ax_H → Option (ax_H)) (g2 : Option Nat → Int → ax_H → Option (ax_H)) (x0 : Option Nat) (x2 : Int) (h : ax_H) : Option (ax_H) :=
  (ax_ce E h x0 5).bind fun _ => (f_X5_leaf E x0 h).bind fun h1 =>
  (ax_gI E h1 x0 5 8).bind fun v2 =>
  if i2 v2 = 0 then
    f_X5_readPart_133 E g0 g1 g2 x0 x2 h1
  else
    if i2 x2 = i2 22 then
      f_X5_readPart_126 E g0 g1 g2 x0 x2 h1
    else
      if i2 x2 = i2 23 then
        f_X5_readPart_126 E g0 g1 g2 x0 x2 h1
      else
        f_X5_readPart_133 E g0 g1 g2 x0 x2 h1
noncomputable def f_X5_readPart_95 (E : ax_E) (g0 : Option Nat → Int → ax_H → Option (ax_H)) (g1 : Option Nat → Int → ax_H → Option (ax_H)) (g2 : Option Nat → Int → ax_H → Option (ax_H)) (x0 : Option Nat) (x2 : Int) (h : ax_H) : Option (ax_H) :=
  (ax_ce E h x0 5).bind fun _ => (f_X5_isValue E x0 x2 h).bind fun q1 =>
  if i2 q1.1 = 0 then
    (ax_ce E q1.2 x0 5).bind fun _ => (f_X5_faults E x0 q1.2).bind fun h2 =>
    some h2
  else
    f_X5_readPart_103 E g0 g1 g2 x0 x2 q1.2
noncomputable def f_X5_readPart (E : ax_E) (g0 : Option Nat → Int → ax_H → Option (ax_H)) (g1 : Option Nat → Int → ax_H → Option (ax_H)) (g2 : Option Nat → Int → ax_H → Option (ax_H)) (x0 : Option Nat) (x1 : Int) (h : ax_H) : Option (ax_H) :=
  (ax_ce E h x0 5).bind fun _ => (f_X5_fine E x0 h).bind fun q1 =>
  if i2 q1.1 = 0 then
    some q1.2
  else
    (ax_gR E q1.2 x0 5 13).bind fun v2 =>
    (ax_gI E q1.2 x0 5 17).bind fun v3 =>
    (ax_ld E q1.2 v2 100 v3).bind fun v4 =>
    (f_X5_sign E 91 q1.2).bind fun q5 =>
    if i2 v4 = i2 q5.1 then
      if i2 x1 = i2 8 then
        (ax_ce E q5.2 x0 5).bind fun _ => (f_X5_faults E x0 q5.2).bind fun h6 =>
        f_X5_readPart_37 E g0 g1 g2 x0 x1 h6
      else
        f_X5_readPart_37 E g0 g1 g2 x0 x1 q5.2
    else
      if i2 v4 = i2 50 then
        (ax_gR E q5.2 x0 5 14).bind fun v7 =>
        (ax_gI E q5.2 x0 5 17).bind fun v8 =>
        (ax_ld E q5.2 v7 100 v8).bind fun v9 =>
        if i2 1000 < i2 v9 then
          f_X5_readPart_95 E g0 g1 g2 x0 v4 q5.2
        else
          f_X5_readPart_103 E g0 g1 g2 x0 v4 q5.2
      else
        f_X5_readPart_95 E g0 g1 g2 x0 v4 q5.2
noncomputable def f_X5_readTerm_41 (E : ax_E) (g0 : Option Nat → Int → ax_H → Option (ax_H)) (g1 : Option Nat → Int → ax_H → Option (ax_H)) (g2 : Option Nat → Int → ax_H → Option (ax_H)) (x0 : Option Nat) (x1 : Int) (h : ax_H) : Option ((ax_H) ⊕ (ax_H)) :=
  (ax_ce E h x0 5).bind fun _ => (g0 x0 x1 h).bind fun h1 =>
  some (.inl h1)
noncomputable def lb_X5_readTerm_5 (E : ax_E) (g0 : Option Nat → Int → ax_H → Option (ax_H)) (g1 : Option Nat → Int → ax_H → Option (ax_H)) (g2 : Option Nat → Int → ax_H → Option (ax_H)) (x0 : Option Nat) (x1 : Int) (h : ax_H) : Option ((ax_H) ⊕ (ax_H)) :=
  (f_X5_sign E 42 h).bind fun q1 =>
  (ax_ce E q1.2 x0 5).bind fun _ => (f_X5_takes0 E x0 q1.1 q1.2).bind fun q2 =>
  if i2 q2.1 = 0 then
    (f_X5_sign E 47 q2.2).bind fun q3 =>
    (ax_ce E q3.2 x0 5).bind fun _ => (f_X5_takes0 E x0 q3.1 q3.2).bind fun q4 =>
    if i2 q4.1 = 0 then
      (f_X5_sign E 37 q4.2).bind fun q5 =>
      (ax_ce E q5.2 x0 5).bind fun _ => (f_X5_takes0 E x0 q5.1 q5.2).bind fun q6 =>
      if i2 q6.1 = 0 then
        (some q6.2).map Sum.inr
      else
        f_X5_readTerm_41 E g0 g1 g2 x0 x1 q6.2
    else
      f_X5_readTerm_41 E g0 g1 g2 x0 x1 q4.2
  else
    f_X5_readTerm_41 E g0 g1 g2 x0 x1 q2.2
noncomputable def f_X5_readTerm_5 (E : ax_E) (g0 : Option Nat → Int → ax_H → Option (ax_H)) (g1 : Option Nat → Int → ax_H → Option (ax_H)) (g2 : Option Nat → Int → ax_H → Option (ax_H)) (x0 : Option Nat) (x1 : Int) (h : ax_H) : Option (ax_H) :=
  ax_iter (fun s : ax_H => lb_X5_readTerm_5 E g0 g1 g2 x0 x1 s) h
noncomputable def f_X5_readTerm (E : ax_E) (g0 : Option Nat → Int → ax_H → Option (ax_H)) (g1 : Option Nat → Int → ax_H → Option (ax_H)) (g2 : Option Nat → Int → ax_H → Option (ax_H)) (x0 : Option Nat) (x1 : Int) (h : ax_H) : Option (ax_H) :=
  (ax_ce E h x0 5).bind fun _ => (g0 x0 x1 h).bind fun h1 =>
  f_X5_readTerm_5 E g0 g1 g2 x0 x1 h1
noncomputable def f_X5_readSum_29 (E : ax_E) (g0 : Option Nat → Int → ax_H → Option (ax_H)) (g1 : Option Nat → Int → ax_H → Option (ax_H)) (g2 : Option Nat → Int → ax_H → Option (ax_H)) (x0 : Option Nat) (x1 : Int) (h : ax_H) : Option ((ax_H) ⊕ (ax_H)) :=
  (ax_ce E h x0 5).bind fun _ => (g1 x0 x1 h).bind fun h1 =>
  some (.inl h1)
noncomputable def lb_X5_readSum_5 (E : ax_E) (g0 : Option Nat → Int → ax_H → Option (ax_H)) (g1 : Option Nat → Int → ax_H → Option (ax_H)) (g2 : Option Nat → Int → ax_H → Option (ax_H)) (x0 : Option Nat) (x1 : Int) (h : ax_H) : Option ((ax_H) ⊕ (ax_H)) :=
  (f_X5_sign E 43 h).bind fun q1 =>
  (ax_ce E q1.2 x0 5).bind fun _ => (f_X5_takes0 E x0 q1.1 q1.2).bind fun q2 =>
  if i2 q2.1 = 0 then
    (f_X5_sign E 45 q2.2).bind fun q3 =>
    (ax_ce E q3.2 x0 5).bind fun _ => (f_X5_takes0 E x0 q3.1 q3.2).bind fun q4 =>
    if i2 q4.1 = 0 then
      (some q4.2).map Sum.inr
    else
      f_X5_readSum_29 E g0 g1 g2 x0 x1 q4.2
  else
    f_X5_readSum_29 E g0 g1 g2 x0 x1 q2.2
noncomputable def f_X5_readSum_5 (E : ax_E) (g0 : Option Nat → Int → ax_H → Option (ax_H)) (g1 : Option Nat → Int → ax_H → Option (ax_H)) (g2 : Option Nat → Int → ax_H → Option (ax_H)) (x0 : Option Nat) (x1 : Int) (h : ax_H) : Option (ax_H) :=
  ax_iter (fun s : ax_H => lb_X5_readSum_5 E g0 g1 g2 x0 x1 s) h
noncomputable def f_X5_readSum (E : ax_E) (g0 : Option Nat → Int → ax_H → Option (ax_H)) (g1 : Option Nat → Int → ax_H → Option (ax_H)) (g2 : Option Nat → Int → ax_H → Option (ax_H)) (x0 : Option Nat) (x1 : Int) (h : ax_H) : Option (ax_H) :=
  (ax_ce E h x0 5).bind fun _ => (g1 x0 x1 h).bind fun h1 =>
  f_X5_readSum_5 E g0 g1 g2 x0 x1 h1
noncomputable def rg_X5_readPart (E : ax_E) : Nat → (Option Nat → Int → ax_H → Option (ax_H)) × (Option Nat → Int → ax_H → Option (ax_H)) × (Option Nat → Int → ax_H → Option (ax_H))
  | 0 => ((fun x0 x1 h => none), (fun x0 x1 h => none), (fun x0 x1 h => none))
  | n + 1 => ((fun x0 x1 h => f_X5_readPart E (rg_X5_readPart E n).1 (rg_X5_readPart E n).2.1 (rg_X5_readPart E n).2.2 x0 x1 h), (fun x0 x1 h => f_X5_readTerm E (rg_X5_readPart E n).1 (rg_X5_readPart E n).2.1 (rg_X5_readPart E n).2.2 x0 x1 h), (fun x0 x1 h => f_X5_readSum E (rg_X5_readPart E n).1 (rg_X5_readPart E n).2.1 (rg_X5_readPart E n).2.2 x0 x1 h))
noncomputable def fn_X5_readPart (E : ax_E) (n : Nat) (x0 : Option Nat) (x1 : Int) (h : ax_H) : Option (ax_H) := (rg_X5_readPart E n).1 x0 x1 h
noncomputable def fn_X5_readTerm (E : ax_E) (n : Nat) (x0 : Option Nat) (x1 : Int) (h : ax_H) : Option (ax_H) := (rg_X5_readPart E n).2.1 x0 x1 h
noncomputable def fn_X5_readSum (E : ax_E) (n : Nat) (x0 : Option Nat) (x1 : Int) (h : ax_H) : Option (ax_H) := (rg_X5_readPart E n).2.2 x0 x1 h
set_option maxHeartbeats 4000000 in
theorem w_X5_readPart_37 {l : Launch} {G : ax_G} {X : ax_X} {Q : State → Prop} {h0 h : ax_H} {ls : Array Slot} {g0 : Option Nat → Int → ax_H → Option (ax_H)} {g1 : Option Nat → Int → ax_H → Option (ax_H)} {g2 : Option Nat → Int → ax_H → Option (ax_H)} {fr lo fr1 lo1 : Nat} (hF : fr1 + 1 ≤ fr ∧ 4 ≤ fr ∧ lo1 + 22 ≤ lo ∧ 103 ≤ lo) (hg0 : ∀ (x0 : Option Nat) (x1 : Int) (h : ax_H) (w : ax_H), g0 x0 x1 h = some w → ax_Met l G yX5_readPart cX5_readPart 3 none fr1 lo1 [va_rf x0, .int (Int32.ofInt x1)] h w none) (hg1 : ∀ (x0 : Option Nat) (x1 : Int) (h : ax_H) (w : ax_H), g1 x0 x1 h = some w → ax_Met l G yX5_readTerm cX5_readTerm 2 none fr1 lo1 [va_rf x0, .int (Int32.ofInt x1)] h w none) (hg2 : ∀ (x0 : Option Nat) (x1 : Int) (h : ax_H) (w : ax_H), g2 x0 x1 h = some w → ax_Met l G yX5_readSum cX5_readSum 2 none fr1 lo1 [va_rf x0, .int (Int32.ofInt x1)] h w none) (hSF : ax_SF G) (B : ax_BL l G X cX5_readPart 3 RX5 fr lo) (Z : ax_Z X h0 none) (hn : X.2.2.2.2.2.2.2.2.1.name = yX5_readPart.name) (x0 : Option Nat) (x1 : Int) {w : ax_H} (hl : ax_hl ls 3 [(0, .inr (.inr x0)), (1, .inl x1)]) (e : f_X5_readPart_37 G.2.2 g0 g1 g2 x0 x1 h = some w) (hp : (fun w : ax_H => Q = ax_Q G X h0 w none) w) : ax_W G X Q h 37 ls [] := by
  unfold f_X5_readPart_37 at e
  refine ax_aload_n B dX5_readPart_37 rfl hl 0 rfl ?_
  refine ax_ivI (y := yX5_fine) (n := 0) (As := []) B kd5 (lw_V q2359 q2361 qs73 q133 q2362) (by decide +kernel) (by omega) (fun w1 e1 => mt_X5_fine l G hSF x0 _ w1 e1) rfl hl.size (by decide) dX5_readPart_38 e (fun q1 e => ?_)
  refine ax_if_ne (tgt := 45) B dX5_readPart_41 (by decide) e (fun e => ?_) (fun e => ?_)
  · have e8 := e
    have hp : Q = _ := hp
    subst hp
    exact ax_return B Z dX5_readPart_44 e8
  · refine ax_aload_n B dX5_readPart_45 rfl hl 0 rfl ?_
    refine ax_dup B dX5_readPart_46 (va_rf_cat _) ?_
    refine ax_getI B ff_X5_207_5 (fun _ _ => rfl) dX5_readPart_47 e (fun v2 e => ?_)
    refine ax_iconst B dX5_readPart_50 ?_
    refine ax_iadd' B dX5_readPart_51 ?_
    refine ax_putI B ff_X5_207_5 (Or.inl rfl) rfl dX5_readPart_52 e (fun h3 e => ?_)
    refine ax_aload_n B dX5_readPart_55 rfl hl 0 rfl ?_
    refine ax_iload_n B dX5_readPart_56 rfl hl 1 rfl ?_
    refine ax_iconst B dX5_readPart_57 ?_
    refine ax_iadd' B dX5_readPart_58 ?_
    refine ax_ivV (y := yX5_readSum) (n := 1) (As := [.int (Int32.ofInt (x1 + 1))]) B kd5 (lw_V q2363 q2365 qs74 q133 q2366) (by decide +kernel) (by omega) (fun w1 e1 => hg2 x0 (x1 + 1) _ w1 e1) rfl hl.size (by decide) dX5_readPart_59 e (fun h4 e => ?_)
    refine ax_aload_n B dX5_readPart_62 rfl hl 0 rfl ?_
    refine ax_bipush B dX5_readPart_63 (by decide) ?_
    refine ax_isI (y := yX5_sign) (n := 1) (As := [.int (Int32.ofInt 93)]) B (lw_S q2266 q2267 q133 q2268) (by decide +kernel) (by omega) (fun w1 e1 => mt_X5_sign l G hSF 93 _ w1 e1) rfl hl.size (by simp only [List.map_cons, List.map_nil, List.sum_cons, List.sum_nil, va_rf_cat, ax_catI, ax_catL]; decide) dX5_readPart_65 e (fun q5 e => ?_)
    refine ax_ivV (y := yX5_must) (n := 1) (As := [.int (Int32.ofInt q5.1)]) B kd5 (lw_V q2379 q2381 qs78 q133 q2382) (by decide +kernel) (by omega) (fun w1 e1 => mt_X5_must l G hSF x0 q5.1 _ w1 e1) rfl hl.size (by decide) dX5_readPart_68 e (fun h6 e => ?_)
    refine ax_goto (tgt := 160) B dX5_readPart_71 (by decide) ?_
    have e8 := e
    have hp : Q = _ := hp
    subst hp
    exact ax_return B Z dX5_readPart_160 e8
set_option maxHeartbeats 4000000 in
theorem w_X5_readPart_133 {l : Launch} {G : ax_G} {X : ax_X} {Q : State → Prop} {h0 h : ax_H} {ls : Array Slot} {g0 : Option Nat → Int → ax_H → Option (ax_H)} {g1 : Option Nat → Int → ax_H → Option (ax_H)} {g2 : Option Nat → Int → ax_H → Option (ax_H)} {fr lo fr1 lo1 : Nat} (hF : fr1 + 1 ≤ fr ∧ 4 ≤ fr ∧ lo1 + 22 ≤ lo ∧ 103 ≤ lo) (hg0 : ∀ (x0 : Option Nat) (x1 : Int) (h : ax_H) (w : ax_H), g0 x0 x1 h = some w → ax_Met l G yX5_readPart cX5_readPart 3 none fr1 lo1 [va_rf x0, .int (Int32.ofInt x1)] h w none) (hg1 : ∀ (x0 : Option Nat) (x1 : Int) (h : ax_H) (w : ax_H), g1 x0 x1 h = some w → ax_Met l G yX5_readTerm cX5_readTerm 2 none fr1 lo1 [va_rf x0, .int (Int32.ofInt x1)] h w none) (hg2 : ∀ (x0 : Option Nat) (x1 : Int) (h : ax_H) (w : ax_H), g2 x0 x1 h = some w → ax_Met l G yX5_readSum cX5_readSum 2 none fr1 lo1 [va_rf x0, .int (Int32.ofInt x1)] h w none) (hSF : ax_SF G) (B : ax_BL l G X cX5_readPart 3 RX5 fr lo) (Z : ax_Z X h0 none) (hn : X.2.2.2.2.2.2.2.2.1.name = yX5_readPart.name) (x0 : Option Nat) (x2 : Int) {w : ax_H} (hl : ax_hl ls 3 [(0, .inr (.inr x0)), (2, .inl x2)]) (e : f_X5_readPart_133 G.2.2 g0 g1 g2 x0 x2 h = some w) (hp : (fun w : ax_H => Q = ax_Q G X h0 w none) w) : ax_W G X Q h 133 ls [] := by
  unfold f_X5_readPart_133 at e
  refine ax_aload_n B dX5_readPart_133 rfl hl 0 rfl ?_
  refine ax_getI B ff_X5_219_5 (fun _ _ => rfl) dX5_readPart_134 e (fun v1 e => ?_)
  refine ax_if_eq (tgt := 160) B dX5_readPart_137 (by decide) e (fun e => ?_) (fun e => ?_)
  · have e8 := e
    have hp : Q = _ := hp
    subst hp
    exact ax_return B Z dX5_readPart_160 e8
  · refine ax_iload_n B dX5_readPart_140 rfl hl 1 rfl ?_
    refine ax_bipush B dX5_readPart_141 (by decide) ?_
    refine ax_icmp_ne (tgt := 160) B dX5_readPart_143 (by decide) e (fun e => ?_) (fun e => ?_)
    · refine ax_aload_n B dX5_readPart_146 rfl hl 0 rfl ?_
      refine ax_iconst B dX5_readPart_147 ?_
      refine ax_bipush B dX5_readPart_148 (by decide) ?_
      refine ax_ivV (y := yX5_mustNumber) (n := 2) (As := [.int (Int32.ofInt 0), .int (Int32.ofInt 6)]) B kd5 (lw_V q2391 q2393 qs81 q133 q2394) (by decide +kernel) (by omega) (fun w1 e1 => mt_X5_mustNumber l G hSF x0 0 6 _ w1 e1) rfl hl.size (by decide) dX5_readPart_150 e (fun h2 e => ?_)
      refine ax_goto (tgt := 160) B dX5_readPart_153 (by decide) ?_
      have e8 := e
      have hp : Q = _ := hp
      subst hp
      exact ax_return B Z dX5_readPart_160 e8
    · have e8 := e
      have hp : Q = _ := hp
      subst hp
      exact ax_return B Z dX5_readPart_160 e8
set_option maxHeartbeats 4000000 in
theorem w_X5_readPart_126 {l : Launch} {G : ax_G} {X : ax_X} {Q : State → Prop} {h0 h : ax_H} {ls : Array Slot} {g0 : Option Nat → Int → ax_H → Option (ax_H)} {g1 : Option Nat → Int → ax_H → Option (ax_H)} {g2 : Option Nat → Int → ax_H → Option (ax_H)} {fr lo fr1 lo1 : Nat} (hF : fr1 + 1 ≤ fr ∧ 4 ≤ fr ∧ lo1 + 22 ≤ lo ∧ 103 ≤ lo) (hg0 : ∀ (x0 : Option Nat) (x1 : Int) (h : ax_H) (w : ax_H), g0 x0 x1 h = some w → ax_Met l G yX5_readPart cX5_readPart 3 none fr1 lo1 [va_rf x0, .int (Int32.ofInt x1)] h w none) (hg1 : ∀ (x0 : Option Nat) (x1 : Int) (h : ax_H) (w : ax_H), g1 x0 x1 h = some w → ax_Met l G yX5_readTerm cX5_readTerm 2 none fr1 lo1 [va_rf x0, .int (Int32.ofInt x1)] h w none) (hg2 : ∀ (x0 : Option Nat) (x1 : Int) (h : ax_H) (w : ax_H), g2 x0 x1 h = some w → ax_Met l G yX5_readSum cX5_readSum 2 none fr1 lo1 [va_rf x0, .int (Int32.ofInt x1)] h w none) (hSF : ax_SF G) (B : ax_BL l G X cX5_readPart 3 RX5 fr lo) (Z : ax_Z X h0 none) (hn : X.2.2.2.2.2.2.2.2.1.name = yX5_readPart.name) (x0 : Option Nat) (x2 : Int) {w : ax_H} (hl : ax_hl ls 3 [(0, .inr (.inr x0)), (2, .inl x2)]) (e : f_X5_readPart_126 G.2.2 g0 g1 g2 x0 x2 h = some w) (hp : (fun w : ax_H => Q = ax_Q G X h0 w none) w) : ax_W G X Q h 126 ls [] := by
  unfold f_X5_readPart_126 at e
  refine ax_aload_n B dX5_readPart_126 rfl hl 0 rfl ?_
  refine ax_iconst B dX5_readPart_127 ?_
  refine ax_bipush B dX5_readPart_128 (by decide) ?_
  refine ax_ivV (y := yX5_mustNumber) (n := 2) (As := [.int (Int32.ofInt 0), .int (Int32.ofInt 6)]) B kd5 (lw_V q2391 q2393 qs81 q133 q2394) (by decide +kernel) (by omega) (fun w1 e1 => mt_X5_mustNumber l G hSF x0 0 6 _ w1 e1) rfl hl.size (by decide) dX5_readPart_130 e (fun h1 e => ?_)
  exact w_X5_readPart_133 hF hg0 hg1 hg2 hSF B Z hn x0 x2 (hl.sub [0, 1] rfl) e hp
set_option maxHeartbeats 4000000 in
theorem w_X5_readPart_103 {l : Launch} {G : ax_G} {X : ax_X} {Q : State → Prop} {h0 h : ax_H} {ls : Array Slot} {g0 : Option Nat → Int → ax_H → Option (ax_H)} {g1 : Option Nat → Int → ax_H → Option (ax_H)} {g2 : Option Nat → Int → ax_H → Option (ax_H)} {fr lo fr1 lo1 : Nat} (hF : fr1 + 1 ≤ fr ∧ 4 ≤ fr ∧ lo1 + 22 ≤ lo ∧ 103 ≤ lo) (hg0 : ∀ (x0 : Option Nat) (x1 : Int) (h : ax_H) (w : ax_H), g0 x0 x1 h = some w → ax_Met l G yX5_readPart cX5_readPart 3 none fr1 lo1 [va_rf x0, .int (Int32.ofInt x1)] h w none) (hg1 : ∀ (x0 : Option Nat) (x1 : Int) (h : ax_H) (w : ax_H), g1 x0 x1 h = some w → ax_Met l G yX5_readTerm cX5_readTerm 2 none fr1 lo1 [va_rf x0, .int (Int32.ofInt x1)] h w none) (hg2 : ∀ (x0 : Option Nat) (x1 : Int) (h : ax_H) (w : ax_H), g2 x0 x1 h = some w → ax_Met l G yX5_readSum cX5_readSum 2 none fr1 lo1 [va_rf x0, .int (Int32.ofInt x1)] h w none) (hSF : ax_SF G) (B : ax_BL l G X cX5_readPart 3 RX5 fr lo) (Z : ax_Z X h0 none) (hn : X.2.2.2.2.2.2.2.2.1.name = yX5_readPart.name) (x0 : Option Nat) (x2 : Int) {w : ax_H} (hl : ax_hl ls 3 [(0, .inr (.inr x0)), (2, .inl x2)]) (e : f_X5_readPart_103 G.2.2 g0 g1 g2 x0 x2 h = some w) (hp : (fun w : ax_H => Q = ax_Q G X h0 w none) w) : ax_W G X Q h 103 ls [] := by
  unfold f_X5_readPart_103 at e
  refine ax_aload_n B dX5_readPart_103 rfl hl 0 rfl ?_
  refine ax_ivV (y := yX5_leaf) (n := 0) (As := []) B kd5 (lw_V q2387 q2389 qs80 q133 q2390) (by decide +kernel) (by omega) (fun w1 e1 => mt_X5_leaf l G hSF x0 _ w1 e1) rfl hl.size (by decide) dX5_readPart_104 e (fun h1 e => ?_)
  refine ax_aload_n B dX5_readPart_107 rfl hl 0 rfl ?_
  refine ax_getI B ff_X5_219_5 (fun _ _ => rfl) dX5_readPart_108 e (fun v2 e => ?_)
  refine ax_if_eq (tgt := 133) B dX5_readPart_111 (by decide) e (fun e => ?_) (fun e => ?_)
  · exact w_X5_readPart_133 hF hg0 hg1 hg2 hSF B Z hn x0 x2 (hl.sub [0, 1] rfl) e hp
  · refine ax_iload_n B dX5_readPart_114 rfl hl 1 rfl ?_
    refine ax_bipush B dX5_readPart_115 (by decide) ?_
    refine ax_icmp_eq (tgt := 126) B dX5_readPart_117 (by decide) e (fun e => ?_) (fun e => ?_)
    · exact w_X5_readPart_126 hF hg0 hg1 hg2 hSF B Z hn x0 x2 (hl.sub [0, 1] rfl) e hp
    · refine ax_iload_n B dX5_readPart_120 rfl hl 1 rfl ?_
      refine ax_bipush B dX5_readPart_121 (by decide) ?_
      refine ax_icmp_ne (tgt := 133) B dX5_readPart_123 (by decide) e (fun e => ?_) (fun e => ?_)
      · exact w_X5_readPart_126 hF hg0 hg1 hg2 hSF B Z hn x0 x2 (hl.sub [0, 1] rfl) e hp
      · exact w_X5_readPart_133 hF hg0 hg1 hg2 hSF B Z hn x0 x2 (hl.sub [0, 1] rfl) e hp
set_option maxHeartbeats 4000000 in
theorem w_X5_readPart_95 {l : Launch} {G : ax_G} {X : ax_X} {Q : State → Prop} {h0 h : ax_H} {ls : Array Slot} {g0 : Option Nat → Int → ax_H → Option (ax_H)} {g1 : Option Nat → Int → ax_H → Option (ax_H)} {g2 : Option Nat → Int → ax_H → Option (ax_H)} {fr lo fr1 lo1 : Nat} (hF : fr1 + 1 ≤ fr ∧ 4 ≤ fr ∧ lo1 + 22 ≤ lo ∧ 103 ≤ lo) (hg0 : ∀ (x0 : Option Nat) (x1 : Int) (h : ax_H) (w : ax_H), g0 x0 x1 h = some w → ax_Met l G yX5_readPart cX5_readPart 3 none fr1 lo1 [va_rf x0, .int (Int32.ofInt x1)] h w none) (hg1 : ∀ (x0 : Option Nat) (x1 : Int) (h : ax_H) (w : ax_H), g1 x0 x1 h = some w → ax_Met l G yX5_readTerm cX5_readTerm 2 none fr1 lo1 [va_rf x0, .int (Int32.ofInt x1)] h w none) (hg2 : ∀ (x0 : Option Nat) (x1 : Int) (h : ax_H) (w : ax_H), g2 x0 x1 h = some w → ax_Met l G yX5_readSum cX5_readSum 2 none fr1 lo1 [va_rf x0, .int (Int32.ofInt x1)] h w none) (hSF : ax_SF G) (B : ax_BL l G X cX5_readPart 3 RX5 fr lo) (Z : ax_Z X h0 none) (hn : X.2.2.2.2.2.2.2.2.1.name = yX5_readPart.name) (x0 : Option Nat) (x2 : Int) {w : ax_H} (hl : ax_hl ls 3 [(0, .inr (.inr x0)), (2, .inl x2)]) (e : f_X5_readPart_95 G.2.2 g0 g1 g2 x0 x2 h = some w) (hp : (fun w : ax_H => Q = ax_Q G X h0 w none) w) : ax_W G X Q h 95 ls [] := by
  unfold f_X5_readPart_95 at e
  refine ax_aload_n B dX5_readPart_95 rfl hl 0 rfl ?_
  refine ax_iload_n B dX5_readPart_96 rfl hl 1 rfl ?_
  refine ax_ivI (y := yX5_isValue) (n := 1) (As := [.int (Int32.ofInt x2)]) B kd5 (lw_V q2383 q2385 qs79 q133 q2386) (by decide +kernel) (by omega) (fun w1 e1 => mt_X5_isValue l G hSF x0 x2 _ w1 e1) rfl hl.size (by decide) dX5_readPart_97 e (fun q1 e => ?_)
  refine ax_if_eq (tgt := 156) B dX5_readPart_100 (by decide) e (fun e => ?_) (fun e => ?_)
  · refine ax_aload_n B dX5_readPart_156 rfl hl 0 rfl ?_
    refine ax_ivV (y := yX5_faults) (n := 0) (As := []) B kd5 (lw_V q2375 q2377 qs77 q133 q2378) (by decide +kernel) (by omega) (fun w1 e1 => mt_X5_faults l G hSF x0 _ w1 e1) rfl hl.size (by decide) dX5_readPart_157 e (fun h2 e => ?_)
    have e8 := e
    have hp : Q = _ := hp
    subst hp
    exact ax_return B Z dX5_readPart_160 e8
  · exact w_X5_readPart_103 hF hg0 hg1 hg2 hSF B Z hn x0 x2 (hl.sub [0, 1] rfl) e hp
set_option maxHeartbeats 4000000 in
theorem we_X5_readPart {l : Launch} {G : ax_G} {X : ax_X} {Q : State → Prop} {h0 h : ax_H} {ls : Array Slot} {g0 : Option Nat → Int → ax_H → Option (ax_H)} {g1 : Option Nat → Int → ax_H → Option (ax_H)} {g2 : Option Nat → Int → ax_H → Option (ax_H)} {fr lo fr1 lo1 : Nat} (hF : fr1 + 1 ≤ fr ∧ 4 ≤ fr ∧ lo1 + 22 ≤ lo ∧ 103 ≤ lo) (hg0 : ∀ (x0 : Option Nat) (x1 : Int) (h : ax_H) (w : ax_H), g0 x0 x1 h = some w → ax_Met l G yX5_readPart cX5_readPart 3 none fr1 lo1 [va_rf x0, .int (Int32.ofInt x1)] h w none) (hg1 : ∀ (x0 : Option Nat) (x1 : Int) (h : ax_H) (w : ax_H), g1 x0 x1 h = some w → ax_Met l G yX5_readTerm cX5_readTerm 2 none fr1 lo1 [va_rf x0, .int (Int32.ofInt x1)] h w none) (hg2 : ∀ (x0 : Option Nat) (x1 : Int) (h : ax_H) (w : ax_H), g2 x0 x1 h = some w → ax_Met l G yX5_readSum cX5_readSum 2 none fr1 lo1 [va_rf x0, .int (Int32.ofInt x1)] h w none) (hSF : ax_SF G) (B : ax_BL l G X cX5_readPart 3 RX5 fr lo) (Z : ax_Z X h0 none) (hn : X.2.2.2.2.2.2.2.2.1.name = yX5_readPart.name) (x0 : Option Nat) (x1 : Int) {w : ax_H} (hl : ax_hl ls 3 [(0, .inr (.inr x0)), (1, .inl x1)]) (e : f_X5_readPart G.2.2 g0 g1 g2 x0 x1 h = some w) (hp : (fun w : ax_H => Q = ax_Q G X h0 w none) w) : ax_W G X Q h 0 ls [] := by
  unfold f_X5_readPart at e
  refine ax_aload_n B dX5_readPart_0 rfl hl 0 rfl ?_
  refine ax_ivI (y := yX5_fine) (n := 0) (As := []) B kd5 (lw_V q2359 q2361 qs73 q133 q2362) (by decide +kernel) (by omega) (fun w1 e1 => mt_X5_fine l G hSF x0 _ w1 e1) rfl hl.size (by decide) dX5_readPart_1 e (fun q1 e => ?_)
  refine ax_if_ne (tgt := 8) B dX5_readPart_4 (by decide) e (fun e => ?_) (fun e => ?_)
  · have e8 := e
    have hp : Q = _ := hp
    subst hp
    exact ax_return B Z dX5_readPart_7 e8
  · refine ax_aload_n B dX5_readPart_8 rfl hl 0 rfl ?_
    refine ax_getR B ff_X5_50_5 (fun _ _ => rfl) dX5_readPart_9 e (fun v2 e => ?_)
    refine ax_aload_n B dX5_readPart_12 rfl hl 0 rfl ?_
    refine ax_getI B ff_X5_207_5 (fun _ _ => rfl) dX5_readPart_13 e (fun v3 e => ?_)
    refine ax_iald B kd100 dX5_readPart_16 e (fun v4 e => ?_)
    refine ax_istore_n (L' := [(2, .inl v4), (0, .inr (.inr x0)), (1, .inl x1)]) B dX5_readPart_17 rfl hl (by decide) rfl (fun ls hl => ?_)
    refine ax_iload_n B dX5_readPart_18 rfl hl 0 rfl ?_
    refine ax_bipush B dX5_readPart_19 (by decide) ?_
    refine ax_isI (y := yX5_sign) (n := 1) (As := [.int (Int32.ofInt 91)]) B (lw_S q2266 q2267 q133 q2268) (by decide +kernel) (by omega) (fun w1 e1 => mt_X5_sign l G hSF 91 _ w1 e1) rfl hl.size (by simp only [List.map_cons, List.map_nil, List.sum_cons, List.sum_nil, va_rf_cat, ax_catI, ax_catL]; decide) dX5_readPart_21 e (fun q5 e => ?_)
    refine ax_icmp_ne (tgt := 74) B dX5_readPart_24 (by decide) e (fun e => ?_) (fun e => ?_)
    · refine ax_iload_n B dX5_readPart_27 rfl hl 2 rfl ?_
      refine ax_bipush B dX5_readPart_28 (by decide) ?_
      refine ax_icmp_ne (tgt := 37) B dX5_readPart_30 (by decide) e (fun e => ?_) (fun e => ?_)
      · refine ax_aload_n B dX5_readPart_33 rfl hl 1 rfl ?_
        refine ax_ivV (y := yX5_faults) (n := 0) (As := []) B kd5 (lw_V q2375 q2377 qs77 q133 q2378) (by decide +kernel) (by omega) (fun w1 e1 => mt_X5_faults l G hSF x0 _ w1 e1) rfl hl.size (by decide) dX5_readPart_34 e (fun h6 e => ?_)
        exact w_X5_readPart_37 hF hg0 hg1 hg2 hSF B Z hn x0 x1 (hl.sub [1, 2] rfl) e hp
      · exact w_X5_readPart_37 hF hg0 hg1 hg2 hSF B Z hn x0 x1 (hl.sub [1, 2] rfl) e hp
    · refine ax_iload_n B dX5_readPart_74 rfl hl 0 rfl ?_
      refine ax_bipush B dX5_readPart_75 (by decide) ?_
      refine ax_icmp_ne (tgt := 95) B dX5_readPart_77 (by decide) e (fun e => ?_) (fun e => ?_)
      · refine ax_aload_n B dX5_readPart_80 rfl hl 1 rfl ?_
        refine ax_getR B ff_X5_53_5 (fun _ _ => rfl) dX5_readPart_81 e (fun v7 e => ?_)
        refine ax_aload_n B dX5_readPart_84 rfl hl 1 rfl ?_
        refine ax_getI B ff_X5_207_5 (fun _ _ => rfl) dX5_readPart_85 e (fun v8 e => ?_)
        refine ax_iald B kd100 dX5_readPart_88 e (fun v9 e => ?_)
        refine ax_sipush B dX5_readPart_89 (by decide) ?_
        refine ax_icmp_le (tgt := 103) B dX5_readPart_92 (by decide) e (fun e => ?_) (fun e => ?_)
        · exact w_X5_readPart_95 hF hg0 hg1 hg2 hSF B Z hn x0 v4 (hl.sub [1, 0] rfl) e hp
        · exact w_X5_readPart_103 hF hg0 hg1 hg2 hSF B Z hn x0 v4 (hl.sub [1, 0] rfl) e hp
      · exact w_X5_readPart_95 hF hg0 hg1 hg2 hSF B Z hn x0 v4 (hl.sub [1, 0] rfl) e hp
theorem mt_X5_readPart (l : Launch) (G : ax_G) (hSF : ax_SF G) {g0 : Option Nat → Int → ax_H → Option (ax_H)} {g1 : Option Nat → Int → ax_H → Option (ax_H)} {g2 : Option Nat → Int → ax_H → Option (ax_H)} {fr lo fr1 lo1 : Nat} (hF : fr1 + 1 ≤ fr ∧ 4 ≤ fr ∧ lo1 + 22 ≤ lo ∧ 103 ≤ lo) (hg0 : ∀ (x0 : Option Nat) (x1 : Int) (h : ax_H) (w : ax_H), g0 x0 x1 h = some w → ax_Met l G yX5_readPart cX5_readPart 3 none fr1 lo1 [va_rf x0, .int (Int32.ofInt x1)] h w none) (hg1 : ∀ (x0 : Option Nat) (x1 : Int) (h : ax_H) (w : ax_H), g1 x0 x1 h = some w → ax_Met l G yX5_readTerm cX5_readTerm 2 none fr1 lo1 [va_rf x0, .int (Int32.ofInt x1)] h w none) (hg2 : ∀ (x0 : Option Nat) (x1 : Int) (h : ax_H) (w : ax_H), g2 x0 x1 h = some w → ax_Met l G yX5_readSum cX5_readSum 2 none fr1 lo1 [va_rf x0, .int (Int32.ofInt x1)] h w none) (x0 : Option Nat) (x1 : Int) (h : ax_H) (w : ax_H) (e : f_X5_readPart G.2.2 g0 g1 g2 x0 x1 h = some w) : ax_Met l G yX5_readPart cX5_readPart 3 none fr lo [va_rf x0, .int (Int32.ofInt x1)] h w none :=
  ax_enter [.inr (.inr x0), .inl x1] (y := yX5_readPart) hSF (plainFor_of_name (by decide +kernel)) (Nat.le_of_ble_eq_true rfl) (fun X ls B Z hn hl => we_X5_readPart hF hg0 hg1 hg2 hSF B Z hn x0 x1 hl e rfl)
def pi_X5_readTerm_5 (G : ax_G) (X : ax_X) (Q : State → Prop) (x0 : Option Nat) (x1 : Int) : ax_H → Prop := fun s => ∀ ls : Array Slot, ax_hl ls 2 [(0, .inr (.inr x0)), (1, .inl x1)] → ax_W G X Q s 5 ls []
set_option maxHeartbeats 4000000 in
theorem w_X5_readTerm_41 {l : Launch} {G : ax_G} {X : ax_X} {Q : State → Prop} {h0 h : ax_H} {ls : Array Slot} {g0 : Option Nat → Int → ax_H → Option (ax_H)} {g1 : Option Nat → Int → ax_H → Option (ax_H)} {g2 : Option Nat → Int → ax_H → Option (ax_H)} {fr lo fr1 lo1 : Nat} (hF : fr1 + 1 ≤ fr ∧ 4 ≤ fr ∧ lo1 + 22 ≤ lo ∧ 103 ≤ lo) (hg0 : ∀ (x0 : Option Nat) (x1 : Int) (h : ax_H) (w : ax_H), g0 x0 x1 h = some w → ax_Met l G yX5_readPart cX5_readPart 3 none fr1 lo1 [va_rf x0, .int (Int32.ofInt x1)] h w none) (hg1 : ∀ (x0 : Option Nat) (x1 : Int) (h : ax_H) (w : ax_H), g1 x0 x1 h = some w → ax_Met l G yX5_readTerm cX5_readTerm 2 none fr1 lo1 [va_rf x0, .int (Int32.ofInt x1)] h w none) (hg2 : ∀ (x0 : Option Nat) (x1 : Int) (h : ax_H) (w : ax_H), g2 x0 x1 h = some w → ax_Met l G yX5_readSum cX5_readSum 2 none fr1 lo1 [va_rf x0, .int (Int32.ofInt x1)] h w none) (hSF : ax_SF G) (B : ax_BL l G X cX5_readTerm 2 RX5 fr lo) (Z : ax_Z X h0 none) (hn : X.2.2.2.2.2.2.2.2.1.name = yX5_readTerm.name) (x0 : Option Nat) (x1 : Int) {w : (ax_H) ⊕ (ax_H)} (hl : ax_hl ls 2 [(0, .inr (.inr x0)), (1, .inl x1)]) (e : f_X5_readTerm_41 G.2.2 g0 g1 g2 x0 x1 h = some w) (hp : (ax_PL (pi_X5_readTerm_5 G X Q x0 x1) (fun w : ax_H => Q = ax_Q G X h0 w none)) w) : ax_W G X Q h 41 ls [] := by
  unfold f_X5_readTerm_41 at e
  refine ax_aload_n B dX5_readTerm_41 rfl hl 0 rfl ?_
  refine ax_iload_n B dX5_readTerm_42 rfl hl 1 rfl ?_
  refine ax_ivV (y := yX5_readPart) (n := 1) (As := [.int (Int32.ofInt x1)]) B kd5 (lw_V q2371 q2373 qs76 q133 q2374) (by decide +kernel) (by omega) (fun w1 e1 => hg0 x0 x1 _ w1 e1) rfl hl.size (by decide) dX5_readTerm_43 e (fun h1 e => ?_)
  refine ax_goto (tgt := 5) B dX5_readTerm_46 (by decide) ?_
  cases e
  exact hp _ (hl.sub [0, 1] rfl)
set_option maxHeartbeats 4000000 in
theorem wb_X5_readTerm_5 {l : Launch} {G : ax_G} {X : ax_X} {Q : State → Prop} {h0 h : ax_H} {ls : Array Slot} {g0 : Option Nat → Int → ax_H → Option (ax_H)} {g1 : Option Nat → Int → ax_H → Option (ax_H)} {g2 : Option Nat → Int → ax_H → Option (ax_H)} {fr lo fr1 lo1 : Nat} (hF : fr1 + 1 ≤ fr ∧ 4 ≤ fr ∧ lo1 + 22 ≤ lo ∧ 103 ≤ lo) (hg0 : ∀ (x0 : Option Nat) (x1 : Int) (h : ax_H) (w : ax_H), g0 x0 x1 h = some w → ax_Met l G yX5_readPart cX5_readPart 3 none fr1 lo1 [va_rf x0, .int (Int32.ofInt x1)] h w none) (hg1 : ∀ (x0 : Option Nat) (x1 : Int) (h : ax_H) (w : ax_H), g1 x0 x1 h = some w → ax_Met l G yX5_readTerm cX5_readTerm 2 none fr1 lo1 [va_rf x0, .int (Int32.ofInt x1)] h w none) (hg2 : ∀ (x0 : Option Nat) (x1 : Int) (h : ax_H) (w : ax_H), g2 x0 x1 h = some w → ax_Met l G yX5_readSum cX5_readSum 2 none fr1 lo1 [va_rf x0, .int (Int32.ofInt x1)] h w none) (hSF : ax_SF G) (B : ax_BL l G X cX5_readTerm 2 RX5 fr lo) (Z : ax_Z X h0 none) (hn : X.2.2.2.2.2.2.2.2.1.name = yX5_readTerm.name) (x0 : Option Nat) (x1 : Int) {w : (ax_H) ⊕ (ax_H)} (hl : ax_hl ls 2 [(0, .inr (.inr x0)), (1, .inl x1)]) (e : lb_X5_readTerm_5 G.2.2 g0 g1 g2 x0 x1 h = some w) (hp : (ax_PL (pi_X5_readTerm_5 G X Q x0 x1) (fun w : ax_H => Q = ax_Q G X h0 w none)) w) : ax_W G X Q h 5 ls [] := by
  unfold lb_X5_readTerm_5 at e
  refine ax_aload_n B dX5_readTerm_5 rfl hl 0 rfl ?_
  refine ax_bipush B dX5_readTerm_6 (by decide) ?_
  refine ax_isI (y := yX5_sign) (n := 1) (As := [.int (Int32.ofInt 42)]) B (lw_S q2266 q2267 q133 q2268) (by decide +kernel) (by omega) (fun w1 e1 => mt_X5_sign l G hSF 42 _ w1 e1) rfl hl.size (by simp only [List.map_cons, List.map_nil, List.sum_cons, List.sum_nil, va_rf_cat, ax_catI, ax_catL]; decide) dX5_readTerm_8 e (fun q1 e => ?_)
  refine ax_ivI (y := yX5_takes0) (n := 1) (As := [.int (Int32.ofInt q1.1)]) B kd5 (lw_V q2355 q2357 qs72 q133 q2358) (by decide +kernel) (by omega) (fun w1 e1 => mt_X5_takes0 l G hSF x0 q1.1 _ w1 e1) rfl hl.size (by decide) dX5_readTerm_11 e (fun q2 e => ?_)
  refine ax_if_ne (tgt := 41) B dX5_readTerm_14 (by decide) e (fun e => ?_) (fun e => ?_)
  · refine ax_aload_n B dX5_readTerm_17 rfl hl 0 rfl ?_
    refine ax_bipush B dX5_readTerm_18 (by decide) ?_
    refine ax_isI (y := yX5_sign) (n := 1) (As := [.int (Int32.ofInt 47)]) B (lw_S q2266 q2267 q133 q2268) (by decide +kernel) (by omega) (fun w1 e1 => mt_X5_sign l G hSF 47 _ w1 e1) rfl hl.size (by simp only [List.map_cons, List.map_nil, List.sum_cons, List.sum_nil, va_rf_cat, ax_catI, ax_catL]; decide) dX5_readTerm_20 e (fun q3 e => ?_)
    refine ax_ivI (y := yX5_takes0) (n := 1) (As := [.int (Int32.ofInt q3.1)]) B kd5 (lw_V q2355 q2357 qs72 q133 q2358) (by decide +kernel) (by omega) (fun w1 e1 => mt_X5_takes0 l G hSF x0 q3.1 _ w1 e1) rfl hl.size (by decide) dX5_readTerm_23 e (fun q4 e => ?_)
    refine ax_if_ne (tgt := 41) B dX5_readTerm_26 (by decide) e (fun e => ?_) (fun e => ?_)
    · refine ax_aload_n B dX5_readTerm_29 rfl hl 0 rfl ?_
      refine ax_bipush B dX5_readTerm_30 (by decide) ?_
      refine ax_isI (y := yX5_sign) (n := 1) (As := [.int (Int32.ofInt 37)]) B (lw_S q2266 q2267 q133 q2268) (by decide +kernel) (by omega) (fun w1 e1 => mt_X5_sign l G hSF 37 _ w1 e1) rfl hl.size (by simp only [List.map_cons, List.map_nil, List.sum_cons, List.sum_nil, va_rf_cat, ax_catI, ax_catL]; decide) dX5_readTerm_32 e (fun q5 e => ?_)
      refine ax_ivI (y := yX5_takes0) (n := 1) (As := [.int (Int32.ofInt q5.1)]) B kd5 (lw_V q2355 q2357 qs72 q133 q2358) (by decide +kernel) (by omega) (fun w1 e1 => mt_X5_takes0 l G hSF x0 q5.1 _ w1 e1) rfl hl.size (by decide) dX5_readTerm_35 e (fun q6 e => ?_)
      refine ax_if_eq (tgt := 49) B dX5_readTerm_38 (by decide) e (fun e => ?_) (fun e => ?_)
      · obtain ⟨w, e9_1, rfl⟩ := Option.map_eq_some_iff.mp e
        have e := e9_1
        have e8 := e
        have hp : Q = _ := hp
        subst hp
        exact ax_return B Z dX5_readTerm_49 e8
      · exact w_X5_readTerm_41 hF hg0 hg1 hg2 hSF B Z hn x0 x1 (hl.sub [0, 1] rfl) e hp
    · exact w_X5_readTerm_41 hF hg0 hg1 hg2 hSF B Z hn x0 x1 (hl.sub [0, 1] rfl) e hp
  · exact w_X5_readTerm_41 hF hg0 hg1 hg2 hSF B Z hn x0 x1 (hl.sub [0, 1] rfl) e hp
theorem w_X5_readTerm_5 {l : Launch} {G : ax_G} {X : ax_X} {Q : State → Prop} {h0 h : ax_H} {ls : Array Slot} {g0 : Option Nat → Int → ax_H → Option (ax_H)} {g1 : Option Nat → Int → ax_H → Option (ax_H)} {g2 : Option Nat → Int → ax_H → Option (ax_H)} {fr lo fr1 lo1 : Nat} (hF : fr1 + 1 ≤ fr ∧ 4 ≤ fr ∧ lo1 + 22 ≤ lo ∧ 103 ≤ lo) (hg0 : ∀ (x0 : Option Nat) (x1 : Int) (h : ax_H) (w : ax_H), g0 x0 x1 h = some w → ax_Met l G yX5_readPart cX5_readPart 3 none fr1 lo1 [va_rf x0, .int (Int32.ofInt x1)] h w none) (hg1 : ∀ (x0 : Option Nat) (x1 : Int) (h : ax_H) (w : ax_H), g1 x0 x1 h = some w → ax_Met l G yX5_readTerm cX5_readTerm 2 none fr1 lo1 [va_rf x0, .int (Int32.ofInt x1)] h w none) (hg2 : ∀ (x0 : Option Nat) (x1 : Int) (h : ax_H) (w : ax_H), g2 x0 x1 h = some w → ax_Met l G yX5_readSum cX5_readSum 2 none fr1 lo1 [va_rf x0, .int (Int32.ofInt x1)] h w none) (hSF : ax_SF G) (B : ax_BL l G X cX5_readTerm 2 RX5 fr lo) (Z : ax_Z X h0 none) (hn : X.2.2.2.2.2.2.2.2.1.name = yX5_readTerm.name) (x0 : Option Nat) (x1 : Int) {w : ax_H} (hl : ax_hl ls 2 [(0, .inr (.inr x0)), (1, .inl x1)]) (e : f_X5_readTerm_5 G.2.2 g0 g1 g2 x0 x1 h = some w) (hp : (fun w : ax_H => Q = ax_Q G X h0 w none) w) : ax_W G X Q h 5 ls [] :=
  ax_iter_W (Pin := pi_X5_readTerm_5 G X Q x0 x1) (Pout := (fun w : ax_H => Q = ax_Q G X h0 w none)) (fun s w e hp ls hl => wb_X5_readTerm_5 hF hg0 hg1 hg2 hSF B Z hn x0 x1 hl e hp) _ _ e hp ls hl
set_option maxHeartbeats 4000000 in
theorem we_X5_readTerm {l : Launch} {G : ax_G} {X : ax_X} {Q : State → Prop} {h0 h : ax_H} {ls : Array Slot} {g0 : Option Nat → Int → ax_H → Option (ax_H)} {g1 : Option Nat → Int → ax_H → Option (ax_H)} {g2 : Option Nat → Int → ax_H → Option (ax_H)} {fr lo fr1 lo1 : Nat} (hF : fr1 + 1 ≤ fr ∧ 4 ≤ fr ∧ lo1 + 22 ≤ lo ∧ 103 ≤ lo) (hg0 : ∀ (x0 : Option Nat) (x1 : Int) (h : ax_H) (w : ax_H), g0 x0 x1 h = some w → ax_Met l G yX5_readPart cX5_readPart 3 none fr1 lo1 [va_rf x0, .int (Int32.ofInt x1)] h w none) (hg1 : ∀ (x0 : Option Nat) (x1 : Int) (h : ax_H) (w : ax_H), g1 x0 x1 h = some w → ax_Met l G yX5_readTerm cX5_readTerm 2 none fr1 lo1 [va_rf x0, .int (Int32.ofInt x1)] h w none) (hg2 : ∀ (x0 : Option Nat) (x1 : Int) (h : ax_H) (w : ax_H), g2 x0 x1 h = some w → ax_Met l G yX5_readSum cX5_readSum 2 none fr1 lo1 [va_rf x0, .int (Int32.ofInt x1)] h w none) (hSF : ax_SF G) (B : ax_BL l G X cX5_readTerm 2 RX5 fr lo) (Z : ax_Z X h0 none) (hn : X.2.2.2.2.2.2.2.2.1.name = yX5_readTerm.name) (x0 : Option Nat) (x1 : Int) {w : ax_H} (hl : ax_hl ls 2 [(0, .inr (.inr x0)), (1, .inl x1)]) (e : f_X5_readTerm G.2.2 g0 g1 g2 x0 x1 h = some w) (hp : (fun w : ax_H => Q = ax_Q G X h0 w none) w) : ax_W G X Q h 0 ls [] := by
  unfold f_X5_readTerm at e
  refine ax_aload_n B dX5_readTerm_0 rfl hl 0 rfl ?_
  refine ax_iload_n B dX5_readTerm_1 rfl hl 1 rfl ?_
  refine ax_ivV (y := yX5_readPart) (n := 1) (As := [.int (Int32.ofInt x1)]) B kd5 (lw_V q2371 q2373 qs76 q133 q2374) (by decide +kernel) (by omega) (fun w1 e1 => hg0 x0 x1 _ w1 e1) rfl hl.size (by decide) dX5_readTerm_2 e (fun h1 e => ?_)
  exact w_X5_readTerm_5 hF hg0 hg1 hg2 hSF B Z hn x0 x1 (hl.sub [0, 1] rfl) e hp
theorem mt_X5_readTerm (l : Launch) (G : ax_G) (hSF : ax_SF G) {g0 : Option Nat → Int → ax_H → Option (ax_H)} {g1 : Option Nat → Int → ax_H → Option (ax_H)} {g2 : Option Nat → Int → ax_H → Option (ax_H)} {fr lo fr1 lo1 : Nat} (hF : fr1 + 1 ≤ fr ∧ 4 ≤ fr ∧ lo1 + 22 ≤ lo ∧ 103 ≤ lo) (hg0 : ∀ (x0 : Option Nat) (x1 : Int) (h : ax_H) (w : ax_H), g0 x0 x1 h = some w → ax_Met l G yX5_readPart cX5_readPart 3 none fr1 lo1 [va_rf x0, .int (Int32.ofInt x1)] h w none) (hg1 : ∀ (x0 : Option Nat) (x1 : Int) (h : ax_H) (w : ax_H), g1 x0 x1 h = some w → ax_Met l G yX5_readTerm cX5_readTerm 2 none fr1 lo1 [va_rf x0, .int (Int32.ofInt x1)] h w none) (hg2 : ∀ (x0 : Option Nat) (x1 : Int) (h : ax_H) (w : ax_H), g2 x0 x1 h = some w → ax_Met l G yX5_readSum cX5_readSum 2 none fr1 lo1 [va_rf x0, .int (Int32.ofInt x1)] h w none) (x0 : Option Nat) (x1 : Int) (h : ax_H) (w : ax_H) (e : f_X5_readTerm G.2.2 g0 g1 g2 x0 x1 h = some w) : ax_Met l G yX5_readTerm cX5_readTerm 2 none fr lo [va_rf x0, .int (Int32.ofInt x1)] h w none :=
  ax_enter [.inr (.inr x0), .inl x1] (y := yX5_readTerm) hSF (plainFor_of_name (by decide +kernel)) (Nat.le_of_ble_eq_true rfl) (fun X ls B Z hn hl => we_X5_readTerm hF hg0 hg1 hg2 hSF B Z hn x0 x1 hl e rfl)
def pi_X5_readSum_5 (G : ax_G) (X : ax_X) (Q : State → Prop) (x0 : Option Nat) (x1 : Int) : ax_H → Prop := fun s => ∀ ls : Array Slot, ax_hl ls 2 [(0, .inr (.inr x0)), (1, .inl x1)] → ax_W G X Q s 5 ls []
set_option maxHeartbeats 4000000 in
theorem w_X5_readSum_29 {l : Launch} {G : ax_G} {X : ax_X} {Q : State → Prop} {h0 h : ax_H} {ls : Array Slot} {g0 : Option Nat → Int → ax_H → Option (ax_H)} {g1 : Option Nat → Int → ax_H → Option (ax_H)} {g2 : Option Nat → Int → ax_H → Option (ax_H)} {fr lo fr1 lo1 : Nat} (hF : fr1 + 1 ≤ fr ∧ 4 ≤ fr ∧ lo1 + 22 ≤ lo ∧ 103 ≤ lo) (hg0 : ∀ (x0 : Option Nat) (x1 : Int) (h : ax_H) (w : ax_H), g0 x0 x1 h = some w → ax_Met l G yX5_readPart cX5_readPart 3 none fr1 lo1 [va_rf x0, .int (Int32.ofInt x1)] h w none) (hg1 : ∀ (x0 : Option Nat) (x1 : Int) (h : ax_H) (w : ax_H), g1 x0 x1 h = some w → ax_Met l G yX5_readTerm cX5_readTerm 2 none fr1 lo1 [va_rf x0, .int (Int32.ofInt x1)] h w none) (hg2 : ∀ (x0 : Option Nat) (x1 : Int) (h : ax_H) (w : ax_H), g2 x0 x1 h = some w → ax_Met l G yX5_readSum cX5_readSum 2 none fr1 lo1 [va_rf x0, .int (Int32.ofInt x1)] h w none) (hSF : ax_SF G) (B : ax_BL l G X cX5_readSum 2 RX5 fr lo) (Z : ax_Z X h0 none) (hn : X.2.2.2.2.2.2.2.2.1.name = yX5_readSum.name) (x0 : Option Nat) (x1 : Int) {w : (ax_H) ⊕ (ax_H)} (hl : ax_hl ls 2 [(0, .inr (.inr x0)), (1, .inl x1)]) (e : f_X5_readSum_29 G.2.2 g0 g1 g2 x0 x1 h = some w) (hp : (ax_PL (pi_X5_readSum_5 G X Q x0 x1) (fun w : ax_H => Q = ax_Q G X h0 w none)) w) : ax_W G X Q h 29 ls [] := by
  unfold f_X5_readSum_29 at e
  refine ax_aload_n B dX5_readSum_29 rfl hl 0 rfl ?_
  refine ax_iload_n B dX5_readSum_30 rfl hl 1 rfl ?_
  refine ax_ivV (y := yX5_readTerm) (n := 1) (As := [.int (Int32.ofInt x1)]) B kd5 (lw_V q2367 q2369 qs75 q133 q2370) (by decide +kernel) (by omega) (fun w1 e1 => hg1 x0 x1 _ w1 e1) rfl hl.size (by decide) dX5_readSum_31 e (fun h1 e => ?_)
  refine ax_goto (tgt := 5) B dX5_readSum_34 (by decide) ?_
  cases e
  exact hp _ (hl.sub [0, 1] rfl)
set_option maxHeartbeats 4000000 in
theorem wb_X5_readSum_5 {l : Launch} {G : ax_G} {X : ax_X} {Q : State → Prop} {h0 h : ax_H} {ls : Array Slot} {g0 : Option Nat → Int → ax_H → Option (ax_H)} {g1 : Option Nat → Int → ax_H → Option (ax_H)} {g2 : Option Nat → Int → ax_H → Option (ax_H)} {fr lo fr1 lo1 : Nat} (hF : fr1 + 1 ≤ fr ∧ 4 ≤ fr ∧ lo1 + 22 ≤ lo ∧ 103 ≤ lo) (hg0 : ∀ (x0 : Option Nat) (x1 : Int) (h : ax_H) (w : ax_H), g0 x0 x1 h = some w → ax_Met l G yX5_readPart cX5_readPart 3 none fr1 lo1 [va_rf x0, .int (Int32.ofInt x1)] h w none) (hg1 : ∀ (x0 : Option Nat) (x1 : Int) (h : ax_H) (w : ax_H), g1 x0 x1 h = some w → ax_Met l G yX5_readTerm cX5_readTerm 2 none fr1 lo1 [va_rf x0, .int (Int32.ofInt x1)] h w none) (hg2 : ∀ (x0 : Option Nat) (x1 : Int) (h : ax_H) (w : ax_H), g2 x0 x1 h = some w → ax_Met l G yX5_readSum cX5_readSum 2 none fr1 lo1 [va_rf x0, .int (Int32.ofInt x1)] h w none) (hSF : ax_SF G) (B : ax_BL l G X cX5_readSum 2 RX5 fr lo) (Z : ax_Z X h0 none) (hn : X.2.2.2.2.2.2.2.2.1.name = yX5_readSum.name) (x0 : Option Nat) (x1 : Int) {w : (ax_H) ⊕ (ax_H)} (hl : ax_hl ls 2 [(0, .inr (.inr x0)), (1, .inl x1)]) (e : lb_X5_readSum_5 G.2.2 g0 g1 g2 x0 x1 h = some w) (hp : (ax_PL (pi_X5_readSum_5 G X Q x0 x1) (fun w : ax_H => Q = ax_Q G X h0 w none)) w) : ax_W G X Q h 5 ls [] := by
  unfold lb_X5_readSum_5 at e
  refine ax_aload_n B dX5_readSum_5 rfl hl 0 rfl ?_
  refine ax_bipush B dX5_readSum_6 (by decide) ?_
  refine ax_isI (y := yX5_sign) (n := 1) (As := [.int (Int32.ofInt 43)]) B (lw_S q2266 q2267 q133 q2268) (by decide +kernel) (by omega) (fun w1 e1 => mt_X5_sign l G hSF 43 _ w1 e1) rfl hl.size (by simp only [List.map_cons, List.map_nil, List.sum_cons, List.sum_nil, va_rf_cat, ax_catI, ax_catL]; decide) dX5_readSum_8 e (fun q1 e => ?_)
  refine ax_ivI (y := yX5_takes0) (n := 1) (As := [.int (Int32.ofInt q1.1)]) B kd5 (lw_V q2355 q2357 qs72 q133 q2358) (by decide +kernel) (by omega) (fun w1 e1 => mt_X5_takes0 l G hSF x0 q1.1 _ w1 e1) rfl hl.size (by decide) dX5_readSum_11 e (fun q2 e => ?_)
  refine ax_if_ne (tgt := 29) B dX5_readSum_14 (by decide) e (fun e => ?_) (fun e => ?_)
  · refine ax_aload_n B dX5_readSum_17 rfl hl 0 rfl ?_
    refine ax_bipush B dX5_readSum_18 (by decide) ?_
    refine ax_isI (y := yX5_sign) (n := 1) (As := [.int (Int32.ofInt 45)]) B (lw_S q2266 q2267 q133 q2268) (by decide +kernel) (by omega) (fun w1 e1 => mt_X5_sign l G hSF 45 _ w1 e1) rfl hl.size (by simp only [List.map_cons, List.map_nil, List.sum_cons, List.sum_nil, va_rf_cat, ax_catI, ax_catL]; decide) dX5_readSum_20 e (fun q3 e => ?_)
    refine ax_ivI (y := yX5_takes0) (n := 1) (As := [.int (Int32.ofInt q3.1)]) B kd5 (lw_V q2355 q2357 qs72 q133 q2358) (by decide +kernel) (by omega) (fun w1 e1 => mt_X5_takes0 l G hSF x0 q3.1 _ w1 e1) rfl hl.size (by decide) dX5_readSum_23 e (fun q4 e => ?_)
    refine ax_if_eq (tgt := 37) B dX5_readSum_26 (by decide) e (fun e => ?_) (fun e => ?_)
    · obtain ⟨w, e9_1, rfl⟩ := Option.map_eq_some_iff.mp e
      have e := e9_1
      have e8 := e
      have hp : Q = _ := hp
      subst hp
      exact ax_return B Z dX5_readSum_37 e8
    · exact w_X5_readSum_29 hF hg0 hg1 hg2 hSF B Z hn x0 x1 (hl.sub [0, 1] rfl) e hp
  · exact w_X5_readSum_29 hF hg0 hg1 hg2 hSF B Z hn x0 x1 (hl.sub [0, 1] rfl) e hp
theorem w_X5_readSum_5 {l : Launch} {G : ax_G} {X : ax_X} {Q : State → Prop} {h0 h : ax_H} {ls : Array Slot} {g0 : Option Nat → Int → ax_H → Option (ax_H)} {g1 : Option Nat → Int → ax_H → Option (ax_H)} {g2 : Option Nat → Int → ax_H → Option (ax_H)} {fr lo fr1 lo1 : Nat} (hF : fr1 + 1 ≤ fr ∧ 4 ≤ fr ∧ lo1 + 22 ≤ lo ∧ 103 ≤ lo) (hg0 : ∀ (x0 : Option Nat) (x1 : Int) (h : ax_H) (w : ax_H), g0 x0 x1 h = some w → ax_Met l G yX5_readPart cX5_readPart 3 none fr1 lo1 [va_rf x0, .int (Int32.ofInt x1)] h w none) (hg1 : ∀ (x0 : Option Nat) (x1 : Int) (h : ax_H) (w : ax_H), g1 x0 x1 h = some w → ax_Met l G yX5_readTerm cX5_readTerm 2 none fr1 lo1 [va_rf x0, .int (Int32.ofInt x1)] h w none) (hg2 : ∀ (x0 : Option Nat) (x1 : Int) (h : ax_H) (w : ax_H), g2 x0 x1 h = some w → ax_Met l G yX5_readSum cX5_readSum 2 none fr1 lo1 [va_rf x0, .int (Int32.ofInt x1)] h w none) (hSF : ax_SF G) (B : ax_BL l G X cX5_readSum 2 RX5 fr lo) (Z : ax_Z X h0 none) (hn : X.2.2.2.2.2.2.2.2.1.name = yX5_readSum.name) (x0 : Option Nat) (x1 : Int) {w : ax_H} (hl : ax_hl ls 2 [(0, .inr (.inr x0)), (1, .inl x1)]) (e : f_X5_readSum_5 G.2.2 g0 g1 g2 x0 x1 h = some w) (hp : (fun w : ax_H => Q = ax_Q G X h0 w none) w) : ax_W G X Q h 5 ls [] :=
  ax_iter_W (Pin := pi_X5_readSum_5 G X Q x0 x1) (Pout := (fun w : ax_H => Q = ax_Q G X h0 w none)) (fun s w e hp ls hl => wb_X5_readSum_5 hF hg0 hg1 hg2 hSF B Z hn x0 x1 hl e hp) _ _ e hp ls hl
set_option maxHeartbeats 4000000 in
theorem we_X5_readSum {l : Launch} {G : ax_G} {X : ax_X} {Q : State → Prop} {h0 h : ax_H} {ls : Array Slot} {g0 : Option Nat → Int → ax_H → Option (ax_H)} {g1 : Option Nat → Int → ax_H → Option (ax_H)} {g2 : Option Nat → Int → ax_H → Option (ax_H)} {fr lo fr1 lo1 : Nat} (hF : fr1 + 1 ≤ fr ∧ 4 ≤ fr ∧ lo1 + 22 ≤ lo ∧ 103 ≤ lo) (hg0 : ∀ (x0 : Option Nat) (x1 : Int) (h : ax_H) (w : ax_H), g0 x0 x1 h = some w → ax_Met l G yX5_readPart cX5_readPart 3 none fr1 lo1 [va_rf x0, .int (Int32.ofInt x1)] h w none) (hg1 : ∀ (x0 : Option Nat) (x1 : Int) (h : ax_H) (w : ax_H), g1 x0 x1 h = some w → ax_Met l G yX5_readTerm cX5_readTerm 2 none fr1 lo1 [va_rf x0, .int (Int32.ofInt x1)] h w none) (hg2 : ∀ (x0 : Option Nat) (x1 : Int) (h : ax_H) (w : ax_H), g2 x0 x1 h = some w → ax_Met l G yX5_readSum cX5_readSum 2 none fr1 lo1 [va_rf x0, .int (Int32.ofInt x1)] h w none) (hSF : ax_SF G) (B : ax_BL l G X cX5_readSum 2 RX5 fr lo) (Z : ax_Z X h0 none) (hn : X.2.2.2.2.2.2.2.2.1.name = yX5_readSum.name) (x0 : Option Nat) (x1 : Int) {w : ax_H} (hl : ax_hl ls 2 [(0, .inr (.inr x0)), (1, .inl x1)]) (e : f_X5_readSum G.2.2 g0 g1 g2 x0 x1 h = some w) (hp : (fun w : ax_H => Q = ax_Q G X h0 w none) w) : ax_W G X Q h 0 ls [] := by
  unfold f_X5_readSum at e
  refine ax_aload_n B dX5_readSum_0 rfl hl 0 rfl ?_
  refine ax_iload_n B dX5_readSum_1 rfl hl 1 rfl ?_
  refine ax_ivV (y := yX5_readTerm) (n := 1) (As := [.int (Int32.ofInt x1)]) B kd5 (lw_V q2367 q2369 qs75 q133 q2370) (by decide +kernel) (by omega) (fun w1 e1 => hg1 x0 x1 _ w1 e1) rfl hl.size (by decide) dX5_readSum_2 e (fun h1 e => ?_)
  exact w_X5_readSum_5 hF hg0 hg1 hg2 hSF B Z hn x0 x1 (hl.sub [0, 1] rfl) e hp
theorem mt_X5_readSum (l : Launch) (G : ax_G) (hSF : ax_SF G) {g0 : Option Nat → Int → ax_H → Option (ax_H)} {g1 : Option Nat → Int → ax_H → Option (ax_H)} {g2 : Option Nat → Int → ax_H → Option (ax_H)} {fr lo fr1 lo1 : Nat} (hF : fr1 + 1 ≤ fr ∧ 4 ≤ fr ∧ lo1 + 22 ≤ lo ∧ 103 ≤ lo) (hg0 : ∀ (x0 : Option Nat) (x1 : Int) (h : ax_H) (w : ax_H), g0 x0 x1 h = some w → ax_Met l G yX5_readPart cX5_readPart 3 none fr1 lo1 [va_rf x0, .int (Int32.ofInt x1)] h w none) (hg1 : ∀ (x0 : Option Nat) (x1 : Int) (h : ax_H) (w : ax_H), g1 x0 x1 h = some w → ax_Met l G yX5_readTerm cX5_readTerm 2 none fr1 lo1 [va_rf x0, .int (Int32.ofInt x1)] h w none) (hg2 : ∀ (x0 : Option Nat) (x1 : Int) (h : ax_H) (w : ax_H), g2 x0 x1 h = some w → ax_Met l G yX5_readSum cX5_readSum 2 none fr1 lo1 [va_rf x0, .int (Int32.ofInt x1)] h w none) (x0 : Option Nat) (x1 : Int) (h : ax_H) (w : ax_H) (e : f_X5_readSum G.2.2 g0 g1 g2 x0 x1 h = some w) : ax_Met l G yX5_readSum cX5_readSum 2 none fr lo [va_rf x0, .int (Int32.ofInt x1)] h w none :=
  ax_enter [.inr (.inr x0), .inl x1] (y := yX5_readSum) hSF (plainFor_of_name (by decide +kernel)) (Nat.le_of_ble_eq_true rfl) (fun X ls B Z hn hl => we_X5_readSum hF hg0 hg1 hg2 hSF B Z hn x0 x1 hl e rfl)
theorem mg_X5_readPart (l : Launch) (G : ax_G) (hSF : ax_SF G) : ∀ n : Nat, (∀ (x0 : Option Nat) (x1 : Int) (h : ax_H) (w : ax_H), (rg_X5_readPart G.2.2 n).1 x0 x1 h = some w → ax_Met l G yX5_readPart cX5_readPart 3 none (4 + n) (103 + n * 22) [va_rf x0, .int (Int32.ofInt x1)] h w none) ∧ (∀ (x0 : Option Nat) (x1 : Int) (h : ax_H) (w : ax_H), (rg_X5_readPart G.2.2 n).2.1 x0 x1 h = some w → ax_Met l G yX5_readTerm cX5_readTerm 2 none (4 + n) (103 + n * 22) [va_rf x0, .int (Int32.ofInt x1)] h w none) ∧ (∀ (x0 : Option Nat) (x1 : Int) (h : ax_H) (w : ax_H), (rg_X5_readPart G.2.2 n).2.2 x0 x1 h = some w → ax_Met l G yX5_readSum cX5_readSum 2 none (4 + n) (103 + n * 22) [va_rf x0, .int (Int32.ofInt x1)] h w none)
  | 0 => ⟨fun _ _ _ _ e => (by cases e), fun _ _ _ _ e => (by cases e), fun _ _ _ _ e => (by cases e)⟩
  | n + 1 => by
    have ih := mg_X5_readPart l G hSF n
    exact ⟨fun x0 x1 h w e => mt_X5_readPart l G hSF (fr1 := 4 + n) (lo1 := 103 + n * 22) (by omega) (ih.1) (ih.2.1) (ih.2.2) x0 x1 h w e, fun x0 x1 h w e => mt_X5_readTerm l G hSF (fr1 := 4 + n) (lo1 := 103 + n * 22) (by omega) (ih.1) (ih.2.1) (ih.2.2) x0 x1 h w e, fun x0 x1 h w e => mt_X5_readSum l G hSF (fr1 := 4 + n) (lo1 := 103 + n * 22) (by omega) (ih.1) (ih.2.1) (ih.2.2) x0 x1 h w e⟩
theorem mf_X5_readPart (l : Launch) (G : ax_G) (hSF : ax_SF G) (n : Nat) (x0 : Option Nat) (x1 : Int) (h : ax_H) (w : ax_H) (e : fn_X5_readPart G.2.2 n x0 x1 h = some w) : ax_Met l G yX5_readPart cX5_readPart 3 none (4 + n) (103 + n * 22) [va_rf x0, .int (Int32.ofInt x1)] h w none := (mg_X5_readPart l G hSF n).1 x0 x1 h w e
theorem mf_X5_readTerm (l : Launch) (G : ax_G) (hSF : ax_SF G) (n : Nat) (x0 : Option Nat) (x1 : Int) (h : ax_H) (w : ax_H) (e : fn_X5_readTerm G.2.2 n x0 x1 h = some w) : ax_Met l G yX5_readTerm cX5_readTerm 2 none (4 + n) (103 + n * 22) [va_rf x0, .int (Int32.ofInt x1)] h w none := (mg_X5_readPart l G hSF n).2.1 x0 x1 h w e
theorem mf_X5_readSum (l : Launch) (G : ax_G) (hSF : ax_SF G) (n : Nat) (x0 : Option Nat) (x1 : Int) (h : ax_H) (w : ax_H) (e : fn_X5_readSum G.2.2 n x0 x1 h = some w) : ax_Met l G yX5_readSum cX5_readSum 2 none (4 + n) (103 + n * 22) [va_rf x0, .int (Int32.ofInt x1)] h w none := (mg_X5_readPart l G hSF n).2.2 x0 x1 h w e
def dkwX5_readPlain_5 : List UInt8 := [154, 0, 12, 42, 16, 61, 184, 0, 249, 182, 0, 227, 42, 27, 182, 0, 223, 177]
abbrev dktX5_readPlain_5 : List UInt8 := dkwX5_readPlain_5 ++ []
def dkwX5_readPlain_4 : List UInt8 := [182, 0, 223, 42, 16, 60, 184, 0, 249, 182, 0, 210, 154, 0, 24, 42, 16, 62, 184, 0, 249, 182, 0, 210]
abbrev dktX5_readPlain_4 : List UInt8 := dkwX5_readPlain_4 ++ dktX5_readPlain_5
def dkwX5_readPlain_3 : List UInt8 := [181, 0, 207, 42, 27, 4, 96, 182, 0, 230, 42, 16, 41, 184, 0, 249, 182, 0, 227, 167, 0, 46, 42, 27]
abbrev dktX5_readPlain_3 : List UInt8 := dkwX5_readPlain_3 ++ dktX5_readPlain_4
def dkwX5_readPlain_2 : List UInt8 := [160, 0, 7, 42, 182, 0, 213, 42, 182, 0, 203, 154, 0, 4, 177, 42, 89, 180, 0, 207, 4, 96]
abbrev dktX5_readPlain_2 : List UInt8 := dkwX5_readPlain_2 ++ dktX5_readPlain_3
def dkwX5_readPlain_1 : List UInt8 := [42, 180, 0, 50, 42, 180, 0, 207, 46, 62, 29, 16, 40, 184, 0, 249, 160, 0, 50, 27, 16, 8]
abbrev dktX5_readPlain_1 : List UInt8 := dkwX5_readPlain_1 ++ dktX5_readPlain_2
def dkwX5_readPlain_0 : List UInt8 := [4, 61, 28, 153, 0, 13, 42, 16, 8, 182, 0, 210, 61, 167, 255, 245, 42, 182, 0, 203, 154, 0, 4, 177]
abbrev dktX5_readPlain_0 : List UInt8 := dkwX5_readPlain_0 ++ dktX5_readPlain_1
theorem dksX5_readPlain_0 : cX5_readPlain.data.toList.drop 0 = dktX5_readPlain_0 := by decide +kernel
theorem dksX5_readPlain_1 : cX5_readPlain.data.toList.drop 24 = dktX5_readPlain_1 := dk_seg dksX5_readPlain_0 24 rfl rfl
theorem dksX5_readPlain_2 : cX5_readPlain.data.toList.drop 46 = dktX5_readPlain_2 := dk_seg dksX5_readPlain_1 22 rfl rfl
theorem dksX5_readPlain_3 : cX5_readPlain.data.toList.drop 68 = dktX5_readPlain_3 := dk_seg dksX5_readPlain_2 22 rfl rfl
theorem dksX5_readPlain_4 : cX5_readPlain.data.toList.drop 92 = dktX5_readPlain_4 := dk_seg dksX5_readPlain_3 24 rfl rfl
theorem dksX5_readPlain_5 : cX5_readPlain.data.toList.drop 116 = dktX5_readPlain_5 := dk_seg dksX5_readPlain_4 24 rfl rfl
theorem dX5_readPlain_0 : decode cX5_readPlain 0 = .ok (.iconst 1, 1) := dk_4 (dk_at dksX5_readPlain_0 0 rfl rfl)
theorem dX5_readPlain_1 : decode cX5_readPlain 1 = .ok (.istore_n 2, 1) := dk_61 (dk_at dksX5_readPlain_0 1 rfl rfl)
theorem dX5_readPlain_2 : decode cX5_readPlain 2 = .ok (.iload_n 2, 1) := dk_28 (dk_at dksX5_readPlain_0 2 rfl rfl)
theorem dX5_readPlain_3 : decode cX5_readPlain 3 = .ok (.ifCond .eq 13, 3) := dk_153 0 13 (dk_at dksX5_readPlain_0 3 rfl rfl)
theorem dX5_readPlain_6 : decode cX5_readPlain 6 = .ok (.aload_n 0, 1) := dk_42 (dk_at dksX5_readPlain_0 6 rfl rfl)
theorem dX5_readPlain_7 : decode cX5_readPlain 7 = .ok (.bipush 8, 2) := dk_16 8 (dk_at dksX5_readPlain_0 7 rfl rfl)
theorem dX5_readPlain_9 : decode cX5_readPlain 9 = .ok (.invokevirtual 210, 3) := dk_182 0 210 (dk_at dksX5_readPlain_0 9 rfl rfl)
theorem dX5_readPlain_12 : decode cX5_readPlain 12 = .ok (.istore_n 2, 1) := dk_61 (dk_at dksX5_readPlain_0 12 rfl rfl)
theorem dX5_readPlain_13 : decode cX5_readPlain 13 = .ok (.goto (-11), 3) := dk_167 255 245 (dk_at dksX5_readPlain_0 13 rfl rfl)
theorem dX5_readPlain_16 : decode cX5_readPlain 16 = .ok (.aload_n 0, 1) := dk_42 (dk_at dksX5_readPlain_0 16 rfl rfl)
theorem dX5_readPlain_17 : decode cX5_readPlain 17 = .ok (.invokevirtual 203, 3) := dk_182 0 203 (dk_at dksX5_readPlain_0 17 rfl rfl)
theorem dX5_readPlain_20 : decode cX5_readPlain 20 = .ok (.ifCond .ne 4, 3) := dk_154 0 4 (dk_at dksX5_readPlain_0 20 rfl rfl)
theorem dX5_readPlain_23 : decode cX5_readPlain 23 = .ok (.return_, 1) := dk_177 (dk_at dksX5_readPlain_0 23 rfl rfl)
theorem dX5_readPlain_24 : decode cX5_readPlain 24 = .ok (.aload_n 0, 1) := dk_42 (dk_at dksX5_readPlain_1 0 rfl rfl)
theorem dX5_readPlain_25 : decode cX5_readPlain 25 = .ok (.getfield 50, 3) := dk_180 0 50 (dk_at dksX5_readPlain_1 1 rfl rfl)
theorem dX5_readPlain_28 : decode cX5_readPlain 28 = .ok (.aload_n 0, 1) := dk_42 (dk_at dksX5_readPlain_1 4 rfl rfl)
theorem dX5_readPlain_29 : decode cX5_readPlain 29 = .ok (.getfield 207, 3) := dk_180 0 207 (dk_at dksX5_readPlain_1 5 rfl rfl)
theorem dX5_readPlain_32 : decode cX5_readPlain 32 = .ok (.iaload, 1) := dk_46 (dk_at dksX5_readPlain_1 8 rfl rfl)
theorem dX5_readPlain_33 : decode cX5_readPlain 33 = .ok (.istore_n 3, 1) := dk_62 (dk_at dksX5_readPlain_1 9 rfl rfl)
theorem dX5_readPlain_34 : decode cX5_readPlain 34 = .ok (.iload_n 3, 1) := dk_29 (dk_at dksX5_readPlain_1 10 rfl rfl)
theorem dX5_readPlain_35 : decode cX5_readPlain 35 = .ok (.bipush 40, 2) := dk_16 40 (dk_at dksX5_readPlain_1 11 rfl rfl)
theorem dX5_readPlain_37 : decode cX5_readPlain 37 = .ok (.invokestatic 249, 3) := dk_184 0 249 (dk_at dksX5_readPlain_1 13 rfl rfl)
theorem dX5_readPlain_40 : decode cX5_readPlain 40 = .ok (.if_icmp .ne 50, 3) := dk_160 0 50 (dk_at dksX5_readPlain_1 16 rfl rfl)
theorem dX5_readPlain_43 : decode cX5_readPlain 43 = .ok (.iload_n 1, 1) := dk_27 (dk_at dksX5_readPlain_1 19 rfl rfl)
theorem dX5_readPlain_44 : decode cX5_readPlain 44 = .ok (.bipush 8, 2) := dk_16 8 (dk_at dksX5_readPlain_1 20 rfl rfl)
theorem dX5_readPlain_46 : decode cX5_readPlain 46 = .ok (.if_icmp .ne 7, 3) := dk_160 0 7 (dk_at dksX5_readPlain_2 0 rfl rfl)
theorem dX5_readPlain_49 : decode cX5_readPlain 49 = .ok (.aload_n 0, 1) := dk_42 (dk_at dksX5_readPlain_2 3 rfl rfl)
theorem dX5_readPlain_50 : decode cX5_readPlain 50 = .ok (.invokevirtual 213, 3) := dk_182 0 213 (dk_at dksX5_readPlain_2 4 rfl rfl)
theorem dX5_readPlain_53 : decode cX5_readPlain 53 = .ok (.aload_n 0, 1) := dk_42 (dk_at dksX5_readPlain_2 7 rfl rfl)
theorem dX5_readPlain_54 : decode cX5_readPlain 54 = .ok (.invokevirtual 203, 3) := dk_182 0 203 (dk_at dksX5_readPlain_2 8 rfl rfl)
theorem dX5_readPlain_57 : decode cX5_readPlain 57 = .ok (.ifCond .ne 4, 3) := dk_154 0 4 (dk_at dksX5_readPlain_2 11 rfl rfl)
theorem dX5_readPlain_60 : decode cX5_readPlain 60 = .ok (.return_, 1) := dk_177 (dk_at dksX5_readPlain_2 14 rfl rfl)
theorem dX5_readPlain_61 : decode cX5_readPlain 61 = .ok (.aload_n 0, 1) := dk_42 (dk_at dksX5_readPlain_2 15 rfl rfl)
theorem dX5_readPlain_62 : decode cX5_readPlain 62 = .ok (.dup, 1) := dk_89 (dk_at dksX5_readPlain_2 16 rfl rfl)
theorem dX5_readPlain_63 : decode cX5_readPlain 63 = .ok (.getfield 207, 3) := dk_180 0 207 (dk_at dksX5_readPlain_2 17 rfl rfl)
theorem dX5_readPlain_66 : decode cX5_readPlain 66 = .ok (.iconst 1, 1) := dk_4 (dk_at dksX5_readPlain_2 20 rfl rfl)
theorem dX5_readPlain_67 : decode cX5_readPlain 67 = .ok (.iadd, 1) := dk_96 (dk_at dksX5_readPlain_2 21 rfl rfl)
theorem dX5_readPlain_68 : decode cX5_readPlain 68 = .ok (.putfield 207, 3) := dk_181 0 207 (dk_at dksX5_readPlain_3 0 rfl rfl)
theorem dX5_readPlain_71 : decode cX5_readPlain 71 = .ok (.aload_n 0, 1) := dk_42 (dk_at dksX5_readPlain_3 3 rfl rfl)
theorem dX5_readPlain_72 : decode cX5_readPlain 72 = .ok (.iload_n 1, 1) := dk_27 (dk_at dksX5_readPlain_3 4 rfl rfl)
theorem dX5_readPlain_73 : decode cX5_readPlain 73 = .ok (.iconst 1, 1) := dk_4 (dk_at dksX5_readPlain_3 5 rfl rfl)
theorem dX5_readPlain_74 : decode cX5_readPlain 74 = .ok (.iadd, 1) := dk_96 (dk_at dksX5_readPlain_3 6 rfl rfl)
theorem dX5_readPlain_75 : decode cX5_readPlain 75 = .ok (.invokevirtual 230, 3) := dk_182 0 230 (dk_at dksX5_readPlain_3 7 rfl rfl)
theorem dX5_readPlain_78 : decode cX5_readPlain 78 = .ok (.aload_n 0, 1) := dk_42 (dk_at dksX5_readPlain_3 10 rfl rfl)
theorem dX5_readPlain_79 : decode cX5_readPlain 79 = .ok (.bipush 41, 2) := dk_16 41 (dk_at dksX5_readPlain_3 11 rfl rfl)
theorem dX5_readPlain_81 : decode cX5_readPlain 81 = .ok (.invokestatic 249, 3) := dk_184 0 249 (dk_at dksX5_readPlain_3 13 rfl rfl)
theorem dX5_readPlain_84 : decode cX5_readPlain 84 = .ok (.invokevirtual 227, 3) := dk_182 0 227 (dk_at dksX5_readPlain_3 16 rfl rfl)
theorem dX5_readPlain_87 : decode cX5_readPlain 87 = .ok (.goto 46, 3) := dk_167 0 46 (dk_at dksX5_readPlain_3 19 rfl rfl)
theorem dX5_readPlain_90 : decode cX5_readPlain 90 = .ok (.aload_n 0, 1) := dk_42 (dk_at dksX5_readPlain_3 22 rfl rfl)
theorem dX5_readPlain_91 : decode cX5_readPlain 91 = .ok (.iload_n 1, 1) := dk_27 (dk_at dksX5_readPlain_3 23 rfl rfl)
theorem dX5_readPlain_92 : decode cX5_readPlain 92 = .ok (.invokevirtual 223, 3) := dk_182 0 223 (dk_at dksX5_readPlain_4 0 rfl rfl)
theorem dX5_readPlain_95 : decode cX5_readPlain 95 = .ok (.aload_n 0, 1) := dk_42 (dk_at dksX5_readPlain_4 3 rfl rfl)
theorem dX5_readPlain_96 : decode cX5_readPlain 96 = .ok (.bipush 60, 2) := dk_16 60 (dk_at dksX5_readPlain_4 4 rfl rfl)
theorem dX5_readPlain_98 : decode cX5_readPlain 98 = .ok (.invokestatic 249, 3) := dk_184 0 249 (dk_at dksX5_readPlain_4 6 rfl rfl)
theorem dX5_readPlain_101 : decode cX5_readPlain 101 = .ok (.invokevirtual 210, 3) := dk_182 0 210 (dk_at dksX5_readPlain_4 9 rfl rfl)
theorem dX5_readPlain_104 : decode cX5_readPlain 104 = .ok (.ifCond .ne 24, 3) := dk_154 0 24 (dk_at dksX5_readPlain_4 12 rfl rfl)
theorem dX5_readPlain_107 : decode cX5_readPlain 107 = .ok (.aload_n 0, 1) := dk_42 (dk_at dksX5_readPlain_4 15 rfl rfl)
theorem dX5_readPlain_108 : decode cX5_readPlain 108 = .ok (.bipush 62, 2) := dk_16 62 (dk_at dksX5_readPlain_4 16 rfl rfl)
theorem dX5_readPlain_110 : decode cX5_readPlain 110 = .ok (.invokestatic 249, 3) := dk_184 0 249 (dk_at dksX5_readPlain_4 18 rfl rfl)
theorem dX5_readPlain_113 : decode cX5_readPlain 113 = .ok (.invokevirtual 210, 3) := dk_182 0 210 (dk_at dksX5_readPlain_4 21 rfl rfl)
theorem dX5_readPlain_116 : decode cX5_readPlain 116 = .ok (.ifCond .ne 12, 3) := dk_154 0 12 (dk_at dksX5_readPlain_5 0 rfl rfl)
theorem dX5_readPlain_119 : decode cX5_readPlain 119 = .ok (.aload_n 0, 1) := dk_42 (dk_at dksX5_readPlain_5 3 rfl rfl)
theorem dX5_readPlain_120 : decode cX5_readPlain 120 = .ok (.bipush 61, 2) := dk_16 61 (dk_at dksX5_readPlain_5 4 rfl rfl)
theorem dX5_readPlain_122 : decode cX5_readPlain 122 = .ok (.invokestatic 249, 3) := dk_184 0 249 (dk_at dksX5_readPlain_5 6 rfl rfl)
theorem dX5_readPlain_125 : decode cX5_readPlain 125 = .ok (.invokevirtual 227, 3) := dk_182 0 227 (dk_at dksX5_readPlain_5 9 rfl rfl)
theorem dX5_readPlain_128 : decode cX5_readPlain 128 = .ok (.aload_n 0, 1) := dk_42 (dk_at dksX5_readPlain_5 12 rfl rfl)
theorem dX5_readPlain_129 : decode cX5_readPlain 129 = .ok (.iload_n 1, 1) := dk_27 (dk_at dksX5_readPlain_5 13 rfl rfl)
theorem dX5_readPlain_130 : decode cX5_readPlain 130 = .ok (.invokevirtual 223, 3) := dk_182 0 223 (dk_at dksX5_readPlain_5 14 rfl rfl)
theorem dX5_readPlain_133 : decode cX5_readPlain 133 = .ok (.return_, 1) := dk_177 (dk_at dksX5_readPlain_5 17 rfl rfl)
def dkwX5_readBoth_0 : List UInt8 := [42, 27, 182, 0, 246, 42, 16, 7, 182, 0, 210, 153, 0, 11, 42, 27, 182, 0, 246, 167, 255, 242, 177]
abbrev dktX5_readBoth_0 : List UInt8 := dkwX5_readBoth_0 ++ []
theorem dksX5_readBoth_0 : cX5_readBoth.data.toList.drop 0 = dktX5_readBoth_0 := by decide +kernel
theorem dX5_readBoth_0 : decode cX5_readBoth 0 = .ok (.aload_n 0, 1) := dk_42 (dk_at dksX5_readBoth_0 0 rfl rfl)
theorem dX5_readBoth_1 : decode cX5_readBoth 1 = .ok (.iload_n 1, 1) := dk_27 (dk_at dksX5_readBoth_0 1 rfl rfl)
theorem dX5_readBoth_2 : decode cX5_readBoth 2 = .ok (.invokevirtual 246, 3) := dk_182 0 246 (dk_at dksX5_readBoth_0 2 rfl rfl)
theorem dX5_readBoth_5 : decode cX5_readBoth 5 = .ok (.aload_n 0, 1) := dk_42 (dk_at dksX5_readBoth_0 5 rfl rfl)
theorem dX5_readBoth_6 : decode cX5_readBoth 6 = .ok (.bipush 7, 2) := dk_16 7 (dk_at dksX5_readBoth_0 6 rfl rfl)
theorem dX5_readBoth_8 : decode cX5_readBoth 8 = .ok (.invokevirtual 210, 3) := dk_182 0 210 (dk_at dksX5_readBoth_0 8 rfl rfl)
theorem dX5_readBoth_11 : decode cX5_readBoth 11 = .ok (.ifCond .eq 11, 3) := dk_153 0 11 (dk_at dksX5_readBoth_0 11 rfl rfl)
theorem dX5_readBoth_14 : decode cX5_readBoth 14 = .ok (.aload_n 0, 1) := dk_42 (dk_at dksX5_readBoth_0 14 rfl rfl)
theorem dX5_readBoth_15 : decode cX5_readBoth 15 = .ok (.iload_n 1, 1) := dk_27 (dk_at dksX5_readBoth_0 15 rfl rfl)
theorem dX5_readBoth_16 : decode cX5_readBoth 16 = .ok (.invokevirtual 246, 3) := dk_182 0 246 (dk_at dksX5_readBoth_0 16 rfl rfl)
theorem dX5_readBoth_19 : decode cX5_readBoth 19 = .ok (.goto (-14), 3) := dk_167 255 242 (dk_at dksX5_readBoth_0 19 rfl rfl)
theorem dX5_readBoth_22 : decode cX5_readBoth 22 = .ok (.return_, 1) := dk_177 (dk_at dksX5_readBoth_0 22 rfl rfl)
def dkwX5_readTest_0 : List UInt8 := [42, 27, 182, 0, 243, 42, 16, 6, 182, 0, 210, 153, 0, 11, 42, 27, 182, 0, 243, 167, 255, 242, 177]
abbrev dktX5_readTest_0 : List UInt8 := dkwX5_readTest_0 ++ []
theorem dksX5_readTest_0 : cX5_readTest.data.toList.drop 0 = dktX5_readTest_0 := by decide +kernel
theorem dX5_readTest_0 : decode cX5_readTest 0 = .ok (.aload_n 0, 1) := dk_42 (dk_at dksX5_readTest_0 0 rfl rfl)
theorem dX5_readTest_1 : decode cX5_readTest 1 = .ok (.iload_n 1, 1) := dk_27 (dk_at dksX5_readTest_0 1 rfl rfl)
theorem dX5_readTest_2 : decode cX5_readTest 2 = .ok (.invokevirtual 243, 3) := dk_182 0 243 (dk_at dksX5_readTest_0 2 rfl rfl)
theorem dX5_readTest_5 : decode cX5_readTest 5 = .ok (.aload_n 0, 1) := dk_42 (dk_at dksX5_readTest_0 5 rfl rfl)
theorem dX5_readTest_6 : decode cX5_readTest 6 = .ok (.bipush 6, 2) := dk_16 6 (dk_at dksX5_readTest_0 6 rfl rfl)
theorem dX5_readTest_8 : decode cX5_readTest 8 = .ok (.invokevirtual 210, 3) := dk_182 0 210 (dk_at dksX5_readTest_0 8 rfl rfl)
theorem dX5_readTest_11 : decode cX5_readTest 11 = .ok (.ifCond .eq 11, 3) := dk_153 0 11 (dk_at dksX5_readTest_0 11 rfl rfl)
theorem dX5_readTest_14 : decode cX5_readTest 14 = .ok (.aload_n 0, 1) := dk_42 (dk_at dksX5_readTest_0 14 rfl rfl)
theorem dX5_readTest_15 : decode cX5_readTest 15 = .ok (.iload_n 1, 1) := dk_27 (dk_at dksX5_readTest_0 15 rfl rfl)
theorem dX5_readTest_16 : decode cX5_readTest 16 = .ok (.invokevirtual 243, 3) := dk_182 0 243 (dk_at dksX5_readTest_0 16 rfl rfl)
theorem dX5_readTest_19 : decode cX5_readTest 19 = .ok (.goto (-14), 3) := dk_167 255 242 (dk_at dksX5_readTest_0 19 rfl rfl)
theorem dX5_readTest_22 : decode cX5_readTest 22 = .ok (.return_, 1) := dk_177 (dk_at dksX5_readTest_0 22 rfl rfl)
noncomputable def f_X5_readPlain_53 (E : ax_E) (g0 : Option Nat → Int → ax_H → Option (ax_H)) (g1 : Option Nat → Int → ax_H → Option (ax_H)) (g2 : Option Nat → Int → ax_H → Option (ax_H)) (x0 : Option Nat) (x1 : Int) (h : ax_H) : Option (ax_H) :=
  (ax_ce E h x0 5).bind fun _ => (f_X5_fine E x0 h).bind fun q1 =>
  if i2 q1.1 = 0 then
    some q1.2
  else
    (ax_gI E q1.2 x0 5 17).bind fun v2 =>
    (ax_pI q1.2 x0 5 17 (v2 + 1)).bind fun h3 =>
    (ax_ce E h3 x0 5).bind fun _ => (g2 x0 (x1 + 1) h3).bind fun h4 =>
    (f_X5_sign E 41 h4).bind fun q5 =>
    (ax_ce E q5.2 x0 5).bind fun _ => (f_X5_must E x0 q5.1 q5.2).bind fun h6 =>
    some h6
noncomputable def f_X5_readPlain_128 (E : ax_E) (g0 : Option Nat → Int → ax_H → Option (ax_H)) (g1 : Option Nat → Int → ax_H → Option (ax_H)) (g2 : Option Nat → Int → ax_H → Option (ax_H)) (x0 : Option Nat) (x1 : Int) (h : ax_H) : Option (ax_H) :=
  (ax_ce E h x0 5).bind fun _ => (fn_X5_readSum E 64 x0 x1 h).bind fun h1 =>
  some h1
noncomputable def lb_X5_readPlain_2 (E : ax_E) (g0 : Option Nat → Int → ax_H → Option (ax_H)) (g1 : Option Nat → Int → ax_H → Option (ax_H)) (g2 : Option Nat → Int → ax_H → Option (ax_H)) (x0 : Option Nat) (x1 : Int) (x2 : Int) (h : ax_H) : Option ((Int × ax_H) ⊕ (ax_H)) :=
  if i2 x2 = 0 then
    ((ax_ce E h x0 5).bind fun _ => (f_X5_fine E x0 h).bind fun q1 =>
    if i2 q1.1 = 0 then
      some q1.2
    else
      (ax_gR E q1.2 x0 5 13).bind fun v2 =>
      (ax_gI E q1.2 x0 5 17).bind fun v3 =>
      (ax_ld E q1.2 v2 100 v3).bind fun v4 =>
      (f_X5_sign E 40 q1.2).bind fun q5 =>
      if i2 v4 = i2 q5.1 then
        if i2 x1 = i2 8 then
          (ax_ce E q5.2 x0 5).bind fun _ => (f_X5_faults E x0 q5.2).bind fun h6 =>
          f_X5_readPlain_53 E g0 g1 g2 x0 x1 h6
        else
          f_X5_readPlain_53 E g0 g1 g2 x0 x1 q5.2
      else
        (ax_ce E q5.2 x0 5).bind fun _ => (fn_X5_readSum E 64 x0 x1 q5.2).bind fun h7 =>
        (f_X5_sign E 60 h7).bind fun q8 =>
        (ax_ce E q8.2 x0 5).bind fun _ => (f_X5_takes0 E x0 q8.1 q8.2).bind fun q9 =>
        if i2 q9.1 = 0 then
          (f_X5_sign E 62 q9.2).bind fun q10 =>
          (ax_ce E q10.2 x0 5).bind fun _ => (f_X5_takes0 E x0 q10.1 q10.2).bind fun q11 =>
          if i2 q11.1 = 0 then
            (f_X5_sign E 61 q11.2).bind fun q12 =>
            (ax_ce E q12.2 x0 5).bind fun _ => (f_X5_must E x0 q12.1 q12.2).bind fun h13 =>
            f_X5_readPlain_128 E g0 g1 g2 x0 x1 h13
          else
            f_X5_readPlain_128 E g0 g1 g2 x0 x1 q11.2
        else
          f_X5_readPlain_128 E g0 g1 g2 x0 x1 q9.2).map Sum.inr
  else
    (ax_ce E h x0 5).bind fun _ => (f_X5_takes0 E x0 8 h).bind fun q14 =>
    some (.inl (q14.1, q14.2))
noncomputable def f_X5_readPlain_2 (E : ax_E) (g0 : Option Nat → Int → ax_H → Option (ax_H)) (g1 : Option Nat → Int → ax_H → Option (ax_H)) (g2 : Option Nat → Int → ax_H → Option (ax_H)) (x0 : Option Nat) (x1 : Int) (x2 : Int) (h : ax_H) : Option (ax_H) :=
  ax_iter (fun s : Int × ax_H => lb_X5_readPlain_2 E g0 g1 g2 x0 x1 s.1 s.2) (x2, h)
noncomputable def f_X5_readPlain (E : ax_E) (g0 : Option Nat → Int → ax_H → Option (ax_H)) (g1 : Option Nat → Int → ax_H → Option (ax_H)) (g2 : Option Nat → Int → ax_H → Option (ax_H)) (x0 : Option Nat) (x1 : Int) (h : ax_H) : Option (ax_H) :=
  f_X5_readPlain_2 E g0 g1 g2 x0 x1 1 h
noncomputable def lb_X5_readBoth_5 (E : ax_E) (g0 : Option Nat → Int → ax_H → Option (ax_H)) (g1 : Option Nat → Int → ax_H → Option (ax_H)) (g2 : Option Nat → Int → ax_H → Option (ax_H)) (x0 : Option Nat) (x1 : Int) (h : ax_H) : Option ((ax_H) ⊕ (ax_H)) :=
  (ax_ce E h x0 5).bind fun _ => (f_X5_takes0 E x0 7 h).bind fun q1 =>
  if i2 q1.1 = 0 then
    (some q1.2).map Sum.inr
  else
    (ax_ce E q1.2 x0 5).bind fun _ => (g0 x0 x1 q1.2).bind fun h2 =>
    some (.inl h2)
noncomputable def f_X5_readBoth_5 (E : ax_E) (g0 : Option Nat → Int → ax_H → Option (ax_H)) (g1 : Option Nat → Int → ax_H → Option (ax_H)) (g2 : Option Nat → Int → ax_H → Option (ax_H)) (x0 : Option Nat) (x1 : Int) (h : ax_H) : Option (ax_H) :=
  ax_iter (fun s : ax_H => lb_X5_readBoth_5 E g0 g1 g2 x0 x1 s) h
noncomputable def f_X5_readBoth (E : ax_E) (g0 : Option Nat → Int → ax_H → Option (ax_H)) (g1 : Option Nat → Int → ax_H → Option (ax_H)) (g2 : Option Nat → Int → ax_H → Option (ax_H)) (x0 : Option Nat) (x1 : Int) (h : ax_H) : Option (ax_H) :=
  (ax_ce E h x0 5).bind fun _ => (g0 x0 x1 h).bind fun h1 =>
  f_X5_readBoth_5 E g0 g1 g2 x0 x1 h1
noncomputable def lb_X5_readTest_5 (E : ax_E) (g0 : Option Nat → Int → ax_H → Option (ax_H)) (g1 : Option Nat → Int → ax_H → Option (ax_H)) (g2 : Option Nat → Int → ax_H → Option (ax_H)) (x0 : Option Nat) (x1 : Int) (h : ax_H) : Option ((ax_H) ⊕ (ax_H)) :=
  (ax_ce E h x0 5).bind fun _ => (f_X5_takes0 E x0 6 h).bind fun q1 =>
  if i2 q1.1 = 0 then
    (some q1.2).map Sum.inr
  else
    (ax_ce E q1.2 x0 5).bind fun _ => (g1 x0 x1 q1.2).bind fun h2 =>
    some (.inl h2)
noncomputable def f_X5_readTest_5 (E : ax_E) (g0 : Option Nat → Int → ax_H → Option (ax_H)) (g1 : Option Nat → Int → ax_H → Option (ax_H)) (g2 : Option Nat → Int → ax_H → Option (ax_H)) (x0 : Option Nat) (x1 : Int) (h : ax_H) : Option (ax_H) :=
  ax_iter (fun s : ax_H => lb_X5_readTest_5 E g0 g1 g2 x0 x1 s) h
noncomputable def f_X5_readTest (E : ax_E) (g0 : Option Nat → Int → ax_H → Option (ax_H)) (g1 : Option Nat → Int → ax_H → Option (ax_H)) (g2 : Option Nat → Int → ax_H → Option (ax_H)) (x0 : Option Nat) (x1 : Int) (h : ax_H) : Option (ax_H) :=
  (ax_ce E h x0 5).bind fun _ => (g1 x0 x1 h).bind fun h1 =>
  f_X5_readTest_5 E g0 g1 g2 x0 x1 h1
noncomputable def rg_X5_readPlain (E : ax_E) : Nat → (Option Nat → Int → ax_H → Option (ax_H)) × (Option Nat → Int → ax_H → Option (ax_H)) × (Option Nat → Int → ax_H → Option (ax_H))
  | 0 => ((fun x0 x1 h => none), (fun x0 x1 h => none), (fun x0 x1 h => none))
  | n + 1 => ((fun x0 x1 h => f_X5_readPlain E (rg_X5_readPlain E n).1 (rg_X5_readPlain E n).2.1 (rg_X5_readPlain E n).2.2 x0 x1 h), (fun x0 x1 h => f_X5_readBoth E (rg_X5_readPlain E n).1 (rg_X5_readPlain E n).2.1 (rg_X5_readPlain E n).2.2 x0 x1 h), (fun x0 x1 h => f_X5_readTest E (rg_X5_readPlain E n).1 (rg_X5_readPlain E n).2.1 (rg_X5_readPlain E n).2.2 x0 x1 h))
noncomputable def fn_X5_readPlain (E : ax_E) (n : Nat) (x0 : Option Nat) (x1 : Int) (h : ax_H) : Option (ax_H) := (rg_X5_readPlain E n).1 x0 x1 h
noncomputable def fn_X5_readBoth (E : ax_E) (n : Nat) (x0 : Option Nat) (x1 : Int) (h : ax_H) : Option (ax_H) := (rg_X5_readPlain E n).2.1 x0 x1 h
noncomputable def fn_X5_readTest (E : ax_E) (n : Nat) (x0 : Option Nat) (x1 : Int) (h : ax_H) : Option (ax_H) := (rg_X5_readPlain E n).2.2 x0 x1 h
def pi_X5_readPlain_2 (G : ax_G) (X : ax_X) (Q : State → Prop) (x0 : Option Nat) (x1 : Int) : Int × ax_H → Prop := fun s => ∀ ls : Array Slot, ax_hl ls 4 [(0, .inr (.inr x0)), (1, .inl x1), (2, .inl s.1)] → ax_W G X Q s.2 2 ls []
set_option maxHeartbeats 4000000 in
theorem w_X5_readPlain_53 {l : Launch} {G : ax_G} {X : ax_X} {Q : State → Prop} {h0 h : ax_H} {ls : Array Slot} {g0 : Option Nat → Int → ax_H → Option (ax_H)} {g1 : Option Nat → Int → ax_H → Option (ax_H)} {g2 : Option Nat → Int → ax_H → Option (ax_H)} {fr lo fr1 lo1 : Nat} (hF : fr1 + 1 ≤ fr ∧ 69 ≤ fr ∧ lo1 + 23 ≤ lo ∧ 1532 ≤ lo) (hg0 : ∀ (x0 : Option Nat) (x1 : Int) (h : ax_H) (w : ax_H), g0 x0 x1 h = some w → ax_Met l G yX5_readPlain cX5_readPlain 4 none fr1 lo1 [va_rf x0, .int (Int32.ofInt x1)] h w none) (hg1 : ∀ (x0 : Option Nat) (x1 : Int) (h : ax_H) (w : ax_H), g1 x0 x1 h = some w → ax_Met l G yX5_readBoth cX5_readBoth 2 none fr1 lo1 [va_rf x0, .int (Int32.ofInt x1)] h w none) (hg2 : ∀ (x0 : Option Nat) (x1 : Int) (h : ax_H) (w : ax_H), g2 x0 x1 h = some w → ax_Met l G yX5_readTest cX5_readTest 2 none fr1 lo1 [va_rf x0, .int (Int32.ofInt x1)] h w none) (hSF : ax_SF G) (B : ax_BL l G X cX5_readPlain 4 RX5 fr lo) (Z : ax_Z X h0 none) (hn : X.2.2.2.2.2.2.2.2.1.name = yX5_readPlain.name) (x0 : Option Nat) (x1 : Int) {w : ax_H} (hl : ax_hl ls 4 [(0, .inr (.inr x0)), (1, .inl x1)]) (e : f_X5_readPlain_53 G.2.2 g0 g1 g2 x0 x1 h = some w) (hp : (fun w : ax_H => Q = ax_Q G X h0 w none) w) : ax_W G X Q h 53 ls [] := by
  unfold f_X5_readPlain_53 at e
  refine ax_aload_n B dX5_readPlain_53 rfl hl 0 rfl ?_
  refine ax_ivI (y := yX5_fine) (n := 0) (As := []) B kd5 (lw_V q2359 q2361 qs73 q133 q2362) (by decide +kernel) (by omega) (fun w1 e1 => mt_X5_fine l G hSF x0 _ w1 e1) rfl hl.size (by decide) dX5_readPlain_54 e (fun q1 e => ?_)
  refine ax_if_ne (tgt := 61) B dX5_readPlain_57 (by decide) e (fun e => ?_) (fun e => ?_)
  · have e8 := e
    have hp : Q = _ := hp
    subst hp
    exact ax_return B Z dX5_readPlain_60 e8
  · refine ax_aload_n B dX5_readPlain_61 rfl hl 0 rfl ?_
    refine ax_dup B dX5_readPlain_62 (va_rf_cat _) ?_
    refine ax_getI B ff_X5_207_5 (fun _ _ => rfl) dX5_readPlain_63 e (fun v2 e => ?_)
    refine ax_iconst B dX5_readPlain_66 ?_
    refine ax_iadd' B dX5_readPlain_67 ?_
    refine ax_putI B ff_X5_207_5 (Or.inl rfl) rfl dX5_readPlain_68 e (fun h3 e => ?_)
    refine ax_aload_n B dX5_readPlain_71 rfl hl 0 rfl ?_
    refine ax_iload_n B dX5_readPlain_72 rfl hl 1 rfl ?_
    refine ax_iconst B dX5_readPlain_73 ?_
    refine ax_iadd' B dX5_readPlain_74 ?_
    refine ax_ivV (y := yX5_readTest) (n := 1) (As := [.int (Int32.ofInt (x1 + 1))]) B kd5 (lw_V q2395 q2397 qs82 q133 q2398) (by decide +kernel) (by omega) (fun w1 e1 => hg2 x0 (x1 + 1) _ w1 e1) rfl hl.size (by decide) dX5_readPlain_75 e (fun h4 e => ?_)
    refine ax_aload_n B dX5_readPlain_78 rfl hl 0 rfl ?_
    refine ax_bipush B dX5_readPlain_79 (by decide) ?_
    refine ax_isI (y := yX5_sign) (n := 1) (As := [.int (Int32.ofInt 41)]) B (lw_S q2266 q2267 q133 q2268) (by decide +kernel) (by omega) (fun w1 e1 => mt_X5_sign l G hSF 41 _ w1 e1) rfl hl.size (by simp only [List.map_cons, List.map_nil, List.sum_cons, List.sum_nil, va_rf_cat, ax_catI, ax_catL]; decide) dX5_readPlain_81 e (fun q5 e => ?_)
    refine ax_ivV (y := yX5_must) (n := 1) (As := [.int (Int32.ofInt q5.1)]) B kd5 (lw_V q2379 q2381 qs78 q133 q2382) (by decide +kernel) (by omega) (fun w1 e1 => mt_X5_must l G hSF x0 q5.1 _ w1 e1) rfl hl.size (by decide) dX5_readPlain_84 e (fun h6 e => ?_)
    refine ax_goto (tgt := 133) B dX5_readPlain_87 (by decide) ?_
    have e8 := e
    have hp : Q = _ := hp
    subst hp
    exact ax_return B Z dX5_readPlain_133 e8
set_option maxHeartbeats 4000000 in
theorem w_X5_readPlain_128 {l : Launch} {G : ax_G} {X : ax_X} {Q : State → Prop} {h0 h : ax_H} {ls : Array Slot} {g0 : Option Nat → Int → ax_H → Option (ax_H)} {g1 : Option Nat → Int → ax_H → Option (ax_H)} {g2 : Option Nat → Int → ax_H → Option (ax_H)} {fr lo fr1 lo1 : Nat} (hF : fr1 + 1 ≤ fr ∧ 69 ≤ fr ∧ lo1 + 23 ≤ lo ∧ 1532 ≤ lo) (hg0 : ∀ (x0 : Option Nat) (x1 : Int) (h : ax_H) (w : ax_H), g0 x0 x1 h = some w → ax_Met l G yX5_readPlain cX5_readPlain 4 none fr1 lo1 [va_rf x0, .int (Int32.ofInt x1)] h w none) (hg1 : ∀ (x0 : Option Nat) (x1 : Int) (h : ax_H) (w : ax_H), g1 x0 x1 h = some w → ax_Met l G yX5_readBoth cX5_readBoth 2 none fr1 lo1 [va_rf x0, .int (Int32.ofInt x1)] h w none) (hg2 : ∀ (x0 : Option Nat) (x1 : Int) (h : ax_H) (w : ax_H), g2 x0 x1 h = some w → ax_Met l G yX5_readTest cX5_readTest 2 none fr1 lo1 [va_rf x0, .int (Int32.ofInt x1)] h w none) (hSF : ax_SF G) (B : ax_BL l G X cX5_readPlain 4 RX5 fr lo) (Z : ax_Z X h0 none) (hn : X.2.2.2.2.2.2.2.2.1.name = yX5_readPlain.name) (x0 : Option Nat) (x1 : Int) {w : ax_H} (hl : ax_hl ls 4 [(0, .inr (.inr x0)), (1, .inl x1)]) (e : f_X5_readPlain_128 G.2.2 g0 g1 g2 x0 x1 h = some w) (hp : (fun w : ax_H => Q = ax_Q G X h0 w none) w) : ax_W G X Q h 128 ls [] := by
  unfold f_X5_readPlain_128 at e
  refine ax_aload_n B dX5_readPlain_128 rfl hl 0 rfl ?_
  refine ax_iload_n B dX5_readPlain_129 rfl hl 1 rfl ?_
  refine ax_ivV (y := yX5_readSum) (n := 1) (As := [.int (Int32.ofInt x1)]) B kd5 (lw_V q2363 q2365 qs74 q133 q2366) (by decide +kernel) (by omega) (fun w1 e1 => mf_X5_readSum l G hSF 64 x0 x1 _ w1 e1) rfl hl.size (by decide) dX5_readPlain_130 e (fun h1 e => ?_)
  have e8 := e
  have hp : Q = _ := hp
  subst hp
  exact ax_return B Z dX5_readPlain_133 e8
set_option maxHeartbeats 4000000 in
theorem wb_X5_readPlain_2 {l : Launch} {G : ax_G} {X : ax_X} {Q : State → Prop} {h0 h : ax_H} {ls : Array Slot} {g0 : Option Nat → Int → ax_H → Option (ax_H)} {g1 : Option Nat → Int → ax_H → Option (ax_H)} {g2 : Option Nat → Int → ax_H → Option (ax_H)} {fr lo fr1 lo1 : Nat} (hF : fr1 + 1 ≤ fr ∧ 69 ≤ fr ∧ lo1 + 23 ≤ lo ∧ 1532 ≤ lo) (hg0 : ∀ (x0 : Option Nat) (x1 : Int) (h : ax_H) (w : ax_H), g0 x0 x1 h = some w → ax_Met l G yX5_readPlain cX5_readPlain 4 none fr1 lo1 [va_rf x0, .int (Int32.ofInt x1)] h w none) (hg1 : ∀ (x0 : Option Nat) (x1 : Int) (h : ax_H) (w : ax_H), g1 x0 x1 h = some w → ax_Met l G yX5_readBoth cX5_readBoth 2 none fr1 lo1 [va_rf x0, .int (Int32.ofInt x1)] h w none) (hg2 : ∀ (x0 : Option Nat) (x1 : Int) (h : ax_H) (w : ax_H), g2 x0 x1 h = some w → ax_Met l G yX5_readTest cX5_readTest 2 none fr1 lo1 [va_rf x0, .int (Int32.ofInt x1)] h w none) (hSF : ax_SF G) (B : ax_BL l G X cX5_readPlain 4 RX5 fr lo) (Z : ax_Z X h0 none) (hn : X.2.2.2.2.2.2.2.2.1.name = yX5_readPlain.name) (x0 : Option Nat) (x1 : Int) (x2 : Int) {w : (Int × ax_H) ⊕ (ax_H)} (hl : ax_hl ls 4 [(0, .inr (.inr x0)), (1, .inl x1), (2, .inl x2)]) (e : lb_X5_readPlain_2 G.2.2 g0 g1 g2 x0 x1 x2 h = some w) (hp : (ax_PL (pi_X5_readPlain_2 G X Q x0 x1) (fun w : ax_H => Q = ax_Q G X h0 w none)) w) : ax_W G X Q h 2 ls [] := by
  unfold lb_X5_readPlain_2 at e
  refine ax_iload_n B dX5_readPlain_2 rfl hl 2 rfl ?_
  refine ax_if_eq (tgt := 16) B dX5_readPlain_3 (by decide) e (fun e => ?_) (fun e => ?_)
  · obtain ⟨w, e9_1, rfl⟩ := Option.map_eq_some_iff.mp e
    have e := e9_1
    refine ax_aload_n B dX5_readPlain_16 rfl hl 0 rfl ?_
    refine ax_ivI (y := yX5_fine) (n := 0) (As := []) B kd5 (lw_V q2359 q2361 qs73 q133 q2362) (by decide +kernel) (by omega) (fun w1 e1 => mt_X5_fine l G hSF x0 _ w1 e1) rfl hl.size (by decide) dX5_readPlain_17 e (fun q1 e => ?_)
    refine ax_if_ne (tgt := 24) B dX5_readPlain_20 (by decide) e (fun e => ?_) (fun e => ?_)
    · have e8 := e
      have hp : Q = _ := hp
      subst hp
      exact ax_return B Z dX5_readPlain_23 e8
    · refine ax_aload_n B dX5_readPlain_24 rfl hl 0 rfl ?_
      refine ax_getR B ff_X5_50_5 (fun _ _ => rfl) dX5_readPlain_25 e (fun v2 e => ?_)
      refine ax_aload_n B dX5_readPlain_28 rfl hl 0 rfl ?_
      refine ax_getI B ff_X5_207_5 (fun _ _ => rfl) dX5_readPlain_29 e (fun v3 e => ?_)
      refine ax_iald B kd100 dX5_readPlain_32 e (fun v4 e => ?_)
      refine ax_istore_n (L' := [(3, .inl v4), (0, .inr (.inr x0)), (1, .inl x1), (2, .inl x2)]) B dX5_readPlain_33 rfl hl (by decide) rfl (fun ls hl => ?_)
      refine ax_iload_n B dX5_readPlain_34 rfl hl 0 rfl ?_
      refine ax_bipush B dX5_readPlain_35 (by decide) ?_
      refine ax_isI (y := yX5_sign) (n := 1) (As := [.int (Int32.ofInt 40)]) B (lw_S q2266 q2267 q133 q2268) (by decide +kernel) (by omega) (fun w1 e1 => mt_X5_sign l G hSF 40 _ w1 e1) rfl hl.size (by simp only [List.map_cons, List.map_nil, List.sum_cons, List.sum_nil, va_rf_cat, ax_catI, ax_catL]; decide) dX5_readPlain_37 e (fun q5 e => ?_)
      refine ax_icmp_ne (tgt := 90) B dX5_readPlain_40 (by decide) e (fun e => ?_) (fun e => ?_)
      · refine ax_iload_n B dX5_readPlain_43 rfl hl 2 rfl ?_
        refine ax_bipush B dX5_readPlain_44 (by decide) ?_
        refine ax_icmp_ne (tgt := 53) B dX5_readPlain_46 (by decide) e (fun e => ?_) (fun e => ?_)
        · refine ax_aload_n B dX5_readPlain_49 rfl hl 1 rfl ?_
          refine ax_ivV (y := yX5_faults) (n := 0) (As := []) B kd5 (lw_V q2375 q2377 qs77 q133 q2378) (by decide +kernel) (by omega) (fun w1 e1 => mt_X5_faults l G hSF x0 _ w1 e1) rfl hl.size (by decide) dX5_readPlain_50 e (fun h6 e => ?_)
          exact w_X5_readPlain_53 hF hg0 hg1 hg2 hSF B Z hn x0 x1 (hl.sub [1, 2] rfl) e hp
        · exact w_X5_readPlain_53 hF hg0 hg1 hg2 hSF B Z hn x0 x1 (hl.sub [1, 2] rfl) e hp
      · refine ax_aload_n B dX5_readPlain_90 rfl hl 1 rfl ?_
        refine ax_iload_n B dX5_readPlain_91 rfl hl 2 rfl ?_
        refine ax_ivV (y := yX5_readSum) (n := 1) (As := [.int (Int32.ofInt x1)]) B kd5 (lw_V q2363 q2365 qs74 q133 q2366) (by decide +kernel) (by omega) (fun w1 e1 => mf_X5_readSum l G hSF 64 x0 x1 _ w1 e1) rfl hl.size (by decide) dX5_readPlain_92 e (fun h7 e => ?_)
        refine ax_aload_n B dX5_readPlain_95 rfl hl 1 rfl ?_
        refine ax_bipush B dX5_readPlain_96 (by decide) ?_
        refine ax_isI (y := yX5_sign) (n := 1) (As := [.int (Int32.ofInt 60)]) B (lw_S q2266 q2267 q133 q2268) (by decide +kernel) (by omega) (fun w1 e1 => mt_X5_sign l G hSF 60 _ w1 e1) rfl hl.size (by simp only [List.map_cons, List.map_nil, List.sum_cons, List.sum_nil, va_rf_cat, ax_catI, ax_catL]; decide) dX5_readPlain_98 e (fun q8 e => ?_)
        refine ax_ivI (y := yX5_takes0) (n := 1) (As := [.int (Int32.ofInt q8.1)]) B kd5 (lw_V q2355 q2357 qs72 q133 q2358) (by decide +kernel) (by omega) (fun w1 e1 => mt_X5_takes0 l G hSF x0 q8.1 _ w1 e1) rfl hl.size (by decide) dX5_readPlain_101 e (fun q9 e => ?_)
        refine ax_if_ne (tgt := 128) B dX5_readPlain_104 (by decide) e (fun e => ?_) (fun e => ?_)
        · refine ax_aload_n B dX5_readPlain_107 rfl hl 1 rfl ?_
          refine ax_bipush B dX5_readPlain_108 (by decide) ?_
          refine ax_isI (y := yX5_sign) (n := 1) (As := [.int (Int32.ofInt 62)]) B (lw_S q2266 q2267 q133 q2268) (by decide +kernel) (by omega) (fun w1 e1 => mt_X5_sign l G hSF 62 _ w1 e1) rfl hl.size (by simp only [List.map_cons, List.map_nil, List.sum_cons, List.sum_nil, va_rf_cat, ax_catI, ax_catL]; decide) dX5_readPlain_110 e (fun q10 e => ?_)
          refine ax_ivI (y := yX5_takes0) (n := 1) (As := [.int (Int32.ofInt q10.1)]) B kd5 (lw_V q2355 q2357 qs72 q133 q2358) (by decide +kernel) (by omega) (fun w1 e1 => mt_X5_takes0 l G hSF x0 q10.1 _ w1 e1) rfl hl.size (by decide) dX5_readPlain_113 e (fun q11 e => ?_)
          refine ax_if_ne (tgt := 128) B dX5_readPlain_116 (by decide) e (fun e => ?_) (fun e => ?_)
          · refine ax_aload_n B dX5_readPlain_119 rfl hl 1 rfl ?_
            refine ax_bipush B dX5_readPlain_120 (by decide) ?_
            refine ax_isI (y := yX5_sign) (n := 1) (As := [.int (Int32.ofInt 61)]) B (lw_S q2266 q2267 q133 q2268) (by decide +kernel) (by omega) (fun w1 e1 => mt_X5_sign l G hSF 61 _ w1 e1) rfl hl.size (by simp only [List.map_cons, List.map_nil, List.sum_cons, List.sum_nil, va_rf_cat, ax_catI, ax_catL]; decide) dX5_readPlain_122 e (fun q12 e => ?_)
            refine ax_ivV (y := yX5_must) (n := 1) (As := [.int (Int32.ofInt q12.1)]) B kd5 (lw_V q2379 q2381 qs78 q133 q2382) (by decide +kernel) (by omega) (fun w1 e1 => mt_X5_must l G hSF x0 q12.1 _ w1 e1) rfl hl.size (by decide) dX5_readPlain_125 e (fun h13 e => ?_)
            exact w_X5_readPlain_128 hF hg0 hg1 hg2 hSF B Z hn x0 x1 (hl.sub [1, 2] rfl) e hp
          · exact w_X5_readPlain_128 hF hg0 hg1 hg2 hSF B Z hn x0 x1 (hl.sub [1, 2] rfl) e hp
        · exact w_X5_readPlain_128 hF hg0 hg1 hg2 hSF B Z hn x0 x1 (hl.sub [1, 2] rfl) e hp
  · refine ax_aload_n B dX5_readPlain_6 rfl hl 0 rfl ?_
    refine ax_bipush B dX5_readPlain_7 (by decide) ?_
    refine ax_ivI (y := yX5_takes0) (n := 1) (As := [.int (Int32.ofInt 8)]) B kd5 (lw_V q2355 q2357 qs72 q133 q2358) (by decide +kernel) (by omega) (fun w1 e1 => mt_X5_takes0 l G hSF x0 8 _ w1 e1) rfl hl.size (by decide) dX5_readPlain_9 e (fun q14 e => ?_)
    refine ax_istore_n (L' := [(2, .inl q14.1), (0, .inr (.inr x0)), (1, .inl x1)]) B dX5_readPlain_12 rfl hl (by decide) rfl (fun ls hl => ?_)
    refine ax_goto (tgt := 2) B dX5_readPlain_13 (by decide) ?_
    cases e
    exact hp _ (hl.sub [1, 2, 0] rfl)
theorem w_X5_readPlain_2 {l : Launch} {G : ax_G} {X : ax_X} {Q : State → Prop} {h0 h : ax_H} {ls : Array Slot} {g0 : Option Nat → Int → ax_H → Option (ax_H)} {g1 : Option Nat → Int → ax_H → Option (ax_H)} {g2 : Option Nat → Int → ax_H → Option (ax_H)} {fr lo fr1 lo1 : Nat} (hF : fr1 + 1 ≤ fr ∧ 69 ≤ fr ∧ lo1 + 23 ≤ lo ∧ 1532 ≤ lo) (hg0 : ∀ (x0 : Option Nat) (x1 : Int) (h : ax_H) (w : ax_H), g0 x0 x1 h = some w → ax_Met l G yX5_readPlain cX5_readPlain 4 none fr1 lo1 [va_rf x0, .int (Int32.ofInt x1)] h w none) (hg1 : ∀ (x0 : Option Nat) (x1 : Int) (h : ax_H) (w : ax_H), g1 x0 x1 h = some w → ax_Met l G yX5_readBoth cX5_readBoth 2 none fr1 lo1 [va_rf x0, .int (Int32.ofInt x1)] h w none) (hg2 : ∀ (x0 : Option Nat) (x1 : Int) (h : ax_H) (w : ax_H), g2 x0 x1 h = some w → ax_Met l G yX5_readTest cX5_readTest 2 none fr1 lo1 [va_rf x0, .int (Int32.ofInt x1)] h w none) (hSF : ax_SF G) (B : ax_BL l G X cX5_readPlain 4 RX5 fr lo) (Z : ax_Z X h0 none) (hn : X.2.2.2.2.2.2.2.2.1.name = yX5_readPlain.name) (x0 : Option Nat) (x1 : Int) (x2 : Int) {w : ax_H} (hl : ax_hl ls 4 [(0, .inr (.inr x0)), (1, .inl x1), (2, .inl x2)]) (e : f_X5_readPlain_2 G.2.2 g0 g1 g2 x0 x1 x2 h = some w) (hp : (fun w : ax_H => Q = ax_Q G X h0 w none) w) : ax_W G X Q h 2 ls [] :=
  ax_iter_W (Pin := pi_X5_readPlain_2 G X Q x0 x1) (Pout := (fun w : ax_H => Q = ax_Q G X h0 w none)) (fun s w e hp ls hl => wb_X5_readPlain_2 hF hg0 hg1 hg2 hSF B Z hn x0 x1 s.1 hl e hp) _ _ e hp ls hl
set_option maxHeartbeats 4000000 in
theorem we_X5_readPlain {l : Launch} {G : ax_G} {X : ax_X} {Q : State → Prop} {h0 h : ax_H} {ls : Array Slot} {g0 : Option Nat → Int → ax_H → Option (ax_H)} {g1 : Option Nat → Int → ax_H → Option (ax_H)} {g2 : Option Nat → Int → ax_H → Option (ax_H)} {fr lo fr1 lo1 : Nat} (hF : fr1 + 1 ≤ fr ∧ 69 ≤ fr ∧ lo1 + 23 ≤ lo ∧ 1532 ≤ lo) (hg0 : ∀ (x0 : Option Nat) (x1 : Int) (h : ax_H) (w : ax_H), g0 x0 x1 h = some w → ax_Met l G yX5_readPlain cX5_readPlain 4 none fr1 lo1 [va_rf x0, .int (Int32.ofInt x1)] h w none) (hg1 : ∀ (x0 : Option Nat) (x1 : Int) (h : ax_H) (w : ax_H), g1 x0 x1 h = some w → ax_Met l G yX5_readBoth cX5_readBoth 2 none fr1 lo1 [va_rf x0, .int (Int32.ofInt x1)] h w none) (hg2 : ∀ (x0 : Option Nat) (x1 : Int) (h : ax_H) (w : ax_H), g2 x0 x1 h = some w → ax_Met l G yX5_readTest cX5_readTest 2 none fr1 lo1 [va_rf x0, .int (Int32.ofInt x1)] h w none) (hSF : ax_SF G) (B : ax_BL l G X cX5_readPlain 4 RX5 fr lo) (Z : ax_Z X h0 none) (hn : X.2.2.2.2.2.2.2.2.1.name = yX5_readPlain.name) (x0 : Option Nat) (x1 : Int) {w : ax_H} (hl : ax_hl ls 4 [(0, .inr (.inr x0)), (1, .inl x1)]) (e : f_X5_readPlain G.2.2 g0 g1 g2 x0 x1 h = some w) (hp : (fun w : ax_H => Q = ax_Q G X h0 w none) w) : ax_W G X Q h 0 ls [] := by
  unfold f_X5_readPlain at e
  refine ax_iconst B dX5_readPlain_0 ?_
  refine ax_istore_n (L' := [(2, .inl 1), (0, .inr (.inr x0)), (1, .inl x1)]) B dX5_readPlain_1 rfl hl (by decide) rfl (fun ls hl => ?_)
  exact w_X5_readPlain_2 hF hg0 hg1 hg2 hSF B Z hn x0 x1 1 (hl.sub [1, 2, 0] rfl) e hp
theorem mt_X5_readPlain (l : Launch) (G : ax_G) (hSF : ax_SF G) {g0 : Option Nat → Int → ax_H → Option (ax_H)} {g1 : Option Nat → Int → ax_H → Option (ax_H)} {g2 : Option Nat → Int → ax_H → Option (ax_H)} {fr lo fr1 lo1 : Nat} (hF : fr1 + 1 ≤ fr ∧ 69 ≤ fr ∧ lo1 + 23 ≤ lo ∧ 1532 ≤ lo) (hg0 : ∀ (x0 : Option Nat) (x1 : Int) (h : ax_H) (w : ax_H), g0 x0 x1 h = some w → ax_Met l G yX5_readPlain cX5_readPlain 4 none fr1 lo1 [va_rf x0, .int (Int32.ofInt x1)] h w none) (hg1 : ∀ (x0 : Option Nat) (x1 : Int) (h : ax_H) (w : ax_H), g1 x0 x1 h = some w → ax_Met l G yX5_readBoth cX5_readBoth 2 none fr1 lo1 [va_rf x0, .int (Int32.ofInt x1)] h w none) (hg2 : ∀ (x0 : Option Nat) (x1 : Int) (h : ax_H) (w : ax_H), g2 x0 x1 h = some w → ax_Met l G yX5_readTest cX5_readTest 2 none fr1 lo1 [va_rf x0, .int (Int32.ofInt x1)] h w none) (x0 : Option Nat) (x1 : Int) (h : ax_H) (w : ax_H) (e : f_X5_readPlain G.2.2 g0 g1 g2 x0 x1 h = some w) : ax_Met l G yX5_readPlain cX5_readPlain 4 none fr lo [va_rf x0, .int (Int32.ofInt x1)] h w none :=
  ax_enter [.inr (.inr x0), .inl x1] (y := yX5_readPlain) hSF (plainFor_of_name (by decide +kernel)) (Nat.le_of_ble_eq_true rfl) (fun X ls B Z hn hl => we_X5_readPlain hF hg0 hg1 hg2 hSF B Z hn x0 x1 hl e rfl)
def pi_X5_readBoth_5 (G : ax_G) (X : ax_X) (Q : State → Prop) (x0 : Option Nat) (x1 : Int) : ax_H → Prop := fun s => ∀ ls : Array Slot, ax_hl ls 2 [(0, .inr (.inr x0)), (1, .inl x1)] → ax_W G X Q s 5 ls []
set_option maxHeartbeats 4000000 in
theorem wb_X5_readBoth_5 {l : Launch} {G : ax_G} {X : ax_X} {Q : State → Prop} {h0 h : ax_H} {ls : Array Slot} {g0 : Option Nat → Int → ax_H → Option (ax_H)} {g1 : Option Nat → Int → ax_H → Option (ax_H)} {g2 : Option Nat → Int → ax_H → Option (ax_H)} {fr lo fr1 lo1 : Nat} (hF : fr1 + 1 ≤ fr ∧ 69 ≤ fr ∧ lo1 + 23 ≤ lo ∧ 1532 ≤ lo) (hg0 : ∀ (x0 : Option Nat) (x1 : Int) (h : ax_H) (w : ax_H), g0 x0 x1 h = some w → ax_Met l G yX5_readPlain cX5_readPlain 4 none fr1 lo1 [va_rf x0, .int (Int32.ofInt x1)] h w none) (hg1 : ∀ (x0 : Option Nat) (x1 : Int) (h : ax_H) (w : ax_H), g1 x0 x1 h = some w → ax_Met l G yX5_readBoth cX5_readBoth 2 none fr1 lo1 [va_rf x0, .int (Int32.ofInt x1)] h w none) (hg2 : ∀ (x0 : Option Nat) (x1 : Int) (h : ax_H) (w : ax_H), g2 x0 x1 h = some w → ax_Met l G yX5_readTest cX5_readTest 2 none fr1 lo1 [va_rf x0, .int (Int32.ofInt x1)] h w none) (hSF : ax_SF G) (B : ax_BL l G X cX5_readBoth 2 RX5 fr lo) (Z : ax_Z X h0 none) (hn : X.2.2.2.2.2.2.2.2.1.name = yX5_readBoth.name) (x0 : Option Nat) (x1 : Int) {w : (ax_H) ⊕ (ax_H)} (hl : ax_hl ls 2 [(0, .inr (.inr x0)), (1, .inl x1)]) (e : lb_X5_readBoth_5 G.2.2 g0 g1 g2 x0 x1 h = some w) (hp : (ax_PL (pi_X5_readBoth_5 G X Q x0 x1) (fun w : ax_H => Q = ax_Q G X h0 w none)) w) : ax_W G X Q h 5 ls [] := by
  unfold lb_X5_readBoth_5 at e
  refine ax_aload_n B dX5_readBoth_5 rfl hl 0 rfl ?_
  refine ax_bipush B dX5_readBoth_6 (by decide) ?_
  refine ax_ivI (y := yX5_takes0) (n := 1) (As := [.int (Int32.ofInt 7)]) B kd5 (lw_V q2355 q2357 qs72 q133 q2358) (by decide +kernel) (by omega) (fun w1 e1 => mt_X5_takes0 l G hSF x0 7 _ w1 e1) rfl hl.size (by decide) dX5_readBoth_8 e (fun q1 e => ?_)
  refine ax_if_eq (tgt := 22) B dX5_readBoth_11 (by decide) e (fun e => ?_) (fun e => ?_)
  · obtain ⟨w, e9_1, rfl⟩ := Option.map_eq_some_iff.mp e
    have e := e9_1
    have e8 := e
    have hp : Q = _ := hp
    subst hp
    exact ax_return B Z dX5_readBoth_22 e8
  · refine ax_aload_n B dX5_readBoth_14 rfl hl 0 rfl ?_
    refine ax_iload_n B dX5_readBoth_15 rfl hl 1 rfl ?_
    refine ax_ivV (y := yX5_readPlain) (n := 1) (As := [.int (Int32.ofInt x1)]) B kd5 (lw_V q2403 q2405 qs84 q133 q2406) (by decide +kernel) (by omega) (fun w1 e1 => hg0 x0 x1 _ w1 e1) rfl hl.size (by decide) dX5_readBoth_16 e (fun h2 e => ?_)
    refine ax_goto (tgt := 5) B dX5_readBoth_19 (by decide) ?_
    cases e
    exact hp _ (hl.sub [0, 1] rfl)
theorem w_X5_readBoth_5 {l : Launch} {G : ax_G} {X : ax_X} {Q : State → Prop} {h0 h : ax_H} {ls : Array Slot} {g0 : Option Nat → Int → ax_H → Option (ax_H)} {g1 : Option Nat → Int → ax_H → Option (ax_H)} {g2 : Option Nat → Int → ax_H → Option (ax_H)} {fr lo fr1 lo1 : Nat} (hF : fr1 + 1 ≤ fr ∧ 69 ≤ fr ∧ lo1 + 23 ≤ lo ∧ 1532 ≤ lo) (hg0 : ∀ (x0 : Option Nat) (x1 : Int) (h : ax_H) (w : ax_H), g0 x0 x1 h = some w → ax_Met l G yX5_readPlain cX5_readPlain 4 none fr1 lo1 [va_rf x0, .int (Int32.ofInt x1)] h w none) (hg1 : ∀ (x0 : Option Nat) (x1 : Int) (h : ax_H) (w : ax_H), g1 x0 x1 h = some w → ax_Met l G yX5_readBoth cX5_readBoth 2 none fr1 lo1 [va_rf x0, .int (Int32.ofInt x1)] h w none) (hg2 : ∀ (x0 : Option Nat) (x1 : Int) (h : ax_H) (w : ax_H), g2 x0 x1 h = some w → ax_Met l G yX5_readTest cX5_readTest 2 none fr1 lo1 [va_rf x0, .int (Int32.ofInt x1)] h w none) (hSF : ax_SF G) (B : ax_BL l G X cX5_readBoth 2 RX5 fr lo) (Z : ax_Z X h0 none) (hn : X.2.2.2.2.2.2.2.2.1.name = yX5_readBoth.name) (x0 : Option Nat) (x1 : Int) {w : ax_H} (hl : ax_hl ls 2 [(0, .inr (.inr x0)), (1, .inl x1)]) (e : f_X5_readBoth_5 G.2.2 g0 g1 g2 x0 x1 h = some w) (hp : (fun w : ax_H => Q = ax_Q G X h0 w none) w) : ax_W G X Q h 5 ls [] :=
  ax_iter_W (Pin := pi_X5_readBoth_5 G X Q x0 x1) (Pout := (fun w : ax_H => Q = ax_Q G X h0 w none)) (fun s w e hp ls hl => wb_X5_readBoth_5 hF hg0 hg1 hg2 hSF B Z hn x0 x1 hl e hp) _ _ e hp ls hl
set_option maxHeartbeats 4000000 in
theorem we_X5_readBoth {l : Launch} {G : ax_G} {X : ax_X} {Q : State → Prop} {h0 h : ax_H} {ls : Array Slot} {g0 : Option Nat → Int → ax_H → Option (ax_H)} {g1 : Option Nat → Int → ax_H → Option (ax_H)} {g2 : Option Nat → Int → ax_H → Option (ax_H)} {fr lo fr1 lo1 : Nat} (hF : fr1 + 1 ≤ fr ∧ 69 ≤ fr ∧ lo1 + 23 ≤ lo ∧ 1532 ≤ lo) (hg0 : ∀ (x0 : Option Nat) (x1 : Int) (h : ax_H) (w : ax_H), g0 x0 x1 h = some w → ax_Met l G yX5_readPlain cX5_readPlain 4 none fr1 lo1 [va_rf x0, .int (Int32.ofInt x1)] h w none) (hg1 : ∀ (x0 : Option Nat) (x1 : Int) (h : ax_H) (w : ax_H), g1 x0 x1 h = some w → ax_Met l G yX5_readBoth cX5_readBoth 2 none fr1 lo1 [va_rf x0, .int (Int32.ofInt x1)] h w none) (hg2 : ∀ (x0 : Option Nat) (x1 : Int) (h : ax_H) (w : ax_H), g2 x0 x1 h = some w → ax_Met l G yX5_readTest cX5_readTest 2 none fr1 lo1 [va_rf x0, .int (Int32.ofInt x1)] h w none) (hSF : ax_SF G) (B : ax_BL l G X cX5_readBoth 2 RX5 fr lo) (Z : ax_Z X h0 none) (hn : X.2.2.2.2.2.2.2.2.1.name = yX5_readBoth.name) (x0 : Option Nat) (x1 : Int) {w : ax_H} (hl : ax_hl ls 2 [(0, .inr (.inr x0)), (1, .inl x1)]) (e : f_X5_readBoth G.2.2 g0 g1 g2 x0 x1 h = some w) (hp : (fun w : ax_H => Q = ax_Q G X h0 w none) w) : ax_W G X Q h 0 ls [] := by
  unfold f_X5_readBoth at e
  refine ax_aload_n B dX5_readBoth_0 rfl hl 0 rfl ?_
  refine ax_iload_n B dX5_readBoth_1 rfl hl 1 rfl ?_
  refine ax_ivV (y := yX5_readPlain) (n := 1) (As := [.int (Int32.ofInt x1)]) B kd5 (lw_V q2403 q2405 qs84 q133 q2406) (by decide +kernel) (by omega) (fun w1 e1 => hg0 x0 x1 _ w1 e1) rfl hl.size (by decide) dX5_readBoth_2 e (fun h1 e => ?_)
  exact w_X5_readBoth_5 hF hg0 hg1 hg2 hSF B Z hn x0 x1 (hl.sub [0, 1] rfl) e hp
theorem mt_X5_readBoth (l : Launch) (G : ax_G) (hSF : ax_SF G) {g0 : Option Nat → Int → ax_H → Option (ax_H)} {g1 : Option Nat → Int → ax_H → Option (ax_H)} {g2 : Option Nat → Int → ax_H → Option (ax_H)} {fr lo fr1 lo1 : Nat} (hF : fr1 + 1 ≤ fr ∧ 69 ≤ fr ∧ lo1 + 23 ≤ lo ∧ 1532 ≤ lo) (hg0 : ∀ (x0 : Option Nat) (x1 : Int) (h : ax_H) (w : ax_H), g0 x0 x1 h = some w → ax_Met l G yX5_readPlain cX5_readPlain 4 none fr1 lo1 [va_rf x0, .int (Int32.ofInt x1)] h w none) (hg1 : ∀ (x0 : Option Nat) (x1 : Int) (h : ax_H) (w : ax_H), g1 x0 x1 h = some w → ax_Met l G yX5_readBoth cX5_readBoth 2 none fr1 lo1 [va_rf x0, .int (Int32.ofInt x1)] h w none) (hg2 : ∀ (x0 : Option Nat) (x1 : Int) (h : ax_H) (w : ax_H), g2 x0 x1 h = some w → ax_Met l G yX5_readTest cX5_readTest 2 none fr1 lo1 [va_rf x0, .int (Int32.ofInt x1)] h w none) (x0 : Option Nat) (x1 : Int) (h : ax_H) (w : ax_H) (e : f_X5_readBoth G.2.2 g0 g1 g2 x0 x1 h = some w) : ax_Met l G yX5_readBoth cX5_readBoth 2 none fr lo [va_rf x0, .int (Int32.ofInt x1)] h w none :=
  ax_enter [.inr (.inr x0), .inl x1] (y := yX5_readBoth) hSF (plainFor_of_name (by decide +kernel)) (Nat.le_of_ble_eq_true rfl) (fun X ls B Z hn hl => we_X5_readBoth hF hg0 hg1 hg2 hSF B Z hn x0 x1 hl e rfl)
def pi_X5_readTest_5 (G : ax_G) (X : ax_X) (Q : State → Prop) (x0 : Option Nat) (x1 : Int) : ax_H → Prop := fun s => ∀ ls : Array Slot, ax_hl ls 2 [(0, .inr (.inr x0)), (1, .inl x1)] → ax_W G X Q s 5 ls []
set_option maxHeartbeats 4000000 in
theorem wb_X5_readTest_5 {l : Launch} {G : ax_G} {X : ax_X} {Q : State → Prop} {h0 h : ax_H} {ls : Array Slot} {g0 : Option Nat → Int → ax_H → Option (ax_H)} {g1 : Option Nat → Int → ax_H → Option (ax_H)} {g2 : Option Nat → Int → ax_H → Option (ax_H)} {fr lo fr1 lo1 : Nat} (hF : fr1 + 1 ≤ fr ∧ 69 ≤ fr ∧ lo1 + 23 ≤ lo ∧ 1532 ≤ lo) (hg0 : ∀ (x0 : Option Nat) (x1 : Int) (h : ax_H) (w : ax_H), g0 x0 x1 h = some w → ax_Met l G yX5_readPlain cX5_readPlain 4 none fr1 lo1 [va_rf x0, .int (Int32.ofInt x1)] h w none) (hg1 : ∀ (x0 : Option Nat) (x1 : Int) (h : ax_H) (w : ax_H), g1 x0 x1 h = some w → ax_Met l G yX5_readBoth cX5_readBoth 2 none fr1 lo1 [va_rf x0, .int (Int32.ofInt x1)] h w none) (hg2 : ∀ (x0 : Option Nat) (x1 : Int) (h : ax_H) (w : ax_H), g2 x0 x1 h = some w → ax_Met l G yX5_readTest cX5_readTest 2 none fr1 lo1 [va_rf x0, .int (Int32.ofInt x1)] h w none) (hSF : ax_SF G) (B : ax_BL l G X cX5_readTest 2 RX5 fr lo) (Z : ax_Z X h0 none) (hn : X.2.2.2.2.2.2.2.2.1.name = yX5_readTest.name) (x0 : Option Nat) (x1 : Int) {w : (ax_H) ⊕ (ax_H)} (hl : ax_hl ls 2 [(0, .inr (.inr x0)), (1, .inl x1)]) (e : lb_X5_readTest_5 G.2.2 g0 g1 g2 x0 x1 h = some w) (hp : (ax_PL (pi_X5_readTest_5 G X Q x0 x1) (fun w : ax_H => Q = ax_Q G X h0 w none)) w) : ax_W G X Q h 5 ls [] := by
  unfold lb_X5_readTest_5 at e
  refine ax_aload_n B dX5_readTest_5 rfl hl 0 rfl ?_
  refine ax_bipush B dX5_readTest_6 (by decide) ?_
  refine ax_ivI (y := yX5_takes0) (n := 1) (As := [.int (Int32.ofInt 6)]) B kd5 (lw_V q2355 q2357 qs72 q133 q2358) (by decide +kernel) (by omega) (fun w1 e1 => mt_X5_takes0 l G hSF x0 6 _ w1 e1) rfl hl.size (by decide) dX5_readTest_8 e (fun q1 e => ?_)
  refine ax_if_eq (tgt := 22) B dX5_readTest_11 (by decide) e (fun e => ?_) (fun e => ?_)
  · obtain ⟨w, e9_1, rfl⟩ := Option.map_eq_some_iff.mp e
    have e := e9_1
    have e8 := e
    have hp : Q = _ := hp
    subst hp
    exact ax_return B Z dX5_readTest_22 e8
  · refine ax_aload_n B dX5_readTest_14 rfl hl 0 rfl ?_
    refine ax_iload_n B dX5_readTest_15 rfl hl 1 rfl ?_
    refine ax_ivV (y := yX5_readBoth) (n := 1) (As := [.int (Int32.ofInt x1)]) B kd5 (lw_V q2399 q2401 qs83 q133 q2402) (by decide +kernel) (by omega) (fun w1 e1 => hg1 x0 x1 _ w1 e1) rfl hl.size (by decide) dX5_readTest_16 e (fun h2 e => ?_)
    refine ax_goto (tgt := 5) B dX5_readTest_19 (by decide) ?_
    cases e
    exact hp _ (hl.sub [0, 1] rfl)
theorem w_X5_readTest_5 {l : Launch} {G : ax_G} {X : ax_X} {Q : State → Prop} {h0 h : ax_H} {ls : Array Slot} {g0 : Option Nat → Int → ax_H → Option (ax_H)} {g1 : Option Nat → Int → ax_H → Option (ax_H)} {g2 : Option Nat → Int → ax_H → Option (ax_H)} {fr lo fr1 lo1 : Nat} (hF : fr1 + 1 ≤ fr ∧ 69 ≤ fr ∧ lo1 + 23 ≤ lo ∧ 1532 ≤ lo) (hg0 : ∀ (x0 : Option Nat) (x1 : Int) (h : ax_H) (w : ax_H), g0 x0 x1 h = some w → ax_Met l G yX5_readPlain cX5_readPlain 4 none fr1 lo1 [va_rf x0, .int (Int32.ofInt x1)] h w none) (hg1 : ∀ (x0 : Option Nat) (x1 : Int) (h : ax_H) (w : ax_H), g1 x0 x1 h = some w → ax_Met l G yX5_readBoth cX5_readBoth 2 none fr1 lo1 [va_rf x0, .int (Int32.ofInt x1)] h w none) (hg2 : ∀ (x0 : Option Nat) (x1 : Int) (h : ax_H) (w : ax_H), g2 x0 x1 h = some w → ax_Met l G yX5_readTest cX5_readTest 2 none fr1 lo1 [va_rf x0, .int (Int32.ofInt x1)] h w none) (hSF : ax_SF G) (B : ax_BL l G X cX5_readTest 2 RX5 fr lo) (Z : ax_Z X h0 none) (hn : X.2.2.2.2.2.2.2.2.1.name = yX5_readTest.name) (x0 : Option Nat) (x1 : Int) {w : ax_H} (hl : ax_hl ls 2 [(0, .inr (.inr x0)), (1, .inl x1)]) (e : f_X5_readTest_5 G.2.2 g0 g1 g2 x0 x1 h = some w) (hp : (fun w : ax_H => Q = ax_Q G X h0 w none) w) : ax_W G X Q h 5 ls [] :=
  ax_iter_W (Pin := pi_X5_readTest_5 G X Q x0 x1) (Pout := (fun w : ax_H => Q = ax_Q G X h0 w none)) (fun s w e hp ls hl => wb_X5_readTest_5 hF hg0 hg1 hg2 hSF B Z hn x0 x1 hl e hp) _ _ e hp ls hl
set_option maxHeartbeats 4000000 in
theorem we_X5_readTest {l : Launch} {G : ax_G} {X : ax_X} {Q : State → Prop} {h0 h : ax_H} {ls : Array Slot} {g0 : Option Nat → Int → ax_H → Option (ax_H)} {g1 : Option Nat → Int → ax_H → Option (ax_H)} {g2 : Option Nat → Int → ax_H → Option (ax_H)} {fr lo fr1 lo1 : Nat} (hF : fr1 + 1 ≤ fr ∧ 69 ≤ fr ∧ lo1 + 23 ≤ lo ∧ 1532 ≤ lo) (hg0 : ∀ (x0 : Option Nat) (x1 : Int) (h : ax_H) (w : ax_H), g0 x0 x1 h = some w → ax_Met l G yX5_readPlain cX5_readPlain 4 none fr1 lo1 [va_rf x0, .int (Int32.ofInt x1)] h w none) (hg1 : ∀ (x0 : Option Nat) (x1 : Int) (h : ax_H) (w : ax_H), g1 x0 x1 h = some w → ax_Met l G yX5_readBoth cX5_readBoth 2 none fr1 lo1 [va_rf x0, .int (Int32.ofInt x1)] h w none) (hg2 : ∀ (x0 : Option Nat) (x1 : Int) (h : ax_H) (w : ax_H), g2 x0 x1 h = some w → ax_Met l G yX5_readTest cX5_readTest 2 none fr1 lo1 [va_rf x0, .int (Int32.ofInt x1)] h w none) (hSF : ax_SF G) (B : ax_BL l G X cX5_readTest 2 RX5 fr lo) (Z : ax_Z X h0 none) (hn : X.2.2.2.2.2.2.2.2.1.name = yX5_readTest.name) (x0 : Option Nat) (x1 : Int) {w : ax_H} (hl : ax_hl ls 2 [(0, .inr (.inr x0)), (1, .inl x1)]) (e : f_X5_readTest G.2.2 g0 g1 g2 x0 x1 h = some w) (hp : (fun w : ax_H => Q = ax_Q G X h0 w none) w) : ax_W G X Q h 0 ls [] := by
  unfold f_X5_readTest at e
  refine ax_aload_n B dX5_readTest_0 rfl hl 0 rfl ?_
  refine ax_iload_n B dX5_readTest_1 rfl hl 1 rfl ?_
  refine ax_ivV (y := yX5_readBoth) (n := 1) (As := [.int (Int32.ofInt x1)]) B kd5 (lw_V q2399 q2401 qs83 q133 q2402) (by decide +kernel) (by omega) (fun w1 e1 => hg1 x0 x1 _ w1 e1) rfl hl.size (by decide) dX5_readTest_2 e (fun h1 e => ?_)
  exact w_X5_readTest_5 hF hg0 hg1 hg2 hSF B Z hn x0 x1 (hl.sub [0, 1] rfl) e hp
theorem mt_X5_readTest (l : Launch) (G : ax_G) (hSF : ax_SF G) {g0 : Option Nat → Int → ax_H → Option (ax_H)} {g1 : Option Nat → Int → ax_H → Option (ax_H)} {g2 : Option Nat → Int → ax_H → Option (ax_H)} {fr lo fr1 lo1 : Nat} (hF : fr1 + 1 ≤ fr ∧ 69 ≤ fr ∧ lo1 + 23 ≤ lo ∧ 1532 ≤ lo) (hg0 : ∀ (x0 : Option Nat) (x1 : Int) (h : ax_H) (w : ax_H), g0 x0 x1 h = some w → ax_Met l G yX5_readPlain cX5_readPlain 4 none fr1 lo1 [va_rf x0, .int (Int32.ofInt x1)] h w none) (hg1 : ∀ (x0 : Option Nat) (x1 : Int) (h : ax_H) (w : ax_H), g1 x0 x1 h = some w → ax_Met l G yX5_readBoth cX5_readBoth 2 none fr1 lo1 [va_rf x0, .int (Int32.ofInt x1)] h w none) (hg2 : ∀ (x0 : Option Nat) (x1 : Int) (h : ax_H) (w : ax_H), g2 x0 x1 h = some w → ax_Met l G yX5_readTest cX5_readTest 2 none fr1 lo1 [va_rf x0, .int (Int32.ofInt x1)] h w none) (x0 : Option Nat) (x1 : Int) (h : ax_H) (w : ax_H) (e : f_X5_readTest G.2.2 g0 g1 g2 x0 x1 h = some w) : ax_Met l G yX5_readTest cX5_readTest 2 none fr lo [va_rf x0, .int (Int32.ofInt x1)] h w none :=
  ax_enter [.inr (.inr x0), .inl x1] (y := yX5_readTest) hSF (plainFor_of_name (by decide +kernel)) (Nat.le_of_ble_eq_true rfl) (fun X ls B Z hn hl => we_X5_readTest hF hg0 hg1 hg2 hSF B Z hn x0 x1 hl e rfl)
theorem mg_X5_readPlain (l : Launch) (G : ax_G) (hSF : ax_SF G) : ∀ n : Nat, (∀ (x0 : Option Nat) (x1 : Int) (h : ax_H) (w : ax_H), (rg_X5_readPlain G.2.2 n).1 x0 x1 h = some w → ax_Met l G yX5_readPlain cX5_readPlain 4 none (69 + n) (1532 + n * 23) [va_rf x0, .int (Int32.ofInt x1)] h w none) ∧ (∀ (x0 : Option Nat) (x1 : Int) (h : ax_H) (w : ax_H), (rg_X5_readPlain G.2.2 n).2.1 x0 x1 h = some w → ax_Met l G yX5_readBoth cX5_readBoth 2 none (69 + n) (1532 + n * 23) [va_rf x0, .int (Int32.ofInt x1)] h w none) ∧ (∀ (x0 : Option Nat) (x1 : Int) (h : ax_H) (w : ax_H), (rg_X5_readPlain G.2.2 n).2.2 x0 x1 h = some w → ax_Met l G yX5_readTest cX5_readTest 2 none (69 + n) (1532 + n * 23) [va_rf x0, .int (Int32.ofInt x1)] h w none)
  | 0 => ⟨fun _ _ _ _ e => (by cases e), fun _ _ _ _ e => (by cases e), fun _ _ _ _ e => (by cases e)⟩
  | n + 1 => by
    have ih := mg_X5_readPlain l G hSF n
    exact ⟨fun x0 x1 h w e => mt_X5_readPlain l G hSF (fr1 := 69 + n) (lo1 := 1532 + n * 23) (by omega) (ih.1) (ih.2.1) (ih.2.2) x0 x1 h w e, fun x0 x1 h w e => mt_X5_readBoth l G hSF (fr1 := 69 + n) (lo1 := 1532 + n * 23) (by omega) (ih.1) (ih.2.1) (ih.2.2) x0 x1 h w e, fun x0 x1 h w e => mt_X5_readTest l G hSF (fr1 := 69 + n) (lo1 := 1532 + n * 23) (by omega) (ih.1) (ih.2.1) (ih.2.2) x0 x1 h w e⟩
theorem mf_X5_readPlain (l : Launch) (G : ax_G) (hSF : ax_SF G) (n : Nat) (x0 : Option Nat) (x1 : Int) (h : ax_H) (w : ax_H) (e : fn_X5_readPlain G.2.2 n x0 x1 h = some w) : ax_Met l G yX5_readPlain cX5_readPlain 4 none (69 + n) (1532 + n * 23) [va_rf x0, .int (Int32.ofInt x1)] h w none := (mg_X5_readPlain l G hSF n).1 x0 x1 h w e
theorem mf_X5_readBoth (l : Launch) (G : ax_G) (hSF : ax_SF G) (n : Nat) (x0 : Option Nat) (x1 : Int) (h : ax_H) (w : ax_H) (e : fn_X5_readBoth G.2.2 n x0 x1 h = some w) : ax_Met l G yX5_readBoth cX5_readBoth 2 none (69 + n) (1532 + n * 23) [va_rf x0, .int (Int32.ofInt x1)] h w none := (mg_X5_readPlain l G hSF n).2.1 x0 x1 h w e
theorem mf_X5_readTest (l : Launch) (G : ax_G) (hSF : ax_SF G) (n : Nat) (x0 : Option Nat) (x1 : Int) (h : ax_H) (w : ax_H) (e : fn_X5_readTest G.2.2 n x0 x1 h = some w) : ax_Met l G yX5_readTest cX5_readTest 2 none (69 + n) (1532 + n * 23) [va_rf x0, .int (Int32.ofInt x1)] h w none := (mg_X5_readPlain l G hSF n).2.2 x0 x1 h w e
def dkwX5_readOrder_3 : List UInt8 := [182, 0, 210, 153, 0, 8, 42, 3, 182, 0, 230, 177]
abbrev dktX5_readOrder_3 : List UInt8 := dkwX5_readOrder_3 ++ []
def dkwX5_readOrder_2 : List UInt8 := [42, 16, 26, 182, 0, 227, 42, 16, 29, 182, 0, 210, 153, 0, 10, 42, 4, 16, 20, 182, 0, 233, 42, 8]
abbrev dktX5_readOrder_2 : List UInt8 := dkwX5_readOrder_2 ++ dktX5_readOrder_3
def dkwX5_readOrder_1 : List UInt8 := [16, 27, 182, 0, 227, 42, 3, 182, 0, 223, 42, 16, 28, 182, 0, 227, 42, 3, 182, 0, 223, 167, 0, 9]
abbrev dktX5_readOrder_1 : List UInt8 := dkwX5_readOrder_1 ++ dktX5_readOrder_2
def dkwX5_readOrder_0 : List UInt8 := [42, 16, 24, 182, 0, 210, 154, 0, 12, 42, 16, 25, 182, 0, 210, 153, 0, 33, 42, 3, 182, 0, 223, 42]
abbrev dktX5_readOrder_0 : List UInt8 := dkwX5_readOrder_0 ++ dktX5_readOrder_1
theorem dksX5_readOrder_0 : cX5_readOrder.data.toList.drop 0 = dktX5_readOrder_0 := by decide +kernel
theorem dksX5_readOrder_1 : cX5_readOrder.data.toList.drop 24 = dktX5_readOrder_1 := dk_seg dksX5_readOrder_0 24 rfl rfl
theorem dksX5_readOrder_2 : cX5_readOrder.data.toList.drop 48 = dktX5_readOrder_2 := dk_seg dksX5_readOrder_1 24 rfl rfl
theorem dksX5_readOrder_3 : cX5_readOrder.data.toList.drop 72 = dktX5_readOrder_3 := dk_seg dksX5_readOrder_2 24 rfl rfl
theorem dX5_readOrder_0 : decode cX5_readOrder 0 = .ok (.aload_n 0, 1) := dk_42 (dk_at dksX5_readOrder_0 0 rfl rfl)
theorem dX5_readOrder_1 : decode cX5_readOrder 1 = .ok (.bipush 24, 2) := dk_16 24 (dk_at dksX5_readOrder_0 1 rfl rfl)
theorem dX5_readOrder_3 : decode cX5_readOrder 3 = .ok (.invokevirtual 210, 3) := dk_182 0 210 (dk_at dksX5_readOrder_0 3 rfl rfl)
theorem dX5_readOrder_6 : decode cX5_readOrder 6 = .ok (.ifCond .ne 12, 3) := dk_154 0 12 (dk_at dksX5_readOrder_0 6 rfl rfl)
theorem dX5_readOrder_9 : decode cX5_readOrder 9 = .ok (.aload_n 0, 1) := dk_42 (dk_at dksX5_readOrder_0 9 rfl rfl)
theorem dX5_readOrder_10 : decode cX5_readOrder 10 = .ok (.bipush 25, 2) := dk_16 25 (dk_at dksX5_readOrder_0 10 rfl rfl)
theorem dX5_readOrder_12 : decode cX5_readOrder 12 = .ok (.invokevirtual 210, 3) := dk_182 0 210 (dk_at dksX5_readOrder_0 12 rfl rfl)
theorem dX5_readOrder_15 : decode cX5_readOrder 15 = .ok (.ifCond .eq 33, 3) := dk_153 0 33 (dk_at dksX5_readOrder_0 15 rfl rfl)
theorem dX5_readOrder_18 : decode cX5_readOrder 18 = .ok (.aload_n 0, 1) := dk_42 (dk_at dksX5_readOrder_0 18 rfl rfl)
theorem dX5_readOrder_19 : decode cX5_readOrder 19 = .ok (.iconst 0, 1) := dk_3 (dk_at dksX5_readOrder_0 19 rfl rfl)
theorem dX5_readOrder_20 : decode cX5_readOrder 20 = .ok (.invokevirtual 223, 3) := dk_182 0 223 (dk_at dksX5_readOrder_0 20 rfl rfl)
theorem dX5_readOrder_23 : decode cX5_readOrder 23 = .ok (.aload_n 0, 1) := dk_42 (dk_at dksX5_readOrder_0 23 rfl rfl)
theorem dX5_readOrder_24 : decode cX5_readOrder 24 = .ok (.bipush 27, 2) := dk_16 27 (dk_at dksX5_readOrder_1 0 rfl rfl)
theorem dX5_readOrder_26 : decode cX5_readOrder 26 = .ok (.invokevirtual 227, 3) := dk_182 0 227 (dk_at dksX5_readOrder_1 2 rfl rfl)
theorem dX5_readOrder_29 : decode cX5_readOrder 29 = .ok (.aload_n 0, 1) := dk_42 (dk_at dksX5_readOrder_1 5 rfl rfl)
theorem dX5_readOrder_30 : decode cX5_readOrder 30 = .ok (.iconst 0, 1) := dk_3 (dk_at dksX5_readOrder_1 6 rfl rfl)
theorem dX5_readOrder_31 : decode cX5_readOrder 31 = .ok (.invokevirtual 223, 3) := dk_182 0 223 (dk_at dksX5_readOrder_1 7 rfl rfl)
theorem dX5_readOrder_34 : decode cX5_readOrder 34 = .ok (.aload_n 0, 1) := dk_42 (dk_at dksX5_readOrder_1 10 rfl rfl)
theorem dX5_readOrder_35 : decode cX5_readOrder 35 = .ok (.bipush 28, 2) := dk_16 28 (dk_at dksX5_readOrder_1 11 rfl rfl)
theorem dX5_readOrder_37 : decode cX5_readOrder 37 = .ok (.invokevirtual 227, 3) := dk_182 0 227 (dk_at dksX5_readOrder_1 13 rfl rfl)
theorem dX5_readOrder_40 : decode cX5_readOrder 40 = .ok (.aload_n 0, 1) := dk_42 (dk_at dksX5_readOrder_1 16 rfl rfl)
theorem dX5_readOrder_41 : decode cX5_readOrder 41 = .ok (.iconst 0, 1) := dk_3 (dk_at dksX5_readOrder_1 17 rfl rfl)
theorem dX5_readOrder_42 : decode cX5_readOrder 42 = .ok (.invokevirtual 223, 3) := dk_182 0 223 (dk_at dksX5_readOrder_1 18 rfl rfl)
theorem dX5_readOrder_45 : decode cX5_readOrder 45 = .ok (.goto 9, 3) := dk_167 0 9 (dk_at dksX5_readOrder_1 21 rfl rfl)
theorem dX5_readOrder_48 : decode cX5_readOrder 48 = .ok (.aload_n 0, 1) := dk_42 (dk_at dksX5_readOrder_2 0 rfl rfl)
theorem dX5_readOrder_49 : decode cX5_readOrder 49 = .ok (.bipush 26, 2) := dk_16 26 (dk_at dksX5_readOrder_2 1 rfl rfl)
theorem dX5_readOrder_51 : decode cX5_readOrder 51 = .ok (.invokevirtual 227, 3) := dk_182 0 227 (dk_at dksX5_readOrder_2 3 rfl rfl)
theorem dX5_readOrder_54 : decode cX5_readOrder 54 = .ok (.aload_n 0, 1) := dk_42 (dk_at dksX5_readOrder_2 6 rfl rfl)
theorem dX5_readOrder_55 : decode cX5_readOrder 55 = .ok (.bipush 29, 2) := dk_16 29 (dk_at dksX5_readOrder_2 7 rfl rfl)
theorem dX5_readOrder_57 : decode cX5_readOrder 57 = .ok (.invokevirtual 210, 3) := dk_182 0 210 (dk_at dksX5_readOrder_2 9 rfl rfl)
theorem dX5_readOrder_60 : decode cX5_readOrder 60 = .ok (.ifCond .eq 10, 3) := dk_153 0 10 (dk_at dksX5_readOrder_2 12 rfl rfl)
theorem dX5_readOrder_63 : decode cX5_readOrder 63 = .ok (.aload_n 0, 1) := dk_42 (dk_at dksX5_readOrder_2 15 rfl rfl)
theorem dX5_readOrder_64 : decode cX5_readOrder 64 = .ok (.iconst 1, 1) := dk_4 (dk_at dksX5_readOrder_2 16 rfl rfl)
theorem dX5_readOrder_65 : decode cX5_readOrder 65 = .ok (.bipush 20, 2) := dk_16 20 (dk_at dksX5_readOrder_2 17 rfl rfl)
theorem dX5_readOrder_67 : decode cX5_readOrder 67 = .ok (.invokevirtual 233, 3) := dk_182 0 233 (dk_at dksX5_readOrder_2 19 rfl rfl)
theorem dX5_readOrder_70 : decode cX5_readOrder 70 = .ok (.aload_n 0, 1) := dk_42 (dk_at dksX5_readOrder_2 22 rfl rfl)
theorem dX5_readOrder_71 : decode cX5_readOrder 71 = .ok (.iconst 5, 1) := dk_8 (dk_at dksX5_readOrder_2 23 rfl rfl)
theorem dX5_readOrder_72 : decode cX5_readOrder 72 = .ok (.invokevirtual 210, 3) := dk_182 0 210 (dk_at dksX5_readOrder_3 0 rfl rfl)
theorem dX5_readOrder_75 : decode cX5_readOrder 75 = .ok (.ifCond .eq 8, 3) := dk_153 0 8 (dk_at dksX5_readOrder_3 3 rfl rfl)
theorem dX5_readOrder_78 : decode cX5_readOrder 78 = .ok (.aload_n 0, 1) := dk_42 (dk_at dksX5_readOrder_3 6 rfl rfl)
theorem dX5_readOrder_79 : decode cX5_readOrder 79 = .ok (.iconst 0, 1) := dk_3 (dk_at dksX5_readOrder_3 7 rfl rfl)
theorem dX5_readOrder_80 : decode cX5_readOrder 80 = .ok (.invokevirtual 230, 3) := dk_182 0 230 (dk_at dksX5_readOrder_3 8 rfl rfl)
theorem dX5_readOrder_83 : decode cX5_readOrder 83 = .ok (.return_, 1) := dk_177 (dk_at dksX5_readOrder_3 11 rfl rfl)
noncomputable def f_X5_readOrder_70 (E : ax_E) (x0 : Option Nat) (h : ax_H) : Option (ax_H) :=
  (ax_ce E h x0 5).bind fun _ => (f_X5_takes0 E x0 5 h).bind fun q1 =>
  if i2 q1.1 = 0 then
    some q1.2
  else
    (ax_ce E q1.2 x0 5).bind fun _ => (fn_X5_readTest E 64 x0 0 q1.2).bind fun h2 =>
    some h2
noncomputable def f_X5_readOrder_54 (E : ax_E) (x0 : Option Nat) (h : ax_H) : Option (ax_H) :=
  (ax_ce E h x0 5).bind fun _ => (f_X5_takes0 E x0 29 h).bind fun q1 =>
  if i2 q1.1 = 0 then
    f_X5_readOrder_70 E x0 q1.2
  else
    (ax_ce E q1.2 x0 5).bind fun _ => (f_X5_mustNumber E x0 1 20 q1.2).bind fun h2 =>
    f_X5_readOrder_70 E x0 h2
noncomputable def f_X5_readOrder_18 (E : ax_E) (x0 : Option Nat) (h : ax_H) : Option (ax_H) :=
  (ax_ce E h x0 5).bind fun _ => (fn_X5_readSum E 64 x0 0 h).bind fun h1 =>
  (ax_ce E h1 x0 5).bind fun _ => (f_X5_must E x0 27 h1).bind fun h2 =>
  (ax_ce E h2 x0 5).bind fun _ => (fn_X5_readSum E 64 x0 0 h2).bind fun h3 =>
  (ax_ce E h3 x0 5).bind fun _ => (f_X5_must E x0 28 h3).bind fun h4 =>
  (ax_ce E h4 x0 5).bind fun _ => (fn_X5_readSum E 64 x0 0 h4).bind fun h5 =>
  f_X5_readOrder_54 E x0 h5
noncomputable def f_X5_readOrder (E : ax_E) (x0 : Option Nat) (h : ax_H) : Option (ax_H) :=
  (ax_ce E h x0 5).bind fun _ => (f_X5_takes0 E x0 24 h).bind fun q1 =>
  if i2 q1.1 = 0 then
    (ax_ce E q1.2 x0 5).bind fun _ => (f_X5_takes0 E x0 25 q1.2).bind fun q2 =>
    if i2 q2.1 = 0 then
      (ax_ce E q2.2 x0 5).bind fun _ => (f_X5_must E x0 26 q2.2).bind fun h3 =>
      f_X5_readOrder_54 E x0 h3
    else
      f_X5_readOrder_18 E x0 q2.2
  else
    f_X5_readOrder_18 E x0 q1.2
set_option maxHeartbeats 4000000 in
theorem w_X5_readOrder_70 {l : Launch} {G : ax_G} {X : ax_X} {Q : State → Prop} {h0 h : ax_H} {ls : Array Slot} (hSF : ax_SF G) (B : ax_BL l G X cX5_readOrder 1 RX5 134 3025) (Z : ax_Z X h0 none) (hn : X.2.2.2.2.2.2.2.2.1.name = yX5_readOrder.name) (x0 : Option Nat) {w : ax_H} (hl : ax_hl ls 1 [(0, .inr (.inr x0))]) (e : f_X5_readOrder_70 G.2.2 x0 h = some w) (hp : (fun w : ax_H => Q = ax_Q G X h0 w none) w) : ax_W G X Q h 70 ls [] := by
  unfold f_X5_readOrder_70 at e
  refine ax_aload_n B dX5_readOrder_70 rfl hl 0 rfl ?_
  refine ax_iconst B dX5_readOrder_71 ?_
  refine ax_ivI (y := yX5_takes0) (n := 1) (As := [.int (Int32.ofInt 5)]) B kd5 (lw_V q2355 q2357 qs72 q133 q2358) (by decide +kernel) ⟨Nat.le_of_ble_eq_true rfl, Nat.le_of_ble_eq_true rfl⟩ (fun w1 e1 => mt_X5_takes0 l G hSF x0 5 _ w1 e1) rfl hl.size (by decide) dX5_readOrder_72 e (fun q1 e => ?_)
  refine ax_if_eq (tgt := 83) B dX5_readOrder_75 (by decide) e (fun e => ?_) (fun e => ?_)
  · have e8 := e
    have hp : Q = _ := hp
    subst hp
    exact ax_return B Z dX5_readOrder_83 e8
  · refine ax_aload_n B dX5_readOrder_78 rfl hl 0 rfl ?_
    refine ax_iconst B dX5_readOrder_79 ?_
    refine ax_ivV (y := yX5_readTest) (n := 1) (As := [.int (Int32.ofInt 0)]) B kd5 (lw_V q2395 q2397 qs82 q133 q2398) (by decide +kernel) ⟨Nat.le_of_ble_eq_true rfl, Nat.le_of_ble_eq_true rfl⟩ (fun w1 e1 => mf_X5_readTest l G hSF 64 x0 0 _ w1 e1) rfl hl.size (by decide) dX5_readOrder_80 e (fun h2 e => ?_)
    have e8 := e
    have hp : Q = _ := hp
    subst hp
    exact ax_return B Z dX5_readOrder_83 e8
set_option maxHeartbeats 4000000 in
theorem w_X5_readOrder_54 {l : Launch} {G : ax_G} {X : ax_X} {Q : State → Prop} {h0 h : ax_H} {ls : Array Slot} (hSF : ax_SF G) (B : ax_BL l G X cX5_readOrder 1 RX5 134 3025) (Z : ax_Z X h0 none) (hn : X.2.2.2.2.2.2.2.2.1.name = yX5_readOrder.name) (x0 : Option Nat) {w : ax_H} (hl : ax_hl ls 1 [(0, .inr (.inr x0))]) (e : f_X5_readOrder_54 G.2.2 x0 h = some w) (hp : (fun w : ax_H => Q = ax_Q G X h0 w none) w) : ax_W G X Q h 54 ls [] := by
  unfold f_X5_readOrder_54 at e
  refine ax_aload_n B dX5_readOrder_54 rfl hl 0 rfl ?_
  refine ax_bipush B dX5_readOrder_55 (by decide) ?_
  refine ax_ivI (y := yX5_takes0) (n := 1) (As := [.int (Int32.ofInt 29)]) B kd5 (lw_V q2355 q2357 qs72 q133 q2358) (by decide +kernel) ⟨Nat.le_of_ble_eq_true rfl, Nat.le_of_ble_eq_true rfl⟩ (fun w1 e1 => mt_X5_takes0 l G hSF x0 29 _ w1 e1) rfl hl.size (by decide) dX5_readOrder_57 e (fun q1 e => ?_)
  refine ax_if_eq (tgt := 70) B dX5_readOrder_60 (by decide) e (fun e => ?_) (fun e => ?_)
  · exact w_X5_readOrder_70 hSF B Z hn x0 (hl.sub [0] rfl) e hp
  · refine ax_aload_n B dX5_readOrder_63 rfl hl 0 rfl ?_
    refine ax_iconst B dX5_readOrder_64 ?_
    refine ax_bipush B dX5_readOrder_65 (by decide) ?_
    refine ax_ivV (y := yX5_mustNumber) (n := 2) (As := [.int (Int32.ofInt 1), .int (Int32.ofInt 20)]) B kd5 (lw_V q2391 q2393 qs81 q133 q2394) (by decide +kernel) ⟨Nat.le_of_ble_eq_true rfl, Nat.le_of_ble_eq_true rfl⟩ (fun w1 e1 => mt_X5_mustNumber l G hSF x0 1 20 _ w1 e1) rfl hl.size (by decide) dX5_readOrder_67 e (fun h2 e => ?_)
    exact w_X5_readOrder_70 hSF B Z hn x0 (hl.sub [0] rfl) e hp
set_option maxHeartbeats 4000000 in
theorem w_X5_readOrder_18 {l : Launch} {G : ax_G} {X : ax_X} {Q : State → Prop} {h0 h : ax_H} {ls : Array Slot} (hSF : ax_SF G) (B : ax_BL l G X cX5_readOrder 1 RX5 134 3025) (Z : ax_Z X h0 none) (hn : X.2.2.2.2.2.2.2.2.1.name = yX5_readOrder.name) (x0 : Option Nat) {w : ax_H} (hl : ax_hl ls 1 [(0, .inr (.inr x0))]) (e : f_X5_readOrder_18 G.2.2 x0 h = some w) (hp : (fun w : ax_H => Q = ax_Q G X h0 w none) w) : ax_W G X Q h 18 ls [] := by
  unfold f_X5_readOrder_18 at e
  refine ax_aload_n B dX5_readOrder_18 rfl hl 0 rfl ?_
  refine ax_iconst B dX5_readOrder_19 ?_
  refine ax_ivV (y := yX5_readSum) (n := 1) (As := [.int (Int32.ofInt 0)]) B kd5 (lw_V q2363 q2365 qs74 q133 q2366) (by decide +kernel) ⟨Nat.le_of_ble_eq_true rfl, Nat.le_of_ble_eq_true rfl⟩ (fun w1 e1 => mf_X5_readSum l G hSF 64 x0 0 _ w1 e1) rfl hl.size (by decide) dX5_readOrder_20 e (fun h1 e => ?_)
  refine ax_aload_n B dX5_readOrder_23 rfl hl 0 rfl ?_
  refine ax_bipush B dX5_readOrder_24 (by decide) ?_
  refine ax_ivV (y := yX5_must) (n := 1) (As := [.int (Int32.ofInt 27)]) B kd5 (lw_V q2379 q2381 qs78 q133 q2382) (by decide +kernel) ⟨Nat.le_of_ble_eq_true rfl, Nat.le_of_ble_eq_true rfl⟩ (fun w1 e1 => mt_X5_must l G hSF x0 27 _ w1 e1) rfl hl.size (by decide) dX5_readOrder_26 e (fun h2 e => ?_)
  refine ax_aload_n B dX5_readOrder_29 rfl hl 0 rfl ?_
  refine ax_iconst B dX5_readOrder_30 ?_
  refine ax_ivV (y := yX5_readSum) (n := 1) (As := [.int (Int32.ofInt 0)]) B kd5 (lw_V q2363 q2365 qs74 q133 q2366) (by decide +kernel) ⟨Nat.le_of_ble_eq_true rfl, Nat.le_of_ble_eq_true rfl⟩ (fun w1 e1 => mf_X5_readSum l G hSF 64 x0 0 _ w1 e1) rfl hl.size (by decide) dX5_readOrder_31 e (fun h3 e => ?_)
  refine ax_aload_n B dX5_readOrder_34 rfl hl 0 rfl ?_
  refine ax_bipush B dX5_readOrder_35 (by decide) ?_
  refine ax_ivV (y := yX5_must) (n := 1) (As := [.int (Int32.ofInt 28)]) B kd5 (lw_V q2379 q2381 qs78 q133 q2382) (by decide +kernel) ⟨Nat.le_of_ble_eq_true rfl, Nat.le_of_ble_eq_true rfl⟩ (fun w1 e1 => mt_X5_must l G hSF x0 28 _ w1 e1) rfl hl.size (by decide) dX5_readOrder_37 e (fun h4 e => ?_)
  refine ax_aload_n B dX5_readOrder_40 rfl hl 0 rfl ?_
  refine ax_iconst B dX5_readOrder_41 ?_
  refine ax_ivV (y := yX5_readSum) (n := 1) (As := [.int (Int32.ofInt 0)]) B kd5 (lw_V q2363 q2365 qs74 q133 q2366) (by decide +kernel) ⟨Nat.le_of_ble_eq_true rfl, Nat.le_of_ble_eq_true rfl⟩ (fun w1 e1 => mf_X5_readSum l G hSF 64 x0 0 _ w1 e1) rfl hl.size (by decide) dX5_readOrder_42 e (fun h5 e => ?_)
  refine ax_goto (tgt := 54) B dX5_readOrder_45 (by decide) ?_
  exact w_X5_readOrder_54 hSF B Z hn x0 (hl.sub [0] rfl) e hp
set_option maxHeartbeats 4000000 in
theorem we_X5_readOrder {l : Launch} {G : ax_G} {X : ax_X} {Q : State → Prop} {h0 h : ax_H} {ls : Array Slot} (hSF : ax_SF G) (B : ax_BL l G X cX5_readOrder 1 RX5 134 3025) (Z : ax_Z X h0 none) (hn : X.2.2.2.2.2.2.2.2.1.name = yX5_readOrder.name) (x0 : Option Nat) {w : ax_H} (hl : ax_hl ls 1 [(0, .inr (.inr x0))]) (e : f_X5_readOrder G.2.2 x0 h = some w) (hp : (fun w : ax_H => Q = ax_Q G X h0 w none) w) : ax_W G X Q h 0 ls [] := by
  unfold f_X5_readOrder at e
  refine ax_aload_n B dX5_readOrder_0 rfl hl 0 rfl ?_
  refine ax_bipush B dX5_readOrder_1 (by decide) ?_
  refine ax_ivI (y := yX5_takes0) (n := 1) (As := [.int (Int32.ofInt 24)]) B kd5 (lw_V q2355 q2357 qs72 q133 q2358) (by decide +kernel) ⟨Nat.le_of_ble_eq_true rfl, Nat.le_of_ble_eq_true rfl⟩ (fun w1 e1 => mt_X5_takes0 l G hSF x0 24 _ w1 e1) rfl hl.size (by decide) dX5_readOrder_3 e (fun q1 e => ?_)
  refine ax_if_ne (tgt := 18) B dX5_readOrder_6 (by decide) e (fun e => ?_) (fun e => ?_)
  · refine ax_aload_n B dX5_readOrder_9 rfl hl 0 rfl ?_
    refine ax_bipush B dX5_readOrder_10 (by decide) ?_
    refine ax_ivI (y := yX5_takes0) (n := 1) (As := [.int (Int32.ofInt 25)]) B kd5 (lw_V q2355 q2357 qs72 q133 q2358) (by decide +kernel) ⟨Nat.le_of_ble_eq_true rfl, Nat.le_of_ble_eq_true rfl⟩ (fun w1 e1 => mt_X5_takes0 l G hSF x0 25 _ w1 e1) rfl hl.size (by decide) dX5_readOrder_12 e (fun q2 e => ?_)
    refine ax_if_eq (tgt := 48) B dX5_readOrder_15 (by decide) e (fun e => ?_) (fun e => ?_)
    · refine ax_aload_n B dX5_readOrder_48 rfl hl 0 rfl ?_
      refine ax_bipush B dX5_readOrder_49 (by decide) ?_
      refine ax_ivV (y := yX5_must) (n := 1) (As := [.int (Int32.ofInt 26)]) B kd5 (lw_V q2379 q2381 qs78 q133 q2382) (by decide +kernel) ⟨Nat.le_of_ble_eq_true rfl, Nat.le_of_ble_eq_true rfl⟩ (fun w1 e1 => mt_X5_must l G hSF x0 26 _ w1 e1) rfl hl.size (by decide) dX5_readOrder_51 e (fun h3 e => ?_)
      exact w_X5_readOrder_54 hSF B Z hn x0 (hl.sub [0] rfl) e hp
    · exact w_X5_readOrder_18 hSF B Z hn x0 (hl.sub [0] rfl) e hp
  · exact w_X5_readOrder_18 hSF B Z hn x0 (hl.sub [0] rfl) e hp
theorem mt_X5_readOrder (l : Launch) (G : ax_G) (hSF : ax_SF G) (x0 : Option Nat) (h : ax_H) (w : ax_H) (e : f_X5_readOrder G.2.2 x0 h = some w) : ax_Met l G yX5_readOrder cX5_readOrder 1 none 134 3025 [va_rf x0] h w none :=
  ax_enter [.inr (.inr x0)] (y := yX5_readOrder) hSF (plainFor_of_name (by decide +kernel)) (Nat.le_of_ble_eq_true rfl) (fun X ls B Z hn hl => we_X5_readOrder hSF B Z hn x0 hl e rfl)
def dkwX5_readClause_2 : List UInt8 := [182, 0, 230, 177]
abbrev dktX5_readClause_2 : List UInt8 := dkwX5_readClause_2 ++ []
def dkwX5_readClause_1 : List UInt8 := [42, 3, 182, 0, 223, 167, 0, 8, 42, 7, 182, 0, 227, 42, 8, 182, 0, 210, 153, 0, 8, 42, 3]
abbrev dktX5_readClause_1 : List UInt8 := dkwX5_readClause_1 ++ dktX5_readClause_2
def dkwX5_readClause_0 : List UInt8 := [42, 4, 182, 0, 210, 154, 0, 19, 42, 5, 182, 0, 210, 154, 0, 11, 42, 6, 182, 0, 210, 153, 0, 11]
abbrev dktX5_readClause_0 : List UInt8 := dkwX5_readClause_0 ++ dktX5_readClause_1
theorem dksX5_readClause_0 : cX5_readClause.data.toList.drop 0 = dktX5_readClause_0 := by decide +kernel
theorem dksX5_readClause_1 : cX5_readClause.data.toList.drop 24 = dktX5_readClause_1 := dk_seg dksX5_readClause_0 24 rfl rfl
theorem dksX5_readClause_2 : cX5_readClause.data.toList.drop 47 = dktX5_readClause_2 := dk_seg dksX5_readClause_1 23 rfl rfl
theorem dX5_readClause_0 : decode cX5_readClause 0 = .ok (.aload_n 0, 1) := dk_42 (dk_at dksX5_readClause_0 0 rfl rfl)
theorem dX5_readClause_1 : decode cX5_readClause 1 = .ok (.iconst 1, 1) := dk_4 (dk_at dksX5_readClause_0 1 rfl rfl)
theorem dX5_readClause_2 : decode cX5_readClause 2 = .ok (.invokevirtual 210, 3) := dk_182 0 210 (dk_at dksX5_readClause_0 2 rfl rfl)
theorem dX5_readClause_5 : decode cX5_readClause 5 = .ok (.ifCond .ne 19, 3) := dk_154 0 19 (dk_at dksX5_readClause_0 5 rfl rfl)
theorem dX5_readClause_8 : decode cX5_readClause 8 = .ok (.aload_n 0, 1) := dk_42 (dk_at dksX5_readClause_0 8 rfl rfl)
theorem dX5_readClause_9 : decode cX5_readClause 9 = .ok (.iconst 2, 1) := dk_5 (dk_at dksX5_readClause_0 9 rfl rfl)
theorem dX5_readClause_10 : decode cX5_readClause 10 = .ok (.invokevirtual 210, 3) := dk_182 0 210 (dk_at dksX5_readClause_0 10 rfl rfl)
theorem dX5_readClause_13 : decode cX5_readClause 13 = .ok (.ifCond .ne 11, 3) := dk_154 0 11 (dk_at dksX5_readClause_0 13 rfl rfl)
theorem dX5_readClause_16 : decode cX5_readClause 16 = .ok (.aload_n 0, 1) := dk_42 (dk_at dksX5_readClause_0 16 rfl rfl)
theorem dX5_readClause_17 : decode cX5_readClause 17 = .ok (.iconst 3, 1) := dk_6 (dk_at dksX5_readClause_0 17 rfl rfl)
theorem dX5_readClause_18 : decode cX5_readClause 18 = .ok (.invokevirtual 210, 3) := dk_182 0 210 (dk_at dksX5_readClause_0 18 rfl rfl)
theorem dX5_readClause_21 : decode cX5_readClause 21 = .ok (.ifCond .eq 11, 3) := dk_153 0 11 (dk_at dksX5_readClause_0 21 rfl rfl)
theorem dX5_readClause_24 : decode cX5_readClause 24 = .ok (.aload_n 0, 1) := dk_42 (dk_at dksX5_readClause_1 0 rfl rfl)
theorem dX5_readClause_25 : decode cX5_readClause 25 = .ok (.iconst 0, 1) := dk_3 (dk_at dksX5_readClause_1 1 rfl rfl)
theorem dX5_readClause_26 : decode cX5_readClause 26 = .ok (.invokevirtual 223, 3) := dk_182 0 223 (dk_at dksX5_readClause_1 2 rfl rfl)
theorem dX5_readClause_29 : decode cX5_readClause 29 = .ok (.goto 8, 3) := dk_167 0 8 (dk_at dksX5_readClause_1 5 rfl rfl)
theorem dX5_readClause_32 : decode cX5_readClause 32 = .ok (.aload_n 0, 1) := dk_42 (dk_at dksX5_readClause_1 8 rfl rfl)
theorem dX5_readClause_33 : decode cX5_readClause 33 = .ok (.iconst 4, 1) := dk_7 (dk_at dksX5_readClause_1 9 rfl rfl)
theorem dX5_readClause_34 : decode cX5_readClause 34 = .ok (.invokevirtual 227, 3) := dk_182 0 227 (dk_at dksX5_readClause_1 10 rfl rfl)
theorem dX5_readClause_37 : decode cX5_readClause 37 = .ok (.aload_n 0, 1) := dk_42 (dk_at dksX5_readClause_1 13 rfl rfl)
theorem dX5_readClause_38 : decode cX5_readClause 38 = .ok (.iconst 5, 1) := dk_8 (dk_at dksX5_readClause_1 14 rfl rfl)
theorem dX5_readClause_39 : decode cX5_readClause 39 = .ok (.invokevirtual 210, 3) := dk_182 0 210 (dk_at dksX5_readClause_1 15 rfl rfl)
theorem dX5_readClause_42 : decode cX5_readClause 42 = .ok (.ifCond .eq 8, 3) := dk_153 0 8 (dk_at dksX5_readClause_1 18 rfl rfl)
theorem dX5_readClause_45 : decode cX5_readClause 45 = .ok (.aload_n 0, 1) := dk_42 (dk_at dksX5_readClause_1 21 rfl rfl)
theorem dX5_readClause_46 : decode cX5_readClause 46 = .ok (.iconst 0, 1) := dk_3 (dk_at dksX5_readClause_1 22 rfl rfl)
theorem dX5_readClause_47 : decode cX5_readClause 47 = .ok (.invokevirtual 230, 3) := dk_182 0 230 (dk_at dksX5_readClause_2 0 rfl rfl)
theorem dX5_readClause_50 : decode cX5_readClause 50 = .ok (.return_, 1) := dk_177 (dk_at dksX5_readClause_2 3 rfl rfl)
noncomputable def f_X5_readClause_37 (E : ax_E) (x0 : Option Nat) (h : ax_H) : Option (ax_H) :=
  (ax_ce E h x0 5).bind fun _ => (f_X5_takes0 E x0 5 h).bind fun q1 =>
  if i2 q1.1 = 0 then
    some q1.2
  else
    (ax_ce E q1.2 x0 5).bind fun _ => (fn_X5_readTest E 64 x0 0 q1.2).bind fun h2 =>
    some h2
noncomputable def f_X5_readClause_24 (E : ax_E) (x0 : Option Nat) (h : ax_H) : Option (ax_H) :=
  (ax_ce E h x0 5).bind fun _ => (fn_X5_readSum E 64 x0 0 h).bind fun h1 =>
  f_X5_readClause_37 E x0 h1
noncomputable def f_X5_readClause (E : ax_E) (x0 : Option Nat) (h : ax_H) : Option (ax_H) :=
  (ax_ce E h x0 5).bind fun _ => (f_X5_takes0 E x0 1 h).bind fun q1 =>
  if i2 q1.1 = 0 then
    (ax_ce E q1.2 x0 5).bind fun _ => (f_X5_takes0 E x0 2 q1.2).bind fun q2 =>
    if i2 q2.1 = 0 then
      (ax_ce E q2.2 x0 5).bind fun _ => (f_X5_takes0 E x0 3 q2.2).bind fun q3 =>
      if i2 q3.1 = 0 then
        (ax_ce E q3.2 x0 5).bind fun _ => (f_X5_must E x0 4 q3.2).bind fun h4 =>
        f_X5_readClause_37 E x0 h4
      else
        f_X5_readClause_24 E x0 q3.2
    else
      f_X5_readClause_24 E x0 q2.2
  else
    f_X5_readClause_24 E x0 q1.2
set_option maxHeartbeats 4000000 in
theorem w_X5_readClause_37 {l : Launch} {G : ax_G} {X : ax_X} {Q : State → Prop} {h0 h : ax_H} {ls : Array Slot} (hSF : ax_SF G) (B : ax_BL l G X cX5_readClause 1 RX5 134 3025) (Z : ax_Z X h0 none) (hn : X.2.2.2.2.2.2.2.2.1.name = yX5_readClause.name) (x0 : Option Nat) {w : ax_H} (hl : ax_hl ls 1 [(0, .inr (.inr x0))]) (e : f_X5_readClause_37 G.2.2 x0 h = some w) (hp : (fun w : ax_H => Q = ax_Q G X h0 w none) w) : ax_W G X Q h 37 ls [] := by
  unfold f_X5_readClause_37 at e
  refine ax_aload_n B dX5_readClause_37 rfl hl 0 rfl ?_
  refine ax_iconst B dX5_readClause_38 ?_
  refine ax_ivI (y := yX5_takes0) (n := 1) (As := [.int (Int32.ofInt 5)]) B kd5 (lw_V q2355 q2357 qs72 q133 q2358) (by decide +kernel) ⟨Nat.le_of_ble_eq_true rfl, Nat.le_of_ble_eq_true rfl⟩ (fun w1 e1 => mt_X5_takes0 l G hSF x0 5 _ w1 e1) rfl hl.size (by decide) dX5_readClause_39 e (fun q1 e => ?_)
  refine ax_if_eq (tgt := 50) B dX5_readClause_42 (by decide) e (fun e => ?_) (fun e => ?_)
  · have e8 := e
    have hp : Q = _ := hp
    subst hp
    exact ax_return B Z dX5_readClause_50 e8
  · refine ax_aload_n B dX5_readClause_45 rfl hl 0 rfl ?_
    refine ax_iconst B dX5_readClause_46 ?_
    refine ax_ivV (y := yX5_readTest) (n := 1) (As := [.int (Int32.ofInt 0)]) B kd5 (lw_V q2395 q2397 qs82 q133 q2398) (by decide +kernel) ⟨Nat.le_of_ble_eq_true rfl, Nat.le_of_ble_eq_true rfl⟩ (fun w1 e1 => mf_X5_readTest l G hSF 64 x0 0 _ w1 e1) rfl hl.size (by decide) dX5_readClause_47 e (fun h2 e => ?_)
    have e8 := e
    have hp : Q = _ := hp
    subst hp
    exact ax_return B Z dX5_readClause_50 e8
set_option maxHeartbeats 4000000 in
theorem w_X5_readClause_24 {l : Launch} {G : ax_G} {X : ax_X} {Q : State → Prop} {h0 h : ax_H} {ls : Array Slot} (hSF : ax_SF G) (B : ax_BL l G X cX5_readClause 1 RX5 134 3025) (Z : ax_Z X h0 none) (hn : X.2.2.2.2.2.2.2.2.1.name = yX5_readClause.name) (x0 : Option Nat) {w : ax_H} (hl : ax_hl ls 1 [(0, .inr (.inr x0))]) (e : f_X5_readClause_24 G.2.2 x0 h = some w) (hp : (fun w : ax_H => Q = ax_Q G X h0 w none) w) : ax_W G X Q h 24 ls [] := by
  unfold f_X5_readClause_24 at e
  refine ax_aload_n B dX5_readClause_24 rfl hl 0 rfl ?_
  refine ax_iconst B dX5_readClause_25 ?_
  refine ax_ivV (y := yX5_readSum) (n := 1) (As := [.int (Int32.ofInt 0)]) B kd5 (lw_V q2363 q2365 qs74 q133 q2366) (by decide +kernel) ⟨Nat.le_of_ble_eq_true rfl, Nat.le_of_ble_eq_true rfl⟩ (fun w1 e1 => mf_X5_readSum l G hSF 64 x0 0 _ w1 e1) rfl hl.size (by decide) dX5_readClause_26 e (fun h1 e => ?_)
  refine ax_goto (tgt := 37) B dX5_readClause_29 (by decide) ?_
  exact w_X5_readClause_37 hSF B Z hn x0 (hl.sub [0] rfl) e hp
set_option maxHeartbeats 4000000 in
theorem we_X5_readClause {l : Launch} {G : ax_G} {X : ax_X} {Q : State → Prop} {h0 h : ax_H} {ls : Array Slot} (hSF : ax_SF G) (B : ax_BL l G X cX5_readClause 1 RX5 134 3025) (Z : ax_Z X h0 none) (hn : X.2.2.2.2.2.2.2.2.1.name = yX5_readClause.name) (x0 : Option Nat) {w : ax_H} (hl : ax_hl ls 1 [(0, .inr (.inr x0))]) (e : f_X5_readClause G.2.2 x0 h = some w) (hp : (fun w : ax_H => Q = ax_Q G X h0 w none) w) : ax_W G X Q h 0 ls [] := by
  unfold f_X5_readClause at e
  refine ax_aload_n B dX5_readClause_0 rfl hl 0 rfl ?_
  refine ax_iconst B dX5_readClause_1 ?_
  refine ax_ivI (y := yX5_takes0) (n := 1) (As := [.int (Int32.ofInt 1)]) B kd5 (lw_V q2355 q2357 qs72 q133 q2358) (by decide +kernel) ⟨Nat.le_of_ble_eq_true rfl, Nat.le_of_ble_eq_true rfl⟩ (fun w1 e1 => mt_X5_takes0 l G hSF x0 1 _ w1 e1) rfl hl.size (by decide) dX5_readClause_2 e (fun q1 e => ?_)
  refine ax_if_ne (tgt := 24) B dX5_readClause_5 (by decide) e (fun e => ?_) (fun e => ?_)
  · refine ax_aload_n B dX5_readClause_8 rfl hl 0 rfl ?_
    refine ax_iconst B dX5_readClause_9 ?_
    refine ax_ivI (y := yX5_takes0) (n := 1) (As := [.int (Int32.ofInt 2)]) B kd5 (lw_V q2355 q2357 qs72 q133 q2358) (by decide +kernel) ⟨Nat.le_of_ble_eq_true rfl, Nat.le_of_ble_eq_true rfl⟩ (fun w1 e1 => mt_X5_takes0 l G hSF x0 2 _ w1 e1) rfl hl.size (by decide) dX5_readClause_10 e (fun q2 e => ?_)
    refine ax_if_ne (tgt := 24) B dX5_readClause_13 (by decide) e (fun e => ?_) (fun e => ?_)
    · refine ax_aload_n B dX5_readClause_16 rfl hl 0 rfl ?_
      refine ax_iconst B dX5_readClause_17 ?_
      refine ax_ivI (y := yX5_takes0) (n := 1) (As := [.int (Int32.ofInt 3)]) B kd5 (lw_V q2355 q2357 qs72 q133 q2358) (by decide +kernel) ⟨Nat.le_of_ble_eq_true rfl, Nat.le_of_ble_eq_true rfl⟩ (fun w1 e1 => mt_X5_takes0 l G hSF x0 3 _ w1 e1) rfl hl.size (by decide) dX5_readClause_18 e (fun q3 e => ?_)
      refine ax_if_eq (tgt := 32) B dX5_readClause_21 (by decide) e (fun e => ?_) (fun e => ?_)
      · refine ax_aload_n B dX5_readClause_32 rfl hl 0 rfl ?_
        refine ax_iconst B dX5_readClause_33 ?_
        refine ax_ivV (y := yX5_must) (n := 1) (As := [.int (Int32.ofInt 4)]) B kd5 (lw_V q2379 q2381 qs78 q133 q2382) (by decide +kernel) ⟨Nat.le_of_ble_eq_true rfl, Nat.le_of_ble_eq_true rfl⟩ (fun w1 e1 => mt_X5_must l G hSF x0 4 _ w1 e1) rfl hl.size (by decide) dX5_readClause_34 e (fun h4 e => ?_)
        exact w_X5_readClause_37 hSF B Z hn x0 (hl.sub [0] rfl) e hp
      · exact w_X5_readClause_24 hSF B Z hn x0 (hl.sub [0] rfl) e hp
    · exact w_X5_readClause_24 hSF B Z hn x0 (hl.sub [0] rfl) e hp
  · exact w_X5_readClause_24 hSF B Z hn x0 (hl.sub [0] rfl) e hp
theorem mt_X5_readClause (l : Launch) (G : ax_G) (hSF : ax_SF G) (x0 : Option Nat) (h : ax_H) (w : ax_H) (e : f_X5_readClause G.2.2 x0 h = some w) : ax_Met l G yX5_readClause cX5_readClause 1 none 134 3025 [va_rf x0] h w none :=
  ax_enter [.inr (.inr x0)] (y := yX5_readClause) hSF (plainFor_of_name (by decide +kernel)) (Nat.le_of_ble_eq_true rfl) (fun X ls B Z hn hl => we_X5_readClause hSF B Z hn x0 hl e rfl)
def dkwX5_readOne_0 : List UInt8 := [42, 180, 0, 219, 153, 0, 10, 42, 182, 0, 237, 167, 0, 7, 42, 182, 0, 240, 177]
abbrev dktX5_readOne_0 : List UInt8 := dkwX5_readOne_0 ++ []
theorem dksX5_readOne_0 : cX5_readOne.data.toList.drop 0 = dktX5_readOne_0 := by decide +kernel
theorem dX5_readOne_0 : decode cX5_readOne 0 = .ok (.aload_n 0, 1) := dk_42 (dk_at dksX5_readOne_0 0 rfl rfl)
theorem dX5_readOne_1 : decode cX5_readOne 1 = .ok (.getfield 219, 3) := dk_180 0 219 (dk_at dksX5_readOne_0 1 rfl rfl)
theorem dX5_readOne_4 : decode cX5_readOne 4 = .ok (.ifCond .eq 10, 3) := dk_153 0 10 (dk_at dksX5_readOne_0 4 rfl rfl)
theorem dX5_readOne_7 : decode cX5_readOne 7 = .ok (.aload_n 0, 1) := dk_42 (dk_at dksX5_readOne_0 7 rfl rfl)
theorem dX5_readOne_8 : decode cX5_readOne 8 = .ok (.invokevirtual 237, 3) := dk_182 0 237 (dk_at dksX5_readOne_0 8 rfl rfl)
theorem dX5_readOne_11 : decode cX5_readOne 11 = .ok (.goto 7, 3) := dk_167 0 7 (dk_at dksX5_readOne_0 11 rfl rfl)
theorem dX5_readOne_14 : decode cX5_readOne 14 = .ok (.aload_n 0, 1) := dk_42 (dk_at dksX5_readOne_0 14 rfl rfl)
theorem dX5_readOne_15 : decode cX5_readOne 15 = .ok (.invokevirtual 240, 3) := dk_182 0 240 (dk_at dksX5_readOne_0 15 rfl rfl)
theorem dX5_readOne_18 : decode cX5_readOne 18 = .ok (.return_, 1) := dk_177 (dk_at dksX5_readOne_0 18 rfl rfl)
noncomputable def f_X5_readOne (E : ax_E) (x0 : Option Nat) (h : ax_H) : Option (ax_H) :=
  (ax_gI E h x0 5 8).bind fun v1 =>
  if i2 v1 = 0 then
    (ax_ce E h x0 5).bind fun _ => (f_X5_readClause E x0 h).bind fun h2 =>
    some h2
  else
    (ax_ce E h x0 5).bind fun _ => (f_X5_readOrder E x0 h).bind fun h3 =>
    some h3
set_option maxHeartbeats 4000000 in
theorem we_X5_readOne {l : Launch} {G : ax_G} {X : ax_X} {Q : State → Prop} {h0 h : ax_H} {ls : Array Slot} (hSF : ax_SF G) (B : ax_BL l G X cX5_readOne 1 RX5 135 3045) (Z : ax_Z X h0 none) (hn : X.2.2.2.2.2.2.2.2.1.name = yX5_readOne.name) (x0 : Option Nat) {w : ax_H} (hl : ax_hl ls 1 [(0, .inr (.inr x0))]) (e : f_X5_readOne G.2.2 x0 h = some w) (hp : (fun w : ax_H => Q = ax_Q G X h0 w none) w) : ax_W G X Q h 0 ls [] := by
  unfold f_X5_readOne at e
  refine ax_aload_n B dX5_readOne_0 rfl hl 0 rfl ?_
  refine ax_getI B ff_X5_219_5 (fun _ _ => rfl) dX5_readOne_1 e (fun v1 e => ?_)
  refine ax_if_eq (tgt := 14) B dX5_readOne_4 (by decide) e (fun e => ?_) (fun e => ?_)
  · refine ax_aload_n B dX5_readOne_14 rfl hl 0 rfl ?_
    refine ax_ivV (y := yX5_readClause) (n := 0) (As := []) B kd5 (lw_V q2407 q2409 qs85 q133 q2410) (by decide +kernel) ⟨Nat.le_of_ble_eq_true rfl, Nat.le_of_ble_eq_true rfl⟩ (fun w1 e1 => mt_X5_readClause l G hSF x0 _ w1 e1) rfl hl.size (by decide) dX5_readOne_15 e (fun h2 e => ?_)
    have e8 := e
    have hp : Q = _ := hp
    subst hp
    exact ax_return B Z dX5_readOne_18 e8
  · refine ax_aload_n B dX5_readOne_7 rfl hl 0 rfl ?_
    refine ax_ivV (y := yX5_readOrder) (n := 0) (As := []) B kd5 (lw_V q2351 q2353 qs71 q133 q2354) (by decide +kernel) ⟨Nat.le_of_ble_eq_true rfl, Nat.le_of_ble_eq_true rfl⟩ (fun w1 e1 => mt_X5_readOrder l G hSF x0 _ w1 e1) rfl hl.size (by decide) dX5_readOne_8 e (fun h3 e => ?_)
    refine ax_goto (tgt := 18) B dX5_readOne_11 (by decide) ?_
    have e8 := e
    have hp : Q = _ := hp
    subst hp
    exact ax_return B Z dX5_readOne_18 e8
theorem mt_X5_readOne (l : Launch) (G : ax_G) (hSF : ax_SF G) (x0 : Option Nat) (h : ax_H) (w : ax_H) (e : f_X5_readOne G.2.2 x0 h = some w) : ax_Met l G yX5_readOne cX5_readOne 1 none 135 3045 [va_rf x0] h w none :=
  ax_enter [.inr (.inr x0)] (y := yX5_readOne) hSF (plainFor_of_name (by decide +kernel)) (Nat.le_of_ble_eq_true rfl) (fun X ls B Z hn hl => we_X5_readOne hSF B Z hn x0 hl e rfl)
def dkwX5_reads_4 : List UInt8 := [182, 0, 213, 42, 42, 180, 0, 200, 181, 0, 47, 42, 182, 0, 203, 172]
abbrev dktX5_reads_4 : List UInt8 := dkwX5_reads_4 ++ []
def dkwX5_reads_3 : List UInt8 := [167, 255, 220, 42, 182, 0, 203, 153, 0, 18, 42, 180, 0, 207, 42, 180, 0, 187, 162, 0, 7, 42]
abbrev dktX5_reads_3 : List UInt8 := dkwX5_reads_3 ++ dktX5_reads_4
def dkwX5_reads_2 : List UInt8 := [16, 12, 160, 0, 7, 42, 182, 0, 213, 42, 182, 0, 203, 153, 0, 7, 42, 182, 1, 12, 132, 1, 1]
abbrev dktX5_reads_2 : List UInt8 := dkwX5_reads_2 ++ dktX5_reads_3
def dkwX5_reads_1 : List UInt8 := [2, 181, 0, 200, 42, 182, 1, 12, 4, 60, 42, 16, 59, 184, 0, 249, 182, 0, 210, 153, 0, 30, 27]
abbrev dktX5_reads_1 : List UInt8 := dkwX5_reads_1 ++ dktX5_reads_2
def dkwX5_reads_0 : List UInt8 := [42, 42, 180, 0, 181, 182, 1, 9, 42, 3, 181, 0, 181, 42, 3, 181, 0, 207, 42, 3, 181, 0, 216, 42]
abbrev dktX5_reads_0 : List UInt8 := dkwX5_reads_0 ++ dktX5_reads_1
theorem dksX5_reads_0 : cX5_reads.data.toList.drop 0 = dktX5_reads_0 := by decide +kernel
theorem dksX5_reads_1 : cX5_reads.data.toList.drop 24 = dktX5_reads_1 := dk_seg dksX5_reads_0 24 rfl rfl
theorem dksX5_reads_2 : cX5_reads.data.toList.drop 47 = dktX5_reads_2 := dk_seg dksX5_reads_1 23 rfl rfl
theorem dksX5_reads_3 : cX5_reads.data.toList.drop 70 = dktX5_reads_3 := dk_seg dksX5_reads_2 23 rfl rfl
theorem dksX5_reads_4 : cX5_reads.data.toList.drop 92 = dktX5_reads_4 := dk_seg dksX5_reads_3 22 rfl rfl
theorem dX5_reads_0 : decode cX5_reads 0 = .ok (.aload_n 0, 1) := dk_42 (dk_at dksX5_reads_0 0 rfl rfl)
theorem dX5_reads_1 : decode cX5_reads 1 = .ok (.aload_n 0, 1) := dk_42 (dk_at dksX5_reads_0 1 rfl rfl)
theorem dX5_reads_2 : decode cX5_reads 2 = .ok (.getfield 181, 3) := dk_180 0 181 (dk_at dksX5_reads_0 2 rfl rfl)
theorem dX5_reads_5 : decode cX5_reads 5 = .ok (.invokevirtual 265, 3) := dk_182 1 9 (dk_at dksX5_reads_0 5 rfl rfl)
theorem dX5_reads_8 : decode cX5_reads 8 = .ok (.aload_n 0, 1) := dk_42 (dk_at dksX5_reads_0 8 rfl rfl)
theorem dX5_reads_9 : decode cX5_reads 9 = .ok (.iconst 0, 1) := dk_3 (dk_at dksX5_reads_0 9 rfl rfl)
theorem dX5_reads_10 : decode cX5_reads 10 = .ok (.putfield 181, 3) := dk_181 0 181 (dk_at dksX5_reads_0 10 rfl rfl)
theorem dX5_reads_13 : decode cX5_reads 13 = .ok (.aload_n 0, 1) := dk_42 (dk_at dksX5_reads_0 13 rfl rfl)
theorem dX5_reads_14 : decode cX5_reads 14 = .ok (.iconst 0, 1) := dk_3 (dk_at dksX5_reads_0 14 rfl rfl)
theorem dX5_reads_15 : decode cX5_reads 15 = .ok (.putfield 207, 3) := dk_181 0 207 (dk_at dksX5_reads_0 15 rfl rfl)
theorem dX5_reads_18 : decode cX5_reads 18 = .ok (.aload_n 0, 1) := dk_42 (dk_at dksX5_reads_0 18 rfl rfl)
theorem dX5_reads_19 : decode cX5_reads 19 = .ok (.iconst 0, 1) := dk_3 (dk_at dksX5_reads_0 19 rfl rfl)
theorem dX5_reads_20 : decode cX5_reads 20 = .ok (.putfield 216, 3) := dk_181 0 216 (dk_at dksX5_reads_0 20 rfl rfl)
theorem dX5_reads_23 : decode cX5_reads 23 = .ok (.aload_n 0, 1) := dk_42 (dk_at dksX5_reads_0 23 rfl rfl)
theorem dX5_reads_24 : decode cX5_reads 24 = .ok (.iconst (-1), 1) := dk_2 (dk_at dksX5_reads_1 0 rfl rfl)
theorem dX5_reads_25 : decode cX5_reads 25 = .ok (.putfield 200, 3) := dk_181 0 200 (dk_at dksX5_reads_1 1 rfl rfl)
theorem dX5_reads_28 : decode cX5_reads 28 = .ok (.aload_n 0, 1) := dk_42 (dk_at dksX5_reads_1 4 rfl rfl)
theorem dX5_reads_29 : decode cX5_reads 29 = .ok (.invokevirtual 268, 3) := dk_182 1 12 (dk_at dksX5_reads_1 5 rfl rfl)
theorem dX5_reads_32 : decode cX5_reads 32 = .ok (.iconst 1, 1) := dk_4 (dk_at dksX5_reads_1 8 rfl rfl)
theorem dX5_reads_33 : decode cX5_reads 33 = .ok (.istore_n 1, 1) := dk_60 (dk_at dksX5_reads_1 9 rfl rfl)
theorem dX5_reads_34 : decode cX5_reads 34 = .ok (.aload_n 0, 1) := dk_42 (dk_at dksX5_reads_1 10 rfl rfl)
theorem dX5_reads_35 : decode cX5_reads 35 = .ok (.bipush 59, 2) := dk_16 59 (dk_at dksX5_reads_1 11 rfl rfl)
theorem dX5_reads_37 : decode cX5_reads 37 = .ok (.invokestatic 249, 3) := dk_184 0 249 (dk_at dksX5_reads_1 13 rfl rfl)
theorem dX5_reads_40 : decode cX5_reads 40 = .ok (.invokevirtual 210, 3) := dk_182 0 210 (dk_at dksX5_reads_1 16 rfl rfl)
theorem dX5_reads_43 : decode cX5_reads 43 = .ok (.ifCond .eq 30, 3) := dk_153 0 30 (dk_at dksX5_reads_1 19 rfl rfl)
theorem dX5_reads_46 : decode cX5_reads 46 = .ok (.iload_n 1, 1) := dk_27 (dk_at dksX5_reads_1 22 rfl rfl)
theorem dX5_reads_47 : decode cX5_reads 47 = .ok (.bipush 12, 2) := dk_16 12 (dk_at dksX5_reads_2 0 rfl rfl)
theorem dX5_reads_49 : decode cX5_reads 49 = .ok (.if_icmp .ne 7, 3) := dk_160 0 7 (dk_at dksX5_reads_2 2 rfl rfl)
theorem dX5_reads_52 : decode cX5_reads 52 = .ok (.aload_n 0, 1) := dk_42 (dk_at dksX5_reads_2 5 rfl rfl)
theorem dX5_reads_53 : decode cX5_reads 53 = .ok (.invokevirtual 213, 3) := dk_182 0 213 (dk_at dksX5_reads_2 6 rfl rfl)
theorem dX5_reads_56 : decode cX5_reads 56 = .ok (.aload_n 0, 1) := dk_42 (dk_at dksX5_reads_2 9 rfl rfl)
theorem dX5_reads_57 : decode cX5_reads 57 = .ok (.invokevirtual 203, 3) := dk_182 0 203 (dk_at dksX5_reads_2 10 rfl rfl)
theorem dX5_reads_60 : decode cX5_reads 60 = .ok (.ifCond .eq 7, 3) := dk_153 0 7 (dk_at dksX5_reads_2 13 rfl rfl)
theorem dX5_reads_63 : decode cX5_reads 63 = .ok (.aload_n 0, 1) := dk_42 (dk_at dksX5_reads_2 16 rfl rfl)
theorem dX5_reads_64 : decode cX5_reads 64 = .ok (.invokevirtual 268, 3) := dk_182 1 12 (dk_at dksX5_reads_2 17 rfl rfl)
theorem dX5_reads_67 : decode cX5_reads 67 = .ok (.iinc 1 1, 3) := dk_132 1 1 (dk_at dksX5_reads_2 20 rfl rfl)
theorem dX5_reads_70 : decode cX5_reads 70 = .ok (.goto (-36), 3) := dk_167 255 220 (dk_at dksX5_reads_3 0 rfl rfl)
theorem dX5_reads_73 : decode cX5_reads 73 = .ok (.aload_n 0, 1) := dk_42 (dk_at dksX5_reads_3 3 rfl rfl)
theorem dX5_reads_74 : decode cX5_reads 74 = .ok (.invokevirtual 203, 3) := dk_182 0 203 (dk_at dksX5_reads_3 4 rfl rfl)
theorem dX5_reads_77 : decode cX5_reads 77 = .ok (.ifCond .eq 18, 3) := dk_153 0 18 (dk_at dksX5_reads_3 7 rfl rfl)
theorem dX5_reads_80 : decode cX5_reads 80 = .ok (.aload_n 0, 1) := dk_42 (dk_at dksX5_reads_3 10 rfl rfl)
theorem dX5_reads_81 : decode cX5_reads 81 = .ok (.getfield 207, 3) := dk_180 0 207 (dk_at dksX5_reads_3 11 rfl rfl)
theorem dX5_reads_84 : decode cX5_reads 84 = .ok (.aload_n 0, 1) := dk_42 (dk_at dksX5_reads_3 14 rfl rfl)
theorem dX5_reads_85 : decode cX5_reads 85 = .ok (.getfield 187, 3) := dk_180 0 187 (dk_at dksX5_reads_3 15 rfl rfl)
theorem dX5_reads_88 : decode cX5_reads 88 = .ok (.if_icmp .ge 7, 3) := dk_162 0 7 (dk_at dksX5_reads_3 18 rfl rfl)
theorem dX5_reads_91 : decode cX5_reads 91 = .ok (.aload_n 0, 1) := dk_42 (dk_at dksX5_reads_3 21 rfl rfl)
theorem dX5_reads_92 : decode cX5_reads 92 = .ok (.invokevirtual 213, 3) := dk_182 0 213 (dk_at dksX5_reads_4 0 rfl rfl)
theorem dX5_reads_95 : decode cX5_reads 95 = .ok (.aload_n 0, 1) := dk_42 (dk_at dksX5_reads_4 3 rfl rfl)
theorem dX5_reads_96 : decode cX5_reads 96 = .ok (.aload_n 0, 1) := dk_42 (dk_at dksX5_reads_4 4 rfl rfl)
theorem dX5_reads_97 : decode cX5_reads 97 = .ok (.getfield 200, 3) := dk_180 0 200 (dk_at dksX5_reads_4 5 rfl rfl)
theorem dX5_reads_100 : decode cX5_reads 100 = .ok (.putfield 47, 3) := dk_181 0 47 (dk_at dksX5_reads_4 8 rfl rfl)
theorem dX5_reads_103 : decode cX5_reads 103 = .ok (.aload_n 0, 1) := dk_42 (dk_at dksX5_reads_4 11 rfl rfl)
theorem dX5_reads_104 : decode cX5_reads 104 = .ok (.invokevirtual 203, 3) := dk_182 0 203 (dk_at dksX5_reads_4 12 rfl rfl)
theorem dX5_reads_107 : decode cX5_reads 107 = .ok (.ireturn, 1) := dk_172 (dk_at dksX5_reads_4 15 rfl rfl)
noncomputable def f_X5_reads_67 (E : ax_E) (x0 : Option Nat) (x1 : Int) (h : ax_H) : Option ((Int × ax_H) ⊕ (Int × ax_H)) :=
  some (.inl ((x1 + 1), h))
noncomputable def f_X5_reads_56 (E : ax_E) (x0 : Option Nat) (x1 : Int) (h : ax_H) : Option ((Int × ax_H) ⊕ (Int × ax_H)) :=
  (ax_ce E h x0 5).bind fun _ => (f_X5_fine E x0 h).bind fun q1 =>
  if i2 q1.1 = 0 then
    f_X5_reads_67 E x0 x1 q1.2
  else
    (ax_ce E q1.2 x0 5).bind fun _ => (f_X5_readOne E x0 q1.2).bind fun h2 =>
    f_X5_reads_67 E x0 x1 h2
noncomputable def f_X5_reads_95 (E : ax_E) (x0 : Option Nat) (h : ax_H) : Option (Int × ax_H) :=
  (ax_gI E h x0 5 19).bind fun v1 =>
  (ax_pI h x0 5 12 v1).bind fun h2 =>
  (ax_ce E h2 x0 5).bind fun _ => (f_X5_fine E x0 h2).bind fun q3 =>
  if q3.1 = 0 ∨ q3.1 = 1 then some (q3.1, q3.2) else none
noncomputable def lb_X5_reads_34 (E : ax_E) (x0 : Option Nat) (x1 : Int) (h : ax_H) : Option ((Int × ax_H) ⊕ (Int × ax_H)) :=
  (f_X5_sign E 59 h).bind fun q1 =>
  (ax_ce E q1.2 x0 5).bind fun _ => (f_X5_takes0 E x0 q1.1 q1.2).bind fun q2 =>
  if i2 q2.1 = 0 then
    ((ax_ce E q2.2 x0 5).bind fun _ => (f_X5_fine E x0 q2.2).bind fun q3 =>
    if i2 q3.1 = 0 then
      f_X5_reads_95 E x0 q3.2
    else
      (ax_gI E q3.2 x0 5 17).bind fun v4 =>
      (ax_gI E q3.2 x0 5 16).bind fun v5 =>
      if i2 v4 < i2 v5 then
        (ax_ce E q3.2 x0 5).bind fun _ => (f_X5_faults E x0 q3.2).bind fun h6 =>
        f_X5_reads_95 E x0 h6
      else
        f_X5_reads_95 E x0 q3.2).map Sum.inr
  else
    if i2 x1 = i2 12 then
      (ax_ce E q2.2 x0 5).bind fun _ => (f_X5_faults E x0 q2.2).bind fun h7 =>
      f_X5_reads_56 E x0 x1 h7
    else
      f_X5_reads_56 E x0 x1 q2.2
noncomputable def f_X5_reads_34 (E : ax_E) (x0 : Option Nat) (x1 : Int) (h : ax_H) : Option (Int × ax_H) :=
  ax_iter (fun s : Int × ax_H => lb_X5_reads_34 E x0 s.1 s.2) (x1, h)
noncomputable def f_X5_reads (E : ax_E) (x0 : Option Nat) (h : ax_H) : Option (Int × ax_H) :=
  (ax_gI E h x0 5 11).bind fun v1 =>
  (ax_ce E h x0 5).bind fun _ => (f_X5_splits E x0 v1 h).bind fun h2 =>
  (ax_pI h2 x0 5 11 0).bind fun h3 =>
  (ax_pI h3 x0 5 17 0).bind fun h4 =>
  (ax_pI h4 x0 5 18 0).bind fun h5 =>
  (ax_pI h5 x0 5 19 (-1)).bind fun h6 =>
  (ax_ce E h6 x0 5).bind fun _ => (f_X5_readOne E x0 h6).bind fun h7 =>
  f_X5_reads_34 E x0 1 h7
def pi_X5_reads_34 (G : ax_G) (X : ax_X) (Q : State → Prop) (x0 : Option Nat) : Int × ax_H → Prop := fun s => ∀ ls : Array Slot, ax_hl ls 2 [(0, .inr (.inr x0)), (1, .inl s.1)] → ax_W G X Q s.2 34 ls []
set_option maxHeartbeats 4000000 in
theorem w_X5_reads_67 {l : Launch} {G : ax_G} {X : ax_X} {Q : State → Prop} {h0 h : ax_H} {ls : Array Slot} (hSF : ax_SF G) (B : ax_BL l G X cX5_reads 2 RX5 136 3065) (Z : ax_Z X h0 ((some FieldType.boolean))) (hn : X.2.2.2.2.2.2.2.2.1.name = yX5_reads.name) (x0 : Option Nat) (x1 : Int) {w : (Int × ax_H) ⊕ (Int × ax_H)} (hl : ax_hl ls 2 [(0, .inr (.inr x0)), (1, .inl x1)]) (e : f_X5_reads_67 G.2.2 x0 x1 h = some w) (hp : (ax_PL (pi_X5_reads_34 G X Q x0) (fun w : Int × ax_H => Q = ax_Q G X h0 w.2 (some (.int (Int32.ofInt w.1))))) w) : ax_W G X Q h 67 ls [] := by
  unfold f_X5_reads_67 at e
  refine ax_iinc (L' := [(1, .inl (x1 + 1)), (0, .inr (.inr x0))]) B dX5_reads_67 hl 1 rfl (by decide) rfl (fun ls hl => ?_)
  refine ax_goto (tgt := 34) B dX5_reads_70 (by decide) ?_
  cases e
  exact hp _ (hl.sub [1, 0] rfl)
set_option maxHeartbeats 4000000 in
theorem w_X5_reads_56 {l : Launch} {G : ax_G} {X : ax_X} {Q : State → Prop} {h0 h : ax_H} {ls : Array Slot} (hSF : ax_SF G) (B : ax_BL l G X cX5_reads 2 RX5 136 3065) (Z : ax_Z X h0 ((some FieldType.boolean))) (hn : X.2.2.2.2.2.2.2.2.1.name = yX5_reads.name) (x0 : Option Nat) (x1 : Int) {w : (Int × ax_H) ⊕ (Int × ax_H)} (hl : ax_hl ls 2 [(0, .inr (.inr x0)), (1, .inl x1)]) (e : f_X5_reads_56 G.2.2 x0 x1 h = some w) (hp : (ax_PL (pi_X5_reads_34 G X Q x0) (fun w : Int × ax_H => Q = ax_Q G X h0 w.2 (some (.int (Int32.ofInt w.1))))) w) : ax_W G X Q h 56 ls [] := by
  unfold f_X5_reads_56 at e
  refine ax_aload_n B dX5_reads_56 rfl hl 0 rfl ?_
  refine ax_ivI (y := yX5_fine) (n := 0) (As := []) B kd5 (lw_V q2359 q2361 qs73 q133 q2362) (by decide +kernel) ⟨Nat.le_of_ble_eq_true rfl, Nat.le_of_ble_eq_true rfl⟩ (fun w1 e1 => mt_X5_fine l G hSF x0 _ w1 e1) rfl hl.size (by decide) dX5_reads_57 e (fun q1 e => ?_)
  refine ax_if_eq (tgt := 67) B dX5_reads_60 (by decide) e (fun e => ?_) (fun e => ?_)
  · exact w_X5_reads_67 hSF B Z hn x0 x1 (hl.sub [0, 1] rfl) e hp
  · refine ax_aload_n B dX5_reads_63 rfl hl 0 rfl ?_
    refine ax_ivV (y := yX5_readOne) (n := 0) (As := []) B kd5 (lw_V q2347 q2349 qs70 q133 q2350) (by decide +kernel) ⟨Nat.le_of_ble_eq_true rfl, Nat.le_of_ble_eq_true rfl⟩ (fun w1 e1 => mt_X5_readOne l G hSF x0 _ w1 e1) rfl hl.size (by decide) dX5_reads_64 e (fun h2 e => ?_)
    exact w_X5_reads_67 hSF B Z hn x0 x1 (hl.sub [0, 1] rfl) e hp
set_option maxHeartbeats 4000000 in
theorem w_X5_reads_95 {l : Launch} {G : ax_G} {X : ax_X} {Q : State → Prop} {h0 h : ax_H} {ls : Array Slot} (hSF : ax_SF G) (B : ax_BL l G X cX5_reads 2 RX5 136 3065) (Z : ax_Z X h0 ((some FieldType.boolean))) (hn : X.2.2.2.2.2.2.2.2.1.name = yX5_reads.name) (x0 : Option Nat) {w : Int × ax_H} (hl : ax_hl ls 2 [(0, .inr (.inr x0))]) (e : f_X5_reads_95 G.2.2 x0 h = some w) (hp : (fun w : Int × ax_H => Q = ax_Q G X h0 w.2 (some (.int (Int32.ofInt w.1)))) w) : ax_W G X Q h 95 ls [] := by
  unfold f_X5_reads_95 at e
  refine ax_aload_n B dX5_reads_95 rfl hl 0 rfl ?_
  refine ax_aload_n B dX5_reads_96 rfl hl 0 rfl ?_
  refine ax_getI B ff_X5_200_5 (fun _ _ => rfl) dX5_reads_97 e (fun v1 e => ?_)
  refine ax_putI B ff_X5_47_5 (Or.inl rfl) rfl dX5_reads_100 e (fun h2 e => ?_)
  refine ax_aload_n B dX5_reads_103 rfl hl 0 rfl ?_
  refine ax_ivI (y := yX5_fine) (n := 0) (As := []) B kd5 (lw_V q2359 q2361 qs73 q133 q2362) (by decide +kernel) ⟨Nat.le_of_ble_eq_true rfl, Nat.le_of_ble_eq_true rfl⟩ (fun w1 e1 => mt_X5_fine l G hSF x0 _ w1 e1) rfl hl.size (by decide) dX5_reads_104 e (fun q3 e => ?_)
  have e8 := e
  have hp : Q = _ := hp
  subst hp
  exact ax_zreturn B Z dX5_reads_107 e8
set_option maxHeartbeats 4000000 in
theorem wb_X5_reads_34 {l : Launch} {G : ax_G} {X : ax_X} {Q : State → Prop} {h0 h : ax_H} {ls : Array Slot} (hSF : ax_SF G) (B : ax_BL l G X cX5_reads 2 RX5 136 3065) (Z : ax_Z X h0 ((some FieldType.boolean))) (hn : X.2.2.2.2.2.2.2.2.1.name = yX5_reads.name) (x0 : Option Nat) (x1 : Int) {w : (Int × ax_H) ⊕ (Int × ax_H)} (hl : ax_hl ls 2 [(0, .inr (.inr x0)), (1, .inl x1)]) (e : lb_X5_reads_34 G.2.2 x0 x1 h = some w) (hp : (ax_PL (pi_X5_reads_34 G X Q x0) (fun w : Int × ax_H => Q = ax_Q G X h0 w.2 (some (.int (Int32.ofInt w.1))))) w) : ax_W G X Q h 34 ls [] := by
  unfold lb_X5_reads_34 at e
  refine ax_aload_n B dX5_reads_34 rfl hl 0 rfl ?_
  refine ax_bipush B dX5_reads_35 (by decide) ?_
  refine ax_isI (y := yX5_sign) (n := 1) (As := [.int (Int32.ofInt 59)]) B (lw_S q2266 q2267 q133 q2268) (by decide +kernel) ⟨Nat.le_of_ble_eq_true rfl, Nat.le_of_ble_eq_true rfl⟩ (fun w1 e1 => mt_X5_sign l G hSF 59 _ w1 e1) rfl hl.size (by simp only [List.map_cons, List.map_nil, List.sum_cons, List.sum_nil, va_rf_cat, ax_catI, ax_catL]; decide) dX5_reads_37 e (fun q1 e => ?_)
  refine ax_ivI (y := yX5_takes0) (n := 1) (As := [.int (Int32.ofInt q1.1)]) B kd5 (lw_V q2355 q2357 qs72 q133 q2358) (by decide +kernel) ⟨Nat.le_of_ble_eq_true rfl, Nat.le_of_ble_eq_true rfl⟩ (fun w1 e1 => mt_X5_takes0 l G hSF x0 q1.1 _ w1 e1) rfl hl.size (by decide) dX5_reads_40 e (fun q2 e => ?_)
  refine ax_if_eq (tgt := 73) B dX5_reads_43 (by decide) e (fun e => ?_) (fun e => ?_)
  · obtain ⟨w, e9_1, rfl⟩ := Option.map_eq_some_iff.mp e
    have e := e9_1
    refine ax_aload_n B dX5_reads_73 rfl hl 0 rfl ?_
    refine ax_ivI (y := yX5_fine) (n := 0) (As := []) B kd5 (lw_V q2359 q2361 qs73 q133 q2362) (by decide +kernel) ⟨Nat.le_of_ble_eq_true rfl, Nat.le_of_ble_eq_true rfl⟩ (fun w1 e1 => mt_X5_fine l G hSF x0 _ w1 e1) rfl hl.size (by decide) dX5_reads_74 e (fun q3 e => ?_)
    refine ax_if_eq (tgt := 95) B dX5_reads_77 (by decide) e (fun e => ?_) (fun e => ?_)
    · exact w_X5_reads_95 hSF B Z hn x0 (hl.sub [0] rfl) e hp
    · refine ax_aload_n B dX5_reads_80 rfl hl 0 rfl ?_
      refine ax_getI B ff_X5_207_5 (fun _ _ => rfl) dX5_reads_81 e (fun v4 e => ?_)
      refine ax_aload_n B dX5_reads_84 rfl hl 0 rfl ?_
      refine ax_getI B ff_X5_187_5 (fun _ _ => rfl) dX5_reads_85 e (fun v5 e => ?_)
      refine ax_icmp_ge (tgt := 95) B dX5_reads_88 (by decide) e (fun e => ?_) (fun e => ?_)
      · refine ax_aload_n B dX5_reads_91 rfl hl 0 rfl ?_
        refine ax_ivV (y := yX5_faults) (n := 0) (As := []) B kd5 (lw_V q2375 q2377 qs77 q133 q2378) (by decide +kernel) ⟨Nat.le_of_ble_eq_true rfl, Nat.le_of_ble_eq_true rfl⟩ (fun w1 e1 => mt_X5_faults l G hSF x0 _ w1 e1) rfl hl.size (by decide) dX5_reads_92 e (fun h6 e => ?_)
        exact w_X5_reads_95 hSF B Z hn x0 (hl.sub [0] rfl) e hp
      · exact w_X5_reads_95 hSF B Z hn x0 (hl.sub [0] rfl) e hp
  · refine ax_iload_n B dX5_reads_46 rfl hl 1 rfl ?_
    refine ax_bipush B dX5_reads_47 (by decide) ?_
    refine ax_icmp_ne (tgt := 56) B dX5_reads_49 (by decide) e (fun e => ?_) (fun e => ?_)
    · refine ax_aload_n B dX5_reads_52 rfl hl 0 rfl ?_
      refine ax_ivV (y := yX5_faults) (n := 0) (As := []) B kd5 (lw_V q2375 q2377 qs77 q133 q2378) (by decide +kernel) ⟨Nat.le_of_ble_eq_true rfl, Nat.le_of_ble_eq_true rfl⟩ (fun w1 e1 => mt_X5_faults l G hSF x0 _ w1 e1) rfl hl.size (by decide) dX5_reads_53 e (fun h7 e => ?_)
      exact w_X5_reads_56 hSF B Z hn x0 x1 (hl.sub [0, 1] rfl) e hp
    · exact w_X5_reads_56 hSF B Z hn x0 x1 (hl.sub [0, 1] rfl) e hp
theorem w_X5_reads_34 {l : Launch} {G : ax_G} {X : ax_X} {Q : State → Prop} {h0 h : ax_H} {ls : Array Slot} (hSF : ax_SF G) (B : ax_BL l G X cX5_reads 2 RX5 136 3065) (Z : ax_Z X h0 ((some FieldType.boolean))) (hn : X.2.2.2.2.2.2.2.2.1.name = yX5_reads.name) (x0 : Option Nat) (x1 : Int) {w : Int × ax_H} (hl : ax_hl ls 2 [(0, .inr (.inr x0)), (1, .inl x1)]) (e : f_X5_reads_34 G.2.2 x0 x1 h = some w) (hp : (fun w : Int × ax_H => Q = ax_Q G X h0 w.2 (some (.int (Int32.ofInt w.1)))) w) : ax_W G X Q h 34 ls [] :=
  ax_iter_W (Pin := pi_X5_reads_34 G X Q x0) (Pout := (fun w : Int × ax_H => Q = ax_Q G X h0 w.2 (some (.int (Int32.ofInt w.1))))) (fun s w e hp ls hl => wb_X5_reads_34 hSF B Z hn x0 s.1 hl e hp) _ _ e hp ls hl
set_option maxHeartbeats 4000000 in
theorem we_X5_reads {l : Launch} {G : ax_G} {X : ax_X} {Q : State → Prop} {h0 h : ax_H} {ls : Array Slot} (hSF : ax_SF G) (B : ax_BL l G X cX5_reads 2 RX5 136 3065) (Z : ax_Z X h0 ((some FieldType.boolean))) (hn : X.2.2.2.2.2.2.2.2.1.name = yX5_reads.name) (x0 : Option Nat) {w : Int × ax_H} (hl : ax_hl ls 2 [(0, .inr (.inr x0))]) (e : f_X5_reads G.2.2 x0 h = some w) (hp : (fun w : Int × ax_H => Q = ax_Q G X h0 w.2 (some (.int (Int32.ofInt w.1)))) w) : ax_W G X Q h 0 ls [] := by
  unfold f_X5_reads at e
  refine ax_aload_n B dX5_reads_0 rfl hl 0 rfl ?_
  refine ax_aload_n B dX5_reads_1 rfl hl 0 rfl ?_
  refine ax_getI B ff_X5_181_5 (fun _ _ => rfl) dX5_reads_2 e (fun v1 e => ?_)
  refine ax_ivV (y := yX5_splits) (n := 1) (As := [.int (Int32.ofInt v1)]) B kd5 (lw_V q2332 q2334 qs68 q133 q2335) (by decide +kernel) ⟨Nat.le_of_ble_eq_true rfl, Nat.le_of_ble_eq_true rfl⟩ (fun w1 e1 => mt_X5_splits l G hSF x0 v1 _ w1 e1) rfl hl.size (by decide) dX5_reads_5 e (fun h2 e => ?_)
  refine ax_aload_n B dX5_reads_8 rfl hl 0 rfl ?_
  refine ax_iconst B dX5_reads_9 ?_
  refine ax_putI B ff_X5_181_5 (Or.inl rfl) rfl dX5_reads_10 e (fun h3 e => ?_)
  refine ax_aload_n B dX5_reads_13 rfl hl 0 rfl ?_
  refine ax_iconst B dX5_reads_14 ?_
  refine ax_putI B ff_X5_207_5 (Or.inl rfl) rfl dX5_reads_15 e (fun h4 e => ?_)
  refine ax_aload_n B dX5_reads_18 rfl hl 0 rfl ?_
  refine ax_iconst B dX5_reads_19 ?_
  refine ax_putI B ff_X5_216_5 (Or.inl rfl) rfl dX5_reads_20 e (fun h5 e => ?_)
  refine ax_aload_n B dX5_reads_23 rfl hl 0 rfl ?_
  refine ax_iconst B dX5_reads_24 ?_
  refine ax_putI B ff_X5_200_5 (Or.inl rfl) rfl dX5_reads_25 e (fun h6 e => ?_)
  refine ax_aload_n B dX5_reads_28 rfl hl 0 rfl ?_
  refine ax_ivV (y := yX5_readOne) (n := 0) (As := []) B kd5 (lw_V q2347 q2349 qs70 q133 q2350) (by decide +kernel) ⟨Nat.le_of_ble_eq_true rfl, Nat.le_of_ble_eq_true rfl⟩ (fun w1 e1 => mt_X5_readOne l G hSF x0 _ w1 e1) rfl hl.size (by decide) dX5_reads_29 e (fun h7 e => ?_)
  refine ax_iconst B dX5_reads_32 ?_
  refine ax_istore_n (L' := [(1, .inl 1), (0, .inr (.inr x0))]) B dX5_reads_33 rfl hl (by decide) rfl (fun ls hl => ?_)
  exact w_X5_reads_34 hSF B Z hn x0 1 (hl.sub [1, 0] rfl) e hp
theorem mt_X5_reads (l : Launch) (G : ax_G) (hSF : ax_SF G) (x0 : Option Nat) (h : ax_H) (w : Int × ax_H) (e : f_X5_reads G.2.2 x0 h = some w) : ax_Met l G yX5_reads cX5_reads 2 ((some FieldType.boolean)) 136 3065 [va_rf x0] h w.2 (some (.int (Int32.ofInt w.1))) :=
  ax_enter [.inr (.inr x0)] (y := yX5_reads) hSF (plainFor_of_name (by decide +kernel)) (Nat.le_of_ble_eq_true rfl) (fun X ls B Z hn hl => we_X5_reads hSF B Z hn x0 hl e rfl)
def dkwX5_lays_3 : List UInt8 := [167, 255, 201, 177]
abbrev dktX5_lays_3 : List UInt8 := dkwX5_lays_3 ++ []
def dkwX5_lays_2 : List UInt8 := [180, 0, 24, 17, 11, 148, 17, 1, 144, 27, 104, 96, 28, 96, 42, 180, 0, 53, 28, 46, 79, 132, 2, 1]
abbrev dktX5_lays_2 : List UInt8 := dkwX5_lays_2 ++ dktX5_lays_3
def dkwX5_lays_1 : List UInt8 := [42, 180, 0, 24, 17, 0, 164, 17, 1, 144, 27, 104, 96, 28, 96, 42, 180, 0, 50, 28, 46, 79, 42]
abbrev dktX5_lays_1 : List UInt8 := dkwX5_lays_1 ++ dktX5_lays_2
def dkwX5_lays_0 : List UInt8 := [42, 180, 0, 24, 17, 0, 157, 27, 96, 42, 180, 0, 187, 79, 3, 61, 28, 42, 180, 0, 187, 162, 0, 53]
abbrev dktX5_lays_0 : List UInt8 := dkwX5_lays_0 ++ dktX5_lays_1
theorem dksX5_lays_0 : cX5_lays.data.toList.drop 0 = dktX5_lays_0 := by decide +kernel
theorem dksX5_lays_1 : cX5_lays.data.toList.drop 24 = dktX5_lays_1 := dk_seg dksX5_lays_0 24 rfl rfl
theorem dksX5_lays_2 : cX5_lays.data.toList.drop 47 = dktX5_lays_2 := dk_seg dksX5_lays_1 23 rfl rfl
theorem dksX5_lays_3 : cX5_lays.data.toList.drop 71 = dktX5_lays_3 := dk_seg dksX5_lays_2 24 rfl rfl
theorem dX5_lays_0 : decode cX5_lays 0 = .ok (.aload_n 0, 1) := dk_42 (dk_at dksX5_lays_0 0 rfl rfl)
theorem dX5_lays_1 : decode cX5_lays 1 = .ok (.getfield 24, 3) := dk_180 0 24 (dk_at dksX5_lays_0 1 rfl rfl)
theorem dX5_lays_4 : decode cX5_lays 4 = .ok (.sipush 157, 3) := dk_17 0 157 (dk_at dksX5_lays_0 4 rfl rfl)
theorem dX5_lays_7 : decode cX5_lays 7 = .ok (.iload_n 1, 1) := dk_27 (dk_at dksX5_lays_0 7 rfl rfl)
theorem dX5_lays_8 : decode cX5_lays 8 = .ok (.iadd, 1) := dk_96 (dk_at dksX5_lays_0 8 rfl rfl)
theorem dX5_lays_9 : decode cX5_lays 9 = .ok (.aload_n 0, 1) := dk_42 (dk_at dksX5_lays_0 9 rfl rfl)
theorem dX5_lays_10 : decode cX5_lays 10 = .ok (.getfield 187, 3) := dk_180 0 187 (dk_at dksX5_lays_0 10 rfl rfl)
theorem dX5_lays_13 : decode cX5_lays 13 = .ok (.iastore, 1) := dk_79 (dk_at dksX5_lays_0 13 rfl rfl)
theorem dX5_lays_14 : decode cX5_lays 14 = .ok (.iconst 0, 1) := dk_3 (dk_at dksX5_lays_0 14 rfl rfl)
theorem dX5_lays_15 : decode cX5_lays 15 = .ok (.istore_n 2, 1) := dk_61 (dk_at dksX5_lays_0 15 rfl rfl)
theorem dX5_lays_16 : decode cX5_lays 16 = .ok (.iload_n 2, 1) := dk_28 (dk_at dksX5_lays_0 16 rfl rfl)
theorem dX5_lays_17 : decode cX5_lays 17 = .ok (.aload_n 0, 1) := dk_42 (dk_at dksX5_lays_0 17 rfl rfl)
theorem dX5_lays_18 : decode cX5_lays 18 = .ok (.getfield 187, 3) := dk_180 0 187 (dk_at dksX5_lays_0 18 rfl rfl)
theorem dX5_lays_21 : decode cX5_lays 21 = .ok (.if_icmp .ge 53, 3) := dk_162 0 53 (dk_at dksX5_lays_0 21 rfl rfl)
theorem dX5_lays_24 : decode cX5_lays 24 = .ok (.aload_n 0, 1) := dk_42 (dk_at dksX5_lays_1 0 rfl rfl)
theorem dX5_lays_25 : decode cX5_lays 25 = .ok (.getfield 24, 3) := dk_180 0 24 (dk_at dksX5_lays_1 1 rfl rfl)
theorem dX5_lays_28 : decode cX5_lays 28 = .ok (.sipush 164, 3) := dk_17 0 164 (dk_at dksX5_lays_1 4 rfl rfl)
theorem dX5_lays_31 : decode cX5_lays 31 = .ok (.sipush 400, 3) := dk_17 1 144 (dk_at dksX5_lays_1 7 rfl rfl)
theorem dX5_lays_34 : decode cX5_lays 34 = .ok (.iload_n 1, 1) := dk_27 (dk_at dksX5_lays_1 10 rfl rfl)
theorem dX5_lays_35 : decode cX5_lays 35 = .ok (.imul, 1) := dk_104 (dk_at dksX5_lays_1 11 rfl rfl)
theorem dX5_lays_36 : decode cX5_lays 36 = .ok (.iadd, 1) := dk_96 (dk_at dksX5_lays_1 12 rfl rfl)
theorem dX5_lays_37 : decode cX5_lays 37 = .ok (.iload_n 2, 1) := dk_28 (dk_at dksX5_lays_1 13 rfl rfl)
theorem dX5_lays_38 : decode cX5_lays 38 = .ok (.iadd, 1) := dk_96 (dk_at dksX5_lays_1 14 rfl rfl)
theorem dX5_lays_39 : decode cX5_lays 39 = .ok (.aload_n 0, 1) := dk_42 (dk_at dksX5_lays_1 15 rfl rfl)
theorem dX5_lays_40 : decode cX5_lays 40 = .ok (.getfield 50, 3) := dk_180 0 50 (dk_at dksX5_lays_1 16 rfl rfl)
theorem dX5_lays_43 : decode cX5_lays 43 = .ok (.iload_n 2, 1) := dk_28 (dk_at dksX5_lays_1 19 rfl rfl)
theorem dX5_lays_44 : decode cX5_lays 44 = .ok (.iaload, 1) := dk_46 (dk_at dksX5_lays_1 20 rfl rfl)
theorem dX5_lays_45 : decode cX5_lays 45 = .ok (.iastore, 1) := dk_79 (dk_at dksX5_lays_1 21 rfl rfl)
theorem dX5_lays_46 : decode cX5_lays 46 = .ok (.aload_n 0, 1) := dk_42 (dk_at dksX5_lays_1 22 rfl rfl)
theorem dX5_lays_47 : decode cX5_lays 47 = .ok (.getfield 24, 3) := dk_180 0 24 (dk_at dksX5_lays_2 0 rfl rfl)
theorem dX5_lays_50 : decode cX5_lays 50 = .ok (.sipush 2964, 3) := dk_17 11 148 (dk_at dksX5_lays_2 3 rfl rfl)
theorem dX5_lays_53 : decode cX5_lays 53 = .ok (.sipush 400, 3) := dk_17 1 144 (dk_at dksX5_lays_2 6 rfl rfl)
theorem dX5_lays_56 : decode cX5_lays 56 = .ok (.iload_n 1, 1) := dk_27 (dk_at dksX5_lays_2 9 rfl rfl)
theorem dX5_lays_57 : decode cX5_lays 57 = .ok (.imul, 1) := dk_104 (dk_at dksX5_lays_2 10 rfl rfl)
theorem dX5_lays_58 : decode cX5_lays 58 = .ok (.iadd, 1) := dk_96 (dk_at dksX5_lays_2 11 rfl rfl)
theorem dX5_lays_59 : decode cX5_lays 59 = .ok (.iload_n 2, 1) := dk_28 (dk_at dksX5_lays_2 12 rfl rfl)
theorem dX5_lays_60 : decode cX5_lays 60 = .ok (.iadd, 1) := dk_96 (dk_at dksX5_lays_2 13 rfl rfl)
theorem dX5_lays_61 : decode cX5_lays 61 = .ok (.aload_n 0, 1) := dk_42 (dk_at dksX5_lays_2 14 rfl rfl)
theorem dX5_lays_62 : decode cX5_lays 62 = .ok (.getfield 53, 3) := dk_180 0 53 (dk_at dksX5_lays_2 15 rfl rfl)
theorem dX5_lays_65 : decode cX5_lays 65 = .ok (.iload_n 2, 1) := dk_28 (dk_at dksX5_lays_2 18 rfl rfl)
theorem dX5_lays_66 : decode cX5_lays 66 = .ok (.iaload, 1) := dk_46 (dk_at dksX5_lays_2 19 rfl rfl)
theorem dX5_lays_67 : decode cX5_lays 67 = .ok (.iastore, 1) := dk_79 (dk_at dksX5_lays_2 20 rfl rfl)
theorem dX5_lays_68 : decode cX5_lays 68 = .ok (.iinc 2 1, 3) := dk_132 2 1 (dk_at dksX5_lays_2 21 rfl rfl)
theorem dX5_lays_71 : decode cX5_lays 71 = .ok (.goto (-55), 3) := dk_167 255 201 (dk_at dksX5_lays_3 0 rfl rfl)
theorem dX5_lays_74 : decode cX5_lays 74 = .ok (.return_, 1) := dk_177 (dk_at dksX5_lays_3 3 rfl rfl)
noncomputable def lb_X5_lays_16 (E : ax_E) (x0 : Option Nat) (x1 : Int) (x2 : Int) (h : ax_H) : Option ((Int × ax_H) ⊕ (ax_H)) :=
  (ax_gI E h x0 5 16).bind fun v1 =>
  if i2 x2 < i2 v1 then
    (ax_gR E h x0 5 2).bind fun v2 =>
    (ax_gR E h x0 5 13).bind fun v3 =>
    (ax_ld E h v3 100 x2).bind fun v4 =>
    (ax_sto h v2 100 ((164 + (400 * x1)) + x2) v4).bind fun h5 =>
    (ax_gR E h5 x0 5 2).bind fun v6 =>
    (ax_gR E h5 x0 5 14).bind fun v7 =>
    (ax_ld E h5 v7 100 x2).bind fun v8 =>
    (ax_sto h5 v6 100 ((2964 + (400 * x1)) + x2) v8).bind fun h9 =>
    some (.inl ((x2 + 1), h9))
  else
    (some h).map Sum.inr
noncomputable def f_X5_lays_16 (E : ax_E) (x0 : Option Nat) (x1 : Int) (x2 : Int) (h : ax_H) : Option (ax_H) :=
  ax_iter (fun s : Int × ax_H => lb_X5_lays_16 E x0 x1 s.1 s.2) (x2, h)
noncomputable def f_X5_lays (E : ax_E) (x0 : Option Nat) (x1 : Int) (h : ax_H) : Option (ax_H) :=
  (ax_gR E h x0 5 2).bind fun v1 =>
  (ax_gI E h x0 5 16).bind fun v2 =>
  (ax_sto h v1 100 (157 + x1) v2).bind fun h3 =>
  f_X5_lays_16 E x0 x1 0 h3
def pi_X5_lays_16 (G : ax_G) (X : ax_X) (Q : State → Prop) (x0 : Option Nat) (x1 : Int) : Int × ax_H → Prop := fun s => ∀ ls : Array Slot, ax_hl ls 3 [(0, .inr (.inr x0)), (1, .inl x1), (2, .inl s.1)] → ax_W G X Q s.2 16 ls []
set_option maxHeartbeats 4000000 in
theorem wb_X5_lays_16 {l : Launch} {G : ax_G} {X : ax_X} {Q : State → Prop} {h0 h : ax_H} {ls : Array Slot} (hSF : ax_SF G) (B : ax_BL l G X cX5_lays 3 RX5 1 40) (Z : ax_Z X h0 none) (hn : X.2.2.2.2.2.2.2.2.1.name = yX5_lays.name) (x0 : Option Nat) (x1 : Int) (x2 : Int) {w : (Int × ax_H) ⊕ (ax_H)} (hl : ax_hl ls 3 [(0, .inr (.inr x0)), (1, .inl x1), (2, .inl x2)]) (e : lb_X5_lays_16 G.2.2 x0 x1 x2 h = some w) (hp : (ax_PL (pi_X5_lays_16 G X Q x0 x1) (fun w : ax_H => Q = ax_Q G X h0 w none)) w) : ax_W G X Q h 16 ls [] := by
  unfold lb_X5_lays_16 at e
  refine ax_iload_n B dX5_lays_16 rfl hl 2 rfl ?_
  refine ax_aload_n B dX5_lays_17 rfl hl 0 rfl ?_
  refine ax_getI B ff_X5_187_5 (fun _ _ => rfl) dX5_lays_18 e (fun v1 e => ?_)
  refine ax_icmp_ge (tgt := 74) B dX5_lays_21 (by decide) e (fun e => ?_) (fun e => ?_)
  · refine ax_aload_n B dX5_lays_24 rfl hl 0 rfl ?_
    refine ax_getR B ff_X5_24_5 (fun _ _ => rfl) dX5_lays_25 e (fun v2 e => ?_)
    refine ax_sipush B dX5_lays_28 (by decide) ?_
    refine ax_sipush B dX5_lays_31 (by decide) ?_
    refine ax_iload_n B dX5_lays_34 rfl hl 1 rfl ?_
    refine ax_imul' B dX5_lays_35 ?_
    refine ax_iadd' B dX5_lays_36 ?_
    refine ax_iload_n B dX5_lays_37 rfl hl 2 rfl ?_
    refine ax_iadd' B dX5_lays_38 ?_
    refine ax_aload_n B dX5_lays_39 rfl hl 0 rfl ?_
    refine ax_getR B ff_X5_50_5 (fun _ _ => rfl) dX5_lays_40 e (fun v3 e => ?_)
    refine ax_iload_n B dX5_lays_43 rfl hl 2 rfl ?_
    refine ax_iald B kd100 dX5_lays_44 e (fun v4 e => ?_)
    refine ax_iast B kd100 dX5_lays_45 e (fun h5 e => ?_)
    refine ax_aload_n B dX5_lays_46 rfl hl 0 rfl ?_
    refine ax_getR B ff_X5_24_5 (fun _ _ => rfl) dX5_lays_47 e (fun v6 e => ?_)
    refine ax_sipush B dX5_lays_50 (by decide) ?_
    refine ax_sipush B dX5_lays_53 (by decide) ?_
    refine ax_iload_n B dX5_lays_56 rfl hl 1 rfl ?_
    refine ax_imul' B dX5_lays_57 ?_
    refine ax_iadd' B dX5_lays_58 ?_
    refine ax_iload_n B dX5_lays_59 rfl hl 2 rfl ?_
    refine ax_iadd' B dX5_lays_60 ?_
    refine ax_aload_n B dX5_lays_61 rfl hl 0 rfl ?_
    refine ax_getR B ff_X5_53_5 (fun _ _ => rfl) dX5_lays_62 e (fun v7 e => ?_)
    refine ax_iload_n B dX5_lays_65 rfl hl 2 rfl ?_
    refine ax_iald B kd100 dX5_lays_66 e (fun v8 e => ?_)
    refine ax_iast B kd100 dX5_lays_67 e (fun h9 e => ?_)
    refine ax_iinc (L' := [(2, .inl (x2 + 1)), (0, .inr (.inr x0)), (1, .inl x1)]) B dX5_lays_68 hl 2 rfl (by decide) rfl (fun ls hl => ?_)
    refine ax_goto (tgt := 16) B dX5_lays_71 (by decide) ?_
    cases e
    exact hp _ (hl.sub [1, 2, 0] rfl)
  · obtain ⟨w, e9_1, rfl⟩ := Option.map_eq_some_iff.mp e
    have e := e9_1
    have e8 := e
    have hp : Q = _ := hp
    subst hp
    exact ax_return B Z dX5_lays_74 e8
theorem w_X5_lays_16 {l : Launch} {G : ax_G} {X : ax_X} {Q : State → Prop} {h0 h : ax_H} {ls : Array Slot} (hSF : ax_SF G) (B : ax_BL l G X cX5_lays 3 RX5 1 40) (Z : ax_Z X h0 none) (hn : X.2.2.2.2.2.2.2.2.1.name = yX5_lays.name) (x0 : Option Nat) (x1 : Int) (x2 : Int) {w : ax_H} (hl : ax_hl ls 3 [(0, .inr (.inr x0)), (1, .inl x1), (2, .inl x2)]) (e : f_X5_lays_16 G.2.2 x0 x1 x2 h = some w) (hp : (fun w : ax_H => Q = ax_Q G X h0 w none) w) : ax_W G X Q h 16 ls [] :=
  ax_iter_W (Pin := pi_X5_lays_16 G X Q x0 x1) (Pout := (fun w : ax_H => Q = ax_Q G X h0 w none)) (fun s w e hp ls hl => wb_X5_lays_16 hSF B Z hn x0 x1 s.1 hl e hp) _ _ e hp ls hl
set_option maxHeartbeats 4000000 in
theorem we_X5_lays {l : Launch} {G : ax_G} {X : ax_X} {Q : State → Prop} {h0 h : ax_H} {ls : Array Slot} (hSF : ax_SF G) (B : ax_BL l G X cX5_lays 3 RX5 1 40) (Z : ax_Z X h0 none) (hn : X.2.2.2.2.2.2.2.2.1.name = yX5_lays.name) (x0 : Option Nat) (x1 : Int) {w : ax_H} (hl : ax_hl ls 3 [(0, .inr (.inr x0)), (1, .inl x1)]) (e : f_X5_lays G.2.2 x0 x1 h = some w) (hp : (fun w : ax_H => Q = ax_Q G X h0 w none) w) : ax_W G X Q h 0 ls [] := by
  unfold f_X5_lays at e
  refine ax_aload_n B dX5_lays_0 rfl hl 0 rfl ?_
  refine ax_getR B ff_X5_24_5 (fun _ _ => rfl) dX5_lays_1 e (fun v1 e => ?_)
  refine ax_sipush B dX5_lays_4 (by decide) ?_
  refine ax_iload_n B dX5_lays_7 rfl hl 1 rfl ?_
  refine ax_iadd' B dX5_lays_8 ?_
  refine ax_aload_n B dX5_lays_9 rfl hl 0 rfl ?_
  refine ax_getI B ff_X5_187_5 (fun _ _ => rfl) dX5_lays_10 e (fun v2 e => ?_)
  refine ax_iast B kd100 dX5_lays_13 e (fun h3 e => ?_)
  refine ax_iconst B dX5_lays_14 ?_
  refine ax_istore_n (L' := [(2, .inl 0), (0, .inr (.inr x0)), (1, .inl x1)]) B dX5_lays_15 rfl hl (by decide) rfl (fun ls hl => ?_)
  exact w_X5_lays_16 hSF B Z hn x0 x1 0 (hl.sub [1, 2, 0] rfl) e hp
theorem mt_X5_lays (l : Launch) (G : ax_G) (hSF : ax_SF G) (x0 : Option Nat) (x1 : Int) (h : ax_H) (w : ax_H) (e : f_X5_lays G.2.2 x0 x1 h = some w) : ax_Met l G yX5_lays cX5_lays 3 none 1 40 [va_rf x0, .int (Int32.ofInt x1)] h w none :=
  ax_enter [.inr (.inr x0), .inl x1] (y := yX5_lays) hSF (plainFor_of_name (by decide +kernel)) (Nat.le_of_ble_eq_true rfl) (fun X ls B Z hn hl => we_X5_lays hSF B Z hn x0 x1 hl e rfl)
def dkwX5_law_3 : List UInt8 := [180, 0, 24, 17, 0, 155, 46, 4, 100, 182, 0, 14, 172]
abbrev dktX5_law_3 : List UInt8 := dkwX5_law_3 ++ []
def dkwX5_law_2 : List UInt8 := [180, 0, 24, 17, 0, 155, 46, 182, 1, 18, 42, 180, 0, 24, 17, 0, 155, 92, 46, 4, 96, 79, 42, 42]
abbrev dktX5_law_2 : List UInt8 := dkwX5_law_2 ++ dktX5_law_3
def dkwX5_law_1 : List UInt8 := [172, 42, 3, 181, 0, 219, 42, 182, 1, 15, 154, 0, 10, 42, 16, 250, 182, 0, 127, 172, 42, 42]
abbrev dktX5_law_1 : List UInt8 := dkwX5_law_1 ++ dktX5_law_2
def dkwX5_law_0 : List UInt8 := [42, 180, 0, 24, 17, 0, 155, 46, 16, 6, 160, 0, 15, 42, 3, 181, 0, 181, 42, 16, 251, 182, 0, 127]
abbrev dktX5_law_0 : List UInt8 := dkwX5_law_0 ++ dktX5_law_1
theorem dksX5_law_0 : cX5_law.data.toList.drop 0 = dktX5_law_0 := by decide +kernel
theorem dksX5_law_1 : cX5_law.data.toList.drop 24 = dktX5_law_1 := dk_seg dksX5_law_0 24 rfl rfl
theorem dksX5_law_2 : cX5_law.data.toList.drop 46 = dktX5_law_2 := dk_seg dksX5_law_1 22 rfl rfl
theorem dksX5_law_3 : cX5_law.data.toList.drop 70 = dktX5_law_3 := dk_seg dksX5_law_2 24 rfl rfl
theorem dX5_law_0 : decode cX5_law 0 = .ok (.aload_n 0, 1) := dk_42 (dk_at dksX5_law_0 0 rfl rfl)
theorem dX5_law_1 : decode cX5_law 1 = .ok (.getfield 24, 3) := dk_180 0 24 (dk_at dksX5_law_0 1 rfl rfl)
theorem dX5_law_4 : decode cX5_law 4 = .ok (.sipush 155, 3) := dk_17 0 155 (dk_at dksX5_law_0 4 rfl rfl)
theorem dX5_law_7 : decode cX5_law 7 = .ok (.iaload, 1) := dk_46 (dk_at dksX5_law_0 7 rfl rfl)
theorem dX5_law_8 : decode cX5_law 8 = .ok (.bipush 6, 2) := dk_16 6 (dk_at dksX5_law_0 8 rfl rfl)
theorem dX5_law_10 : decode cX5_law 10 = .ok (.if_icmp .ne 15, 3) := dk_160 0 15 (dk_at dksX5_law_0 10 rfl rfl)
theorem dX5_law_13 : decode cX5_law 13 = .ok (.aload_n 0, 1) := dk_42 (dk_at dksX5_law_0 13 rfl rfl)
theorem dX5_law_14 : decode cX5_law 14 = .ok (.iconst 0, 1) := dk_3 (dk_at dksX5_law_0 14 rfl rfl)
theorem dX5_law_15 : decode cX5_law 15 = .ok (.putfield 181, 3) := dk_181 0 181 (dk_at dksX5_law_0 15 rfl rfl)
theorem dX5_law_18 : decode cX5_law 18 = .ok (.aload_n 0, 1) := dk_42 (dk_at dksX5_law_0 18 rfl rfl)
theorem dX5_law_19 : decode cX5_law 19 = .ok (.bipush (-5), 2) := dk_16 251 (dk_at dksX5_law_0 19 rfl rfl)
theorem dX5_law_21 : decode cX5_law 21 = .ok (.invokevirtual 127, 3) := dk_182 0 127 (dk_at dksX5_law_0 21 rfl rfl)
theorem dX5_law_24 : decode cX5_law 24 = .ok (.ireturn, 1) := dk_172 (dk_at dksX5_law_1 0 rfl rfl)
theorem dX5_law_25 : decode cX5_law 25 = .ok (.aload_n 0, 1) := dk_42 (dk_at dksX5_law_1 1 rfl rfl)
theorem dX5_law_26 : decode cX5_law 26 = .ok (.iconst 0, 1) := dk_3 (dk_at dksX5_law_1 2 rfl rfl)
theorem dX5_law_27 : decode cX5_law 27 = .ok (.putfield 219, 3) := dk_181 0 219 (dk_at dksX5_law_1 3 rfl rfl)
theorem dX5_law_30 : decode cX5_law 30 = .ok (.aload_n 0, 1) := dk_42 (dk_at dksX5_law_1 6 rfl rfl)
theorem dX5_law_31 : decode cX5_law 31 = .ok (.invokevirtual 271, 3) := dk_182 1 15 (dk_at dksX5_law_1 7 rfl rfl)
theorem dX5_law_34 : decode cX5_law 34 = .ok (.ifCond .ne 10, 3) := dk_154 0 10 (dk_at dksX5_law_1 10 rfl rfl)
theorem dX5_law_37 : decode cX5_law 37 = .ok (.aload_n 0, 1) := dk_42 (dk_at dksX5_law_1 13 rfl rfl)
theorem dX5_law_38 : decode cX5_law 38 = .ok (.bipush (-6), 2) := dk_16 250 (dk_at dksX5_law_1 14 rfl rfl)
theorem dX5_law_40 : decode cX5_law 40 = .ok (.invokevirtual 127, 3) := dk_182 0 127 (dk_at dksX5_law_1 16 rfl rfl)
theorem dX5_law_43 : decode cX5_law 43 = .ok (.ireturn, 1) := dk_172 (dk_at dksX5_law_1 19 rfl rfl)
theorem dX5_law_44 : decode cX5_law 44 = .ok (.aload_n 0, 1) := dk_42 (dk_at dksX5_law_1 20 rfl rfl)
theorem dX5_law_45 : decode cX5_law 45 = .ok (.aload_n 0, 1) := dk_42 (dk_at dksX5_law_1 21 rfl rfl)
theorem dX5_law_46 : decode cX5_law 46 = .ok (.getfield 24, 3) := dk_180 0 24 (dk_at dksX5_law_2 0 rfl rfl)
theorem dX5_law_49 : decode cX5_law 49 = .ok (.sipush 155, 3) := dk_17 0 155 (dk_at dksX5_law_2 3 rfl rfl)
theorem dX5_law_52 : decode cX5_law 52 = .ok (.iaload, 1) := dk_46 (dk_at dksX5_law_2 6 rfl rfl)
theorem dX5_law_53 : decode cX5_law 53 = .ok (.invokevirtual 274, 3) := dk_182 1 18 (dk_at dksX5_law_2 7 rfl rfl)
theorem dX5_law_56 : decode cX5_law 56 = .ok (.aload_n 0, 1) := dk_42 (dk_at dksX5_law_2 10 rfl rfl)
theorem dX5_law_57 : decode cX5_law 57 = .ok (.getfield 24, 3) := dk_180 0 24 (dk_at dksX5_law_2 11 rfl rfl)
theorem dX5_law_60 : decode cX5_law 60 = .ok (.sipush 155, 3) := dk_17 0 155 (dk_at dksX5_law_2 14 rfl rfl)
theorem dX5_law_63 : decode cX5_law 63 = .ok (.dup2, 1) := dk_92 (dk_at dksX5_law_2 17 rfl rfl)
theorem dX5_law_64 : decode cX5_law 64 = .ok (.iaload, 1) := dk_46 (dk_at dksX5_law_2 18 rfl rfl)
theorem dX5_law_65 : decode cX5_law 65 = .ok (.iconst 1, 1) := dk_4 (dk_at dksX5_law_2 19 rfl rfl)
theorem dX5_law_66 : decode cX5_law 66 = .ok (.iadd, 1) := dk_96 (dk_at dksX5_law_2 20 rfl rfl)
theorem dX5_law_67 : decode cX5_law 67 = .ok (.iastore, 1) := dk_79 (dk_at dksX5_law_2 21 rfl rfl)
theorem dX5_law_68 : decode cX5_law 68 = .ok (.aload_n 0, 1) := dk_42 (dk_at dksX5_law_2 22 rfl rfl)
theorem dX5_law_69 : decode cX5_law 69 = .ok (.aload_n 0, 1) := dk_42 (dk_at dksX5_law_2 23 rfl rfl)
theorem dX5_law_70 : decode cX5_law 70 = .ok (.getfield 24, 3) := dk_180 0 24 (dk_at dksX5_law_3 0 rfl rfl)
theorem dX5_law_73 : decode cX5_law 73 = .ok (.sipush 155, 3) := dk_17 0 155 (dk_at dksX5_law_3 3 rfl rfl)
theorem dX5_law_76 : decode cX5_law 76 = .ok (.iaload, 1) := dk_46 (dk_at dksX5_law_3 6 rfl rfl)
theorem dX5_law_77 : decode cX5_law 77 = .ok (.iconst 1, 1) := dk_4 (dk_at dksX5_law_3 7 rfl rfl)
theorem dX5_law_78 : decode cX5_law 78 = .ok (.isub, 1) := dk_100 (dk_at dksX5_law_3 8 rfl rfl)
theorem dX5_law_79 : decode cX5_law 79 = .ok (.invokevirtual 14, 3) := dk_182 0 14 (dk_at dksX5_law_3 9 rfl rfl)
theorem dX5_law_82 : decode cX5_law 82 = .ok (.ireturn, 1) := dk_172 (dk_at dksX5_law_3 12 rfl rfl)
noncomputable def f_X5_law (E : ax_E) (x0 : Option Nat) (h : ax_H) : Option (Int × ax_H) :=
  (ax_gR E h x0 5 2).bind fun v1 =>
  (ax_ld E h v1 100 155).bind fun v2 =>
  if i2 v2 = i2 6 then
    (ax_pI h x0 5 11 0).bind fun h3 =>
    (ax_ce E h3 x0 5).bind fun _ => (f_X5_refuses E x0 (-5) h3).bind fun q4 =>
    some (q4.1, q4.2)
  else
    if 0 = 0 ∨ 0 = 1 then (ax_pI h x0 5 8 0).bind fun h5 =>
      (ax_ce E h5 x0 5).bind fun _ => (f_X5_reads E x0 h5).bind fun q6 =>
      if i2 q6.1 = 0 then
        (ax_ce E q6.2 x0 5).bind fun _ => (f_X5_refuses E x0 (-6) q6.2).bind fun q7 =>
        some (q7.1, q7.2)
      else
        (ax_gR E q6.2 x0 5 2).bind fun v8 =>
        (ax_ld E q6.2 v8 100 155).bind fun v9 =>
        (ax_ce E q6.2 x0 5).bind fun _ => (f_X5_lays E x0 v9 q6.2).bind fun h10 =>
        (ax_gR E h10 x0 5 2).bind fun v11 =>
        (ax_ld E h10 v11 100 155).bind fun v12 =>
        (ax_sto h10 v11 100 155 (v12 + 1)).bind fun h13 =>
        (ax_gR E h13 x0 5 2).bind fun v14 =>
        (ax_ld E h13 v14 100 155).bind fun v15 =>
        (ax_ce E h13 x0 5).bind fun _ => (f_X5_good E x0 (v15 - 1) h13).bind fun q16 =>
        some (q16.1, q16.2)
    else none
set_option maxHeartbeats 4000000 in
theorem we_X5_law {l : Launch} {G : ax_G} {X : ax_X} {Q : State → Prop} {h0 h : ax_H} {ls : Array Slot} (hSF : ax_SF G) (B : ax_BL l G X cX5_law 1 RX5 137 3086) (Z : ax_Z X h0 ((some FieldType.int))) (hn : X.2.2.2.2.2.2.2.2.1.name = yX5_law.name) (x0 : Option Nat) {w : Int × ax_H} (hl : ax_hl ls 1 [(0, .inr (.inr x0))]) (e : f_X5_law G.2.2 x0 h = some w) (hp : (fun w : Int × ax_H => Q = ax_Q G X h0 w.2 (some (.int (Int32.ofInt w.1)))) w) : ax_W G X Q h 0 ls [] := by
  unfold f_X5_law at e
  refine ax_aload_n B dX5_law_0 rfl hl 0 rfl ?_
  refine ax_getR B ff_X5_24_5 (fun _ _ => rfl) dX5_law_1 e (fun v1 e => ?_)
  refine ax_sipush B dX5_law_4 (by decide) ?_
  refine ax_iald B kd100 dX5_law_7 e (fun v2 e => ?_)
  refine ax_bipush B dX5_law_8 (by decide) ?_
  refine ax_icmp_ne (tgt := 25) B dX5_law_10 (by decide) e (fun e => ?_) (fun e => ?_)
  · refine ax_aload_n B dX5_law_13 rfl hl 0 rfl ?_
    refine ax_iconst B dX5_law_14 ?_
    refine ax_putI B ff_X5_181_5 (Or.inl rfl) rfl dX5_law_15 e (fun h3 e => ?_)
    refine ax_aload_n B dX5_law_18 rfl hl 0 rfl ?_
    refine ax_bipush B dX5_law_19 (by decide) ?_
    refine ax_ivI (y := yX5_refuses) (n := 1) (As := [.int (Int32.ofInt (-5))]) B kd5 (lw_V q2154 q2156 qs41 q133 q2157) (by decide +kernel) ⟨Nat.le_of_ble_eq_true rfl, Nat.le_of_ble_eq_true rfl⟩ (fun w1 e1 => mt_X5_refuses l G hSF x0 (-5) _ w1 e1) rfl hl.size (by decide) dX5_law_21 e (fun q4 e => ?_)
    have e8 := e
    have hp : Q = _ := hp
    subst hp
    exact ax_ireturn B Z dX5_law_24 e8
  · refine ax_aload_n B dX5_law_25 rfl hl 0 rfl ?_
    refine ax_iconst B dX5_law_26 ?_
    refine ax_putZ B ff_X5_219_5 (Or.inl rfl) dX5_law_27 e (fun h5 e => ?_)
    refine ax_aload_n B dX5_law_30 rfl hl 0 rfl ?_
    refine ax_ivI (y := yX5_reads) (n := 0) (As := []) B kd5 (lw_V q2328 q2330 qs67 q133 q2331) (by decide +kernel) ⟨Nat.le_of_ble_eq_true rfl, Nat.le_of_ble_eq_true rfl⟩ (fun w1 e1 => mt_X5_reads l G hSF x0 _ w1 e1) rfl hl.size (by decide) dX5_law_31 e (fun q6 e => ?_)
    refine ax_if_ne (tgt := 44) B dX5_law_34 (by decide) e (fun e => ?_) (fun e => ?_)
    · refine ax_aload_n B dX5_law_37 rfl hl 0 rfl ?_
      refine ax_bipush B dX5_law_38 (by decide) ?_
      refine ax_ivI (y := yX5_refuses) (n := 1) (As := [.int (Int32.ofInt (-6))]) B kd5 (lw_V q2154 q2156 qs41 q133 q2157) (by decide +kernel) ⟨Nat.le_of_ble_eq_true rfl, Nat.le_of_ble_eq_true rfl⟩ (fun w1 e1 => mt_X5_refuses l G hSF x0 (-6) _ w1 e1) rfl hl.size (by decide) dX5_law_40 e (fun q7 e => ?_)
      have e8 := e
      have hp : Q = _ := hp
      subst hp
      exact ax_ireturn B Z dX5_law_43 e8
    · refine ax_aload_n B dX5_law_44 rfl hl 0 rfl ?_
      refine ax_aload_n B dX5_law_45 rfl hl 0 rfl ?_
      refine ax_getR B ff_X5_24_5 (fun _ _ => rfl) dX5_law_46 e (fun v8 e => ?_)
      refine ax_sipush B dX5_law_49 (by decide) ?_
      refine ax_iald B kd100 dX5_law_52 e (fun v9 e => ?_)
      refine ax_ivV (y := yX5_lays) (n := 1) (As := [.int (Int32.ofInt v9)]) B kd5 (lw_V q2411 q2413 qs86 q133 q2414) (by decide +kernel) ⟨Nat.le_of_ble_eq_true rfl, Nat.le_of_ble_eq_true rfl⟩ (fun w1 e1 => mt_X5_lays l G hSF x0 v9 _ w1 e1) rfl hl.size (by decide) dX5_law_53 e (fun h10 e => ?_)
      refine ax_aload_n B dX5_law_56 rfl hl 0 rfl ?_
      refine ax_getR B ff_X5_24_5 (fun _ _ => rfl) dX5_law_57 e (fun v11 e => ?_)
      refine ax_sipush B dX5_law_60 (by decide) ?_
      refine ax_dup2 B dX5_law_63 (rfl) (va_rf_cat _) ?_
      refine ax_iald B kd100 dX5_law_64 e (fun v12 e => ?_)
      refine ax_iconst B dX5_law_65 ?_
      refine ax_iadd' B dX5_law_66 ?_
      refine ax_iast B kd100 dX5_law_67 e (fun h13 e => ?_)
      refine ax_aload_n B dX5_law_68 rfl hl 0 rfl ?_
      refine ax_aload_n B dX5_law_69 rfl hl 0 rfl ?_
      refine ax_getR B ff_X5_24_5 (fun _ _ => rfl) dX5_law_70 e (fun v14 e => ?_)
      refine ax_sipush B dX5_law_73 (by decide) ?_
      refine ax_iald B kd100 dX5_law_76 e (fun v15 e => ?_)
      refine ax_iconst B dX5_law_77 ?_
      refine ax_isub' B dX5_law_78 ?_
      refine ax_ivI (y := yX5_good) (n := 1) (As := [.int (Int32.ofInt (v15 - 1))]) B kd5 (lw_V q2158 q2160 qs42 q133 q2161) (by decide +kernel) ⟨Nat.le_of_ble_eq_true rfl, Nat.le_of_ble_eq_true rfl⟩ (fun w1 e1 => mt_X5_good l G hSF x0 (v15 - 1) _ w1 e1) rfl hl.size (by decide) dX5_law_79 e (fun q16 e => ?_)
      have e8 := e
      have hp : Q = _ := hp
      subst hp
      exact ax_ireturn B Z dX5_law_82 e8
theorem mt_X5_law (l : Launch) (G : ax_G) (hSF : ax_SF G) (x0 : Option Nat) (h : ax_H) (w : Int × ax_H) (e : f_X5_law G.2.2 x0 h = some w) : ax_Met l G yX5_law cX5_law 1 ((some FieldType.int)) 137 3086 [va_rf x0] h w.2 (some (.int (Int32.ofInt w.1))) :=
  ax_enter [.inr (.inr x0)] (y := yX5_law) hSF (plainFor_of_name (by decide +kernel)) (Nat.le_of_ble_eq_true rfl) (fun X ls B Z hn hl => we_X5_law hSF B Z hn x0 hl e rfl)
theorem dX5_fault_0 : decode cX5_fault 0 = .ok (.aload_n 0, 1) := by decide +kernel
theorem dX5_fault_1 : decode cX5_fault 1 = .ok (.getfield 47, 3) := by decide +kernel
theorem dX5_fault_4 : decode cX5_fault 4 = .ok (.ireturn, 1) := by decide +kernel
noncomputable def f_X5_fault (E : ax_E) (x0 : Option Nat) (h : ax_H) : Option (Int × ax_H) :=
  (ax_gI E h x0 5 12).bind fun v1 =>
  some (v1, h)
set_option maxHeartbeats 4000000 in
theorem we_X5_fault {l : Launch} {G : ax_G} {X : ax_X} {Q : State → Prop} {h0 h : ax_H} {ls : Array Slot} (hSF : ax_SF G) (B : ax_BL l G X cX5_fault 1 RX5 1 40) (Z : ax_Z X h0 ((some FieldType.int))) (hn : X.2.2.2.2.2.2.2.2.1.name = yX5_fault.name) (x0 : Option Nat) {w : Int × ax_H} (hl : ax_hl ls 1 [(0, .inr (.inr x0))]) (e : f_X5_fault G.2.2 x0 h = some w) (hp : (fun w : Int × ax_H => Q = ax_Q G X h0 w.2 (some (.int (Int32.ofInt w.1)))) w) : ax_W G X Q h 0 ls [] := by
  unfold f_X5_fault at e
  refine ax_aload_n B dX5_fault_0 rfl hl 0 rfl ?_
  refine ax_getI B ff_X5_47_5 (fun _ _ => rfl) dX5_fault_1 e (fun v1 e => ?_)
  have e8 := e
  have hp : Q = _ := hp
  subst hp
  exact ax_ireturn B Z dX5_fault_4 e8
theorem mt_X5_fault (l : Launch) (G : ax_G) (hSF : ax_SF G) (x0 : Option Nat) (h : ax_H) (w : Int × ax_H) (e : f_X5_fault G.2.2 x0 h = some w) : ax_Met l G yX5_fault cX5_fault 1 ((some FieldType.int)) 1 40 [va_rf x0] h w.2 (some (.int (Int32.ofInt w.1))) :=
  ax_enter [.inr (.inr x0)] (y := yX5_fault) hSF (plainFor_of_name (by decide +kernel)) (Nat.le_of_ble_eq_true rfl) (fun X ls B Z hn hl => we_X5_fault hSF B Z hn x0 hl e rfl)
def dkwX5_force_2 : List UInt8 := [172]
abbrev dktX5_force_2 : List UInt8 := dkwX5_force_2 ++ []
def dkwX5_force_1 : List UInt8 := [172, 42, 180, 0, 24, 17, 0, 156, 46, 61, 42, 180, 0, 24, 17, 0, 156, 27, 79, 42, 28, 182, 0, 14]
abbrev dktX5_force_1 : List UInt8 := dkwX5_force_1 ++ dktX5_force_2
def dkwX5_force_0 : List UInt8 := [27, 2, 42, 180, 0, 24, 17, 0, 155, 46, 4, 100, 184, 0, 123, 154, 0, 10, 42, 16, 254, 182, 0, 127]
abbrev dktX5_force_0 : List UInt8 := dkwX5_force_0 ++ dktX5_force_1
theorem dksX5_force_0 : cX5_force.data.toList.drop 0 = dktX5_force_0 := by decide +kernel
theorem dksX5_force_1 : cX5_force.data.toList.drop 24 = dktX5_force_1 := dk_seg dksX5_force_0 24 rfl rfl
theorem dksX5_force_2 : cX5_force.data.toList.drop 48 = dktX5_force_2 := dk_seg dksX5_force_1 24 rfl rfl
theorem dX5_force_0 : decode cX5_force 0 = .ok (.iload_n 1, 1) := dk_27 (dk_at dksX5_force_0 0 rfl rfl)
theorem dX5_force_1 : decode cX5_force 1 = .ok (.iconst (-1), 1) := dk_2 (dk_at dksX5_force_0 1 rfl rfl)
theorem dX5_force_2 : decode cX5_force 2 = .ok (.aload_n 0, 1) := dk_42 (dk_at dksX5_force_0 2 rfl rfl)
theorem dX5_force_3 : decode cX5_force 3 = .ok (.getfield 24, 3) := dk_180 0 24 (dk_at dksX5_force_0 3 rfl rfl)
theorem dX5_force_6 : decode cX5_force 6 = .ok (.sipush 155, 3) := dk_17 0 155 (dk_at dksX5_force_0 6 rfl rfl)
theorem dX5_force_9 : decode cX5_force 9 = .ok (.iaload, 1) := dk_46 (dk_at dksX5_force_0 9 rfl rfl)
theorem dX5_force_10 : decode cX5_force 10 = .ok (.iconst 1, 1) := dk_4 (dk_at dksX5_force_0 10 rfl rfl)
theorem dX5_force_11 : decode cX5_force 11 = .ok (.isub, 1) := dk_100 (dk_at dksX5_force_0 11 rfl rfl)
theorem dX5_force_12 : decode cX5_force 12 = .ok (.invokestatic 123, 3) := dk_184 0 123 (dk_at dksX5_force_0 12 rfl rfl)
theorem dX5_force_15 : decode cX5_force 15 = .ok (.ifCond .ne 10, 3) := dk_154 0 10 (dk_at dksX5_force_0 15 rfl rfl)
theorem dX5_force_18 : decode cX5_force 18 = .ok (.aload_n 0, 1) := dk_42 (dk_at dksX5_force_0 18 rfl rfl)
theorem dX5_force_19 : decode cX5_force 19 = .ok (.bipush (-2), 2) := dk_16 254 (dk_at dksX5_force_0 19 rfl rfl)
theorem dX5_force_21 : decode cX5_force 21 = .ok (.invokevirtual 127, 3) := dk_182 0 127 (dk_at dksX5_force_0 21 rfl rfl)
theorem dX5_force_24 : decode cX5_force 24 = .ok (.ireturn, 1) := dk_172 (dk_at dksX5_force_1 0 rfl rfl)
theorem dX5_force_25 : decode cX5_force 25 = .ok (.aload_n 0, 1) := dk_42 (dk_at dksX5_force_1 1 rfl rfl)
theorem dX5_force_26 : decode cX5_force 26 = .ok (.getfield 24, 3) := dk_180 0 24 (dk_at dksX5_force_1 2 rfl rfl)
theorem dX5_force_29 : decode cX5_force 29 = .ok (.sipush 156, 3) := dk_17 0 156 (dk_at dksX5_force_1 5 rfl rfl)
theorem dX5_force_32 : decode cX5_force 32 = .ok (.iaload, 1) := dk_46 (dk_at dksX5_force_1 8 rfl rfl)
theorem dX5_force_33 : decode cX5_force 33 = .ok (.istore_n 2, 1) := dk_61 (dk_at dksX5_force_1 9 rfl rfl)
theorem dX5_force_34 : decode cX5_force 34 = .ok (.aload_n 0, 1) := dk_42 (dk_at dksX5_force_1 10 rfl rfl)
theorem dX5_force_35 : decode cX5_force 35 = .ok (.getfield 24, 3) := dk_180 0 24 (dk_at dksX5_force_1 11 rfl rfl)
theorem dX5_force_38 : decode cX5_force 38 = .ok (.sipush 156, 3) := dk_17 0 156 (dk_at dksX5_force_1 14 rfl rfl)
theorem dX5_force_41 : decode cX5_force 41 = .ok (.iload_n 1, 1) := dk_27 (dk_at dksX5_force_1 17 rfl rfl)
theorem dX5_force_42 : decode cX5_force 42 = .ok (.iastore, 1) := dk_79 (dk_at dksX5_force_1 18 rfl rfl)
theorem dX5_force_43 : decode cX5_force 43 = .ok (.aload_n 0, 1) := dk_42 (dk_at dksX5_force_1 19 rfl rfl)
theorem dX5_force_44 : decode cX5_force 44 = .ok (.iload_n 2, 1) := dk_28 (dk_at dksX5_force_1 20 rfl rfl)
theorem dX5_force_45 : decode cX5_force 45 = .ok (.invokevirtual 14, 3) := dk_182 0 14 (dk_at dksX5_force_1 21 rfl rfl)
theorem dX5_force_48 : decode cX5_force 48 = .ok (.ireturn, 1) := dk_172 (dk_at dksX5_force_2 0 rfl rfl)
noncomputable def f_X5_force (E : ax_E) (x0 : Option Nat) (x1 : Int) (h : ax_H) : Option (Int × ax_H) :=
  (ax_gR E h x0 5 2).bind fun v1 =>
  (ax_ld E h v1 100 155).bind fun v2 =>
  (f_X5_lies E x1 (-1) (v2 - 1) h).bind fun q3 =>
  if i2 q3.1 = 0 then
    (ax_ce E q3.2 x0 5).bind fun _ => (f_X5_refuses E x0 (-2) q3.2).bind fun q4 =>
    some (q4.1, q4.2)
  else
    (ax_gR E q3.2 x0 5 2).bind fun v5 =>
    (ax_ld E q3.2 v5 100 156).bind fun v6 =>
    (ax_gR E q3.2 x0 5 2).bind fun v7 =>
    (ax_sto q3.2 v7 100 156 x1).bind fun h8 =>
    (ax_ce E h8 x0 5).bind fun _ => (f_X5_good E x0 v6 h8).bind fun q9 =>
    some (q9.1, q9.2)
set_option maxHeartbeats 4000000 in
theorem we_X5_force {l : Launch} {G : ax_G} {X : ax_X} {Q : State → Prop} {h0 h : ax_H} {ls : Array Slot} (hSF : ax_SF G) (B : ax_BL l G X cX5_force 3 RX5 2 62) (Z : ax_Z X h0 ((some FieldType.int))) (hn : X.2.2.2.2.2.2.2.2.1.name = yX5_force.name) (x0 : Option Nat) (x1 : Int) {w : Int × ax_H} (hl : ax_hl ls 3 [(0, .inr (.inr x0)), (1, .inl x1)]) (e : f_X5_force G.2.2 x0 x1 h = some w) (hp : (fun w : Int × ax_H => Q = ax_Q G X h0 w.2 (some (.int (Int32.ofInt w.1)))) w) : ax_W G X Q h 0 ls [] := by
  unfold f_X5_force at e
  refine ax_iload_n B dX5_force_0 rfl hl 1 rfl ?_
  refine ax_iconst B dX5_force_1 ?_
  refine ax_aload_n B dX5_force_2 rfl hl 0 rfl ?_
  refine ax_getR B ff_X5_24_5 (fun _ _ => rfl) dX5_force_3 e (fun v1 e => ?_)
  refine ax_sipush B dX5_force_6 (by decide) ?_
  refine ax_iald B kd100 dX5_force_9 e (fun v2 e => ?_)
  refine ax_iconst B dX5_force_10 ?_
  refine ax_isub' B dX5_force_11 ?_
  refine ax_isI (y := yX5_lies) (n := 3) (As := [.int (Int32.ofInt x1), .int (Int32.ofInt (-1)), .int (Int32.ofInt (v2 - 1))]) B (lw_S q2151 q2152 q133 q2153) (by decide +kernel) ⟨Nat.le_of_ble_eq_true rfl, Nat.le_of_ble_eq_true rfl⟩ (fun w1 e1 => mt_X5_lies l G hSF x1 (-1) (v2 - 1) _ w1 e1) rfl hl.size (by decide) dX5_force_12 e (fun q3 e => ?_)
  refine ax_if_ne (tgt := 25) B dX5_force_15 (by decide) e (fun e => ?_) (fun e => ?_)
  · refine ax_aload_n B dX5_force_18 rfl hl 0 rfl ?_
    refine ax_bipush B dX5_force_19 (by decide) ?_
    refine ax_ivI (y := yX5_refuses) (n := 1) (As := [.int (Int32.ofInt (-2))]) B kd5 (lw_V q2154 q2156 qs41 q133 q2157) (by decide +kernel) ⟨Nat.le_of_ble_eq_true rfl, Nat.le_of_ble_eq_true rfl⟩ (fun w1 e1 => mt_X5_refuses l G hSF x0 (-2) _ w1 e1) rfl hl.size (by decide) dX5_force_21 e (fun q4 e => ?_)
    have e8 := e
    have hp : Q = _ := hp
    subst hp
    exact ax_ireturn B Z dX5_force_24 e8
  · refine ax_aload_n B dX5_force_25 rfl hl 0 rfl ?_
    refine ax_getR B ff_X5_24_5 (fun _ _ => rfl) dX5_force_26 e (fun v5 e => ?_)
    refine ax_sipush B dX5_force_29 (by decide) ?_
    refine ax_iald B kd100 dX5_force_32 e (fun v6 e => ?_)
    refine ax_istore_n (L' := [(2, .inl v6), (0, .inr (.inr x0)), (1, .inl x1)]) B dX5_force_33 rfl hl (by decide) rfl (fun ls hl => ?_)
    refine ax_aload_n B dX5_force_34 rfl hl 1 rfl ?_
    refine ax_getR B ff_X5_24_5 (fun _ _ => rfl) dX5_force_35 e (fun v7 e => ?_)
    refine ax_sipush B dX5_force_38 (by decide) ?_
    refine ax_iload_n B dX5_force_41 rfl hl 2 rfl ?_
    refine ax_iast B kd100 dX5_force_42 e (fun h8 e => ?_)
    refine ax_aload_n B dX5_force_43 rfl hl 1 rfl ?_
    refine ax_iload_n B dX5_force_44 rfl hl 0 rfl ?_
    refine ax_ivI (y := yX5_good) (n := 1) (As := [.int (Int32.ofInt v6)]) B kd5 (lw_V q2158 q2160 qs42 q133 q2161) (by decide +kernel) ⟨Nat.le_of_ble_eq_true rfl, Nat.le_of_ble_eq_true rfl⟩ (fun w1 e1 => mt_X5_good l G hSF x0 v6 _ w1 e1) rfl hl.size (by decide) dX5_force_45 e (fun q9 e => ?_)
    have e8 := e
    have hp : Q = _ := hp
    subst hp
    exact ax_ireturn B Z dX5_force_48 e8
theorem mt_X5_force (l : Launch) (G : ax_G) (hSF : ax_SF G) (x0 : Option Nat) (x1 : Int) (h : ax_H) (w : Int × ax_H) (e : f_X5_force G.2.2 x0 x1 h = some w) : ax_Met l G yX5_force cX5_force 3 ((some FieldType.int)) 2 62 [va_rf x0, .int (Int32.ofInt x1)] h w.2 (some (.int (Int32.ofInt w.1))) :=
  ax_enter [.inr (.inr x0), .inl x1] (y := yX5_force) hSF (plainFor_of_name (by decide +kernel)) (Nat.le_of_ble_eq_true rfl) (fun X ls B Z hn hl => we_X5_force hSF B Z hn x0 x1 hl e rfl)
def dkwX5_areTwo_1 : List UInt8 := [167, 0, 4, 3, 172]
abbrev dktX5_areTwo_1 : List UInt8 := dkwX5_areTwo_1 ++ []
def dkwX5_areTwo_0 : List UInt8 := [42, 27, 182, 0, 152, 153, 0, 20, 42, 28, 182, 0, 152, 153, 0, 12, 27, 28, 159, 0, 7, 4]
abbrev dktX5_areTwo_0 : List UInt8 := dkwX5_areTwo_0 ++ dktX5_areTwo_1
theorem dksX5_areTwo_0 : cX5_areTwo.data.toList.drop 0 = dktX5_areTwo_0 := by decide +kernel
theorem dksX5_areTwo_1 : cX5_areTwo.data.toList.drop 22 = dktX5_areTwo_1 := dk_seg dksX5_areTwo_0 22 rfl rfl
theorem dX5_areTwo_0 : decode cX5_areTwo 0 = .ok (.aload_n 0, 1) := dk_42 (dk_at dksX5_areTwo_0 0 rfl rfl)
theorem dX5_areTwo_1 : decode cX5_areTwo 1 = .ok (.iload_n 1, 1) := dk_27 (dk_at dksX5_areTwo_0 1 rfl rfl)
theorem dX5_areTwo_2 : decode cX5_areTwo 2 = .ok (.invokevirtual 152, 3) := dk_182 0 152 (dk_at dksX5_areTwo_0 2 rfl rfl)
theorem dX5_areTwo_5 : decode cX5_areTwo 5 = .ok (.ifCond .eq 20, 3) := dk_153 0 20 (dk_at dksX5_areTwo_0 5 rfl rfl)
theorem dX5_areTwo_8 : decode cX5_areTwo 8 = .ok (.aload_n 0, 1) := dk_42 (dk_at dksX5_areTwo_0 8 rfl rfl)
theorem dX5_areTwo_9 : decode cX5_areTwo 9 = .ok (.iload_n 2, 1) := dk_28 (dk_at dksX5_areTwo_0 9 rfl rfl)
theorem dX5_areTwo_10 : decode cX5_areTwo 10 = .ok (.invokevirtual 152, 3) := dk_182 0 152 (dk_at dksX5_areTwo_0 10 rfl rfl)
theorem dX5_areTwo_13 : decode cX5_areTwo 13 = .ok (.ifCond .eq 12, 3) := dk_153 0 12 (dk_at dksX5_areTwo_0 13 rfl rfl)
theorem dX5_areTwo_16 : decode cX5_areTwo 16 = .ok (.iload_n 1, 1) := dk_27 (dk_at dksX5_areTwo_0 16 rfl rfl)
theorem dX5_areTwo_17 : decode cX5_areTwo 17 = .ok (.iload_n 2, 1) := dk_28 (dk_at dksX5_areTwo_0 17 rfl rfl)
theorem dX5_areTwo_18 : decode cX5_areTwo 18 = .ok (.if_icmp .eq 7, 3) := dk_159 0 7 (dk_at dksX5_areTwo_0 18 rfl rfl)
theorem dX5_areTwo_21 : decode cX5_areTwo 21 = .ok (.iconst 1, 1) := dk_4 (dk_at dksX5_areTwo_0 21 rfl rfl)
theorem dX5_areTwo_22 : decode cX5_areTwo 22 = .ok (.goto 4, 3) := dk_167 0 4 (dk_at dksX5_areTwo_1 0 rfl rfl)
theorem dX5_areTwo_25 : decode cX5_areTwo 25 = .ok (.iconst 0, 1) := dk_3 (dk_at dksX5_areTwo_1 3 rfl rfl)
theorem dX5_areTwo_26 : decode cX5_areTwo 26 = .ok (.ireturn, 1) := dk_172 (dk_at dksX5_areTwo_1 4 rfl rfl)
noncomputable def f_X5_areTwo_25 (E : ax_E) (h : ax_H) : Option (Int × ax_H) :=
  some (0, h)
noncomputable def f_X5_areTwo (E : ax_E) (x0 : Option Nat) (x1 : Int) (x2 : Int) (h : ax_H) : Option (Int × ax_H) :=
  (ax_ce E h x0 5).bind fun _ => (f_X5_isPerson E x0 x1 h).bind fun q1 =>
  if i2 q1.1 = 0 then
    f_X5_areTwo_25 E q1.2
  else
    (ax_ce E q1.2 x0 5).bind fun _ => (f_X5_isPerson E x0 x2 q1.2).bind fun q2 =>
    if i2 q2.1 = 0 then
      f_X5_areTwo_25 E q2.2
    else
      if i2 x1 = i2 x2 then
        f_X5_areTwo_25 E q2.2
      else
        some (1, q2.2)
set_option maxHeartbeats 4000000 in
theorem w_X5_areTwo_25 {l : Launch} {G : ax_G} {X : ax_X} {Q : State → Prop} {h0 h : ax_H} {ls : Array Slot} (hSF : ax_SF G) (B : ax_BL l G X cX5_areTwo 3 RX5 3 83) (Z : ax_Z X h0 ((some FieldType.boolean))) (hn : X.2.2.2.2.2.2.2.2.1.name = yX5_areTwo.name) {w : Int × ax_H} (hl : ax_hl ls 3 []) (e : f_X5_areTwo_25 G.2.2 h = some w) (hp : (fun w : Int × ax_H => Q = ax_Q G X h0 w.2 (some (.int (Int32.ofInt w.1)))) w) : ax_W G X Q h 25 ls [] := by
  unfold f_X5_areTwo_25 at e
  refine ax_iconst B dX5_areTwo_25 ?_
  have e8 := e
  have hp : Q = _ := hp
  subst hp
  exact ax_zreturnL (by decide) B Z dX5_areTwo_26 e8
set_option maxHeartbeats 4000000 in
theorem we_X5_areTwo {l : Launch} {G : ax_G} {X : ax_X} {Q : State → Prop} {h0 h : ax_H} {ls : Array Slot} (hSF : ax_SF G) (B : ax_BL l G X cX5_areTwo 3 RX5 3 83) (Z : ax_Z X h0 ((some FieldType.boolean))) (hn : X.2.2.2.2.2.2.2.2.1.name = yX5_areTwo.name) (x0 : Option Nat) (x1 : Int) (x2 : Int) {w : Int × ax_H} (hl : ax_hl ls 3 [(0, .inr (.inr x0)), (1, .inl x1), (2, .inl x2)]) (e : f_X5_areTwo G.2.2 x0 x1 x2 h = some w) (hp : (fun w : Int × ax_H => Q = ax_Q G X h0 w.2 (some (.int (Int32.ofInt w.1)))) w) : ax_W G X Q h 0 ls [] := by
  unfold f_X5_areTwo at e
  refine ax_aload_n B dX5_areTwo_0 rfl hl 0 rfl ?_
  refine ax_iload_n B dX5_areTwo_1 rfl hl 1 rfl ?_
  refine ax_ivI (y := yX5_isPerson) (n := 1) (As := [.int (Int32.ofInt x1)]) B kd5 (lw_V q2191 q2193 qs45 q133 q2194) (by decide +kernel) ⟨Nat.le_of_ble_eq_true rfl, Nat.le_of_ble_eq_true rfl⟩ (fun w1 e1 => mt_X5_isPerson l G hSF x0 x1 _ w1 e1) rfl hl.size (by decide) dX5_areTwo_2 e (fun q1 e => ?_)
  refine ax_if_eq (tgt := 25) B dX5_areTwo_5 (by decide) e (fun e => ?_) (fun e => ?_)
  · exact w_X5_areTwo_25 hSF B Z hn (hl.sub [] rfl) e hp
  · refine ax_aload_n B dX5_areTwo_8 rfl hl 0 rfl ?_
    refine ax_iload_n B dX5_areTwo_9 rfl hl 2 rfl ?_
    refine ax_ivI (y := yX5_isPerson) (n := 1) (As := [.int (Int32.ofInt x2)]) B kd5 (lw_V q2191 q2193 qs45 q133 q2194) (by decide +kernel) ⟨Nat.le_of_ble_eq_true rfl, Nat.le_of_ble_eq_true rfl⟩ (fun w1 e1 => mt_X5_isPerson l G hSF x0 x2 _ w1 e1) rfl hl.size (by decide) dX5_areTwo_10 e (fun q2 e => ?_)
    refine ax_if_eq (tgt := 25) B dX5_areTwo_13 (by decide) e (fun e => ?_) (fun e => ?_)
    · exact w_X5_areTwo_25 hSF B Z hn (hl.sub [] rfl) e hp
    · refine ax_iload_n B dX5_areTwo_16 rfl hl 1 rfl ?_
      refine ax_iload_n B dX5_areTwo_17 rfl hl 2 rfl ?_
      refine ax_icmp_eq (tgt := 25) B dX5_areTwo_18 (by decide) e (fun e => ?_) (fun e => ?_)
      · exact w_X5_areTwo_25 hSF B Z hn (hl.sub [] rfl) e hp
      · refine ax_iconst B dX5_areTwo_21 ?_
        refine ax_goto (tgt := 26) B dX5_areTwo_22 (by decide) ?_
        have e8 := e
        have hp : Q = _ := hp
        subst hp
        exact ax_zreturnL (by decide) B Z dX5_areTwo_26 e8
theorem mt_X5_areTwo (l : Launch) (G : ax_G) (hSF : ax_SF G) (x0 : Option Nat) (x1 : Int) (x2 : Int) (h : ax_H) (w : Int × ax_H) (e : f_X5_areTwo G.2.2 x0 x1 x2 h = some w) : ax_Met l G yX5_areTwo cX5_areTwo 3 ((some FieldType.boolean)) 3 83 [va_rf x0, .int (Int32.ofInt x1), .int (Int32.ofInt x2)] h w.2 (some (.int (Int32.ofInt w.1))) :=
  ax_enter [.inr (.inr x0), .inl x1, .inl x2] (y := yX5_areTwo) hSF (plainFor_of_name (by decide +kernel)) (Nat.le_of_ble_eq_true rfl) (fun X ls B Z hn hl => we_X5_areTwo hSF B Z hn x0 x1 x2 hl e rfl)
def dkwX5_lesser_0 : List UInt8 := [26, 27, 162, 0, 7, 26, 167, 0, 4, 27, 172]
abbrev dktX5_lesser_0 : List UInt8 := dkwX5_lesser_0 ++ []
theorem dksX5_lesser_0 : cX5_lesser.data.toList.drop 0 = dktX5_lesser_0 := by decide +kernel
theorem dX5_lesser_0 : decode cX5_lesser 0 = .ok (.iload_n 0, 1) := dk_26 (dk_at dksX5_lesser_0 0 rfl rfl)
theorem dX5_lesser_1 : decode cX5_lesser 1 = .ok (.iload_n 1, 1) := dk_27 (dk_at dksX5_lesser_0 1 rfl rfl)
theorem dX5_lesser_2 : decode cX5_lesser 2 = .ok (.if_icmp .ge 7, 3) := dk_162 0 7 (dk_at dksX5_lesser_0 2 rfl rfl)
theorem dX5_lesser_5 : decode cX5_lesser 5 = .ok (.iload_n 0, 1) := dk_26 (dk_at dksX5_lesser_0 5 rfl rfl)
theorem dX5_lesser_6 : decode cX5_lesser 6 = .ok (.goto 4, 3) := dk_167 0 4 (dk_at dksX5_lesser_0 6 rfl rfl)
theorem dX5_lesser_9 : decode cX5_lesser 9 = .ok (.iload_n 1, 1) := dk_27 (dk_at dksX5_lesser_0 9 rfl rfl)
theorem dX5_lesser_10 : decode cX5_lesser 10 = .ok (.ireturn, 1) := dk_172 (dk_at dksX5_lesser_0 10 rfl rfl)
noncomputable def f_X5_lesser (E : ax_E) (x0 : Int) (x1 : Int) (h : ax_H) : Option (Int × ax_H) :=
  if i2 x0 < i2 x1 then
    some (x0, h)
  else
    some (x1, h)
set_option maxHeartbeats 4000000 in
theorem we_X5_lesser {l : Launch} {G : ax_G} {X : ax_X} {Q : State → Prop} {h0 h : ax_H} {ls : Array Slot} (hSF : ax_SF G) (B : ax_BL l G X cX5_lesser 2 RX5 1 40) (Z : ax_Z X h0 ((some FieldType.int))) (hn : X.2.2.2.2.2.2.2.2.1.name = yX5_lesser.name) (x0 : Int) (x1 : Int) {w : Int × ax_H} (hl : ax_hl ls 2 [(0, .inl x0), (1, .inl x1)]) (e : f_X5_lesser G.2.2 x0 x1 h = some w) (hp : (fun w : Int × ax_H => Q = ax_Q G X h0 w.2 (some (.int (Int32.ofInt w.1)))) w) : ax_W G X Q h 0 ls [] := by
  unfold f_X5_lesser at e
  refine ax_iload_n B dX5_lesser_0 rfl hl 0 rfl ?_
  refine ax_iload_n B dX5_lesser_1 rfl hl 1 rfl ?_
  refine ax_icmp_ge (tgt := 9) B dX5_lesser_2 (by decide) e (fun e => ?_) (fun e => ?_)
  · refine ax_iload_n B dX5_lesser_5 rfl hl 0 rfl ?_
    refine ax_goto (tgt := 10) B dX5_lesser_6 (by decide) ?_
    have e8 := e
    have hp : Q = _ := hp
    subst hp
    exact ax_ireturn B Z dX5_lesser_10 e8
  · refine ax_iload_n B dX5_lesser_9 rfl hl 1 rfl ?_
    have e8 := e
    have hp : Q = _ := hp
    subst hp
    exact ax_ireturn B Z dX5_lesser_10 e8
theorem mt_X5_lesser (l : Launch) (G : ax_G) (hSF : ax_SF G) (x0 : Int) (x1 : Int) (h : ax_H) (w : Int × ax_H) (e : f_X5_lesser G.2.2 x0 x1 h = some w) : ax_Met l G yX5_lesser cX5_lesser 2 ((some FieldType.int)) 1 40 [.int (Int32.ofInt x0), .int (Int32.ofInt x1)] h w.2 (some (.int (Int32.ofInt w.1))) :=
  ax_enter [.inl x0, .inl x1] (y := yX5_lesser) hSF (plainFor_of_name (by decide +kernel)) (Nat.le_of_ble_eq_true rfl) (fun X ls B Z hn hl => we_X5_lesser hSF B Z hn x0 x1 hl e rfl)
def dkwX5_deepBy_2 : List UInt8 := [21, 5, 4, 29, 16, 100, 108, 96, 184, 1, 79, 182, 1, 76, 172]
abbrev dktX5_deepBy_2 : List UInt8 := dkwX5_deepBy_2 ++ []
def dkwX5_deepBy_1 : List UInt8 := [7, 4, 3, 182, 1, 76, 4, 160, 0, 5, 3, 172, 42, 4, 21, 5, 29, 154, 0, 7, 3, 167, 0, 14]
abbrev dktX5_deepBy_1 : List UInt8 := dkwX5_deepBy_1 ++ dktX5_deepBy_2
def dkwX5_deepBy_0 : List UInt8 := [42, 180, 0, 24, 27, 4, 184, 0, 148, 46, 54, 5, 42, 27, 28, 29, 21, 4, 2, 2, 182, 1, 72, 42]
abbrev dktX5_deepBy_0 : List UInt8 := dkwX5_deepBy_0 ++ dktX5_deepBy_1
theorem dksX5_deepBy_0 : cX5_deepBy.data.toList.drop 0 = dktX5_deepBy_0 := by decide +kernel
theorem dksX5_deepBy_1 : cX5_deepBy.data.toList.drop 24 = dktX5_deepBy_1 := dk_seg dksX5_deepBy_0 24 rfl rfl
theorem dksX5_deepBy_2 : cX5_deepBy.data.toList.drop 48 = dktX5_deepBy_2 := dk_seg dksX5_deepBy_1 24 rfl rfl
theorem dX5_deepBy_0 : decode cX5_deepBy 0 = .ok (.aload_n 0, 1) := dk_42 (dk_at dksX5_deepBy_0 0 rfl rfl)
theorem dX5_deepBy_1 : decode cX5_deepBy 1 = .ok (.getfield 24, 3) := dk_180 0 24 (dk_at dksX5_deepBy_0 1 rfl rfl)
theorem dX5_deepBy_4 : decode cX5_deepBy 4 = .ok (.iload_n 1, 1) := dk_27 (dk_at dksX5_deepBy_0 4 rfl rfl)
theorem dX5_deepBy_5 : decode cX5_deepBy 5 = .ok (.iconst 1, 1) := dk_4 (dk_at dksX5_deepBy_0 5 rfl rfl)
theorem dX5_deepBy_6 : decode cX5_deepBy 6 = .ok (.invokestatic 148, 3) := dk_184 0 148 (dk_at dksX5_deepBy_0 6 rfl rfl)
theorem dX5_deepBy_9 : decode cX5_deepBy 9 = .ok (.iaload, 1) := dk_46 (dk_at dksX5_deepBy_0 9 rfl rfl)
theorem dX5_deepBy_10 : decode cX5_deepBy 10 = .ok (.istore 5, 2) := dk_54 5 (dk_at dksX5_deepBy_0 10 rfl rfl)
theorem dX5_deepBy_12 : decode cX5_deepBy 12 = .ok (.aload_n 0, 1) := dk_42 (dk_at dksX5_deepBy_0 12 rfl rfl)
theorem dX5_deepBy_13 : decode cX5_deepBy 13 = .ok (.iload_n 1, 1) := dk_27 (dk_at dksX5_deepBy_0 13 rfl rfl)
theorem dX5_deepBy_14 : decode cX5_deepBy 14 = .ok (.iload_n 2, 1) := dk_28 (dk_at dksX5_deepBy_0 14 rfl rfl)
theorem dX5_deepBy_15 : decode cX5_deepBy 15 = .ok (.iload_n 3, 1) := dk_29 (dk_at dksX5_deepBy_0 15 rfl rfl)
theorem dX5_deepBy_16 : decode cX5_deepBy 16 = .ok (.iload 4, 2) := dk_21 4 (dk_at dksX5_deepBy_0 16 rfl rfl)
theorem dX5_deepBy_18 : decode cX5_deepBy 18 = .ok (.iconst (-1), 1) := dk_2 (dk_at dksX5_deepBy_0 18 rfl rfl)
theorem dX5_deepBy_19 : decode cX5_deepBy 19 = .ok (.iconst (-1), 1) := dk_2 (dk_at dksX5_deepBy_0 19 rfl rfl)
theorem dX5_deepBy_20 : decode cX5_deepBy 20 = .ok (.invokevirtual 328, 3) := dk_182 1 72 (dk_at dksX5_deepBy_0 20 rfl rfl)
theorem dX5_deepBy_23 : decode cX5_deepBy 23 = .ok (.aload_n 0, 1) := dk_42 (dk_at dksX5_deepBy_0 23 rfl rfl)
theorem dX5_deepBy_24 : decode cX5_deepBy 24 = .ok (.iconst 4, 1) := dk_7 (dk_at dksX5_deepBy_1 0 rfl rfl)
theorem dX5_deepBy_25 : decode cX5_deepBy 25 = .ok (.iconst 1, 1) := dk_4 (dk_at dksX5_deepBy_1 1 rfl rfl)
theorem dX5_deepBy_26 : decode cX5_deepBy 26 = .ok (.iconst 0, 1) := dk_3 (dk_at dksX5_deepBy_1 2 rfl rfl)
theorem dX5_deepBy_27 : decode cX5_deepBy 27 = .ok (.invokevirtual 332, 3) := dk_182 1 76 (dk_at dksX5_deepBy_1 3 rfl rfl)
theorem dX5_deepBy_30 : decode cX5_deepBy 30 = .ok (.iconst 1, 1) := dk_4 (dk_at dksX5_deepBy_1 6 rfl rfl)
theorem dX5_deepBy_31 : decode cX5_deepBy 31 = .ok (.if_icmp .ne 5, 3) := dk_160 0 5 (dk_at dksX5_deepBy_1 7 rfl rfl)
theorem dX5_deepBy_34 : decode cX5_deepBy 34 = .ok (.iconst 0, 1) := dk_3 (dk_at dksX5_deepBy_1 10 rfl rfl)
theorem dX5_deepBy_35 : decode cX5_deepBy 35 = .ok (.ireturn, 1) := dk_172 (dk_at dksX5_deepBy_1 11 rfl rfl)
theorem dX5_deepBy_36 : decode cX5_deepBy 36 = .ok (.aload_n 0, 1) := dk_42 (dk_at dksX5_deepBy_1 12 rfl rfl)
theorem dX5_deepBy_37 : decode cX5_deepBy 37 = .ok (.iconst 1, 1) := dk_4 (dk_at dksX5_deepBy_1 13 rfl rfl)
theorem dX5_deepBy_38 : decode cX5_deepBy 38 = .ok (.iload 5, 2) := dk_21 5 (dk_at dksX5_deepBy_1 14 rfl rfl)
theorem dX5_deepBy_40 : decode cX5_deepBy 40 = .ok (.iload_n 3, 1) := dk_29 (dk_at dksX5_deepBy_1 16 rfl rfl)
theorem dX5_deepBy_41 : decode cX5_deepBy 41 = .ok (.ifCond .ne 7, 3) := dk_154 0 7 (dk_at dksX5_deepBy_1 17 rfl rfl)
theorem dX5_deepBy_44 : decode cX5_deepBy 44 = .ok (.iconst 0, 1) := dk_3 (dk_at dksX5_deepBy_1 20 rfl rfl)
theorem dX5_deepBy_45 : decode cX5_deepBy 45 = .ok (.goto 14, 3) := dk_167 0 14 (dk_at dksX5_deepBy_1 21 rfl rfl)
theorem dX5_deepBy_48 : decode cX5_deepBy 48 = .ok (.iload 5, 2) := dk_21 5 (dk_at dksX5_deepBy_2 0 rfl rfl)
theorem dX5_deepBy_50 : decode cX5_deepBy 50 = .ok (.iconst 1, 1) := dk_4 (dk_at dksX5_deepBy_2 2 rfl rfl)
theorem dX5_deepBy_51 : decode cX5_deepBy 51 = .ok (.iload_n 3, 1) := dk_29 (dk_at dksX5_deepBy_2 3 rfl rfl)
theorem dX5_deepBy_52 : decode cX5_deepBy 52 = .ok (.bipush 100, 2) := dk_16 100 (dk_at dksX5_deepBy_2 4 rfl rfl)
theorem dX5_deepBy_54 : decode cX5_deepBy 54 = .ok (.idiv, 1) := dk_108 (dk_at dksX5_deepBy_2 6 rfl rfl)
theorem dX5_deepBy_55 : decode cX5_deepBy 55 = .ok (.iadd, 1) := dk_96 (dk_at dksX5_deepBy_2 7 rfl rfl)
theorem dX5_deepBy_56 : decode cX5_deepBy 56 = .ok (.invokestatic 335, 3) := dk_184 1 79 (dk_at dksX5_deepBy_2 8 rfl rfl)
theorem dX5_deepBy_59 : decode cX5_deepBy 59 = .ok (.invokevirtual 332, 3) := dk_182 1 76 (dk_at dksX5_deepBy_2 11 rfl rfl)
theorem dX5_deepBy_62 : decode cX5_deepBy 62 = .ok (.ireturn, 1) := dk_172 (dk_at dksX5_deepBy_2 14 rfl rfl)
noncomputable def f_X5_deepBy_59 (E : ax_E) (s0 : Option Nat) (s1 : Int) (s2 : Int) (s3 : Int) (h : ax_H) : Option (Int × ax_H) :=
  (ax_ce E h s0 5).bind fun _ => (f_X5_tells E s0 s1 s2 s3 h).bind fun q1 =>
  some (q1.1, q1.2)
noncomputable def f_X5_deepBy (E : ax_E) (x0 : Option Nat) (x1 : Int) (x2 : Int) (x3 : Int) (x4 : Int) (h : ax_H) : Option (Int × ax_H) :=
  (ax_gR E h x0 5 2).bind fun v1 =>
  (f_X5_placeOf E x1 1 h).bind fun q2 =>
  (ax_ld E q2.2 v1 100 q2.1).bind fun v3 =>
  (ax_ce E q2.2 x0 5).bind fun _ => (f_X5_sets E x0 x1 x2 x3 x4 (-1) (-1) q2.2).bind fun h4 =>
  (ax_ce E h4 x0 5).bind fun _ => (f_X5_tells E x0 4 1 0 h4).bind fun q5 =>
  if i2 q5.1 = i2 1 then
    some (0, q5.2)
  else
    if i2 x3 = 0 then
      f_X5_deepBy_59 E x0 1 v3 0 q5.2
    else
      if i2 100 = 0 then none else
      (f_X5_lesser E v3 (1 + ((i2 x3).tdiv (i2 100))) q5.2).bind fun q6 =>
      f_X5_deepBy_59 E x0 1 v3 q6.1 q6.2
set_option maxHeartbeats 4000000 in
theorem w_X5_deepBy_59 {l : Launch} {G : ax_G} {X : ax_X} {Q : State → Prop} {h0 h : ax_H} {ls : Array Slot} (hSF : ax_SF G) (B : ax_BL l G X cX5_deepBy 6 RX5 134 3494) (Z : ax_Z X h0 ((some FieldType.int))) (hn : X.2.2.2.2.2.2.2.2.1.name = yX5_deepBy.name) (s0 : Option Nat) (s1 : Int) (s2 : Int) (s3 : Int) {w : Int × ax_H} (hl : ax_hl ls 6 []) (e : f_X5_deepBy_59 G.2.2 s0 s1 s2 s3 h = some w) (hp : (fun w : Int × ax_H => Q = ax_Q G X h0 w.2 (some (.int (Int32.ofInt w.1)))) w) : ax_W G X Q h 59 ls [.int (Int32.ofInt s3), .int (Int32.ofInt s2), .int (Int32.ofInt s1), va_rf s0] := by
  unfold f_X5_deepBy_59 at e
  refine ax_ivI (y := yX5_tells) (n := 3) (As := [.int (Int32.ofInt s1), .int (Int32.ofInt s2), .int (Int32.ofInt s3)]) B kd5 (lw_V q2246 q2248 qs55 q133 q2249) (by decide +kernel) ⟨Nat.le_of_ble_eq_true rfl, Nat.le_of_ble_eq_true rfl⟩ (fun w1 e1 => mt_X5_tells l G hSF s0 s1 s2 s3 _ w1 e1) rfl hl.size (by decide) dX5_deepBy_59 e (fun q1 e => ?_)
  have e8 := e
  have hp : Q = _ := hp
  subst hp
  exact ax_ireturn B Z dX5_deepBy_62 e8
set_option maxHeartbeats 4000000 in
theorem we_X5_deepBy {l : Launch} {G : ax_G} {X : ax_X} {Q : State → Prop} {h0 h : ax_H} {ls : Array Slot} (hSF : ax_SF G) (B : ax_BL l G X cX5_deepBy 6 RX5 134 3494) (Z : ax_Z X h0 ((some FieldType.int))) (hn : X.2.2.2.2.2.2.2.2.1.name = yX5_deepBy.name) (x0 : Option Nat) (x1 : Int) (x2 : Int) (x3 : Int) (x4 : Int) {w : Int × ax_H} (hl : ax_hl ls 6 [(0, .inr (.inr x0)), (1, .inl x1), (2, .inl x2), (3, .inl x3), (4, .inl x4)]) (e : f_X5_deepBy G.2.2 x0 x1 x2 x3 x4 h = some w) (hp : (fun w : Int × ax_H => Q = ax_Q G X h0 w.2 (some (.int (Int32.ofInt w.1)))) w) : ax_W G X Q h 0 ls [] := by
  unfold f_X5_deepBy at e
  refine ax_aload_n B dX5_deepBy_0 rfl hl 0 rfl ?_
  refine ax_getR B ff_X5_24_5 (fun _ _ => rfl) dX5_deepBy_1 e (fun v1 e => ?_)
  refine ax_iload_n B dX5_deepBy_4 rfl hl 1 rfl ?_
  refine ax_iconst B dX5_deepBy_5 ?_
  refine ax_isI (y := yX5_placeOf) (n := 2) (As := [.int (Int32.ofInt x1), .int (Int32.ofInt 1)]) B (lw_S q2184 q2185 q133 q2186) (by decide +kernel) ⟨Nat.le_of_ble_eq_true rfl, Nat.le_of_ble_eq_true rfl⟩ (fun w1 e1 => mt_X5_placeOf l G hSF x1 1 _ w1 e1) rfl hl.size (by simp only [List.map_cons, List.map_nil, List.sum_cons, List.sum_nil, va_rf_cat, ax_catI, ax_catL]; decide) dX5_deepBy_6 e (fun q2 e => ?_)
  refine ax_iald B kd100 dX5_deepBy_9 e (fun v3 e => ?_)
  refine ax_istore (L' := [(5, .inl v3), (0, .inr (.inr x0)), (1, .inl x1), (2, .inl x2), (3, .inl x3), (4, .inl x4)]) B dX5_deepBy_10 hl (by decide) rfl (fun ls hl => ?_)
  refine ax_aload_n B dX5_deepBy_12 rfl hl 1 rfl ?_
  refine ax_iload_n B dX5_deepBy_13 rfl hl 2 rfl ?_
  refine ax_iload_n B dX5_deepBy_14 rfl hl 3 rfl ?_
  refine ax_iload_n B dX5_deepBy_15 rfl hl 4 rfl ?_
  refine ax_iload B dX5_deepBy_16 hl 5 rfl ?_
  refine ax_iconst B dX5_deepBy_18 ?_
  refine ax_iconst B dX5_deepBy_19 ?_
  refine ax_ivV (y := yX5_sets) (n := 6) (As := [.int (Int32.ofInt x1), .int (Int32.ofInt x2), .int (Int32.ofInt x3), .int (Int32.ofInt x4), .int (Int32.ofInt (-1)), .int (Int32.ofInt (-1))]) B kd5 (lw_V q2242 q2244 qs54 q133 q2245) (by decide +kernel) ⟨Nat.le_of_ble_eq_true rfl, Nat.le_of_ble_eq_true rfl⟩ (fun w1 e1 => mt_X5_sets l G hSF x0 x1 x2 x3 x4 (-1) (-1) _ w1 e1) rfl hl.size (by decide) dX5_deepBy_20 e (fun h4 e => ?_)
  refine ax_aload_n B dX5_deepBy_23 rfl hl 1 rfl ?_
  refine ax_iconst B dX5_deepBy_24 ?_
  refine ax_iconst B dX5_deepBy_25 ?_
  refine ax_iconst B dX5_deepBy_26 ?_
  refine ax_ivI (y := yX5_tells) (n := 3) (As := [.int (Int32.ofInt 4), .int (Int32.ofInt 1), .int (Int32.ofInt 0)]) B kd5 (lw_V q2246 q2248 qs55 q133 q2249) (by decide +kernel) ⟨Nat.le_of_ble_eq_true rfl, Nat.le_of_ble_eq_true rfl⟩ (fun w1 e1 => mt_X5_tells l G hSF x0 4 1 0 _ w1 e1) rfl hl.size (by decide) dX5_deepBy_27 e (fun q5 e => ?_)
  refine ax_iconst B dX5_deepBy_30 ?_
  refine ax_icmp_ne (tgt := 36) B dX5_deepBy_31 (by decide) e (fun e => ?_) (fun e => ?_)
  · refine ax_iconst B dX5_deepBy_34 ?_
    have e8 := e
    have hp : Q = _ := hp
    subst hp
    exact ax_ireturn B Z dX5_deepBy_35 e8
  · refine ax_aload_n B dX5_deepBy_36 rfl hl 1 rfl ?_
    refine ax_iconst B dX5_deepBy_37 ?_
    refine ax_iload B dX5_deepBy_38 hl 0 rfl ?_
    refine ax_iload_n B dX5_deepBy_40 rfl hl 4 rfl ?_
    refine ax_if_ne (tgt := 48) B dX5_deepBy_41 (by decide) e (fun e => ?_) (fun e => ?_)
    · refine ax_iconst B dX5_deepBy_44 ?_
      refine ax_goto (tgt := 59) B dX5_deepBy_45 (by decide) ?_
      exact w_X5_deepBy_59 hSF B Z hn x0 1 v3 0 (hl.sub [] rfl) e hp
    · refine ax_iload B dX5_deepBy_48 hl 0 rfl ?_
      refine ax_iconst B dX5_deepBy_50 ?_
      refine ax_iload_n B dX5_deepBy_51 rfl hl 4 rfl ?_
      refine ax_bipush B dX5_deepBy_52 (by decide) ?_
      refine ax_idiv' B dX5_deepBy_54 e (fun e => ?_)
      refine ax_iadd' B dX5_deepBy_55 ?_
      refine ax_isI (y := yX5_lesser) (n := 2) (As := [.int (Int32.ofInt v3), .int (Int32.ofInt (1 + ((i2 x3).tdiv (i2 100))))]) B (lw_S q2439 q2440 q133 q2441) (by decide +kernel) ⟨Nat.le_of_ble_eq_true rfl, Nat.le_of_ble_eq_true rfl⟩ (fun w1 e1 => mt_X5_lesser l G hSF v3 (1 + ((i2 x3).tdiv (i2 100))) _ w1 e1) rfl hl.size (by simp only [List.map_cons, List.map_nil, List.sum_cons, List.sum_nil, va_rf_cat, ax_catI, ax_catL]; decide) dX5_deepBy_56 e (fun q6 e => ?_)
      exact w_X5_deepBy_59 hSF B Z hn x0 1 v3 q6.1 (hl.sub [] rfl) e hp
theorem mt_X5_deepBy (l : Launch) (G : ax_G) (hSF : ax_SF G) (x0 : Option Nat) (x1 : Int) (x2 : Int) (x3 : Int) (x4 : Int) (h : ax_H) (w : Int × ax_H) (e : f_X5_deepBy G.2.2 x0 x1 x2 x3 x4 h = some w) : ax_Met l G yX5_deepBy cX5_deepBy 6 ((some FieldType.int)) 134 3494 [va_rf x0, .int (Int32.ofInt x1), .int (Int32.ofInt x2), .int (Int32.ofInt x3), .int (Int32.ofInt x4)] h w.2 (some (.int (Int32.ofInt w.1))) :=
  ax_enter [.inr (.inr x0), .inl x1, .inl x2, .inl x3, .inl x4] (y := yX5_deepBy) hSF (plainFor_of_name (by decide +kernel)) (Nat.le_of_ble_eq_true rfl) (fun X ls B Z hn hl => we_X5_deepBy hSF B Z hn x0 x1 x2 x3 x4 hl e rfl)
def dkwX5_deepNow_0 : List UInt8 := [42, 27, 28, 42, 27, 28, 182, 0, 178, 42, 28, 27, 182, 0, 178, 182, 1, 82, 172]
abbrev dktX5_deepNow_0 : List UInt8 := dkwX5_deepNow_0 ++ []
theorem dksX5_deepNow_0 : cX5_deepNow.data.toList.drop 0 = dktX5_deepNow_0 := by decide +kernel
theorem dX5_deepNow_0 : decode cX5_deepNow 0 = .ok (.aload_n 0, 1) := dk_42 (dk_at dksX5_deepNow_0 0 rfl rfl)
theorem dX5_deepNow_1 : decode cX5_deepNow 1 = .ok (.iload_n 1, 1) := dk_27 (dk_at dksX5_deepNow_0 1 rfl rfl)
theorem dX5_deepNow_2 : decode cX5_deepNow 2 = .ok (.iload_n 2, 1) := dk_28 (dk_at dksX5_deepNow_0 2 rfl rfl)
theorem dX5_deepNow_3 : decode cX5_deepNow 3 = .ok (.aload_n 0, 1) := dk_42 (dk_at dksX5_deepNow_0 3 rfl rfl)
theorem dX5_deepNow_4 : decode cX5_deepNow 4 = .ok (.iload_n 1, 1) := dk_27 (dk_at dksX5_deepNow_0 4 rfl rfl)
theorem dX5_deepNow_5 : decode cX5_deepNow 5 = .ok (.iload_n 2, 1) := dk_28 (dk_at dksX5_deepNow_0 5 rfl rfl)
theorem dX5_deepNow_6 : decode cX5_deepNow 6 = .ok (.invokevirtual 178, 3) := dk_182 0 178 (dk_at dksX5_deepNow_0 6 rfl rfl)
theorem dX5_deepNow_9 : decode cX5_deepNow 9 = .ok (.aload_n 0, 1) := dk_42 (dk_at dksX5_deepNow_0 9 rfl rfl)
theorem dX5_deepNow_10 : decode cX5_deepNow 10 = .ok (.iload_n 2, 1) := dk_28 (dk_at dksX5_deepNow_0 10 rfl rfl)
theorem dX5_deepNow_11 : decode cX5_deepNow 11 = .ok (.iload_n 1, 1) := dk_27 (dk_at dksX5_deepNow_0 11 rfl rfl)
theorem dX5_deepNow_12 : decode cX5_deepNow 12 = .ok (.invokevirtual 178, 3) := dk_182 0 178 (dk_at dksX5_deepNow_0 12 rfl rfl)
theorem dX5_deepNow_15 : decode cX5_deepNow 15 = .ok (.invokevirtual 338, 3) := dk_182 1 82 (dk_at dksX5_deepNow_0 15 rfl rfl)
theorem dX5_deepNow_18 : decode cX5_deepNow 18 = .ok (.ireturn, 1) := dk_172 (dk_at dksX5_deepNow_0 18 rfl rfl)
noncomputable def f_X5_deepNow (E : ax_E) (x0 : Option Nat) (x1 : Int) (x2 : Int) (h : ax_H) : Option (Int × ax_H) :=
  (ax_ce E h x0 5).bind fun _ => (f_X5_owed E x0 x1 x2 h).bind fun q1 =>
  (ax_ce E q1.2 x0 5).bind fun _ => (f_X5_owed E x0 x2 x1 q1.2).bind fun q2 =>
  (ax_ce E q2.2 x0 5).bind fun _ => (f_X5_deepBy E x0 x1 x2 q1.1 q2.1 q2.2).bind fun q3 =>
  some (q3.1, q3.2)
set_option maxHeartbeats 4000000 in
theorem we_X5_deepNow {l : Launch} {G : ax_G} {X : ax_X} {Q : State → Prop} {h0 h : ax_H} {ls : Array Slot} (hSF : ax_SF G) (B : ax_BL l G X cX5_deepNow 3 RX5 135 3519) (Z : ax_Z X h0 ((some FieldType.int))) (hn : X.2.2.2.2.2.2.2.2.1.name = yX5_deepNow.name) (x0 : Option Nat) (x1 : Int) (x2 : Int) {w : Int × ax_H} (hl : ax_hl ls 3 [(0, .inr (.inr x0)), (1, .inl x1), (2, .inl x2)]) (e : f_X5_deepNow G.2.2 x0 x1 x2 h = some w) (hp : (fun w : Int × ax_H => Q = ax_Q G X h0 w.2 (some (.int (Int32.ofInt w.1)))) w) : ax_W G X Q h 0 ls [] := by
  unfold f_X5_deepNow at e
  refine ax_aload_n B dX5_deepNow_0 rfl hl 0 rfl ?_
  refine ax_iload_n B dX5_deepNow_1 rfl hl 1 rfl ?_
  refine ax_iload_n B dX5_deepNow_2 rfl hl 2 rfl ?_
  refine ax_aload_n B dX5_deepNow_3 rfl hl 0 rfl ?_
  refine ax_iload_n B dX5_deepNow_4 rfl hl 1 rfl ?_
  refine ax_iload_n B dX5_deepNow_5 rfl hl 2 rfl ?_
  refine ax_ivI (y := yX5_owed) (n := 2) (As := [.int (Int32.ofInt x1), .int (Int32.ofInt x2)]) B kd5 (lw_V q2234 q2236 qs52 q133 q2237) (by decide +kernel) ⟨Nat.le_of_ble_eq_true rfl, Nat.le_of_ble_eq_true rfl⟩ (fun w1 e1 => mt_X5_owed l G hSF x0 x1 x2 _ w1 e1) rfl hl.size (by simp only [List.map_cons, List.map_nil, List.sum_cons, List.sum_nil, va_rf_cat, ax_catI, ax_catL]; decide) dX5_deepNow_6 e (fun q1 e => ?_)
  refine ax_aload_n B dX5_deepNow_9 rfl hl 0 rfl ?_
  refine ax_iload_n B dX5_deepNow_10 rfl hl 2 rfl ?_
  refine ax_iload_n B dX5_deepNow_11 rfl hl 1 rfl ?_
  refine ax_ivI (y := yX5_owed) (n := 2) (As := [.int (Int32.ofInt x2), .int (Int32.ofInt x1)]) B kd5 (lw_V q2234 q2236 qs52 q133 q2237) (by decide +kernel) ⟨Nat.le_of_ble_eq_true rfl, Nat.le_of_ble_eq_true rfl⟩ (fun w1 e1 => mt_X5_owed l G hSF x0 x2 x1 _ w1 e1) rfl hl.size (by simp only [List.map_cons, List.map_nil, List.sum_cons, List.sum_nil, va_rf_cat, ax_catI, ax_catL]; decide) dX5_deepNow_12 e (fun q2 e => ?_)
  refine ax_ivI (y := yX5_deepBy) (n := 4) (As := [.int (Int32.ofInt x1), .int (Int32.ofInt x2), .int (Int32.ofInt q1.1), .int (Int32.ofInt q2.1)]) B kd5 (lw_V q2435 q2437 qs89 q133 q2438) (by decide +kernel) ⟨Nat.le_of_ble_eq_true rfl, Nat.le_of_ble_eq_true rfl⟩ (fun w1 e1 => mt_X5_deepBy l G hSF x0 x1 x2 q1.1 q2.1 _ w1 e1) rfl hl.size (by decide) dX5_deepNow_15 e (fun q3 e => ?_)
  have e8 := e
  have hp : Q = _ := hp
  subst hp
  exact ax_ireturn B Z dX5_deepNow_18 e8
theorem mt_X5_deepNow (l : Launch) (G : ax_G) (hSF : ax_SF G) (x0 : Option Nat) (x1 : Int) (x2 : Int) (h : ax_H) (w : Int × ax_H) (e : f_X5_deepNow G.2.2 x0 x1 x2 h = some w) : ax_Met l G yX5_deepNow cX5_deepNow 3 ((some FieldType.int)) 135 3519 [va_rf x0, .int (Int32.ofInt x1), .int (Int32.ofInt x2)] h w.2 (some (.int (Int32.ofInt w.1))) :=
  ax_enter [.inr (.inr x0), .inl x1, .inl x2] (y := yX5_deepNow) hSF (plainFor_of_name (by decide +kernel)) (Nat.le_of_ble_eq_true rfl) (fun X ls B Z hn hl => we_X5_deepNow hSF B Z hn x0 x1 x2 hl e rfl)
def dkwX5_deep_0 : List UInt8 := [42, 27, 28, 182, 1, 89, 153, 0, 12, 42, 27, 28, 182, 1, 92, 167, 0, 4, 2, 172]
abbrev dktX5_deep_0 : List UInt8 := dkwX5_deep_0 ++ []
theorem dksX5_deep_0 : cX5_deep.data.toList.drop 0 = dktX5_deep_0 := by decide +kernel
theorem dX5_deep_0 : decode cX5_deep 0 = .ok (.aload_n 0, 1) := dk_42 (dk_at dksX5_deep_0 0 rfl rfl)
theorem dX5_deep_1 : decode cX5_deep 1 = .ok (.iload_n 1, 1) := dk_27 (dk_at dksX5_deep_0 1 rfl rfl)
theorem dX5_deep_2 : decode cX5_deep 2 = .ok (.iload_n 2, 1) := dk_28 (dk_at dksX5_deep_0 2 rfl rfl)
theorem dX5_deep_3 : decode cX5_deep 3 = .ok (.invokevirtual 345, 3) := dk_182 1 89 (dk_at dksX5_deep_0 3 rfl rfl)
theorem dX5_deep_6 : decode cX5_deep 6 = .ok (.ifCond .eq 12, 3) := dk_153 0 12 (dk_at dksX5_deep_0 6 rfl rfl)
theorem dX5_deep_9 : decode cX5_deep 9 = .ok (.aload_n 0, 1) := dk_42 (dk_at dksX5_deep_0 9 rfl rfl)
theorem dX5_deep_10 : decode cX5_deep 10 = .ok (.iload_n 1, 1) := dk_27 (dk_at dksX5_deep_0 10 rfl rfl)
theorem dX5_deep_11 : decode cX5_deep 11 = .ok (.iload_n 2, 1) := dk_28 (dk_at dksX5_deep_0 11 rfl rfl)
theorem dX5_deep_12 : decode cX5_deep 12 = .ok (.invokevirtual 348, 3) := dk_182 1 92 (dk_at dksX5_deep_0 12 rfl rfl)
theorem dX5_deep_15 : decode cX5_deep 15 = .ok (.goto 4, 3) := dk_167 0 4 (dk_at dksX5_deep_0 15 rfl rfl)
theorem dX5_deep_18 : decode cX5_deep 18 = .ok (.iconst (-1), 1) := dk_2 (dk_at dksX5_deep_0 18 rfl rfl)
theorem dX5_deep_19 : decode cX5_deep 19 = .ok (.ireturn, 1) := dk_172 (dk_at dksX5_deep_0 19 rfl rfl)
noncomputable def f_X5_deep (E : ax_E) (x0 : Option Nat) (x1 : Int) (x2 : Int) (h : ax_H) : Option (Int × ax_H) :=
  (ax_ce E h x0 5).bind fun _ => (f_X5_areTwo E x0 x1 x2 h).bind fun q1 =>
  if i2 q1.1 = 0 then
    some ((-1), q1.2)
  else
    (ax_ce E q1.2 x0 5).bind fun _ => (f_X5_deepNow E x0 x1 x2 q1.2).bind fun q2 =>
    some (q2.1, q2.2)
set_option maxHeartbeats 4000000 in
theorem we_X5_deep {l : Launch} {G : ax_G} {X : ax_X} {Q : State → Prop} {h0 h : ax_H} {ls : Array Slot} (hSF : ax_SF G) (B : ax_BL l G X cX5_deep 3 RX5 136 3541) (Z : ax_Z X h0 ((some FieldType.int))) (hn : X.2.2.2.2.2.2.2.2.1.name = yX5_deep.name) (x0 : Option Nat) (x1 : Int) (x2 : Int) {w : Int × ax_H} (hl : ax_hl ls 3 [(0, .inr (.inr x0)), (1, .inl x1), (2, .inl x2)]) (e : f_X5_deep G.2.2 x0 x1 x2 h = some w) (hp : (fun w : Int × ax_H => Q = ax_Q G X h0 w.2 (some (.int (Int32.ofInt w.1)))) w) : ax_W G X Q h 0 ls [] := by
  unfold f_X5_deep at e
  refine ax_aload_n B dX5_deep_0 rfl hl 0 rfl ?_
  refine ax_iload_n B dX5_deep_1 rfl hl 1 rfl ?_
  refine ax_iload_n B dX5_deep_2 rfl hl 2 rfl ?_
  refine ax_ivI (y := yX5_areTwo) (n := 2) (As := [.int (Int32.ofInt x1), .int (Int32.ofInt x2)]) B kd5 (lw_V q2427 q2429 qs87 q133 q2430) (by decide +kernel) ⟨Nat.le_of_ble_eq_true rfl, Nat.le_of_ble_eq_true rfl⟩ (fun w1 e1 => mt_X5_areTwo l G hSF x0 x1 x2 _ w1 e1) rfl hl.size (by decide) dX5_deep_3 e (fun q1 e => ?_)
  refine ax_if_eq (tgt := 18) B dX5_deep_6 (by decide) e (fun e => ?_) (fun e => ?_)
  · refine ax_iconst B dX5_deep_18 ?_
    have e8 := e
    have hp : Q = _ := hp
    subst hp
    exact ax_ireturn B Z dX5_deep_19 e8
  · refine ax_aload_n B dX5_deep_9 rfl hl 0 rfl ?_
    refine ax_iload_n B dX5_deep_10 rfl hl 1 rfl ?_
    refine ax_iload_n B dX5_deep_11 rfl hl 2 rfl ?_
    refine ax_ivI (y := yX5_deepNow) (n := 2) (As := [.int (Int32.ofInt x1), .int (Int32.ofInt x2)]) B kd5 (lw_V q2431 q2433 qs88 q133 q2434) (by decide +kernel) ⟨Nat.le_of_ble_eq_true rfl, Nat.le_of_ble_eq_true rfl⟩ (fun w1 e1 => mt_X5_deepNow l G hSF x0 x1 x2 _ w1 e1) rfl hl.size (by decide) dX5_deep_12 e (fun q2 e => ?_)
    refine ax_goto (tgt := 19) B dX5_deep_15 (by decide) ?_
    have e8 := e
    have hp : Q = _ := hp
    subst hp
    exact ax_ireturn B Z dX5_deep_19 e8
theorem mt_X5_deep (l : Launch) (G : ax_G) (hSF : ax_SF G) (x0 : Option Nat) (x1 : Int) (x2 : Int) (h : ax_H) (w : Int × ax_H) (e : f_X5_deep G.2.2 x0 x1 x2 h = some w) : ax_Met l G yX5_deep cX5_deep 3 ((some FieldType.int)) 136 3541 [va_rf x0, .int (Int32.ofInt x1), .int (Int32.ofInt x2)] h w.2 (some (.int (Int32.ofInt w.1))) :=
  ax_enter [.inr (.inr x0), .inl x1, .inl x2] (y := yX5_deep) hSF (plainFor_of_name (by decide +kernel)) (Nat.le_of_ble_eq_true rfl) (fun X ls B Z hn hl => we_X5_deep hSF B Z hn x0 x1 x2 hl e rfl)
def dkwX5_doorsOf_1 : List UInt8 := [158, 0, 9, 4, 29, 120, 167, 0, 4, 3, 128, 61, 132, 3, 1, 167, 255, 221, 28, 172]
abbrev dktX5_doorsOf_1 : List UInt8 := dkwX5_doorsOf_1 ++ []
def dkwX5_doorsOf_0 : List UInt8 := [3, 61, 3, 62, 29, 42, 182, 0, 133, 162, 0, 33, 28, 29, 27, 159, 0, 18, 42, 29, 27, 182, 1, 92]
abbrev dktX5_doorsOf_0 : List UInt8 := dkwX5_doorsOf_0 ++ dktX5_doorsOf_1
theorem dksX5_doorsOf_0 : cX5_doorsOf.data.toList.drop 0 = dktX5_doorsOf_0 := by decide +kernel
theorem dksX5_doorsOf_1 : cX5_doorsOf.data.toList.drop 24 = dktX5_doorsOf_1 := dk_seg dksX5_doorsOf_0 24 rfl rfl
theorem dX5_doorsOf_0 : decode cX5_doorsOf 0 = .ok (.iconst 0, 1) := dk_3 (dk_at dksX5_doorsOf_0 0 rfl rfl)
theorem dX5_doorsOf_1 : decode cX5_doorsOf 1 = .ok (.istore_n 2, 1) := dk_61 (dk_at dksX5_doorsOf_0 1 rfl rfl)
theorem dX5_doorsOf_2 : decode cX5_doorsOf 2 = .ok (.iconst 0, 1) := dk_3 (dk_at dksX5_doorsOf_0 2 rfl rfl)
theorem dX5_doorsOf_3 : decode cX5_doorsOf 3 = .ok (.istore_n 3, 1) := dk_62 (dk_at dksX5_doorsOf_0 3 rfl rfl)
theorem dX5_doorsOf_4 : decode cX5_doorsOf 4 = .ok (.iload_n 3, 1) := dk_29 (dk_at dksX5_doorsOf_0 4 rfl rfl)
theorem dX5_doorsOf_5 : decode cX5_doorsOf 5 = .ok (.aload_n 0, 1) := dk_42 (dk_at dksX5_doorsOf_0 5 rfl rfl)
theorem dX5_doorsOf_6 : decode cX5_doorsOf 6 = .ok (.invokevirtual 133, 3) := dk_182 0 133 (dk_at dksX5_doorsOf_0 6 rfl rfl)
theorem dX5_doorsOf_9 : decode cX5_doorsOf 9 = .ok (.if_icmp .ge 33, 3) := dk_162 0 33 (dk_at dksX5_doorsOf_0 9 rfl rfl)
theorem dX5_doorsOf_12 : decode cX5_doorsOf 12 = .ok (.iload_n 2, 1) := dk_28 (dk_at dksX5_doorsOf_0 12 rfl rfl)
theorem dX5_doorsOf_13 : decode cX5_doorsOf 13 = .ok (.iload_n 3, 1) := dk_29 (dk_at dksX5_doorsOf_0 13 rfl rfl)
theorem dX5_doorsOf_14 : decode cX5_doorsOf 14 = .ok (.iload_n 1, 1) := dk_27 (dk_at dksX5_doorsOf_0 14 rfl rfl)
theorem dX5_doorsOf_15 : decode cX5_doorsOf 15 = .ok (.if_icmp .eq 18, 3) := dk_159 0 18 (dk_at dksX5_doorsOf_0 15 rfl rfl)
theorem dX5_doorsOf_18 : decode cX5_doorsOf 18 = .ok (.aload_n 0, 1) := dk_42 (dk_at dksX5_doorsOf_0 18 rfl rfl)
theorem dX5_doorsOf_19 : decode cX5_doorsOf 19 = .ok (.iload_n 3, 1) := dk_29 (dk_at dksX5_doorsOf_0 19 rfl rfl)
theorem dX5_doorsOf_20 : decode cX5_doorsOf 20 = .ok (.iload_n 1, 1) := dk_27 (dk_at dksX5_doorsOf_0 20 rfl rfl)
theorem dX5_doorsOf_21 : decode cX5_doorsOf 21 = .ok (.invokevirtual 348, 3) := dk_182 1 92 (dk_at dksX5_doorsOf_0 21 rfl rfl)
theorem dX5_doorsOf_24 : decode cX5_doorsOf 24 = .ok (.ifCond .le 9, 3) := dk_158 0 9 (dk_at dksX5_doorsOf_1 0 rfl rfl)
theorem dX5_doorsOf_27 : decode cX5_doorsOf 27 = .ok (.iconst 1, 1) := dk_4 (dk_at dksX5_doorsOf_1 3 rfl rfl)
theorem dX5_doorsOf_28 : decode cX5_doorsOf 28 = .ok (.iload_n 3, 1) := dk_29 (dk_at dksX5_doorsOf_1 4 rfl rfl)
theorem dX5_doorsOf_29 : decode cX5_doorsOf 29 = .ok (.ishl, 1) := dk_120 (dk_at dksX5_doorsOf_1 5 rfl rfl)
theorem dX5_doorsOf_30 : decode cX5_doorsOf 30 = .ok (.goto 4, 3) := dk_167 0 4 (dk_at dksX5_doorsOf_1 6 rfl rfl)
theorem dX5_doorsOf_33 : decode cX5_doorsOf 33 = .ok (.iconst 0, 1) := dk_3 (dk_at dksX5_doorsOf_1 9 rfl rfl)
theorem dX5_doorsOf_34 : decode cX5_doorsOf 34 = .ok (.ior, 1) := dk_128 (dk_at dksX5_doorsOf_1 10 rfl rfl)
theorem dX5_doorsOf_35 : decode cX5_doorsOf 35 = .ok (.istore_n 2, 1) := dk_61 (dk_at dksX5_doorsOf_1 11 rfl rfl)
theorem dX5_doorsOf_36 : decode cX5_doorsOf 36 = .ok (.iinc 3 1, 3) := dk_132 3 1 (dk_at dksX5_doorsOf_1 12 rfl rfl)
theorem dX5_doorsOf_39 : decode cX5_doorsOf 39 = .ok (.goto (-35), 3) := dk_167 255 221 (dk_at dksX5_doorsOf_1 15 rfl rfl)
theorem dX5_doorsOf_42 : decode cX5_doorsOf 42 = .ok (.iload_n 2, 1) := dk_28 (dk_at dksX5_doorsOf_1 18 rfl rfl)
theorem dX5_doorsOf_43 : decode cX5_doorsOf 43 = .ok (.ireturn, 1) := dk_172 (dk_at dksX5_doorsOf_1 19 rfl rfl)
noncomputable def f_X5_doorsOf_34 (E : ax_E) (x0 : Option Nat) (x1 : Int) (x3 : Int) (s0 : Int) (s1 : Int) (h : ax_H) : Option ((Int × Int × ax_H) ⊕ (Int × ax_H)) :=
  some (.inl ((ax_or s0 s1), (x3 + 1), h))
noncomputable def f_X5_doorsOf_33 (E : ax_E) (x0 : Option Nat) (x1 : Int) (x3 : Int) (s0 : Int) (h : ax_H) : Option ((Int × Int × ax_H) ⊕ (Int × ax_H)) :=
  f_X5_doorsOf_34 E x0 x1 x3 s0 0 h
noncomputable def lb_X5_doorsOf_4 (E : ax_E) (x0 : Option Nat) (x1 : Int) (x2 : Int) (x3 : Int) (h : ax_H) : Option ((Int × Int × ax_H) ⊕ (Int × ax_H)) :=
  (ax_ce E h x0 5).bind fun _ => (f_X5_people E x0 h).bind fun q1 =>
  if i2 x3 < i2 q1.1 then
    if i2 x3 = i2 x1 then
      f_X5_doorsOf_33 E x0 x1 x3 x2 q1.2
    else
      (ax_ce E q1.2 x0 5).bind fun _ => (f_X5_deepNow E x0 x3 x1 q1.2).bind fun q2 =>
      if 0 < i2 q2.1 then
        f_X5_doorsOf_34 E x0 x1 x3 x2 (ax_shl 1 x3) q2.2
      else
        f_X5_doorsOf_33 E x0 x1 x3 x2 q2.2
  else
    (some (x2, q1.2)).map Sum.inr
noncomputable def f_X5_doorsOf_4 (E : ax_E) (x0 : Option Nat) (x1 : Int) (x2 : Int) (x3 : Int) (h : ax_H) : Option (Int × ax_H) :=
  ax_iter (fun s : Int × Int × ax_H => lb_X5_doorsOf_4 E x0 x1 s.1 s.2.1 s.2.2) (x2, x3, h)
noncomputable def f_X5_doorsOf (E : ax_E) (x0 : Option Nat) (x1 : Int) (h : ax_H) : Option (Int × ax_H) :=
  f_X5_doorsOf_4 E x0 x1 0 0 h
def pi_X5_doorsOf_4 (G : ax_G) (X : ax_X) (Q : State → Prop) (x0 : Option Nat) (x1 : Int) : Int × Int × ax_H → Prop := fun s => ∀ ls : Array Slot, ax_hl ls 4 [(0, .inr (.inr x0)), (1, .inl x1), (2, .inl s.1), (3, .inl s.2.1)] → ax_W G X Q s.2.2 4 ls []
set_option maxHeartbeats 4000000 in
theorem w_X5_doorsOf_34 {l : Launch} {G : ax_G} {X : ax_X} {Q : State → Prop} {h0 h : ax_H} {ls : Array Slot} (hSF : ax_SF G) (B : ax_BL l G X cX5_doorsOf 4 RX5 136 3541) (Z : ax_Z X h0 ((some FieldType.int))) (hn : X.2.2.2.2.2.2.2.2.1.name = yX5_doorsOf.name) (x0 : Option Nat) (x1 : Int) (x3 : Int) (s0 : Int) (s1 : Int) {w : (Int × Int × ax_H) ⊕ (Int × ax_H)} (hl : ax_hl ls 4 [(0, .inr (.inr x0)), (1, .inl x1), (3, .inl x3)]) (e : f_X5_doorsOf_34 G.2.2 x0 x1 x3 s0 s1 h = some w) (hp : (ax_PL (pi_X5_doorsOf_4 G X Q x0 x1) (fun w : Int × ax_H => Q = ax_Q G X h0 w.2 (some (.int (Int32.ofInt w.1))))) w) : ax_W G X Q h 34 ls [.int (Int32.ofInt s1), .int (Int32.ofInt s0)] := by
  unfold f_X5_doorsOf_34 at e
  refine ax_ior' B dX5_doorsOf_34 ?_
  refine ax_istore_n (L' := [(2, .inl (ax_or s0 s1)), (0, .inr (.inr x0)), (1, .inl x1), (3, .inl x3)]) B dX5_doorsOf_35 rfl hl (by decide) rfl (fun ls hl => ?_)
  refine ax_iinc (L' := [(3, .inl (x3 + 1)), (2, .inl (ax_or s0 s1)), (0, .inr (.inr x0)), (1, .inl x1)]) B dX5_doorsOf_36 hl 3 rfl (by decide) rfl (fun ls hl => ?_)
  refine ax_goto (tgt := 4) B dX5_doorsOf_39 (by decide) ?_
  cases e
  exact hp _ (hl.sub [2, 3, 1, 0] rfl)
set_option maxHeartbeats 4000000 in
theorem w_X5_doorsOf_33 {l : Launch} {G : ax_G} {X : ax_X} {Q : State → Prop} {h0 h : ax_H} {ls : Array Slot} (hSF : ax_SF G) (B : ax_BL l G X cX5_doorsOf 4 RX5 136 3541) (Z : ax_Z X h0 ((some FieldType.int))) (hn : X.2.2.2.2.2.2.2.2.1.name = yX5_doorsOf.name) (x0 : Option Nat) (x1 : Int) (x3 : Int) (s0 : Int) {w : (Int × Int × ax_H) ⊕ (Int × ax_H)} (hl : ax_hl ls 4 [(0, .inr (.inr x0)), (1, .inl x1), (3, .inl x3)]) (e : f_X5_doorsOf_33 G.2.2 x0 x1 x3 s0 h = some w) (hp : (ax_PL (pi_X5_doorsOf_4 G X Q x0 x1) (fun w : Int × ax_H => Q = ax_Q G X h0 w.2 (some (.int (Int32.ofInt w.1))))) w) : ax_W G X Q h 33 ls [.int (Int32.ofInt s0)] := by
  unfold f_X5_doorsOf_33 at e
  refine ax_iconst B dX5_doorsOf_33 ?_
  exact w_X5_doorsOf_34 hSF B Z hn x0 x1 x3 s0 0 (hl.sub [0, 1, 2] rfl) e hp
set_option maxHeartbeats 4000000 in
theorem wb_X5_doorsOf_4 {l : Launch} {G : ax_G} {X : ax_X} {Q : State → Prop} {h0 h : ax_H} {ls : Array Slot} (hSF : ax_SF G) (B : ax_BL l G X cX5_doorsOf 4 RX5 136 3541) (Z : ax_Z X h0 ((some FieldType.int))) (hn : X.2.2.2.2.2.2.2.2.1.name = yX5_doorsOf.name) (x0 : Option Nat) (x1 : Int) (x2 : Int) (x3 : Int) {w : (Int × Int × ax_H) ⊕ (Int × ax_H)} (hl : ax_hl ls 4 [(0, .inr (.inr x0)), (1, .inl x1), (2, .inl x2), (3, .inl x3)]) (e : lb_X5_doorsOf_4 G.2.2 x0 x1 x2 x3 h = some w) (hp : (ax_PL (pi_X5_doorsOf_4 G X Q x0 x1) (fun w : Int × ax_H => Q = ax_Q G X h0 w.2 (some (.int (Int32.ofInt w.1))))) w) : ax_W G X Q h 4 ls [] := by
  unfold lb_X5_doorsOf_4 at e
  refine ax_iload_n B dX5_doorsOf_4 rfl hl 3 rfl ?_
  refine ax_aload_n B dX5_doorsOf_5 rfl hl 0 rfl ?_
  refine ax_ivI (y := yX5_people) (n := 0) (As := []) B kd5 (lw_V q2180 q2182 qs44 q133 q2183) (by decide +kernel) ⟨Nat.le_of_ble_eq_true rfl, Nat.le_of_ble_eq_true rfl⟩ (fun w1 e1 => mt_X5_people l G hSF x0 _ w1 e1) rfl hl.size (by simp only [List.map_cons, List.map_nil, List.sum_cons, List.sum_nil, va_rf_cat, ax_catI, ax_catL]; decide) dX5_doorsOf_6 e (fun q1 e => ?_)
  refine ax_icmp_ge (tgt := 42) B dX5_doorsOf_9 (by decide) e (fun e => ?_) (fun e => ?_)
  · refine ax_iload_n B dX5_doorsOf_12 rfl hl 2 rfl ?_
    refine ax_iload_n B dX5_doorsOf_13 rfl hl 3 rfl ?_
    refine ax_iload_n B dX5_doorsOf_14 rfl hl 1 rfl ?_
    refine ax_icmp_eq (tgt := 33) B dX5_doorsOf_15 (by decide) e (fun e => ?_) (fun e => ?_)
    · exact w_X5_doorsOf_33 hSF B Z hn x0 x1 x3 x2 (hl.sub [0, 1, 3] rfl) e hp
    · refine ax_aload_n B dX5_doorsOf_18 rfl hl 0 rfl ?_
      refine ax_iload_n B dX5_doorsOf_19 rfl hl 3 rfl ?_
      refine ax_iload_n B dX5_doorsOf_20 rfl hl 1 rfl ?_
      refine ax_ivI (y := yX5_deepNow) (n := 2) (As := [.int (Int32.ofInt x3), .int (Int32.ofInt x1)]) B kd5 (lw_V q2431 q2433 qs88 q133 q2434) (by decide +kernel) ⟨Nat.le_of_ble_eq_true rfl, Nat.le_of_ble_eq_true rfl⟩ (fun w1 e1 => mt_X5_deepNow l G hSF x0 x3 x1 _ w1 e1) rfl hl.size (by simp only [List.map_cons, List.map_nil, List.sum_cons, List.sum_nil, va_rf_cat, ax_catI, ax_catL]; decide) dX5_doorsOf_21 e (fun q2 e => ?_)
      refine ax_if_le (tgt := 33) B dX5_doorsOf_24 (by decide) e (fun e => ?_) (fun e => ?_)
      · refine ax_iconst B dX5_doorsOf_27 ?_
        refine ax_iload_n B dX5_doorsOf_28 rfl hl 3 rfl ?_
        refine ax_ishl' B dX5_doorsOf_29 ?_
        refine ax_goto (tgt := 34) B dX5_doorsOf_30 (by decide) ?_
        exact w_X5_doorsOf_34 hSF B Z hn x0 x1 x3 x2 (ax_shl 1 x3) (hl.sub [0, 1, 3] rfl) e hp
      · exact w_X5_doorsOf_33 hSF B Z hn x0 x1 x3 x2 (hl.sub [0, 1, 3] rfl) e hp
  · obtain ⟨w, e9_1, rfl⟩ := Option.map_eq_some_iff.mp e
    have e := e9_1
    refine ax_iload_n B dX5_doorsOf_42 rfl hl 2 rfl ?_
    have e8 := e
    have hp : Q = _ := hp
    subst hp
    exact ax_ireturn B Z dX5_doorsOf_43 e8
theorem w_X5_doorsOf_4 {l : Launch} {G : ax_G} {X : ax_X} {Q : State → Prop} {h0 h : ax_H} {ls : Array Slot} (hSF : ax_SF G) (B : ax_BL l G X cX5_doorsOf 4 RX5 136 3541) (Z : ax_Z X h0 ((some FieldType.int))) (hn : X.2.2.2.2.2.2.2.2.1.name = yX5_doorsOf.name) (x0 : Option Nat) (x1 : Int) (x2 : Int) (x3 : Int) {w : Int × ax_H} (hl : ax_hl ls 4 [(0, .inr (.inr x0)), (1, .inl x1), (2, .inl x2), (3, .inl x3)]) (e : f_X5_doorsOf_4 G.2.2 x0 x1 x2 x3 h = some w) (hp : (fun w : Int × ax_H => Q = ax_Q G X h0 w.2 (some (.int (Int32.ofInt w.1)))) w) : ax_W G X Q h 4 ls [] :=
  ax_iter_W (Pin := pi_X5_doorsOf_4 G X Q x0 x1) (Pout := (fun w : Int × ax_H => Q = ax_Q G X h0 w.2 (some (.int (Int32.ofInt w.1))))) (fun s w e hp ls hl => wb_X5_doorsOf_4 hSF B Z hn x0 x1 s.1 s.2.1 hl e hp) _ _ e hp ls hl
set_option maxHeartbeats 4000000 in
theorem we_X5_doorsOf {l : Launch} {G : ax_G} {X : ax_X} {Q : State → Prop} {h0 h : ax_H} {ls : Array Slot} (hSF : ax_SF G) (B : ax_BL l G X cX5_doorsOf 4 RX5 136 3541) (Z : ax_Z X h0 ((some FieldType.int))) (hn : X.2.2.2.2.2.2.2.2.1.name = yX5_doorsOf.name) (x0 : Option Nat) (x1 : Int) {w : Int × ax_H} (hl : ax_hl ls 4 [(0, .inr (.inr x0)), (1, .inl x1)]) (e : f_X5_doorsOf G.2.2 x0 x1 h = some w) (hp : (fun w : Int × ax_H => Q = ax_Q G X h0 w.2 (some (.int (Int32.ofInt w.1)))) w) : ax_W G X Q h 0 ls [] := by
  unfold f_X5_doorsOf at e
  refine ax_iconst B dX5_doorsOf_0 ?_
  refine ax_istore_n (L' := [(2, .inl 0), (0, .inr (.inr x0)), (1, .inl x1)]) B dX5_doorsOf_1 rfl hl (by decide) rfl (fun ls hl => ?_)
  refine ax_iconst B dX5_doorsOf_2 ?_
  refine ax_istore_n (L' := [(3, .inl 0), (2, .inl 0), (0, .inr (.inr x0)), (1, .inl x1)]) B dX5_doorsOf_3 rfl hl (by decide) rfl (fun ls hl => ?_)
  exact w_X5_doorsOf_4 hSF B Z hn x0 x1 0 0 (hl.sub [2, 3, 1, 0] rfl) e hp
theorem mt_X5_doorsOf (l : Launch) (G : ax_G) (hSF : ax_SF G) (x0 : Option Nat) (x1 : Int) (h : ax_H) (w : Int × ax_H) (e : f_X5_doorsOf G.2.2 x0 x1 h = some w) : ax_Met l G yX5_doorsOf cX5_doorsOf 4 ((some FieldType.int)) 136 3541 [va_rf x0, .int (Int32.ofInt x1)] h w.2 (some (.int (Int32.ofInt w.1))) :=
  ax_enter [.inr (.inr x0), .inl x1] (y := yX5_doorsOf) hSF (plainFor_of_name (by decide +kernel)) (Nat.le_of_ble_eq_true rfl) (fun X ls B Z hn hl => we_X5_doorsOf hSF B Z hn x0 x1 hl e rfl)
def dkwX5_doors_0 : List UInt8 := [42, 27, 182, 0, 152, 153, 0, 11, 42, 27, 182, 1, 95, 167, 0, 4, 2, 172]
abbrev dktX5_doors_0 : List UInt8 := dkwX5_doors_0 ++ []
theorem dksX5_doors_0 : cX5_doors.data.toList.drop 0 = dktX5_doors_0 := by decide +kernel
theorem dX5_doors_0 : decode cX5_doors 0 = .ok (.aload_n 0, 1) := dk_42 (dk_at dksX5_doors_0 0 rfl rfl)
theorem dX5_doors_1 : decode cX5_doors 1 = .ok (.iload_n 1, 1) := dk_27 (dk_at dksX5_doors_0 1 rfl rfl)
theorem dX5_doors_2 : decode cX5_doors 2 = .ok (.invokevirtual 152, 3) := dk_182 0 152 (dk_at dksX5_doors_0 2 rfl rfl)
theorem dX5_doors_5 : decode cX5_doors 5 = .ok (.ifCond .eq 11, 3) := dk_153 0 11 (dk_at dksX5_doors_0 5 rfl rfl)
theorem dX5_doors_8 : decode cX5_doors 8 = .ok (.aload_n 0, 1) := dk_42 (dk_at dksX5_doors_0 8 rfl rfl)
theorem dX5_doors_9 : decode cX5_doors 9 = .ok (.iload_n 1, 1) := dk_27 (dk_at dksX5_doors_0 9 rfl rfl)
theorem dX5_doors_10 : decode cX5_doors 10 = .ok (.invokevirtual 351, 3) := dk_182 1 95 (dk_at dksX5_doors_0 10 rfl rfl)
theorem dX5_doors_13 : decode cX5_doors 13 = .ok (.goto 4, 3) := dk_167 0 4 (dk_at dksX5_doors_0 13 rfl rfl)
theorem dX5_doors_16 : decode cX5_doors 16 = .ok (.iconst (-1), 1) := dk_2 (dk_at dksX5_doors_0 16 rfl rfl)
theorem dX5_doors_17 : decode cX5_doors 17 = .ok (.ireturn, 1) := dk_172 (dk_at dksX5_doors_0 17 rfl rfl)
noncomputable def f_X5_doors (E : ax_E) (x0 : Option Nat) (x1 : Int) (h : ax_H) : Option (Int × ax_H) :=
  (ax_ce E h x0 5).bind fun _ => (f_X5_isPerson E x0 x1 h).bind fun q1 =>
  if i2 q1.1 = 0 then
    some ((-1), q1.2)
  else
    (ax_ce E q1.2 x0 5).bind fun _ => (f_X5_doorsOf E x0 x1 q1.2).bind fun q2 =>
    some (q2.1, q2.2)
set_option maxHeartbeats 4000000 in
theorem we_X5_doors {l : Launch} {G : ax_G} {X : ax_X} {Q : State → Prop} {h0 h : ax_H} {ls : Array Slot} (hSF : ax_SF G) (B : ax_BL l G X cX5_doors 2 RX5 137 3564) (Z : ax_Z X h0 ((some FieldType.int))) (hn : X.2.2.2.2.2.2.2.2.1.name = yX5_doors.name) (x0 : Option Nat) (x1 : Int) {w : Int × ax_H} (hl : ax_hl ls 2 [(0, .inr (.inr x0)), (1, .inl x1)]) (e : f_X5_doors G.2.2 x0 x1 h = some w) (hp : (fun w : Int × ax_H => Q = ax_Q G X h0 w.2 (some (.int (Int32.ofInt w.1)))) w) : ax_W G X Q h 0 ls [] := by
  unfold f_X5_doors at e
  refine ax_aload_n B dX5_doors_0 rfl hl 0 rfl ?_
  refine ax_iload_n B dX5_doors_1 rfl hl 1 rfl ?_
  refine ax_ivI (y := yX5_isPerson) (n := 1) (As := [.int (Int32.ofInt x1)]) B kd5 (lw_V q2191 q2193 qs45 q133 q2194) (by decide +kernel) ⟨Nat.le_of_ble_eq_true rfl, Nat.le_of_ble_eq_true rfl⟩ (fun w1 e1 => mt_X5_isPerson l G hSF x0 x1 _ w1 e1) rfl hl.size (by decide) dX5_doors_2 e (fun q1 e => ?_)
  refine ax_if_eq (tgt := 16) B dX5_doors_5 (by decide) e (fun e => ?_) (fun e => ?_)
  · refine ax_iconst B dX5_doors_16 ?_
    have e8 := e
    have hp : Q = _ := hp
    subst hp
    exact ax_ireturn B Z dX5_doors_17 e8
  · refine ax_aload_n B dX5_doors_8 rfl hl 0 rfl ?_
    refine ax_iload_n B dX5_doors_9 rfl hl 1 rfl ?_
    refine ax_ivI (y := yX5_doorsOf) (n := 1) (As := [.int (Int32.ofInt x1)]) B kd5 (lw_V q2446 q2448 qs90 q133 q2449) (by decide +kernel) ⟨Nat.le_of_ble_eq_true rfl, Nat.le_of_ble_eq_true rfl⟩ (fun w1 e1 => mt_X5_doorsOf l G hSF x0 x1 _ w1 e1) rfl hl.size (by decide) dX5_doors_10 e (fun q2 e => ?_)
    refine ax_goto (tgt := 17) B dX5_doors_13 (by decide) ?_
    have e8 := e
    have hp : Q = _ := hp
    subst hp
    exact ax_ireturn B Z dX5_doors_17 e8
theorem mt_X5_doors (l : Launch) (G : ax_G) (hSF : ax_SF G) (x0 : Option Nat) (x1 : Int) (h : ax_H) (w : Int × ax_H) (e : f_X5_doors G.2.2 x0 x1 h = some w) : ax_Met l G yX5_doors cX5_doors 2 ((some FieldType.int)) 137 3564 [va_rf x0, .int (Int32.ofInt x1)] h w.2 (some (.int (Int32.ofInt w.1))) :=
  ax_enter [.inr (.inr x0), .inl x1] (y := yX5_doors) hSF (plainFor_of_name (by decide +kernel)) (Nat.le_of_ble_eq_true rfl) (fun X ls B Z hn hl => we_X5_doors hSF B Z hn x0 x1 hl e rfl)
def dkwX5_undo_3 : List UInt8 := [182, 0, 14, 172]
abbrev dktX5_undo_3 : List UInt8 := dkwX5_undo_3 ++ []
def dkwX5_undo_2 : List UInt8 := [180, 0, 65, 27, 28, 96, 46, 79, 132, 2, 1, 167, 255, 233, 42, 42, 180, 0, 65, 27, 16, 73, 96, 46]
abbrev dktX5_undo_2 : List UInt8 := dkwX5_undo_2 ++ dktX5_undo_3
def dkwX5_undo_1 : List UInt8 := [16, 74, 42, 180, 0, 11, 104, 60, 3, 61, 28, 16, 73, 162, 0, 23, 42, 180, 0, 24, 28, 42]
abbrev dktX5_undo_1 : List UInt8 := dkwX5_undo_1 ++ dktX5_undo_2
def dkwX5_undo_0 : List UInt8 := [42, 180, 0, 11, 154, 0, 10, 42, 16, 253, 182, 0, 127, 172, 42, 89, 180, 0, 11, 4, 100, 181, 0, 11]
abbrev dktX5_undo_0 : List UInt8 := dkwX5_undo_0 ++ dktX5_undo_1
theorem dksX5_undo_0 : cX5_undo.data.toList.drop 0 = dktX5_undo_0 := by decide +kernel
theorem dksX5_undo_1 : cX5_undo.data.toList.drop 24 = dktX5_undo_1 := dk_seg dksX5_undo_0 24 rfl rfl
theorem dksX5_undo_2 : cX5_undo.data.toList.drop 46 = dktX5_undo_2 := dk_seg dksX5_undo_1 22 rfl rfl
theorem dksX5_undo_3 : cX5_undo.data.toList.drop 70 = dktX5_undo_3 := dk_seg dksX5_undo_2 24 rfl rfl
theorem dX5_undo_0 : decode cX5_undo 0 = .ok (.aload_n 0, 1) := dk_42 (dk_at dksX5_undo_0 0 rfl rfl)
theorem dX5_undo_1 : decode cX5_undo 1 = .ok (.getfield 11, 3) := dk_180 0 11 (dk_at dksX5_undo_0 1 rfl rfl)
theorem dX5_undo_4 : decode cX5_undo 4 = .ok (.ifCond .ne 10, 3) := dk_154 0 10 (dk_at dksX5_undo_0 4 rfl rfl)
theorem dX5_undo_7 : decode cX5_undo 7 = .ok (.aload_n 0, 1) := dk_42 (dk_at dksX5_undo_0 7 rfl rfl)
theorem dX5_undo_8 : decode cX5_undo 8 = .ok (.bipush (-3), 2) := dk_16 253 (dk_at dksX5_undo_0 8 rfl rfl)
theorem dX5_undo_10 : decode cX5_undo 10 = .ok (.invokevirtual 127, 3) := dk_182 0 127 (dk_at dksX5_undo_0 10 rfl rfl)
theorem dX5_undo_13 : decode cX5_undo 13 = .ok (.ireturn, 1) := dk_172 (dk_at dksX5_undo_0 13 rfl rfl)
theorem dX5_undo_14 : decode cX5_undo 14 = .ok (.aload_n 0, 1) := dk_42 (dk_at dksX5_undo_0 14 rfl rfl)
theorem dX5_undo_15 : decode cX5_undo 15 = .ok (.dup, 1) := dk_89 (dk_at dksX5_undo_0 15 rfl rfl)
theorem dX5_undo_16 : decode cX5_undo 16 = .ok (.getfield 11, 3) := dk_180 0 11 (dk_at dksX5_undo_0 16 rfl rfl)
theorem dX5_undo_19 : decode cX5_undo 19 = .ok (.iconst 1, 1) := dk_4 (dk_at dksX5_undo_0 19 rfl rfl)
theorem dX5_undo_20 : decode cX5_undo 20 = .ok (.isub, 1) := dk_100 (dk_at dksX5_undo_0 20 rfl rfl)
theorem dX5_undo_21 : decode cX5_undo 21 = .ok (.putfield 11, 3) := dk_181 0 11 (dk_at dksX5_undo_0 21 rfl rfl)
theorem dX5_undo_24 : decode cX5_undo 24 = .ok (.bipush 74, 2) := dk_16 74 (dk_at dksX5_undo_1 0 rfl rfl)
theorem dX5_undo_26 : decode cX5_undo 26 = .ok (.aload_n 0, 1) := dk_42 (dk_at dksX5_undo_1 2 rfl rfl)
theorem dX5_undo_27 : decode cX5_undo 27 = .ok (.getfield 11, 3) := dk_180 0 11 (dk_at dksX5_undo_1 3 rfl rfl)
theorem dX5_undo_30 : decode cX5_undo 30 = .ok (.imul, 1) := dk_104 (dk_at dksX5_undo_1 6 rfl rfl)
theorem dX5_undo_31 : decode cX5_undo 31 = .ok (.istore_n 1, 1) := dk_60 (dk_at dksX5_undo_1 7 rfl rfl)
theorem dX5_undo_32 : decode cX5_undo 32 = .ok (.iconst 0, 1) := dk_3 (dk_at dksX5_undo_1 8 rfl rfl)
theorem dX5_undo_33 : decode cX5_undo 33 = .ok (.istore_n 2, 1) := dk_61 (dk_at dksX5_undo_1 9 rfl rfl)
theorem dX5_undo_34 : decode cX5_undo 34 = .ok (.iload_n 2, 1) := dk_28 (dk_at dksX5_undo_1 10 rfl rfl)
theorem dX5_undo_35 : decode cX5_undo 35 = .ok (.bipush 73, 2) := dk_16 73 (dk_at dksX5_undo_1 11 rfl rfl)
theorem dX5_undo_37 : decode cX5_undo 37 = .ok (.if_icmp .ge 23, 3) := dk_162 0 23 (dk_at dksX5_undo_1 13 rfl rfl)
theorem dX5_undo_40 : decode cX5_undo 40 = .ok (.aload_n 0, 1) := dk_42 (dk_at dksX5_undo_1 16 rfl rfl)
theorem dX5_undo_41 : decode cX5_undo 41 = .ok (.getfield 24, 3) := dk_180 0 24 (dk_at dksX5_undo_1 17 rfl rfl)
theorem dX5_undo_44 : decode cX5_undo 44 = .ok (.iload_n 2, 1) := dk_28 (dk_at dksX5_undo_1 20 rfl rfl)
theorem dX5_undo_45 : decode cX5_undo 45 = .ok (.aload_n 0, 1) := dk_42 (dk_at dksX5_undo_1 21 rfl rfl)
theorem dX5_undo_46 : decode cX5_undo 46 = .ok (.getfield 65, 3) := dk_180 0 65 (dk_at dksX5_undo_2 0 rfl rfl)
theorem dX5_undo_49 : decode cX5_undo 49 = .ok (.iload_n 1, 1) := dk_27 (dk_at dksX5_undo_2 3 rfl rfl)
theorem dX5_undo_50 : decode cX5_undo 50 = .ok (.iload_n 2, 1) := dk_28 (dk_at dksX5_undo_2 4 rfl rfl)
theorem dX5_undo_51 : decode cX5_undo 51 = .ok (.iadd, 1) := dk_96 (dk_at dksX5_undo_2 5 rfl rfl)
theorem dX5_undo_52 : decode cX5_undo 52 = .ok (.iaload, 1) := dk_46 (dk_at dksX5_undo_2 6 rfl rfl)
theorem dX5_undo_53 : decode cX5_undo 53 = .ok (.iastore, 1) := dk_79 (dk_at dksX5_undo_2 7 rfl rfl)
theorem dX5_undo_54 : decode cX5_undo 54 = .ok (.iinc 2 1, 3) := dk_132 2 1 (dk_at dksX5_undo_2 8 rfl rfl)
theorem dX5_undo_57 : decode cX5_undo 57 = .ok (.goto (-23), 3) := dk_167 255 233 (dk_at dksX5_undo_2 11 rfl rfl)
theorem dX5_undo_60 : decode cX5_undo 60 = .ok (.aload_n 0, 1) := dk_42 (dk_at dksX5_undo_2 14 rfl rfl)
theorem dX5_undo_61 : decode cX5_undo 61 = .ok (.aload_n 0, 1) := dk_42 (dk_at dksX5_undo_2 15 rfl rfl)
theorem dX5_undo_62 : decode cX5_undo 62 = .ok (.getfield 65, 3) := dk_180 0 65 (dk_at dksX5_undo_2 16 rfl rfl)
theorem dX5_undo_65 : decode cX5_undo 65 = .ok (.iload_n 1, 1) := dk_27 (dk_at dksX5_undo_2 19 rfl rfl)
theorem dX5_undo_66 : decode cX5_undo 66 = .ok (.bipush 73, 2) := dk_16 73 (dk_at dksX5_undo_2 20 rfl rfl)
theorem dX5_undo_68 : decode cX5_undo 68 = .ok (.iadd, 1) := dk_96 (dk_at dksX5_undo_2 22 rfl rfl)
theorem dX5_undo_69 : decode cX5_undo 69 = .ok (.iaload, 1) := dk_46 (dk_at dksX5_undo_2 23 rfl rfl)
theorem dX5_undo_70 : decode cX5_undo 70 = .ok (.invokevirtual 14, 3) := dk_182 0 14 (dk_at dksX5_undo_3 0 rfl rfl)
theorem dX5_undo_73 : decode cX5_undo 73 = .ok (.ireturn, 1) := dk_172 (dk_at dksX5_undo_3 3 rfl rfl)
noncomputable def lb_X5_undo_34 (E : ax_E) (x0 : Option Nat) (x1 : Int) (x2 : Int) (h : ax_H) : Option ((Int × ax_H) ⊕ (Int × ax_H)) :=
  if i2 x2 < i2 73 then
    (ax_gR E h x0 5 2).bind fun v1 =>
    (ax_gR E h x0 5 26).bind fun v2 =>
    (ax_ld E h v2 100 (x1 + x2)).bind fun v3 =>
    (ax_sto h v1 100 x2 v3).bind fun h4 =>
    some (.inl ((x2 + 1), h4))
  else
    ((ax_gR E h x0 5 26).bind fun v5 =>
    (ax_ld E h v5 100 (x1 + 73)).bind fun v6 =>
    (ax_ce E h x0 5).bind fun _ => (f_X5_good E x0 v6 h).bind fun q7 =>
    some (q7.1, q7.2)).map Sum.inr
noncomputable def f_X5_undo_34 (E : ax_E) (x0 : Option Nat) (x1 : Int) (x2 : Int) (h : ax_H) : Option (Int × ax_H) :=
  ax_iter (fun s : Int × ax_H => lb_X5_undo_34 E x0 x1 s.1 s.2) (x2, h)
noncomputable def f_X5_undo (E : ax_E) (x0 : Option Nat) (h : ax_H) : Option (Int × ax_H) :=
  (ax_gI E h x0 5 28).bind fun v1 =>
  if i2 v1 = 0 then
    (ax_ce E h x0 5).bind fun _ => (f_X5_refuses E x0 (-3) h).bind fun q2 =>
    some (q2.1, q2.2)
  else
    (ax_gI E h x0 5 28).bind fun v3 =>
    (ax_pI h x0 5 28 (v3 - 1)).bind fun h4 =>
    (ax_gI E h4 x0 5 28).bind fun v5 =>
    f_X5_undo_34 E x0 (74 * v5) 0 h4
def pi_X5_undo_34 (G : ax_G) (X : ax_X) (Q : State → Prop) (x0 : Option Nat) (x1 : Int) : Int × ax_H → Prop := fun s => ∀ ls : Array Slot, ax_hl ls 3 [(0, .inr (.inr x0)), (1, .inl x1), (2, .inl s.1)] → ax_W G X Q s.2 34 ls []
set_option maxHeartbeats 4000000 in
theorem wb_X5_undo_34 {l : Launch} {G : ax_G} {X : ax_X} {Q : State → Prop} {h0 h : ax_H} {ls : Array Slot} (hSF : ax_SF G) (B : ax_BL l G X cX5_undo 3 RX5 2 61) (Z : ax_Z X h0 ((some FieldType.int))) (hn : X.2.2.2.2.2.2.2.2.1.name = yX5_undo.name) (x0 : Option Nat) (x1 : Int) (x2 : Int) {w : (Int × ax_H) ⊕ (Int × ax_H)} (hl : ax_hl ls 3 [(0, .inr (.inr x0)), (1, .inl x1), (2, .inl x2)]) (e : lb_X5_undo_34 G.2.2 x0 x1 x2 h = some w) (hp : (ax_PL (pi_X5_undo_34 G X Q x0 x1) (fun w : Int × ax_H => Q = ax_Q G X h0 w.2 (some (.int (Int32.ofInt w.1))))) w) : ax_W G X Q h 34 ls [] := by
  unfold lb_X5_undo_34 at e
  refine ax_iload_n B dX5_undo_34 rfl hl 2 rfl ?_
  refine ax_bipush B dX5_undo_35 (by decide) ?_
  refine ax_icmp_ge (tgt := 60) B dX5_undo_37 (by decide) e (fun e => ?_) (fun e => ?_)
  · refine ax_aload_n B dX5_undo_40 rfl hl 0 rfl ?_
    refine ax_getR B ff_X5_24_5 (fun _ _ => rfl) dX5_undo_41 e (fun v1 e => ?_)
    refine ax_iload_n B dX5_undo_44 rfl hl 2 rfl ?_
    refine ax_aload_n B dX5_undo_45 rfl hl 0 rfl ?_
    refine ax_getR B ff_X5_65_5 (fun _ _ => rfl) dX5_undo_46 e (fun v2 e => ?_)
    refine ax_iload_n B dX5_undo_49 rfl hl 1 rfl ?_
    refine ax_iload_n B dX5_undo_50 rfl hl 2 rfl ?_
    refine ax_iadd' B dX5_undo_51 ?_
    refine ax_iald B kd100 dX5_undo_52 e (fun v3 e => ?_)
    refine ax_iast B kd100 dX5_undo_53 e (fun h4 e => ?_)
    refine ax_iinc (L' := [(2, .inl (x2 + 1)), (0, .inr (.inr x0)), (1, .inl x1)]) B dX5_undo_54 hl 2 rfl (by decide) rfl (fun ls hl => ?_)
    refine ax_goto (tgt := 34) B dX5_undo_57 (by decide) ?_
    cases e
    exact hp _ (hl.sub [1, 2, 0] rfl)
  · obtain ⟨w, e9_1, rfl⟩ := Option.map_eq_some_iff.mp e
    have e := e9_1
    refine ax_aload_n B dX5_undo_60 rfl hl 0 rfl ?_
    refine ax_aload_n B dX5_undo_61 rfl hl 0 rfl ?_
    refine ax_getR B ff_X5_65_5 (fun _ _ => rfl) dX5_undo_62 e (fun v5 e => ?_)
    refine ax_iload_n B dX5_undo_65 rfl hl 1 rfl ?_
    refine ax_bipush B dX5_undo_66 (by decide) ?_
    refine ax_iadd' B dX5_undo_68 ?_
    refine ax_iald B kd100 dX5_undo_69 e (fun v6 e => ?_)
    refine ax_ivI (y := yX5_good) (n := 1) (As := [.int (Int32.ofInt v6)]) B kd5 (lw_V q2158 q2160 qs42 q133 q2161) (by decide +kernel) ⟨Nat.le_of_ble_eq_true rfl, Nat.le_of_ble_eq_true rfl⟩ (fun w1 e1 => mt_X5_good l G hSF x0 v6 _ w1 e1) rfl hl.size (by decide) dX5_undo_70 e (fun q7 e => ?_)
    have e8 := e
    have hp : Q = _ := hp
    subst hp
    exact ax_ireturn B Z dX5_undo_73 e8
theorem w_X5_undo_34 {l : Launch} {G : ax_G} {X : ax_X} {Q : State → Prop} {h0 h : ax_H} {ls : Array Slot} (hSF : ax_SF G) (B : ax_BL l G X cX5_undo 3 RX5 2 61) (Z : ax_Z X h0 ((some FieldType.int))) (hn : X.2.2.2.2.2.2.2.2.1.name = yX5_undo.name) (x0 : Option Nat) (x1 : Int) (x2 : Int) {w : Int × ax_H} (hl : ax_hl ls 3 [(0, .inr (.inr x0)), (1, .inl x1), (2, .inl x2)]) (e : f_X5_undo_34 G.2.2 x0 x1 x2 h = some w) (hp : (fun w : Int × ax_H => Q = ax_Q G X h0 w.2 (some (.int (Int32.ofInt w.1)))) w) : ax_W G X Q h 34 ls [] :=
  ax_iter_W (Pin := pi_X5_undo_34 G X Q x0 x1) (Pout := (fun w : Int × ax_H => Q = ax_Q G X h0 w.2 (some (.int (Int32.ofInt w.1))))) (fun s w e hp ls hl => wb_X5_undo_34 hSF B Z hn x0 x1 s.1 hl e hp) _ _ e hp ls hl
set_option maxHeartbeats 4000000 in
theorem we_X5_undo {l : Launch} {G : ax_G} {X : ax_X} {Q : State → Prop} {h0 h : ax_H} {ls : Array Slot} (hSF : ax_SF G) (B : ax_BL l G X cX5_undo 3 RX5 2 61) (Z : ax_Z X h0 ((some FieldType.int))) (hn : X.2.2.2.2.2.2.2.2.1.name = yX5_undo.name) (x0 : Option Nat) {w : Int × ax_H} (hl : ax_hl ls 3 [(0, .inr (.inr x0))]) (e : f_X5_undo G.2.2 x0 h = some w) (hp : (fun w : Int × ax_H => Q = ax_Q G X h0 w.2 (some (.int (Int32.ofInt w.1)))) w) : ax_W G X Q h 0 ls [] := by
  unfold f_X5_undo at e
  refine ax_aload_n B dX5_undo_0 rfl hl 0 rfl ?_
  refine ax_getI B ff_X5_11_5 (fun _ _ => rfl) dX5_undo_1 e (fun v1 e => ?_)
  refine ax_if_ne (tgt := 14) B dX5_undo_4 (by decide) e (fun e => ?_) (fun e => ?_)
  · refine ax_aload_n B dX5_undo_7 rfl hl 0 rfl ?_
    refine ax_bipush B dX5_undo_8 (by decide) ?_
    refine ax_ivI (y := yX5_refuses) (n := 1) (As := [.int (Int32.ofInt (-3))]) B kd5 (lw_V q2154 q2156 qs41 q133 q2157) (by decide +kernel) ⟨Nat.le_of_ble_eq_true rfl, Nat.le_of_ble_eq_true rfl⟩ (fun w1 e1 => mt_X5_refuses l G hSF x0 (-3) _ w1 e1) rfl hl.size (by decide) dX5_undo_10 e (fun q2 e => ?_)
    have e8 := e
    have hp : Q = _ := hp
    subst hp
    exact ax_ireturn B Z dX5_undo_13 e8
  · refine ax_aload_n B dX5_undo_14 rfl hl 0 rfl ?_
    refine ax_dup B dX5_undo_15 (va_rf_cat _) ?_
    refine ax_getI B ff_X5_11_5 (fun _ _ => rfl) dX5_undo_16 e (fun v3 e => ?_)
    refine ax_iconst B dX5_undo_19 ?_
    refine ax_isub' B dX5_undo_20 ?_
    refine ax_putI B ff_X5_11_5 (Or.inl rfl) rfl dX5_undo_21 e (fun h4 e => ?_)
    refine ax_bipush B dX5_undo_24 (by decide) ?_
    refine ax_aload_n B dX5_undo_26 rfl hl 0 rfl ?_
    refine ax_getI B ff_X5_11_5 (fun _ _ => rfl) dX5_undo_27 e (fun v5 e => ?_)
    refine ax_imul' B dX5_undo_30 ?_
    refine ax_istore_n (L' := [(1, .inl (74 * v5)), (0, .inr (.inr x0))]) B dX5_undo_31 rfl hl (by decide) rfl (fun ls hl => ?_)
    refine ax_iconst B dX5_undo_32 ?_
    refine ax_istore_n (L' := [(2, .inl 0), (1, .inl (74 * v5)), (0, .inr (.inr x0))]) B dX5_undo_33 rfl hl (by decide) rfl (fun ls hl => ?_)
    exact w_X5_undo_34 hSF B Z hn x0 (74 * v5) 0 (hl.sub [2, 1, 0] rfl) e hp
theorem mt_X5_undo (l : Launch) (G : ax_G) (hSF : ax_SF G) (x0 : Option Nat) (h : ax_H) (w : Int × ax_H) (e : f_X5_undo G.2.2 x0 h = some w) : ax_Met l G yX5_undo cX5_undo 3 ((some FieldType.int)) 2 61 [va_rf x0] h w.2 (some (.int (Int32.ofInt w.1))) :=
  ax_enter [.inr (.inr x0)] (y := yX5_undo) hSF (plainFor_of_name (by decide +kernel)) (Nat.le_of_ble_eq_true rfl) (fun X ls B Z hn hl => we_X5_undo hSF B Z hn x0 hl e rfl)
def dkwX5_canLend_1 : List UInt8 := [46, 29, 96, 17, 39, 15, 163, 0, 7, 4, 167, 0, 4, 3, 172]
abbrev dktX5_canLend_1 : List UInt8 := dkwX5_canLend_1 ++ []
def dkwX5_canLend_0 : List UInt8 := [27, 28, 159, 0, 35, 42, 180, 0, 24, 3, 27, 96, 46, 29, 161, 0, 23, 42, 180, 0, 24, 3, 28, 96]
abbrev dktX5_canLend_0 : List UInt8 := dkwX5_canLend_0 ++ dktX5_canLend_1
theorem dksX5_canLend_0 : cX5_canLend.data.toList.drop 0 = dktX5_canLend_0 := by decide +kernel
theorem dksX5_canLend_1 : cX5_canLend.data.toList.drop 24 = dktX5_canLend_1 := dk_seg dksX5_canLend_0 24 rfl rfl
theorem dX5_canLend_0 : decode cX5_canLend 0 = .ok (.iload_n 1, 1) := dk_27 (dk_at dksX5_canLend_0 0 rfl rfl)
theorem dX5_canLend_1 : decode cX5_canLend 1 = .ok (.iload_n 2, 1) := dk_28 (dk_at dksX5_canLend_0 1 rfl rfl)
theorem dX5_canLend_2 : decode cX5_canLend 2 = .ok (.if_icmp .eq 35, 3) := dk_159 0 35 (dk_at dksX5_canLend_0 2 rfl rfl)
theorem dX5_canLend_5 : decode cX5_canLend 5 = .ok (.aload_n 0, 1) := dk_42 (dk_at dksX5_canLend_0 5 rfl rfl)
theorem dX5_canLend_6 : decode cX5_canLend 6 = .ok (.getfield 24, 3) := dk_180 0 24 (dk_at dksX5_canLend_0 6 rfl rfl)
theorem dX5_canLend_9 : decode cX5_canLend 9 = .ok (.iconst 0, 1) := dk_3 (dk_at dksX5_canLend_0 9 rfl rfl)
theorem dX5_canLend_10 : decode cX5_canLend 10 = .ok (.iload_n 1, 1) := dk_27 (dk_at dksX5_canLend_0 10 rfl rfl)
theorem dX5_canLend_11 : decode cX5_canLend 11 = .ok (.iadd, 1) := dk_96 (dk_at dksX5_canLend_0 11 rfl rfl)
theorem dX5_canLend_12 : decode cX5_canLend 12 = .ok (.iaload, 1) := dk_46 (dk_at dksX5_canLend_0 12 rfl rfl)
theorem dX5_canLend_13 : decode cX5_canLend 13 = .ok (.iload_n 3, 1) := dk_29 (dk_at dksX5_canLend_0 13 rfl rfl)
theorem dX5_canLend_14 : decode cX5_canLend 14 = .ok (.if_icmp .lt 23, 3) := dk_161 0 23 (dk_at dksX5_canLend_0 14 rfl rfl)
theorem dX5_canLend_17 : decode cX5_canLend 17 = .ok (.aload_n 0, 1) := dk_42 (dk_at dksX5_canLend_0 17 rfl rfl)
theorem dX5_canLend_18 : decode cX5_canLend 18 = .ok (.getfield 24, 3) := dk_180 0 24 (dk_at dksX5_canLend_0 18 rfl rfl)
theorem dX5_canLend_21 : decode cX5_canLend 21 = .ok (.iconst 0, 1) := dk_3 (dk_at dksX5_canLend_0 21 rfl rfl)
theorem dX5_canLend_22 : decode cX5_canLend 22 = .ok (.iload_n 2, 1) := dk_28 (dk_at dksX5_canLend_0 22 rfl rfl)
theorem dX5_canLend_23 : decode cX5_canLend 23 = .ok (.iadd, 1) := dk_96 (dk_at dksX5_canLend_0 23 rfl rfl)
theorem dX5_canLend_24 : decode cX5_canLend 24 = .ok (.iaload, 1) := dk_46 (dk_at dksX5_canLend_1 0 rfl rfl)
theorem dX5_canLend_25 : decode cX5_canLend 25 = .ok (.iload_n 3, 1) := dk_29 (dk_at dksX5_canLend_1 1 rfl rfl)
theorem dX5_canLend_26 : decode cX5_canLend 26 = .ok (.iadd, 1) := dk_96 (dk_at dksX5_canLend_1 2 rfl rfl)
theorem dX5_canLend_27 : decode cX5_canLend 27 = .ok (.sipush 9999, 3) := dk_17 39 15 (dk_at dksX5_canLend_1 3 rfl rfl)
theorem dX5_canLend_30 : decode cX5_canLend 30 = .ok (.if_icmp .gt 7, 3) := dk_163 0 7 (dk_at dksX5_canLend_1 6 rfl rfl)
theorem dX5_canLend_33 : decode cX5_canLend 33 = .ok (.iconst 1, 1) := dk_4 (dk_at dksX5_canLend_1 9 rfl rfl)
theorem dX5_canLend_34 : decode cX5_canLend 34 = .ok (.goto 4, 3) := dk_167 0 4 (dk_at dksX5_canLend_1 10 rfl rfl)
theorem dX5_canLend_37 : decode cX5_canLend 37 = .ok (.iconst 0, 1) := dk_3 (dk_at dksX5_canLend_1 13 rfl rfl)
theorem dX5_canLend_38 : decode cX5_canLend 38 = .ok (.ireturn, 1) := dk_172 (dk_at dksX5_canLend_1 14 rfl rfl)
noncomputable def f_X5_canLend_37 (E : ax_E) (h : ax_H) : Option (Int × ax_H) :=
  some (0, h)
noncomputable def f_X5_canLend (E : ax_E) (x0 : Option Nat) (x1 : Int) (x2 : Int) (x3 : Int) (h : ax_H) : Option (Int × ax_H) :=
  if i2 x1 = i2 x2 then
    f_X5_canLend_37 E h
  else
    (ax_gR E h x0 5 2).bind fun v1 =>
    (ax_ld E h v1 100 (0 + x1)).bind fun v2 =>
    if i2 v2 < i2 x3 then
      f_X5_canLend_37 E h
    else
      (ax_gR E h x0 5 2).bind fun v3 =>
      (ax_ld E h v3 100 (0 + x2)).bind fun v4 =>
      if i2 9999 < i2 (v4 + x3) then
        f_X5_canLend_37 E h
      else
        some (1, h)
set_option maxHeartbeats 4000000 in
theorem w_X5_canLend_37 {l : Launch} {G : ax_G} {X : ax_X} {Q : State → Prop} {h0 h : ax_H} {ls : Array Slot} (hSF : ax_SF G) (B : ax_BL l G X cX5_canLend 4 RX5 1 40) (Z : ax_Z X h0 ((some FieldType.boolean))) (hn : X.2.2.2.2.2.2.2.2.1.name = yX5_canLend.name) {w : Int × ax_H} (hl : ax_hl ls 4 []) (e : f_X5_canLend_37 G.2.2 h = some w) (hp : (fun w : Int × ax_H => Q = ax_Q G X h0 w.2 (some (.int (Int32.ofInt w.1)))) w) : ax_W G X Q h 37 ls [] := by
  unfold f_X5_canLend_37 at e
  refine ax_iconst B dX5_canLend_37 ?_
  have e8 := e
  have hp : Q = _ := hp
  subst hp
  exact ax_zreturnL (by decide) B Z dX5_canLend_38 e8
set_option maxHeartbeats 4000000 in
theorem we_X5_canLend {l : Launch} {G : ax_G} {X : ax_X} {Q : State → Prop} {h0 h : ax_H} {ls : Array Slot} (hSF : ax_SF G) (B : ax_BL l G X cX5_canLend 4 RX5 1 40) (Z : ax_Z X h0 ((some FieldType.boolean))) (hn : X.2.2.2.2.2.2.2.2.1.name = yX5_canLend.name) (x0 : Option Nat) (x1 : Int) (x2 : Int) (x3 : Int) {w : Int × ax_H} (hl : ax_hl ls 4 [(0, .inr (.inr x0)), (1, .inl x1), (2, .inl x2), (3, .inl x3)]) (e : f_X5_canLend G.2.2 x0 x1 x2 x3 h = some w) (hp : (fun w : Int × ax_H => Q = ax_Q G X h0 w.2 (some (.int (Int32.ofInt w.1)))) w) : ax_W G X Q h 0 ls [] := by
  unfold f_X5_canLend at e
  refine ax_iload_n B dX5_canLend_0 rfl hl 1 rfl ?_
  refine ax_iload_n B dX5_canLend_1 rfl hl 2 rfl ?_
  refine ax_icmp_eq (tgt := 37) B dX5_canLend_2 (by decide) e (fun e => ?_) (fun e => ?_)
  · exact w_X5_canLend_37 hSF B Z hn (hl.sub [] rfl) e hp
  · refine ax_aload_n B dX5_canLend_5 rfl hl 0 rfl ?_
    refine ax_getR B ff_X5_24_5 (fun _ _ => rfl) dX5_canLend_6 e (fun v1 e => ?_)
    refine ax_iconst B dX5_canLend_9 ?_
    refine ax_iload_n B dX5_canLend_10 rfl hl 1 rfl ?_
    refine ax_iadd' B dX5_canLend_11 ?_
    refine ax_iald B kd100 dX5_canLend_12 e (fun v2 e => ?_)
    refine ax_iload_n B dX5_canLend_13 rfl hl 3 rfl ?_
    refine ax_icmp_lt (tgt := 37) B dX5_canLend_14 (by decide) e (fun e => ?_) (fun e => ?_)
    · exact w_X5_canLend_37 hSF B Z hn (hl.sub [] rfl) e hp
    · refine ax_aload_n B dX5_canLend_17 rfl hl 0 rfl ?_
      refine ax_getR B ff_X5_24_5 (fun _ _ => rfl) dX5_canLend_18 e (fun v3 e => ?_)
      refine ax_iconst B dX5_canLend_21 ?_
      refine ax_iload_n B dX5_canLend_22 rfl hl 2 rfl ?_
      refine ax_iadd' B dX5_canLend_23 ?_
      refine ax_iald B kd100 dX5_canLend_24 e (fun v4 e => ?_)
      refine ax_iload_n B dX5_canLend_25 rfl hl 3 rfl ?_
      refine ax_iadd' B dX5_canLend_26 ?_
      refine ax_sipush B dX5_canLend_27 (by decide) ?_
      refine ax_icmp_gt (tgt := 37) B dX5_canLend_30 (by decide) e (fun e => ?_) (fun e => ?_)
      · exact w_X5_canLend_37 hSF B Z hn (hl.sub [] rfl) e hp
      · refine ax_iconst B dX5_canLend_33 ?_
        refine ax_goto (tgt := 38) B dX5_canLend_34 (by decide) ?_
        have e8 := e
        have hp : Q = _ := hp
        subst hp
        exact ax_zreturnL (by decide) B Z dX5_canLend_38 e8
theorem mt_X5_canLend (l : Launch) (G : ax_G) (hSF : ax_SF G) (x0 : Option Nat) (x1 : Int) (x2 : Int) (x3 : Int) (h : ax_H) (w : Int × ax_H) (e : f_X5_canLend G.2.2 x0 x1 x2 x3 h = some w) : ax_Met l G yX5_canLend cX5_canLend 4 ((some FieldType.boolean)) 1 40 [va_rf x0, .int (Int32.ofInt x1), .int (Int32.ofInt x2), .int (Int32.ofInt x3)] h w.2 (some (.int (Int32.ofInt w.1))) :=
  ax_enter [.inr (.inr x0), .inl x1, .inl x2, .inl x3] (y := yX5_canLend) hSF (plainFor_of_name (by decide +kernel)) (Nat.le_of_ble_eq_true rfl) (fun X ls B Z hn hl => we_X5_canLend hSF B Z hn x0 x1 x2 x3 hl e rfl)
def dkwX5_keeps_4 : List UInt8 := [16, 73, 96, 27, 79, 42, 89, 180, 0, 11, 4, 96, 181, 0, 11, 177]
abbrev dktX5_keeps_4 : List UInt8 := dkwX5_keeps_4 ++ []
def dkwX5_keeps_3 : List UInt8 := [96, 42, 180, 0, 24, 29, 46, 79, 132, 3, 1, 167, 255, 228, 42, 180, 0, 65, 28, 42, 180, 0, 11, 104]
abbrev dktX5_keeps_3 : List UInt8 := dkwX5_keeps_3 ++ dktX5_keeps_4
def dkwX5_keeps_2 : List UInt8 := [4, 100, 181, 0, 11, 3, 62, 29, 16, 73, 162, 0, 28, 42, 180, 0, 65, 28, 42, 180, 0, 11, 104, 29]
abbrev dktX5_keeps_2 : List UInt8 := dkwX5_keeps_2 ++ dktX5_keeps_3
def dkwX5_keeps_1 : List UInt8 := [180, 0, 65, 29, 42, 180, 0, 65, 29, 28, 96, 46, 79, 132, 3, 1, 167, 255, 231, 42, 89, 180, 0, 11]
abbrev dktX5_keeps_1 : List UInt8 := dkwX5_keeps_1 ++ dktX5_keeps_2
def dkwX5_keeps_0 : List UInt8 := [16, 74, 61, 42, 180, 0, 11, 16, 16, 160, 0, 43, 3, 62, 29, 16, 15, 28, 104, 162, 0, 23, 42]
abbrev dktX5_keeps_0 : List UInt8 := dkwX5_keeps_0 ++ dktX5_keeps_1
theorem dksX5_keeps_0 : cX5_keeps.data.toList.drop 0 = dktX5_keeps_0 := by decide +kernel
theorem dksX5_keeps_1 : cX5_keeps.data.toList.drop 23 = dktX5_keeps_1 := dk_seg dksX5_keeps_0 23 rfl rfl
theorem dksX5_keeps_2 : cX5_keeps.data.toList.drop 47 = dktX5_keeps_2 := dk_seg dksX5_keeps_1 24 rfl rfl
theorem dksX5_keeps_3 : cX5_keeps.data.toList.drop 71 = dktX5_keeps_3 := dk_seg dksX5_keeps_2 24 rfl rfl
theorem dksX5_keeps_4 : cX5_keeps.data.toList.drop 95 = dktX5_keeps_4 := dk_seg dksX5_keeps_3 24 rfl rfl
theorem dX5_keeps_0 : decode cX5_keeps 0 = .ok (.bipush 74, 2) := dk_16 74 (dk_at dksX5_keeps_0 0 rfl rfl)
theorem dX5_keeps_2 : decode cX5_keeps 2 = .ok (.istore_n 2, 1) := dk_61 (dk_at dksX5_keeps_0 2 rfl rfl)
theorem dX5_keeps_3 : decode cX5_keeps 3 = .ok (.aload_n 0, 1) := dk_42 (dk_at dksX5_keeps_0 3 rfl rfl)
theorem dX5_keeps_4 : decode cX5_keeps 4 = .ok (.getfield 11, 3) := dk_180 0 11 (dk_at dksX5_keeps_0 4 rfl rfl)
theorem dX5_keeps_7 : decode cX5_keeps 7 = .ok (.bipush 16, 2) := dk_16 16 (dk_at dksX5_keeps_0 7 rfl rfl)
theorem dX5_keeps_9 : decode cX5_keeps 9 = .ok (.if_icmp .ne 43, 3) := dk_160 0 43 (dk_at dksX5_keeps_0 9 rfl rfl)
theorem dX5_keeps_12 : decode cX5_keeps 12 = .ok (.iconst 0, 1) := dk_3 (dk_at dksX5_keeps_0 12 rfl rfl)
theorem dX5_keeps_13 : decode cX5_keeps 13 = .ok (.istore_n 3, 1) := dk_62 (dk_at dksX5_keeps_0 13 rfl rfl)
theorem dX5_keeps_14 : decode cX5_keeps 14 = .ok (.iload_n 3, 1) := dk_29 (dk_at dksX5_keeps_0 14 rfl rfl)
theorem dX5_keeps_15 : decode cX5_keeps 15 = .ok (.bipush 15, 2) := dk_16 15 (dk_at dksX5_keeps_0 15 rfl rfl)
theorem dX5_keeps_17 : decode cX5_keeps 17 = .ok (.iload_n 2, 1) := dk_28 (dk_at dksX5_keeps_0 17 rfl rfl)
theorem dX5_keeps_18 : decode cX5_keeps 18 = .ok (.imul, 1) := dk_104 (dk_at dksX5_keeps_0 18 rfl rfl)
theorem dX5_keeps_19 : decode cX5_keeps 19 = .ok (.if_icmp .ge 23, 3) := dk_162 0 23 (dk_at dksX5_keeps_0 19 rfl rfl)
theorem dX5_keeps_22 : decode cX5_keeps 22 = .ok (.aload_n 0, 1) := dk_42 (dk_at dksX5_keeps_0 22 rfl rfl)
theorem dX5_keeps_23 : decode cX5_keeps 23 = .ok (.getfield 65, 3) := dk_180 0 65 (dk_at dksX5_keeps_1 0 rfl rfl)
theorem dX5_keeps_26 : decode cX5_keeps 26 = .ok (.iload_n 3, 1) := dk_29 (dk_at dksX5_keeps_1 3 rfl rfl)
theorem dX5_keeps_27 : decode cX5_keeps 27 = .ok (.aload_n 0, 1) := dk_42 (dk_at dksX5_keeps_1 4 rfl rfl)
theorem dX5_keeps_28 : decode cX5_keeps 28 = .ok (.getfield 65, 3) := dk_180 0 65 (dk_at dksX5_keeps_1 5 rfl rfl)
theorem dX5_keeps_31 : decode cX5_keeps 31 = .ok (.iload_n 3, 1) := dk_29 (dk_at dksX5_keeps_1 8 rfl rfl)
theorem dX5_keeps_32 : decode cX5_keeps 32 = .ok (.iload_n 2, 1) := dk_28 (dk_at dksX5_keeps_1 9 rfl rfl)
theorem dX5_keeps_33 : decode cX5_keeps 33 = .ok (.iadd, 1) := dk_96 (dk_at dksX5_keeps_1 10 rfl rfl)
theorem dX5_keeps_34 : decode cX5_keeps 34 = .ok (.iaload, 1) := dk_46 (dk_at dksX5_keeps_1 11 rfl rfl)
theorem dX5_keeps_35 : decode cX5_keeps 35 = .ok (.iastore, 1) := dk_79 (dk_at dksX5_keeps_1 12 rfl rfl)
theorem dX5_keeps_36 : decode cX5_keeps 36 = .ok (.iinc 3 1, 3) := dk_132 3 1 (dk_at dksX5_keeps_1 13 rfl rfl)
theorem dX5_keeps_39 : decode cX5_keeps 39 = .ok (.goto (-25), 3) := dk_167 255 231 (dk_at dksX5_keeps_1 16 rfl rfl)
theorem dX5_keeps_42 : decode cX5_keeps 42 = .ok (.aload_n 0, 1) := dk_42 (dk_at dksX5_keeps_1 19 rfl rfl)
theorem dX5_keeps_43 : decode cX5_keeps 43 = .ok (.dup, 1) := dk_89 (dk_at dksX5_keeps_1 20 rfl rfl)
theorem dX5_keeps_44 : decode cX5_keeps 44 = .ok (.getfield 11, 3) := dk_180 0 11 (dk_at dksX5_keeps_1 21 rfl rfl)
theorem dX5_keeps_47 : decode cX5_keeps 47 = .ok (.iconst 1, 1) := dk_4 (dk_at dksX5_keeps_2 0 rfl rfl)
theorem dX5_keeps_48 : decode cX5_keeps 48 = .ok (.isub, 1) := dk_100 (dk_at dksX5_keeps_2 1 rfl rfl)
theorem dX5_keeps_49 : decode cX5_keeps 49 = .ok (.putfield 11, 3) := dk_181 0 11 (dk_at dksX5_keeps_2 2 rfl rfl)
theorem dX5_keeps_52 : decode cX5_keeps 52 = .ok (.iconst 0, 1) := dk_3 (dk_at dksX5_keeps_2 5 rfl rfl)
theorem dX5_keeps_53 : decode cX5_keeps 53 = .ok (.istore_n 3, 1) := dk_62 (dk_at dksX5_keeps_2 6 rfl rfl)
theorem dX5_keeps_54 : decode cX5_keeps 54 = .ok (.iload_n 3, 1) := dk_29 (dk_at dksX5_keeps_2 7 rfl rfl)
theorem dX5_keeps_55 : decode cX5_keeps 55 = .ok (.bipush 73, 2) := dk_16 73 (dk_at dksX5_keeps_2 8 rfl rfl)
theorem dX5_keeps_57 : decode cX5_keeps 57 = .ok (.if_icmp .ge 28, 3) := dk_162 0 28 (dk_at dksX5_keeps_2 10 rfl rfl)
theorem dX5_keeps_60 : decode cX5_keeps 60 = .ok (.aload_n 0, 1) := dk_42 (dk_at dksX5_keeps_2 13 rfl rfl)
theorem dX5_keeps_61 : decode cX5_keeps 61 = .ok (.getfield 65, 3) := dk_180 0 65 (dk_at dksX5_keeps_2 14 rfl rfl)
theorem dX5_keeps_64 : decode cX5_keeps 64 = .ok (.iload_n 2, 1) := dk_28 (dk_at dksX5_keeps_2 17 rfl rfl)
theorem dX5_keeps_65 : decode cX5_keeps 65 = .ok (.aload_n 0, 1) := dk_42 (dk_at dksX5_keeps_2 18 rfl rfl)
theorem dX5_keeps_66 : decode cX5_keeps 66 = .ok (.getfield 11, 3) := dk_180 0 11 (dk_at dksX5_keeps_2 19 rfl rfl)
theorem dX5_keeps_69 : decode cX5_keeps 69 = .ok (.imul, 1) := dk_104 (dk_at dksX5_keeps_2 22 rfl rfl)
theorem dX5_keeps_70 : decode cX5_keeps 70 = .ok (.iload_n 3, 1) := dk_29 (dk_at dksX5_keeps_2 23 rfl rfl)
theorem dX5_keeps_71 : decode cX5_keeps 71 = .ok (.iadd, 1) := dk_96 (dk_at dksX5_keeps_3 0 rfl rfl)
theorem dX5_keeps_72 : decode cX5_keeps 72 = .ok (.aload_n 0, 1) := dk_42 (dk_at dksX5_keeps_3 1 rfl rfl)
theorem dX5_keeps_73 : decode cX5_keeps 73 = .ok (.getfield 24, 3) := dk_180 0 24 (dk_at dksX5_keeps_3 2 rfl rfl)
theorem dX5_keeps_76 : decode cX5_keeps 76 = .ok (.iload_n 3, 1) := dk_29 (dk_at dksX5_keeps_3 5 rfl rfl)
theorem dX5_keeps_77 : decode cX5_keeps 77 = .ok (.iaload, 1) := dk_46 (dk_at dksX5_keeps_3 6 rfl rfl)
theorem dX5_keeps_78 : decode cX5_keeps 78 = .ok (.iastore, 1) := dk_79 (dk_at dksX5_keeps_3 7 rfl rfl)
theorem dX5_keeps_79 : decode cX5_keeps 79 = .ok (.iinc 3 1, 3) := dk_132 3 1 (dk_at dksX5_keeps_3 8 rfl rfl)
theorem dX5_keeps_82 : decode cX5_keeps 82 = .ok (.goto (-28), 3) := dk_167 255 228 (dk_at dksX5_keeps_3 11 rfl rfl)
theorem dX5_keeps_85 : decode cX5_keeps 85 = .ok (.aload_n 0, 1) := dk_42 (dk_at dksX5_keeps_3 14 rfl rfl)
theorem dX5_keeps_86 : decode cX5_keeps 86 = .ok (.getfield 65, 3) := dk_180 0 65 (dk_at dksX5_keeps_3 15 rfl rfl)
theorem dX5_keeps_89 : decode cX5_keeps 89 = .ok (.iload_n 2, 1) := dk_28 (dk_at dksX5_keeps_3 18 rfl rfl)
theorem dX5_keeps_90 : decode cX5_keeps 90 = .ok (.aload_n 0, 1) := dk_42 (dk_at dksX5_keeps_3 19 rfl rfl)
theorem dX5_keeps_91 : decode cX5_keeps 91 = .ok (.getfield 11, 3) := dk_180 0 11 (dk_at dksX5_keeps_3 20 rfl rfl)
theorem dX5_keeps_94 : decode cX5_keeps 94 = .ok (.imul, 1) := dk_104 (dk_at dksX5_keeps_3 23 rfl rfl)
theorem dX5_keeps_95 : decode cX5_keeps 95 = .ok (.bipush 73, 2) := dk_16 73 (dk_at dksX5_keeps_4 0 rfl rfl)
theorem dX5_keeps_97 : decode cX5_keeps 97 = .ok (.iadd, 1) := dk_96 (dk_at dksX5_keeps_4 2 rfl rfl)
theorem dX5_keeps_98 : decode cX5_keeps 98 = .ok (.iload_n 1, 1) := dk_27 (dk_at dksX5_keeps_4 3 rfl rfl)
theorem dX5_keeps_99 : decode cX5_keeps 99 = .ok (.iastore, 1) := dk_79 (dk_at dksX5_keeps_4 4 rfl rfl)
theorem dX5_keeps_100 : decode cX5_keeps 100 = .ok (.aload_n 0, 1) := dk_42 (dk_at dksX5_keeps_4 5 rfl rfl)
theorem dX5_keeps_101 : decode cX5_keeps 101 = .ok (.dup, 1) := dk_89 (dk_at dksX5_keeps_4 6 rfl rfl)
theorem dX5_keeps_102 : decode cX5_keeps 102 = .ok (.getfield 11, 3) := dk_180 0 11 (dk_at dksX5_keeps_4 7 rfl rfl)
theorem dX5_keeps_105 : decode cX5_keeps 105 = .ok (.iconst 1, 1) := dk_4 (dk_at dksX5_keeps_4 10 rfl rfl)
theorem dX5_keeps_106 : decode cX5_keeps 106 = .ok (.iadd, 1) := dk_96 (dk_at dksX5_keeps_4 11 rfl rfl)
theorem dX5_keeps_107 : decode cX5_keeps 107 = .ok (.putfield 11, 3) := dk_181 0 11 (dk_at dksX5_keeps_4 12 rfl rfl)
theorem dX5_keeps_110 : decode cX5_keeps 110 = .ok (.return_, 1) := dk_177 (dk_at dksX5_keeps_4 15 rfl rfl)
noncomputable def lb_X5_keeps_54 (E : ax_E) (x0 : Option Nat) (x1 : Int) (x2 : Int) (x3 : Int) (h : ax_H) : Option ((Int × ax_H) ⊕ (ax_H)) :=
  if i2 x3 < i2 73 then
    (ax_gR E h x0 5 26).bind fun v1 =>
    (ax_gI E h x0 5 28).bind fun v2 =>
    (ax_gR E h x0 5 2).bind fun v3 =>
    (ax_ld E h v3 100 x3).bind fun v4 =>
    (ax_sto h v1 100 ((x2 * v2) + x3) v4).bind fun h5 =>
    some (.inl ((x3 + 1), h5))
  else
    ((ax_gR E h x0 5 26).bind fun v6 =>
    (ax_gI E h x0 5 28).bind fun v7 =>
    (ax_sto h v6 100 ((x2 * v7) + 73) x1).bind fun h8 =>
    (ax_gI E h8 x0 5 28).bind fun v9 =>
    (ax_pI h8 x0 5 28 (v9 + 1)).bind fun h10 =>
    some h10).map Sum.inr
noncomputable def f_X5_keeps_54 (E : ax_E) (x0 : Option Nat) (x1 : Int) (x2 : Int) (x3 : Int) (h : ax_H) : Option (ax_H) :=
  ax_iter (fun s : Int × ax_H => lb_X5_keeps_54 E x0 x1 x2 s.1 s.2) (x3, h)
noncomputable def f_X5_keeps_52 (E : ax_E) (x0 : Option Nat) (x1 : Int) (x2 : Int) (h : ax_H) : Option (ax_H) :=
  f_X5_keeps_54 E x0 x1 x2 0 h
noncomputable def lb_X5_keeps_14 (E : ax_E) (x0 : Option Nat) (x1 : Int) (x2 : Int) (x3 : Int) (h : ax_H) : Option ((Int × ax_H) ⊕ (ax_H)) :=
  if i2 x3 < i2 (15 * x2) then
    (ax_gR E h x0 5 26).bind fun v1 =>
    (ax_gR E h x0 5 26).bind fun v2 =>
    (ax_ld E h v2 100 (x3 + x2)).bind fun v3 =>
    (ax_sto h v1 100 x3 v3).bind fun h4 =>
    some (.inl ((x3 + 1), h4))
  else
    ((ax_gI E h x0 5 28).bind fun v5 =>
    (ax_pI h x0 5 28 (v5 - 1)).bind fun h6 =>
    f_X5_keeps_52 E x0 x1 x2 h6).map Sum.inr
noncomputable def f_X5_keeps_14 (E : ax_E) (x0 : Option Nat) (x1 : Int) (x2 : Int) (x3 : Int) (h : ax_H) : Option (ax_H) :=
  ax_iter (fun s : Int × ax_H => lb_X5_keeps_14 E x0 x1 x2 s.1 s.2) (x3, h)
noncomputable def f_X5_keeps (E : ax_E) (x0 : Option Nat) (x1 : Int) (h : ax_H) : Option (ax_H) :=
  (ax_gI E h x0 5 28).bind fun v1 =>
  if i2 v1 = i2 16 then
    f_X5_keeps_14 E x0 x1 74 0 h
  else
    f_X5_keeps_52 E x0 x1 74 h
def pi_X5_keeps_54 (G : ax_G) (X : ax_X) (Q : State → Prop) (x0 : Option Nat) (x1 : Int) (x2 : Int) : Int × ax_H → Prop := fun s => ∀ ls : Array Slot, ax_hl ls 4 [(0, .inr (.inr x0)), (1, .inl x1), (2, .inl x2), (3, .inl s.1)] → ax_W G X Q s.2 54 ls []
def pi_X5_keeps_14 (G : ax_G) (X : ax_X) (Q : State → Prop) (x0 : Option Nat) (x1 : Int) (x2 : Int) : Int × ax_H → Prop := fun s => ∀ ls : Array Slot, ax_hl ls 4 [(0, .inr (.inr x0)), (1, .inl x1), (2, .inl x2), (3, .inl s.1)] → ax_W G X Q s.2 14 ls []
set_option maxHeartbeats 4000000 in
theorem wb_X5_keeps_54 {l : Launch} {G : ax_G} {X : ax_X} {Q : State → Prop} {h0 h : ax_H} {ls : Array Slot} (hSF : ax_SF G) (B : ax_BL l G X cX5_keeps 4 RX5 1 40) (Z : ax_Z X h0 none) (hn : X.2.2.2.2.2.2.2.2.1.name = yX5_keeps.name) (x0 : Option Nat) (x1 : Int) (x2 : Int) (x3 : Int) {w : (Int × ax_H) ⊕ (ax_H)} (hl : ax_hl ls 4 [(0, .inr (.inr x0)), (1, .inl x1), (2, .inl x2), (3, .inl x3)]) (e : lb_X5_keeps_54 G.2.2 x0 x1 x2 x3 h = some w) (hp : (ax_PL (pi_X5_keeps_54 G X Q x0 x1 x2) (fun w : ax_H => Q = ax_Q G X h0 w none)) w) : ax_W G X Q h 54 ls [] := by
  unfold lb_X5_keeps_54 at e
  refine ax_iload_n B dX5_keeps_54 rfl hl 3 rfl ?_
  refine ax_bipush B dX5_keeps_55 (by decide) ?_
  refine ax_icmp_ge (tgt := 85) B dX5_keeps_57 (by decide) e (fun e => ?_) (fun e => ?_)
  · refine ax_aload_n B dX5_keeps_60 rfl hl 0 rfl ?_
    refine ax_getR B ff_X5_65_5 (fun _ _ => rfl) dX5_keeps_61 e (fun v1 e => ?_)
    refine ax_iload_n B dX5_keeps_64 rfl hl 2 rfl ?_
    refine ax_aload_n B dX5_keeps_65 rfl hl 0 rfl ?_
    refine ax_getI B ff_X5_11_5 (fun _ _ => rfl) dX5_keeps_66 e (fun v2 e => ?_)
    refine ax_imul' B dX5_keeps_69 ?_
    refine ax_iload_n B dX5_keeps_70 rfl hl 3 rfl ?_
    refine ax_iadd' B dX5_keeps_71 ?_
    refine ax_aload_n B dX5_keeps_72 rfl hl 0 rfl ?_
    refine ax_getR B ff_X5_24_5 (fun _ _ => rfl) dX5_keeps_73 e (fun v3 e => ?_)
    refine ax_iload_n B dX5_keeps_76 rfl hl 3 rfl ?_
    refine ax_iald B kd100 dX5_keeps_77 e (fun v4 e => ?_)
    refine ax_iast B kd100 dX5_keeps_78 e (fun h5 e => ?_)
    refine ax_iinc (L' := [(3, .inl (x3 + 1)), (0, .inr (.inr x0)), (1, .inl x1), (2, .inl x2)]) B dX5_keeps_79 hl 3 rfl (by decide) rfl (fun ls hl => ?_)
    refine ax_goto (tgt := 54) B dX5_keeps_82 (by decide) ?_
    cases e
    exact hp _ (hl.sub [1, 2, 3, 0] rfl)
  · obtain ⟨w, e9_1, rfl⟩ := Option.map_eq_some_iff.mp e
    have e := e9_1
    refine ax_aload_n B dX5_keeps_85 rfl hl 0 rfl ?_
    refine ax_getR B ff_X5_65_5 (fun _ _ => rfl) dX5_keeps_86 e (fun v6 e => ?_)
    refine ax_iload_n B dX5_keeps_89 rfl hl 2 rfl ?_
    refine ax_aload_n B dX5_keeps_90 rfl hl 0 rfl ?_
    refine ax_getI B ff_X5_11_5 (fun _ _ => rfl) dX5_keeps_91 e (fun v7 e => ?_)
    refine ax_imul' B dX5_keeps_94 ?_
    refine ax_bipush B dX5_keeps_95 (by decide) ?_
    refine ax_iadd' B dX5_keeps_97 ?_
    refine ax_iload_n B dX5_keeps_98 rfl hl 1 rfl ?_
    refine ax_iast B kd100 dX5_keeps_99 e (fun h8 e => ?_)
    refine ax_aload_n B dX5_keeps_100 rfl hl 0 rfl ?_
    refine ax_dup B dX5_keeps_101 (va_rf_cat _) ?_
    refine ax_getI B ff_X5_11_5 (fun _ _ => rfl) dX5_keeps_102 e (fun v9 e => ?_)
    refine ax_iconst B dX5_keeps_105 ?_
    refine ax_iadd' B dX5_keeps_106 ?_
    refine ax_putI B ff_X5_11_5 (Or.inl rfl) rfl dX5_keeps_107 e (fun h10 e => ?_)
    have e8 := e
    have hp : Q = _ := hp
    subst hp
    exact ax_return B Z dX5_keeps_110 e8
theorem w_X5_keeps_54 {l : Launch} {G : ax_G} {X : ax_X} {Q : State → Prop} {h0 h : ax_H} {ls : Array Slot} (hSF : ax_SF G) (B : ax_BL l G X cX5_keeps 4 RX5 1 40) (Z : ax_Z X h0 none) (hn : X.2.2.2.2.2.2.2.2.1.name = yX5_keeps.name) (x0 : Option Nat) (x1 : Int) (x2 : Int) (x3 : Int) {w : ax_H} (hl : ax_hl ls 4 [(0, .inr (.inr x0)), (1, .inl x1), (2, .inl x2), (3, .inl x3)]) (e : f_X5_keeps_54 G.2.2 x0 x1 x2 x3 h = some w) (hp : (fun w : ax_H => Q = ax_Q G X h0 w none) w) : ax_W G X Q h 54 ls [] :=
  ax_iter_W (Pin := pi_X5_keeps_54 G X Q x0 x1 x2) (Pout := (fun w : ax_H => Q = ax_Q G X h0 w none)) (fun s w e hp ls hl => wb_X5_keeps_54 hSF B Z hn x0 x1 x2 s.1 hl e hp) _ _ e hp ls hl
set_option maxHeartbeats 4000000 in
theorem w_X5_keeps_52 {l : Launch} {G : ax_G} {X : ax_X} {Q : State → Prop} {h0 h : ax_H} {ls : Array Slot} (hSF : ax_SF G) (B : ax_BL l G X cX5_keeps 4 RX5 1 40) (Z : ax_Z X h0 none) (hn : X.2.2.2.2.2.2.2.2.1.name = yX5_keeps.name) (x0 : Option Nat) (x1 : Int) (x2 : Int) {w : ax_H} (hl : ax_hl ls 4 [(0, .inr (.inr x0)), (1, .inl x1), (2, .inl x2)]) (e : f_X5_keeps_52 G.2.2 x0 x1 x2 h = some w) (hp : (fun w : ax_H => Q = ax_Q G X h0 w none) w) : ax_W G X Q h 52 ls [] := by
  unfold f_X5_keeps_52 at e
  refine ax_iconst B dX5_keeps_52 ?_
  refine ax_istore_n (L' := [(3, .inl 0), (0, .inr (.inr x0)), (1, .inl x1), (2, .inl x2)]) B dX5_keeps_53 rfl hl (by decide) rfl (fun ls hl => ?_)
  exact w_X5_keeps_54 hSF B Z hn x0 x1 x2 0 (hl.sub [1, 2, 3, 0] rfl) e hp
set_option maxHeartbeats 4000000 in
theorem wb_X5_keeps_14 {l : Launch} {G : ax_G} {X : ax_X} {Q : State → Prop} {h0 h : ax_H} {ls : Array Slot} (hSF : ax_SF G) (B : ax_BL l G X cX5_keeps 4 RX5 1 40) (Z : ax_Z X h0 none) (hn : X.2.2.2.2.2.2.2.2.1.name = yX5_keeps.name) (x0 : Option Nat) (x1 : Int) (x2 : Int) (x3 : Int) {w : (Int × ax_H) ⊕ (ax_H)} (hl : ax_hl ls 4 [(0, .inr (.inr x0)), (1, .inl x1), (2, .inl x2), (3, .inl x3)]) (e : lb_X5_keeps_14 G.2.2 x0 x1 x2 x3 h = some w) (hp : (ax_PL (pi_X5_keeps_14 G X Q x0 x1 x2) (fun w : ax_H => Q = ax_Q G X h0 w none)) w) : ax_W G X Q h 14 ls [] := by
  unfold lb_X5_keeps_14 at e
  refine ax_iload_n B dX5_keeps_14 rfl hl 3 rfl ?_
  refine ax_bipush B dX5_keeps_15 (by decide) ?_
  refine ax_iload_n B dX5_keeps_17 rfl hl 2 rfl ?_
  refine ax_imul' B dX5_keeps_18 ?_
  refine ax_icmp_ge (tgt := 42) B dX5_keeps_19 (by decide) e (fun e => ?_) (fun e => ?_)
  · refine ax_aload_n B dX5_keeps_22 rfl hl 0 rfl ?_
    refine ax_getR B ff_X5_65_5 (fun _ _ => rfl) dX5_keeps_23 e (fun v1 e => ?_)
    refine ax_iload_n B dX5_keeps_26 rfl hl 3 rfl ?_
    refine ax_aload_n B dX5_keeps_27 rfl hl 0 rfl ?_
    refine ax_getR B ff_X5_65_5 (fun _ _ => rfl) dX5_keeps_28 e (fun v2 e => ?_)
    refine ax_iload_n B dX5_keeps_31 rfl hl 3 rfl ?_
    refine ax_iload_n B dX5_keeps_32 rfl hl 2 rfl ?_
    refine ax_iadd' B dX5_keeps_33 ?_
    refine ax_iald B kd100 dX5_keeps_34 e (fun v3 e => ?_)
    refine ax_iast B kd100 dX5_keeps_35 e (fun h4 e => ?_)
    refine ax_iinc (L' := [(3, .inl (x3 + 1)), (0, .inr (.inr x0)), (1, .inl x1), (2, .inl x2)]) B dX5_keeps_36 hl 3 rfl (by decide) rfl (fun ls hl => ?_)
    refine ax_goto (tgt := 14) B dX5_keeps_39 (by decide) ?_
    cases e
    exact hp _ (hl.sub [1, 2, 3, 0] rfl)
  · obtain ⟨w, e9_2, rfl⟩ := Option.map_eq_some_iff.mp e
    have e := e9_2
    refine ax_aload_n B dX5_keeps_42 rfl hl 0 rfl ?_
    refine ax_dup B dX5_keeps_43 (va_rf_cat _) ?_
    refine ax_getI B ff_X5_11_5 (fun _ _ => rfl) dX5_keeps_44 e (fun v5 e => ?_)
    refine ax_iconst B dX5_keeps_47 ?_
    refine ax_isub' B dX5_keeps_48 ?_
    refine ax_putI B ff_X5_11_5 (Or.inl rfl) rfl dX5_keeps_49 e (fun h6 e => ?_)
    exact w_X5_keeps_52 hSF B Z hn x0 x1 x2 (hl.sub [0, 1, 2] rfl) e hp
theorem w_X5_keeps_14 {l : Launch} {G : ax_G} {X : ax_X} {Q : State → Prop} {h0 h : ax_H} {ls : Array Slot} (hSF : ax_SF G) (B : ax_BL l G X cX5_keeps 4 RX5 1 40) (Z : ax_Z X h0 none) (hn : X.2.2.2.2.2.2.2.2.1.name = yX5_keeps.name) (x0 : Option Nat) (x1 : Int) (x2 : Int) (x3 : Int) {w : ax_H} (hl : ax_hl ls 4 [(0, .inr (.inr x0)), (1, .inl x1), (2, .inl x2), (3, .inl x3)]) (e : f_X5_keeps_14 G.2.2 x0 x1 x2 x3 h = some w) (hp : (fun w : ax_H => Q = ax_Q G X h0 w none) w) : ax_W G X Q h 14 ls [] :=
  ax_iter_W (Pin := pi_X5_keeps_14 G X Q x0 x1 x2) (Pout := (fun w : ax_H => Q = ax_Q G X h0 w none)) (fun s w e hp ls hl => wb_X5_keeps_14 hSF B Z hn x0 x1 x2 s.1 hl e hp) _ _ e hp ls hl
set_option maxHeartbeats 4000000 in
theorem we_X5_keeps {l : Launch} {G : ax_G} {X : ax_X} {Q : State → Prop} {h0 h : ax_H} {ls : Array Slot} (hSF : ax_SF G) (B : ax_BL l G X cX5_keeps 4 RX5 1 40) (Z : ax_Z X h0 none) (hn : X.2.2.2.2.2.2.2.2.1.name = yX5_keeps.name) (x0 : Option Nat) (x1 : Int) {w : ax_H} (hl : ax_hl ls 4 [(0, .inr (.inr x0)), (1, .inl x1)]) (e : f_X5_keeps G.2.2 x0 x1 h = some w) (hp : (fun w : ax_H => Q = ax_Q G X h0 w none) w) : ax_W G X Q h 0 ls [] := by
  unfold f_X5_keeps at e
  refine ax_bipush B dX5_keeps_0 (by decide) ?_
  refine ax_istore_n (L' := [(2, .inl 74), (0, .inr (.inr x0)), (1, .inl x1)]) B dX5_keeps_2 rfl hl (by decide) rfl (fun ls hl => ?_)
  refine ax_aload_n B dX5_keeps_3 rfl hl 1 rfl ?_
  refine ax_getI B ff_X5_11_5 (fun _ _ => rfl) dX5_keeps_4 e (fun v1 e => ?_)
  refine ax_bipush B dX5_keeps_7 (by decide) ?_
  refine ax_icmp_ne (tgt := 52) B dX5_keeps_9 (by decide) e (fun e => ?_) (fun e => ?_)
  · refine ax_iconst B dX5_keeps_12 ?_
    refine ax_istore_n (L' := [(3, .inl 0), (2, .inl 74), (0, .inr (.inr x0)), (1, .inl x1)]) B dX5_keeps_13 rfl hl (by decide) rfl (fun ls hl => ?_)
    exact w_X5_keeps_14 hSF B Z hn x0 x1 74 0 (hl.sub [2, 3, 1, 0] rfl) e hp
  · exact w_X5_keeps_52 hSF B Z hn x0 x1 74 (hl.sub [1, 2, 0] rfl) e hp
theorem mt_X5_keeps (l : Launch) (G : ax_G) (hSF : ax_SF G) (x0 : Option Nat) (x1 : Int) (h : ax_H) (w : ax_H) (e : f_X5_keeps G.2.2 x0 x1 h = some w) : ax_Met l G yX5_keeps cX5_keeps 4 none 1 40 [va_rf x0, .int (Int32.ofInt x1)] h w none :=
  ax_enter [.inr (.inr x0), .inl x1] (y := yX5_keeps) hSF (plainFor_of_name (by decide +kernel)) (Nat.le_of_ble_eq_true rfl) (fun X ls B Z hn hl => we_X5_keeps hSF B Z hn x0 x1 hl e rfl)
def dkwX5_lends_1 : List UInt8 := [42, 28, 27, 29, 182, 0, 162, 177]
abbrev dktX5_lends_1 : List UInt8 := dkwX5_lends_1 ++ []
def dkwX5_lends_0 : List UInt8 := [42, 180, 0, 24, 3, 27, 96, 92, 46, 29, 100, 79, 42, 180, 0, 24, 3, 28, 96, 92, 46, 29, 96, 79]
abbrev dktX5_lends_0 : List UInt8 := dkwX5_lends_0 ++ dktX5_lends_1
theorem dksX5_lends_0 : cX5_lends.data.toList.drop 0 = dktX5_lends_0 := by decide +kernel
theorem dksX5_lends_1 : cX5_lends.data.toList.drop 24 = dktX5_lends_1 := dk_seg dksX5_lends_0 24 rfl rfl
theorem dX5_lends_0 : decode cX5_lends 0 = .ok (.aload_n 0, 1) := dk_42 (dk_at dksX5_lends_0 0 rfl rfl)
theorem dX5_lends_1 : decode cX5_lends 1 = .ok (.getfield 24, 3) := dk_180 0 24 (dk_at dksX5_lends_0 1 rfl rfl)
theorem dX5_lends_4 : decode cX5_lends 4 = .ok (.iconst 0, 1) := dk_3 (dk_at dksX5_lends_0 4 rfl rfl)
theorem dX5_lends_5 : decode cX5_lends 5 = .ok (.iload_n 1, 1) := dk_27 (dk_at dksX5_lends_0 5 rfl rfl)
theorem dX5_lends_6 : decode cX5_lends 6 = .ok (.iadd, 1) := dk_96 (dk_at dksX5_lends_0 6 rfl rfl)
theorem dX5_lends_7 : decode cX5_lends 7 = .ok (.dup2, 1) := dk_92 (dk_at dksX5_lends_0 7 rfl rfl)
theorem dX5_lends_8 : decode cX5_lends 8 = .ok (.iaload, 1) := dk_46 (dk_at dksX5_lends_0 8 rfl rfl)
theorem dX5_lends_9 : decode cX5_lends 9 = .ok (.iload_n 3, 1) := dk_29 (dk_at dksX5_lends_0 9 rfl rfl)
theorem dX5_lends_10 : decode cX5_lends 10 = .ok (.isub, 1) := dk_100 (dk_at dksX5_lends_0 10 rfl rfl)
theorem dX5_lends_11 : decode cX5_lends 11 = .ok (.iastore, 1) := dk_79 (dk_at dksX5_lends_0 11 rfl rfl)
theorem dX5_lends_12 : decode cX5_lends 12 = .ok (.aload_n 0, 1) := dk_42 (dk_at dksX5_lends_0 12 rfl rfl)
theorem dX5_lends_13 : decode cX5_lends 13 = .ok (.getfield 24, 3) := dk_180 0 24 (dk_at dksX5_lends_0 13 rfl rfl)
theorem dX5_lends_16 : decode cX5_lends 16 = .ok (.iconst 0, 1) := dk_3 (dk_at dksX5_lends_0 16 rfl rfl)
theorem dX5_lends_17 : decode cX5_lends 17 = .ok (.iload_n 2, 1) := dk_28 (dk_at dksX5_lends_0 17 rfl rfl)
theorem dX5_lends_18 : decode cX5_lends 18 = .ok (.iadd, 1) := dk_96 (dk_at dksX5_lends_0 18 rfl rfl)
theorem dX5_lends_19 : decode cX5_lends 19 = .ok (.dup2, 1) := dk_92 (dk_at dksX5_lends_0 19 rfl rfl)
theorem dX5_lends_20 : decode cX5_lends 20 = .ok (.iaload, 1) := dk_46 (dk_at dksX5_lends_0 20 rfl rfl)
theorem dX5_lends_21 : decode cX5_lends 21 = .ok (.iload_n 3, 1) := dk_29 (dk_at dksX5_lends_0 21 rfl rfl)
theorem dX5_lends_22 : decode cX5_lends 22 = .ok (.iadd, 1) := dk_96 (dk_at dksX5_lends_0 22 rfl rfl)
theorem dX5_lends_23 : decode cX5_lends 23 = .ok (.iastore, 1) := dk_79 (dk_at dksX5_lends_0 23 rfl rfl)
theorem dX5_lends_24 : decode cX5_lends 24 = .ok (.aload_n 0, 1) := dk_42 (dk_at dksX5_lends_1 0 rfl rfl)
theorem dX5_lends_25 : decode cX5_lends 25 = .ok (.iload_n 2, 1) := dk_28 (dk_at dksX5_lends_1 1 rfl rfl)
theorem dX5_lends_26 : decode cX5_lends 26 = .ok (.iload_n 1, 1) := dk_27 (dk_at dksX5_lends_1 2 rfl rfl)
theorem dX5_lends_27 : decode cX5_lends 27 = .ok (.iload_n 3, 1) := dk_29 (dk_at dksX5_lends_1 3 rfl rfl)
theorem dX5_lends_28 : decode cX5_lends 28 = .ok (.invokevirtual 162, 3) := dk_182 0 162 (dk_at dksX5_lends_1 4 rfl rfl)
theorem dX5_lends_31 : decode cX5_lends 31 = .ok (.return_, 1) := dk_177 (dk_at dksX5_lends_1 7 rfl rfl)
noncomputable def f_X5_lends (E : ax_E) (x0 : Option Nat) (x1 : Int) (x2 : Int) (x3 : Int) (h : ax_H) : Option (ax_H) :=
  (ax_gR E h x0 5 2).bind fun v1 =>
  (ax_ld E h v1 100 (0 + x1)).bind fun v2 =>
  (ax_sto h v1 100 (0 + x1) (v2 - x3)).bind fun h3 =>
  (ax_gR E h3 x0 5 2).bind fun v4 =>
  (ax_ld E h3 v4 100 (0 + x2)).bind fun v5 =>
  (ax_sto h3 v4 100 (0 + x2) (v5 + x3)).bind fun h6 =>
  (ax_ce E h6 x0 5).bind fun _ => (f_X5_adds E x0 x2 x1 x3 h6).bind fun h7 =>
  some h7
set_option maxHeartbeats 4000000 in
theorem we_X5_lends {l : Launch} {G : ax_G} {X : ax_X} {Q : State → Prop} {h0 h : ax_H} {ls : Array Slot} (hSF : ax_SF G) (B : ax_BL l G X cX5_lends 4 RX5 3 84) (Z : ax_Z X h0 none) (hn : X.2.2.2.2.2.2.2.2.1.name = yX5_lends.name) (x0 : Option Nat) (x1 : Int) (x2 : Int) (x3 : Int) {w : ax_H} (hl : ax_hl ls 4 [(0, .inr (.inr x0)), (1, .inl x1), (2, .inl x2), (3, .inl x3)]) (e : f_X5_lends G.2.2 x0 x1 x2 x3 h = some w) (hp : (fun w : ax_H => Q = ax_Q G X h0 w none) w) : ax_W G X Q h 0 ls [] := by
  unfold f_X5_lends at e
  refine ax_aload_n B dX5_lends_0 rfl hl 0 rfl ?_
  refine ax_getR B ff_X5_24_5 (fun _ _ => rfl) dX5_lends_1 e (fun v1 e => ?_)
  refine ax_iconst B dX5_lends_4 ?_
  refine ax_iload_n B dX5_lends_5 rfl hl 1 rfl ?_
  refine ax_iadd' B dX5_lends_6 ?_
  refine ax_dup2 B dX5_lends_7 (rfl) (va_rf_cat _) ?_
  refine ax_iald B kd100 dX5_lends_8 e (fun v2 e => ?_)
  refine ax_iload_n B dX5_lends_9 rfl hl 3 rfl ?_
  refine ax_isub' B dX5_lends_10 ?_
  refine ax_iast B kd100 dX5_lends_11 e (fun h3 e => ?_)
  refine ax_aload_n B dX5_lends_12 rfl hl 0 rfl ?_
  refine ax_getR B ff_X5_24_5 (fun _ _ => rfl) dX5_lends_13 e (fun v4 e => ?_)
  refine ax_iconst B dX5_lends_16 ?_
  refine ax_iload_n B dX5_lends_17 rfl hl 2 rfl ?_
  refine ax_iadd' B dX5_lends_18 ?_
  refine ax_dup2 B dX5_lends_19 (rfl) (va_rf_cat _) ?_
  refine ax_iald B kd100 dX5_lends_20 e (fun v5 e => ?_)
  refine ax_iload_n B dX5_lends_21 rfl hl 3 rfl ?_
  refine ax_iadd' B dX5_lends_22 ?_
  refine ax_iast B kd100 dX5_lends_23 e (fun h6 e => ?_)
  refine ax_aload_n B dX5_lends_24 rfl hl 0 rfl ?_
  refine ax_iload_n B dX5_lends_25 rfl hl 2 rfl ?_
  refine ax_iload_n B dX5_lends_26 rfl hl 1 rfl ?_
  refine ax_iload_n B dX5_lends_27 rfl hl 3 rfl ?_
  refine ax_ivV (y := yX5_adds) (n := 3) (As := [.int (Int32.ofInt x2), .int (Int32.ofInt x1), .int (Int32.ofInt x3)]) B kd5 (lw_V q2214 q2216 qs48 q133 q2217) (by decide +kernel) ⟨Nat.le_of_ble_eq_true rfl, Nat.le_of_ble_eq_true rfl⟩ (fun w1 e1 => mt_X5_adds l G hSF x0 x2 x1 x3 _ w1 e1) rfl hl.size (by decide) dX5_lends_28 e (fun h7 e => ?_)
  have e8 := e
  have hp : Q = _ := hp
  subst hp
  exact ax_return B Z dX5_lends_31 e8
theorem mt_X5_lends (l : Launch) (G : ax_G) (hSF : ax_SF G) (x0 : Option Nat) (x1 : Int) (x2 : Int) (x3 : Int) (h : ax_H) (w : ax_H) (e : f_X5_lends G.2.2 x0 x1 x2 x3 h = some w) : ax_Met l G yX5_lends cX5_lends 4 none 3 84 [va_rf x0, .int (Int32.ofInt x1), .int (Int32.ofInt x2), .int (Int32.ofInt x3)] h w none :=
  ax_enter [.inr (.inr x0), .inl x1, .inl x2, .inl x3] (y := yX5_lends) hSF (plainFor_of_name (by decide +kernel)) (Nat.le_of_ble_eq_true rfl) (fun X ls B Z hn hl => we_X5_lends hSF B Z hn x0 x1 x2 x3 hl e rfl)
def dkwX5_lendsKept_2 : List UInt8 := [16, 16, 160, 0, 6, 16, 251, 172, 42, 3, 182, 1, 101, 42, 27, 28, 29, 182, 1, 104, 29, 172]
abbrev dktX5_lendsKept_2 : List UInt8 := dkwX5_lendsKept_2 ++ []
def dkwX5_lendsKept_1 : List UInt8 := [154, 0, 6, 16, 254, 172, 42, 27, 28, 29, 182, 1, 98, 154, 0, 6, 16, 253, 172, 42, 182, 0, 137]
abbrev dktX5_lendsKept_1 : List UInt8 := dkwX5_lendsKept_1 ++ dktX5_lendsKept_2
def dkwX5_lendsKept_0 : List UInt8 := [29, 184, 0, 155, 154, 0, 5, 2, 172, 42, 27, 182, 0, 152, 153, 0, 11, 42, 28, 182, 0, 152]
abbrev dktX5_lendsKept_0 : List UInt8 := dkwX5_lendsKept_0 ++ dktX5_lendsKept_1
theorem dksX5_lendsKept_0 : cX5_lendsKept.data.toList.drop 0 = dktX5_lendsKept_0 := by decide +kernel
theorem dksX5_lendsKept_1 : cX5_lendsKept.data.toList.drop 22 = dktX5_lendsKept_1 := dk_seg dksX5_lendsKept_0 22 rfl rfl
theorem dksX5_lendsKept_2 : cX5_lendsKept.data.toList.drop 45 = dktX5_lendsKept_2 := dk_seg dksX5_lendsKept_1 23 rfl rfl
theorem dX5_lendsKept_0 : decode cX5_lendsKept 0 = .ok (.iload_n 3, 1) := dk_29 (dk_at dksX5_lendsKept_0 0 rfl rfl)
theorem dX5_lendsKept_1 : decode cX5_lendsKept 1 = .ok (.invokestatic 155, 3) := dk_184 0 155 (dk_at dksX5_lendsKept_0 1 rfl rfl)
theorem dX5_lendsKept_4 : decode cX5_lendsKept 4 = .ok (.ifCond .ne 5, 3) := dk_154 0 5 (dk_at dksX5_lendsKept_0 4 rfl rfl)
theorem dX5_lendsKept_7 : decode cX5_lendsKept 7 = .ok (.iconst (-1), 1) := dk_2 (dk_at dksX5_lendsKept_0 7 rfl rfl)
theorem dX5_lendsKept_8 : decode cX5_lendsKept 8 = .ok (.ireturn, 1) := dk_172 (dk_at dksX5_lendsKept_0 8 rfl rfl)
theorem dX5_lendsKept_9 : decode cX5_lendsKept 9 = .ok (.aload_n 0, 1) := dk_42 (dk_at dksX5_lendsKept_0 9 rfl rfl)
theorem dX5_lendsKept_10 : decode cX5_lendsKept 10 = .ok (.iload_n 1, 1) := dk_27 (dk_at dksX5_lendsKept_0 10 rfl rfl)
theorem dX5_lendsKept_11 : decode cX5_lendsKept 11 = .ok (.invokevirtual 152, 3) := dk_182 0 152 (dk_at dksX5_lendsKept_0 11 rfl rfl)
theorem dX5_lendsKept_14 : decode cX5_lendsKept 14 = .ok (.ifCond .eq 11, 3) := dk_153 0 11 (dk_at dksX5_lendsKept_0 14 rfl rfl)
theorem dX5_lendsKept_17 : decode cX5_lendsKept 17 = .ok (.aload_n 0, 1) := dk_42 (dk_at dksX5_lendsKept_0 17 rfl rfl)
theorem dX5_lendsKept_18 : decode cX5_lendsKept 18 = .ok (.iload_n 2, 1) := dk_28 (dk_at dksX5_lendsKept_0 18 rfl rfl)
theorem dX5_lendsKept_19 : decode cX5_lendsKept 19 = .ok (.invokevirtual 152, 3) := dk_182 0 152 (dk_at dksX5_lendsKept_0 19 rfl rfl)
theorem dX5_lendsKept_22 : decode cX5_lendsKept 22 = .ok (.ifCond .ne 6, 3) := dk_154 0 6 (dk_at dksX5_lendsKept_1 0 rfl rfl)
theorem dX5_lendsKept_25 : decode cX5_lendsKept 25 = .ok (.bipush (-2), 2) := dk_16 254 (dk_at dksX5_lendsKept_1 3 rfl rfl)
theorem dX5_lendsKept_27 : decode cX5_lendsKept 27 = .ok (.ireturn, 1) := dk_172 (dk_at dksX5_lendsKept_1 5 rfl rfl)
theorem dX5_lendsKept_28 : decode cX5_lendsKept 28 = .ok (.aload_n 0, 1) := dk_42 (dk_at dksX5_lendsKept_1 6 rfl rfl)
theorem dX5_lendsKept_29 : decode cX5_lendsKept 29 = .ok (.iload_n 1, 1) := dk_27 (dk_at dksX5_lendsKept_1 7 rfl rfl)
theorem dX5_lendsKept_30 : decode cX5_lendsKept 30 = .ok (.iload_n 2, 1) := dk_28 (dk_at dksX5_lendsKept_1 8 rfl rfl)
theorem dX5_lendsKept_31 : decode cX5_lendsKept 31 = .ok (.iload_n 3, 1) := dk_29 (dk_at dksX5_lendsKept_1 9 rfl rfl)
theorem dX5_lendsKept_32 : decode cX5_lendsKept 32 = .ok (.invokevirtual 354, 3) := dk_182 1 98 (dk_at dksX5_lendsKept_1 10 rfl rfl)
theorem dX5_lendsKept_35 : decode cX5_lendsKept 35 = .ok (.ifCond .ne 6, 3) := dk_154 0 6 (dk_at dksX5_lendsKept_1 13 rfl rfl)
theorem dX5_lendsKept_38 : decode cX5_lendsKept 38 = .ok (.bipush (-3), 2) := dk_16 253 (dk_at dksX5_lendsKept_1 16 rfl rfl)
theorem dX5_lendsKept_40 : decode cX5_lendsKept 40 = .ok (.ireturn, 1) := dk_172 (dk_at dksX5_lendsKept_1 18 rfl rfl)
theorem dX5_lendsKept_41 : decode cX5_lendsKept 41 = .ok (.aload_n 0, 1) := dk_42 (dk_at dksX5_lendsKept_1 19 rfl rfl)
theorem dX5_lendsKept_42 : decode cX5_lendsKept 42 = .ok (.invokevirtual 137, 3) := dk_182 0 137 (dk_at dksX5_lendsKept_1 20 rfl rfl)
theorem dX5_lendsKept_45 : decode cX5_lendsKept 45 = .ok (.bipush 16, 2) := dk_16 16 (dk_at dksX5_lendsKept_2 0 rfl rfl)
theorem dX5_lendsKept_47 : decode cX5_lendsKept 47 = .ok (.if_icmp .ne 6, 3) := dk_160 0 6 (dk_at dksX5_lendsKept_2 2 rfl rfl)
theorem dX5_lendsKept_50 : decode cX5_lendsKept 50 = .ok (.bipush (-5), 2) := dk_16 251 (dk_at dksX5_lendsKept_2 5 rfl rfl)
theorem dX5_lendsKept_52 : decode cX5_lendsKept 52 = .ok (.ireturn, 1) := dk_172 (dk_at dksX5_lendsKept_2 7 rfl rfl)
theorem dX5_lendsKept_53 : decode cX5_lendsKept 53 = .ok (.aload_n 0, 1) := dk_42 (dk_at dksX5_lendsKept_2 8 rfl rfl)
theorem dX5_lendsKept_54 : decode cX5_lendsKept 54 = .ok (.iconst 0, 1) := dk_3 (dk_at dksX5_lendsKept_2 9 rfl rfl)
theorem dX5_lendsKept_55 : decode cX5_lendsKept 55 = .ok (.invokevirtual 357, 3) := dk_182 1 101 (dk_at dksX5_lendsKept_2 10 rfl rfl)
theorem dX5_lendsKept_58 : decode cX5_lendsKept 58 = .ok (.aload_n 0, 1) := dk_42 (dk_at dksX5_lendsKept_2 13 rfl rfl)
theorem dX5_lendsKept_59 : decode cX5_lendsKept 59 = .ok (.iload_n 1, 1) := dk_27 (dk_at dksX5_lendsKept_2 14 rfl rfl)
theorem dX5_lendsKept_60 : decode cX5_lendsKept 60 = .ok (.iload_n 2, 1) := dk_28 (dk_at dksX5_lendsKept_2 15 rfl rfl)
theorem dX5_lendsKept_61 : decode cX5_lendsKept 61 = .ok (.iload_n 3, 1) := dk_29 (dk_at dksX5_lendsKept_2 16 rfl rfl)
theorem dX5_lendsKept_62 : decode cX5_lendsKept 62 = .ok (.invokevirtual 360, 3) := dk_182 1 104 (dk_at dksX5_lendsKept_2 17 rfl rfl)
theorem dX5_lendsKept_65 : decode cX5_lendsKept 65 = .ok (.iload_n 3, 1) := dk_29 (dk_at dksX5_lendsKept_2 20 rfl rfl)
theorem dX5_lendsKept_66 : decode cX5_lendsKept 66 = .ok (.ireturn, 1) := dk_172 (dk_at dksX5_lendsKept_2 21 rfl rfl)
noncomputable def f_X5_lendsKept_25 (E : ax_E) (h : ax_H) : Option (Int × ax_H) :=
  some ((-2), h)
noncomputable def f_X5_lendsKept (E : ax_E) (x0 : Option Nat) (x1 : Int) (x2 : Int) (x3 : Int) (h : ax_H) : Option (Int × ax_H) :=
  (f_X5_isAmount E x3 h).bind fun q1 =>
  if i2 q1.1 = 0 then
    some ((-1), q1.2)
  else
    (ax_ce E q1.2 x0 5).bind fun _ => (f_X5_isPerson E x0 x1 q1.2).bind fun q2 =>
    if i2 q2.1 = 0 then
      f_X5_lendsKept_25 E q2.2
    else
      (ax_ce E q2.2 x0 5).bind fun _ => (f_X5_isPerson E x0 x2 q2.2).bind fun q3 =>
      if i2 q3.1 = 0 then
        f_X5_lendsKept_25 E q3.2
      else
        (ax_ce E q3.2 x0 5).bind fun _ => (f_X5_canLend E x0 x1 x2 x3 q3.2).bind fun q4 =>
        if i2 q4.1 = 0 then
          some ((-3), q4.2)
        else
          (ax_ce E q4.2 x0 5).bind fun _ => (f_X5_debts E x0 q4.2).bind fun q5 =>
          if i2 q5.1 = i2 16 then
            some ((-5), q5.2)
          else
            (ax_ce E q5.2 x0 5).bind fun _ => (f_X5_keeps E x0 0 q5.2).bind fun h6 =>
            (ax_ce E h6 x0 5).bind fun _ => (f_X5_lends E x0 x1 x2 x3 h6).bind fun h7 =>
            some (x3, h7)
set_option maxHeartbeats 4000000 in
theorem w_X5_lendsKept_25 {l : Launch} {G : ax_G} {X : ax_X} {Q : State → Prop} {h0 h : ax_H} {ls : Array Slot} (hSF : ax_SF G) (B : ax_BL l G X cX5_lendsKept 4 RX5 4 107) (Z : ax_Z X h0 ((some FieldType.int))) (hn : X.2.2.2.2.2.2.2.2.1.name = yX5_lendsKept.name) {w : Int × ax_H} (hl : ax_hl ls 4 []) (e : f_X5_lendsKept_25 G.2.2 h = some w) (hp : (fun w : Int × ax_H => Q = ax_Q G X h0 w.2 (some (.int (Int32.ofInt w.1)))) w) : ax_W G X Q h 25 ls [] := by
  unfold f_X5_lendsKept_25 at e
  refine ax_bipush B dX5_lendsKept_25 (by decide) ?_
  have e8 := e
  have hp : Q = _ := hp
  subst hp
  exact ax_ireturn B Z dX5_lendsKept_27 e8
set_option maxHeartbeats 4000000 in
theorem we_X5_lendsKept {l : Launch} {G : ax_G} {X : ax_X} {Q : State → Prop} {h0 h : ax_H} {ls : Array Slot} (hSF : ax_SF G) (B : ax_BL l G X cX5_lendsKept 4 RX5 4 107) (Z : ax_Z X h0 ((some FieldType.int))) (hn : X.2.2.2.2.2.2.2.2.1.name = yX5_lendsKept.name) (x0 : Option Nat) (x1 : Int) (x2 : Int) (x3 : Int) {w : Int × ax_H} (hl : ax_hl ls 4 [(0, .inr (.inr x0)), (1, .inl x1), (2, .inl x2), (3, .inl x3)]) (e : f_X5_lendsKept G.2.2 x0 x1 x2 x3 h = some w) (hp : (fun w : Int × ax_H => Q = ax_Q G X h0 w.2 (some (.int (Int32.ofInt w.1)))) w) : ax_W G X Q h 0 ls [] := by
  unfold f_X5_lendsKept at e
  refine ax_iload_n B dX5_lendsKept_0 rfl hl 3 rfl ?_
  refine ax_isI (y := yX5_isAmount) (n := 1) (As := [.int (Int32.ofInt x3)]) B (lw_S q2207 q2208 q133 q2209) (by decide +kernel) ⟨Nat.le_of_ble_eq_true rfl, Nat.le_of_ble_eq_true rfl⟩ (fun w1 e1 => mt_X5_isAmount l G hSF x3 _ w1 e1) rfl hl.size (by decide) dX5_lendsKept_1 e (fun q1 e => ?_)
  refine ax_if_ne (tgt := 9) B dX5_lendsKept_4 (by decide) e (fun e => ?_) (fun e => ?_)
  · refine ax_iconst B dX5_lendsKept_7 ?_
    have e8 := e
    have hp : Q = _ := hp
    subst hp
    exact ax_ireturn B Z dX5_lendsKept_8 e8
  · refine ax_aload_n B dX5_lendsKept_9 rfl hl 0 rfl ?_
    refine ax_iload_n B dX5_lendsKept_10 rfl hl 1 rfl ?_
    refine ax_ivI (y := yX5_isPerson) (n := 1) (As := [.int (Int32.ofInt x1)]) B kd5 (lw_V q2191 q2193 qs45 q133 q2194) (by decide +kernel) ⟨Nat.le_of_ble_eq_true rfl, Nat.le_of_ble_eq_true rfl⟩ (fun w1 e1 => mt_X5_isPerson l G hSF x0 x1 _ w1 e1) rfl hl.size (by decide) dX5_lendsKept_11 e (fun q2 e => ?_)
    refine ax_if_eq (tgt := 25) B dX5_lendsKept_14 (by decide) e (fun e => ?_) (fun e => ?_)
    · exact w_X5_lendsKept_25 hSF B Z hn (hl.sub [] rfl) e hp
    · refine ax_aload_n B dX5_lendsKept_17 rfl hl 0 rfl ?_
      refine ax_iload_n B dX5_lendsKept_18 rfl hl 2 rfl ?_
      refine ax_ivI (y := yX5_isPerson) (n := 1) (As := [.int (Int32.ofInt x2)]) B kd5 (lw_V q2191 q2193 qs45 q133 q2194) (by decide +kernel) ⟨Nat.le_of_ble_eq_true rfl, Nat.le_of_ble_eq_true rfl⟩ (fun w1 e1 => mt_X5_isPerson l G hSF x0 x2 _ w1 e1) rfl hl.size (by decide) dX5_lendsKept_19 e (fun q3 e => ?_)
      refine ax_if_ne (tgt := 28) B dX5_lendsKept_22 (by decide) e (fun e => ?_) (fun e => ?_)
      · exact w_X5_lendsKept_25 hSF B Z hn (hl.sub [] rfl) e hp
      · refine ax_aload_n B dX5_lendsKept_28 rfl hl 0 rfl ?_
        refine ax_iload_n B dX5_lendsKept_29 rfl hl 1 rfl ?_
        refine ax_iload_n B dX5_lendsKept_30 rfl hl 2 rfl ?_
        refine ax_iload_n B dX5_lendsKept_31 rfl hl 3 rfl ?_
        refine ax_ivI (y := yX5_canLend) (n := 3) (As := [.int (Int32.ofInt x1), .int (Int32.ofInt x2), .int (Int32.ofInt x3)]) B kd5 (lw_V q2462 q2464 qs92 q133 q2465) (by decide +kernel) ⟨Nat.le_of_ble_eq_true rfl, Nat.le_of_ble_eq_true rfl⟩ (fun w1 e1 => mt_X5_canLend l G hSF x0 x1 x2 x3 _ w1 e1) rfl hl.size (by decide) dX5_lendsKept_32 e (fun q4 e => ?_)
        refine ax_if_ne (tgt := 41) B dX5_lendsKept_35 (by decide) e (fun e => ?_) (fun e => ?_)
        · refine ax_bipush B dX5_lendsKept_38 (by decide) ?_
          have e8 := e
          have hp : Q = _ := hp
          subst hp
          exact ax_ireturn B Z dX5_lendsKept_40 e8
        · refine ax_aload_n B dX5_lendsKept_41 rfl hl 0 rfl ?_
          refine ax_ivI (y := yX5_debts) (n := 0) (As := []) B kd5 (lw_V q2210 q2212 qs47 q133 q2213) (by decide +kernel) ⟨Nat.le_of_ble_eq_true rfl, Nat.le_of_ble_eq_true rfl⟩ (fun w1 e1 => mt_X5_debts l G hSF x0 _ w1 e1) rfl hl.size (by decide) dX5_lendsKept_42 e (fun q5 e => ?_)
          refine ax_bipush B dX5_lendsKept_45 (by decide) ?_
          refine ax_icmp_ne (tgt := 53) B dX5_lendsKept_47 (by decide) e (fun e => ?_) (fun e => ?_)
          · refine ax_bipush B dX5_lendsKept_50 (by decide) ?_
            have e8 := e
            have hp : Q = _ := hp
            subst hp
            exact ax_ireturn B Z dX5_lendsKept_52 e8
          · refine ax_aload_n B dX5_lendsKept_53 rfl hl 0 rfl ?_
            refine ax_iconst B dX5_lendsKept_54 ?_
            refine ax_ivV (y := yX5_keeps) (n := 1) (As := [.int (Int32.ofInt 0)]) B kd5 (lw_V q2466 q2468 qs93 q133 q2469) (by decide +kernel) ⟨Nat.le_of_ble_eq_true rfl, Nat.le_of_ble_eq_true rfl⟩ (fun w1 e1 => mt_X5_keeps l G hSF x0 0 _ w1 e1) rfl hl.size (by decide) dX5_lendsKept_55 e (fun h6 e => ?_)
            refine ax_aload_n B dX5_lendsKept_58 rfl hl 0 rfl ?_
            refine ax_iload_n B dX5_lendsKept_59 rfl hl 1 rfl ?_
            refine ax_iload_n B dX5_lendsKept_60 rfl hl 2 rfl ?_
            refine ax_iload_n B dX5_lendsKept_61 rfl hl 3 rfl ?_
            refine ax_ivV (y := yX5_lends) (n := 3) (As := [.int (Int32.ofInt x1), .int (Int32.ofInt x2), .int (Int32.ofInt x3)]) B kd5 (lw_V q2470 q2472 qs94 q133 q2473) (by decide +kernel) ⟨Nat.le_of_ble_eq_true rfl, Nat.le_of_ble_eq_true rfl⟩ (fun w1 e1 => mt_X5_lends l G hSF x0 x1 x2 x3 _ w1 e1) rfl hl.size (by decide) dX5_lendsKept_62 e (fun h7 e => ?_)
            refine ax_iload_n B dX5_lendsKept_65 rfl hl 3 rfl ?_
            have e8 := e
            have hp : Q = _ := hp
            subst hp
            exact ax_ireturn B Z dX5_lendsKept_66 e8
theorem mt_X5_lendsKept (l : Launch) (G : ax_G) (hSF : ax_SF G) (x0 : Option Nat) (x1 : Int) (x2 : Int) (x3 : Int) (h : ax_H) (w : Int × ax_H) (e : f_X5_lendsKept G.2.2 x0 x1 x2 x3 h = some w) : ax_Met l G yX5_lendsKept cX5_lendsKept 4 ((some FieldType.int)) 4 107 [va_rf x0, .int (Int32.ofInt x1), .int (Int32.ofInt x2), .int (Int32.ofInt x3)] h w.2 (some (.int (Int32.ofInt w.1))) :=
  ax_enter [.inr (.inr x0), .inl x1, .inl x2, .inl x3] (y := yX5_lendsKept) hSF (plainFor_of_name (by decide +kernel)) (Nat.le_of_ble_eq_true rfl) (fun X ls B Z hn hl => we_X5_lendsKept hSF B Z hn x0 x1 x2 x3 hl e rfl)
def dkwX5_goodOr_0 : List UInt8 := [27, 156, 0, 11, 42, 27, 182, 0, 127, 167, 0, 8, 42, 27, 182, 0, 14, 172]
abbrev dktX5_goodOr_0 : List UInt8 := dkwX5_goodOr_0 ++ []
theorem dksX5_goodOr_0 : cX5_goodOr.data.toList.drop 0 = dktX5_goodOr_0 := by decide +kernel
theorem dX5_goodOr_0 : decode cX5_goodOr 0 = .ok (.iload_n 1, 1) := dk_27 (dk_at dksX5_goodOr_0 0 rfl rfl)
theorem dX5_goodOr_1 : decode cX5_goodOr 1 = .ok (.ifCond .ge 11, 3) := dk_156 0 11 (dk_at dksX5_goodOr_0 1 rfl rfl)
theorem dX5_goodOr_4 : decode cX5_goodOr 4 = .ok (.aload_n 0, 1) := dk_42 (dk_at dksX5_goodOr_0 4 rfl rfl)
theorem dX5_goodOr_5 : decode cX5_goodOr 5 = .ok (.iload_n 1, 1) := dk_27 (dk_at dksX5_goodOr_0 5 rfl rfl)
theorem dX5_goodOr_6 : decode cX5_goodOr 6 = .ok (.invokevirtual 127, 3) := dk_182 0 127 (dk_at dksX5_goodOr_0 6 rfl rfl)
theorem dX5_goodOr_9 : decode cX5_goodOr 9 = .ok (.goto 8, 3) := dk_167 0 8 (dk_at dksX5_goodOr_0 9 rfl rfl)
theorem dX5_goodOr_12 : decode cX5_goodOr 12 = .ok (.aload_n 0, 1) := dk_42 (dk_at dksX5_goodOr_0 12 rfl rfl)
theorem dX5_goodOr_13 : decode cX5_goodOr 13 = .ok (.iload_n 1, 1) := dk_27 (dk_at dksX5_goodOr_0 13 rfl rfl)
theorem dX5_goodOr_14 : decode cX5_goodOr 14 = .ok (.invokevirtual 14, 3) := dk_182 0 14 (dk_at dksX5_goodOr_0 14 rfl rfl)
theorem dX5_goodOr_17 : decode cX5_goodOr 17 = .ok (.ireturn, 1) := dk_172 (dk_at dksX5_goodOr_0 17 rfl rfl)
noncomputable def f_X5_goodOr (E : ax_E) (x0 : Option Nat) (x1 : Int) (h : ax_H) : Option (Int × ax_H) :=
  if i2 x1 < 0 then
    (ax_ce E h x0 5).bind fun _ => (f_X5_refuses E x0 x1 h).bind fun q1 =>
    some (q1.1, q1.2)
  else
    (ax_ce E h x0 5).bind fun _ => (f_X5_good E x0 x1 h).bind fun q2 =>
    some (q2.1, q2.2)
set_option maxHeartbeats 4000000 in
theorem we_X5_goodOr {l : Launch} {G : ax_G} {X : ax_X} {Q : State → Prop} {h0 h : ax_H} {ls : Array Slot} (hSF : ax_SF G) (B : ax_BL l G X cX5_goodOr 2 RX5 2 61) (Z : ax_Z X h0 ((some FieldType.int))) (hn : X.2.2.2.2.2.2.2.2.1.name = yX5_goodOr.name) (x0 : Option Nat) (x1 : Int) {w : Int × ax_H} (hl : ax_hl ls 2 [(0, .inr (.inr x0)), (1, .inl x1)]) (e : f_X5_goodOr G.2.2 x0 x1 h = some w) (hp : (fun w : Int × ax_H => Q = ax_Q G X h0 w.2 (some (.int (Int32.ofInt w.1)))) w) : ax_W G X Q h 0 ls [] := by
  unfold f_X5_goodOr at e
  refine ax_iload_n B dX5_goodOr_0 rfl hl 1 rfl ?_
  refine ax_if_ge (tgt := 12) B dX5_goodOr_1 (by decide) e (fun e => ?_) (fun e => ?_)
  · refine ax_aload_n B dX5_goodOr_4 rfl hl 0 rfl ?_
    refine ax_iload_n B dX5_goodOr_5 rfl hl 1 rfl ?_
    refine ax_ivI (y := yX5_refuses) (n := 1) (As := [.int (Int32.ofInt x1)]) B kd5 (lw_V q2154 q2156 qs41 q133 q2157) (by decide +kernel) ⟨Nat.le_of_ble_eq_true rfl, Nat.le_of_ble_eq_true rfl⟩ (fun w1 e1 => mt_X5_refuses l G hSF x0 x1 _ w1 e1) rfl hl.size (by decide) dX5_goodOr_6 e (fun q1 e => ?_)
    refine ax_goto (tgt := 17) B dX5_goodOr_9 (by decide) ?_
    have e8 := e
    have hp : Q = _ := hp
    subst hp
    exact ax_ireturn B Z dX5_goodOr_17 e8
  · refine ax_aload_n B dX5_goodOr_12 rfl hl 0 rfl ?_
    refine ax_iload_n B dX5_goodOr_13 rfl hl 1 rfl ?_
    refine ax_ivI (y := yX5_good) (n := 1) (As := [.int (Int32.ofInt x1)]) B kd5 (lw_V q2158 q2160 qs42 q133 q2161) (by decide +kernel) ⟨Nat.le_of_ble_eq_true rfl, Nat.le_of_ble_eq_true rfl⟩ (fun w1 e1 => mt_X5_good l G hSF x0 x1 _ w1 e1) rfl hl.size (by decide) dX5_goodOr_14 e (fun q2 e => ?_)
    have e8 := e
    have hp : Q = _ := hp
    subst hp
    exact ax_ireturn B Z dX5_goodOr_17 e8
theorem mt_X5_goodOr (l : Launch) (G : ax_G) (hSF : ax_SF G) (x0 : Option Nat) (x1 : Int) (h : ax_H) (w : Int × ax_H) (e : f_X5_goodOr G.2.2 x0 x1 h = some w) : ax_Met l G yX5_goodOr cX5_goodOr 2 ((some FieldType.int)) 2 61 [va_rf x0, .int (Int32.ofInt x1)] h w.2 (some (.int (Int32.ofInt w.1))) :=
  ax_enter [.inr (.inr x0), .inl x1] (y := yX5_goodOr) hSF (plainFor_of_name (by decide +kernel)) (Nat.le_of_ble_eq_true rfl) (fun X ls B Z hn hl => we_X5_goodOr hSF B Z hn x0 x1 hl e rfl)
def dkwX5_lend_0 : List UInt8 := [42, 42, 27, 28, 29, 182, 1, 122, 182, 1, 125, 172]
abbrev dktX5_lend_0 : List UInt8 := dkwX5_lend_0 ++ []
theorem dksX5_lend_0 : cX5_lend.data.toList.drop 0 = dktX5_lend_0 := by decide +kernel
theorem dX5_lend_0 : decode cX5_lend 0 = .ok (.aload_n 0, 1) := dk_42 (dk_at dksX5_lend_0 0 rfl rfl)
theorem dX5_lend_1 : decode cX5_lend 1 = .ok (.aload_n 0, 1) := dk_42 (dk_at dksX5_lend_0 1 rfl rfl)
theorem dX5_lend_2 : decode cX5_lend 2 = .ok (.iload_n 1, 1) := dk_27 (dk_at dksX5_lend_0 2 rfl rfl)
theorem dX5_lend_3 : decode cX5_lend 3 = .ok (.iload_n 2, 1) := dk_28 (dk_at dksX5_lend_0 3 rfl rfl)
theorem dX5_lend_4 : decode cX5_lend 4 = .ok (.iload_n 3, 1) := dk_29 (dk_at dksX5_lend_0 4 rfl rfl)
theorem dX5_lend_5 : decode cX5_lend 5 = .ok (.invokevirtual 378, 3) := dk_182 1 122 (dk_at dksX5_lend_0 5 rfl rfl)
theorem dX5_lend_8 : decode cX5_lend 8 = .ok (.invokevirtual 381, 3) := dk_182 1 125 (dk_at dksX5_lend_0 8 rfl rfl)
theorem dX5_lend_11 : decode cX5_lend 11 = .ok (.ireturn, 1) := dk_172 (dk_at dksX5_lend_0 11 rfl rfl)
noncomputable def f_X5_lend (E : ax_E) (x0 : Option Nat) (x1 : Int) (x2 : Int) (x3 : Int) (h : ax_H) : Option (Int × ax_H) :=
  (ax_ce E h x0 5).bind fun _ => (f_X5_lendsKept E x0 x1 x2 x3 h).bind fun q1 =>
  (ax_ce E q1.2 x0 5).bind fun _ => (f_X5_goodOr E x0 q1.1 q1.2).bind fun q2 =>
  some (q2.1, q2.2)
set_option maxHeartbeats 4000000 in
theorem we_X5_lend {l : Launch} {G : ax_G} {X : ax_X} {Q : State → Prop} {h0 h : ax_H} {ls : Array Slot} (hSF : ax_SF G) (B : ax_BL l G X cX5_lend 4 RX5 5 130) (Z : ax_Z X h0 ((some FieldType.int))) (hn : X.2.2.2.2.2.2.2.2.1.name = yX5_lend.name) (x0 : Option Nat) (x1 : Int) (x2 : Int) (x3 : Int) {w : Int × ax_H} (hl : ax_hl ls 4 [(0, .inr (.inr x0)), (1, .inl x1), (2, .inl x2), (3, .inl x3)]) (e : f_X5_lend G.2.2 x0 x1 x2 x3 h = some w) (hp : (fun w : Int × ax_H => Q = ax_Q G X h0 w.2 (some (.int (Int32.ofInt w.1)))) w) : ax_W G X Q h 0 ls [] := by
  unfold f_X5_lend at e
  refine ax_aload_n B dX5_lend_0 rfl hl 0 rfl ?_
  refine ax_aload_n B dX5_lend_1 rfl hl 0 rfl ?_
  refine ax_iload_n B dX5_lend_2 rfl hl 1 rfl ?_
  refine ax_iload_n B dX5_lend_3 rfl hl 2 rfl ?_
  refine ax_iload_n B dX5_lend_4 rfl hl 3 rfl ?_
  refine ax_ivI (y := yX5_lendsKept) (n := 3) (As := [.int (Int32.ofInt x1), .int (Int32.ofInt x2), .int (Int32.ofInt x3)]) B kd5 (lw_V q2458 q2460 qs91 q133 q2461) (by decide +kernel) ⟨Nat.le_of_ble_eq_true rfl, Nat.le_of_ble_eq_true rfl⟩ (fun w1 e1 => mt_X5_lendsKept l G hSF x0 x1 x2 x3 _ w1 e1) rfl hl.size (by simp only [List.map_cons, List.map_nil, List.sum_cons, List.sum_nil, va_rf_cat, ax_catI, ax_catL]; decide) dX5_lend_5 e (fun q1 e => ?_)
  refine ax_ivI (y := yX5_goodOr) (n := 1) (As := [.int (Int32.ofInt q1.1)]) B kd5 (lw_V q2474 q2476 qs95 q133 q2477) (by decide +kernel) ⟨Nat.le_of_ble_eq_true rfl, Nat.le_of_ble_eq_true rfl⟩ (fun w1 e1 => mt_X5_goodOr l G hSF x0 q1.1 _ w1 e1) rfl hl.size (by decide) dX5_lend_8 e (fun q2 e => ?_)
  have e8 := e
  have hp : Q = _ := hp
  subst hp
  exact ax_ireturn B Z dX5_lend_11 e8
theorem mt_X5_lend (l : Launch) (G : ax_G) (hSF : ax_SF G) (x0 : Option Nat) (x1 : Int) (x2 : Int) (x3 : Int) (h : ax_H) (w : Int × ax_H) (e : f_X5_lend G.2.2 x0 x1 x2 x3 h = some w) : ax_Met l G yX5_lend cX5_lend 4 ((some FieldType.int)) 5 130 [va_rf x0, .int (Int32.ofInt x1), .int (Int32.ofInt x2), .int (Int32.ofInt x3)] h w.2 (some (.int (Int32.ofInt w.1))) :=
  ax_enter [.inr (.inr x0), .inl x1, .inl x2, .inl x3] (y := yX5_lend) hSF (plainFor_of_name (by decide +kernel)) (Nat.le_of_ble_eq_true rfl) (fun X ls B Z hn hl => we_X5_lend hSF B Z hn x0 x1 x2 x3 hl e rfl)
def dkwX5_canRepay_1 : List UInt8 := [46, 17, 39, 15, 42, 180, 0, 24, 3, 28, 96, 46, 100, 184, 1, 79, 184, 1, 79, 172]
abbrev dktX5_canRepay_1 : List UInt8 := dkwX5_canRepay_1 ++ []
def dkwX5_canRepay_0 : List UInt8 := [27, 28, 160, 0, 5, 3, 172, 29, 42, 27, 28, 182, 0, 178, 184, 1, 79, 42, 180, 0, 24, 3, 27, 96]
abbrev dktX5_canRepay_0 : List UInt8 := dkwX5_canRepay_0 ++ dktX5_canRepay_1
theorem dksX5_canRepay_0 : cX5_canRepay.data.toList.drop 0 = dktX5_canRepay_0 := by decide +kernel
theorem dksX5_canRepay_1 : cX5_canRepay.data.toList.drop 24 = dktX5_canRepay_1 := dk_seg dksX5_canRepay_0 24 rfl rfl
theorem dX5_canRepay_0 : decode cX5_canRepay 0 = .ok (.iload_n 1, 1) := dk_27 (dk_at dksX5_canRepay_0 0 rfl rfl)
theorem dX5_canRepay_1 : decode cX5_canRepay 1 = .ok (.iload_n 2, 1) := dk_28 (dk_at dksX5_canRepay_0 1 rfl rfl)
theorem dX5_canRepay_2 : decode cX5_canRepay 2 = .ok (.if_icmp .ne 5, 3) := dk_160 0 5 (dk_at dksX5_canRepay_0 2 rfl rfl)
theorem dX5_canRepay_5 : decode cX5_canRepay 5 = .ok (.iconst 0, 1) := dk_3 (dk_at dksX5_canRepay_0 5 rfl rfl)
theorem dX5_canRepay_6 : decode cX5_canRepay 6 = .ok (.ireturn, 1) := dk_172 (dk_at dksX5_canRepay_0 6 rfl rfl)
theorem dX5_canRepay_7 : decode cX5_canRepay 7 = .ok (.iload_n 3, 1) := dk_29 (dk_at dksX5_canRepay_0 7 rfl rfl)
theorem dX5_canRepay_8 : decode cX5_canRepay 8 = .ok (.aload_n 0, 1) := dk_42 (dk_at dksX5_canRepay_0 8 rfl rfl)
theorem dX5_canRepay_9 : decode cX5_canRepay 9 = .ok (.iload_n 1, 1) := dk_27 (dk_at dksX5_canRepay_0 9 rfl rfl)
theorem dX5_canRepay_10 : decode cX5_canRepay 10 = .ok (.iload_n 2, 1) := dk_28 (dk_at dksX5_canRepay_0 10 rfl rfl)
theorem dX5_canRepay_11 : decode cX5_canRepay 11 = .ok (.invokevirtual 178, 3) := dk_182 0 178 (dk_at dksX5_canRepay_0 11 rfl rfl)
theorem dX5_canRepay_14 : decode cX5_canRepay 14 = .ok (.invokestatic 335, 3) := dk_184 1 79 (dk_at dksX5_canRepay_0 14 rfl rfl)
theorem dX5_canRepay_17 : decode cX5_canRepay 17 = .ok (.aload_n 0, 1) := dk_42 (dk_at dksX5_canRepay_0 17 rfl rfl)
theorem dX5_canRepay_18 : decode cX5_canRepay 18 = .ok (.getfield 24, 3) := dk_180 0 24 (dk_at dksX5_canRepay_0 18 rfl rfl)
theorem dX5_canRepay_21 : decode cX5_canRepay 21 = .ok (.iconst 0, 1) := dk_3 (dk_at dksX5_canRepay_0 21 rfl rfl)
theorem dX5_canRepay_22 : decode cX5_canRepay 22 = .ok (.iload_n 1, 1) := dk_27 (dk_at dksX5_canRepay_0 22 rfl rfl)
theorem dX5_canRepay_23 : decode cX5_canRepay 23 = .ok (.iadd, 1) := dk_96 (dk_at dksX5_canRepay_0 23 rfl rfl)
theorem dX5_canRepay_24 : decode cX5_canRepay 24 = .ok (.iaload, 1) := dk_46 (dk_at dksX5_canRepay_1 0 rfl rfl)
theorem dX5_canRepay_25 : decode cX5_canRepay 25 = .ok (.sipush 9999, 3) := dk_17 39 15 (dk_at dksX5_canRepay_1 1 rfl rfl)
theorem dX5_canRepay_28 : decode cX5_canRepay 28 = .ok (.aload_n 0, 1) := dk_42 (dk_at dksX5_canRepay_1 4 rfl rfl)
theorem dX5_canRepay_29 : decode cX5_canRepay 29 = .ok (.getfield 24, 3) := dk_180 0 24 (dk_at dksX5_canRepay_1 5 rfl rfl)
theorem dX5_canRepay_32 : decode cX5_canRepay 32 = .ok (.iconst 0, 1) := dk_3 (dk_at dksX5_canRepay_1 8 rfl rfl)
theorem dX5_canRepay_33 : decode cX5_canRepay 33 = .ok (.iload_n 2, 1) := dk_28 (dk_at dksX5_canRepay_1 9 rfl rfl)
theorem dX5_canRepay_34 : decode cX5_canRepay 34 = .ok (.iadd, 1) := dk_96 (dk_at dksX5_canRepay_1 10 rfl rfl)
theorem dX5_canRepay_35 : decode cX5_canRepay 35 = .ok (.iaload, 1) := dk_46 (dk_at dksX5_canRepay_1 11 rfl rfl)
theorem dX5_canRepay_36 : decode cX5_canRepay 36 = .ok (.isub, 1) := dk_100 (dk_at dksX5_canRepay_1 12 rfl rfl)
theorem dX5_canRepay_37 : decode cX5_canRepay 37 = .ok (.invokestatic 335, 3) := dk_184 1 79 (dk_at dksX5_canRepay_1 13 rfl rfl)
theorem dX5_canRepay_40 : decode cX5_canRepay 40 = .ok (.invokestatic 335, 3) := dk_184 1 79 (dk_at dksX5_canRepay_1 16 rfl rfl)
theorem dX5_canRepay_43 : decode cX5_canRepay 43 = .ok (.ireturn, 1) := dk_172 (dk_at dksX5_canRepay_1 19 rfl rfl)
noncomputable def f_X5_canRepay (E : ax_E) (x0 : Option Nat) (x1 : Int) (x2 : Int) (x3 : Int) (h : ax_H) : Option (Int × ax_H) :=
  if i2 x1 = i2 x2 then
    some (0, h)
  else
    (ax_ce E h x0 5).bind fun _ => (f_X5_owed E x0 x1 x2 h).bind fun q1 =>
    (f_X5_lesser E x3 q1.1 q1.2).bind fun q2 =>
    (ax_gR E q2.2 x0 5 2).bind fun v3 =>
    (ax_ld E q2.2 v3 100 (0 + x1)).bind fun v4 =>
    (ax_gR E q2.2 x0 5 2).bind fun v5 =>
    (ax_ld E q2.2 v5 100 (0 + x2)).bind fun v6 =>
    (f_X5_lesser E v4 (9999 - v6) q2.2).bind fun q7 =>
    (f_X5_lesser E q2.1 q7.1 q7.2).bind fun q8 =>
    some (q8.1, q8.2)
set_option maxHeartbeats 4000000 in
theorem we_X5_canRepay {l : Launch} {G : ax_G} {X : ax_X} {Q : State → Prop} {h0 h : ax_H} {ls : Array Slot} (hSF : ax_SF G) (B : ax_BL l G X cX5_canRepay 4 RX5 3 87) (Z : ax_Z X h0 ((some FieldType.int))) (hn : X.2.2.2.2.2.2.2.2.1.name = yX5_canRepay.name) (x0 : Option Nat) (x1 : Int) (x2 : Int) (x3 : Int) {w : Int × ax_H} (hl : ax_hl ls 4 [(0, .inr (.inr x0)), (1, .inl x1), (2, .inl x2), (3, .inl x3)]) (e : f_X5_canRepay G.2.2 x0 x1 x2 x3 h = some w) (hp : (fun w : Int × ax_H => Q = ax_Q G X h0 w.2 (some (.int (Int32.ofInt w.1)))) w) : ax_W G X Q h 0 ls [] := by
  unfold f_X5_canRepay at e
  refine ax_iload_n B dX5_canRepay_0 rfl hl 1 rfl ?_
  refine ax_iload_n B dX5_canRepay_1 rfl hl 2 rfl ?_
  refine ax_icmp_ne (tgt := 7) B dX5_canRepay_2 (by decide) e (fun e => ?_) (fun e => ?_)
  · refine ax_iconst B dX5_canRepay_5 ?_
    have e8 := e
    have hp : Q = _ := hp
    subst hp
    exact ax_ireturn B Z dX5_canRepay_6 e8
  · refine ax_iload_n B dX5_canRepay_7 rfl hl 3 rfl ?_
    refine ax_aload_n B dX5_canRepay_8 rfl hl 0 rfl ?_
    refine ax_iload_n B dX5_canRepay_9 rfl hl 1 rfl ?_
    refine ax_iload_n B dX5_canRepay_10 rfl hl 2 rfl ?_
    refine ax_ivI (y := yX5_owed) (n := 2) (As := [.int (Int32.ofInt x1), .int (Int32.ofInt x2)]) B kd5 (lw_V q2234 q2236 qs52 q133 q2237) (by decide +kernel) ⟨Nat.le_of_ble_eq_true rfl, Nat.le_of_ble_eq_true rfl⟩ (fun w1 e1 => mt_X5_owed l G hSF x0 x1 x2 _ w1 e1) rfl hl.size (by simp only [List.map_cons, List.map_nil, List.sum_cons, List.sum_nil, va_rf_cat, ax_catI, ax_catL]; decide) dX5_canRepay_11 e (fun q1 e => ?_)
    refine ax_isI (y := yX5_lesser) (n := 2) (As := [.int (Int32.ofInt x3), .int (Int32.ofInt q1.1)]) B (lw_S q2439 q2440 q133 q2441) (by decide +kernel) ⟨Nat.le_of_ble_eq_true rfl, Nat.le_of_ble_eq_true rfl⟩ (fun w1 e1 => mt_X5_lesser l G hSF x3 q1.1 _ w1 e1) rfl hl.size (by decide) dX5_canRepay_14 e (fun q2 e => ?_)
    refine ax_aload_n B dX5_canRepay_17 rfl hl 0 rfl ?_
    refine ax_getR B ff_X5_24_5 (fun _ _ => rfl) dX5_canRepay_18 e (fun v3 e => ?_)
    refine ax_iconst B dX5_canRepay_21 ?_
    refine ax_iload_n B dX5_canRepay_22 rfl hl 1 rfl ?_
    refine ax_iadd' B dX5_canRepay_23 ?_
    refine ax_iald B kd100 dX5_canRepay_24 e (fun v4 e => ?_)
    refine ax_sipush B dX5_canRepay_25 (by decide) ?_
    refine ax_aload_n B dX5_canRepay_28 rfl hl 0 rfl ?_
    refine ax_getR B ff_X5_24_5 (fun _ _ => rfl) dX5_canRepay_29 e (fun v5 e => ?_)
    refine ax_iconst B dX5_canRepay_32 ?_
    refine ax_iload_n B dX5_canRepay_33 rfl hl 2 rfl ?_
    refine ax_iadd' B dX5_canRepay_34 ?_
    refine ax_iald B kd100 dX5_canRepay_35 e (fun v6 e => ?_)
    refine ax_isub' B dX5_canRepay_36 ?_
    refine ax_isI (y := yX5_lesser) (n := 2) (As := [.int (Int32.ofInt v4), .int (Int32.ofInt (9999 - v6))]) B (lw_S q2439 q2440 q133 q2441) (by decide +kernel) ⟨Nat.le_of_ble_eq_true rfl, Nat.le_of_ble_eq_true rfl⟩ (fun w1 e1 => mt_X5_lesser l G hSF v4 (9999 - v6) _ w1 e1) rfl hl.size (by simp only [List.map_cons, List.map_nil, List.sum_cons, List.sum_nil, va_rf_cat, ax_catI, ax_catL]; decide) dX5_canRepay_37 e (fun q7 e => ?_)
    refine ax_isI (y := yX5_lesser) (n := 2) (As := [.int (Int32.ofInt q2.1), .int (Int32.ofInt q7.1)]) B (lw_S q2439 q2440 q133 q2441) (by decide +kernel) ⟨Nat.le_of_ble_eq_true rfl, Nat.le_of_ble_eq_true rfl⟩ (fun w1 e1 => mt_X5_lesser l G hSF q2.1 q7.1 _ w1 e1) rfl hl.size (by decide) dX5_canRepay_40 e (fun q8 e => ?_)
    have e8 := e
    have hp : Q = _ := hp
    subst hp
    exact ax_ireturn B Z dX5_canRepay_43 e8
theorem mt_X5_canRepay (l : Launch) (G : ax_G) (hSF : ax_SF G) (x0 : Option Nat) (x1 : Int) (x2 : Int) (x3 : Int) (h : ax_H) (w : Int × ax_H) (e : f_X5_canRepay G.2.2 x0 x1 x2 x3 h = some w) : ax_Met l G yX5_canRepay cX5_canRepay 4 ((some FieldType.int)) 3 87 [va_rf x0, .int (Int32.ofInt x1), .int (Int32.ofInt x2), .int (Int32.ofInt x3)] h w.2 (some (.int (Int32.ofInt w.1))) :=
  ax_enter [.inr (.inr x0), .inl x1, .inl x2, .inl x3] (y := yX5_canRepay) hSF (plainFor_of_name (by decide +kernel)) (Nat.le_of_ble_eq_true rfl) (fun X ls B Z hn hl => we_X5_canRepay hSF B Z hn x0 x1 x2 x3 hl e rfl)
def dkwX5_removes_2 : List UInt8 := [132, 2, 1, 167, 255, 223, 177]
abbrev dktX5_removes_2 : List UInt8 := dkwX5_removes_2 ++ []
def dkwX5_removes_1 : List UInt8 := [162, 0, 29, 42, 180, 0, 24, 16, 7, 28, 96, 42, 180, 0, 24, 16, 7, 28, 96, 7, 96, 46, 79]
abbrev dktX5_removes_1 : List UInt8 := dkwX5_removes_1 ++ dktX5_removes_2
def dkwX5_removes_0 : List UInt8 := [42, 180, 0, 24, 16, 71, 92, 46, 4, 100, 79, 7, 27, 104, 61, 28, 7, 42, 182, 0, 137, 104]
abbrev dktX5_removes_0 : List UInt8 := dkwX5_removes_0 ++ dktX5_removes_1
theorem dksX5_removes_0 : cX5_removes.data.toList.drop 0 = dktX5_removes_0 := by decide +kernel
theorem dksX5_removes_1 : cX5_removes.data.toList.drop 22 = dktX5_removes_1 := dk_seg dksX5_removes_0 22 rfl rfl
theorem dksX5_removes_2 : cX5_removes.data.toList.drop 45 = dktX5_removes_2 := dk_seg dksX5_removes_1 23 rfl rfl
theorem dX5_removes_0 : decode cX5_removes 0 = .ok (.aload_n 0, 1) := dk_42 (dk_at dksX5_removes_0 0 rfl rfl)
theorem dX5_removes_1 : decode cX5_removes 1 = .ok (.getfield 24, 3) := dk_180 0 24 (dk_at dksX5_removes_0 1 rfl rfl)
theorem dX5_removes_4 : decode cX5_removes 4 = .ok (.bipush 71, 2) := dk_16 71 (dk_at dksX5_removes_0 4 rfl rfl)
theorem dX5_removes_6 : decode cX5_removes 6 = .ok (.dup2, 1) := dk_92 (dk_at dksX5_removes_0 6 rfl rfl)
theorem dX5_removes_7 : decode cX5_removes 7 = .ok (.iaload, 1) := dk_46 (dk_at dksX5_removes_0 7 rfl rfl)
theorem dX5_removes_8 : decode cX5_removes 8 = .ok (.iconst 1, 1) := dk_4 (dk_at dksX5_removes_0 8 rfl rfl)
theorem dX5_removes_9 : decode cX5_removes 9 = .ok (.isub, 1) := dk_100 (dk_at dksX5_removes_0 9 rfl rfl)
theorem dX5_removes_10 : decode cX5_removes 10 = .ok (.iastore, 1) := dk_79 (dk_at dksX5_removes_0 10 rfl rfl)
theorem dX5_removes_11 : decode cX5_removes 11 = .ok (.iconst 4, 1) := dk_7 (dk_at dksX5_removes_0 11 rfl rfl)
theorem dX5_removes_12 : decode cX5_removes 12 = .ok (.iload_n 1, 1) := dk_27 (dk_at dksX5_removes_0 12 rfl rfl)
theorem dX5_removes_13 : decode cX5_removes 13 = .ok (.imul, 1) := dk_104 (dk_at dksX5_removes_0 13 rfl rfl)
theorem dX5_removes_14 : decode cX5_removes 14 = .ok (.istore_n 2, 1) := dk_61 (dk_at dksX5_removes_0 14 rfl rfl)
theorem dX5_removes_15 : decode cX5_removes 15 = .ok (.iload_n 2, 1) := dk_28 (dk_at dksX5_removes_0 15 rfl rfl)
theorem dX5_removes_16 : decode cX5_removes 16 = .ok (.iconst 4, 1) := dk_7 (dk_at dksX5_removes_0 16 rfl rfl)
theorem dX5_removes_17 : decode cX5_removes 17 = .ok (.aload_n 0, 1) := dk_42 (dk_at dksX5_removes_0 17 rfl rfl)
theorem dX5_removes_18 : decode cX5_removes 18 = .ok (.invokevirtual 137, 3) := dk_182 0 137 (dk_at dksX5_removes_0 18 rfl rfl)
theorem dX5_removes_21 : decode cX5_removes 21 = .ok (.imul, 1) := dk_104 (dk_at dksX5_removes_0 21 rfl rfl)
theorem dX5_removes_22 : decode cX5_removes 22 = .ok (.if_icmp .ge 29, 3) := dk_162 0 29 (dk_at dksX5_removes_1 0 rfl rfl)
theorem dX5_removes_25 : decode cX5_removes 25 = .ok (.aload_n 0, 1) := dk_42 (dk_at dksX5_removes_1 3 rfl rfl)
theorem dX5_removes_26 : decode cX5_removes 26 = .ok (.getfield 24, 3) := dk_180 0 24 (dk_at dksX5_removes_1 4 rfl rfl)
theorem dX5_removes_29 : decode cX5_removes 29 = .ok (.bipush 7, 2) := dk_16 7 (dk_at dksX5_removes_1 7 rfl rfl)
theorem dX5_removes_31 : decode cX5_removes 31 = .ok (.iload_n 2, 1) := dk_28 (dk_at dksX5_removes_1 9 rfl rfl)
theorem dX5_removes_32 : decode cX5_removes 32 = .ok (.iadd, 1) := dk_96 (dk_at dksX5_removes_1 10 rfl rfl)
theorem dX5_removes_33 : decode cX5_removes 33 = .ok (.aload_n 0, 1) := dk_42 (dk_at dksX5_removes_1 11 rfl rfl)
theorem dX5_removes_34 : decode cX5_removes 34 = .ok (.getfield 24, 3) := dk_180 0 24 (dk_at dksX5_removes_1 12 rfl rfl)
theorem dX5_removes_37 : decode cX5_removes 37 = .ok (.bipush 7, 2) := dk_16 7 (dk_at dksX5_removes_1 15 rfl rfl)
theorem dX5_removes_39 : decode cX5_removes 39 = .ok (.iload_n 2, 1) := dk_28 (dk_at dksX5_removes_1 17 rfl rfl)
theorem dX5_removes_40 : decode cX5_removes 40 = .ok (.iadd, 1) := dk_96 (dk_at dksX5_removes_1 18 rfl rfl)
theorem dX5_removes_41 : decode cX5_removes 41 = .ok (.iconst 4, 1) := dk_7 (dk_at dksX5_removes_1 19 rfl rfl)
theorem dX5_removes_42 : decode cX5_removes 42 = .ok (.iadd, 1) := dk_96 (dk_at dksX5_removes_1 20 rfl rfl)
theorem dX5_removes_43 : decode cX5_removes 43 = .ok (.iaload, 1) := dk_46 (dk_at dksX5_removes_1 21 rfl rfl)
theorem dX5_removes_44 : decode cX5_removes 44 = .ok (.iastore, 1) := dk_79 (dk_at dksX5_removes_1 22 rfl rfl)
theorem dX5_removes_45 : decode cX5_removes 45 = .ok (.iinc 2 1, 3) := dk_132 2 1 (dk_at dksX5_removes_2 0 rfl rfl)
theorem dX5_removes_48 : decode cX5_removes 48 = .ok (.goto (-33), 3) := dk_167 255 223 (dk_at dksX5_removes_2 3 rfl rfl)
theorem dX5_removes_51 : decode cX5_removes 51 = .ok (.return_, 1) := dk_177 (dk_at dksX5_removes_2 6 rfl rfl)
noncomputable def lb_X5_removes_15 (E : ax_E) (x0 : Option Nat) (x2 : Int) (h : ax_H) : Option ((Int × ax_H) ⊕ (ax_H)) :=
  (ax_ce E h x0 5).bind fun _ => (f_X5_debts E x0 h).bind fun q1 =>
  if i2 x2 < i2 (4 * q1.1) then
    (ax_gR E q1.2 x0 5 2).bind fun v2 =>
    (ax_gR E q1.2 x0 5 2).bind fun v3 =>
    (ax_ld E q1.2 v3 100 ((7 + x2) + 4)).bind fun v4 =>
    (ax_sto q1.2 v2 100 (7 + x2) v4).bind fun h5 =>
    some (.inl ((x2 + 1), h5))
  else
    (some q1.2).map Sum.inr
noncomputable def f_X5_removes_15 (E : ax_E) (x0 : Option Nat) (x2 : Int) (h : ax_H) : Option (ax_H) :=
  ax_iter (fun s : Int × ax_H => lb_X5_removes_15 E x0 s.1 s.2) (x2, h)
noncomputable def f_X5_removes (E : ax_E) (x0 : Option Nat) (x1 : Int) (h : ax_H) : Option (ax_H) :=
  (ax_gR E h x0 5 2).bind fun v1 =>
  (ax_ld E h v1 100 71).bind fun v2 =>
  (ax_sto h v1 100 71 (v2 - 1)).bind fun h3 =>
  f_X5_removes_15 E x0 (4 * x1) h3
def pi_X5_removes_15 (G : ax_G) (X : ax_X) (Q : State → Prop) (x0 : Option Nat) : Int × ax_H → Prop := fun s => ∀ ls : Array Slot, ax_hl ls 3 [(0, .inr (.inr x0)), (2, .inl s.1)] → ax_W G X Q s.2 15 ls []
set_option maxHeartbeats 4000000 in
theorem wb_X5_removes_15 {l : Launch} {G : ax_G} {X : ax_X} {Q : State → Prop} {h0 h : ax_H} {ls : Array Slot} (hSF : ax_SF G) (B : ax_BL l G X cX5_removes 3 RX5 2 60) (Z : ax_Z X h0 none) (hn : X.2.2.2.2.2.2.2.2.1.name = yX5_removes.name) (x0 : Option Nat) (x2 : Int) {w : (Int × ax_H) ⊕ (ax_H)} (hl : ax_hl ls 3 [(0, .inr (.inr x0)), (2, .inl x2)]) (e : lb_X5_removes_15 G.2.2 x0 x2 h = some w) (hp : (ax_PL (pi_X5_removes_15 G X Q x0) (fun w : ax_H => Q = ax_Q G X h0 w none)) w) : ax_W G X Q h 15 ls [] := by
  unfold lb_X5_removes_15 at e
  refine ax_iload_n B dX5_removes_15 rfl hl 1 rfl ?_
  refine ax_iconst B dX5_removes_16 ?_
  refine ax_aload_n B dX5_removes_17 rfl hl 0 rfl ?_
  refine ax_ivI (y := yX5_debts) (n := 0) (As := []) B kd5 (lw_V q2210 q2212 qs47 q133 q2213) (by decide +kernel) ⟨Nat.le_of_ble_eq_true rfl, Nat.le_of_ble_eq_true rfl⟩ (fun w1 e1 => mt_X5_debts l G hSF x0 _ w1 e1) rfl hl.size (by simp only [List.map_cons, List.map_nil, List.sum_cons, List.sum_nil, va_rf_cat, ax_catI, ax_catL]; decide) dX5_removes_18 e (fun q1 e => ?_)
  refine ax_imul' B dX5_removes_21 ?_
  refine ax_icmp_ge (tgt := 51) B dX5_removes_22 (by decide) e (fun e => ?_) (fun e => ?_)
  · refine ax_aload_n B dX5_removes_25 rfl hl 0 rfl ?_
    refine ax_getR B ff_X5_24_5 (fun _ _ => rfl) dX5_removes_26 e (fun v2 e => ?_)
    refine ax_bipush B dX5_removes_29 (by decide) ?_
    refine ax_iload_n B dX5_removes_31 rfl hl 1 rfl ?_
    refine ax_iadd' B dX5_removes_32 ?_
    refine ax_aload_n B dX5_removes_33 rfl hl 0 rfl ?_
    refine ax_getR B ff_X5_24_5 (fun _ _ => rfl) dX5_removes_34 e (fun v3 e => ?_)
    refine ax_bipush B dX5_removes_37 (by decide) ?_
    refine ax_iload_n B dX5_removes_39 rfl hl 1 rfl ?_
    refine ax_iadd' B dX5_removes_40 ?_
    refine ax_iconst B dX5_removes_41 ?_
    refine ax_iadd' B dX5_removes_42 ?_
    refine ax_iald B kd100 dX5_removes_43 e (fun v4 e => ?_)
    refine ax_iast B kd100 dX5_removes_44 e (fun h5 e => ?_)
    refine ax_iinc (L' := [(2, .inl (x2 + 1)), (0, .inr (.inr x0))]) B dX5_removes_45 hl 1 rfl (by decide) rfl (fun ls hl => ?_)
    refine ax_goto (tgt := 15) B dX5_removes_48 (by decide) ?_
    cases e
    exact hp _ (hl.sub [1, 0] rfl)
  · obtain ⟨w, e9_1, rfl⟩ := Option.map_eq_some_iff.mp e
    have e := e9_1
    have e8 := e
    have hp : Q = _ := hp
    subst hp
    exact ax_return B Z dX5_removes_51 e8
theorem w_X5_removes_15 {l : Launch} {G : ax_G} {X : ax_X} {Q : State → Prop} {h0 h : ax_H} {ls : Array Slot} (hSF : ax_SF G) (B : ax_BL l G X cX5_removes 3 RX5 2 60) (Z : ax_Z X h0 none) (hn : X.2.2.2.2.2.2.2.2.1.name = yX5_removes.name) (x0 : Option Nat) (x2 : Int) {w : ax_H} (hl : ax_hl ls 3 [(0, .inr (.inr x0)), (2, .inl x2)]) (e : f_X5_removes_15 G.2.2 x0 x2 h = some w) (hp : (fun w : ax_H => Q = ax_Q G X h0 w none) w) : ax_W G X Q h 15 ls [] :=
  ax_iter_W (Pin := pi_X5_removes_15 G X Q x0) (Pout := (fun w : ax_H => Q = ax_Q G X h0 w none)) (fun s w e hp ls hl => wb_X5_removes_15 hSF B Z hn x0 s.1 hl e hp) _ _ e hp ls hl
set_option maxHeartbeats 4000000 in
theorem we_X5_removes {l : Launch} {G : ax_G} {X : ax_X} {Q : State → Prop} {h0 h : ax_H} {ls : Array Slot} (hSF : ax_SF G) (B : ax_BL l G X cX5_removes 3 RX5 2 60) (Z : ax_Z X h0 none) (hn : X.2.2.2.2.2.2.2.2.1.name = yX5_removes.name) (x0 : Option Nat) (x1 : Int) {w : ax_H} (hl : ax_hl ls 3 [(0, .inr (.inr x0)), (1, .inl x1)]) (e : f_X5_removes G.2.2 x0 x1 h = some w) (hp : (fun w : ax_H => Q = ax_Q G X h0 w none) w) : ax_W G X Q h 0 ls [] := by
  unfold f_X5_removes at e
  refine ax_aload_n B dX5_removes_0 rfl hl 0 rfl ?_
  refine ax_getR B ff_X5_24_5 (fun _ _ => rfl) dX5_removes_1 e (fun v1 e => ?_)
  refine ax_bipush B dX5_removes_4 (by decide) ?_
  refine ax_dup2 B dX5_removes_6 (rfl) (va_rf_cat _) ?_
  refine ax_iald B kd100 dX5_removes_7 e (fun v2 e => ?_)
  refine ax_iconst B dX5_removes_8 ?_
  refine ax_isub' B dX5_removes_9 ?_
  refine ax_iast B kd100 dX5_removes_10 e (fun h3 e => ?_)
  refine ax_iconst B dX5_removes_11 ?_
  refine ax_iload_n B dX5_removes_12 rfl hl 1 rfl ?_
  refine ax_imul' B dX5_removes_13 ?_
  refine ax_istore_n (L' := [(2, .inl (4 * x1)), (0, .inr (.inr x0)), (1, .inl x1)]) B dX5_removes_14 rfl hl (by decide) rfl (fun ls hl => ?_)
  exact w_X5_removes_15 hSF B Z hn x0 (4 * x1) (hl.sub [1, 0] rfl) e hp
theorem mt_X5_removes (l : Launch) (G : ax_G) (hSF : ax_SF G) (x0 : Option Nat) (x1 : Int) (h : ax_H) (w : ax_H) (e : f_X5_removes G.2.2 x0 x1 h = some w) : ax_Met l G yX5_removes cX5_removes 3 none 2 60 [va_rf x0, .int (Int32.ofInt x1)] h w none :=
  ax_enter [.inr (.inr x0), .inl x1] (y := yX5_removes) hSF (plainFor_of_name (by decide +kernel)) (Nat.le_of_ble_eq_true rfl) (fun X ls B Z hn hl => we_X5_removes hSF B Z hn x0 x1 hl e rfl)
def dkwX5_lowers_4 : List UInt8 := [154, 0, 12, 42, 21, 5, 182, 1, 107, 167, 0, 6, 132, 5, 1, 167, 255, 154, 177]
abbrev dktX5_lowers_4 : List UInt8 := dkwX5_lowers_4 ++ []
def dkwX5_lowers_3 : List UInt8 := [79, 21, 4, 21, 6, 100, 54, 4, 42, 180, 0, 24, 16, 7, 7, 21, 5, 104, 96, 5, 96, 46]
abbrev dktX5_lowers_3 : List UInt8 := dkwX5_lowers_3 ++ dktX5_lowers_4
def dkwX5_lowers_2 : List UInt8 := [46, 184, 1, 79, 54, 6, 42, 180, 0, 24, 16, 7, 7, 21, 5, 104, 96, 5, 96, 92, 46, 21, 6, 100]
abbrev dktX5_lowers_2 : List UInt8 := dkwX5_lowers_2 ++ dktX5_lowers_3
def dkwX5_lowers_1 : List UInt8 := [154, 0, 9, 132, 5, 1, 167, 255, 233, 21, 4, 42, 180, 0, 24, 16, 7, 7, 21, 5, 104, 96, 5, 96]
abbrev dktX5_lowers_1 : List UInt8 := dkwX5_lowers_1 ++ dktX5_lowers_2
def dkwX5_lowers_0 : List UInt8 := [29, 54, 4, 3, 54, 5, 21, 5, 42, 182, 0, 137, 162, 0, 99, 42, 21, 5, 27, 28, 182, 0, 166]
abbrev dktX5_lowers_0 : List UInt8 := dkwX5_lowers_0 ++ dktX5_lowers_1
theorem dksX5_lowers_0 : cX5_lowers.data.toList.drop 0 = dktX5_lowers_0 := by decide +kernel
theorem dksX5_lowers_1 : cX5_lowers.data.toList.drop 23 = dktX5_lowers_1 := dk_seg dksX5_lowers_0 23 rfl rfl
theorem dksX5_lowers_2 : cX5_lowers.data.toList.drop 47 = dktX5_lowers_2 := dk_seg dksX5_lowers_1 24 rfl rfl
theorem dksX5_lowers_3 : cX5_lowers.data.toList.drop 71 = dktX5_lowers_3 := dk_seg dksX5_lowers_2 24 rfl rfl
theorem dksX5_lowers_4 : cX5_lowers.data.toList.drop 93 = dktX5_lowers_4 := dk_seg dksX5_lowers_3 22 rfl rfl
theorem dX5_lowers_0 : decode cX5_lowers 0 = .ok (.iload_n 3, 1) := dk_29 (dk_at dksX5_lowers_0 0 rfl rfl)
theorem dX5_lowers_1 : decode cX5_lowers 1 = .ok (.istore 4, 2) := dk_54 4 (dk_at dksX5_lowers_0 1 rfl rfl)
theorem dX5_lowers_3 : decode cX5_lowers 3 = .ok (.iconst 0, 1) := dk_3 (dk_at dksX5_lowers_0 3 rfl rfl)
theorem dX5_lowers_4 : decode cX5_lowers 4 = .ok (.istore 5, 2) := dk_54 5 (dk_at dksX5_lowers_0 4 rfl rfl)
theorem dX5_lowers_6 : decode cX5_lowers 6 = .ok (.iload 5, 2) := dk_21 5 (dk_at dksX5_lowers_0 6 rfl rfl)
theorem dX5_lowers_8 : decode cX5_lowers 8 = .ok (.aload_n 0, 1) := dk_42 (dk_at dksX5_lowers_0 8 rfl rfl)
theorem dX5_lowers_9 : decode cX5_lowers 9 = .ok (.invokevirtual 137, 3) := dk_182 0 137 (dk_at dksX5_lowers_0 9 rfl rfl)
theorem dX5_lowers_12 : decode cX5_lowers 12 = .ok (.if_icmp .ge 99, 3) := dk_162 0 99 (dk_at dksX5_lowers_0 12 rfl rfl)
theorem dX5_lowers_15 : decode cX5_lowers 15 = .ok (.aload_n 0, 1) := dk_42 (dk_at dksX5_lowers_0 15 rfl rfl)
theorem dX5_lowers_16 : decode cX5_lowers 16 = .ok (.iload 5, 2) := dk_21 5 (dk_at dksX5_lowers_0 16 rfl rfl)
theorem dX5_lowers_18 : decode cX5_lowers 18 = .ok (.iload_n 1, 1) := dk_27 (dk_at dksX5_lowers_0 18 rfl rfl)
theorem dX5_lowers_19 : decode cX5_lowers 19 = .ok (.iload_n 2, 1) := dk_28 (dk_at dksX5_lowers_0 19 rfl rfl)
theorem dX5_lowers_20 : decode cX5_lowers 20 = .ok (.invokevirtual 166, 3) := dk_182 0 166 (dk_at dksX5_lowers_0 20 rfl rfl)
theorem dX5_lowers_23 : decode cX5_lowers 23 = .ok (.ifCond .ne 9, 3) := dk_154 0 9 (dk_at dksX5_lowers_1 0 rfl rfl)
theorem dX5_lowers_26 : decode cX5_lowers 26 = .ok (.iinc 5 1, 3) := dk_132 5 1 (dk_at dksX5_lowers_1 3 rfl rfl)
theorem dX5_lowers_29 : decode cX5_lowers 29 = .ok (.goto (-23), 3) := dk_167 255 233 (dk_at dksX5_lowers_1 6 rfl rfl)
theorem dX5_lowers_32 : decode cX5_lowers 32 = .ok (.iload 4, 2) := dk_21 4 (dk_at dksX5_lowers_1 9 rfl rfl)
theorem dX5_lowers_34 : decode cX5_lowers 34 = .ok (.aload_n 0, 1) := dk_42 (dk_at dksX5_lowers_1 11 rfl rfl)
theorem dX5_lowers_35 : decode cX5_lowers 35 = .ok (.getfield 24, 3) := dk_180 0 24 (dk_at dksX5_lowers_1 12 rfl rfl)
theorem dX5_lowers_38 : decode cX5_lowers 38 = .ok (.bipush 7, 2) := dk_16 7 (dk_at dksX5_lowers_1 15 rfl rfl)
theorem dX5_lowers_40 : decode cX5_lowers 40 = .ok (.iconst 4, 1) := dk_7 (dk_at dksX5_lowers_1 17 rfl rfl)
theorem dX5_lowers_41 : decode cX5_lowers 41 = .ok (.iload 5, 2) := dk_21 5 (dk_at dksX5_lowers_1 18 rfl rfl)
theorem dX5_lowers_43 : decode cX5_lowers 43 = .ok (.imul, 1) := dk_104 (dk_at dksX5_lowers_1 20 rfl rfl)
theorem dX5_lowers_44 : decode cX5_lowers 44 = .ok (.iadd, 1) := dk_96 (dk_at dksX5_lowers_1 21 rfl rfl)
theorem dX5_lowers_45 : decode cX5_lowers 45 = .ok (.iconst 2, 1) := dk_5 (dk_at dksX5_lowers_1 22 rfl rfl)
theorem dX5_lowers_46 : decode cX5_lowers 46 = .ok (.iadd, 1) := dk_96 (dk_at dksX5_lowers_1 23 rfl rfl)
theorem dX5_lowers_47 : decode cX5_lowers 47 = .ok (.iaload, 1) := dk_46 (dk_at dksX5_lowers_2 0 rfl rfl)
theorem dX5_lowers_48 : decode cX5_lowers 48 = .ok (.invokestatic 335, 3) := dk_184 1 79 (dk_at dksX5_lowers_2 1 rfl rfl)
theorem dX5_lowers_51 : decode cX5_lowers 51 = .ok (.istore 6, 2) := dk_54 6 (dk_at dksX5_lowers_2 4 rfl rfl)
theorem dX5_lowers_53 : decode cX5_lowers 53 = .ok (.aload_n 0, 1) := dk_42 (dk_at dksX5_lowers_2 6 rfl rfl)
theorem dX5_lowers_54 : decode cX5_lowers 54 = .ok (.getfield 24, 3) := dk_180 0 24 (dk_at dksX5_lowers_2 7 rfl rfl)
theorem dX5_lowers_57 : decode cX5_lowers 57 = .ok (.bipush 7, 2) := dk_16 7 (dk_at dksX5_lowers_2 10 rfl rfl)
theorem dX5_lowers_59 : decode cX5_lowers 59 = .ok (.iconst 4, 1) := dk_7 (dk_at dksX5_lowers_2 12 rfl rfl)
theorem dX5_lowers_60 : decode cX5_lowers 60 = .ok (.iload 5, 2) := dk_21 5 (dk_at dksX5_lowers_2 13 rfl rfl)
theorem dX5_lowers_62 : decode cX5_lowers 62 = .ok (.imul, 1) := dk_104 (dk_at dksX5_lowers_2 15 rfl rfl)
theorem dX5_lowers_63 : decode cX5_lowers 63 = .ok (.iadd, 1) := dk_96 (dk_at dksX5_lowers_2 16 rfl rfl)
theorem dX5_lowers_64 : decode cX5_lowers 64 = .ok (.iconst 2, 1) := dk_5 (dk_at dksX5_lowers_2 17 rfl rfl)
theorem dX5_lowers_65 : decode cX5_lowers 65 = .ok (.iadd, 1) := dk_96 (dk_at dksX5_lowers_2 18 rfl rfl)
theorem dX5_lowers_66 : decode cX5_lowers 66 = .ok (.dup2, 1) := dk_92 (dk_at dksX5_lowers_2 19 rfl rfl)
theorem dX5_lowers_67 : decode cX5_lowers 67 = .ok (.iaload, 1) := dk_46 (dk_at dksX5_lowers_2 20 rfl rfl)
theorem dX5_lowers_68 : decode cX5_lowers 68 = .ok (.iload 6, 2) := dk_21 6 (dk_at dksX5_lowers_2 21 rfl rfl)
theorem dX5_lowers_70 : decode cX5_lowers 70 = .ok (.isub, 1) := dk_100 (dk_at dksX5_lowers_2 23 rfl rfl)
theorem dX5_lowers_71 : decode cX5_lowers 71 = .ok (.iastore, 1) := dk_79 (dk_at dksX5_lowers_3 0 rfl rfl)
theorem dX5_lowers_72 : decode cX5_lowers 72 = .ok (.iload 4, 2) := dk_21 4 (dk_at dksX5_lowers_3 1 rfl rfl)
theorem dX5_lowers_74 : decode cX5_lowers 74 = .ok (.iload 6, 2) := dk_21 6 (dk_at dksX5_lowers_3 3 rfl rfl)
theorem dX5_lowers_76 : decode cX5_lowers 76 = .ok (.isub, 1) := dk_100 (dk_at dksX5_lowers_3 5 rfl rfl)
theorem dX5_lowers_77 : decode cX5_lowers 77 = .ok (.istore 4, 2) := dk_54 4 (dk_at dksX5_lowers_3 6 rfl rfl)
theorem dX5_lowers_79 : decode cX5_lowers 79 = .ok (.aload_n 0, 1) := dk_42 (dk_at dksX5_lowers_3 8 rfl rfl)
theorem dX5_lowers_80 : decode cX5_lowers 80 = .ok (.getfield 24, 3) := dk_180 0 24 (dk_at dksX5_lowers_3 9 rfl rfl)
theorem dX5_lowers_83 : decode cX5_lowers 83 = .ok (.bipush 7, 2) := dk_16 7 (dk_at dksX5_lowers_3 12 rfl rfl)
theorem dX5_lowers_85 : decode cX5_lowers 85 = .ok (.iconst 4, 1) := dk_7 (dk_at dksX5_lowers_3 14 rfl rfl)
theorem dX5_lowers_86 : decode cX5_lowers 86 = .ok (.iload 5, 2) := dk_21 5 (dk_at dksX5_lowers_3 15 rfl rfl)
theorem dX5_lowers_88 : decode cX5_lowers 88 = .ok (.imul, 1) := dk_104 (dk_at dksX5_lowers_3 17 rfl rfl)
theorem dX5_lowers_89 : decode cX5_lowers 89 = .ok (.iadd, 1) := dk_96 (dk_at dksX5_lowers_3 18 rfl rfl)
theorem dX5_lowers_90 : decode cX5_lowers 90 = .ok (.iconst 2, 1) := dk_5 (dk_at dksX5_lowers_3 19 rfl rfl)
theorem dX5_lowers_91 : decode cX5_lowers 91 = .ok (.iadd, 1) := dk_96 (dk_at dksX5_lowers_3 20 rfl rfl)
theorem dX5_lowers_92 : decode cX5_lowers 92 = .ok (.iaload, 1) := dk_46 (dk_at dksX5_lowers_3 21 rfl rfl)
theorem dX5_lowers_93 : decode cX5_lowers 93 = .ok (.ifCond .ne 12, 3) := dk_154 0 12 (dk_at dksX5_lowers_4 0 rfl rfl)
theorem dX5_lowers_96 : decode cX5_lowers 96 = .ok (.aload_n 0, 1) := dk_42 (dk_at dksX5_lowers_4 3 rfl rfl)
theorem dX5_lowers_97 : decode cX5_lowers 97 = .ok (.iload 5, 2) := dk_21 5 (dk_at dksX5_lowers_4 4 rfl rfl)
theorem dX5_lowers_99 : decode cX5_lowers 99 = .ok (.invokevirtual 363, 3) := dk_182 1 107 (dk_at dksX5_lowers_4 6 rfl rfl)
theorem dX5_lowers_102 : decode cX5_lowers 102 = .ok (.goto 6, 3) := dk_167 0 6 (dk_at dksX5_lowers_4 9 rfl rfl)
theorem dX5_lowers_105 : decode cX5_lowers 105 = .ok (.iinc 5 1, 3) := dk_132 5 1 (dk_at dksX5_lowers_4 12 rfl rfl)
theorem dX5_lowers_108 : decode cX5_lowers 108 = .ok (.goto (-102), 3) := dk_167 255 154 (dk_at dksX5_lowers_4 15 rfl rfl)
theorem dX5_lowers_111 : decode cX5_lowers 111 = .ok (.return_, 1) := dk_177 (dk_at dksX5_lowers_4 18 rfl rfl)
noncomputable def f_X5_lowers_108 (E : ax_E) (x0 : Option Nat) (x1 : Int) (x2 : Int) (x4 : Int) (x5 : Int) (h : ax_H) : Option ((Int × Int × ax_H) ⊕ (ax_H)) :=
  some (.inl (x4, x5, h))
noncomputable def lb_X5_lowers_6 (E : ax_E) (x0 : Option Nat) (x1 : Int) (x2 : Int) (x4 : Int) (x5 : Int) (h : ax_H) : Option ((Int × Int × ax_H) ⊕ (ax_H)) :=
  (ax_ce E h x0 5).bind fun _ => (f_X5_debts E x0 h).bind fun q1 =>
  if i2 x5 < i2 q1.1 then
    (ax_ce E q1.2 x0 5).bind fun _ => (f_X5_isOf E x0 x5 x1 x2 q1.2).bind fun q2 =>
    if i2 q2.1 = 0 then
      some (.inl (x4, (x5 + 1), q2.2))
    else
      (ax_gR E q2.2 x0 5 2).bind fun v3 =>
      (ax_ld E q2.2 v3 100 ((7 + (4 * x5)) + 2)).bind fun v4 =>
      (f_X5_lesser E x4 v4 q2.2).bind fun q5 =>
      (ax_gR E q5.2 x0 5 2).bind fun v6 =>
      (ax_ld E q5.2 v6 100 ((7 + (4 * x5)) + 2)).bind fun v7 =>
      (ax_sto q5.2 v6 100 ((7 + (4 * x5)) + 2) (v7 - q5.1)).bind fun h8 =>
      (ax_gR E h8 x0 5 2).bind fun v9 =>
      (ax_ld E h8 v9 100 ((7 + (4 * x5)) + 2)).bind fun v10 =>
      if i2 v10 = 0 then
        (ax_ce E h8 x0 5).bind fun _ => (f_X5_removes E x0 x5 h8).bind fun h11 =>
        f_X5_lowers_108 E x0 x1 x2 (x4 - q5.1) x5 h11
      else
        f_X5_lowers_108 E x0 x1 x2 (x4 - q5.1) (x5 + 1) h8
  else
    (some q1.2).map Sum.inr
noncomputable def f_X5_lowers_6 (E : ax_E) (x0 : Option Nat) (x1 : Int) (x2 : Int) (x4 : Int) (x5 : Int) (h : ax_H) : Option (ax_H) :=
  ax_iter (fun s : Int × Int × ax_H => lb_X5_lowers_6 E x0 x1 x2 s.1 s.2.1 s.2.2) (x4, x5, h)
noncomputable def f_X5_lowers (E : ax_E) (x0 : Option Nat) (x1 : Int) (x2 : Int) (x3 : Int) (h : ax_H) : Option (ax_H) :=
  f_X5_lowers_6 E x0 x1 x2 x3 0 h
def pi_X5_lowers_6 (G : ax_G) (X : ax_X) (Q : State → Prop) (x0 : Option Nat) (x1 : Int) (x2 : Int) : Int × Int × ax_H → Prop := fun s => ∀ ls : Array Slot, ax_hl ls 7 [(0, .inr (.inr x0)), (1, .inl x1), (2, .inl x2), (4, .inl s.1), (5, .inl s.2.1)] → ax_W G X Q s.2.2 6 ls []
set_option maxHeartbeats 4000000 in
theorem w_X5_lowers_108 {l : Launch} {G : ax_G} {X : ax_X} {Q : State → Prop} {h0 h : ax_H} {ls : Array Slot} (hSF : ax_SF G) (B : ax_BL l G X cX5_lowers 7 RX5 3 82) (Z : ax_Z X h0 none) (hn : X.2.2.2.2.2.2.2.2.1.name = yX5_lowers.name) (x0 : Option Nat) (x1 : Int) (x2 : Int) (x4 : Int) (x5 : Int) {w : (Int × Int × ax_H) ⊕ (ax_H)} (hl : ax_hl ls 7 [(0, .inr (.inr x0)), (1, .inl x1), (2, .inl x2), (4, .inl x4), (5, .inl x5)]) (e : f_X5_lowers_108 G.2.2 x0 x1 x2 x4 x5 h = some w) (hp : (ax_PL (pi_X5_lowers_6 G X Q x0 x1 x2) (fun w : ax_H => Q = ax_Q G X h0 w none)) w) : ax_W G X Q h 108 ls [] := by
  unfold f_X5_lowers_108 at e
  refine ax_goto (tgt := 6) B dX5_lowers_108 (by decide) ?_
  cases e
  exact hp _ (hl.sub [0, 1, 2, 3, 4] rfl)
set_option maxHeartbeats 4000000 in
theorem wb_X5_lowers_6 {l : Launch} {G : ax_G} {X : ax_X} {Q : State → Prop} {h0 h : ax_H} {ls : Array Slot} (hSF : ax_SF G) (B : ax_BL l G X cX5_lowers 7 RX5 3 82) (Z : ax_Z X h0 none) (hn : X.2.2.2.2.2.2.2.2.1.name = yX5_lowers.name) (x0 : Option Nat) (x1 : Int) (x2 : Int) (x4 : Int) (x5 : Int) {w : (Int × Int × ax_H) ⊕ (ax_H)} (hl : ax_hl ls 7 [(0, .inr (.inr x0)), (1, .inl x1), (2, .inl x2), (4, .inl x4), (5, .inl x5)]) (e : lb_X5_lowers_6 G.2.2 x0 x1 x2 x4 x5 h = some w) (hp : (ax_PL (pi_X5_lowers_6 G X Q x0 x1 x2) (fun w : ax_H => Q = ax_Q G X h0 w none)) w) : ax_W G X Q h 6 ls [] := by
  unfold lb_X5_lowers_6 at e
  refine ax_iload B dX5_lowers_6 hl 4 rfl ?_
  refine ax_aload_n B dX5_lowers_8 rfl hl 0 rfl ?_
  refine ax_ivI (y := yX5_debts) (n := 0) (As := []) B kd5 (lw_V q2210 q2212 qs47 q133 q2213) (by decide +kernel) ⟨Nat.le_of_ble_eq_true rfl, Nat.le_of_ble_eq_true rfl⟩ (fun w1 e1 => mt_X5_debts l G hSF x0 _ w1 e1) rfl hl.size (by simp only [List.map_cons, List.map_nil, List.sum_cons, List.sum_nil, va_rf_cat, ax_catI, ax_catL]; decide) dX5_lowers_9 e (fun q1 e => ?_)
  refine ax_icmp_ge (tgt := 111) B dX5_lowers_12 (by decide) e (fun e => ?_) (fun e => ?_)
  · refine ax_aload_n B dX5_lowers_15 rfl hl 0 rfl ?_
    refine ax_iload B dX5_lowers_16 hl 4 rfl ?_
    refine ax_iload_n B dX5_lowers_18 rfl hl 1 rfl ?_
    refine ax_iload_n B dX5_lowers_19 rfl hl 2 rfl ?_
    refine ax_ivI (y := yX5_isOf) (n := 3) (As := [.int (Int32.ofInt x5), .int (Int32.ofInt x1), .int (Int32.ofInt x2)]) B kd5 (lw_V q2238 q2240 qs53 q133 q2241) (by decide +kernel) ⟨Nat.le_of_ble_eq_true rfl, Nat.le_of_ble_eq_true rfl⟩ (fun w1 e1 => mt_X5_isOf l G hSF x0 x5 x1 x2 _ w1 e1) rfl hl.size (by decide) dX5_lowers_20 e (fun q2 e => ?_)
    refine ax_if_ne (tgt := 32) B dX5_lowers_23 (by decide) e (fun e => ?_) (fun e => ?_)
    · refine ax_iinc (L' := [(5, .inl (x5 + 1)), (0, .inr (.inr x0)), (1, .inl x1), (2, .inl x2), (4, .inl x4)]) B dX5_lowers_26 hl 4 rfl (by decide) rfl (fun ls hl => ?_)
      refine ax_goto (tgt := 6) B dX5_lowers_29 (by decide) ?_
      cases e
      exact hp _ (hl.sub [1, 2, 3, 4, 0] rfl)
    · refine ax_iload B dX5_lowers_32 hl 3 rfl ?_
      refine ax_aload_n B dX5_lowers_34 rfl hl 0 rfl ?_
      refine ax_getR B ff_X5_24_5 (fun _ _ => rfl) dX5_lowers_35 e (fun v3 e => ?_)
      refine ax_bipush B dX5_lowers_38 (by decide) ?_
      refine ax_iconst B dX5_lowers_40 ?_
      refine ax_iload B dX5_lowers_41 hl 4 rfl ?_
      refine ax_imul' B dX5_lowers_43 ?_
      refine ax_iadd' B dX5_lowers_44 ?_
      refine ax_iconst B dX5_lowers_45 ?_
      refine ax_iadd' B dX5_lowers_46 ?_
      refine ax_iald B kd100 dX5_lowers_47 e (fun v4 e => ?_)
      refine ax_isI (y := yX5_lesser) (n := 2) (As := [.int (Int32.ofInt x4), .int (Int32.ofInt v4)]) B (lw_S q2439 q2440 q133 q2441) (by decide +kernel) ⟨Nat.le_of_ble_eq_true rfl, Nat.le_of_ble_eq_true rfl⟩ (fun w1 e1 => mt_X5_lesser l G hSF x4 v4 _ w1 e1) rfl hl.size (by decide) dX5_lowers_48 e (fun q5 e => ?_)
      refine ax_istore (L' := [(6, .inl q5.1), (0, .inr (.inr x0)), (1, .inl x1), (2, .inl x2), (4, .inl x4), (5, .inl x5)]) B dX5_lowers_51 hl (by decide) rfl (fun ls hl => ?_)
      refine ax_aload_n B dX5_lowers_53 rfl hl 1 rfl ?_
      refine ax_getR B ff_X5_24_5 (fun _ _ => rfl) dX5_lowers_54 e (fun v6 e => ?_)
      refine ax_bipush B dX5_lowers_57 (by decide) ?_
      refine ax_iconst B dX5_lowers_59 ?_
      refine ax_iload B dX5_lowers_60 hl 5 rfl ?_
      refine ax_imul' B dX5_lowers_62 ?_
      refine ax_iadd' B dX5_lowers_63 ?_
      refine ax_iconst B dX5_lowers_64 ?_
      refine ax_iadd' B dX5_lowers_65 ?_
      refine ax_dup2 B dX5_lowers_66 (rfl) (va_rf_cat _) ?_
      refine ax_iald B kd100 dX5_lowers_67 e (fun v7 e => ?_)
      refine ax_iload B dX5_lowers_68 hl 0 rfl ?_
      refine ax_isub' B dX5_lowers_70 ?_
      refine ax_iast B kd100 dX5_lowers_71 e (fun h8 e => ?_)
      refine ax_iload B dX5_lowers_72 hl 4 rfl ?_
      refine ax_iload B dX5_lowers_74 hl 0 rfl ?_
      refine ax_isub' B dX5_lowers_76 ?_
      refine ax_istore (L' := [(4, .inl (x4 - q5.1)), (6, .inl q5.1), (0, .inr (.inr x0)), (1, .inl x1), (2, .inl x2), (5, .inl x5)]) B dX5_lowers_77 hl (by decide) rfl (fun ls hl => ?_)
      refine ax_aload_n B dX5_lowers_79 rfl hl 2 rfl ?_
      refine ax_getR B ff_X5_24_5 (fun _ _ => rfl) dX5_lowers_80 e (fun v9 e => ?_)
      refine ax_bipush B dX5_lowers_83 (by decide) ?_
      refine ax_iconst B dX5_lowers_85 ?_
      refine ax_iload B dX5_lowers_86 hl 5 rfl ?_
      refine ax_imul' B dX5_lowers_88 ?_
      refine ax_iadd' B dX5_lowers_89 ?_
      refine ax_iconst B dX5_lowers_90 ?_
      refine ax_iadd' B dX5_lowers_91 ?_
      refine ax_iald B kd100 dX5_lowers_92 e (fun v10 e => ?_)
      refine ax_if_ne (tgt := 105) B dX5_lowers_93 (by decide) e (fun e => ?_) (fun e => ?_)
      · refine ax_aload_n B dX5_lowers_96 rfl hl 2 rfl ?_
        refine ax_iload B dX5_lowers_97 hl 5 rfl ?_
        refine ax_ivV (y := yX5_removes) (n := 1) (As := [.int (Int32.ofInt x5)]) B kd5 (lw_V q2498 q2500 qs100 q133 q2501) (by decide +kernel) ⟨Nat.le_of_ble_eq_true rfl, Nat.le_of_ble_eq_true rfl⟩ (fun w1 e1 => mt_X5_removes l G hSF x0 x5 _ w1 e1) rfl hl.size (by decide) dX5_lowers_99 e (fun h11 e => ?_)
        refine ax_goto (tgt := 108) B dX5_lowers_102 (by decide) ?_
        exact w_X5_lowers_108 hSF B Z hn x0 x1 x2 (x4 - q5.1) x5 (hl.sub [2, 3, 4, 0, 5] rfl) e hp
      · refine ax_iinc (L' := [(5, .inl (x5 + 1)), (4, .inl (x4 - q5.1)), (6, .inl q5.1), (0, .inr (.inr x0)), (1, .inl x1), (2, .inl x2)]) B dX5_lowers_105 hl 5 rfl (by decide) rfl (fun ls hl => ?_)
        exact w_X5_lowers_108 hSF B Z hn x0 x1 x2 (x4 - q5.1) (x5 + 1) (hl.sub [3, 4, 5, 1, 0] rfl) e hp
  · obtain ⟨w, e9_1, rfl⟩ := Option.map_eq_some_iff.mp e
    have e := e9_1
    have e8 := e
    have hp : Q = _ := hp
    subst hp
    exact ax_return B Z dX5_lowers_111 e8
theorem w_X5_lowers_6 {l : Launch} {G : ax_G} {X : ax_X} {Q : State → Prop} {h0 h : ax_H} {ls : Array Slot} (hSF : ax_SF G) (B : ax_BL l G X cX5_lowers 7 RX5 3 82) (Z : ax_Z X h0 none) (hn : X.2.2.2.2.2.2.2.2.1.name = yX5_lowers.name) (x0 : Option Nat) (x1 : Int) (x2 : Int) (x4 : Int) (x5 : Int) {w : ax_H} (hl : ax_hl ls 7 [(0, .inr (.inr x0)), (1, .inl x1), (2, .inl x2), (4, .inl x4), (5, .inl x5)]) (e : f_X5_lowers_6 G.2.2 x0 x1 x2 x4 x5 h = some w) (hp : (fun w : ax_H => Q = ax_Q G X h0 w none) w) : ax_W G X Q h 6 ls [] :=
  ax_iter_W (Pin := pi_X5_lowers_6 G X Q x0 x1 x2) (Pout := (fun w : ax_H => Q = ax_Q G X h0 w none)) (fun s w e hp ls hl => wb_X5_lowers_6 hSF B Z hn x0 x1 x2 s.1 s.2.1 hl e hp) _ _ e hp ls hl
set_option maxHeartbeats 4000000 in
theorem we_X5_lowers {l : Launch} {G : ax_G} {X : ax_X} {Q : State → Prop} {h0 h : ax_H} {ls : Array Slot} (hSF : ax_SF G) (B : ax_BL l G X cX5_lowers 7 RX5 3 82) (Z : ax_Z X h0 none) (hn : X.2.2.2.2.2.2.2.2.1.name = yX5_lowers.name) (x0 : Option Nat) (x1 : Int) (x2 : Int) (x3 : Int) {w : ax_H} (hl : ax_hl ls 7 [(0, .inr (.inr x0)), (1, .inl x1), (2, .inl x2), (3, .inl x3)]) (e : f_X5_lowers G.2.2 x0 x1 x2 x3 h = some w) (hp : (fun w : ax_H => Q = ax_Q G X h0 w none) w) : ax_W G X Q h 0 ls [] := by
  unfold f_X5_lowers at e
  refine ax_iload_n B dX5_lowers_0 rfl hl 3 rfl ?_
  refine ax_istore (L' := [(4, .inl x3), (0, .inr (.inr x0)), (1, .inl x1), (2, .inl x2), (3, .inl x3)]) B dX5_lowers_1 hl (by decide) rfl (fun ls hl => ?_)
  refine ax_iconst B dX5_lowers_3 ?_
  refine ax_istore (L' := [(5, .inl 0), (4, .inl x3), (0, .inr (.inr x0)), (1, .inl x1), (2, .inl x2), (3, .inl x3)]) B dX5_lowers_4 hl (by decide) rfl (fun ls hl => ?_)
  exact w_X5_lowers_6 hSF B Z hn x0 x1 x2 x3 0 (hl.sub [2, 3, 4, 1, 0] rfl) e hp
theorem mt_X5_lowers (l : Launch) (G : ax_G) (hSF : ax_SF G) (x0 : Option Nat) (x1 : Int) (x2 : Int) (x3 : Int) (h : ax_H) (w : ax_H) (e : f_X5_lowers G.2.2 x0 x1 x2 x3 h = some w) : ax_Met l G yX5_lowers cX5_lowers 7 none 3 82 [va_rf x0, .int (Int32.ofInt x1), .int (Int32.ofInt x2), .int (Int32.ofInt x3)] h w none :=
  ax_enter [.inr (.inr x0), .inl x1, .inl x2, .inl x3] (y := yX5_lowers) hSF (plainFor_of_name (by decide +kernel)) (Nat.le_of_ble_eq_true rfl) (fun X ls B Z hn hl => we_X5_lowers hSF B Z hn x0 x1 x2 x3 hl e rfl)
def dkwX5_repays_1 : List UInt8 := [42, 27, 28, 29, 182, 1, 110, 177]
abbrev dktX5_repays_1 : List UInt8 := dkwX5_repays_1 ++ []
def dkwX5_repays_0 : List UInt8 := [42, 180, 0, 24, 3, 27, 96, 92, 46, 29, 100, 79, 42, 180, 0, 24, 3, 28, 96, 92, 46, 29, 96, 79]
abbrev dktX5_repays_0 : List UInt8 := dkwX5_repays_0 ++ dktX5_repays_1
theorem dksX5_repays_0 : cX5_repays.data.toList.drop 0 = dktX5_repays_0 := by decide +kernel
theorem dksX5_repays_1 : cX5_repays.data.toList.drop 24 = dktX5_repays_1 := dk_seg dksX5_repays_0 24 rfl rfl
theorem dX5_repays_0 : decode cX5_repays 0 = .ok (.aload_n 0, 1) := dk_42 (dk_at dksX5_repays_0 0 rfl rfl)
theorem dX5_repays_1 : decode cX5_repays 1 = .ok (.getfield 24, 3) := dk_180 0 24 (dk_at dksX5_repays_0 1 rfl rfl)
theorem dX5_repays_4 : decode cX5_repays 4 = .ok (.iconst 0, 1) := dk_3 (dk_at dksX5_repays_0 4 rfl rfl)
theorem dX5_repays_5 : decode cX5_repays 5 = .ok (.iload_n 1, 1) := dk_27 (dk_at dksX5_repays_0 5 rfl rfl)
theorem dX5_repays_6 : decode cX5_repays 6 = .ok (.iadd, 1) := dk_96 (dk_at dksX5_repays_0 6 rfl rfl)
theorem dX5_repays_7 : decode cX5_repays 7 = .ok (.dup2, 1) := dk_92 (dk_at dksX5_repays_0 7 rfl rfl)
theorem dX5_repays_8 : decode cX5_repays 8 = .ok (.iaload, 1) := dk_46 (dk_at dksX5_repays_0 8 rfl rfl)
theorem dX5_repays_9 : decode cX5_repays 9 = .ok (.iload_n 3, 1) := dk_29 (dk_at dksX5_repays_0 9 rfl rfl)
theorem dX5_repays_10 : decode cX5_repays 10 = .ok (.isub, 1) := dk_100 (dk_at dksX5_repays_0 10 rfl rfl)
theorem dX5_repays_11 : decode cX5_repays 11 = .ok (.iastore, 1) := dk_79 (dk_at dksX5_repays_0 11 rfl rfl)
theorem dX5_repays_12 : decode cX5_repays 12 = .ok (.aload_n 0, 1) := dk_42 (dk_at dksX5_repays_0 12 rfl rfl)
theorem dX5_repays_13 : decode cX5_repays 13 = .ok (.getfield 24, 3) := dk_180 0 24 (dk_at dksX5_repays_0 13 rfl rfl)
theorem dX5_repays_16 : decode cX5_repays 16 = .ok (.iconst 0, 1) := dk_3 (dk_at dksX5_repays_0 16 rfl rfl)
theorem dX5_repays_17 : decode cX5_repays 17 = .ok (.iload_n 2, 1) := dk_28 (dk_at dksX5_repays_0 17 rfl rfl)
theorem dX5_repays_18 : decode cX5_repays 18 = .ok (.iadd, 1) := dk_96 (dk_at dksX5_repays_0 18 rfl rfl)
theorem dX5_repays_19 : decode cX5_repays 19 = .ok (.dup2, 1) := dk_92 (dk_at dksX5_repays_0 19 rfl rfl)
theorem dX5_repays_20 : decode cX5_repays 20 = .ok (.iaload, 1) := dk_46 (dk_at dksX5_repays_0 20 rfl rfl)
theorem dX5_repays_21 : decode cX5_repays 21 = .ok (.iload_n 3, 1) := dk_29 (dk_at dksX5_repays_0 21 rfl rfl)
theorem dX5_repays_22 : decode cX5_repays 22 = .ok (.iadd, 1) := dk_96 (dk_at dksX5_repays_0 22 rfl rfl)
theorem dX5_repays_23 : decode cX5_repays 23 = .ok (.iastore, 1) := dk_79 (dk_at dksX5_repays_0 23 rfl rfl)
theorem dX5_repays_24 : decode cX5_repays 24 = .ok (.aload_n 0, 1) := dk_42 (dk_at dksX5_repays_1 0 rfl rfl)
theorem dX5_repays_25 : decode cX5_repays 25 = .ok (.iload_n 1, 1) := dk_27 (dk_at dksX5_repays_1 1 rfl rfl)
theorem dX5_repays_26 : decode cX5_repays 26 = .ok (.iload_n 2, 1) := dk_28 (dk_at dksX5_repays_1 2 rfl rfl)
theorem dX5_repays_27 : decode cX5_repays 27 = .ok (.iload_n 3, 1) := dk_29 (dk_at dksX5_repays_1 3 rfl rfl)
theorem dX5_repays_28 : decode cX5_repays 28 = .ok (.invokevirtual 366, 3) := dk_182 1 110 (dk_at dksX5_repays_1 4 rfl rfl)
theorem dX5_repays_31 : decode cX5_repays 31 = .ok (.return_, 1) := dk_177 (dk_at dksX5_repays_1 7 rfl rfl)
noncomputable def f_X5_repays (E : ax_E) (x0 : Option Nat) (x1 : Int) (x2 : Int) (x3 : Int) (h : ax_H) : Option (ax_H) :=
  (ax_gR E h x0 5 2).bind fun v1 =>
  (ax_ld E h v1 100 (0 + x1)).bind fun v2 =>
  (ax_sto h v1 100 (0 + x1) (v2 - x3)).bind fun h3 =>
  (ax_gR E h3 x0 5 2).bind fun v4 =>
  (ax_ld E h3 v4 100 (0 + x2)).bind fun v5 =>
  (ax_sto h3 v4 100 (0 + x2) (v5 + x3)).bind fun h6 =>
  (ax_ce E h6 x0 5).bind fun _ => (f_X5_lowers E x0 x1 x2 x3 h6).bind fun h7 =>
  some h7
set_option maxHeartbeats 4000000 in
theorem we_X5_repays {l : Launch} {G : ax_G} {X : ax_X} {Q : State → Prop} {h0 h : ax_H} {ls : Array Slot} (hSF : ax_SF G) (B : ax_BL l G X cX5_repays 4 RX5 4 108) (Z : ax_Z X h0 none) (hn : X.2.2.2.2.2.2.2.2.1.name = yX5_repays.name) (x0 : Option Nat) (x1 : Int) (x2 : Int) (x3 : Int) {w : ax_H} (hl : ax_hl ls 4 [(0, .inr (.inr x0)), (1, .inl x1), (2, .inl x2), (3, .inl x3)]) (e : f_X5_repays G.2.2 x0 x1 x2 x3 h = some w) (hp : (fun w : ax_H => Q = ax_Q G X h0 w none) w) : ax_W G X Q h 0 ls [] := by
  unfold f_X5_repays at e
  refine ax_aload_n B dX5_repays_0 rfl hl 0 rfl ?_
  refine ax_getR B ff_X5_24_5 (fun _ _ => rfl) dX5_repays_1 e (fun v1 e => ?_)
  refine ax_iconst B dX5_repays_4 ?_
  refine ax_iload_n B dX5_repays_5 rfl hl 1 rfl ?_
  refine ax_iadd' B dX5_repays_6 ?_
  refine ax_dup2 B dX5_repays_7 (rfl) (va_rf_cat _) ?_
  refine ax_iald B kd100 dX5_repays_8 e (fun v2 e => ?_)
  refine ax_iload_n B dX5_repays_9 rfl hl 3 rfl ?_
  refine ax_isub' B dX5_repays_10 ?_
  refine ax_iast B kd100 dX5_repays_11 e (fun h3 e => ?_)
  refine ax_aload_n B dX5_repays_12 rfl hl 0 rfl ?_
  refine ax_getR B ff_X5_24_5 (fun _ _ => rfl) dX5_repays_13 e (fun v4 e => ?_)
  refine ax_iconst B dX5_repays_16 ?_
  refine ax_iload_n B dX5_repays_17 rfl hl 2 rfl ?_
  refine ax_iadd' B dX5_repays_18 ?_
  refine ax_dup2 B dX5_repays_19 (rfl) (va_rf_cat _) ?_
  refine ax_iald B kd100 dX5_repays_20 e (fun v5 e => ?_)
  refine ax_iload_n B dX5_repays_21 rfl hl 3 rfl ?_
  refine ax_iadd' B dX5_repays_22 ?_
  refine ax_iast B kd100 dX5_repays_23 e (fun h6 e => ?_)
  refine ax_aload_n B dX5_repays_24 rfl hl 0 rfl ?_
  refine ax_iload_n B dX5_repays_25 rfl hl 1 rfl ?_
  refine ax_iload_n B dX5_repays_26 rfl hl 2 rfl ?_
  refine ax_iload_n B dX5_repays_27 rfl hl 3 rfl ?_
  refine ax_ivV (y := yX5_lowers) (n := 3) (As := [.int (Int32.ofInt x1), .int (Int32.ofInt x2), .int (Int32.ofInt x3)]) B kd5 (lw_V q2494 q2496 qs99 q133 q2497) (by decide +kernel) ⟨Nat.le_of_ble_eq_true rfl, Nat.le_of_ble_eq_true rfl⟩ (fun w1 e1 => mt_X5_lowers l G hSF x0 x1 x2 x3 _ w1 e1) rfl hl.size (by decide) dX5_repays_28 e (fun h7 e => ?_)
  have e8 := e
  have hp : Q = _ := hp
  subst hp
  exact ax_return B Z dX5_repays_31 e8
theorem mt_X5_repays (l : Launch) (G : ax_G) (hSF : ax_SF G) (x0 : Option Nat) (x1 : Int) (x2 : Int) (x3 : Int) (h : ax_H) (w : ax_H) (e : f_X5_repays G.2.2 x0 x1 x2 x3 h = some w) : ax_Met l G yX5_repays cX5_repays 4 none 4 108 [va_rf x0, .int (Int32.ofInt x1), .int (Int32.ofInt x2), .int (Int32.ofInt x3)] h w none :=
  ax_enter [.inr (.inr x0), .inl x1, .inl x2, .inl x3] (y := yX5_repays) hSF (plainFor_of_name (by decide +kernel)) (Nat.le_of_ble_eq_true rfl) (fun X ls B Z hn hl => we_X5_repays hSF B Z hn x0 x1 x2 x3 hl e rfl)
def dkwX5_repaysKept_2 : List UInt8 := [4, 182, 1, 101, 42, 27, 28, 21, 4, 182, 1, 116, 21, 4, 172]
abbrev dktX5_repaysKept_2 : List UInt8 := dkwX5_repaysKept_2 ++ []
def dkwX5_repaysKept_1 : List UInt8 := [154, 0, 6, 16, 254, 172, 42, 27, 28, 29, 182, 1, 113, 54, 4, 21, 4, 154, 0, 6, 16, 253, 172, 42]
abbrev dktX5_repaysKept_1 : List UInt8 := dkwX5_repaysKept_1 ++ dktX5_repaysKept_2
def dkwX5_repaysKept_0 : List UInt8 := [29, 184, 0, 155, 154, 0, 5, 2, 172, 42, 27, 182, 0, 152, 153, 0, 11, 42, 28, 182, 0, 152]
abbrev dktX5_repaysKept_0 : List UInt8 := dkwX5_repaysKept_0 ++ dktX5_repaysKept_1
theorem dksX5_repaysKept_0 : cX5_repaysKept.data.toList.drop 0 = dktX5_repaysKept_0 := by decide +kernel
theorem dksX5_repaysKept_1 : cX5_repaysKept.data.toList.drop 22 = dktX5_repaysKept_1 := dk_seg dksX5_repaysKept_0 22 rfl rfl
theorem dksX5_repaysKept_2 : cX5_repaysKept.data.toList.drop 46 = dktX5_repaysKept_2 := dk_seg dksX5_repaysKept_1 24 rfl rfl
theorem dX5_repaysKept_0 : decode cX5_repaysKept 0 = .ok (.iload_n 3, 1) := dk_29 (dk_at dksX5_repaysKept_0 0 rfl rfl)
theorem dX5_repaysKept_1 : decode cX5_repaysKept 1 = .ok (.invokestatic 155, 3) := dk_184 0 155 (dk_at dksX5_repaysKept_0 1 rfl rfl)
theorem dX5_repaysKept_4 : decode cX5_repaysKept 4 = .ok (.ifCond .ne 5, 3) := dk_154 0 5 (dk_at dksX5_repaysKept_0 4 rfl rfl)
theorem dX5_repaysKept_7 : decode cX5_repaysKept 7 = .ok (.iconst (-1), 1) := dk_2 (dk_at dksX5_repaysKept_0 7 rfl rfl)
theorem dX5_repaysKept_8 : decode cX5_repaysKept 8 = .ok (.ireturn, 1) := dk_172 (dk_at dksX5_repaysKept_0 8 rfl rfl)
theorem dX5_repaysKept_9 : decode cX5_repaysKept 9 = .ok (.aload_n 0, 1) := dk_42 (dk_at dksX5_repaysKept_0 9 rfl rfl)
theorem dX5_repaysKept_10 : decode cX5_repaysKept 10 = .ok (.iload_n 1, 1) := dk_27 (dk_at dksX5_repaysKept_0 10 rfl rfl)
theorem dX5_repaysKept_11 : decode cX5_repaysKept 11 = .ok (.invokevirtual 152, 3) := dk_182 0 152 (dk_at dksX5_repaysKept_0 11 rfl rfl)
theorem dX5_repaysKept_14 : decode cX5_repaysKept 14 = .ok (.ifCond .eq 11, 3) := dk_153 0 11 (dk_at dksX5_repaysKept_0 14 rfl rfl)
theorem dX5_repaysKept_17 : decode cX5_repaysKept 17 = .ok (.aload_n 0, 1) := dk_42 (dk_at dksX5_repaysKept_0 17 rfl rfl)
theorem dX5_repaysKept_18 : decode cX5_repaysKept 18 = .ok (.iload_n 2, 1) := dk_28 (dk_at dksX5_repaysKept_0 18 rfl rfl)
theorem dX5_repaysKept_19 : decode cX5_repaysKept 19 = .ok (.invokevirtual 152, 3) := dk_182 0 152 (dk_at dksX5_repaysKept_0 19 rfl rfl)
theorem dX5_repaysKept_22 : decode cX5_repaysKept 22 = .ok (.ifCond .ne 6, 3) := dk_154 0 6 (dk_at dksX5_repaysKept_1 0 rfl rfl)
theorem dX5_repaysKept_25 : decode cX5_repaysKept 25 = .ok (.bipush (-2), 2) := dk_16 254 (dk_at dksX5_repaysKept_1 3 rfl rfl)
theorem dX5_repaysKept_27 : decode cX5_repaysKept 27 = .ok (.ireturn, 1) := dk_172 (dk_at dksX5_repaysKept_1 5 rfl rfl)
theorem dX5_repaysKept_28 : decode cX5_repaysKept 28 = .ok (.aload_n 0, 1) := dk_42 (dk_at dksX5_repaysKept_1 6 rfl rfl)
theorem dX5_repaysKept_29 : decode cX5_repaysKept 29 = .ok (.iload_n 1, 1) := dk_27 (dk_at dksX5_repaysKept_1 7 rfl rfl)
theorem dX5_repaysKept_30 : decode cX5_repaysKept 30 = .ok (.iload_n 2, 1) := dk_28 (dk_at dksX5_repaysKept_1 8 rfl rfl)
theorem dX5_repaysKept_31 : decode cX5_repaysKept 31 = .ok (.iload_n 3, 1) := dk_29 (dk_at dksX5_repaysKept_1 9 rfl rfl)
theorem dX5_repaysKept_32 : decode cX5_repaysKept 32 = .ok (.invokevirtual 369, 3) := dk_182 1 113 (dk_at dksX5_repaysKept_1 10 rfl rfl)
theorem dX5_repaysKept_35 : decode cX5_repaysKept 35 = .ok (.istore 4, 2) := dk_54 4 (dk_at dksX5_repaysKept_1 13 rfl rfl)
theorem dX5_repaysKept_37 : decode cX5_repaysKept 37 = .ok (.iload 4, 2) := dk_21 4 (dk_at dksX5_repaysKept_1 15 rfl rfl)
theorem dX5_repaysKept_39 : decode cX5_repaysKept 39 = .ok (.ifCond .ne 6, 3) := dk_154 0 6 (dk_at dksX5_repaysKept_1 17 rfl rfl)
theorem dX5_repaysKept_42 : decode cX5_repaysKept 42 = .ok (.bipush (-3), 2) := dk_16 253 (dk_at dksX5_repaysKept_1 20 rfl rfl)
theorem dX5_repaysKept_44 : decode cX5_repaysKept 44 = .ok (.ireturn, 1) := dk_172 (dk_at dksX5_repaysKept_1 22 rfl rfl)
theorem dX5_repaysKept_45 : decode cX5_repaysKept 45 = .ok (.aload_n 0, 1) := dk_42 (dk_at dksX5_repaysKept_1 23 rfl rfl)
theorem dX5_repaysKept_46 : decode cX5_repaysKept 46 = .ok (.iconst 1, 1) := dk_4 (dk_at dksX5_repaysKept_2 0 rfl rfl)
theorem dX5_repaysKept_47 : decode cX5_repaysKept 47 = .ok (.invokevirtual 357, 3) := dk_182 1 101 (dk_at dksX5_repaysKept_2 1 rfl rfl)
theorem dX5_repaysKept_50 : decode cX5_repaysKept 50 = .ok (.aload_n 0, 1) := dk_42 (dk_at dksX5_repaysKept_2 4 rfl rfl)
theorem dX5_repaysKept_51 : decode cX5_repaysKept 51 = .ok (.iload_n 1, 1) := dk_27 (dk_at dksX5_repaysKept_2 5 rfl rfl)
theorem dX5_repaysKept_52 : decode cX5_repaysKept 52 = .ok (.iload_n 2, 1) := dk_28 (dk_at dksX5_repaysKept_2 6 rfl rfl)
theorem dX5_repaysKept_53 : decode cX5_repaysKept 53 = .ok (.iload 4, 2) := dk_21 4 (dk_at dksX5_repaysKept_2 7 rfl rfl)
theorem dX5_repaysKept_55 : decode cX5_repaysKept 55 = .ok (.invokevirtual 372, 3) := dk_182 1 116 (dk_at dksX5_repaysKept_2 9 rfl rfl)
theorem dX5_repaysKept_58 : decode cX5_repaysKept 58 = .ok (.iload 4, 2) := dk_21 4 (dk_at dksX5_repaysKept_2 12 rfl rfl)
theorem dX5_repaysKept_60 : decode cX5_repaysKept 60 = .ok (.ireturn, 1) := dk_172 (dk_at dksX5_repaysKept_2 14 rfl rfl)
noncomputable def f_X5_repaysKept_25 (E : ax_E) (h : ax_H) : Option (Int × ax_H) :=
  some ((-2), h)
noncomputable def f_X5_repaysKept (E : ax_E) (x0 : Option Nat) (x1 : Int) (x2 : Int) (x3 : Int) (h : ax_H) : Option (Int × ax_H) :=
  (f_X5_isAmount E x3 h).bind fun q1 =>
  if i2 q1.1 = 0 then
    some ((-1), q1.2)
  else
    (ax_ce E q1.2 x0 5).bind fun _ => (f_X5_isPerson E x0 x1 q1.2).bind fun q2 =>
    if i2 q2.1 = 0 then
      f_X5_repaysKept_25 E q2.2
    else
      (ax_ce E q2.2 x0 5).bind fun _ => (f_X5_isPerson E x0 x2 q2.2).bind fun q3 =>
      if i2 q3.1 = 0 then
        f_X5_repaysKept_25 E q3.2
      else
        (ax_ce E q3.2 x0 5).bind fun _ => (f_X5_canRepay E x0 x1 x2 x3 q3.2).bind fun q4 =>
        if i2 q4.1 = 0 then
          some ((-3), q4.2)
        else
          (ax_ce E q4.2 x0 5).bind fun _ => (f_X5_keeps E x0 1 q4.2).bind fun h5 =>
          (ax_ce E h5 x0 5).bind fun _ => (f_X5_repays E x0 x1 x2 q4.1 h5).bind fun h6 =>
          some (q4.1, h6)
set_option maxHeartbeats 4000000 in
theorem w_X5_repaysKept_25 {l : Launch} {G : ax_G} {X : ax_X} {Q : State → Prop} {h0 h : ax_H} {ls : Array Slot} (hSF : ax_SF G) (B : ax_BL l G X cX5_repaysKept 5 RX5 5 131) (Z : ax_Z X h0 ((some FieldType.int))) (hn : X.2.2.2.2.2.2.2.2.1.name = yX5_repaysKept.name) {w : Int × ax_H} (hl : ax_hl ls 5 []) (e : f_X5_repaysKept_25 G.2.2 h = some w) (hp : (fun w : Int × ax_H => Q = ax_Q G X h0 w.2 (some (.int (Int32.ofInt w.1)))) w) : ax_W G X Q h 25 ls [] := by
  unfold f_X5_repaysKept_25 at e
  refine ax_bipush B dX5_repaysKept_25 (by decide) ?_
  have e8 := e
  have hp : Q = _ := hp
  subst hp
  exact ax_ireturn B Z dX5_repaysKept_27 e8
set_option maxHeartbeats 4000000 in
theorem we_X5_repaysKept {l : Launch} {G : ax_G} {X : ax_X} {Q : State → Prop} {h0 h : ax_H} {ls : Array Slot} (hSF : ax_SF G) (B : ax_BL l G X cX5_repaysKept 5 RX5 5 131) (Z : ax_Z X h0 ((some FieldType.int))) (hn : X.2.2.2.2.2.2.2.2.1.name = yX5_repaysKept.name) (x0 : Option Nat) (x1 : Int) (x2 : Int) (x3 : Int) {w : Int × ax_H} (hl : ax_hl ls 5 [(0, .inr (.inr x0)), (1, .inl x1), (2, .inl x2), (3, .inl x3)]) (e : f_X5_repaysKept G.2.2 x0 x1 x2 x3 h = some w) (hp : (fun w : Int × ax_H => Q = ax_Q G X h0 w.2 (some (.int (Int32.ofInt w.1)))) w) : ax_W G X Q h 0 ls [] := by
  unfold f_X5_repaysKept at e
  refine ax_iload_n B dX5_repaysKept_0 rfl hl 3 rfl ?_
  refine ax_isI (y := yX5_isAmount) (n := 1) (As := [.int (Int32.ofInt x3)]) B (lw_S q2207 q2208 q133 q2209) (by decide +kernel) ⟨Nat.le_of_ble_eq_true rfl, Nat.le_of_ble_eq_true rfl⟩ (fun w1 e1 => mt_X5_isAmount l G hSF x3 _ w1 e1) rfl hl.size (by decide) dX5_repaysKept_1 e (fun q1 e => ?_)
  refine ax_if_ne (tgt := 9) B dX5_repaysKept_4 (by decide) e (fun e => ?_) (fun e => ?_)
  · refine ax_iconst B dX5_repaysKept_7 ?_
    have e8 := e
    have hp : Q = _ := hp
    subst hp
    exact ax_ireturn B Z dX5_repaysKept_8 e8
  · refine ax_aload_n B dX5_repaysKept_9 rfl hl 0 rfl ?_
    refine ax_iload_n B dX5_repaysKept_10 rfl hl 1 rfl ?_
    refine ax_ivI (y := yX5_isPerson) (n := 1) (As := [.int (Int32.ofInt x1)]) B kd5 (lw_V q2191 q2193 qs45 q133 q2194) (by decide +kernel) ⟨Nat.le_of_ble_eq_true rfl, Nat.le_of_ble_eq_true rfl⟩ (fun w1 e1 => mt_X5_isPerson l G hSF x0 x1 _ w1 e1) rfl hl.size (by decide) dX5_repaysKept_11 e (fun q2 e => ?_)
    refine ax_if_eq (tgt := 25) B dX5_repaysKept_14 (by decide) e (fun e => ?_) (fun e => ?_)
    · exact w_X5_repaysKept_25 hSF B Z hn (hl.sub [] rfl) e hp
    · refine ax_aload_n B dX5_repaysKept_17 rfl hl 0 rfl ?_
      refine ax_iload_n B dX5_repaysKept_18 rfl hl 2 rfl ?_
      refine ax_ivI (y := yX5_isPerson) (n := 1) (As := [.int (Int32.ofInt x2)]) B kd5 (lw_V q2191 q2193 qs45 q133 q2194) (by decide +kernel) ⟨Nat.le_of_ble_eq_true rfl, Nat.le_of_ble_eq_true rfl⟩ (fun w1 e1 => mt_X5_isPerson l G hSF x0 x2 _ w1 e1) rfl hl.size (by decide) dX5_repaysKept_19 e (fun q3 e => ?_)
      refine ax_if_ne (tgt := 28) B dX5_repaysKept_22 (by decide) e (fun e => ?_) (fun e => ?_)
      · exact w_X5_repaysKept_25 hSF B Z hn (hl.sub [] rfl) e hp
      · refine ax_aload_n B dX5_repaysKept_28 rfl hl 0 rfl ?_
        refine ax_iload_n B dX5_repaysKept_29 rfl hl 1 rfl ?_
        refine ax_iload_n B dX5_repaysKept_30 rfl hl 2 rfl ?_
        refine ax_iload_n B dX5_repaysKept_31 rfl hl 3 rfl ?_
        refine ax_ivI (y := yX5_canRepay) (n := 3) (As := [.int (Int32.ofInt x1), .int (Int32.ofInt x2), .int (Int32.ofInt x3)]) B kd5 (lw_V q2486 q2488 qs97 q133 q2489) (by decide +kernel) ⟨Nat.le_of_ble_eq_true rfl, Nat.le_of_ble_eq_true rfl⟩ (fun w1 e1 => mt_X5_canRepay l G hSF x0 x1 x2 x3 _ w1 e1) rfl hl.size (by decide) dX5_repaysKept_32 e (fun q4 e => ?_)
        refine ax_istore (L' := [(4, .inl q4.1), (0, .inr (.inr x0)), (1, .inl x1), (2, .inl x2), (3, .inl x3)]) B dX5_repaysKept_35 hl (by decide) rfl (fun ls hl => ?_)
        refine ax_iload B dX5_repaysKept_37 hl 0 rfl ?_
        refine ax_if_ne (tgt := 45) B dX5_repaysKept_39 (by decide) e (fun e => ?_) (fun e => ?_)
        · refine ax_bipush B dX5_repaysKept_42 (by decide) ?_
          have e8 := e
          have hp : Q = _ := hp
          subst hp
          exact ax_ireturn B Z dX5_repaysKept_44 e8
        · refine ax_aload_n B dX5_repaysKept_45 rfl hl 1 rfl ?_
          refine ax_iconst B dX5_repaysKept_46 ?_
          refine ax_ivV (y := yX5_keeps) (n := 1) (As := [.int (Int32.ofInt 1)]) B kd5 (lw_V q2466 q2468 qs93 q133 q2469) (by decide +kernel) ⟨Nat.le_of_ble_eq_true rfl, Nat.le_of_ble_eq_true rfl⟩ (fun w1 e1 => mt_X5_keeps l G hSF x0 1 _ w1 e1) rfl hl.size (by decide) dX5_repaysKept_47 e (fun h5 e => ?_)
          refine ax_aload_n B dX5_repaysKept_50 rfl hl 1 rfl ?_
          refine ax_iload_n B dX5_repaysKept_51 rfl hl 2 rfl ?_
          refine ax_iload_n B dX5_repaysKept_52 rfl hl 3 rfl ?_
          refine ax_iload B dX5_repaysKept_53 hl 0 rfl ?_
          refine ax_ivV (y := yX5_repays) (n := 3) (As := [.int (Int32.ofInt x1), .int (Int32.ofInt x2), .int (Int32.ofInt q4.1)]) B kd5 (lw_V q2490 q2492 qs98 q133 q2493) (by decide +kernel) ⟨Nat.le_of_ble_eq_true rfl, Nat.le_of_ble_eq_true rfl⟩ (fun w1 e1 => mt_X5_repays l G hSF x0 x1 x2 q4.1 _ w1 e1) rfl hl.size (by decide) dX5_repaysKept_55 e (fun h6 e => ?_)
          refine ax_iload B dX5_repaysKept_58 hl 0 rfl ?_
          have e8 := e
          have hp : Q = _ := hp
          subst hp
          exact ax_ireturn B Z dX5_repaysKept_60 e8
theorem mt_X5_repaysKept (l : Launch) (G : ax_G) (hSF : ax_SF G) (x0 : Option Nat) (x1 : Int) (x2 : Int) (x3 : Int) (h : ax_H) (w : Int × ax_H) (e : f_X5_repaysKept G.2.2 x0 x1 x2 x3 h = some w) : ax_Met l G yX5_repaysKept cX5_repaysKept 5 ((some FieldType.int)) 5 131 [va_rf x0, .int (Int32.ofInt x1), .int (Int32.ofInt x2), .int (Int32.ofInt x3)] h w.2 (some (.int (Int32.ofInt w.1))) :=
  ax_enter [.inr (.inr x0), .inl x1, .inl x2, .inl x3] (y := yX5_repaysKept) hSF (plainFor_of_name (by decide +kernel)) (Nat.le_of_ble_eq_true rfl) (fun X ls B Z hn hl => we_X5_repaysKept hSF B Z hn x0 x1 x2 x3 hl e rfl)
def dkwX5_repay_0 : List UInt8 := [42, 42, 27, 28, 29, 182, 1, 128, 182, 1, 125, 172]
abbrev dktX5_repay_0 : List UInt8 := dkwX5_repay_0 ++ []
theorem dksX5_repay_0 : cX5_repay.data.toList.drop 0 = dktX5_repay_0 := by decide +kernel
theorem dX5_repay_0 : decode cX5_repay 0 = .ok (.aload_n 0, 1) := dk_42 (dk_at dksX5_repay_0 0 rfl rfl)
theorem dX5_repay_1 : decode cX5_repay 1 = .ok (.aload_n 0, 1) := dk_42 (dk_at dksX5_repay_0 1 rfl rfl)
theorem dX5_repay_2 : decode cX5_repay 2 = .ok (.iload_n 1, 1) := dk_27 (dk_at dksX5_repay_0 2 rfl rfl)
theorem dX5_repay_3 : decode cX5_repay 3 = .ok (.iload_n 2, 1) := dk_28 (dk_at dksX5_repay_0 3 rfl rfl)
theorem dX5_repay_4 : decode cX5_repay 4 = .ok (.iload_n 3, 1) := dk_29 (dk_at dksX5_repay_0 4 rfl rfl)
theorem dX5_repay_5 : decode cX5_repay 5 = .ok (.invokevirtual 384, 3) := dk_182 1 128 (dk_at dksX5_repay_0 5 rfl rfl)
theorem dX5_repay_8 : decode cX5_repay 8 = .ok (.invokevirtual 381, 3) := dk_182 1 125 (dk_at dksX5_repay_0 8 rfl rfl)
theorem dX5_repay_11 : decode cX5_repay 11 = .ok (.ireturn, 1) := dk_172 (dk_at dksX5_repay_0 11 rfl rfl)
noncomputable def f_X5_repay (E : ax_E) (x0 : Option Nat) (x1 : Int) (x2 : Int) (x3 : Int) (h : ax_H) : Option (Int × ax_H) :=
  (ax_ce E h x0 5).bind fun _ => (f_X5_repaysKept E x0 x1 x2 x3 h).bind fun q1 =>
  (ax_ce E q1.2 x0 5).bind fun _ => (f_X5_goodOr E x0 q1.1 q1.2).bind fun q2 =>
  some (q2.1, q2.2)
set_option maxHeartbeats 4000000 in
theorem we_X5_repay {l : Launch} {G : ax_G} {X : ax_X} {Q : State → Prop} {h0 h : ax_H} {ls : Array Slot} (hSF : ax_SF G) (B : ax_BL l G X cX5_repay 4 RX5 6 155) (Z : ax_Z X h0 ((some FieldType.int))) (hn : X.2.2.2.2.2.2.2.2.1.name = yX5_repay.name) (x0 : Option Nat) (x1 : Int) (x2 : Int) (x3 : Int) {w : Int × ax_H} (hl : ax_hl ls 4 [(0, .inr (.inr x0)), (1, .inl x1), (2, .inl x2), (3, .inl x3)]) (e : f_X5_repay G.2.2 x0 x1 x2 x3 h = some w) (hp : (fun w : Int × ax_H => Q = ax_Q G X h0 w.2 (some (.int (Int32.ofInt w.1)))) w) : ax_W G X Q h 0 ls [] := by
  unfold f_X5_repay at e
  refine ax_aload_n B dX5_repay_0 rfl hl 0 rfl ?_
  refine ax_aload_n B dX5_repay_1 rfl hl 0 rfl ?_
  refine ax_iload_n B dX5_repay_2 rfl hl 1 rfl ?_
  refine ax_iload_n B dX5_repay_3 rfl hl 2 rfl ?_
  refine ax_iload_n B dX5_repay_4 rfl hl 3 rfl ?_
  refine ax_ivI (y := yX5_repaysKept) (n := 3) (As := [.int (Int32.ofInt x1), .int (Int32.ofInt x2), .int (Int32.ofInt x3)]) B kd5 (lw_V q2482 q2484 qs96 q133 q2485) (by decide +kernel) ⟨Nat.le_of_ble_eq_true rfl, Nat.le_of_ble_eq_true rfl⟩ (fun w1 e1 => mt_X5_repaysKept l G hSF x0 x1 x2 x3 _ w1 e1) rfl hl.size (by simp only [List.map_cons, List.map_nil, List.sum_cons, List.sum_nil, va_rf_cat, ax_catI, ax_catL]; decide) dX5_repay_5 e (fun q1 e => ?_)
  refine ax_ivI (y := yX5_goodOr) (n := 1) (As := [.int (Int32.ofInt q1.1)]) B kd5 (lw_V q2474 q2476 qs95 q133 q2477) (by decide +kernel) ⟨Nat.le_of_ble_eq_true rfl, Nat.le_of_ble_eq_true rfl⟩ (fun w1 e1 => mt_X5_goodOr l G hSF x0 q1.1 _ w1 e1) rfl hl.size (by decide) dX5_repay_8 e (fun q2 e => ?_)
  have e8 := e
  have hp : Q = _ := hp
  subst hp
  exact ax_ireturn B Z dX5_repay_11 e8
theorem mt_X5_repay (l : Launch) (G : ax_G) (hSF : ax_SF G) (x0 : Option Nat) (x1 : Int) (x2 : Int) (x3 : Int) (h : ax_H) (w : Int × ax_H) (e : f_X5_repay G.2.2 x0 x1 x2 x3 h = some w) : ax_Met l G yX5_repay cX5_repay 4 ((some FieldType.int)) 6 155 [va_rf x0, .int (Int32.ofInt x1), .int (Int32.ofInt x2), .int (Int32.ofInt x3)] h w.2 (some (.int (Int32.ofInt w.1))) :=
  ax_enter [.inr (.inr x0), .inl x1, .inl x2, .inl x3] (y := yX5_repay) hSF (plainFor_of_name (by decide +kernel)) (Nat.le_of_ble_eq_true rfl) (fun X ls B Z hn hl => we_X5_repay hSF B Z hn x0 x1 x2 x3 hl e rfl)
def dkwX5_waits_3 : List UInt8 := [100, 96, 60, 42, 180, 0, 24, 29, 21, 4, 79, 132, 2, 1, 167, 255, 186, 27, 172]
abbrev dktX5_waits_3 : List UInt8 := dkwX5_waits_3 ++ []
def dkwX5_waits_2 : List UInt8 := [42, 28, 182, 0, 175, 104, 16, 100, 108, 96, 184, 1, 79, 54, 4, 27, 21, 4, 42, 180, 0, 24, 29, 46]
abbrev dktX5_waits_2 : List UInt8 := dkwX5_waits_2 ++ dktX5_waits_3
def dkwX5_waits_1 : List UInt8 := [16, 7, 7, 28, 104, 96, 5, 96, 62, 17, 39, 15, 42, 180, 0, 24, 29, 46, 42, 180, 0, 24, 29, 46]
abbrev dktX5_waits_1 : List UInt8 := dkwX5_waits_1 ++ dktX5_waits_2
def dkwX5_waits_0 : List UInt8 := [3, 60, 42, 180, 0, 24, 16, 72, 92, 46, 4, 96, 79, 3, 61, 28, 42, 182, 0, 137, 162, 0, 68]
abbrev dktX5_waits_0 : List UInt8 := dkwX5_waits_0 ++ dktX5_waits_1
theorem dksX5_waits_0 : cX5_waits.data.toList.drop 0 = dktX5_waits_0 := by decide +kernel
theorem dksX5_waits_1 : cX5_waits.data.toList.drop 23 = dktX5_waits_1 := dk_seg dksX5_waits_0 23 rfl rfl
theorem dksX5_waits_2 : cX5_waits.data.toList.drop 47 = dktX5_waits_2 := dk_seg dksX5_waits_1 24 rfl rfl
theorem dksX5_waits_3 : cX5_waits.data.toList.drop 71 = dktX5_waits_3 := dk_seg dksX5_waits_2 24 rfl rfl
theorem dX5_waits_0 : decode cX5_waits 0 = .ok (.iconst 0, 1) := dk_3 (dk_at dksX5_waits_0 0 rfl rfl)
theorem dX5_waits_1 : decode cX5_waits 1 = .ok (.istore_n 1, 1) := dk_60 (dk_at dksX5_waits_0 1 rfl rfl)
theorem dX5_waits_2 : decode cX5_waits 2 = .ok (.aload_n 0, 1) := dk_42 (dk_at dksX5_waits_0 2 rfl rfl)
theorem dX5_waits_3 : decode cX5_waits 3 = .ok (.getfield 24, 3) := dk_180 0 24 (dk_at dksX5_waits_0 3 rfl rfl)
theorem dX5_waits_6 : decode cX5_waits 6 = .ok (.bipush 72, 2) := dk_16 72 (dk_at dksX5_waits_0 6 rfl rfl)
theorem dX5_waits_8 : decode cX5_waits 8 = .ok (.dup2, 1) := dk_92 (dk_at dksX5_waits_0 8 rfl rfl)
theorem dX5_waits_9 : decode cX5_waits 9 = .ok (.iaload, 1) := dk_46 (dk_at dksX5_waits_0 9 rfl rfl)
theorem dX5_waits_10 : decode cX5_waits 10 = .ok (.iconst 1, 1) := dk_4 (dk_at dksX5_waits_0 10 rfl rfl)
theorem dX5_waits_11 : decode cX5_waits 11 = .ok (.iadd, 1) := dk_96 (dk_at dksX5_waits_0 11 rfl rfl)
theorem dX5_waits_12 : decode cX5_waits 12 = .ok (.iastore, 1) := dk_79 (dk_at dksX5_waits_0 12 rfl rfl)
theorem dX5_waits_13 : decode cX5_waits 13 = .ok (.iconst 0, 1) := dk_3 (dk_at dksX5_waits_0 13 rfl rfl)
theorem dX5_waits_14 : decode cX5_waits 14 = .ok (.istore_n 2, 1) := dk_61 (dk_at dksX5_waits_0 14 rfl rfl)
theorem dX5_waits_15 : decode cX5_waits 15 = .ok (.iload_n 2, 1) := dk_28 (dk_at dksX5_waits_0 15 rfl rfl)
theorem dX5_waits_16 : decode cX5_waits 16 = .ok (.aload_n 0, 1) := dk_42 (dk_at dksX5_waits_0 16 rfl rfl)
theorem dX5_waits_17 : decode cX5_waits 17 = .ok (.invokevirtual 137, 3) := dk_182 0 137 (dk_at dksX5_waits_0 17 rfl rfl)
theorem dX5_waits_20 : decode cX5_waits 20 = .ok (.if_icmp .ge 68, 3) := dk_162 0 68 (dk_at dksX5_waits_0 20 rfl rfl)
theorem dX5_waits_23 : decode cX5_waits 23 = .ok (.bipush 7, 2) := dk_16 7 (dk_at dksX5_waits_1 0 rfl rfl)
theorem dX5_waits_25 : decode cX5_waits 25 = .ok (.iconst 4, 1) := dk_7 (dk_at dksX5_waits_1 2 rfl rfl)
theorem dX5_waits_26 : decode cX5_waits 26 = .ok (.iload_n 2, 1) := dk_28 (dk_at dksX5_waits_1 3 rfl rfl)
theorem dX5_waits_27 : decode cX5_waits 27 = .ok (.imul, 1) := dk_104 (dk_at dksX5_waits_1 4 rfl rfl)
theorem dX5_waits_28 : decode cX5_waits 28 = .ok (.iadd, 1) := dk_96 (dk_at dksX5_waits_1 5 rfl rfl)
theorem dX5_waits_29 : decode cX5_waits 29 = .ok (.iconst 2, 1) := dk_5 (dk_at dksX5_waits_1 6 rfl rfl)
theorem dX5_waits_30 : decode cX5_waits 30 = .ok (.iadd, 1) := dk_96 (dk_at dksX5_waits_1 7 rfl rfl)
theorem dX5_waits_31 : decode cX5_waits 31 = .ok (.istore_n 3, 1) := dk_62 (dk_at dksX5_waits_1 8 rfl rfl)
theorem dX5_waits_32 : decode cX5_waits 32 = .ok (.sipush 9999, 3) := dk_17 39 15 (dk_at dksX5_waits_1 9 rfl rfl)
theorem dX5_waits_35 : decode cX5_waits 35 = .ok (.aload_n 0, 1) := dk_42 (dk_at dksX5_waits_1 12 rfl rfl)
theorem dX5_waits_36 : decode cX5_waits 36 = .ok (.getfield 24, 3) := dk_180 0 24 (dk_at dksX5_waits_1 13 rfl rfl)
theorem dX5_waits_39 : decode cX5_waits 39 = .ok (.iload_n 3, 1) := dk_29 (dk_at dksX5_waits_1 16 rfl rfl)
theorem dX5_waits_40 : decode cX5_waits 40 = .ok (.iaload, 1) := dk_46 (dk_at dksX5_waits_1 17 rfl rfl)
theorem dX5_waits_41 : decode cX5_waits 41 = .ok (.aload_n 0, 1) := dk_42 (dk_at dksX5_waits_1 18 rfl rfl)
theorem dX5_waits_42 : decode cX5_waits 42 = .ok (.getfield 24, 3) := dk_180 0 24 (dk_at dksX5_waits_1 19 rfl rfl)
theorem dX5_waits_45 : decode cX5_waits 45 = .ok (.iload_n 3, 1) := dk_29 (dk_at dksX5_waits_1 22 rfl rfl)
theorem dX5_waits_46 : decode cX5_waits 46 = .ok (.iaload, 1) := dk_46 (dk_at dksX5_waits_1 23 rfl rfl)
theorem dX5_waits_47 : decode cX5_waits 47 = .ok (.aload_n 0, 1) := dk_42 (dk_at dksX5_waits_2 0 rfl rfl)
theorem dX5_waits_48 : decode cX5_waits 48 = .ok (.iload_n 2, 1) := dk_28 (dk_at dksX5_waits_2 1 rfl rfl)
theorem dX5_waits_49 : decode cX5_waits 49 = .ok (.invokevirtual 175, 3) := dk_182 0 175 (dk_at dksX5_waits_2 2 rfl rfl)
theorem dX5_waits_52 : decode cX5_waits 52 = .ok (.imul, 1) := dk_104 (dk_at dksX5_waits_2 5 rfl rfl)
theorem dX5_waits_53 : decode cX5_waits 53 = .ok (.bipush 100, 2) := dk_16 100 (dk_at dksX5_waits_2 6 rfl rfl)
theorem dX5_waits_55 : decode cX5_waits 55 = .ok (.idiv, 1) := dk_108 (dk_at dksX5_waits_2 8 rfl rfl)
theorem dX5_waits_56 : decode cX5_waits 56 = .ok (.iadd, 1) := dk_96 (dk_at dksX5_waits_2 9 rfl rfl)
theorem dX5_waits_57 : decode cX5_waits 57 = .ok (.invokestatic 335, 3) := dk_184 1 79 (dk_at dksX5_waits_2 10 rfl rfl)
theorem dX5_waits_60 : decode cX5_waits 60 = .ok (.istore 4, 2) := dk_54 4 (dk_at dksX5_waits_2 13 rfl rfl)
theorem dX5_waits_62 : decode cX5_waits 62 = .ok (.iload_n 1, 1) := dk_27 (dk_at dksX5_waits_2 15 rfl rfl)
theorem dX5_waits_63 : decode cX5_waits 63 = .ok (.iload 4, 2) := dk_21 4 (dk_at dksX5_waits_2 16 rfl rfl)
theorem dX5_waits_65 : decode cX5_waits 65 = .ok (.aload_n 0, 1) := dk_42 (dk_at dksX5_waits_2 18 rfl rfl)
theorem dX5_waits_66 : decode cX5_waits 66 = .ok (.getfield 24, 3) := dk_180 0 24 (dk_at dksX5_waits_2 19 rfl rfl)
theorem dX5_waits_69 : decode cX5_waits 69 = .ok (.iload_n 3, 1) := dk_29 (dk_at dksX5_waits_2 22 rfl rfl)
theorem dX5_waits_70 : decode cX5_waits 70 = .ok (.iaload, 1) := dk_46 (dk_at dksX5_waits_2 23 rfl rfl)
theorem dX5_waits_71 : decode cX5_waits 71 = .ok (.isub, 1) := dk_100 (dk_at dksX5_waits_3 0 rfl rfl)
theorem dX5_waits_72 : decode cX5_waits 72 = .ok (.iadd, 1) := dk_96 (dk_at dksX5_waits_3 1 rfl rfl)
theorem dX5_waits_73 : decode cX5_waits 73 = .ok (.istore_n 1, 1) := dk_60 (dk_at dksX5_waits_3 2 rfl rfl)
theorem dX5_waits_74 : decode cX5_waits 74 = .ok (.aload_n 0, 1) := dk_42 (dk_at dksX5_waits_3 3 rfl rfl)
theorem dX5_waits_75 : decode cX5_waits 75 = .ok (.getfield 24, 3) := dk_180 0 24 (dk_at dksX5_waits_3 4 rfl rfl)
theorem dX5_waits_78 : decode cX5_waits 78 = .ok (.iload_n 3, 1) := dk_29 (dk_at dksX5_waits_3 7 rfl rfl)
theorem dX5_waits_79 : decode cX5_waits 79 = .ok (.iload 4, 2) := dk_21 4 (dk_at dksX5_waits_3 8 rfl rfl)
theorem dX5_waits_81 : decode cX5_waits 81 = .ok (.iastore, 1) := dk_79 (dk_at dksX5_waits_3 10 rfl rfl)
theorem dX5_waits_82 : decode cX5_waits 82 = .ok (.iinc 2 1, 3) := dk_132 2 1 (dk_at dksX5_waits_3 11 rfl rfl)
theorem dX5_waits_85 : decode cX5_waits 85 = .ok (.goto (-70), 3) := dk_167 255 186 (dk_at dksX5_waits_3 14 rfl rfl)
theorem dX5_waits_88 : decode cX5_waits 88 = .ok (.iload_n 1, 1) := dk_27 (dk_at dksX5_waits_3 17 rfl rfl)
theorem dX5_waits_89 : decode cX5_waits 89 = .ok (.ireturn, 1) := dk_172 (dk_at dksX5_waits_3 18 rfl rfl)
noncomputable def lb_X5_waits_15 (E : ax_E) (x0 : Option Nat) (x1 : Int) (x2 : Int) (h : ax_H) : Option ((Int × Int × ax_H) ⊕ (Int × ax_H)) :=
  (ax_ce E h x0 5).bind fun _ => (f_X5_debts E x0 h).bind fun q1 =>
  if i2 x2 < i2 q1.1 then
    (ax_gR E q1.2 x0 5 2).bind fun v2 =>
    (ax_ld E q1.2 v2 100 ((7 + (4 * x2)) + 2)).bind fun v3 =>
    (ax_gR E q1.2 x0 5 2).bind fun v4 =>
    (ax_ld E q1.2 v4 100 ((7 + (4 * x2)) + 2)).bind fun v5 =>
    (ax_ce E q1.2 x0 5).bind fun _ => (f_X5_growsBy E x0 x2 q1.2).bind fun q6 =>
    if i2 100 = 0 then none else
    (f_X5_lesser E 9999 (v3 + ((i2 (v5 * q6.1)).tdiv (i2 100))) q6.2).bind fun q7 =>
    (ax_gR E q7.2 x0 5 2).bind fun v8 =>
    (ax_ld E q7.2 v8 100 ((7 + (4 * x2)) + 2)).bind fun v9 =>
    (ax_gR E q7.2 x0 5 2).bind fun v10 =>
    (ax_sto q7.2 v10 100 ((7 + (4 * x2)) + 2) q7.1).bind fun h11 =>
    some (.inl ((x1 + (q7.1 - v9)), (x2 + 1), h11))
  else
    (some (x1, q1.2)).map Sum.inr
noncomputable def f_X5_waits_15 (E : ax_E) (x0 : Option Nat) (x1 : Int) (x2 : Int) (h : ax_H) : Option (Int × ax_H) :=
  ax_iter (fun s : Int × Int × ax_H => lb_X5_waits_15 E x0 s.1 s.2.1 s.2.2) (x1, x2, h)
noncomputable def f_X5_waits (E : ax_E) (x0 : Option Nat) (h : ax_H) : Option (Int × ax_H) :=
  (ax_gR E h x0 5 2).bind fun v1 =>
  (ax_ld E h v1 100 72).bind fun v2 =>
  (ax_sto h v1 100 72 (v2 + 1)).bind fun h3 =>
  f_X5_waits_15 E x0 0 0 h3
def pi_X5_waits_15 (G : ax_G) (X : ax_X) (Q : State → Prop) (x0 : Option Nat) : Int × Int × ax_H → Prop := fun s => ∀ ls : Array Slot, ax_hl ls 5 [(0, .inr (.inr x0)), (1, .inl s.1), (2, .inl s.2.1)] → ax_W G X Q s.2.2 15 ls []
set_option maxHeartbeats 4000000 in
theorem wb_X5_waits_15 {l : Launch} {G : ax_G} {X : ax_X} {Q : State → Prop} {h0 h : ax_H} {ls : Array Slot} (hSF : ax_SF G) (B : ax_BL l G X cX5_waits 5 RX5 135 3515) (Z : ax_Z X h0 ((some FieldType.int))) (hn : X.2.2.2.2.2.2.2.2.1.name = yX5_waits.name) (x0 : Option Nat) (x1 : Int) (x2 : Int) {w : (Int × Int × ax_H) ⊕ (Int × ax_H)} (hl : ax_hl ls 5 [(0, .inr (.inr x0)), (1, .inl x1), (2, .inl x2)]) (e : lb_X5_waits_15 G.2.2 x0 x1 x2 h = some w) (hp : (ax_PL (pi_X5_waits_15 G X Q x0) (fun w : Int × ax_H => Q = ax_Q G X h0 w.2 (some (.int (Int32.ofInt w.1))))) w) : ax_W G X Q h 15 ls [] := by
  unfold lb_X5_waits_15 at e
  refine ax_iload_n B dX5_waits_15 rfl hl 2 rfl ?_
  refine ax_aload_n B dX5_waits_16 rfl hl 0 rfl ?_
  refine ax_ivI (y := yX5_debts) (n := 0) (As := []) B kd5 (lw_V q2210 q2212 qs47 q133 q2213) (by decide +kernel) ⟨Nat.le_of_ble_eq_true rfl, Nat.le_of_ble_eq_true rfl⟩ (fun w1 e1 => mt_X5_debts l G hSF x0 _ w1 e1) rfl hl.size (by simp only [List.map_cons, List.map_nil, List.sum_cons, List.sum_nil, va_rf_cat, ax_catI, ax_catL]; decide) dX5_waits_17 e (fun q1 e => ?_)
  refine ax_icmp_ge (tgt := 88) B dX5_waits_20 (by decide) e (fun e => ?_) (fun e => ?_)
  · refine ax_bipush B dX5_waits_23 (by decide) ?_
    refine ax_iconst B dX5_waits_25 ?_
    refine ax_iload_n B dX5_waits_26 rfl hl 2 rfl ?_
    refine ax_imul' B dX5_waits_27 ?_
    refine ax_iadd' B dX5_waits_28 ?_
    refine ax_iconst B dX5_waits_29 ?_
    refine ax_iadd' B dX5_waits_30 ?_
    refine ax_istore_n (L' := [(3, .inl ((7 + (4 * x2)) + 2)), (0, .inr (.inr x0)), (1, .inl x1), (2, .inl x2)]) B dX5_waits_31 rfl hl (by decide) rfl (fun ls hl => ?_)
    refine ax_sipush B dX5_waits_32 (by decide) ?_
    refine ax_aload_n B dX5_waits_35 rfl hl 1 rfl ?_
    refine ax_getR B ff_X5_24_5 (fun _ _ => rfl) dX5_waits_36 e (fun v2 e => ?_)
    refine ax_iload_n B dX5_waits_39 rfl hl 0 rfl ?_
    refine ax_iald B kd100 dX5_waits_40 e (fun v3 e => ?_)
    refine ax_aload_n B dX5_waits_41 rfl hl 1 rfl ?_
    refine ax_getR B ff_X5_24_5 (fun _ _ => rfl) dX5_waits_42 e (fun v4 e => ?_)
    refine ax_iload_n B dX5_waits_45 rfl hl 0 rfl ?_
    refine ax_iald B kd100 dX5_waits_46 e (fun v5 e => ?_)
    refine ax_aload_n B dX5_waits_47 rfl hl 1 rfl ?_
    refine ax_iload_n B dX5_waits_48 rfl hl 3 rfl ?_
    refine ax_ivI (y := yX5_growsBy) (n := 1) (As := [.int (Int32.ofInt x2)]) B kd5 (lw_V q2296 q2298 qs66 q133 q2299) (by decide +kernel) ⟨Nat.le_of_ble_eq_true rfl, Nat.le_of_ble_eq_true rfl⟩ (fun w1 e1 => mt_X5_growsBy l G hSF x0 x2 _ w1 e1) rfl hl.size (by simp only [List.map_cons, List.map_nil, List.sum_cons, List.sum_nil, va_rf_cat, ax_catI, ax_catL]; decide) dX5_waits_49 e (fun q6 e => ?_)
    refine ax_imul' B dX5_waits_52 ?_
    refine ax_bipush B dX5_waits_53 (by decide) ?_
    refine ax_idiv' B dX5_waits_55 e (fun e => ?_)
    refine ax_iadd' B dX5_waits_56 ?_
    refine ax_isI (y := yX5_lesser) (n := 2) (As := [.int (Int32.ofInt 9999), .int (Int32.ofInt (v3 + ((i2 (v5 * q6.1)).tdiv (i2 100))))]) B (lw_S q2439 q2440 q133 q2441) (by decide +kernel) ⟨Nat.le_of_ble_eq_true rfl, Nat.le_of_ble_eq_true rfl⟩ (fun w1 e1 => mt_X5_lesser l G hSF 9999 (v3 + ((i2 (v5 * q6.1)).tdiv (i2 100))) _ w1 e1) rfl hl.size (by decide) dX5_waits_57 e (fun q7 e => ?_)
    refine ax_istore (L' := [(4, .inl q7.1), (3, .inl ((7 + (4 * x2)) + 2)), (0, .inr (.inr x0)), (1, .inl x1), (2, .inl x2)]) B dX5_waits_60 hl (by decide) rfl (fun ls hl => ?_)
    refine ax_iload_n B dX5_waits_62 rfl hl 3 rfl ?_
    refine ax_iload B dX5_waits_63 hl 0 rfl ?_
    refine ax_aload_n B dX5_waits_65 rfl hl 2 rfl ?_
    refine ax_getR B ff_X5_24_5 (fun _ _ => rfl) dX5_waits_66 e (fun v8 e => ?_)
    refine ax_iload_n B dX5_waits_69 rfl hl 1 rfl ?_
    refine ax_iald B kd100 dX5_waits_70 e (fun v9 e => ?_)
    refine ax_isub' B dX5_waits_71 ?_
    refine ax_iadd' B dX5_waits_72 ?_
    refine ax_istore_n (L' := [(1, .inl (x1 + (q7.1 - v9))), (4, .inl q7.1), (3, .inl ((7 + (4 * x2)) + 2)), (0, .inr (.inr x0)), (2, .inl x2)]) B dX5_waits_73 rfl hl (by decide) rfl (fun ls hl => ?_)
    refine ax_aload_n B dX5_waits_74 rfl hl 3 rfl ?_
    refine ax_getR B ff_X5_24_5 (fun _ _ => rfl) dX5_waits_75 e (fun v10 e => ?_)
    refine ax_iload_n B dX5_waits_78 rfl hl 2 rfl ?_
    refine ax_iload B dX5_waits_79 hl 1 rfl ?_
    refine ax_iast B kd100 dX5_waits_81 e (fun h11 e => ?_)
    refine ax_iinc (L' := [(2, .inl (x2 + 1)), (1, .inl (x1 + (q7.1 - v9))), (4, .inl q7.1), (3, .inl ((7 + (4 * x2)) + 2)), (0, .inr (.inr x0))]) B dX5_waits_82 hl 4 rfl (by decide) rfl (fun ls hl => ?_)
    refine ax_goto (tgt := 15) B dX5_waits_85 (by decide) ?_
    cases e
    exact hp _ (hl.sub [4, 1, 0] rfl)
  · obtain ⟨w, e9_1, rfl⟩ := Option.map_eq_some_iff.mp e
    have e := e9_1
    refine ax_iload_n B dX5_waits_88 rfl hl 1 rfl ?_
    have e8 := e
    have hp : Q = _ := hp
    subst hp
    exact ax_ireturn B Z dX5_waits_89 e8
theorem w_X5_waits_15 {l : Launch} {G : ax_G} {X : ax_X} {Q : State → Prop} {h0 h : ax_H} {ls : Array Slot} (hSF : ax_SF G) (B : ax_BL l G X cX5_waits 5 RX5 135 3515) (Z : ax_Z X h0 ((some FieldType.int))) (hn : X.2.2.2.2.2.2.2.2.1.name = yX5_waits.name) (x0 : Option Nat) (x1 : Int) (x2 : Int) {w : Int × ax_H} (hl : ax_hl ls 5 [(0, .inr (.inr x0)), (1, .inl x1), (2, .inl x2)]) (e : f_X5_waits_15 G.2.2 x0 x1 x2 h = some w) (hp : (fun w : Int × ax_H => Q = ax_Q G X h0 w.2 (some (.int (Int32.ofInt w.1)))) w) : ax_W G X Q h 15 ls [] :=
  ax_iter_W (Pin := pi_X5_waits_15 G X Q x0) (Pout := (fun w : Int × ax_H => Q = ax_Q G X h0 w.2 (some (.int (Int32.ofInt w.1))))) (fun s w e hp ls hl => wb_X5_waits_15 hSF B Z hn x0 s.1 s.2.1 hl e hp) _ _ e hp ls hl
set_option maxHeartbeats 4000000 in
theorem we_X5_waits {l : Launch} {G : ax_G} {X : ax_X} {Q : State → Prop} {h0 h : ax_H} {ls : Array Slot} (hSF : ax_SF G) (B : ax_BL l G X cX5_waits 5 RX5 135 3515) (Z : ax_Z X h0 ((some FieldType.int))) (hn : X.2.2.2.2.2.2.2.2.1.name = yX5_waits.name) (x0 : Option Nat) {w : Int × ax_H} (hl : ax_hl ls 5 [(0, .inr (.inr x0))]) (e : f_X5_waits G.2.2 x0 h = some w) (hp : (fun w : Int × ax_H => Q = ax_Q G X h0 w.2 (some (.int (Int32.ofInt w.1)))) w) : ax_W G X Q h 0 ls [] := by
  unfold f_X5_waits at e
  refine ax_iconst B dX5_waits_0 ?_
  refine ax_istore_n (L' := [(1, .inl 0), (0, .inr (.inr x0))]) B dX5_waits_1 rfl hl (by decide) rfl (fun ls hl => ?_)
  refine ax_aload_n B dX5_waits_2 rfl hl 1 rfl ?_
  refine ax_getR B ff_X5_24_5 (fun _ _ => rfl) dX5_waits_3 e (fun v1 e => ?_)
  refine ax_bipush B dX5_waits_6 (by decide) ?_
  refine ax_dup2 B dX5_waits_8 (rfl) (va_rf_cat _) ?_
  refine ax_iald B kd100 dX5_waits_9 e (fun v2 e => ?_)
  refine ax_iconst B dX5_waits_10 ?_
  refine ax_iadd' B dX5_waits_11 ?_
  refine ax_iast B kd100 dX5_waits_12 e (fun h3 e => ?_)
  refine ax_iconst B dX5_waits_13 ?_
  refine ax_istore_n (L' := [(2, .inl 0), (1, .inl 0), (0, .inr (.inr x0))]) B dX5_waits_14 rfl hl (by decide) rfl (fun ls hl => ?_)
  exact w_X5_waits_15 hSF B Z hn x0 0 0 (hl.sub [2, 1, 0] rfl) e hp
theorem mt_X5_waits (l : Launch) (G : ax_G) (hSF : ax_SF G) (x0 : Option Nat) (h : ax_H) (w : Int × ax_H) (e : f_X5_waits G.2.2 x0 h = some w) : ax_Met l G yX5_waits cX5_waits 5 ((some FieldType.int)) 135 3515 [va_rf x0] h w.2 (some (.int (Int32.ofInt w.1))) :=
  ax_enter [.inr (.inr x0)] (y := yX5_waits) hSF (plainFor_of_name (by decide +kernel)) (Nat.le_of_ble_eq_true rfl) (fun X ls B Z hn hl => we_X5_waits hSF B Z hn x0 hl e rfl)
def dkwX5_waitsKept_1 : List UInt8 := [182, 1, 119, 172]
abbrev dktX5_waitsKept_1 : List UInt8 := dkwX5_waitsKept_1 ++ []
def dkwX5_waitsKept_0 : List UInt8 := [42, 180, 0, 24, 16, 72, 46, 17, 3, 231, 160, 0, 6, 16, 253, 172, 42, 7, 182, 1, 101, 42]
abbrev dktX5_waitsKept_0 : List UInt8 := dkwX5_waitsKept_0 ++ dktX5_waitsKept_1
theorem dksX5_waitsKept_0 : cX5_waitsKept.data.toList.drop 0 = dktX5_waitsKept_0 := by decide +kernel
theorem dksX5_waitsKept_1 : cX5_waitsKept.data.toList.drop 22 = dktX5_waitsKept_1 := dk_seg dksX5_waitsKept_0 22 rfl rfl
theorem dX5_waitsKept_0 : decode cX5_waitsKept 0 = .ok (.aload_n 0, 1) := dk_42 (dk_at dksX5_waitsKept_0 0 rfl rfl)
theorem dX5_waitsKept_1 : decode cX5_waitsKept 1 = .ok (.getfield 24, 3) := dk_180 0 24 (dk_at dksX5_waitsKept_0 1 rfl rfl)
theorem dX5_waitsKept_4 : decode cX5_waitsKept 4 = .ok (.bipush 72, 2) := dk_16 72 (dk_at dksX5_waitsKept_0 4 rfl rfl)
theorem dX5_waitsKept_6 : decode cX5_waitsKept 6 = .ok (.iaload, 1) := dk_46 (dk_at dksX5_waitsKept_0 6 rfl rfl)
theorem dX5_waitsKept_7 : decode cX5_waitsKept 7 = .ok (.sipush 999, 3) := dk_17 3 231 (dk_at dksX5_waitsKept_0 7 rfl rfl)
theorem dX5_waitsKept_10 : decode cX5_waitsKept 10 = .ok (.if_icmp .ne 6, 3) := dk_160 0 6 (dk_at dksX5_waitsKept_0 10 rfl rfl)
theorem dX5_waitsKept_13 : decode cX5_waitsKept 13 = .ok (.bipush (-3), 2) := dk_16 253 (dk_at dksX5_waitsKept_0 13 rfl rfl)
theorem dX5_waitsKept_15 : decode cX5_waitsKept 15 = .ok (.ireturn, 1) := dk_172 (dk_at dksX5_waitsKept_0 15 rfl rfl)
theorem dX5_waitsKept_16 : decode cX5_waitsKept 16 = .ok (.aload_n 0, 1) := dk_42 (dk_at dksX5_waitsKept_0 16 rfl rfl)
theorem dX5_waitsKept_17 : decode cX5_waitsKept 17 = .ok (.iconst 4, 1) := dk_7 (dk_at dksX5_waitsKept_0 17 rfl rfl)
theorem dX5_waitsKept_18 : decode cX5_waitsKept 18 = .ok (.invokevirtual 357, 3) := dk_182 1 101 (dk_at dksX5_waitsKept_0 18 rfl rfl)
theorem dX5_waitsKept_21 : decode cX5_waitsKept 21 = .ok (.aload_n 0, 1) := dk_42 (dk_at dksX5_waitsKept_0 21 rfl rfl)
theorem dX5_waitsKept_22 : decode cX5_waitsKept 22 = .ok (.invokevirtual 375, 3) := dk_182 1 119 (dk_at dksX5_waitsKept_1 0 rfl rfl)
theorem dX5_waitsKept_25 : decode cX5_waitsKept 25 = .ok (.ireturn, 1) := dk_172 (dk_at dksX5_waitsKept_1 3 rfl rfl)
noncomputable def f_X5_waitsKept (E : ax_E) (x0 : Option Nat) (h : ax_H) : Option (Int × ax_H) :=
  (ax_gR E h x0 5 2).bind fun v1 =>
  (ax_ld E h v1 100 72).bind fun v2 =>
  if i2 v2 = i2 999 then
    some ((-3), h)
  else
    (ax_ce E h x0 5).bind fun _ => (f_X5_keeps E x0 4 h).bind fun h3 =>
    (ax_ce E h3 x0 5).bind fun _ => (f_X5_waits E x0 h3).bind fun q4 =>
    some (q4.1, q4.2)
set_option maxHeartbeats 4000000 in
theorem we_X5_waitsKept {l : Launch} {G : ax_G} {X : ax_X} {Q : State → Prop} {h0 h : ax_H} {ls : Array Slot} (hSF : ax_SF G) (B : ax_BL l G X cX5_waitsKept 1 RX5 136 3539) (Z : ax_Z X h0 ((some FieldType.int))) (hn : X.2.2.2.2.2.2.2.2.1.name = yX5_waitsKept.name) (x0 : Option Nat) {w : Int × ax_H} (hl : ax_hl ls 1 [(0, .inr (.inr x0))]) (e : f_X5_waitsKept G.2.2 x0 h = some w) (hp : (fun w : Int × ax_H => Q = ax_Q G X h0 w.2 (some (.int (Int32.ofInt w.1)))) w) : ax_W G X Q h 0 ls [] := by
  unfold f_X5_waitsKept at e
  refine ax_aload_n B dX5_waitsKept_0 rfl hl 0 rfl ?_
  refine ax_getR B ff_X5_24_5 (fun _ _ => rfl) dX5_waitsKept_1 e (fun v1 e => ?_)
  refine ax_bipush B dX5_waitsKept_4 (by decide) ?_
  refine ax_iald B kd100 dX5_waitsKept_6 e (fun v2 e => ?_)
  refine ax_sipush B dX5_waitsKept_7 (by decide) ?_
  refine ax_icmp_ne (tgt := 16) B dX5_waitsKept_10 (by decide) e (fun e => ?_) (fun e => ?_)
  · refine ax_bipush B dX5_waitsKept_13 (by decide) ?_
    have e8 := e
    have hp : Q = _ := hp
    subst hp
    exact ax_ireturn B Z dX5_waitsKept_15 e8
  · refine ax_aload_n B dX5_waitsKept_16 rfl hl 0 rfl ?_
    refine ax_iconst B dX5_waitsKept_17 ?_
    refine ax_ivV (y := yX5_keeps) (n := 1) (As := [.int (Int32.ofInt 4)]) B kd5 (lw_V q2466 q2468 qs93 q133 q2469) (by decide +kernel) ⟨Nat.le_of_ble_eq_true rfl, Nat.le_of_ble_eq_true rfl⟩ (fun w1 e1 => mt_X5_keeps l G hSF x0 4 _ w1 e1) rfl hl.size (by decide) dX5_waitsKept_18 e (fun h3 e => ?_)
    refine ax_aload_n B dX5_waitsKept_21 rfl hl 0 rfl ?_
    refine ax_ivI (y := yX5_waits) (n := 0) (As := []) B kd5 (lw_V q2510 q2512 qs102 q133 q2513) (by decide +kernel) ⟨Nat.le_of_ble_eq_true rfl, Nat.le_of_ble_eq_true rfl⟩ (fun w1 e1 => mt_X5_waits l G hSF x0 _ w1 e1) rfl hl.size (by decide) dX5_waitsKept_22 e (fun q4 e => ?_)
    have e8 := e
    have hp : Q = _ := hp
    subst hp
    exact ax_ireturn B Z dX5_waitsKept_25 e8
theorem mt_X5_waitsKept (l : Launch) (G : ax_G) (hSF : ax_SF G) (x0 : Option Nat) (h : ax_H) (w : Int × ax_H) (e : f_X5_waitsKept G.2.2 x0 h = some w) : ax_Met l G yX5_waitsKept cX5_waitsKept 1 ((some FieldType.int)) 136 3539 [va_rf x0] h w.2 (some (.int (Int32.ofInt w.1))) :=
  ax_enter [.inr (.inr x0)] (y := yX5_waitsKept) hSF (plainFor_of_name (by decide +kernel)) (Nat.le_of_ble_eq_true rfl) (fun X ls B Z hn hl => we_X5_waitsKept hSF B Z hn x0 hl e rfl)
def dkwX5_await_0 : List UInt8 := [42, 42, 182, 1, 131, 182, 1, 125, 172]
abbrev dktX5_await_0 : List UInt8 := dkwX5_await_0 ++ []
theorem dksX5_await_0 : cX5_await.data.toList.drop 0 = dktX5_await_0 := by decide +kernel
theorem dX5_await_0 : decode cX5_await 0 = .ok (.aload_n 0, 1) := dk_42 (dk_at dksX5_await_0 0 rfl rfl)
theorem dX5_await_1 : decode cX5_await 1 = .ok (.aload_n 0, 1) := dk_42 (dk_at dksX5_await_0 1 rfl rfl)
theorem dX5_await_2 : decode cX5_await 2 = .ok (.invokevirtual 387, 3) := dk_182 1 131 (dk_at dksX5_await_0 2 rfl rfl)
theorem dX5_await_5 : decode cX5_await 5 = .ok (.invokevirtual 381, 3) := dk_182 1 125 (dk_at dksX5_await_0 5 rfl rfl)
theorem dX5_await_8 : decode cX5_await 8 = .ok (.ireturn, 1) := dk_172 (dk_at dksX5_await_0 8 rfl rfl)
noncomputable def f_X5_await (E : ax_E) (x0 : Option Nat) (h : ax_H) : Option (Int × ax_H) :=
  (ax_ce E h x0 5).bind fun _ => (f_X5_waitsKept E x0 h).bind fun q1 =>
  (ax_ce E q1.2 x0 5).bind fun _ => (f_X5_goodOr E x0 q1.1 q1.2).bind fun q2 =>
  some (q2.1, q2.2)
set_option maxHeartbeats 4000000 in
theorem we_X5_await {l : Launch} {G : ax_G} {X : ax_X} {Q : State → Prop} {h0 h : ax_H} {ls : Array Slot} (hSF : ax_SF G) (B : ax_BL l G X cX5_await 1 RX5 137 3559) (Z : ax_Z X h0 ((some FieldType.int))) (hn : X.2.2.2.2.2.2.2.2.1.name = yX5_await.name) (x0 : Option Nat) {w : Int × ax_H} (hl : ax_hl ls 1 [(0, .inr (.inr x0))]) (e : f_X5_await G.2.2 x0 h = some w) (hp : (fun w : Int × ax_H => Q = ax_Q G X h0 w.2 (some (.int (Int32.ofInt w.1)))) w) : ax_W G X Q h 0 ls [] := by
  unfold f_X5_await at e
  refine ax_aload_n B dX5_await_0 rfl hl 0 rfl ?_
  refine ax_aload_n B dX5_await_1 rfl hl 0 rfl ?_
  refine ax_ivI (y := yX5_waitsKept) (n := 0) (As := []) B kd5 (lw_V q2506 q2508 qs101 q133 q2509) (by decide +kernel) ⟨Nat.le_of_ble_eq_true rfl, Nat.le_of_ble_eq_true rfl⟩ (fun w1 e1 => mt_X5_waitsKept l G hSF x0 _ w1 e1) rfl hl.size (by simp only [List.map_cons, List.map_nil, List.sum_cons, List.sum_nil, va_rf_cat, ax_catI, ax_catL]; decide) dX5_await_2 e (fun q1 e => ?_)
  refine ax_ivI (y := yX5_goodOr) (n := 1) (As := [.int (Int32.ofInt q1.1)]) B kd5 (lw_V q2474 q2476 qs95 q133 q2477) (by decide +kernel) ⟨Nat.le_of_ble_eq_true rfl, Nat.le_of_ble_eq_true rfl⟩ (fun w1 e1 => mt_X5_goodOr l G hSF x0 q1.1 _ w1 e1) rfl hl.size (by decide) dX5_await_5 e (fun q2 e => ?_)
  have e8 := e
  have hp : Q = _ := hp
  subst hp
  exact ax_ireturn B Z dX5_await_8 e8
theorem mt_X5_await (l : Launch) (G : ax_G) (hSF : ax_SF G) (x0 : Option Nat) (h : ax_H) (w : Int × ax_H) (e : f_X5_await G.2.2 x0 h = some w) : ax_Met l G yX5_await cX5_await 1 ((some FieldType.int)) 137 3559 [va_rf x0] h w.2 (some (.int (Int32.ofInt w.1))) :=
  ax_enter [.inr (.inr x0)] (y := yX5_await) hSF (plainFor_of_name (by decide +kernel)) (Nat.le_of_ble_eq_true rfl) (fun X ls B Z hn hl => we_X5_await hSF B Z hn x0 hl e rfl)
def dkwX5_forgive_1 : List UInt8 := [96, 5, 96, 46, 61, 42, 5, 182, 1, 101, 42, 27, 182, 1, 107, 42, 28, 182, 0, 14, 172]
abbrev dktX5_forgive_1 : List UInt8 := dkwX5_forgive_1 ++ []
def dkwX5_forgive_0 : List UInt8 := [42, 27, 182, 0, 169, 154, 0, 10, 42, 16, 254, 182, 0, 127, 172, 42, 180, 0, 24, 16, 7, 7, 27, 104]
abbrev dktX5_forgive_0 : List UInt8 := dkwX5_forgive_0 ++ dktX5_forgive_1
theorem dksX5_forgive_0 : cX5_forgive.data.toList.drop 0 = dktX5_forgive_0 := by decide +kernel
theorem dksX5_forgive_1 : cX5_forgive.data.toList.drop 24 = dktX5_forgive_1 := dk_seg dksX5_forgive_0 24 rfl rfl
theorem dX5_forgive_0 : decode cX5_forgive 0 = .ok (.aload_n 0, 1) := dk_42 (dk_at dksX5_forgive_0 0 rfl rfl)
theorem dX5_forgive_1 : decode cX5_forgive 1 = .ok (.iload_n 1, 1) := dk_27 (dk_at dksX5_forgive_0 1 rfl rfl)
theorem dX5_forgive_2 : decode cX5_forgive 2 = .ok (.invokevirtual 169, 3) := dk_182 0 169 (dk_at dksX5_forgive_0 2 rfl rfl)
theorem dX5_forgive_5 : decode cX5_forgive 5 = .ok (.ifCond .ne 10, 3) := dk_154 0 10 (dk_at dksX5_forgive_0 5 rfl rfl)
theorem dX5_forgive_8 : decode cX5_forgive 8 = .ok (.aload_n 0, 1) := dk_42 (dk_at dksX5_forgive_0 8 rfl rfl)
theorem dX5_forgive_9 : decode cX5_forgive 9 = .ok (.bipush (-2), 2) := dk_16 254 (dk_at dksX5_forgive_0 9 rfl rfl)
theorem dX5_forgive_11 : decode cX5_forgive 11 = .ok (.invokevirtual 127, 3) := dk_182 0 127 (dk_at dksX5_forgive_0 11 rfl rfl)
theorem dX5_forgive_14 : decode cX5_forgive 14 = .ok (.ireturn, 1) := dk_172 (dk_at dksX5_forgive_0 14 rfl rfl)
theorem dX5_forgive_15 : decode cX5_forgive 15 = .ok (.aload_n 0, 1) := dk_42 (dk_at dksX5_forgive_0 15 rfl rfl)
theorem dX5_forgive_16 : decode cX5_forgive 16 = .ok (.getfield 24, 3) := dk_180 0 24 (dk_at dksX5_forgive_0 16 rfl rfl)
theorem dX5_forgive_19 : decode cX5_forgive 19 = .ok (.bipush 7, 2) := dk_16 7 (dk_at dksX5_forgive_0 19 rfl rfl)
theorem dX5_forgive_21 : decode cX5_forgive 21 = .ok (.iconst 4, 1) := dk_7 (dk_at dksX5_forgive_0 21 rfl rfl)
theorem dX5_forgive_22 : decode cX5_forgive 22 = .ok (.iload_n 1, 1) := dk_27 (dk_at dksX5_forgive_0 22 rfl rfl)
theorem dX5_forgive_23 : decode cX5_forgive 23 = .ok (.imul, 1) := dk_104 (dk_at dksX5_forgive_0 23 rfl rfl)
theorem dX5_forgive_24 : decode cX5_forgive 24 = .ok (.iadd, 1) := dk_96 (dk_at dksX5_forgive_1 0 rfl rfl)
theorem dX5_forgive_25 : decode cX5_forgive 25 = .ok (.iconst 2, 1) := dk_5 (dk_at dksX5_forgive_1 1 rfl rfl)
theorem dX5_forgive_26 : decode cX5_forgive 26 = .ok (.iadd, 1) := dk_96 (dk_at dksX5_forgive_1 2 rfl rfl)
theorem dX5_forgive_27 : decode cX5_forgive 27 = .ok (.iaload, 1) := dk_46 (dk_at dksX5_forgive_1 3 rfl rfl)
theorem dX5_forgive_28 : decode cX5_forgive 28 = .ok (.istore_n 2, 1) := dk_61 (dk_at dksX5_forgive_1 4 rfl rfl)
theorem dX5_forgive_29 : decode cX5_forgive 29 = .ok (.aload_n 0, 1) := dk_42 (dk_at dksX5_forgive_1 5 rfl rfl)
theorem dX5_forgive_30 : decode cX5_forgive 30 = .ok (.iconst 2, 1) := dk_5 (dk_at dksX5_forgive_1 6 rfl rfl)
theorem dX5_forgive_31 : decode cX5_forgive 31 = .ok (.invokevirtual 357, 3) := dk_182 1 101 (dk_at dksX5_forgive_1 7 rfl rfl)
theorem dX5_forgive_34 : decode cX5_forgive 34 = .ok (.aload_n 0, 1) := dk_42 (dk_at dksX5_forgive_1 10 rfl rfl)
theorem dX5_forgive_35 : decode cX5_forgive 35 = .ok (.iload_n 1, 1) := dk_27 (dk_at dksX5_forgive_1 11 rfl rfl)
theorem dX5_forgive_36 : decode cX5_forgive 36 = .ok (.invokevirtual 363, 3) := dk_182 1 107 (dk_at dksX5_forgive_1 12 rfl rfl)
theorem dX5_forgive_39 : decode cX5_forgive 39 = .ok (.aload_n 0, 1) := dk_42 (dk_at dksX5_forgive_1 15 rfl rfl)
theorem dX5_forgive_40 : decode cX5_forgive 40 = .ok (.iload_n 2, 1) := dk_28 (dk_at dksX5_forgive_1 16 rfl rfl)
theorem dX5_forgive_41 : decode cX5_forgive 41 = .ok (.invokevirtual 14, 3) := dk_182 0 14 (dk_at dksX5_forgive_1 17 rfl rfl)
theorem dX5_forgive_44 : decode cX5_forgive 44 = .ok (.ireturn, 1) := dk_172 (dk_at dksX5_forgive_1 20 rfl rfl)
noncomputable def f_X5_forgive (E : ax_E) (x0 : Option Nat) (x1 : Int) (h : ax_H) : Option (Int × ax_H) :=
  (ax_ce E h x0 5).bind fun _ => (f_X5_isDebt E x0 x1 h).bind fun q1 =>
  if i2 q1.1 = 0 then
    (ax_ce E q1.2 x0 5).bind fun _ => (f_X5_refuses E x0 (-2) q1.2).bind fun q2 =>
    some (q2.1, q2.2)
  else
    (ax_gR E q1.2 x0 5 2).bind fun v3 =>
    (ax_ld E q1.2 v3 100 ((7 + (4 * x1)) + 2)).bind fun v4 =>
    (ax_ce E q1.2 x0 5).bind fun _ => (f_X5_keeps E x0 2 q1.2).bind fun h5 =>
    (ax_ce E h5 x0 5).bind fun _ => (f_X5_removes E x0 x1 h5).bind fun h6 =>
    (ax_ce E h6 x0 5).bind fun _ => (f_X5_good E x0 v4 h6).bind fun q7 =>
    some (q7.1, q7.2)
set_option maxHeartbeats 4000000 in
theorem we_X5_forgive {l : Launch} {G : ax_G} {X : ax_X} {Q : State → Prop} {h0 h : ax_H} {ls : Array Slot} (hSF : ax_SF G) (B : ax_BL l G X cX5_forgive 3 RX5 3 83) (Z : ax_Z X h0 ((some FieldType.int))) (hn : X.2.2.2.2.2.2.2.2.1.name = yX5_forgive.name) (x0 : Option Nat) (x1 : Int) {w : Int × ax_H} (hl : ax_hl ls 3 [(0, .inr (.inr x0)), (1, .inl x1)]) (e : f_X5_forgive G.2.2 x0 x1 h = some w) (hp : (fun w : Int × ax_H => Q = ax_Q G X h0 w.2 (some (.int (Int32.ofInt w.1)))) w) : ax_W G X Q h 0 ls [] := by
  unfold f_X5_forgive at e
  refine ax_aload_n B dX5_forgive_0 rfl hl 0 rfl ?_
  refine ax_iload_n B dX5_forgive_1 rfl hl 1 rfl ?_
  refine ax_ivI (y := yX5_isDebt) (n := 1) (As := [.int (Int32.ofInt x1)]) B kd5 (lw_V q2222 q2224 qs49 q133 q2225) (by decide +kernel) ⟨Nat.le_of_ble_eq_true rfl, Nat.le_of_ble_eq_true rfl⟩ (fun w1 e1 => mt_X5_isDebt l G hSF x0 x1 _ w1 e1) rfl hl.size (by decide) dX5_forgive_2 e (fun q1 e => ?_)
  refine ax_if_ne (tgt := 15) B dX5_forgive_5 (by decide) e (fun e => ?_) (fun e => ?_)
  · refine ax_aload_n B dX5_forgive_8 rfl hl 0 rfl ?_
    refine ax_bipush B dX5_forgive_9 (by decide) ?_
    refine ax_ivI (y := yX5_refuses) (n := 1) (As := [.int (Int32.ofInt (-2))]) B kd5 (lw_V q2154 q2156 qs41 q133 q2157) (by decide +kernel) ⟨Nat.le_of_ble_eq_true rfl, Nat.le_of_ble_eq_true rfl⟩ (fun w1 e1 => mt_X5_refuses l G hSF x0 (-2) _ w1 e1) rfl hl.size (by decide) dX5_forgive_11 e (fun q2 e => ?_)
    have e8 := e
    have hp : Q = _ := hp
    subst hp
    exact ax_ireturn B Z dX5_forgive_14 e8
  · refine ax_aload_n B dX5_forgive_15 rfl hl 0 rfl ?_
    refine ax_getR B ff_X5_24_5 (fun _ _ => rfl) dX5_forgive_16 e (fun v3 e => ?_)
    refine ax_bipush B dX5_forgive_19 (by decide) ?_
    refine ax_iconst B dX5_forgive_21 ?_
    refine ax_iload_n B dX5_forgive_22 rfl hl 1 rfl ?_
    refine ax_imul' B dX5_forgive_23 ?_
    refine ax_iadd' B dX5_forgive_24 ?_
    refine ax_iconst B dX5_forgive_25 ?_
    refine ax_iadd' B dX5_forgive_26 ?_
    refine ax_iald B kd100 dX5_forgive_27 e (fun v4 e => ?_)
    refine ax_istore_n (L' := [(2, .inl v4), (0, .inr (.inr x0)), (1, .inl x1)]) B dX5_forgive_28 rfl hl (by decide) rfl (fun ls hl => ?_)
    refine ax_aload_n B dX5_forgive_29 rfl hl 1 rfl ?_
    refine ax_iconst B dX5_forgive_30 ?_
    refine ax_ivV (y := yX5_keeps) (n := 1) (As := [.int (Int32.ofInt 2)]) B kd5 (lw_V q2466 q2468 qs93 q133 q2469) (by decide +kernel) ⟨Nat.le_of_ble_eq_true rfl, Nat.le_of_ble_eq_true rfl⟩ (fun w1 e1 => mt_X5_keeps l G hSF x0 2 _ w1 e1) rfl hl.size (by decide) dX5_forgive_31 e (fun h5 e => ?_)
    refine ax_aload_n B dX5_forgive_34 rfl hl 1 rfl ?_
    refine ax_iload_n B dX5_forgive_35 rfl hl 2 rfl ?_
    refine ax_ivV (y := yX5_removes) (n := 1) (As := [.int (Int32.ofInt x1)]) B kd5 (lw_V q2498 q2500 qs100 q133 q2501) (by decide +kernel) ⟨Nat.le_of_ble_eq_true rfl, Nat.le_of_ble_eq_true rfl⟩ (fun w1 e1 => mt_X5_removes l G hSF x0 x1 _ w1 e1) rfl hl.size (by decide) dX5_forgive_36 e (fun h6 e => ?_)
    refine ax_aload_n B dX5_forgive_39 rfl hl 1 rfl ?_
    refine ax_iload_n B dX5_forgive_40 rfl hl 0 rfl ?_
    refine ax_ivI (y := yX5_good) (n := 1) (As := [.int (Int32.ofInt v4)]) B kd5 (lw_V q2158 q2160 qs42 q133 q2161) (by decide +kernel) ⟨Nat.le_of_ble_eq_true rfl, Nat.le_of_ble_eq_true rfl⟩ (fun w1 e1 => mt_X5_good l G hSF x0 v4 _ w1 e1) rfl hl.size (by decide) dX5_forgive_41 e (fun q7 e => ?_)
    have e8 := e
    have hp : Q = _ := hp
    subst hp
    exact ax_ireturn B Z dX5_forgive_44 e8
theorem mt_X5_forgive (l : Launch) (G : ax_G) (hSF : ax_SF G) (x0 : Option Nat) (x1 : Int) (h : ax_H) (w : Int × ax_H) (e : f_X5_forgive G.2.2 x0 x1 h = some w) : ax_Met l G yX5_forgive cX5_forgive 3 ((some FieldType.int)) 3 83 [va_rf x0, .int (Int32.ofInt x1)] h w.2 (some (.int (Int32.ofInt w.1))) :=
  ax_enter [.inr (.inr x0), .inl x1] (y := yX5_forgive) hSF (plainFor_of_name (by decide +kernel)) (Nat.le_of_ble_eq_true rfl) (fun X ls B Z hn hl => we_X5_forgive hSF B Z hn x0 x1 hl e rfl)
def dkwX5_sell_6 : List UInt8 := [46, 96, 92, 46, 21, 4, 96, 79, 42, 180, 0, 24, 29, 4, 96, 28, 79, 42, 21, 4, 182, 0, 14, 172]
abbrev dktX5_sell_6 : List UInt8 := dkwX5_sell_6 ++ []
def dkwX5_sell_5 : List UInt8 := [180, 0, 24, 3, 28, 96, 92, 46, 21, 4, 100, 79, 42, 180, 0, 24, 3, 42, 180, 0, 24, 29, 4, 96]
abbrev dktX5_sell_5 : List UInt8 := dkwX5_sell_5 ++ dktX5_sell_6
def dkwX5_sell_4 : List UInt8 := [21, 4, 96, 17, 39, 15, 164, 0, 10, 42, 16, 253, 182, 0, 127, 172, 42, 6, 182, 1, 101, 42]
abbrev dktX5_sell_4 : List UInt8 := dkwX5_sell_4 ++ dktX5_sell_5
def dkwX5_sell_3 : List UInt8 := [28, 96, 46, 21, 4, 161, 0, 27, 42, 180, 0, 24, 3, 42, 180, 0, 24, 29, 4, 96, 46, 96, 46]
abbrev dktX5_sell_3 : List UInt8 := dkwX5_sell_3 ++ dktX5_sell_4
def dkwX5_sell_2 : List UInt8 := [46, 28, 160, 0, 10, 42, 16, 253, 182, 0, 127, 172, 42, 27, 182, 0, 172, 54, 4, 42, 180, 0, 24, 3]
abbrev dktX5_sell_2 : List UInt8 := dkwX5_sell_2 ++ dktX5_sell_3
def dkwX5_sell_1 : List UInt8 := [16, 7, 7, 27, 104, 96, 62, 42, 180, 0, 24, 29, 46, 28, 159, 0, 15, 42, 180, 0, 24, 29, 4, 96]
abbrev dktX5_sell_1 : List UInt8 := dkwX5_sell_1 ++ dktX5_sell_2
def dkwX5_sell_0 : List UInt8 := [42, 27, 182, 0, 169, 153, 0, 11, 42, 28, 182, 0, 152, 154, 0, 10, 42, 16, 254, 182, 0, 127, 172]
abbrev dktX5_sell_0 : List UInt8 := dkwX5_sell_0 ++ dktX5_sell_1
theorem dksX5_sell_0 : cX5_sell.data.toList.drop 0 = dktX5_sell_0 := by decide +kernel
theorem dksX5_sell_1 : cX5_sell.data.toList.drop 23 = dktX5_sell_1 := dk_seg dksX5_sell_0 23 rfl rfl
theorem dksX5_sell_2 : cX5_sell.data.toList.drop 47 = dktX5_sell_2 := dk_seg dksX5_sell_1 24 rfl rfl
theorem dksX5_sell_3 : cX5_sell.data.toList.drop 71 = dktX5_sell_3 := dk_seg dksX5_sell_2 24 rfl rfl
theorem dksX5_sell_4 : cX5_sell.data.toList.drop 94 = dktX5_sell_4 := dk_seg dksX5_sell_3 23 rfl rfl
theorem dksX5_sell_5 : cX5_sell.data.toList.drop 116 = dktX5_sell_5 := dk_seg dksX5_sell_4 22 rfl rfl
theorem dksX5_sell_6 : cX5_sell.data.toList.drop 140 = dktX5_sell_6 := dk_seg dksX5_sell_5 24 rfl rfl
theorem dX5_sell_0 : decode cX5_sell 0 = .ok (.aload_n 0, 1) := dk_42 (dk_at dksX5_sell_0 0 rfl rfl)
theorem dX5_sell_1 : decode cX5_sell 1 = .ok (.iload_n 1, 1) := dk_27 (dk_at dksX5_sell_0 1 rfl rfl)
theorem dX5_sell_2 : decode cX5_sell 2 = .ok (.invokevirtual 169, 3) := dk_182 0 169 (dk_at dksX5_sell_0 2 rfl rfl)
theorem dX5_sell_5 : decode cX5_sell 5 = .ok (.ifCond .eq 11, 3) := dk_153 0 11 (dk_at dksX5_sell_0 5 rfl rfl)
theorem dX5_sell_8 : decode cX5_sell 8 = .ok (.aload_n 0, 1) := dk_42 (dk_at dksX5_sell_0 8 rfl rfl)
theorem dX5_sell_9 : decode cX5_sell 9 = .ok (.iload_n 2, 1) := dk_28 (dk_at dksX5_sell_0 9 rfl rfl)
theorem dX5_sell_10 : decode cX5_sell 10 = .ok (.invokevirtual 152, 3) := dk_182 0 152 (dk_at dksX5_sell_0 10 rfl rfl)
theorem dX5_sell_13 : decode cX5_sell 13 = .ok (.ifCond .ne 10, 3) := dk_154 0 10 (dk_at dksX5_sell_0 13 rfl rfl)
theorem dX5_sell_16 : decode cX5_sell 16 = .ok (.aload_n 0, 1) := dk_42 (dk_at dksX5_sell_0 16 rfl rfl)
theorem dX5_sell_17 : decode cX5_sell 17 = .ok (.bipush (-2), 2) := dk_16 254 (dk_at dksX5_sell_0 17 rfl rfl)
theorem dX5_sell_19 : decode cX5_sell 19 = .ok (.invokevirtual 127, 3) := dk_182 0 127 (dk_at dksX5_sell_0 19 rfl rfl)
theorem dX5_sell_22 : decode cX5_sell 22 = .ok (.ireturn, 1) := dk_172 (dk_at dksX5_sell_0 22 rfl rfl)
theorem dX5_sell_23 : decode cX5_sell 23 = .ok (.bipush 7, 2) := dk_16 7 (dk_at dksX5_sell_1 0 rfl rfl)
theorem dX5_sell_25 : decode cX5_sell 25 = .ok (.iconst 4, 1) := dk_7 (dk_at dksX5_sell_1 2 rfl rfl)
theorem dX5_sell_26 : decode cX5_sell 26 = .ok (.iload_n 1, 1) := dk_27 (dk_at dksX5_sell_1 3 rfl rfl)
theorem dX5_sell_27 : decode cX5_sell 27 = .ok (.imul, 1) := dk_104 (dk_at dksX5_sell_1 4 rfl rfl)
theorem dX5_sell_28 : decode cX5_sell 28 = .ok (.iadd, 1) := dk_96 (dk_at dksX5_sell_1 5 rfl rfl)
theorem dX5_sell_29 : decode cX5_sell 29 = .ok (.istore_n 3, 1) := dk_62 (dk_at dksX5_sell_1 6 rfl rfl)
theorem dX5_sell_30 : decode cX5_sell 30 = .ok (.aload_n 0, 1) := dk_42 (dk_at dksX5_sell_1 7 rfl rfl)
theorem dX5_sell_31 : decode cX5_sell 31 = .ok (.getfield 24, 3) := dk_180 0 24 (dk_at dksX5_sell_1 8 rfl rfl)
theorem dX5_sell_34 : decode cX5_sell 34 = .ok (.iload_n 3, 1) := dk_29 (dk_at dksX5_sell_1 11 rfl rfl)
theorem dX5_sell_35 : decode cX5_sell 35 = .ok (.iaload, 1) := dk_46 (dk_at dksX5_sell_1 12 rfl rfl)
theorem dX5_sell_36 : decode cX5_sell 36 = .ok (.iload_n 2, 1) := dk_28 (dk_at dksX5_sell_1 13 rfl rfl)
theorem dX5_sell_37 : decode cX5_sell 37 = .ok (.if_icmp .eq 15, 3) := dk_159 0 15 (dk_at dksX5_sell_1 14 rfl rfl)
theorem dX5_sell_40 : decode cX5_sell 40 = .ok (.aload_n 0, 1) := dk_42 (dk_at dksX5_sell_1 17 rfl rfl)
theorem dX5_sell_41 : decode cX5_sell 41 = .ok (.getfield 24, 3) := dk_180 0 24 (dk_at dksX5_sell_1 18 rfl rfl)
theorem dX5_sell_44 : decode cX5_sell 44 = .ok (.iload_n 3, 1) := dk_29 (dk_at dksX5_sell_1 21 rfl rfl)
theorem dX5_sell_45 : decode cX5_sell 45 = .ok (.iconst 1, 1) := dk_4 (dk_at dksX5_sell_1 22 rfl rfl)
theorem dX5_sell_46 : decode cX5_sell 46 = .ok (.iadd, 1) := dk_96 (dk_at dksX5_sell_1 23 rfl rfl)
theorem dX5_sell_47 : decode cX5_sell 47 = .ok (.iaload, 1) := dk_46 (dk_at dksX5_sell_2 0 rfl rfl)
theorem dX5_sell_48 : decode cX5_sell 48 = .ok (.iload_n 2, 1) := dk_28 (dk_at dksX5_sell_2 1 rfl rfl)
theorem dX5_sell_49 : decode cX5_sell 49 = .ok (.if_icmp .ne 10, 3) := dk_160 0 10 (dk_at dksX5_sell_2 2 rfl rfl)
theorem dX5_sell_52 : decode cX5_sell 52 = .ok (.aload_n 0, 1) := dk_42 (dk_at dksX5_sell_2 5 rfl rfl)
theorem dX5_sell_53 : decode cX5_sell 53 = .ok (.bipush (-3), 2) := dk_16 253 (dk_at dksX5_sell_2 6 rfl rfl)
theorem dX5_sell_55 : decode cX5_sell 55 = .ok (.invokevirtual 127, 3) := dk_182 0 127 (dk_at dksX5_sell_2 8 rfl rfl)
theorem dX5_sell_58 : decode cX5_sell 58 = .ok (.ireturn, 1) := dk_172 (dk_at dksX5_sell_2 11 rfl rfl)
theorem dX5_sell_59 : decode cX5_sell 59 = .ok (.aload_n 0, 1) := dk_42 (dk_at dksX5_sell_2 12 rfl rfl)
theorem dX5_sell_60 : decode cX5_sell 60 = .ok (.iload_n 1, 1) := dk_27 (dk_at dksX5_sell_2 13 rfl rfl)
theorem dX5_sell_61 : decode cX5_sell 61 = .ok (.invokevirtual 172, 3) := dk_182 0 172 (dk_at dksX5_sell_2 14 rfl rfl)
theorem dX5_sell_64 : decode cX5_sell 64 = .ok (.istore 4, 2) := dk_54 4 (dk_at dksX5_sell_2 17 rfl rfl)
theorem dX5_sell_66 : decode cX5_sell 66 = .ok (.aload_n 0, 1) := dk_42 (dk_at dksX5_sell_2 19 rfl rfl)
theorem dX5_sell_67 : decode cX5_sell 67 = .ok (.getfield 24, 3) := dk_180 0 24 (dk_at dksX5_sell_2 20 rfl rfl)
theorem dX5_sell_70 : decode cX5_sell 70 = .ok (.iconst 0, 1) := dk_3 (dk_at dksX5_sell_2 23 rfl rfl)
theorem dX5_sell_71 : decode cX5_sell 71 = .ok (.iload_n 2, 1) := dk_28 (dk_at dksX5_sell_3 0 rfl rfl)
theorem dX5_sell_72 : decode cX5_sell 72 = .ok (.iadd, 1) := dk_96 (dk_at dksX5_sell_3 1 rfl rfl)
theorem dX5_sell_73 : decode cX5_sell 73 = .ok (.iaload, 1) := dk_46 (dk_at dksX5_sell_3 2 rfl rfl)
theorem dX5_sell_74 : decode cX5_sell 74 = .ok (.iload 4, 2) := dk_21 4 (dk_at dksX5_sell_3 3 rfl rfl)
theorem dX5_sell_76 : decode cX5_sell 76 = .ok (.if_icmp .lt 27, 3) := dk_161 0 27 (dk_at dksX5_sell_3 5 rfl rfl)
theorem dX5_sell_79 : decode cX5_sell 79 = .ok (.aload_n 0, 1) := dk_42 (dk_at dksX5_sell_3 8 rfl rfl)
theorem dX5_sell_80 : decode cX5_sell 80 = .ok (.getfield 24, 3) := dk_180 0 24 (dk_at dksX5_sell_3 9 rfl rfl)
theorem dX5_sell_83 : decode cX5_sell 83 = .ok (.iconst 0, 1) := dk_3 (dk_at dksX5_sell_3 12 rfl rfl)
theorem dX5_sell_84 : decode cX5_sell 84 = .ok (.aload_n 0, 1) := dk_42 (dk_at dksX5_sell_3 13 rfl rfl)
theorem dX5_sell_85 : decode cX5_sell 85 = .ok (.getfield 24, 3) := dk_180 0 24 (dk_at dksX5_sell_3 14 rfl rfl)
theorem dX5_sell_88 : decode cX5_sell 88 = .ok (.iload_n 3, 1) := dk_29 (dk_at dksX5_sell_3 17 rfl rfl)
theorem dX5_sell_89 : decode cX5_sell 89 = .ok (.iconst 1, 1) := dk_4 (dk_at dksX5_sell_3 18 rfl rfl)
theorem dX5_sell_90 : decode cX5_sell 90 = .ok (.iadd, 1) := dk_96 (dk_at dksX5_sell_3 19 rfl rfl)
theorem dX5_sell_91 : decode cX5_sell 91 = .ok (.iaload, 1) := dk_46 (dk_at dksX5_sell_3 20 rfl rfl)
theorem dX5_sell_92 : decode cX5_sell 92 = .ok (.iadd, 1) := dk_96 (dk_at dksX5_sell_3 21 rfl rfl)
theorem dX5_sell_93 : decode cX5_sell 93 = .ok (.iaload, 1) := dk_46 (dk_at dksX5_sell_3 22 rfl rfl)
theorem dX5_sell_94 : decode cX5_sell 94 = .ok (.iload 4, 2) := dk_21 4 (dk_at dksX5_sell_4 0 rfl rfl)
theorem dX5_sell_96 : decode cX5_sell 96 = .ok (.iadd, 1) := dk_96 (dk_at dksX5_sell_4 2 rfl rfl)
theorem dX5_sell_97 : decode cX5_sell 97 = .ok (.sipush 9999, 3) := dk_17 39 15 (dk_at dksX5_sell_4 3 rfl rfl)
theorem dX5_sell_100 : decode cX5_sell 100 = .ok (.if_icmp .le 10, 3) := dk_164 0 10 (dk_at dksX5_sell_4 6 rfl rfl)
theorem dX5_sell_103 : decode cX5_sell 103 = .ok (.aload_n 0, 1) := dk_42 (dk_at dksX5_sell_4 9 rfl rfl)
theorem dX5_sell_104 : decode cX5_sell 104 = .ok (.bipush (-3), 2) := dk_16 253 (dk_at dksX5_sell_4 10 rfl rfl)
theorem dX5_sell_106 : decode cX5_sell 106 = .ok (.invokevirtual 127, 3) := dk_182 0 127 (dk_at dksX5_sell_4 12 rfl rfl)
theorem dX5_sell_109 : decode cX5_sell 109 = .ok (.ireturn, 1) := dk_172 (dk_at dksX5_sell_4 15 rfl rfl)
theorem dX5_sell_110 : decode cX5_sell 110 = .ok (.aload_n 0, 1) := dk_42 (dk_at dksX5_sell_4 16 rfl rfl)
theorem dX5_sell_111 : decode cX5_sell 111 = .ok (.iconst 3, 1) := dk_6 (dk_at dksX5_sell_4 17 rfl rfl)
theorem dX5_sell_112 : decode cX5_sell 112 = .ok (.invokevirtual 357, 3) := dk_182 1 101 (dk_at dksX5_sell_4 18 rfl rfl)
theorem dX5_sell_115 : decode cX5_sell 115 = .ok (.aload_n 0, 1) := dk_42 (dk_at dksX5_sell_4 21 rfl rfl)
theorem dX5_sell_116 : decode cX5_sell 116 = .ok (.getfield 24, 3) := dk_180 0 24 (dk_at dksX5_sell_5 0 rfl rfl)
theorem dX5_sell_119 : decode cX5_sell 119 = .ok (.iconst 0, 1) := dk_3 (dk_at dksX5_sell_5 3 rfl rfl)
theorem dX5_sell_120 : decode cX5_sell 120 = .ok (.iload_n 2, 1) := dk_28 (dk_at dksX5_sell_5 4 rfl rfl)
theorem dX5_sell_121 : decode cX5_sell 121 = .ok (.iadd, 1) := dk_96 (dk_at dksX5_sell_5 5 rfl rfl)
theorem dX5_sell_122 : decode cX5_sell 122 = .ok (.dup2, 1) := dk_92 (dk_at dksX5_sell_5 6 rfl rfl)
theorem dX5_sell_123 : decode cX5_sell 123 = .ok (.iaload, 1) := dk_46 (dk_at dksX5_sell_5 7 rfl rfl)
theorem dX5_sell_124 : decode cX5_sell 124 = .ok (.iload 4, 2) := dk_21 4 (dk_at dksX5_sell_5 8 rfl rfl)
theorem dX5_sell_126 : decode cX5_sell 126 = .ok (.isub, 1) := dk_100 (dk_at dksX5_sell_5 10 rfl rfl)
theorem dX5_sell_127 : decode cX5_sell 127 = .ok (.iastore, 1) := dk_79 (dk_at dksX5_sell_5 11 rfl rfl)
theorem dX5_sell_128 : decode cX5_sell 128 = .ok (.aload_n 0, 1) := dk_42 (dk_at dksX5_sell_5 12 rfl rfl)
theorem dX5_sell_129 : decode cX5_sell 129 = .ok (.getfield 24, 3) := dk_180 0 24 (dk_at dksX5_sell_5 13 rfl rfl)
theorem dX5_sell_132 : decode cX5_sell 132 = .ok (.iconst 0, 1) := dk_3 (dk_at dksX5_sell_5 16 rfl rfl)
theorem dX5_sell_133 : decode cX5_sell 133 = .ok (.aload_n 0, 1) := dk_42 (dk_at dksX5_sell_5 17 rfl rfl)
theorem dX5_sell_134 : decode cX5_sell 134 = .ok (.getfield 24, 3) := dk_180 0 24 (dk_at dksX5_sell_5 18 rfl rfl)
theorem dX5_sell_137 : decode cX5_sell 137 = .ok (.iload_n 3, 1) := dk_29 (dk_at dksX5_sell_5 21 rfl rfl)
theorem dX5_sell_138 : decode cX5_sell 138 = .ok (.iconst 1, 1) := dk_4 (dk_at dksX5_sell_5 22 rfl rfl)
theorem dX5_sell_139 : decode cX5_sell 139 = .ok (.iadd, 1) := dk_96 (dk_at dksX5_sell_5 23 rfl rfl)
theorem dX5_sell_140 : decode cX5_sell 140 = .ok (.iaload, 1) := dk_46 (dk_at dksX5_sell_6 0 rfl rfl)
theorem dX5_sell_141 : decode cX5_sell 141 = .ok (.iadd, 1) := dk_96 (dk_at dksX5_sell_6 1 rfl rfl)
theorem dX5_sell_142 : decode cX5_sell 142 = .ok (.dup2, 1) := dk_92 (dk_at dksX5_sell_6 2 rfl rfl)
theorem dX5_sell_143 : decode cX5_sell 143 = .ok (.iaload, 1) := dk_46 (dk_at dksX5_sell_6 3 rfl rfl)
theorem dX5_sell_144 : decode cX5_sell 144 = .ok (.iload 4, 2) := dk_21 4 (dk_at dksX5_sell_6 4 rfl rfl)
theorem dX5_sell_146 : decode cX5_sell 146 = .ok (.iadd, 1) := dk_96 (dk_at dksX5_sell_6 6 rfl rfl)
theorem dX5_sell_147 : decode cX5_sell 147 = .ok (.iastore, 1) := dk_79 (dk_at dksX5_sell_6 7 rfl rfl)
theorem dX5_sell_148 : decode cX5_sell 148 = .ok (.aload_n 0, 1) := dk_42 (dk_at dksX5_sell_6 8 rfl rfl)
theorem dX5_sell_149 : decode cX5_sell 149 = .ok (.getfield 24, 3) := dk_180 0 24 (dk_at dksX5_sell_6 9 rfl rfl)
theorem dX5_sell_152 : decode cX5_sell 152 = .ok (.iload_n 3, 1) := dk_29 (dk_at dksX5_sell_6 12 rfl rfl)
theorem dX5_sell_153 : decode cX5_sell 153 = .ok (.iconst 1, 1) := dk_4 (dk_at dksX5_sell_6 13 rfl rfl)
theorem dX5_sell_154 : decode cX5_sell 154 = .ok (.iadd, 1) := dk_96 (dk_at dksX5_sell_6 14 rfl rfl)
theorem dX5_sell_155 : decode cX5_sell 155 = .ok (.iload_n 2, 1) := dk_28 (dk_at dksX5_sell_6 15 rfl rfl)
theorem dX5_sell_156 : decode cX5_sell 156 = .ok (.iastore, 1) := dk_79 (dk_at dksX5_sell_6 16 rfl rfl)
theorem dX5_sell_157 : decode cX5_sell 157 = .ok (.aload_n 0, 1) := dk_42 (dk_at dksX5_sell_6 17 rfl rfl)
theorem dX5_sell_158 : decode cX5_sell 158 = .ok (.iload 4, 2) := dk_21 4 (dk_at dksX5_sell_6 18 rfl rfl)
theorem dX5_sell_160 : decode cX5_sell 160 = .ok (.invokevirtual 14, 3) := dk_182 0 14 (dk_at dksX5_sell_6 20 rfl rfl)
theorem dX5_sell_163 : decode cX5_sell 163 = .ok (.ireturn, 1) := dk_172 (dk_at dksX5_sell_6 23 rfl rfl)
noncomputable def f_X5_sell_16 (E : ax_E) (x0 : Option Nat) (h : ax_H) : Option (Int × ax_H) :=
  (ax_ce E h x0 5).bind fun _ => (f_X5_refuses E x0 (-2) h).bind fun q1 =>
  some (q1.1, q1.2)
noncomputable def f_X5_sell_52 (E : ax_E) (x0 : Option Nat) (h : ax_H) : Option (Int × ax_H) :=
  (ax_ce E h x0 5).bind fun _ => (f_X5_refuses E x0 (-3) h).bind fun q1 =>
  some (q1.1, q1.2)
noncomputable def f_X5_sell_103 (E : ax_E) (x0 : Option Nat) (h : ax_H) : Option (Int × ax_H) :=
  (ax_ce E h x0 5).bind fun _ => (f_X5_refuses E x0 (-3) h).bind fun q1 =>
  some (q1.1, q1.2)
noncomputable def f_X5_sell (E : ax_E) (x0 : Option Nat) (x1 : Int) (x2 : Int) (h : ax_H) : Option (Int × ax_H) :=
  (ax_ce E h x0 5).bind fun _ => (f_X5_isDebt E x0 x1 h).bind fun q1 =>
  if i2 q1.1 = 0 then
    f_X5_sell_16 E x0 q1.2
  else
    (ax_ce E q1.2 x0 5).bind fun _ => (f_X5_isPerson E x0 x2 q1.2).bind fun q2 =>
    if i2 q2.1 = 0 then
      f_X5_sell_16 E x0 q2.2
    else
      (ax_gR E q2.2 x0 5 2).bind fun v3 =>
      (ax_ld E q2.2 v3 100 (7 + (4 * x1))).bind fun v4 =>
      if i2 v4 = i2 x2 then
        f_X5_sell_52 E x0 q2.2
      else
        (ax_gR E q2.2 x0 5 2).bind fun v5 =>
        (ax_ld E q2.2 v5 100 ((7 + (4 * x1)) + 1)).bind fun v6 =>
        if i2 v6 = i2 x2 then
          f_X5_sell_52 E x0 q2.2
        else
          (ax_ce E q2.2 x0 5).bind fun _ => (f_X5_soldFor E x0 x1 q2.2).bind fun q7 =>
          (ax_gR E q7.2 x0 5 2).bind fun v8 =>
          (ax_ld E q7.2 v8 100 (0 + x2)).bind fun v9 =>
          if i2 v9 < i2 q7.1 then
            f_X5_sell_103 E x0 q7.2
          else
            (ax_gR E q7.2 x0 5 2).bind fun v10 =>
            (ax_gR E q7.2 x0 5 2).bind fun v11 =>
            (ax_ld E q7.2 v11 100 ((7 + (4 * x1)) + 1)).bind fun v12 =>
            (ax_ld E q7.2 v10 100 (0 + v12)).bind fun v13 =>
            if i2 9999 < i2 (v13 + q7.1) then
              f_X5_sell_103 E x0 q7.2
            else
              (ax_ce E q7.2 x0 5).bind fun _ => (f_X5_keeps E x0 3 q7.2).bind fun h14 =>
              (ax_gR E h14 x0 5 2).bind fun v15 =>
              (ax_ld E h14 v15 100 (0 + x2)).bind fun v16 =>
              (ax_sto h14 v15 100 (0 + x2) (v16 - q7.1)).bind fun h17 =>
              (ax_gR E h17 x0 5 2).bind fun v18 =>
              (ax_gR E h17 x0 5 2).bind fun v19 =>
              (ax_ld E h17 v19 100 ((7 + (4 * x1)) + 1)).bind fun v20 =>
              (ax_ld E h17 v18 100 (0 + v20)).bind fun v21 =>
              (ax_sto h17 v18 100 (0 + v20) (v21 + q7.1)).bind fun h22 =>
              (ax_gR E h22 x0 5 2).bind fun v23 =>
              (ax_sto h22 v23 100 ((7 + (4 * x1)) + 1) x2).bind fun h24 =>
              (ax_ce E h24 x0 5).bind fun _ => (f_X5_good E x0 q7.1 h24).bind fun q25 =>
              some (q25.1, q25.2)
set_option maxHeartbeats 4000000 in
theorem w_X5_sell_16 {l : Launch} {G : ax_G} {X : ax_X} {Q : State → Prop} {h0 h : ax_H} {ls : Array Slot} (hSF : ax_SF G) (B : ax_BL l G X cX5_sell 5 RX5 135 3515) (Z : ax_Z X h0 ((some FieldType.int))) (hn : X.2.2.2.2.2.2.2.2.1.name = yX5_sell.name) (x0 : Option Nat) {w : Int × ax_H} (hl : ax_hl ls 5 [(0, .inr (.inr x0))]) (e : f_X5_sell_16 G.2.2 x0 h = some w) (hp : (fun w : Int × ax_H => Q = ax_Q G X h0 w.2 (some (.int (Int32.ofInt w.1)))) w) : ax_W G X Q h 16 ls [] := by
  unfold f_X5_sell_16 at e
  refine ax_aload_n B dX5_sell_16 rfl hl 0 rfl ?_
  refine ax_bipush B dX5_sell_17 (by decide) ?_
  refine ax_ivI (y := yX5_refuses) (n := 1) (As := [.int (Int32.ofInt (-2))]) B kd5 (lw_V q2154 q2156 qs41 q133 q2157) (by decide +kernel) ⟨Nat.le_of_ble_eq_true rfl, Nat.le_of_ble_eq_true rfl⟩ (fun w1 e1 => mt_X5_refuses l G hSF x0 (-2) _ w1 e1) rfl hl.size (by decide) dX5_sell_19 e (fun q1 e => ?_)
  have e8 := e
  have hp : Q = _ := hp
  subst hp
  exact ax_ireturn B Z dX5_sell_22 e8
set_option maxHeartbeats 4000000 in
theorem w_X5_sell_52 {l : Launch} {G : ax_G} {X : ax_X} {Q : State → Prop} {h0 h : ax_H} {ls : Array Slot} (hSF : ax_SF G) (B : ax_BL l G X cX5_sell 5 RX5 135 3515) (Z : ax_Z X h0 ((some FieldType.int))) (hn : X.2.2.2.2.2.2.2.2.1.name = yX5_sell.name) (x0 : Option Nat) {w : Int × ax_H} (hl : ax_hl ls 5 [(0, .inr (.inr x0))]) (e : f_X5_sell_52 G.2.2 x0 h = some w) (hp : (fun w : Int × ax_H => Q = ax_Q G X h0 w.2 (some (.int (Int32.ofInt w.1)))) w) : ax_W G X Q h 52 ls [] := by
  unfold f_X5_sell_52 at e
  refine ax_aload_n B dX5_sell_52 rfl hl 0 rfl ?_
  refine ax_bipush B dX5_sell_53 (by decide) ?_
  refine ax_ivI (y := yX5_refuses) (n := 1) (As := [.int (Int32.ofInt (-3))]) B kd5 (lw_V q2154 q2156 qs41 q133 q2157) (by decide +kernel) ⟨Nat.le_of_ble_eq_true rfl, Nat.le_of_ble_eq_true rfl⟩ (fun w1 e1 => mt_X5_refuses l G hSF x0 (-3) _ w1 e1) rfl hl.size (by decide) dX5_sell_55 e (fun q1 e => ?_)
  have e8 := e
  have hp : Q = _ := hp
  subst hp
  exact ax_ireturn B Z dX5_sell_58 e8
set_option maxHeartbeats 4000000 in
theorem w_X5_sell_103 {l : Launch} {G : ax_G} {X : ax_X} {Q : State → Prop} {h0 h : ax_H} {ls : Array Slot} (hSF : ax_SF G) (B : ax_BL l G X cX5_sell 5 RX5 135 3515) (Z : ax_Z X h0 ((some FieldType.int))) (hn : X.2.2.2.2.2.2.2.2.1.name = yX5_sell.name) (x0 : Option Nat) {w : Int × ax_H} (hl : ax_hl ls 5 [(0, .inr (.inr x0))]) (e : f_X5_sell_103 G.2.2 x0 h = some w) (hp : (fun w : Int × ax_H => Q = ax_Q G X h0 w.2 (some (.int (Int32.ofInt w.1)))) w) : ax_W G X Q h 103 ls [] := by
  unfold f_X5_sell_103 at e
  refine ax_aload_n B dX5_sell_103 rfl hl 0 rfl ?_
  refine ax_bipush B dX5_sell_104 (by decide) ?_
  refine ax_ivI (y := yX5_refuses) (n := 1) (As := [.int (Int32.ofInt (-3))]) B kd5 (lw_V q2154 q2156 qs41 q133 q2157) (by decide +kernel) ⟨Nat.le_of_ble_eq_true rfl, Nat.le_of_ble_eq_true rfl⟩ (fun w1 e1 => mt_X5_refuses l G hSF x0 (-3) _ w1 e1) rfl hl.size (by decide) dX5_sell_106 e (fun q1 e => ?_)
  have e8 := e
  have hp : Q = _ := hp
  subst hp
  exact ax_ireturn B Z dX5_sell_109 e8
set_option maxHeartbeats 4000000 in
theorem we_X5_sell {l : Launch} {G : ax_G} {X : ax_X} {Q : State → Prop} {h0 h : ax_H} {ls : Array Slot} (hSF : ax_SF G) (B : ax_BL l G X cX5_sell 5 RX5 135 3515) (Z : ax_Z X h0 ((some FieldType.int))) (hn : X.2.2.2.2.2.2.2.2.1.name = yX5_sell.name) (x0 : Option Nat) (x1 : Int) (x2 : Int) {w : Int × ax_H} (hl : ax_hl ls 5 [(0, .inr (.inr x0)), (1, .inl x1), (2, .inl x2)]) (e : f_X5_sell G.2.2 x0 x1 x2 h = some w) (hp : (fun w : Int × ax_H => Q = ax_Q G X h0 w.2 (some (.int (Int32.ofInt w.1)))) w) : ax_W G X Q h 0 ls [] := by
  unfold f_X5_sell at e
  refine ax_aload_n B dX5_sell_0 rfl hl 0 rfl ?_
  refine ax_iload_n B dX5_sell_1 rfl hl 1 rfl ?_
  refine ax_ivI (y := yX5_isDebt) (n := 1) (As := [.int (Int32.ofInt x1)]) B kd5 (lw_V q2222 q2224 qs49 q133 q2225) (by decide +kernel) ⟨Nat.le_of_ble_eq_true rfl, Nat.le_of_ble_eq_true rfl⟩ (fun w1 e1 => mt_X5_isDebt l G hSF x0 x1 _ w1 e1) rfl hl.size (by decide) dX5_sell_2 e (fun q1 e => ?_)
  refine ax_if_eq (tgt := 16) B dX5_sell_5 (by decide) e (fun e => ?_) (fun e => ?_)
  · exact w_X5_sell_16 hSF B Z hn x0 (hl.sub [0] rfl) e hp
  · refine ax_aload_n B dX5_sell_8 rfl hl 0 rfl ?_
    refine ax_iload_n B dX5_sell_9 rfl hl 2 rfl ?_
    refine ax_ivI (y := yX5_isPerson) (n := 1) (As := [.int (Int32.ofInt x2)]) B kd5 (lw_V q2191 q2193 qs45 q133 q2194) (by decide +kernel) ⟨Nat.le_of_ble_eq_true rfl, Nat.le_of_ble_eq_true rfl⟩ (fun w1 e1 => mt_X5_isPerson l G hSF x0 x2 _ w1 e1) rfl hl.size (by decide) dX5_sell_10 e (fun q2 e => ?_)
    refine ax_if_ne (tgt := 23) B dX5_sell_13 (by decide) e (fun e => ?_) (fun e => ?_)
    · exact w_X5_sell_16 hSF B Z hn x0 (hl.sub [0] rfl) e hp
    · refine ax_bipush B dX5_sell_23 (by decide) ?_
      refine ax_iconst B dX5_sell_25 ?_
      refine ax_iload_n B dX5_sell_26 rfl hl 1 rfl ?_
      refine ax_imul' B dX5_sell_27 ?_
      refine ax_iadd' B dX5_sell_28 ?_
      refine ax_istore_n (L' := [(3, .inl (7 + (4 * x1))), (0, .inr (.inr x0)), (1, .inl x1), (2, .inl x2)]) B dX5_sell_29 rfl hl (by decide) rfl (fun ls hl => ?_)
      refine ax_aload_n B dX5_sell_30 rfl hl 1 rfl ?_
      refine ax_getR B ff_X5_24_5 (fun _ _ => rfl) dX5_sell_31 e (fun v3 e => ?_)
      refine ax_iload_n B dX5_sell_34 rfl hl 0 rfl ?_
      refine ax_iald B kd100 dX5_sell_35 e (fun v4 e => ?_)
      refine ax_iload_n B dX5_sell_36 rfl hl 3 rfl ?_
      refine ax_icmp_eq (tgt := 52) B dX5_sell_37 (by decide) e (fun e => ?_) (fun e => ?_)
      · exact w_X5_sell_52 hSF B Z hn x0 (hl.sub [1] rfl) e hp
      · refine ax_aload_n B dX5_sell_40 rfl hl 1 rfl ?_
        refine ax_getR B ff_X5_24_5 (fun _ _ => rfl) dX5_sell_41 e (fun v5 e => ?_)
        refine ax_iload_n B dX5_sell_44 rfl hl 0 rfl ?_
        refine ax_iconst B dX5_sell_45 ?_
        refine ax_iadd' B dX5_sell_46 ?_
        refine ax_iald B kd100 dX5_sell_47 e (fun v6 e => ?_)
        refine ax_iload_n B dX5_sell_48 rfl hl 3 rfl ?_
        refine ax_icmp_ne (tgt := 59) B dX5_sell_49 (by decide) e (fun e => ?_) (fun e => ?_)
        · exact w_X5_sell_52 hSF B Z hn x0 (hl.sub [1] rfl) e hp
        · refine ax_aload_n B dX5_sell_59 rfl hl 1 rfl ?_
          refine ax_iload_n B dX5_sell_60 rfl hl 2 rfl ?_
          refine ax_ivI (y := yX5_soldFor) (n := 1) (As := [.int (Int32.ofInt x1)]) B kd5 (lw_V q2226 q2228 qs50 q133 q2229) (by decide +kernel) ⟨Nat.le_of_ble_eq_true rfl, Nat.le_of_ble_eq_true rfl⟩ (fun w1 e1 => mt_X5_soldFor l G hSF x0 x1 _ w1 e1) rfl hl.size (by decide) dX5_sell_61 e (fun q7 e => ?_)
          refine ax_istore (L' := [(4, .inl q7.1), (3, .inl (7 + (4 * x1))), (0, .inr (.inr x0)), (1, .inl x1), (2, .inl x2)]) B dX5_sell_64 hl (by decide) rfl (fun ls hl => ?_)
          refine ax_aload_n B dX5_sell_66 rfl hl 2 rfl ?_
          refine ax_getR B ff_X5_24_5 (fun _ _ => rfl) dX5_sell_67 e (fun v8 e => ?_)
          refine ax_iconst B dX5_sell_70 ?_
          refine ax_iload_n B dX5_sell_71 rfl hl 4 rfl ?_
          refine ax_iadd' B dX5_sell_72 ?_
          refine ax_iald B kd100 dX5_sell_73 e (fun v9 e => ?_)
          refine ax_iload B dX5_sell_74 hl 0 rfl ?_
          refine ax_icmp_lt (tgt := 103) B dX5_sell_76 (by decide) e (fun e => ?_) (fun e => ?_)
          · exact w_X5_sell_103 hSF B Z hn x0 (hl.sub [2] rfl) e hp
          · refine ax_aload_n B dX5_sell_79 rfl hl 2 rfl ?_
            refine ax_getR B ff_X5_24_5 (fun _ _ => rfl) dX5_sell_80 e (fun v10 e => ?_)
            refine ax_iconst B dX5_sell_83 ?_
            refine ax_aload_n B dX5_sell_84 rfl hl 2 rfl ?_
            refine ax_getR B ff_X5_24_5 (fun _ _ => rfl) dX5_sell_85 e (fun v11 e => ?_)
            refine ax_iload_n B dX5_sell_88 rfl hl 1 rfl ?_
            refine ax_iconst B dX5_sell_89 ?_
            refine ax_iadd' B dX5_sell_90 ?_
            refine ax_iald B kd100 dX5_sell_91 e (fun v12 e => ?_)
            refine ax_iadd' B dX5_sell_92 ?_
            refine ax_iald B kd100 dX5_sell_93 e (fun v13 e => ?_)
            refine ax_iload B dX5_sell_94 hl 0 rfl ?_
            refine ax_iadd' B dX5_sell_96 ?_
            refine ax_sipush B dX5_sell_97 (by decide) ?_
            refine ax_icmp_le (tgt := 110) B dX5_sell_100 (by decide) e (fun e => ?_) (fun e => ?_)
            · exact w_X5_sell_103 hSF B Z hn x0 (hl.sub [2] rfl) e hp
            · refine ax_aload_n B dX5_sell_110 rfl hl 2 rfl ?_
              refine ax_iconst B dX5_sell_111 ?_
              refine ax_ivV (y := yX5_keeps) (n := 1) (As := [.int (Int32.ofInt 3)]) B kd5 (lw_V q2466 q2468 qs93 q133 q2469) (by decide +kernel) ⟨Nat.le_of_ble_eq_true rfl, Nat.le_of_ble_eq_true rfl⟩ (fun w1 e1 => mt_X5_keeps l G hSF x0 3 _ w1 e1) rfl hl.size (by decide) dX5_sell_112 e (fun h14 e => ?_)
              refine ax_aload_n B dX5_sell_115 rfl hl 2 rfl ?_
              refine ax_getR B ff_X5_24_5 (fun _ _ => rfl) dX5_sell_116 e (fun v15 e => ?_)
              refine ax_iconst B dX5_sell_119 ?_
              refine ax_iload_n B dX5_sell_120 rfl hl 4 rfl ?_
              refine ax_iadd' B dX5_sell_121 ?_
              refine ax_dup2 B dX5_sell_122 (rfl) (va_rf_cat _) ?_
              refine ax_iald B kd100 dX5_sell_123 e (fun v16 e => ?_)
              refine ax_iload B dX5_sell_124 hl 0 rfl ?_
              refine ax_isub' B dX5_sell_126 ?_
              refine ax_iast B kd100 dX5_sell_127 e (fun h17 e => ?_)
              refine ax_aload_n B dX5_sell_128 rfl hl 2 rfl ?_
              refine ax_getR B ff_X5_24_5 (fun _ _ => rfl) dX5_sell_129 e (fun v18 e => ?_)
              refine ax_iconst B dX5_sell_132 ?_
              refine ax_aload_n B dX5_sell_133 rfl hl 2 rfl ?_
              refine ax_getR B ff_X5_24_5 (fun _ _ => rfl) dX5_sell_134 e (fun v19 e => ?_)
              refine ax_iload_n B dX5_sell_137 rfl hl 1 rfl ?_
              refine ax_iconst B dX5_sell_138 ?_
              refine ax_iadd' B dX5_sell_139 ?_
              refine ax_iald B kd100 dX5_sell_140 e (fun v20 e => ?_)
              refine ax_iadd' B dX5_sell_141 ?_
              refine ax_dup2 B dX5_sell_142 (rfl) (va_rf_cat _) ?_
              refine ax_iald B kd100 dX5_sell_143 e (fun v21 e => ?_)
              refine ax_iload B dX5_sell_144 hl 0 rfl ?_
              refine ax_iadd' B dX5_sell_146 ?_
              refine ax_iast B kd100 dX5_sell_147 e (fun h22 e => ?_)
              refine ax_aload_n B dX5_sell_148 rfl hl 2 rfl ?_
              refine ax_getR B ff_X5_24_5 (fun _ _ => rfl) dX5_sell_149 e (fun v23 e => ?_)
              refine ax_iload_n B dX5_sell_152 rfl hl 1 rfl ?_
              refine ax_iconst B dX5_sell_153 ?_
              refine ax_iadd' B dX5_sell_154 ?_
              refine ax_iload_n B dX5_sell_155 rfl hl 4 rfl ?_
              refine ax_iast B kd100 dX5_sell_156 e (fun h24 e => ?_)
              refine ax_aload_n B dX5_sell_157 rfl hl 2 rfl ?_
              refine ax_iload B dX5_sell_158 hl 0 rfl ?_
              refine ax_ivI (y := yX5_good) (n := 1) (As := [.int (Int32.ofInt q7.1)]) B kd5 (lw_V q2158 q2160 qs42 q133 q2161) (by decide +kernel) ⟨Nat.le_of_ble_eq_true rfl, Nat.le_of_ble_eq_true rfl⟩ (fun w1 e1 => mt_X5_good l G hSF x0 q7.1 _ w1 e1) rfl hl.size (by decide) dX5_sell_160 e (fun q25 e => ?_)
              have e8 := e
              have hp : Q = _ := hp
              subst hp
              exact ax_ireturn B Z dX5_sell_163 e8
theorem mt_X5_sell (l : Launch) (G : ax_G) (hSF : ax_SF G) (x0 : Option Nat) (x1 : Int) (x2 : Int) (h : ax_H) (w : Int × ax_H) (e : f_X5_sell G.2.2 x0 x1 x2 h = some w) : ax_Met l G yX5_sell cX5_sell 5 ((some FieldType.int)) 135 3515 [va_rf x0, .int (Int32.ofInt x1), .int (Int32.ofInt x2)] h w.2 (some (.int (Int32.ofInt w.1))) :=
  ax_enter [.inr (.inr x0), .inl x1, .inl x2] (y := yX5_sell) hSF (plainFor_of_name (by decide +kernel)) (Nat.le_of_ble_eq_true rfl) (fun X ls B Z hn hl => we_X5_sell hSF B Z hn x0 x1 x2 hl e rfl)
