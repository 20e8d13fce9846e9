set_option maxRecDepth 100000
theorem dJ0_init_0 : decode cJ0_init 0 = .ok (.aload_n 0, 1) := by decide +kernel
theorem dJ0_init_1 : decode cJ0_init 1 = .ok (.invokespecial 1, 3) := by decide +kernel
theorem dJ0_init_4 : decode cJ0_init 4 = .ok (.return_, 1) := by decide +kernel
noncomputable def f_J0_init (E : ax_E) (x0 : Option Nat) (h : ax_H) : Option (ax_H) :=
  x0.bind fun _ =>
  some h
set_option maxHeartbeats 4000000 in
theorem we_J0_init {l : Launch} {G : ax_G} {X : ax_X} {Q : State → Prop} {h0 h : ax_H} {ls : Array Slot} (hSF : ax_SF G) (B : ax_BL l G X cJ0_init 1 RJ0 1 40) (Z : ax_Z X h0 none) (hn : X.2.2.2.2.2.2.2.2.1.name = yJ0_init.name) (x0 : Option Nat) {w : ax_H} (hl : ax_hl ls 1 [(0, .inr (.inr x0))]) (e : f_J0_init G.2.2 x0 h = some w) (hp : (fun w : ax_H => Q = ax_Q G X h0 w none) w) : ax_W G X Q h 0 ls [] := by
  unfold f_J0_init at e
  refine ax_aload_n B dJ0_init_0 rfl hl 0 rfl ?_
  refine ax_oiR B q202 q183 q184 hl.size (by decide) (by decide) dJ0_init_1 e (fun e => ?_)
  have e8 := e
  have hp : Q = _ := hp
  subst hp
  exact ax_return B Z dJ0_init_4 e8
theorem mt_J0_init (l : Launch) (G : ax_G) (hSF : ax_SF G) (x0 : Option Nat) (h : ax_H) (w : ax_H) (e : f_J0_init G.2.2 x0 h = some w) : ax_Met l G yJ0_init cJ0_init 1 none 1 40 [va_rf x0] h w none :=
  ax_enter [.inr (.inr x0)] (y := yJ0_init) hSF (plainFor_of_name (by decide +kernel)) (Nat.le_of_ble_eq_true rfl) (fun X ls B Z hn hl => we_J0_init hSF B Z hn x0 hl e rfl)
def dkwJ1_init_0 : List UInt8 := [42, 183, 0, 1, 42, 3, 181, 0, 7, 177]
abbrev dktJ1_init_0 : List UInt8 := dkwJ1_init_0 ++ []
theorem dksJ1_init_0 : cJ1_init.data.toList.drop 0 = dktJ1_init_0 := by decide +kernel
theorem dJ1_init_0 : decode cJ1_init 0 = .ok (.aload_n 0, 1) := dk_42 (dk_at dksJ1_init_0 0 rfl rfl)
theorem dJ1_init_1 : decode cJ1_init 1 = .ok (.invokespecial 1, 3) := dk_183 0 1 (dk_at dksJ1_init_0 1 rfl rfl)
theorem dJ1_init_4 : decode cJ1_init 4 = .ok (.aload_n 0, 1) := dk_42 (dk_at dksJ1_init_0 4 rfl rfl)
theorem dJ1_init_5 : decode cJ1_init 5 = .ok (.iconst 0, 1) := dk_3 (dk_at dksJ1_init_0 5 rfl rfl)
theorem dJ1_init_6 : decode cJ1_init 6 = .ok (.putfield 7, 3) := dk_181 0 7 (dk_at dksJ1_init_0 6 rfl rfl)
theorem dJ1_init_9 : decode cJ1_init 9 = .ok (.return_, 1) := dk_177 (dk_at dksJ1_init_0 9 rfl rfl)
noncomputable def f_J1_init (E : ax_E) (x0 : Option Nat) (h : ax_H) : Option (ax_H) :=
  x0.bind fun _ => (f_J0_init E x0 h).bind fun h1 =>
  (ax_pI h1 x0 42 0 0).bind fun h2 =>
  some h2
set_option maxHeartbeats 4000000 in
theorem we_J1_init {l : Launch} {G : ax_G} {X : ax_X} {Q : State → Prop} {h0 h : ax_H} {ls : Array Slot} (hSF : ax_SF G) (B : ax_BL l G X cJ1_init 1 RJ1 2 60) (Z : ax_Z X h0 none) (hn : X.2.2.2.2.2.2.2.2.1.name = yJ1_init.name) (x0 : Option Nat) {w : ax_H} (hl : ax_hl ls 1 [(0, .inr (.inr x0))]) (e : f_J1_init G.2.2 x0 h = some w) (hp : (fun w : ax_H => Q = ax_Q G X h0 w none) w) : ax_W G X Q h 0 ls [] := by
  unfold f_J1_init at e
  refine ax_aload_n B dJ1_init_0 rfl hl 0 rfl ?_
  refine ax_iiR (y := yJ0_init) (n := 0) (As := []) B q199 q200 q127 q201 rfl (by decide +kernel) ⟨Nat.le_of_ble_eq_true rfl, Nat.le_of_ble_eq_true rfl⟩ (fun w1 e1 => mt_J0_init l G hSF x0 _ w1 e1) rfl hl.size (by decide) dJ1_init_1 e (fun h1 e => ?_)
  refine ax_aload_n B dJ1_init_4 rfl hl 0 rfl ?_
  refine ax_iconst B dJ1_init_5 ?_
  refine ax_putI B ff_J1_7_42 (Or.inl rfl) rfl dJ1_init_6 e (fun h2 e => ?_)
  have e8 := e
  have hp : Q = _ := hp
  subst hp
  exact ax_return B Z dJ1_init_9 e8
theorem mt_J1_init (l : Launch) (G : ax_G) (hSF : ax_SF G) (x0 : Option Nat) (h : ax_H) (w : ax_H) (e : f_J1_init G.2.2 x0 h = some w) : ax_Met l G yJ1_init cJ1_init 1 none 2 60 [va_rf x0] h w none :=
  ax_enter [.inr (.inr x0)] (y := yJ1_init) hSF (plainFor_of_name (by decide +kernel)) (Nat.le_of_ble_eq_true rfl) (fun X ls B Z hn hl => we_J1_init hSF B Z hn x0 hl e rfl)
def dkwJ2_init_0 : List UInt8 := [42, 183, 0, 1, 42, 178, 0, 39, 181, 0, 9, 177]
abbrev dktJ2_init_0 : List UInt8 := dkwJ2_init_0 ++ []
theorem dksJ2_init_0 : cJ2_init.data.toList.drop 0 = dktJ2_init_0 := by decide +kernel
theorem dJ2_init_0 : decode cJ2_init 0 = .ok (.aload_n 0, 1) := dk_42 (dk_at dksJ2_init_0 0 rfl rfl)
theorem dJ2_init_1 : decode cJ2_init 1 = .ok (.invokespecial 1, 3) := dk_183 0 1 (dk_at dksJ2_init_0 1 rfl rfl)
theorem dJ2_init_4 : decode cJ2_init 4 = .ok (.aload_n 0, 1) := dk_42 (dk_at dksJ2_init_0 4 rfl rfl)
theorem dJ2_init_5 : decode cJ2_init 5 = .ok (.getstatic 39, 3) := dk_178 0 39 (dk_at dksJ2_init_0 5 rfl rfl)
theorem dJ2_init_8 : decode cJ2_init 8 = .ok (.putfield 9, 3) := dk_181 0 9 (dk_at dksJ2_init_0 8 rfl rfl)
theorem dJ2_init_11 : decode cJ2_init 11 = .ok (.return_, 1) := dk_177 (dk_at dksJ2_init_0 11 rfl rfl)
noncomputable def f_J2_init (E : ax_E) (x0 : Option Nat) (h : ax_H) : Option (ax_H) :=
  x0.bind fun _ => (f_J1_init E x0 h).bind fun h1 =>
  (ax_cst E 0).bind fun v2 =>
  (ax_pR h1 x0 42 1 v2).bind fun h3 =>
  some h3
set_option maxHeartbeats 4000000 in
theorem we_J2_init {l : Launch} {G : ax_G} {X : ax_X} {Q : State → Prop} {h0 h : ax_H} {ls : Array Slot} (hSF : ax_SF G) (B : ax_BL l G X cJ2_init 1 RJ2 3 80) (Z : ax_Z X h0 none) (hn : X.2.2.2.2.2.2.2.2.1.name = yJ2_init.name) (x0 : Option Nat) {w : ax_H} (hl : ax_hl ls 1 [(0, .inr (.inr x0))]) (e : f_J2_init G.2.2 x0 h = some w) (hp : (fun w : ax_H => Q = ax_Q G X h0 w none) w) : ax_W G X Q h 0 ls [] := by
  unfold f_J2_init at e
  refine ax_aload_n B dJ2_init_0 rfl hl 0 rfl ?_
  refine ax_iiR (y := yJ1_init) (n := 0) (As := []) B q196 q197 q128 q198 rfl (by decide +kernel) ⟨Nat.le_of_ble_eq_true rfl, Nat.le_of_ble_eq_true rfl⟩ (fun w1 e1 => mt_J1_init l G hSF x0 _ w1 e1) rfl hl.size (by decide) dJ2_init_1 e (fun h1 e => ?_)
  refine ax_aload_n B dJ2_init_4 rfl hl 0 rfl ?_
  refine ax_gst B (ax_sx B).1.1 q203 (Or.inl rfl) dJ2_init_5 e (fun v2 e => ?_)
  refine ax_putR B ff_J2_9_42 (Or.inl rfl) rfl dJ2_init_8 e (fun h3 e => ?_)
  have e8 := e
  have hp : Q = _ := hp
  subst hp
  exact ax_return B Z dJ2_init_11 e8
theorem mt_J2_init (l : Launch) (G : ax_G) (hSF : ax_SF G) (x0 : Option Nat) (h : ax_H) (w : ax_H) (e : f_J2_init G.2.2 x0 h = some w) : ax_Met l G yJ2_init cJ2_init 1 none 3 80 [va_rf x0] h w none :=
  ax_enter [.inr (.inr x0)] (y := yJ2_init) hSF (plainFor_of_name (by decide +kernel)) (Nat.le_of_ble_eq_true rfl) (fun X ls B Z hn hl => we_J2_init hSF B Z hn x0 hl e rfl)
def dkwX2_init_1 : List UInt8 := [188, 10, 181, 0, 18, 42, 16, 17, 188, 10, 181, 0, 21, 42, 16, 17, 188, 10, 181, 0, 24, 177]
abbrev dktX2_init_1 : List UInt8 := dkwX2_init_1 ++ []
def dkwX2_init_0 : List UInt8 := [42, 183, 0, 3, 42, 16, 7, 188, 10, 181, 0, 9, 42, 16, 17, 188, 10, 181, 0, 15, 42, 16, 17]
abbrev dktX2_init_0 : List UInt8 := dkwX2_init_0 ++ dktX2_init_1
theorem dksX2_init_0 : cX2_init.data.toList.drop 0 = dktX2_init_0 := by decide +kernel
theorem dksX2_init_1 : cX2_init.data.toList.drop 23 = dktX2_init_1 := dk_seg dksX2_init_0 23 rfl rfl
theorem dX2_init_0 : decode cX2_init 0 = .ok (.aload_n 0, 1) := dk_42 (dk_at dksX2_init_0 0 rfl rfl)
theorem dX2_init_1 : decode cX2_init 1 = .ok (.invokespecial 3, 3) := dk_183 0 3 (dk_at dksX2_init_0 1 rfl rfl)
theorem dX2_init_4 : decode cX2_init 4 = .ok (.aload_n 0, 1) := dk_42 (dk_at dksX2_init_0 4 rfl rfl)
theorem dX2_init_5 : decode cX2_init 5 = .ok (.bipush 7, 2) := dk_16 7 (dk_at dksX2_init_0 5 rfl rfl)
theorem dX2_init_7 : decode cX2_init 7 = .ok (.newarray .int, 2) := dk_188_10 (dk_at dksX2_init_0 7 rfl rfl)
theorem dX2_init_9 : decode cX2_init 9 = .ok (.putfield 9, 3) := dk_181 0 9 (dk_at dksX2_init_0 9 rfl rfl)
theorem dX2_init_12 : decode cX2_init 12 = .ok (.aload_n 0, 1) := dk_42 (dk_at dksX2_init_0 12 rfl rfl)
theorem dX2_init_13 : decode cX2_init 13 = .ok (.bipush 17, 2) := dk_16 17 (dk_at dksX2_init_0 13 rfl rfl)
theorem dX2_init_15 : decode cX2_init 15 = .ok (.newarray .int, 2) := dk_188_10 (dk_at dksX2_init_0 15 rfl rfl)
theorem dX2_init_17 : decode cX2_init 17 = .ok (.putfield 15, 3) := dk_181 0 15 (dk_at dksX2_init_0 17 rfl rfl)
theorem dX2_init_20 : decode cX2_init 20 = .ok (.aload_n 0, 1) := dk_42 (dk_at dksX2_init_0 20 rfl rfl)
theorem dX2_init_21 : decode cX2_init 21 = .ok (.bipush 17, 2) := dk_16 17 (dk_at dksX2_init_0 21 rfl rfl)
theorem dX2_init_23 : decode cX2_init 23 = .ok (.newarray .int, 2) := dk_188_10 (dk_at dksX2_init_1 0 rfl rfl)
theorem dX2_init_25 : decode cX2_init 25 = .ok (.putfield 18, 3) := dk_181 0 18 (dk_at dksX2_init_1 2 rfl rfl)
theorem dX2_init_28 : decode cX2_init 28 = .ok (.aload_n 0, 1) := dk_42 (dk_at dksX2_init_1 5 rfl rfl)
theorem dX2_init_29 : decode cX2_init 29 = .ok (.bipush 17, 2) := dk_16 17 (dk_at dksX2_init_1 6 rfl rfl)
theorem dX2_init_31 : decode cX2_init 31 = .ok (.newarray .int, 2) := dk_188_10 (dk_at dksX2_init_1 8 rfl rfl)
theorem dX2_init_33 : decode cX2_init 33 = .ok (.putfield 21, 3) := dk_181 0 21 (dk_at dksX2_init_1 10 rfl rfl)
theorem dX2_init_36 : decode cX2_init 36 = .ok (.aload_n 0, 1) := dk_42 (dk_at dksX2_init_1 13 rfl rfl)
theorem dX2_init_37 : decode cX2_init 37 = .ok (.bipush 17, 2) := dk_16 17 (dk_at dksX2_init_1 14 rfl rfl)
theorem dX2_init_39 : decode cX2_init 39 = .ok (.newarray .int, 2) := dk_188_10 (dk_at dksX2_init_1 16 rfl rfl)
theorem dX2_init_41 : decode cX2_init 41 = .ok (.putfield 24, 3) := dk_181 0 24 (dk_at dksX2_init_1 18 rfl rfl)
theorem dX2_init_44 : decode cX2_init 44 = .ok (.return_, 1) := dk_177 (dk_at dksX2_init_1 21 rfl rfl)
noncomputable def f_X2_init (E : ax_E) (x0 : Option Nat) (h : ax_H) : Option (ax_H) :=
  x0.bind fun _ =>
  (ax_na E h 100 7).bind fun q1 =>
  (ax_pR q1.2 x0 2 0 (some q1.1)).bind fun h2 =>
  (ax_na E h2 100 17).bind fun q3 =>
  (ax_pR q3.2 x0 2 1 (some q3.1)).bind fun h4 =>
  (ax_na E h4 100 17).bind fun q5 =>
  (ax_pR q5.2 x0 2 2 (some q5.1)).bind fun h6 =>
  (ax_na E h6 100 17).bind fun q7 =>
  (ax_pR q7.2 x0 2 3 (some q7.1)).bind fun h8 =>
  (ax_na E h8 100 17).bind fun q9 =>
  (ax_pR q9.2 x0 2 4 (some q9.1)).bind fun h10 =>
  some h10
set_option maxHeartbeats 4000000 in
theorem we_X2_init {l : Launch} {G : ax_G} {X : ax_X} {Q : State → Prop} {h0 h : ax_H} {ls : Array Slot} (hSF : ax_SF G) (B : ax_BL l G X cX2_init 1 RX2 1 40) (Z : ax_Z X h0 none) (hn : X.2.2.2.2.2.2.2.2.1.name = yX2_init.name) (x0 : Option Nat) {w : ax_H} (hl : ax_hl ls 1 [(0, .inr (.inr x0))]) (e : f_X2_init G.2.2 x0 h = some w) (hp : (fun w : ax_H => Q = ax_Q G X h0 w none) w) : ax_W G X Q h 0 ls [] := by
  unfold f_X2_init at e
  refine ax_aload_n B dX2_init_0 rfl hl 0 rfl ?_
  refine ax_oiR B q222 q183 q184 hl.size (by decide) (by decide) dX2_init_1 e (fun e => ?_)
  refine ax_aload_n B dX2_init_4 rfl hl 0 rfl ?_
  refine ax_bipush B dX2_init_5 (by decide) ?_
  refine ax_newa (atype := .int) B kd100 q259 rfl (by decide) dX2_init_7 e (fun q1 e => ?_)
  refine ax_putR B ff_X2_9_2 (Or.inr ⟨rfl, rfl, hn⟩) rfl dX2_init_9 e (fun h2 e => ?_)
  refine ax_aload_n B dX2_init_12 rfl hl 0 rfl ?_
  refine ax_bipush B dX2_init_13 (by decide) ?_
  refine ax_newa (atype := .int) B kd100 q259 rfl (by decide) dX2_init_15 e (fun q3 e => ?_)
  refine ax_putR B ff_X2_15_2 (Or.inr ⟨rfl, rfl, hn⟩) rfl dX2_init_17 e (fun h4 e => ?_)
  refine ax_aload_n B dX2_init_20 rfl hl 0 rfl ?_
  refine ax_bipush B dX2_init_21 (by decide) ?_
  refine ax_newa (atype := .int) B kd100 q259 rfl (by decide) dX2_init_23 e (fun q5 e => ?_)
  refine ax_putR B ff_X2_18_2 (Or.inr ⟨rfl, rfl, hn⟩) rfl dX2_init_25 e (fun h6 e => ?_)
  refine ax_aload_n B dX2_init_28 rfl hl 0 rfl ?_
  refine ax_bipush B dX2_init_29 (by decide) ?_
  refine ax_newa (atype := .int) B kd100 q259 rfl (by decide) dX2_init_31 e (fun q7 e => ?_)
  refine ax_putR B ff_X2_21_2 (Or.inr ⟨rfl, rfl, hn⟩) rfl dX2_init_33 e (fun h8 e => ?_)
  refine ax_aload_n B dX2_init_36 rfl hl 0 rfl ?_
  refine ax_bipush B dX2_init_37 (by decide) ?_
  refine ax_newa (atype := .int) B kd100 q259 rfl (by decide) dX2_init_39 e (fun q9 e => ?_)
  refine ax_putR B ff_X2_24_2 (Or.inr ⟨rfl, rfl, hn⟩) rfl dX2_init_41 e (fun h10 e => ?_)
  have e8 := e
  have hp : Q = _ := hp
  subst hp
  exact ax_return B Z dX2_init_44 e8
theorem mt_X2_init (l : Launch) (G : ax_G) (hSF : ax_SF G) (x0 : Option Nat) (h : ax_H) (w : ax_H) (e : f_X2_init G.2.2 x0 h = some w) : ax_Met l G yX2_init cX2_init 1 none 1 40 [va_rf x0] h w none :=
  ax_enter [.inr (.inr x0)] (y := yX2_init) hSF (plainFor_of_name (by decide +kernel)) (Nat.le_of_ble_eq_true rfl) (fun X ls B Z hn hl => we_X2_init hSF B Z hn x0 hl e rfl)
def dkwX1_init_3 : List UInt8 := [177]
abbrev dktX1_init_3 : List UInt8 := dkwX1_init_3 ++ []
def dkwX1_init_2 : List UInt8 := [181, 0, 27, 42, 16, 7, 188, 10, 181, 0, 31, 42, 16, 7, 188, 10, 181, 0, 35, 42, 2, 181, 0, 38]
abbrev dktX1_init_2 : List UInt8 := dkwX1_init_2 ++ dktX1_init_3
def dkwX1_init_1 : List UInt8 := [181, 0, 18, 42, 187, 0, 9, 89, 183, 0, 11, 181, 0, 21, 42, 187, 0, 24, 89, 183, 0, 26]
abbrev dktX1_init_1 : List UInt8 := dkwX1_init_1 ++ dktX1_init_2
def dkwX1_init_0 : List UInt8 := [42, 183, 0, 3, 42, 187, 0, 9, 89, 183, 0, 11, 181, 0, 12, 42, 187, 0, 9, 89, 183, 0, 11]
abbrev dktX1_init_0 : List UInt8 := dkwX1_init_0 ++ dktX1_init_1
theorem dksX1_init_0 : cX1_init.data.toList.drop 0 = dktX1_init_0 := by decide +kernel
theorem dksX1_init_1 : cX1_init.data.toList.drop 23 = dktX1_init_1 := dk_seg dksX1_init_0 23 rfl rfl
theorem dksX1_init_2 : cX1_init.data.toList.drop 45 = dktX1_init_2 := dk_seg dksX1_init_1 22 rfl rfl
theorem dksX1_init_3 : cX1_init.data.toList.drop 69 = dktX1_init_3 := dk_seg dksX1_init_2 24 rfl rfl
theorem dX1_init_0 : decode cX1_init 0 = .ok (.aload_n 0, 1) := dk_42 (dk_at dksX1_init_0 0 rfl rfl)
theorem dX1_init_1 : decode cX1_init 1 = .ok (.invokespecial 3, 3) := dk_183 0 3 (dk_at dksX1_init_0 1 rfl rfl)
theorem dX1_init_4 : decode cX1_init 4 = .ok (.aload_n 0, 1) := dk_42 (dk_at dksX1_init_0 4 rfl rfl)
theorem dX1_init_5 : decode cX1_init 5 = .ok (.new 9, 3) := dk_187 0 9 (dk_at dksX1_init_0 5 rfl rfl)
theorem dX1_init_8 : decode cX1_init 8 = .ok (.dup, 1) := dk_89 (dk_at dksX1_init_0 8 rfl rfl)
theorem dX1_init_9 : decode cX1_init 9 = .ok (.invokespecial 11, 3) := dk_183 0 11 (dk_at dksX1_init_0 9 rfl rfl)
theorem dX1_init_12 : decode cX1_init 12 = .ok (.putfield 12, 3) := dk_181 0 12 (dk_at dksX1_init_0 12 rfl rfl)
theorem dX1_init_15 : decode cX1_init 15 = .ok (.aload_n 0, 1) := dk_42 (dk_at dksX1_init_0 15 rfl rfl)
theorem dX1_init_16 : decode cX1_init 16 = .ok (.new 9, 3) := dk_187 0 9 (dk_at dksX1_init_0 16 rfl rfl)
theorem dX1_init_19 : decode cX1_init 19 = .ok (.dup, 1) := dk_89 (dk_at dksX1_init_0 19 rfl rfl)
theorem dX1_init_20 : decode cX1_init 20 = .ok (.invokespecial 11, 3) := dk_183 0 11 (dk_at dksX1_init_0 20 rfl rfl)
theorem dX1_init_23 : decode cX1_init 23 = .ok (.putfield 18, 3) := dk_181 0 18 (dk_at dksX1_init_1 0 rfl rfl)
theorem dX1_init_26 : decode cX1_init 26 = .ok (.aload_n 0, 1) := dk_42 (dk_at dksX1_init_1 3 rfl rfl)
theorem dX1_init_27 : decode cX1_init 27 = .ok (.new 9, 3) := dk_187 0 9 (dk_at dksX1_init_1 4 rfl rfl)
theorem dX1_init_30 : decode cX1_init 30 = .ok (.dup, 1) := dk_89 (dk_at dksX1_init_1 7 rfl rfl)
theorem dX1_init_31 : decode cX1_init 31 = .ok (.invokespecial 11, 3) := dk_183 0 11 (dk_at dksX1_init_1 8 rfl rfl)
theorem dX1_init_34 : decode cX1_init 34 = .ok (.putfield 21, 3) := dk_181 0 21 (dk_at dksX1_init_1 11 rfl rfl)
theorem dX1_init_37 : decode cX1_init 37 = .ok (.aload_n 0, 1) := dk_42 (dk_at dksX1_init_1 14 rfl rfl)
theorem dX1_init_38 : decode cX1_init 38 = .ok (.new 24, 3) := dk_187 0 24 (dk_at dksX1_init_1 15 rfl rfl)
theorem dX1_init_41 : decode cX1_init 41 = .ok (.dup, 1) := dk_89 (dk_at dksX1_init_1 18 rfl rfl)
theorem dX1_init_42 : decode cX1_init 42 = .ok (.invokespecial 26, 3) := dk_183 0 26 (dk_at dksX1_init_1 19 rfl rfl)
theorem dX1_init_45 : decode cX1_init 45 = .ok (.putfield 27, 3) := dk_181 0 27 (dk_at dksX1_init_2 0 rfl rfl)
theorem dX1_init_48 : decode cX1_init 48 = .ok (.aload_n 0, 1) := dk_42 (dk_at dksX1_init_2 3 rfl rfl)
theorem dX1_init_49 : decode cX1_init 49 = .ok (.bipush 7, 2) := dk_16 7 (dk_at dksX1_init_2 4 rfl rfl)
theorem dX1_init_51 : decode cX1_init 51 = .ok (.newarray .int, 2) := dk_188_10 (dk_at dksX1_init_2 6 rfl rfl)
theorem dX1_init_53 : decode cX1_init 53 = .ok (.putfield 31, 3) := dk_181 0 31 (dk_at dksX1_init_2 8 rfl rfl)
theorem dX1_init_56 : decode cX1_init 56 = .ok (.aload_n 0, 1) := dk_42 (dk_at dksX1_init_2 11 rfl rfl)
theorem dX1_init_57 : decode cX1_init 57 = .ok (.bipush 7, 2) := dk_16 7 (dk_at dksX1_init_2 12 rfl rfl)
theorem dX1_init_59 : decode cX1_init 59 = .ok (.newarray .int, 2) := dk_188_10 (dk_at dksX1_init_2 14 rfl rfl)
theorem dX1_init_61 : decode cX1_init 61 = .ok (.putfield 35, 3) := dk_181 0 35 (dk_at dksX1_init_2 16 rfl rfl)
theorem dX1_init_64 : decode cX1_init 64 = .ok (.aload_n 0, 1) := dk_42 (dk_at dksX1_init_2 19 rfl rfl)
theorem dX1_init_65 : decode cX1_init 65 = .ok (.iconst (-1), 1) := dk_2 (dk_at dksX1_init_2 20 rfl rfl)
theorem dX1_init_66 : decode cX1_init 66 = .ok (.putfield 38, 3) := dk_181 0 38 (dk_at dksX1_init_2 21 rfl rfl)
theorem dX1_init_69 : decode cX1_init 69 = .ok (.return_, 1) := dk_177 (dk_at dksX1_init_3 0 rfl rfl)
noncomputable def f_X1_init (E : ax_E) (x0 : Option Nat) (h : ax_H) : Option (ax_H) :=
  x0.bind fun _ =>
  (ax_nw E h 42 0 3).bind fun q1 =>
  (some q1.1).bind fun _ => (f_J2_init E (some q1.1) q1.2).bind fun h2 =>
  (ax_pR h2 x0 1 0 (some q1.1)).bind fun h3 =>
  (ax_nw E h3 42 0 3).bind fun q4 =>
  (some q4.1).bind fun _ => (f_J2_init E (some q4.1) q4.2).bind fun h5 =>
  (ax_pR h5 x0 1 1 (some q4.1)).bind fun h6 =>
  (ax_nw E h6 42 0 3).bind fun q7 =>
  (some q7.1).bind fun _ => (f_J2_init E (some q7.1) q7.2).bind fun h8 =>
  (ax_pR h8 x0 1 2 (some q7.1)).bind fun h9 =>
  (ax_nw E h9 2 0 7).bind fun q10 =>
  (some q10.1).bind fun _ => (f_X2_init E (some q10.1) q10.2).bind fun h11 =>
  (ax_pR h11 x0 1 3 (some q10.1)).bind fun h12 =>
  (ax_na E h12 100 7).bind fun q13 =>
  (ax_pR q13.2 x0 1 4 (some q13.1)).bind fun h14 =>
  (ax_na E h14 100 7).bind fun q15 =>
  (ax_pR q15.2 x0 1 5 (some q15.1)).bind fun h16 =>
  (ax_pI h16 x0 1 8 (-1)).bind fun h17 =>
  some h17
set_option maxHeartbeats 4000000 in
theorem we_X1_init {l : Launch} {G : ax_G} {X : ax_X} {Q : State → Prop} {h0 h : ax_H} {ls : Array Slot} (hSF : ax_SF G) (B : ax_BL l G X cX1_init 1 RX1 4 100) (Z : ax_Z X h0 none) (hn : X.2.2.2.2.2.2.2.2.1.name = yX1_init.name) (x0 : Option Nat) {w : ax_H} (hl : ax_hl ls 1 [(0, .inr (.inr x0))]) (e : f_X1_init G.2.2 x0 h = some w) (hp : (fun w : ax_H => Q = ax_Q G X h0 w none) w) : ax_W G X Q h 0 ls [] := by
  unfold f_X1_init at e
  refine ax_aload_n B dX1_init_0 rfl hl 0 rfl ?_
  refine ax_oiR B q190 q183 q184 hl.size (by decide) (by decide) dX1_init_1 e (fun e => ?_)
  refine ax_aload_n B dX1_init_4 rfl hl 0 rfl ?_
  refine ax_new B kd42 in_J2 tyJ2_ok (fun k hk => ax_dv _ (dfJ2 k hk)) q191 q192 q129 dX1_init_5 e (fun q1 e => ?_)
  refine ax_dup B dX1_init_8 (va_rf_cat _) ?_
  refine ax_iiR (y := yJ2_init) (n := 0) (As := []) B q193 q194 q129 q195 rfl (by decide +kernel) ⟨Nat.le_of_ble_eq_true rfl, Nat.le_of_ble_eq_true rfl⟩ (fun w1 e1 => mt_J2_init l G hSF (some q1.1) _ w1 e1) rfl hl.size (by simp only [List.map_cons, List.map_nil, List.sum_cons, List.sum_nil, va_rf_cat, ax_catI, ax_catL]; decide) dX1_init_9 e (fun h2 e => ?_)
  refine ax_putR B ff_X1_12_1 (Or.inr ⟨rfl, rfl, hn⟩) rfl dX1_init_12 e (fun h3 e => ?_)
  refine ax_aload_n B dX1_init_15 rfl hl 0 rfl ?_
  refine ax_new B kd42 in_J2 tyJ2_ok (fun k hk => ax_dv _ (dfJ2 k hk)) q191 q192 q129 dX1_init_16 e (fun q4 e => ?_)
  refine ax_dup B dX1_init_19 (va_rf_cat _) ?_
  refine ax_iiR (y := yJ2_init) (n := 0) (As := []) B q193 q194 q129 q195 rfl (by decide +kernel) ⟨Nat.le_of_ble_eq_true rfl, Nat.le_of_ble_eq_true rfl⟩ (fun w1 e1 => mt_J2_init l G hSF (some q4.1) _ w1 e1) rfl hl.size (by simp only [List.map_cons, List.map_nil, List.sum_cons, List.sum_nil, va_rf_cat, ax_catI, ax_catL]; decide) dX1_init_20 e (fun h5 e => ?_)
  refine ax_putR B ff_X1_18_1 (Or.inr ⟨rfl, rfl, hn⟩) rfl dX1_init_23 e (fun h6 e => ?_)
  refine ax_aload_n B dX1_init_26 rfl hl 0 rfl ?_
  refine ax_new B kd42 in_J2 tyJ2_ok (fun k hk => ax_dv _ (dfJ2 k hk)) q191 q192 q129 dX1_init_27 e (fun q7 e => ?_)
  refine ax_dup B dX1_init_30 (va_rf_cat _) ?_
  refine ax_iiR (y := yJ2_init) (n := 0) (As := []) B q193 q194 q129 q195 rfl (by decide +kernel) ⟨Nat.le_of_ble_eq_true rfl, Nat.le_of_ble_eq_true rfl⟩ (fun w1 e1 => mt_J2_init l G hSF (some q7.1) _ w1 e1) rfl hl.size (by simp only [List.map_cons, List.map_nil, List.sum_cons, List.sum_nil, va_rf_cat, ax_catI, ax_catL]; decide) dX1_init_31 e (fun h8 e => ?_)
  refine ax_putR B ff_X1_21_1 (Or.inr ⟨rfl, rfl, hn⟩) rfl dX1_init_34 e (fun h9 e => ?_)
  refine ax_aload_n B dX1_init_37 rfl hl 0 rfl ?_
  refine ax_new B kd2 in_X2 tyX2_ok (fun k hk => ax_dv _ (dfX2 k hk)) q217 q218 q130 dX1_init_38 e (fun q10 e => ?_)
  refine ax_dup B dX1_init_41 (va_rf_cat _) ?_
  refine ax_iiNR (y := yX2_init) (n := 0) (As := []) B q219 q220 q130 q221 rfl (by decide +kernel) ⟨Nat.le_of_ble_eq_true rfl, Nat.le_of_ble_eq_true rfl⟩ (fun w1 e1 => mt_X2_init l G hSF (some q10.1) _ w1 e1) rfl hl.size (by simp only [List.map_cons, List.map_nil, List.sum_cons, List.sum_nil, va_rf_cat, ax_catI, ax_catL]; decide) dX1_init_42 e (fun h11 e => ?_)
  refine ax_putR B ff_X1_27_1 (Or.inr ⟨rfl, rfl, hn⟩) rfl dX1_init_45 e (fun h12 e => ?_)
  refine ax_aload_n B dX1_init_48 rfl hl 0 rfl ?_
  refine ax_bipush B dX1_init_49 (by decide) ?_
  refine ax_newa (atype := .int) B kd100 q259 rfl (by decide) dX1_init_51 e (fun q13 e => ?_)
  refine ax_putR B ff_X1_31_1 (Or.inr ⟨rfl, rfl, hn⟩) rfl dX1_init_53 e (fun h14 e => ?_)
  refine ax_aload_n B dX1_init_56 rfl hl 0 rfl ?_
  refine ax_bipush B dX1_init_57 (by decide) ?_
  refine ax_newa (atype := .int) B kd100 q259 rfl (by decide) dX1_init_59 e (fun q15 e => ?_)
  refine ax_putR B ff_X1_35_1 (Or.inr ⟨rfl, rfl, hn⟩) rfl dX1_init_61 e (fun h16 e => ?_)
  refine ax_aload_n B dX1_init_64 rfl hl 0 rfl ?_
  refine ax_iconst B dX1_init_65 ?_
  refine ax_putI B ff_X1_38_1 (Or.inl rfl) rfl dX1_init_66 e (fun h17 e => ?_)
  have e8 := e
  have hp : Q = _ := hp
  subst hp
  exact ax_return B Z dX1_init_69 e8
theorem mt_X1_init (l : Launch) (G : ax_G) (hSF : ax_SF G) (x0 : Option Nat) (h : ax_H) (w : ax_H) (e : f_X1_init G.2.2 x0 h = some w) : ax_Met l G yX1_init cX1_init 1 none 4 100 [va_rf x0] h w none :=
  ax_enter [.inr (.inr x0)] (y := yX1_init) hSF (plainFor_of_name (by decide +kernel)) (Nat.le_of_ble_eq_true rfl) (fun X ls B Z hn hl => we_X1_init hSF B Z hn x0 hl e rfl)
def dkwX3_init_0 : List UInt8 := [42, 183, 0, 1, 42, 16, 10, 188, 11, 181, 0, 7, 177]
abbrev dktX3_init_0 : List UInt8 := dkwX3_init_0 ++ []
theorem dksX3_init_0 : cX3_init.data.toList.drop 0 = dktX3_init_0 := by decide +kernel
theorem dX3_init_0 : decode cX3_init 0 = .ok (.aload_n 0, 1) := dk_42 (dk_at dksX3_init_0 0 rfl rfl)
theorem dX3_init_1 : decode cX3_init 1 = .ok (.invokespecial 1, 3) := dk_183 0 1 (dk_at dksX3_init_0 1 rfl rfl)
theorem dX3_init_4 : decode cX3_init 4 = .ok (.aload_n 0, 1) := dk_42 (dk_at dksX3_init_0 4 rfl rfl)
theorem dX3_init_5 : decode cX3_init 5 = .ok (.bipush 10, 2) := dk_16 10 (dk_at dksX3_init_0 5 rfl rfl)
theorem dX3_init_7 : decode cX3_init 7 = .ok (.newarray .long, 2) := dk_188_11 (dk_at dksX3_init_0 7 rfl rfl)
theorem dX3_init_9 : decode cX3_init 9 = .ok (.putfield 7, 3) := dk_181 0 7 (dk_at dksX3_init_0 9 rfl rfl)
theorem dX3_init_12 : decode cX3_init 12 = .ok (.return_, 1) := dk_177 (dk_at dksX3_init_0 12 rfl rfl)
noncomputable def f_X3_init (E : ax_E) (x0 : Option Nat) (h : ax_H) : Option (ax_H) :=
  x0.bind fun _ =>
  (ax_na E h 103 10).bind fun q1 =>
  (ax_pR q1.2 x0 3 0 (some q1.1)).bind fun h2 =>
  some h2
set_option maxHeartbeats 4000000 in
theorem we_X3_init {l : Launch} {G : ax_G} {X : ax_X} {Q : State → Prop} {h0 h : ax_H} {ls : Array Slot} (hSF : ax_SF G) (B : ax_BL l G X cX3_init 1 RX3 1 40) (Z : ax_Z X h0 none) (hn : X.2.2.2.2.2.2.2.2.1.name = yX3_init.name) (x0 : Option Nat) {w : ax_H} (hl : ax_hl ls 1 [(0, .inr (.inr x0))]) (e : f_X3_init G.2.2 x0 h = some w) (hp : (fun w : ax_H => Q = ax_Q G X h0 w none) w) : ax_W G X Q h 0 ls [] := by
  unfold f_X3_init at e
  refine ax_aload_n B dX3_init_0 rfl hl 0 rfl ?_
  refine ax_oiR B q308 q183 q184 hl.size (by decide) (by decide) dX3_init_1 e (fun e => ?_)
  refine ax_aload_n B dX3_init_4 rfl hl 0 rfl ?_
  refine ax_bipush B dX3_init_5 (by decide) ?_
  refine ax_newa (atype := .long) B kd103 q325 rfl (by decide) dX3_init_7 e (fun q1 e => ?_)
  refine ax_putR B ff_X3_7_3 (Or.inr ⟨rfl, rfl, hn⟩) rfl dX3_init_9 e (fun h2 e => ?_)
  have e8 := e
  have hp : Q = _ := hp
  subst hp
  exact ax_return B Z dX3_init_12 e8
theorem mt_X3_init (l : Launch) (G : ax_G) (hSF : ax_SF G) (x0 : Option Nat) (h : ax_H) (w : ax_H) (e : f_X3_init G.2.2 x0 h = some w) : ax_Met l G yX3_init cX3_init 1 none 1 40 [va_rf x0] h w none :=
  ax_enter [.inr (.inr x0)] (y := yX3_init) hSF (plainFor_of_name (by decide +kernel)) (Nat.le_of_ble_eq_true rfl) (fun X ls B Z hn hl => we_X3_init hSF B Z hn x0 hl e rfl)
def dkwX4_init_0 : List UInt8 := [42, 183, 0, 1, 42, 43, 181, 0, 7, 177]
abbrev dktX4_init_0 : List UInt8 := dkwX4_init_0 ++ []
theorem dksX4_init_0 : cX4_init.data.toList.drop 0 = dktX4_init_0 := by decide +kernel
theorem dX4_init_0 : decode cX4_init 0 = .ok (.aload_n 0, 1) := dk_42 (dk_at dksX4_init_0 0 rfl rfl)
theorem dX4_init_1 : decode cX4_init 1 = .ok (.invokespecial 1, 3) := dk_183 0 1 (dk_at dksX4_init_0 1 rfl rfl)
theorem dX4_init_4 : decode cX4_init 4 = .ok (.aload_n 0, 1) := dk_42 (dk_at dksX4_init_0 4 rfl rfl)
theorem dX4_init_5 : decode cX4_init 5 = .ok (.aload_n 1, 1) := dk_43 (dk_at dksX4_init_0 5 rfl rfl)
theorem dX4_init_6 : decode cX4_init 6 = .ok (.putfield 7, 3) := dk_181 0 7 (dk_at dksX4_init_0 6 rfl rfl)
theorem dX4_init_9 : decode cX4_init 9 = .ok (.return_, 1) := dk_177 (dk_at dksX4_init_0 9 rfl rfl)
noncomputable def f_X4_init (E : ax_E) (x0 : Option Nat) (x1 : Option Nat) (h : ax_H) : Option (ax_H) :=
  x0.bind fun _ =>
  (ax_pR h x0 4 0 x1).bind fun h1 =>
  some h1
set_option maxHeartbeats 4000000 in
theorem we_X4_init {l : Launch} {G : ax_G} {X : ax_X} {Q : State → Prop} {h0 h : ax_H} {ls : Array Slot} (hSF : ax_SF G) (B : ax_BL l G X cX4_init 2 RX4 1 40) (Z : ax_Z X h0 none) (hn : X.2.2.2.2.2.2.2.2.1.name = yX4_init.name) (x0 : Option Nat) (x1 : Option Nat) {w : ax_H} (hl : ax_hl ls 2 [(0, .inr (.inr x0)), (1, .inr (.inr x1))]) (e : f_X4_init G.2.2 x0 x1 h = some w) (hp : (fun w : ax_H => Q = ax_Q G X h0 w none) w) : ax_W G X Q h 0 ls [] := by
  unfold f_X4_init at e
  refine ax_aload_n B dX4_init_0 rfl hl 0 rfl ?_
  refine ax_oiR B q333 q183 q184 hl.size (by decide) (by decide) dX4_init_1 e (fun e => ?_)
  refine ax_aload_n B dX4_init_4 rfl hl 0 rfl ?_
  refine ax_aload_n B dX4_init_5 rfl hl 1 rfl ?_
  refine ax_putR B ff_X4_7_4 (Or.inr ⟨rfl, rfl, hn⟩) rfl dX4_init_6 e (fun h1 e => ?_)
  have e8 := e
  have hp : Q = _ := hp
  subst hp
  exact ax_return B Z dX4_init_9 e8
theorem mt_X4_init (l : Launch) (G : ax_G) (hSF : ax_SF G) (x0 : Option Nat) (x1 : Option Nat) (h : ax_H) (w : ax_H) (e : f_X4_init G.2.2 x0 x1 h = some w) : ax_Met l G yX4_init cX4_init 2 none 1 40 [va_rf x0, va_rf x1] h w none :=
  ax_enter [.inr (.inr x0), .inr (.inr x1)] (y := yX4_init) hSF (plainFor_of_name (by decide +kernel)) (Nat.le_of_ble_eq_true rfl) (fun X ls B Z hn hl => we_X4_init hSF B Z hn x0 x1 hl e rfl)
def dkwX0_init_6 : List UInt8 := [187, 0, 71, 89, 183, 0, 73, 83, 132, 1, 1, 167, 255, 231, 177]
abbrev dktX0_init_6 : List UInt8 := dkwX0_init_6 ++ []
def dkwX0_init_5 : List UInt8 := [189, 0, 71, 181, 0, 78, 3, 60, 27, 42, 180, 0, 78, 190, 162, 0, 22, 42, 180, 0, 78, 27]
abbrev dktX0_init_5 : List UInt8 := dkwX0_init_5 ++ dktX0_init_6
def dkwX0_init_4 : List UInt8 := [17, 1, 144, 188, 8, 181, 0, 67, 42, 187, 0, 71, 89, 183, 0, 73, 181, 0, 74, 42, 16, 9]
abbrev dktX0_init_4 : List UInt8 := dkwX0_init_4 ++ dktX0_init_5
def dkwX0_init_3 : List UInt8 := [181, 0, 52, 42, 16, 7, 188, 10, 181, 0, 56, 42, 2, 181, 0, 60, 42, 2, 181, 0, 64, 42]
abbrev dktX0_init_3 : List UInt8 := dkwX0_init_3 ++ dktX0_init_4
def dkwX0_init_2 : List UInt8 := [187, 0, 35, 89, 183, 0, 37, 181, 0, 42, 42, 187, 0, 45, 89, 3, 189, 0, 47, 183, 0, 49]
abbrev dktX0_init_2 : List UInt8 := dkwX0_init_2 ++ dktX0_init_3
def dkwX0_init_1 : List UInt8 := [187, 0, 28, 89, 183, 0, 30, 181, 0, 31, 42, 187, 0, 35, 89, 183, 0, 37, 181, 0, 38, 42]
abbrev dktX0_init_1 : List UInt8 := dkwX0_init_1 ++ dktX0_init_2
def dkwX0_init_0 : List UInt8 := [42, 183, 0, 11, 42, 187, 0, 17, 89, 183, 0, 19, 181, 0, 20, 42, 5, 189, 0, 17, 181, 0, 24, 42]
abbrev dktX0_init_0 : List UInt8 := dkwX0_init_0 ++ dktX0_init_1
theorem dksX0_init_0 : cX0_init.data.toList.drop 0 = dktX0_init_0 := by decide +kernel
theorem dksX0_init_1 : cX0_init.data.toList.drop 24 = dktX0_init_1 := dk_seg dksX0_init_0 24 rfl rfl
theorem dksX0_init_2 : cX0_init.data.toList.drop 46 = dktX0_init_2 := dk_seg dksX0_init_1 22 rfl rfl
theorem dksX0_init_3 : cX0_init.data.toList.drop 68 = dktX0_init_3 := dk_seg dksX0_init_2 22 rfl rfl
theorem dksX0_init_4 : cX0_init.data.toList.drop 90 = dktX0_init_4 := dk_seg dksX0_init_3 22 rfl rfl
theorem dksX0_init_5 : cX0_init.data.toList.drop 112 = dktX0_init_5 := dk_seg dksX0_init_4 22 rfl rfl
theorem dksX0_init_6 : cX0_init.data.toList.drop 134 = dktX0_init_6 := dk_seg dksX0_init_5 22 rfl rfl
theorem dX0_init_0 : decode cX0_init 0 = .ok (.aload_n 0, 1) := dk_42 (dk_at dksX0_init_0 0 rfl rfl)
theorem dX0_init_1 : decode cX0_init 1 = .ok (.invokespecial 11, 3) := dk_183 0 11 (dk_at dksX0_init_0 1 rfl rfl)
theorem dX0_init_4 : decode cX0_init 4 = .ok (.aload_n 0, 1) := dk_42 (dk_at dksX0_init_0 4 rfl rfl)
theorem dX0_init_5 : decode cX0_init 5 = .ok (.new 17, 3) := dk_187 0 17 (dk_at dksX0_init_0 5 rfl rfl)
theorem dX0_init_8 : decode cX0_init 8 = .ok (.dup, 1) := dk_89 (dk_at dksX0_init_0 8 rfl rfl)
theorem dX0_init_9 : decode cX0_init 9 = .ok (.invokespecial 19, 3) := dk_183 0 19 (dk_at dksX0_init_0 9 rfl rfl)
theorem dX0_init_12 : decode cX0_init 12 = .ok (.putfield 20, 3) := dk_181 0 20 (dk_at dksX0_init_0 12 rfl rfl)
theorem dX0_init_15 : decode cX0_init 15 = .ok (.aload_n 0, 1) := dk_42 (dk_at dksX0_init_0 15 rfl rfl)
theorem dX0_init_16 : decode cX0_init 16 = .ok (.iconst 2, 1) := dk_5 (dk_at dksX0_init_0 16 rfl rfl)
theorem dX0_init_17 : decode cX0_init 17 = .ok (.anewarray 17, 3) := dk_189 0 17 (dk_at dksX0_init_0 17 rfl rfl)
theorem dX0_init_20 : decode cX0_init 20 = .ok (.putfield 24, 3) := dk_181 0 24 (dk_at dksX0_init_0 20 rfl rfl)
theorem dX0_init_23 : decode cX0_init 23 = .ok (.aload_n 0, 1) := dk_42 (dk_at dksX0_init_0 23 rfl rfl)
theorem dX0_init_24 : decode cX0_init 24 = .ok (.new 28, 3) := dk_187 0 28 (dk_at dksX0_init_1 0 rfl rfl)
theorem dX0_init_27 : decode cX0_init 27 = .ok (.dup, 1) := dk_89 (dk_at dksX0_init_1 3 rfl rfl)
theorem dX0_init_28 : decode cX0_init 28 = .ok (.invokespecial 30, 3) := dk_183 0 30 (dk_at dksX0_init_1 4 rfl rfl)
theorem dX0_init_31 : decode cX0_init 31 = .ok (.putfield 31, 3) := dk_181 0 31 (dk_at dksX0_init_1 7 rfl rfl)
theorem dX0_init_34 : decode cX0_init 34 = .ok (.aload_n 0, 1) := dk_42 (dk_at dksX0_init_1 10 rfl rfl)
theorem dX0_init_35 : decode cX0_init 35 = .ok (.new 35, 3) := dk_187 0 35 (dk_at dksX0_init_1 11 rfl rfl)
theorem dX0_init_38 : decode cX0_init 38 = .ok (.dup, 1) := dk_89 (dk_at dksX0_init_1 14 rfl rfl)
theorem dX0_init_39 : decode cX0_init 39 = .ok (.invokespecial 37, 3) := dk_183 0 37 (dk_at dksX0_init_1 15 rfl rfl)
theorem dX0_init_42 : decode cX0_init 42 = .ok (.putfield 38, 3) := dk_181 0 38 (dk_at dksX0_init_1 18 rfl rfl)
theorem dX0_init_45 : decode cX0_init 45 = .ok (.aload_n 0, 1) := dk_42 (dk_at dksX0_init_1 21 rfl rfl)
theorem dX0_init_46 : decode cX0_init 46 = .ok (.new 35, 3) := dk_187 0 35 (dk_at dksX0_init_2 0 rfl rfl)
theorem dX0_init_49 : decode cX0_init 49 = .ok (.dup, 1) := dk_89 (dk_at dksX0_init_2 3 rfl rfl)
theorem dX0_init_50 : decode cX0_init 50 = .ok (.invokespecial 37, 3) := dk_183 0 37 (dk_at dksX0_init_2 4 rfl rfl)
theorem dX0_init_53 : decode cX0_init 53 = .ok (.putfield 42, 3) := dk_181 0 42 (dk_at dksX0_init_2 7 rfl rfl)
theorem dX0_init_56 : decode cX0_init 56 = .ok (.aload_n 0, 1) := dk_42 (dk_at dksX0_init_2 10 rfl rfl)
theorem dX0_init_57 : decode cX0_init 57 = .ok (.new 45, 3) := dk_187 0 45 (dk_at dksX0_init_2 11 rfl rfl)
theorem dX0_init_60 : decode cX0_init 60 = .ok (.dup, 1) := dk_89 (dk_at dksX0_init_2 14 rfl rfl)
theorem dX0_init_61 : decode cX0_init 61 = .ok (.iconst 0, 1) := dk_3 (dk_at dksX0_init_2 15 rfl rfl)
theorem dX0_init_62 : decode cX0_init 62 = .ok (.anewarray 47, 3) := dk_189 0 47 (dk_at dksX0_init_2 16 rfl rfl)
theorem dX0_init_65 : decode cX0_init 65 = .ok (.invokespecial 49, 3) := dk_183 0 49 (dk_at dksX0_init_2 19 rfl rfl)
theorem dX0_init_68 : decode cX0_init 68 = .ok (.putfield 52, 3) := dk_181 0 52 (dk_at dksX0_init_3 0 rfl rfl)
theorem dX0_init_71 : decode cX0_init 71 = .ok (.aload_n 0, 1) := dk_42 (dk_at dksX0_init_3 3 rfl rfl)
theorem dX0_init_72 : decode cX0_init 72 = .ok (.bipush 7, 2) := dk_16 7 (dk_at dksX0_init_3 4 rfl rfl)
theorem dX0_init_74 : decode cX0_init 74 = .ok (.newarray .int, 2) := dk_188_10 (dk_at dksX0_init_3 6 rfl rfl)
theorem dX0_init_76 : decode cX0_init 76 = .ok (.putfield 56, 3) := dk_181 0 56 (dk_at dksX0_init_3 8 rfl rfl)
theorem dX0_init_79 : decode cX0_init 79 = .ok (.aload_n 0, 1) := dk_42 (dk_at dksX0_init_3 11 rfl rfl)
theorem dX0_init_80 : decode cX0_init 80 = .ok (.iconst (-1), 1) := dk_2 (dk_at dksX0_init_3 12 rfl rfl)
theorem dX0_init_81 : decode cX0_init 81 = .ok (.putfield 60, 3) := dk_181 0 60 (dk_at dksX0_init_3 13 rfl rfl)
theorem dX0_init_84 : decode cX0_init 84 = .ok (.aload_n 0, 1) := dk_42 (dk_at dksX0_init_3 16 rfl rfl)
theorem dX0_init_85 : decode cX0_init 85 = .ok (.iconst (-1), 1) := dk_2 (dk_at dksX0_init_3 17 rfl rfl)
theorem dX0_init_86 : decode cX0_init 86 = .ok (.putfield 64, 3) := dk_181 0 64 (dk_at dksX0_init_3 18 rfl rfl)
theorem dX0_init_89 : decode cX0_init 89 = .ok (.aload_n 0, 1) := dk_42 (dk_at dksX0_init_3 21 rfl rfl)
theorem dX0_init_90 : decode cX0_init 90 = .ok (.sipush 400, 3) := dk_17 1 144 (dk_at dksX0_init_4 0 rfl rfl)
theorem dX0_init_93 : decode cX0_init 93 = .ok (.newarray .byte, 2) := dk_188_8 (dk_at dksX0_init_4 3 rfl rfl)
theorem dX0_init_95 : decode cX0_init 95 = .ok (.putfield 67, 3) := dk_181 0 67 (dk_at dksX0_init_4 5 rfl rfl)
theorem dX0_init_98 : decode cX0_init 98 = .ok (.aload_n 0, 1) := dk_42 (dk_at dksX0_init_4 8 rfl rfl)
theorem dX0_init_99 : decode cX0_init 99 = .ok (.new 71, 3) := dk_187 0 71 (dk_at dksX0_init_4 9 rfl rfl)
theorem dX0_init_102 : decode cX0_init 102 = .ok (.dup, 1) := dk_89 (dk_at dksX0_init_4 12 rfl rfl)
theorem dX0_init_103 : decode cX0_init 103 = .ok (.invokespecial 73, 3) := dk_183 0 73 (dk_at dksX0_init_4 13 rfl rfl)
theorem dX0_init_106 : decode cX0_init 106 = .ok (.putfield 74, 3) := dk_181 0 74 (dk_at dksX0_init_4 16 rfl rfl)
theorem dX0_init_109 : decode cX0_init 109 = .ok (.aload_n 0, 1) := dk_42 (dk_at dksX0_init_4 19 rfl rfl)
theorem dX0_init_110 : decode cX0_init 110 = .ok (.bipush 9, 2) := dk_16 9 (dk_at dksX0_init_4 20 rfl rfl)
theorem dX0_init_112 : decode cX0_init 112 = .ok (.anewarray 71, 3) := dk_189 0 71 (dk_at dksX0_init_5 0 rfl rfl)
theorem dX0_init_115 : decode cX0_init 115 = .ok (.putfield 78, 3) := dk_181 0 78 (dk_at dksX0_init_5 3 rfl rfl)
theorem dX0_init_118 : decode cX0_init 118 = .ok (.iconst 0, 1) := dk_3 (dk_at dksX0_init_5 6 rfl rfl)
theorem dX0_init_119 : decode cX0_init 119 = .ok (.istore_n 1, 1) := dk_60 (dk_at dksX0_init_5 7 rfl rfl)
theorem dX0_init_120 : decode cX0_init 120 = .ok (.iload_n 1, 1) := dk_27 (dk_at dksX0_init_5 8 rfl rfl)
theorem dX0_init_121 : decode cX0_init 121 = .ok (.aload_n 0, 1) := dk_42 (dk_at dksX0_init_5 9 rfl rfl)
theorem dX0_init_122 : decode cX0_init 122 = .ok (.getfield 78, 3) := dk_180 0 78 (dk_at dksX0_init_5 10 rfl rfl)
theorem dX0_init_125 : decode cX0_init 125 = .ok (.arraylength, 1) := dk_190 (dk_at dksX0_init_5 13 rfl rfl)
theorem dX0_init_126 : decode cX0_init 126 = .ok (.if_icmp .ge 22, 3) := dk_162 0 22 (dk_at dksX0_init_5 14 rfl rfl)
theorem dX0_init_129 : decode cX0_init 129 = .ok (.aload_n 0, 1) := dk_42 (dk_at dksX0_init_5 17 rfl rfl)
theorem dX0_init_130 : decode cX0_init 130 = .ok (.getfield 78, 3) := dk_180 0 78 (dk_at dksX0_init_5 18 rfl rfl)
theorem dX0_init_133 : decode cX0_init 133 = .ok (.iload_n 1, 1) := dk_27 (dk_at dksX0_init_5 21 rfl rfl)
theorem dX0_init_134 : decode cX0_init 134 = .ok (.new 71, 3) := dk_187 0 71 (dk_at dksX0_init_6 0 rfl rfl)
theorem dX0_init_137 : decode cX0_init 137 = .ok (.dup, 1) := dk_89 (dk_at dksX0_init_6 3 rfl rfl)
theorem dX0_init_138 : decode cX0_init 138 = .ok (.invokespecial 73, 3) := dk_183 0 73 (dk_at dksX0_init_6 4 rfl rfl)
theorem dX0_init_141 : decode cX0_init 141 = .ok (.aastore, 1) := dk_83 (dk_at dksX0_init_6 7 rfl rfl)
theorem dX0_init_142 : decode cX0_init 142 = .ok (.iinc 1 1, 3) := dk_132 1 1 (dk_at dksX0_init_6 8 rfl rfl)
theorem dX0_init_145 : decode cX0_init 145 = .ok (.goto (-25), 3) := dk_167 255 231 (dk_at dksX0_init_6 11 rfl rfl)
theorem dX0_init_148 : decode cX0_init 148 = .ok (.return_, 1) := dk_177 (dk_at dksX0_init_6 14 rfl rfl)
noncomputable def lb_X0_init_120 (E : ax_E) (x0 : Option Nat) (x1 : Int) (h : ax_H) : Option ((Int × ax_H) ⊕ (ax_H)) :=
  (ax_gR E h x0 0 14).bind fun v1 =>
  (ax_len E h v1 107).bind fun v2 =>
  if i2 x1 < i2 v2 then
    (ax_gR E h x0 0 14).bind fun v3 =>
    (ax_nw E h 2 0 7).bind fun q4 =>
    (some q4.1).bind fun _ => (f_X2_init E (some q4.1) q4.2).bind fun h5 =>
    (ax_stR E oj_107 h5 v3 107 x1 (some q4.1)).bind fun h6 =>
    some (.inl ((x1 + 1), h6))
  else
    (some h).map Sum.inr
noncomputable def f_X0_init_120 (E : ax_E) (x0 : Option Nat) (x1 : Int) (h : ax_H) : Option (ax_H) :=
  ax_iter (fun s : Int × ax_H => lb_X0_init_120 E x0 s.1 s.2) (x1, h)
noncomputable def f_X0_init (E : ax_E) (x0 : Option Nat) (h : ax_H) : Option (ax_H) :=
  x0.bind fun _ =>
  (ax_nw E h 1 0 9).bind fun q1 =>
  (some q1.1).bind fun _ => (f_X1_init E (some q1.1) q1.2).bind fun h2 =>
  (ax_pR h2 x0 0 0 (some q1.1)).bind fun h3 =>
  (ax_na E h3 105 2).bind fun q4 =>
  (ax_pR q4.2 x0 0 1 (some q4.1)).bind fun h5 =>
  (ax_nw E h5 42 0 3).bind fun q6 =>
  (some q6.1).bind fun _ => (f_J2_init E (some q6.1) q6.2).bind fun h7 =>
  (ax_pR h7 x0 0 2 (some q6.1)).bind fun h8 =>
  (ax_nw E h8 3 0 2).bind fun q9 =>
  (some q9.1).bind fun _ => (f_X3_init E (some q9.1) q9.2).bind fun h10 =>
  (ax_pR h10 x0 0 3 (some q9.1)).bind fun h11 =>
  (ax_nw E h11 3 0 2).bind fun q12 =>
  (some q12.1).bind fun _ => (f_X3_init E (some q12.1) q12.2).bind fun h13 =>
  (ax_pR h13 x0 0 4 (some q12.1)).bind fun h14 =>
  (ax_nw E h14 4 0 1).bind fun q15 =>
  (ax_na E q15.2 106 0).bind fun q16 =>
  (some q15.1).bind fun _ => (f_X4_init E (some q15.1) (some q16.1) q16.2).bind fun h17 =>
  (ax_pR h17 x0 0 5 (some q15.1)).bind fun h18 =>
  (ax_na E h18 100 7).bind fun q19 =>
  (ax_pR q19.2 x0 0 6 (some q19.1)).bind fun h20 =>
  (ax_pI h20 x0 0 8 (-1)).bind fun h21 =>
  (ax_pI h21 x0 0 10 (-1)).bind fun h22 =>
  (ax_na E h22 101 400).bind fun q23 =>
  (ax_pR q23.2 x0 0 11 (some q23.1)).bind fun h24 =>
  (ax_nw E h24 2 0 7).bind fun q25 =>
  (some q25.1).bind fun _ => (f_X2_init E (some q25.1) q25.2).bind fun h26 =>
  (ax_pR h26 x0 0 13 (some q25.1)).bind fun h27 =>
  (ax_na E h27 107 9).bind fun q28 =>
  (ax_pR q28.2 x0 0 14 (some q28.1)).bind fun h29 =>
  f_X0_init_120 E x0 0 h29
def pi_X0_init_120 (G : ax_G) (X : ax_X) (Q : State → Prop) (x0 : Option Nat) : Int × ax_H → Prop := fun s => ∀ ls : Array Slot, ax_hl ls 2 [(0, .inr (.inr x0)), (1, .inl s.1)] → ax_W G X Q s.2 120 ls []
set_option maxHeartbeats 4000000 in
theorem wb_X0_init_120 {l : Launch} {G : ax_G} {X : ax_X} {Q : State → Prop} {h0 h : ax_H} {ls : Array Slot} (hSF : ax_SF G) (B : ax_BL l G X cX0_init 2 RX0 5 120) (Z : ax_Z X h0 none) (hn : X.2.2.2.2.2.2.2.2.1.name = yX0_init.name) (x0 : Option Nat) (x1 : Int) {w : (Int × ax_H) ⊕ (ax_H)} (hl : ax_hl ls 2 [(0, .inr (.inr x0)), (1, .inl x1)]) (e : lb_X0_init_120 G.2.2 x0 x1 h = some w) (hp : (ax_PL (pi_X0_init_120 G X Q x0) (fun w : ax_H => Q = ax_Q G X h0 w none)) w) : ax_W G X Q h 120 ls [] := by
  unfold lb_X0_init_120 at e
  refine ax_iload_n B dX0_init_120 rfl hl 1 rfl ?_
  refine ax_aload_n B dX0_init_121 rfl hl 0 rfl ?_
  refine ax_getR B ff_X0_78_0 (fun _ _ => rfl) dX0_init_122 e (fun v1 e => ?_)
  refine ax_alen B kd107 dX0_init_125 e (fun v2 e => ?_)
  refine ax_icmp_ge (tgt := 148) B dX0_init_126 (by decide) e (fun e => ?_) (fun e => ?_)
  · refine ax_aload_n B dX0_init_129 rfl hl 0 rfl ?_
    refine ax_getR B ff_X0_78_0 (fun _ _ => rfl) dX0_init_130 e (fun v3 e => ?_)
    refine ax_iload_n B dX0_init_133 rfl hl 1 rfl ?_
    refine ax_new B kd2 in_X2 tyX2_ok (fun k hk => ax_dv _ (dfX2 k hk)) q338 q218 q130 dX0_init_134 e (fun q4 e => ?_)
    refine ax_dup B dX0_init_137 (va_rf_cat _) ?_
    refine ax_iiNR (y := yX2_init) (n := 0) (As := []) B q339 q220 q130 q221 rfl (by decide +kernel) ⟨Nat.le_of_ble_eq_true rfl, Nat.le_of_ble_eq_true rfl⟩ (fun w1 e1 => mt_X2_init l G hSF (some q4.1) _ w1 e1) rfl hl.size (by simp only [List.map_cons, List.map_nil, List.sum_cons, List.sum_nil, va_rf_cat, ax_catI, ax_catL]; decide) dX0_init_138 e (fun h5 e => ?_)
    refine ax_aast B kd107 (ok_107 B) dX0_init_141 e (fun h6 e => ?_)
    refine ax_iinc (L' := [(1, .inl (x1 + 1)), (0, .inr (.inr x0))]) B dX0_init_142 hl 1 rfl (by decide) rfl (fun ls hl => ?_)
    refine ax_goto (tgt := 120) B dX0_init_145 (by decide) ?_
    cases e
    exact hp _ (hl.sub [1, 0] rfl)
  · obtain ⟨w, e9_1, rfl⟩ := Option.map_eq_some_iff.mp e
    have e := e9_1
    have e8 := e
    have hp : Q = _ := hp
    subst hp
    exact ax_return B Z dX0_init_148 e8
theorem w_X0_init_120 {l : Launch} {G : ax_G} {X : ax_X} {Q : State → Prop} {h0 h : ax_H} {ls : Array Slot} (hSF : ax_SF G) (B : ax_BL l G X cX0_init 2 RX0 5 120) (Z : ax_Z X h0 none) (hn : X.2.2.2.2.2.2.2.2.1.name = yX0_init.name) (x0 : Option Nat) (x1 : Int) {w : ax_H} (hl : ax_hl ls 2 [(0, .inr (.inr x0)), (1, .inl x1)]) (e : f_X0_init_120 G.2.2 x0 x1 h = some w) (hp : (fun w : ax_H => Q = ax_Q G X h0 w none) w) : ax_W G X Q h 120 ls [] :=
  ax_iter_W (Pin := pi_X0_init_120 G X Q x0) (Pout := (fun w : ax_H => Q = ax_Q G X h0 w none)) (fun s w e hp ls hl => wb_X0_init_120 hSF B Z hn x0 s.1 hl e hp) _ _ e hp ls hl
set_option maxHeartbeats 4000000 in
theorem we_X0_init {l : Launch} {G : ax_G} {X : ax_X} {Q : State → Prop} {h0 h : ax_H} {ls : Array Slot} (hSF : ax_SF G) (B : ax_BL l G X cX0_init 2 RX0 5 120) (Z : ax_Z X h0 none) (hn : X.2.2.2.2.2.2.2.2.1.name = yX0_init.name) (x0 : Option Nat) {w : ax_H} (hl : ax_hl ls 2 [(0, .inr (.inr x0))]) (e : f_X0_init G.2.2 x0 h = some w) (hp : (fun w : ax_H => Q = ax_Q G X h0 w none) w) : ax_W G X Q h 0 ls [] := by
  unfold f_X0_init at e
  refine ax_aload_n B dX0_init_0 rfl hl 0 rfl ?_
  refine ax_oiR B q182 q183 q184 hl.size (by decide) (by decide) dX0_init_1 e (fun e => ?_)
  refine ax_aload_n B dX0_init_4 rfl hl 0 rfl ?_
  refine ax_new B kd1 in_X1 tyX1_ok (fun k hk => ax_dv _ (dfX1 k hk)) q185 q186 q126 dX0_init_5 e (fun q1 e => ?_)
  refine ax_dup B dX0_init_8 (va_rf_cat _) ?_
  refine ax_iiNR (y := yX1_init) (n := 0) (As := []) B q187 q188 q126 q189 rfl (by decide +kernel) ⟨Nat.le_of_ble_eq_true rfl, Nat.le_of_ble_eq_true rfl⟩ (fun w1 e1 => mt_X1_init l G hSF (some q1.1) _ w1 e1) rfl hl.size (by simp only [List.map_cons, List.map_nil, List.sum_cons, List.sum_nil, va_rf_cat, ax_catI, ax_catL]; decide) dX0_init_9 e (fun h2 e => ?_)
  refine ax_putR B ff_X0_20_0 (Or.inl rfl) rfl dX0_init_12 e (fun h3 e => ?_)
  refine ax_aload_n B dX0_init_15 rfl hl 0 rfl ?_
  refine ax_iconst B dX0_init_16 ?_
  refine ax_anew B kd105 q185 q300 dX0_init_17 e (fun q4 e => ?_)
  refine ax_putR B ff_X0_24_0 (Or.inr ⟨rfl, rfl, hn⟩) rfl dX0_init_20 e (fun h5 e => ?_)
  refine ax_aload_n B dX0_init_23 rfl hl 0 rfl ?_
  refine ax_new B kd42 in_J2 tyJ2_ok (fun k hk => ax_dv _ (dfJ2 k hk)) q301 q192 q129 dX0_init_24 e (fun q6 e => ?_)
  refine ax_dup B dX0_init_27 (va_rf_cat _) ?_
  refine ax_iiR (y := yJ2_init) (n := 0) (As := []) B q302 q194 q129 q195 rfl (by decide +kernel) ⟨Nat.le_of_ble_eq_true rfl, Nat.le_of_ble_eq_true rfl⟩ (fun w1 e1 => mt_J2_init l G hSF (some q6.1) _ w1 e1) rfl hl.size (by simp only [List.map_cons, List.map_nil, List.sum_cons, List.sum_nil, va_rf_cat, ax_catI, ax_catL]; decide) dX0_init_28 e (fun h7 e => ?_)
  refine ax_putR B ff_X0_31_0 (Or.inr ⟨rfl, rfl, hn⟩) rfl dX0_init_31 e (fun h8 e => ?_)
  refine ax_aload_n B dX0_init_34 rfl hl 0 rfl ?_
  refine ax_new B kd3 in_X3 tyX3_ok (fun k hk => ax_dv _ (dfX3 k hk)) q303 q304 q131 dX0_init_35 e (fun q9 e => ?_)
  refine ax_dup B dX0_init_38 (va_rf_cat _) ?_
  refine ax_iiNR (y := yX3_init) (n := 0) (As := []) B q305 q306 q131 q307 rfl (by decide +kernel) ⟨Nat.le_of_ble_eq_true rfl, Nat.le_of_ble_eq_true rfl⟩ (fun w1 e1 => mt_X3_init l G hSF (some q9.1) _ w1 e1) rfl hl.size (by simp only [List.map_cons, List.map_nil, List.sum_cons, List.sum_nil, va_rf_cat, ax_catI, ax_catL]; decide) dX0_init_39 e (fun h10 e => ?_)
  refine ax_putR B ff_X0_38_0 (Or.inr ⟨rfl, rfl, hn⟩) rfl dX0_init_42 e (fun h11 e => ?_)
  refine ax_aload_n B dX0_init_45 rfl hl 0 rfl ?_
  refine ax_new B kd3 in_X3 tyX3_ok (fun k hk => ax_dv _ (dfX3 k hk)) q303 q304 q131 dX0_init_46 e (fun q12 e => ?_)
  refine ax_dup B dX0_init_49 (va_rf_cat _) ?_
  refine ax_iiNR (y := yX3_init) (n := 0) (As := []) B q305 q306 q131 q307 rfl (by decide +kernel) ⟨Nat.le_of_ble_eq_true rfl, Nat.le_of_ble_eq_true rfl⟩ (fun w1 e1 => mt_X3_init l G hSF (some q12.1) _ w1 e1) rfl hl.size (by simp only [List.map_cons, List.map_nil, List.sum_cons, List.sum_nil, va_rf_cat, ax_catI, ax_catL]; decide) dX0_init_50 e (fun h13 e => ?_)
  refine ax_putR B ff_X0_42_0 (Or.inr ⟨rfl, rfl, hn⟩) rfl dX0_init_53 e (fun h14 e => ?_)
  refine ax_aload_n B dX0_init_56 rfl hl 0 rfl ?_
  refine ax_new B kd4 in_X4 tyX4_ok (fun k hk => ax_dv _ (dfX4 k hk)) q326 q327 q132 dX0_init_57 e (fun q15 e => ?_)
  refine ax_dup B dX0_init_60 (va_rf_cat _) ?_
  refine ax_iconst B dX0_init_61 ?_
  refine ax_anew B kd106 q328 q329 dX0_init_62 e (fun q16 e => ?_)
  refine ax_iiR (y := yX4_init) (n := 1) (As := [va_rf (some q16.1)]) B q330 q331 q132 q332 rfl (by decide +kernel) ⟨Nat.le_of_ble_eq_true rfl, Nat.le_of_ble_eq_true rfl⟩ (fun w1 e1 => mt_X4_init l G hSF (some q15.1) (some q16.1) _ w1 e1) rfl hl.size (by simp only [List.map_cons, List.map_nil, List.sum_cons, List.sum_nil, va_rf_cat, ax_catI, ax_catL]; decide) dX0_init_65 e (fun h17 e => ?_)
  refine ax_putR B ff_X0_52_0 (Or.inr ⟨rfl, rfl, hn⟩) rfl dX0_init_68 e (fun h18 e => ?_)
  refine ax_aload_n B dX0_init_71 rfl hl 0 rfl ?_
  refine ax_bipush B dX0_init_72 (by decide) ?_
  refine ax_newa (atype := .int) B kd100 q259 rfl (by decide) dX0_init_74 e (fun q19 e => ?_)
  refine ax_putR B ff_X0_56_0 (Or.inr ⟨rfl, rfl, hn⟩) rfl dX0_init_76 e (fun h20 e => ?_)
  refine ax_aload_n B dX0_init_79 rfl hl 0 rfl ?_
  refine ax_iconst B dX0_init_80 ?_
  refine ax_putI B ff_X0_60_0 (Or.inl rfl) rfl dX0_init_81 e (fun h21 e => ?_)
  refine ax_aload_n B dX0_init_84 rfl hl 0 rfl ?_
  refine ax_iconst B dX0_init_85 ?_
  refine ax_putI B ff_X0_64_0 (Or.inl rfl) rfl dX0_init_86 e (fun h22 e => ?_)
  refine ax_aload_n B dX0_init_89 rfl hl 0 rfl ?_
  refine ax_sipush B dX0_init_90 (by decide) ?_
  refine ax_newa (atype := .byte) B kd101 q407 rfl (by decide) dX0_init_93 e (fun q23 e => ?_)
  refine ax_putR B ff_X0_67_0 (Or.inr ⟨rfl, rfl, hn⟩) rfl dX0_init_95 e (fun h24 e => ?_)
  refine ax_aload_n B dX0_init_98 rfl hl 0 rfl ?_
  refine ax_new B kd2 in_X2 tyX2_ok (fun k hk => ax_dv _ (dfX2 k hk)) q338 q218 q130 dX0_init_99 e (fun q25 e => ?_)
  refine ax_dup B dX0_init_102 (va_rf_cat _) ?_
  refine ax_iiNR (y := yX2_init) (n := 0) (As := []) B q339 q220 q130 q221 rfl (by decide +kernel) ⟨Nat.le_of_ble_eq_true rfl, Nat.le_of_ble_eq_true rfl⟩ (fun w1 e1 => mt_X2_init l G hSF (some q25.1) _ w1 e1) rfl hl.size (by simp only [List.map_cons, List.map_nil, List.sum_cons, List.sum_nil, va_rf_cat, ax_catI, ax_catL]; decide) dX0_init_103 e (fun h26 e => ?_)
  refine ax_putR B ff_X0_74_0 (Or.inr ⟨rfl, rfl, hn⟩) rfl dX0_init_106 e (fun h27 e => ?_)
  refine ax_aload_n B dX0_init_109 rfl hl 0 rfl ?_
  refine ax_bipush B dX0_init_110 (by decide) ?_
  refine ax_anew B kd107 q338 q340 dX0_init_112 e (fun q28 e => ?_)
  refine ax_putR B ff_X0_78_0 (Or.inr ⟨rfl, rfl, hn⟩) rfl dX0_init_115 e (fun h29 e => ?_)
  refine ax_iconst B dX0_init_118 ?_
  refine ax_istore_n (L' := [(1, .inl 0), (0, .inr (.inr x0))]) B dX0_init_119 rfl hl (by decide) rfl (fun ls hl => ?_)
  exact w_X0_init_120 hSF B Z hn x0 0 (hl.sub [1, 0] rfl) e hp
theorem mt_X0_init (l : Launch) (G : ax_G) (hSF : ax_SF G) (x0 : Option Nat) (h : ax_H) (w : ax_H) (e : f_X0_init G.2.2 x0 h = some w) : ax_Met l G yX0_init cX0_init 2 none 5 120 [va_rf x0] h w none :=
  ax_enter [.inr (.inr x0)] (y := yX0_init) hSF (plainFor_of_name (by decide +kernel)) (Nat.le_of_ble_eq_true rfl) (fun X ls B Z hn hl => we_X0_init hSF B Z hn x0 hl e rfl)
def dkwX0_four_1 : List UInt8 := [180, 0, 114, 4, 96, 181, 0, 114, 132, 2, 248, 167, 255, 226, 177]
abbrev dktX0_four_1 : List UInt8 := dkwX0_four_1 ++ []
def dkwX0_four_0 : List UInt8 := [16, 24, 61, 28, 155, 0, 32, 42, 180, 0, 67, 42, 180, 0, 114, 27, 28, 122, 145, 84, 42, 89]
abbrev dktX0_four_0 : List UInt8 := dkwX0_four_0 ++ dktX0_four_1
theorem dksX0_four_0 : cX0_four.data.toList.drop 0 = dktX0_four_0 := by decide +kernel
theorem dksX0_four_1 : cX0_four.data.toList.drop 22 = dktX0_four_1 := dk_seg dksX0_four_0 22 rfl rfl
theorem dX0_four_0 : decode cX0_four 0 = .ok (.bipush 24, 2) := dk_16 24 (dk_at dksX0_four_0 0 rfl rfl)
theorem dX0_four_2 : decode cX0_four 2 = .ok (.istore_n 2, 1) := dk_61 (dk_at dksX0_four_0 2 rfl rfl)
theorem dX0_four_3 : decode cX0_four 3 = .ok (.iload_n 2, 1) := dk_28 (dk_at dksX0_four_0 3 rfl rfl)
theorem dX0_four_4 : decode cX0_four 4 = .ok (.ifCond .lt 32, 3) := dk_155 0 32 (dk_at dksX0_four_0 4 rfl rfl)
theorem dX0_four_7 : decode cX0_four 7 = .ok (.aload_n 0, 1) := dk_42 (dk_at dksX0_four_0 7 rfl rfl)
theorem dX0_four_8 : decode cX0_four 8 = .ok (.getfield 67, 3) := dk_180 0 67 (dk_at dksX0_four_0 8 rfl rfl)
theorem dX0_four_11 : decode cX0_four 11 = .ok (.aload_n 0, 1) := dk_42 (dk_at dksX0_four_0 11 rfl rfl)
theorem dX0_four_12 : decode cX0_four 12 = .ok (.getfield 114, 3) := dk_180 0 114 (dk_at dksX0_four_0 12 rfl rfl)
theorem dX0_four_15 : decode cX0_four 15 = .ok (.iload_n 1, 1) := dk_27 (dk_at dksX0_four_0 15 rfl rfl)
theorem dX0_four_16 : decode cX0_four 16 = .ok (.iload_n 2, 1) := dk_28 (dk_at dksX0_four_0 16 rfl rfl)
theorem dX0_four_17 : decode cX0_four 17 = .ok (.ishr, 1) := dk_122 (dk_at dksX0_four_0 17 rfl rfl)
theorem dX0_four_18 : decode cX0_four 18 = .ok (.i2b, 1) := dk_145 (dk_at dksX0_four_0 18 rfl rfl)
theorem dX0_four_19 : decode cX0_four 19 = .ok (.bastore, 1) := dk_84 (dk_at dksX0_four_0 19 rfl rfl)
theorem dX0_four_20 : decode cX0_four 20 = .ok (.aload_n 0, 1) := dk_42 (dk_at dksX0_four_0 20 rfl rfl)
theorem dX0_four_21 : decode cX0_four 21 = .ok (.dup, 1) := dk_89 (dk_at dksX0_four_0 21 rfl rfl)
theorem dX0_four_22 : decode cX0_four 22 = .ok (.getfield 114, 3) := dk_180 0 114 (dk_at dksX0_four_1 0 rfl rfl)
theorem dX0_four_25 : decode cX0_four 25 = .ok (.iconst 1, 1) := dk_4 (dk_at dksX0_four_1 3 rfl rfl)
theorem dX0_four_26 : decode cX0_four 26 = .ok (.iadd, 1) := dk_96 (dk_at dksX0_four_1 4 rfl rfl)
theorem dX0_four_27 : decode cX0_four 27 = .ok (.putfield 114, 3) := dk_181 0 114 (dk_at dksX0_four_1 5 rfl rfl)
theorem dX0_four_30 : decode cX0_four 30 = .ok (.iinc 2 (-8), 3) := dk_132 2 248 (dk_at dksX0_four_1 8 rfl rfl)
theorem dX0_four_33 : decode cX0_four 33 = .ok (.goto (-30), 3) := dk_167 255 226 (dk_at dksX0_four_1 11 rfl rfl)
theorem dX0_four_36 : decode cX0_four 36 = .ok (.return_, 1) := dk_177 (dk_at dksX0_four_1 14 rfl rfl)
noncomputable def lb_X0_four_3 (E : ax_E) (x0 : Option Nat) (x1 : Int) (x2 : Int) (h : ax_H) : Option ((Int × ax_H) ⊕ (ax_H)) :=
  if i2 x2 < 0 then
    (some h).map Sum.inr
  else
    (ax_gR E h x0 0 11).bind fun v1 =>
    (ax_gI E h x0 0 12).bind fun v2 =>
    (ax_sto h v1 101 v2 (b2 (b2 (ax_shr x1 x2)))).bind fun h3 =>
    (ax_gI E h3 x0 0 12).bind fun v4 =>
    (ax_pI h3 x0 0 12 (v4 + 1)).bind fun h5 =>
    some (.inl ((x2 + (-8)), h5))
noncomputable def f_X0_four_3 (E : ax_E) (x0 : Option Nat) (x1 : Int) (x2 : Int) (h : ax_H) : Option (ax_H) :=
  ax_iter (fun s : Int × ax_H => lb_X0_four_3 E x0 x1 s.1 s.2) (x2, h)
noncomputable def f_X0_four (E : ax_E) (x0 : Option Nat) (x1 : Int) (h : ax_H) : Option (ax_H) :=
  f_X0_four_3 E x0 x1 24 h
def pi_X0_four_3 (G : ax_G) (X : ax_X) (Q : State → Prop) (x0 : Option Nat) (x1 : Int) : Int × ax_H → Prop := fun s => ∀ ls : Array Slot, ax_hl ls 3 [(0, .inr (.inr x0)), (1, .inl x1), (2, .inl s.1)] → ax_W G X Q s.2 3 ls []
set_option maxHeartbeats 4000000 in
theorem wb_X0_four_3 {l : Launch} {G : ax_G} {X : ax_X} {Q : State → Prop} {h0 h : ax_H} {ls : Array Slot} (hSF : ax_SF G) (B : ax_BL l G X cX0_four 3 RX0 1 40) (Z : ax_Z X h0 none) (hn : X.2.2.2.2.2.2.2.2.1.name = yX0_four.name) (x0 : Option Nat) (x1 : Int) (x2 : Int) {w : (Int × ax_H) ⊕ (ax_H)} (hl : ax_hl ls 3 [(0, .inr (.inr x0)), (1, .inl x1), (2, .inl x2)]) (e : lb_X0_four_3 G.2.2 x0 x1 x2 h = some w) (hp : (ax_PL (pi_X0_four_3 G X Q x0 x1) (fun w : ax_H => Q = ax_Q G X h0 w none)) w) : ax_W G X Q h 3 ls [] := by
  unfold lb_X0_four_3 at e
  refine ax_iload_n B dX0_four_3 rfl hl 2 rfl ?_
  refine ax_if_lt (tgt := 36) B dX0_four_4 (by decide) e (fun e => ?_) (fun e => ?_)
  · obtain ⟨w, e9_1, rfl⟩ := Option.map_eq_some_iff.mp e
    have e := e9_1
    have e8 := e
    have hp : Q = _ := hp
    subst hp
    exact ax_return B Z dX0_four_36 e8
  · refine ax_aload_n B dX0_four_7 rfl hl 0 rfl ?_
    refine ax_getR B ff_X0_67_0 (fun _ _ => rfl) dX0_four_8 e (fun v1 e => ?_)
    refine ax_aload_n B dX0_four_11 rfl hl 0 rfl ?_
    refine ax_getI B ff_X0_114_0 (fun _ _ => rfl) dX0_four_12 e (fun v2 e => ?_)
    refine ax_iload_n B dX0_four_15 rfl hl 1 rfl ?_
    refine ax_iload_n B dX0_four_16 rfl hl 2 rfl ?_
    refine ax_ishr' B dX0_four_17 ?_
    refine ax_i2b' B dX0_four_18 ?_
    refine ax_bast B kd101 dX0_four_19 e (fun h3 e => ?_)
    refine ax_aload_n B dX0_four_20 rfl hl 0 rfl ?_
    refine ax_dup B dX0_four_21 (va_rf_cat _) ?_
    refine ax_getI B ff_X0_114_0 (fun _ _ => rfl) dX0_four_22 e (fun v4 e => ?_)
    refine ax_iconst B dX0_four_25 ?_
    refine ax_iadd' B dX0_four_26 ?_
    refine ax_putI B ff_X0_114_0 (Or.inl rfl) rfl dX0_four_27 e (fun h5 e => ?_)
    refine ax_iinc (L' := [(2, .inl (x2 + (-8))), (0, .inr (.inr x0)), (1, .inl x1)]) B dX0_four_30 hl 2 rfl (by decide) rfl (fun ls hl => ?_)
    refine ax_goto (tgt := 3) B dX0_four_33 (by decide) ?_
    cases e
    exact hp _ (hl.sub [1, 2, 0] rfl)
theorem w_X0_four_3 {l : Launch} {G : ax_G} {X : ax_X} {Q : State → Prop} {h0 h : ax_H} {ls : Array Slot} (hSF : ax_SF G) (B : ax_BL l G X cX0_four 3 RX0 1 40) (Z : ax_Z X h0 none) (hn : X.2.2.2.2.2.2.2.2.1.name = yX0_four.name) (x0 : Option Nat) (x1 : Int) (x2 : Int) {w : ax_H} (hl : ax_hl ls 3 [(0, .inr (.inr x0)), (1, .inl x1), (2, .inl x2)]) (e : f_X0_four_3 G.2.2 x0 x1 x2 h = some w) (hp : (fun w : ax_H => Q = ax_Q G X h0 w none) w) : ax_W G X Q h 3 ls [] :=
  ax_iter_W (Pin := pi_X0_four_3 G X Q x0 x1) (Pout := (fun w : ax_H => Q = ax_Q G X h0 w none)) (fun s w e hp ls hl => wb_X0_four_3 hSF B Z hn x0 x1 s.1 hl e hp) _ _ e hp ls hl
set_option maxHeartbeats 4000000 in
theorem we_X0_four {l : Launch} {G : ax_G} {X : ax_X} {Q : State → Prop} {h0 h : ax_H} {ls : Array Slot} (hSF : ax_SF G) (B : ax_BL l G X cX0_four 3 RX0 1 40) (Z : ax_Z X h0 none) (hn : X.2.2.2.2.2.2.2.2.1.name = yX0_four.name) (x0 : Option Nat) (x1 : Int) {w : ax_H} (hl : ax_hl ls 3 [(0, .inr (.inr x0)), (1, .inl x1)]) (e : f_X0_four G.2.2 x0 x1 h = some w) (hp : (fun w : ax_H => Q = ax_Q G X h0 w none) w) : ax_W G X Q h 0 ls [] := by
  unfold f_X0_four at e
  refine ax_bipush B dX0_four_0 (by decide) ?_
  refine ax_istore_n (L' := [(2, .inl 24), (0, .inr (.inr x0)), (1, .inl x1)]) B dX0_four_2 rfl hl (by decide) rfl (fun ls hl => ?_)
  exact w_X0_four_3 hSF B Z hn x0 x1 24 (hl.sub [1, 2, 0] rfl) e hp
theorem mt_X0_four (l : Launch) (G : ax_G) (hSF : ax_SF G) (x0 : Option Nat) (x1 : Int) (h : ax_H) (w : ax_H) (e : f_X0_four G.2.2 x0 x1 h = some w) : ax_Met l G yX0_four cX0_four 3 none 1 40 [va_rf x0, .int (Int32.ofInt x1)] h w none :=
  ax_enter [.inr (.inr x0), .inl x1] (y := yX0_four) hSF (plainFor_of_name (by decide +kernel)) (Nat.le_of_ble_eq_true rfl) (fun X ls B Z hn hl => we_X0_four hSF B Z hn x0 x1 hl e rfl)
def dkwX0_feed_2 : List UInt8 := [172]
abbrev dktX0_feed_2 : List UInt8 := dkwX0_feed_2 ++ []
def dkwX0_feed_1 : List UInt8 := [182, 0, 117, 42, 29, 182, 0, 117, 42, 21, 4, 182, 0, 117, 42, 21, 5, 182, 0, 117, 42, 180, 0, 114]
abbrev dktX0_feed_1 : List UInt8 := dkwX0_feed_1 ++ dktX0_feed_2
def dkwX0_feed_0 : List UInt8 := [42, 180, 0, 114, 16, 20, 96, 17, 1, 144, 164, 0, 5, 2, 172, 42, 27, 182, 0, 117, 42, 28]
abbrev dktX0_feed_0 : List UInt8 := dkwX0_feed_0 ++ dktX0_feed_1
theorem dksX0_feed_0 : cX0_feed.data.toList.drop 0 = dktX0_feed_0 := by decide +kernel
theorem dksX0_feed_1 : cX0_feed.data.toList.drop 22 = dktX0_feed_1 := dk_seg dksX0_feed_0 22 rfl rfl
theorem dksX0_feed_2 : cX0_feed.data.toList.drop 46 = dktX0_feed_2 := dk_seg dksX0_feed_1 24 rfl rfl
theorem dX0_feed_0 : decode cX0_feed 0 = .ok (.aload_n 0, 1) := dk_42 (dk_at dksX0_feed_0 0 rfl rfl)
theorem dX0_feed_1 : decode cX0_feed 1 = .ok (.getfield 114, 3) := dk_180 0 114 (dk_at dksX0_feed_0 1 rfl rfl)
theorem dX0_feed_4 : decode cX0_feed 4 = .ok (.bipush 20, 2) := dk_16 20 (dk_at dksX0_feed_0 4 rfl rfl)
theorem dX0_feed_6 : decode cX0_feed 6 = .ok (.iadd, 1) := dk_96 (dk_at dksX0_feed_0 6 rfl rfl)
theorem dX0_feed_7 : decode cX0_feed 7 = .ok (.sipush 400, 3) := dk_17 1 144 (dk_at dksX0_feed_0 7 rfl rfl)
theorem dX0_feed_10 : decode cX0_feed 10 = .ok (.if_icmp .le 5, 3) := dk_164 0 5 (dk_at dksX0_feed_0 10 rfl rfl)
theorem dX0_feed_13 : decode cX0_feed 13 = .ok (.iconst (-1), 1) := dk_2 (dk_at dksX0_feed_0 13 rfl rfl)
theorem dX0_feed_14 : decode cX0_feed 14 = .ok (.ireturn, 1) := dk_172 (dk_at dksX0_feed_0 14 rfl rfl)
theorem dX0_feed_15 : decode cX0_feed 15 = .ok (.aload_n 0, 1) := dk_42 (dk_at dksX0_feed_0 15 rfl rfl)
theorem dX0_feed_16 : decode cX0_feed 16 = .ok (.iload_n 1, 1) := dk_27 (dk_at dksX0_feed_0 16 rfl rfl)
theorem dX0_feed_17 : decode cX0_feed 17 = .ok (.invokevirtual 117, 3) := dk_182 0 117 (dk_at dksX0_feed_0 17 rfl rfl)
theorem dX0_feed_20 : decode cX0_feed 20 = .ok (.aload_n 0, 1) := dk_42 (dk_at dksX0_feed_0 20 rfl rfl)
theorem dX0_feed_21 : decode cX0_feed 21 = .ok (.iload_n 2, 1) := dk_28 (dk_at dksX0_feed_0 21 rfl rfl)
theorem dX0_feed_22 : decode cX0_feed 22 = .ok (.invokevirtual 117, 3) := dk_182 0 117 (dk_at dksX0_feed_1 0 rfl rfl)
theorem dX0_feed_25 : decode cX0_feed 25 = .ok (.aload_n 0, 1) := dk_42 (dk_at dksX0_feed_1 3 rfl rfl)
theorem dX0_feed_26 : decode cX0_feed 26 = .ok (.iload_n 3, 1) := dk_29 (dk_at dksX0_feed_1 4 rfl rfl)
theorem dX0_feed_27 : decode cX0_feed 27 = .ok (.invokevirtual 117, 3) := dk_182 0 117 (dk_at dksX0_feed_1 5 rfl rfl)
theorem dX0_feed_30 : decode cX0_feed 30 = .ok (.aload_n 0, 1) := dk_42 (dk_at dksX0_feed_1 8 rfl rfl)
theorem dX0_feed_31 : decode cX0_feed 31 = .ok (.iload 4, 2) := dk_21 4 (dk_at dksX0_feed_1 9 rfl rfl)
theorem dX0_feed_33 : decode cX0_feed 33 = .ok (.invokevirtual 117, 3) := dk_182 0 117 (dk_at dksX0_feed_1 11 rfl rfl)
theorem dX0_feed_36 : decode cX0_feed 36 = .ok (.aload_n 0, 1) := dk_42 (dk_at dksX0_feed_1 14 rfl rfl)
theorem dX0_feed_37 : decode cX0_feed 37 = .ok (.iload 5, 2) := dk_21 5 (dk_at dksX0_feed_1 15 rfl rfl)
theorem dX0_feed_39 : decode cX0_feed 39 = .ok (.invokevirtual 117, 3) := dk_182 0 117 (dk_at dksX0_feed_1 17 rfl rfl)
theorem dX0_feed_42 : decode cX0_feed 42 = .ok (.aload_n 0, 1) := dk_42 (dk_at dksX0_feed_1 20 rfl rfl)
theorem dX0_feed_43 : decode cX0_feed 43 = .ok (.getfield 114, 3) := dk_180 0 114 (dk_at dksX0_feed_1 21 rfl rfl)
theorem dX0_feed_46 : decode cX0_feed 46 = .ok (.ireturn, 1) := dk_172 (dk_at dksX0_feed_2 0 rfl rfl)
noncomputable def f_X0_feed (E : ax_E) (x0 : Option Nat) (x1 : Int) (x2 : Int) (x3 : Int) (x4 : Int) (x5 : Int) (h : ax_H) : Option (Int × ax_H) :=
  (ax_gI E h x0 0 12).bind fun v1 =>
  if i2 400 < i2 (v1 + 20) then
    some ((-1), h)
  else
    (ax_ce E h x0 0).bind fun _ => (f_X0_four E x0 x1 h).bind fun h2 =>
    (ax_ce E h2 x0 0).bind fun _ => (f_X0_four E x0 x2 h2).bind fun h3 =>
    (ax_ce E h3 x0 0).bind fun _ => (f_X0_four E x0 x3 h3).bind fun h4 =>
    (ax_ce E h4 x0 0).bind fun _ => (f_X0_four E x0 x4 h4).bind fun h5 =>
    (ax_ce E h5 x0 0).bind fun _ => (f_X0_four E x0 x5 h5).bind fun h6 =>
    (ax_gI E h6 x0 0 12).bind fun v7 =>
    some (v7, h6)
set_option maxHeartbeats 4000000 in
theorem we_X0_feed {l : Launch} {G : ax_G} {X : ax_X} {Q : State → Prop} {h0 h : ax_H} {ls : Array Slot} (hSF : ax_SF G) (B : ax_BL l G X cX0_feed 6 RX0 2 62) (Z : ax_Z X h0 ((some FieldType.int))) (hn : X.2.2.2.2.2.2.2.2.1.name = yX0_feed.name) (x0 : Option Nat) (x1 : Int) (x2 : Int) (x3 : Int) (x4 : Int) (x5 : Int) {w : Int × ax_H} (hl : ax_hl ls 6 [(0, .inr (.inr x0)), (1, .inl x1), (2, .inl x2), (3, .inl x3), (4, .inl x4), (5, .inl x5)]) (e : f_X0_feed G.2.2 x0 x1 x2 x3 x4 x5 h = some w) (hp : (fun w : Int × ax_H => Q = ax_Q G X h0 w.2 (some (.int (Int32.ofInt w.1)))) w) : ax_W G X Q h 0 ls [] := by
  unfold f_X0_feed at e
  refine ax_aload_n B dX0_feed_0 rfl hl 0 rfl ?_
  refine ax_getI B ff_X0_114_0 (fun _ _ => rfl) dX0_feed_1 e (fun v1 e => ?_)
  refine ax_bipush B dX0_feed_4 (by decide) ?_
  refine ax_iadd' B dX0_feed_6 ?_
  refine ax_sipush B dX0_feed_7 (by decide) ?_
  refine ax_icmp_le (tgt := 15) B dX0_feed_10 (by decide) e (fun e => ?_) (fun e => ?_)
  · refine ax_iconst B dX0_feed_13 ?_
    have e8 := e
    have hp : Q = _ := hp
    subst hp
    exact ax_ireturn B Z dX0_feed_14 e8
  · refine ax_aload_n B dX0_feed_15 rfl hl 0 rfl ?_
    refine ax_iload_n B dX0_feed_16 rfl hl 1 rfl ?_
    refine ax_ivV (y := yX0_four) (n := 1) (As := [.int (Int32.ofInt x1)]) B kd0 (lw_V q412 q414 qs0 q125 q415) (by decide +kernel) ⟨Nat.le_of_ble_eq_true rfl, Nat.le_of_ble_eq_true rfl⟩ (fun w1 e1 => mt_X0_four l G hSF x0 x1 _ w1 e1) rfl hl.size (by decide) dX0_feed_17 e (fun h2 e => ?_)
    refine ax_aload_n B dX0_feed_20 rfl hl 0 rfl ?_
    refine ax_iload_n B dX0_feed_21 rfl hl 2 rfl ?_
    refine ax_ivV (y := yX0_four) (n := 1) (As := [.int (Int32.ofInt x2)]) B kd0 (lw_V q412 q414 qs0 q125 q415) (by decide +kernel) ⟨Nat.le_of_ble_eq_true rfl, Nat.le_of_ble_eq_true rfl⟩ (fun w1 e1 => mt_X0_four l G hSF x0 x2 _ w1 e1) rfl hl.size (by decide) dX0_feed_22 e (fun h3 e => ?_)
    refine ax_aload_n B dX0_feed_25 rfl hl 0 rfl ?_
    refine ax_iload_n B dX0_feed_26 rfl hl 3 rfl ?_
    refine ax_ivV (y := yX0_four) (n := 1) (As := [.int (Int32.ofInt x3)]) B kd0 (lw_V q412 q414 qs0 q125 q415) (by decide +kernel) ⟨Nat.le_of_ble_eq_true rfl, Nat.le_of_ble_eq_true rfl⟩ (fun w1 e1 => mt_X0_four l G hSF x0 x3 _ w1 e1) rfl hl.size (by decide) dX0_feed_27 e (fun h4 e => ?_)
    refine ax_aload_n B dX0_feed_30 rfl hl 0 rfl ?_
    refine ax_iload B dX0_feed_31 hl 4 rfl ?_
    refine ax_ivV (y := yX0_four) (n := 1) (As := [.int (Int32.ofInt x4)]) B kd0 (lw_V q412 q414 qs0 q125 q415) (by decide +kernel) ⟨Nat.le_of_ble_eq_true rfl, Nat.le_of_ble_eq_true rfl⟩ (fun w1 e1 => mt_X0_four l G hSF x0 x4 _ w1 e1) rfl hl.size (by decide) dX0_feed_33 e (fun h5 e => ?_)
    refine ax_aload_n B dX0_feed_36 rfl hl 0 rfl ?_
    refine ax_iload B dX0_feed_37 hl 5 rfl ?_
    refine ax_ivV (y := yX0_four) (n := 1) (As := [.int (Int32.ofInt x5)]) B kd0 (lw_V q412 q414 qs0 q125 q415) (by decide +kernel) ⟨Nat.le_of_ble_eq_true rfl, Nat.le_of_ble_eq_true rfl⟩ (fun w1 e1 => mt_X0_four l G hSF x0 x5 _ w1 e1) rfl hl.size (by decide) dX0_feed_39 e (fun h6 e => ?_)
    refine ax_aload_n B dX0_feed_42 rfl hl 0 rfl ?_
    refine ax_getI B ff_X0_114_0 (fun _ _ => rfl) dX0_feed_43 e (fun v7 e => ?_)
    have e8 := e
    have hp : Q = _ := hp
    subst hp
    exact ax_ireturn B Z dX0_feed_46 e8
theorem mt_X0_feed (l : Launch) (G : ax_G) (hSF : ax_SF G) (x0 : Option Nat) (x1 : Int) (x2 : Int) (x3 : Int) (x4 : Int) (x5 : Int) (h : ax_H) (w : Int × ax_H) (e : f_X0_feed G.2.2 x0 x1 x2 x3 x4 x5 h = some w) : ax_Met l G yX0_feed cX0_feed 6 ((some FieldType.int)) 2 62 [va_rf x0, .int (Int32.ofInt x1), .int (Int32.ofInt x2), .int (Int32.ofInt x3), .int (Int32.ofInt x4), .int (Int32.ofInt x5)] h w.2 (some (.int (Int32.ofInt w.1))) :=
  ax_enter [.inr (.inr x0), .inl x1, .inl x2, .inl x3, .inl x4, .inl x5] (y := yX0_feed) hSF (plainFor_of_name (by decide +kernel)) (Nat.le_of_ble_eq_true rfl) (fun X ls B Z hn hl => we_X0_feed hSF B Z hn x0 x1 x2 x3 x4 x5 hl e rfl)
def dkwX0_in_0 : List UInt8 := [30, 32, 148, 155, 0, 14, 30, 22, 4, 148, 157, 0, 7, 4, 167, 0, 4, 3, 172]
abbrev dktX0_in_0 : List UInt8 := dkwX0_in_0 ++ []
theorem dksX0_in_0 : cX0_in.data.toList.drop 0 = dktX0_in_0 := by decide +kernel
theorem dX0_in_0 : decode cX0_in 0 = .ok (.lload_n 0, 1) := dk_30 (dk_at dksX0_in_0 0 rfl rfl)
theorem dX0_in_1 : decode cX0_in 1 = .ok (.lload_n 2, 1) := dk_32 (dk_at dksX0_in_0 1 rfl rfl)
theorem dX0_in_2 : decode cX0_in 2 = .ok (.lcmp, 1) := dk_148 (dk_at dksX0_in_0 2 rfl rfl)
theorem dX0_in_3 : decode cX0_in 3 = .ok (.ifCond .lt 14, 3) := dk_155 0 14 (dk_at dksX0_in_0 3 rfl rfl)
theorem dX0_in_6 : decode cX0_in 6 = .ok (.lload_n 0, 1) := dk_30 (dk_at dksX0_in_0 6 rfl rfl)
theorem dX0_in_7 : decode cX0_in 7 = .ok (.lload 4, 2) := dk_22 4 (dk_at dksX0_in_0 7 rfl rfl)
theorem dX0_in_9 : decode cX0_in 9 = .ok (.lcmp, 1) := dk_148 (dk_at dksX0_in_0 9 rfl rfl)
theorem dX0_in_10 : decode cX0_in 10 = .ok (.ifCond .gt 7, 3) := dk_157 0 7 (dk_at dksX0_in_0 10 rfl rfl)
theorem dX0_in_13 : decode cX0_in 13 = .ok (.iconst 1, 1) := dk_4 (dk_at dksX0_in_0 13 rfl rfl)
theorem dX0_in_14 : decode cX0_in 14 = .ok (.goto 4, 3) := dk_167 0 4 (dk_at dksX0_in_0 14 rfl rfl)
theorem dX0_in_17 : decode cX0_in 17 = .ok (.iconst 0, 1) := dk_3 (dk_at dksX0_in_0 17 rfl rfl)
theorem dX0_in_18 : decode cX0_in 18 = .ok (.ireturn, 1) := dk_172 (dk_at dksX0_in_0 18 rfl rfl)
noncomputable def f_X0_in_17 (E : ax_E) (h : ax_H) : Option (Int × ax_H) :=
  some (0, h)
noncomputable def f_X0_in (E : ax_E) (x0 : Int) (x2 : Int) (x4 : Int) (h : ax_H) : Option (Int × ax_H) :=
  if i2 (ax_cmp x0 x2) < 0 then
    f_X0_in_17 E h
  else
    if 0 < i2 (ax_cmp x0 x4) then
      f_X0_in_17 E h
    else
      some (1, h)
set_option maxHeartbeats 4000000 in
theorem w_X0_in_17 {l : Launch} {G : ax_G} {X : ax_X} {Q : State → Prop} {h0 h : ax_H} {ls : Array Slot} (hSF : ax_SF G) (B : ax_BL l G X cX0_in 6 RX0 1 40) (Z : ax_Z X h0 ((some FieldType.boolean))) (hn : X.2.2.2.2.2.2.2.2.1.name = yX0_in.name) {w : Int × ax_H} (hl : ax_hl ls 6 []) (e : f_X0_in_17 G.2.2 h = some w) (hp : (fun w : Int × ax_H => Q = ax_Q G X h0 w.2 (some (.int (Int32.ofInt w.1)))) w) : ax_W G X Q h 17 ls [] := by
  unfold f_X0_in_17 at e
  refine ax_iconst B dX0_in_17 ?_
  have e8 := e
  have hp : Q = _ := hp
  subst hp
  exact ax_zreturnL (by decide) B Z dX0_in_18 e8
set_option maxHeartbeats 4000000 in
theorem we_X0_in {l : Launch} {G : ax_G} {X : ax_X} {Q : State → Prop} {h0 h : ax_H} {ls : Array Slot} (hSF : ax_SF G) (B : ax_BL l G X cX0_in 6 RX0 1 40) (Z : ax_Z X h0 ((some FieldType.boolean))) (hn : X.2.2.2.2.2.2.2.2.1.name = yX0_in.name) (x0 : Int) (x2 : Int) (x4 : Int) {w : Int × ax_H} (hl : ax_hl ls 6 [(0, .inr (.inl x0)), (2, .inr (.inl x2)), (4, .inr (.inl x4))]) (e : f_X0_in G.2.2 x0 x2 x4 h = some w) (hp : (fun w : Int × ax_H => Q = ax_Q G X h0 w.2 (some (.int (Int32.ofInt w.1)))) w) : ax_W G X Q h 0 ls [] := by
  unfold f_X0_in at e
  refine ax_lload_n B dX0_in_0 rfl hl 0 rfl ?_
  refine ax_lload_n B dX0_in_1 rfl hl 1 rfl ?_
  refine ax_lcmp' B dX0_in_2 ?_
  refine ax_if_lt (tgt := 17) B dX0_in_3 (by decide) e (fun e => ?_) (fun e => ?_)
  · exact w_X0_in_17 hSF B Z hn (hl.sub [] rfl) e hp
  · refine ax_lload_n B dX0_in_6 rfl hl 0 rfl ?_
    refine ax_lload B dX0_in_7 hl 2 rfl ?_
    refine ax_lcmp' B dX0_in_9 ?_
    refine ax_if_gt (tgt := 17) B dX0_in_10 (by decide) e (fun e => ?_) (fun e => ?_)
    · exact w_X0_in_17 hSF B Z hn (hl.sub [] rfl) e hp
    · refine ax_iconst B dX0_in_13 ?_
      refine ax_goto (tgt := 18) B dX0_in_14 (by decide) ?_
      have e8 := e
      have hp : Q = _ := hp
      subst hp
      exact ax_zreturnL (by decide) B Z dX0_in_18 e8
theorem mt_X0_in (l : Launch) (G : ax_G) (hSF : ax_SF G) (x0 : Int) (x2 : Int) (x4 : Int) (h : ax_H) (w : Int × ax_H) (e : f_X0_in G.2.2 x0 x2 x4 h = some w) : ax_Met l G yX0_in cX0_in 6 ((some FieldType.boolean)) 1 40 [.long (Int64.ofInt x0), .long (Int64.ofInt x2), .long (Int64.ofInt x4)] h w.2 (some (.int (Int32.ofInt w.1))) :=
  ax_enter [.inr (.inl x0), .inr (.inl x2), .inr (.inl x4)] (y := yX0_in) hSF (plainFor_of_name (by decide +kernel)) (Nat.le_of_ble_eq_true rfl) (fun X ls B Z hn hl => we_X0_in hSF B Z hn x0 x2 x4 hl e rfl)
def dkwX0_end_0 : List UInt8 := [27, 133, 9, 42, 180, 0, 114, 133, 184, 0, 5, 154, 0, 5, 2, 172, 42, 27, 181, 0, 114, 27, 172]
abbrev dktX0_end_0 : List UInt8 := dkwX0_end_0 ++ []
theorem dksX0_end_0 : cX0_end.data.toList.drop 0 = dktX0_end_0 := by decide +kernel
theorem dX0_end_0 : decode cX0_end 0 = .ok (.iload_n 1, 1) := dk_27 (dk_at dksX0_end_0 0 rfl rfl)
theorem dX0_end_1 : decode cX0_end 1 = .ok (.i2l, 1) := dk_133 (dk_at dksX0_end_0 1 rfl rfl)
theorem dX0_end_2 : decode cX0_end 2 = .ok (.lconst 0, 1) := dk_9 (dk_at dksX0_end_0 2 rfl rfl)
theorem dX0_end_3 : decode cX0_end 3 = .ok (.aload_n 0, 1) := dk_42 (dk_at dksX0_end_0 3 rfl rfl)
theorem dX0_end_4 : decode cX0_end 4 = .ok (.getfield 114, 3) := dk_180 0 114 (dk_at dksX0_end_0 4 rfl rfl)
theorem dX0_end_7 : decode cX0_end 7 = .ok (.i2l, 1) := dk_133 (dk_at dksX0_end_0 7 rfl rfl)
theorem dX0_end_8 : decode cX0_end 8 = .ok (.invokestatic 5, 3) := dk_184 0 5 (dk_at dksX0_end_0 8 rfl rfl)
theorem dX0_end_11 : decode cX0_end 11 = .ok (.ifCond .ne 5, 3) := dk_154 0 5 (dk_at dksX0_end_0 11 rfl rfl)
theorem dX0_end_14 : decode cX0_end 14 = .ok (.iconst (-1), 1) := dk_2 (dk_at dksX0_end_0 14 rfl rfl)
theorem dX0_end_15 : decode cX0_end 15 = .ok (.ireturn, 1) := dk_172 (dk_at dksX0_end_0 15 rfl rfl)
theorem dX0_end_16 : decode cX0_end 16 = .ok (.aload_n 0, 1) := dk_42 (dk_at dksX0_end_0 16 rfl rfl)
theorem dX0_end_17 : decode cX0_end 17 = .ok (.iload_n 1, 1) := dk_27 (dk_at dksX0_end_0 17 rfl rfl)
theorem dX0_end_18 : decode cX0_end 18 = .ok (.putfield 114, 3) := dk_181 0 114 (dk_at dksX0_end_0 18 rfl rfl)
theorem dX0_end_21 : decode cX0_end 21 = .ok (.iload_n 1, 1) := dk_27 (dk_at dksX0_end_0 21 rfl rfl)
theorem dX0_end_22 : decode cX0_end 22 = .ok (.ireturn, 1) := dk_172 (dk_at dksX0_end_0 22 rfl rfl)
noncomputable def f_X0_end (E : ax_E) (x0 : Option Nat) (x1 : Int) (h : ax_H) : Option (Int × ax_H) :=
  (ax_gI E h x0 0 12).bind fun v1 =>
  (f_X0_in E (i2 x1) 0 (i2 v1) h).bind fun q2 =>
  if i2 q2.1 = 0 then
    some ((-1), q2.2)
  else
    (ax_pI q2.2 x0 0 12 x1).bind fun h3 =>
    some (x1, h3)
set_option maxHeartbeats 4000000 in
theorem we_X0_end {l : Launch} {G : ax_G} {X : ax_X} {Q : State → Prop} {h0 h : ax_H} {ls : Array Slot} (hSF : ax_SF G) (B : ax_BL l G X cX0_end 2 RX0 2 65) (Z : ax_Z X h0 ((some FieldType.int))) (hn : X.2.2.2.2.2.2.2.2.1.name = yX0_end.name) (x0 : Option Nat) (x1 : Int) {w : Int × ax_H} (hl : ax_hl ls 2 [(0, .inr (.inr x0)), (1, .inl x1)]) (e : f_X0_end G.2.2 x0 x1 h = some w) (hp : (fun w : Int × ax_H => Q = ax_Q G X h0 w.2 (some (.int (Int32.ofInt w.1)))) w) : ax_W G X Q h 0 ls [] := by
  unfold f_X0_end at e
  refine ax_iload_n B dX0_end_0 rfl hl 1 rfl ?_
  refine ax_i2l' B dX0_end_1 ?_
  refine ax_lconst (v := 0) B dX0_end_2 rfl ?_
  refine ax_aload_n B dX0_end_3 rfl hl 0 rfl ?_
  refine ax_getI B ff_X0_114_0 (fun _ _ => rfl) dX0_end_4 e (fun v1 e => ?_)
  refine ax_i2l' B dX0_end_7 ?_
  refine ax_isI (y := yX0_in) (n := 3) (As := [.long (Int64.ofInt (i2 x1)), .long (Int64.ofInt 0), .long (Int64.ofInt (i2 v1))]) B (lw_S q420 q421 q125 q422) (by decide +kernel) ⟨Nat.le_of_ble_eq_true rfl, Nat.le_of_ble_eq_true rfl⟩ (fun w1 e1 => mt_X0_in l G hSF (i2 x1) 0 (i2 v1) _ w1 e1) rfl hl.size (by decide) dX0_end_8 e (fun q2 e => ?_)
  refine ax_if_ne (tgt := 16) B dX0_end_11 (by decide) e (fun e => ?_) (fun e => ?_)
  · refine ax_iconst B dX0_end_14 ?_
    have e8 := e
    have hp : Q = _ := hp
    subst hp
    exact ax_ireturn B Z dX0_end_15 e8
  · refine ax_aload_n B dX0_end_16 rfl hl 0 rfl ?_
    refine ax_iload_n B dX0_end_17 rfl hl 1 rfl ?_
    refine ax_putI B ff_X0_114_0 (Or.inl rfl) rfl dX0_end_18 e (fun h3 e => ?_)
    refine ax_iload_n B dX0_end_21 rfl hl 1 rfl ?_
    have e8 := e
    have hp : Q = _ := hp
    subst hp
    exact ax_ireturn B Z dX0_end_22 e8
theorem mt_X0_end (l : Launch) (G : ax_G) (hSF : ax_SF G) (x0 : Option Nat) (x1 : Int) (h : ax_H) (w : Int × ax_H) (e : f_X0_end G.2.2 x0 x1 h = some w) : ax_Met l G yX0_end cX0_end 2 ((some FieldType.int)) 2 65 [va_rf x0, .int (Int32.ofInt x1)] h w.2 (some (.int (Int32.ofInt w.1))) :=
  ax_enter [.inr (.inr x0), .inl x1] (y := yX0_end) hSF (plainFor_of_name (by decide +kernel)) (Nat.le_of_ble_eq_true rfl) (fun X ls B Z hn hl => we_X0_end hSF B Z hn x0 x1 hl e rfl)
def dkwX0_isRoom_0 : List UInt8 := [26, 133, 10, 20, 0, 9, 184, 0, 5, 172]
abbrev dktX0_isRoom_0 : List UInt8 := dkwX0_isRoom_0 ++ []
theorem dksX0_isRoom_0 : cX0_isRoom.data.toList.drop 0 = dktX0_isRoom_0 := by decide +kernel
theorem dX0_isRoom_0 : decode cX0_isRoom 0 = .ok (.iload_n 0, 1) := dk_26 (dk_at dksX0_isRoom_0 0 rfl rfl)
theorem dX0_isRoom_1 : decode cX0_isRoom 1 = .ok (.i2l, 1) := dk_133 (dk_at dksX0_isRoom_0 1 rfl rfl)
theorem dX0_isRoom_2 : decode cX0_isRoom 2 = .ok (.lconst 1, 1) := dk_10 (dk_at dksX0_isRoom_0 2 rfl rfl)
theorem dX0_isRoom_3 : decode cX0_isRoom 3 = .ok (.ldc2_w 9, 3) := dk_20 0 9 (dk_at dksX0_isRoom_0 3 rfl rfl)
theorem dX0_isRoom_6 : decode cX0_isRoom 6 = .ok (.invokestatic 5, 3) := dk_184 0 5 (dk_at dksX0_isRoom_0 6 rfl rfl)
theorem dX0_isRoom_9 : decode cX0_isRoom 9 = .ok (.ireturn, 1) := dk_172 (dk_at dksX0_isRoom_0 9 rfl rfl)
noncomputable def f_X0_isRoom (E : ax_E) (x0 : Int) (h : ax_H) : Option (Int × ax_H) :=
  (f_X0_in E (i2 x0) 1 3 h).bind fun q1 =>
  if q1.1 = 0 ∨ q1.1 = 1 then some (q1.1, q1.2) else none
set_option maxHeartbeats 4000000 in
theorem we_X0_isRoom {l : Launch} {G : ax_G} {X : ax_X} {Q : State → Prop} {h0 h : ax_H} {ls : Array Slot} (hSF : ax_SF G) (B : ax_BL l G X cX0_isRoom 1 RX0 2 65) (Z : ax_Z X h0 ((some FieldType.boolean))) (hn : X.2.2.2.2.2.2.2.2.1.name = yX0_isRoom.name) (x0 : Int) {w : Int × ax_H} (hl : ax_hl ls 1 [(0, .inl x0)]) (e : f_X0_isRoom G.2.2 x0 h = some w) (hp : (fun w : Int × ax_H => Q = ax_Q G X h0 w.2 (some (.int (Int32.ofInt w.1)))) w) : ax_W G X Q h 0 ls [] := by
  unfold f_X0_isRoom at e
  refine ax_iload_n B dX0_isRoom_0 rfl hl 0 rfl ?_
  refine ax_i2l' B dX0_isRoom_1 ?_
  refine ax_lconst (v := 1) B dX0_isRoom_2 rfl ?_
  refine ax_ldc2 B cn_X0_9 dX0_isRoom_3 ?_
  refine ax_isI (y := yX0_in) (n := 3) (As := [.long (Int64.ofInt (i2 x0)), .long (Int64.ofInt 1), .long (Int64.ofInt 3)]) B (lw_S q420 q421 q125 q422) (by decide +kernel) ⟨Nat.le_of_ble_eq_true rfl, Nat.le_of_ble_eq_true rfl⟩ (fun w1 e1 => mt_X0_in l G hSF (i2 x0) 1 3 _ w1 e1) rfl hl.size (by decide) dX0_isRoom_6 e (fun q1 e => ?_)
  have e8 := e
  have hp : Q = _ := hp
  subst hp
  exact ax_zreturn B Z dX0_isRoom_9 e8
theorem mt_X0_isRoom (l : Launch) (G : ax_G) (hSF : ax_SF G) (x0 : Int) (h : ax_H) (w : Int × ax_H) (e : f_X0_isRoom G.2.2 x0 h = some w) : ax_Met l G yX0_isRoom cX0_isRoom 1 ((some FieldType.boolean)) 2 65 [.int (Int32.ofInt x0)] h w.2 (some (.int (Int32.ofInt w.1))) :=
  ax_enter [.inl x0] (y := yX0_isRoom) hSF (plainFor_of_name (by decide +kernel)) (Nat.le_of_ble_eq_true rfl) (fun X ls B Z hn hl => we_X0_isRoom hSF B Z hn x0 hl e rfl)
def dkwX0_canBe_3 : List UInt8 := [172, 3, 172]
abbrev dktX0_canBe_3 : List UInt8 := dkwX0_canBe_3 ++ []
def dkwX0_canBe_2 : List UInt8 := [27, 133, 9, 20, 0, 3, 184, 0, 5, 172, 27, 184, 0, 121, 172, 27, 133, 9, 20, 0, 124, 184, 0, 5]
abbrev dktX0_canBe_2 : List UInt8 := dkwX0_canBe_2 ++ dktX0_canBe_3
def dkwX0_canBe_1 : List UInt8 := [170, 0, 0, 0, 0, 0, 52, 0, 0, 0, 0, 0, 0, 0, 2, 0, 0, 0, 27, 0, 0, 0, 37, 0, 0, 0, 42]
abbrev dktX0_canBe_1 : List UInt8 := dkwX0_canBe_1 ++ dktX0_canBe_2
def dkwX0_canBe_0 : List UInt8 := [26]
abbrev dktX0_canBe_0 : List UInt8 := dkwX0_canBe_0 ++ dktX0_canBe_1
theorem dksX0_canBe_0 : cX0_canBe.data.toList.drop 0 = dktX0_canBe_0 := by decide +kernel
theorem dksX0_canBe_1 : cX0_canBe.data.toList.drop 1 = dktX0_canBe_1 := dk_seg dksX0_canBe_0 1 rfl rfl
theorem dksX0_canBe_2 : cX0_canBe.data.toList.drop 28 = dktX0_canBe_2 := dk_seg dksX0_canBe_1 27 rfl rfl
theorem dksX0_canBe_3 : cX0_canBe.data.toList.drop 52 = dktX0_canBe_3 := dk_seg dksX0_canBe_2 24 rfl rfl
theorem dX0_canBe_0 : decode cX0_canBe 0 = .ok (.iload_n 0, 1) := dk_26 (dk_at dksX0_canBe_0 0 rfl rfl)
theorem dX0_canBe_1 : decode cX0_canBe 1 = .ok (.tableswitch 52 0 2 #[27, 37, 42], 27) := by decide +kernel
theorem dX0_canBe_28 : decode cX0_canBe 28 = .ok (.iload_n 1, 1) := dk_27 (dk_at dksX0_canBe_2 0 rfl rfl)
theorem dX0_canBe_29 : decode cX0_canBe 29 = .ok (.i2l, 1) := dk_133 (dk_at dksX0_canBe_2 1 rfl rfl)
theorem dX0_canBe_30 : decode cX0_canBe 30 = .ok (.lconst 0, 1) := dk_9 (dk_at dksX0_canBe_2 2 rfl rfl)
theorem dX0_canBe_31 : decode cX0_canBe 31 = .ok (.ldc2_w 3, 3) := dk_20 0 3 (dk_at dksX0_canBe_2 3 rfl rfl)
theorem dX0_canBe_34 : decode cX0_canBe 34 = .ok (.invokestatic 5, 3) := dk_184 0 5 (dk_at dksX0_canBe_2 6 rfl rfl)
theorem dX0_canBe_37 : decode cX0_canBe 37 = .ok (.ireturn, 1) := dk_172 (dk_at dksX0_canBe_2 9 rfl rfl)
theorem dX0_canBe_38 : decode cX0_canBe 38 = .ok (.iload_n 1, 1) := dk_27 (dk_at dksX0_canBe_2 10 rfl rfl)
theorem dX0_canBe_39 : decode cX0_canBe 39 = .ok (.invokestatic 121, 3) := dk_184 0 121 (dk_at dksX0_canBe_2 11 rfl rfl)
theorem dX0_canBe_42 : decode cX0_canBe 42 = .ok (.ireturn, 1) := dk_172 (dk_at dksX0_canBe_2 14 rfl rfl)
theorem dX0_canBe_43 : decode cX0_canBe 43 = .ok (.iload_n 1, 1) := dk_27 (dk_at dksX0_canBe_2 15 rfl rfl)
theorem dX0_canBe_44 : decode cX0_canBe 44 = .ok (.i2l, 1) := dk_133 (dk_at dksX0_canBe_2 16 rfl rfl)
theorem dX0_canBe_45 : decode cX0_canBe 45 = .ok (.lconst 0, 1) := dk_9 (dk_at dksX0_canBe_2 17 rfl rfl)
theorem dX0_canBe_46 : decode cX0_canBe 46 = .ok (.ldc2_w 124, 3) := dk_20 0 124 (dk_at dksX0_canBe_2 18 rfl rfl)
theorem dX0_canBe_49 : decode cX0_canBe 49 = .ok (.invokestatic 5, 3) := dk_184 0 5 (dk_at dksX0_canBe_2 21 rfl rfl)
theorem dX0_canBe_52 : decode cX0_canBe 52 = .ok (.ireturn, 1) := dk_172 (dk_at dksX0_canBe_3 0 rfl rfl)
theorem dX0_canBe_53 : decode cX0_canBe 53 = .ok (.iconst 0, 1) := dk_3 (dk_at dksX0_canBe_3 1 rfl rfl)
theorem dX0_canBe_54 : decode cX0_canBe 54 = .ok (.ireturn, 1) := dk_172 (dk_at dksX0_canBe_3 2 rfl rfl)
noncomputable def f_X0_canBe (E : ax_E) (x0 : Int) (x1 : Int) (h : ax_H) : Option (Int × ax_H) :=
  if i2 x0 = 0 then
    (f_X0_in E (i2 x1) 0 9999 h).bind fun q1 =>
    if q1.1 = 0 ∨ q1.1 = 1 then some (q1.1, q1.2) else none
  else if i2 x0 = 1 then
    (f_X0_isRoom E x1 h).bind fun q2 =>
    if q2.1 = 0 ∨ q2.1 = 1 then some (q2.1, q2.2) else none
  else if i2 x0 = 2 then
    (f_X0_in E (i2 x1) 0 99 h).bind fun q3 =>
    if q3.1 = 0 ∨ q3.1 = 1 then some (q3.1, q3.2) else none
  else 
    some (0, h)
set_option maxHeartbeats 4000000 in
theorem we_X0_canBe {l : Launch} {G : ax_G} {X : ax_X} {Q : State → Prop} {h0 h : ax_H} {ls : Array Slot} (hSF : ax_SF G) (B : ax_BL l G X cX0_canBe 2 RX0 3 85) (Z : ax_Z X h0 ((some FieldType.boolean))) (hn : X.2.2.2.2.2.2.2.2.1.name = yX0_canBe.name) (x0 : Int) (x1 : Int) {w : Int × ax_H} (hl : ax_hl ls 2 [(0, .inl x0), (1, .inl x1)]) (e : f_X0_canBe G.2.2 x0 x1 h = some w) (hp : (fun w : Int × ax_H => Q = ax_Q G X h0 w.2 (some (.int (Int32.ofInt w.1)))) w) : ax_W G X Q h 0 ls [] := by
  unfold f_X0_canBe at e
  refine ax_iload_n B dX0_canBe_0 rfl hl 0 rfl ?_
  rcases ax_ite e with ⟨hk0, e⟩ | ⟨hk0, e⟩
  · refine ax_tswIn (tgt := 28) (off := 27) B dX0_canBe_1 (by omega) (by omega) (by rw [hk0]; rfl) (by decide) ?_
    refine ax_iload_n B dX0_canBe_28 rfl hl 1 rfl ?_
    refine ax_i2l' B dX0_canBe_29 ?_
    refine ax_lconst (v := 0) B dX0_canBe_30 rfl ?_
    refine ax_ldc2 B cn_X0_3 dX0_canBe_31 ?_
    refine ax_isI (y := yX0_in) (n := 3) (As := [.long (Int64.ofInt (i2 x1)), .long (Int64.ofInt 0), .long (Int64.ofInt 9999)]) B (lw_S q420 q421 q125 q422) (by decide +kernel) ⟨Nat.le_of_ble_eq_true rfl, Nat.le_of_ble_eq_true rfl⟩ (fun w1 e1 => mt_X0_in l G hSF (i2 x1) 0 9999 _ w1 e1) rfl hl.size (by decide) dX0_canBe_34 e (fun q1 e => ?_)
    have e8 := e
    have hp : Q = _ := hp
    subst hp
    exact ax_zreturn B Z dX0_canBe_37 e8
  rcases ax_ite e with ⟨hk1, e⟩ | ⟨hk1, e⟩
  · refine ax_tswIn (tgt := 38) (off := 37) B dX0_canBe_1 (by omega) (by omega) (by rw [hk1]; rfl) (by decide) ?_
    refine ax_iload_n B dX0_canBe_38 rfl hl 1 rfl ?_
    refine ax_isI (y := yX0_isRoom) (n := 1) (As := [.int (Int32.ofInt x1)]) B (lw_S q431 q432 q125 q433) (by decide +kernel) ⟨Nat.le_of_ble_eq_true rfl, Nat.le_of_ble_eq_true rfl⟩ (fun w1 e1 => mt_X0_isRoom l G hSF x1 _ w1 e1) rfl hl.size (by decide) dX0_canBe_39 e (fun q2 e => ?_)
    have e8 := e
    have hp : Q = _ := hp
    subst hp
    exact ax_zreturn B Z dX0_canBe_42 e8
  rcases ax_ite e with ⟨hk2, e⟩ | ⟨hk2, e⟩
  · refine ax_tswIn (tgt := 43) (off := 42) B dX0_canBe_1 (by omega) (by omega) (by rw [hk2]; rfl) (by decide) ?_
    refine ax_iload_n B dX0_canBe_43 rfl hl 1 rfl ?_
    refine ax_i2l' B dX0_canBe_44 ?_
    refine ax_lconst (v := 0) B dX0_canBe_45 rfl ?_
    refine ax_ldc2 B cn_X0_124 dX0_canBe_46 ?_
    refine ax_isI (y := yX0_in) (n := 3) (As := [.long (Int64.ofInt (i2 x1)), .long (Int64.ofInt 0), .long (Int64.ofInt 99)]) B (lw_S q420 q421 q125 q422) (by decide +kernel) ⟨Nat.le_of_ble_eq_true rfl, Nat.le_of_ble_eq_true rfl⟩ (fun w1 e1 => mt_X0_in l G hSF (i2 x1) 0 99 _ w1 e1) rfl hl.size (by decide) dX0_canBe_49 e (fun q3 e => ?_)
    have e8 := e
    have hp : Q = _ := hp
    subst hp
    exact ax_zreturn B Z dX0_canBe_52 e8
  refine ax_tswOut (tgt := 53) B dX0_canBe_1 (by omega) (by decide) ?_
  refine ax_iconst B dX0_canBe_53 ?_
  have e8 := e
  have hp : Q = _ := hp
  subst hp
  exact ax_zreturnL (by decide) B Z dX0_canBe_54 e8
theorem mt_X0_canBe (l : Launch) (G : ax_G) (hSF : ax_SF G) (x0 : Int) (x1 : Int) (h : ax_H) (w : Int × ax_H) (e : f_X0_canBe G.2.2 x0 x1 h = some w) : ax_Met l G yX0_canBe cX0_canBe 2 ((some FieldType.boolean)) 3 85 [.int (Int32.ofInt x0), .int (Int32.ofInt x1)] h w.2 (some (.int (Int32.ofInt w.1))) :=
  ax_enter [.inl x0, .inl x1] (y := yX0_canBe) hSF (plainFor_of_name (by decide +kernel)) (Nat.le_of_ble_eq_true rfl) (fun X ls B Z hn hl => we_X0_canBe hSF B Z hn x0 x1 hl e rfl)
def dkwJ3_min_0 : List UInt8 := [26, 27, 163, 0, 7, 26, 167, 0, 4, 27, 172]
abbrev dktJ3_min_0 : List UInt8 := dkwJ3_min_0 ++ []
theorem dksJ3_min_0 : cJ3_min.data.toList.drop 0 = dktJ3_min_0 := by decide +kernel
theorem dJ3_min_0 : decode cJ3_min 0 = .ok (.iload_n 0, 1) := dk_26 (dk_at dksJ3_min_0 0 rfl rfl)
theorem dJ3_min_1 : decode cJ3_min 1 = .ok (.iload_n 1, 1) := dk_27 (dk_at dksJ3_min_0 1 rfl rfl)
theorem dJ3_min_2 : decode cJ3_min 2 = .ok (.if_icmp .gt 7, 3) := dk_163 0 7 (dk_at dksJ3_min_0 2 rfl rfl)
theorem dJ3_min_5 : decode cJ3_min 5 = .ok (.iload_n 0, 1) := dk_26 (dk_at dksJ3_min_0 5 rfl rfl)
theorem dJ3_min_6 : decode cJ3_min 6 = .ok (.goto 4, 3) := dk_167 0 4 (dk_at dksJ3_min_0 6 rfl rfl)
theorem dJ3_min_9 : decode cJ3_min 9 = .ok (.iload_n 1, 1) := dk_27 (dk_at dksJ3_min_0 9 rfl rfl)
theorem dJ3_min_10 : decode cJ3_min 10 = .ok (.ireturn, 1) := dk_172 (dk_at dksJ3_min_0 10 rfl rfl)
noncomputable def f_J3_min (E : ax_E) (x0 : Int) (x1 : Int) (h : ax_H) : Option (Int × ax_H) :=
  if i2 x1 < i2 x0 then
    some (x1, h)
  else
    some (x0, h)
set_option maxHeartbeats 4000000 in
theorem we_J3_min {l : Launch} {G : ax_G} {X : ax_X} {Q : State → Prop} {h0 h : ax_H} {ls : Array Slot} (hSF : ax_SF G) (B : ax_BL l G X cJ3_min 2 RJ3 1 40) (Z : ax_Z X h0 ((some FieldType.int))) (hn : X.2.2.2.2.2.2.2.2.1.name = yJ3_min.name) (x0 : Int) (x1 : Int) {w : Int × ax_H} (hl : ax_hl ls 2 [(0, .inl x0), (1, .inl x1)]) (e : f_J3_min G.2.2 x0 x1 h = some w) (hp : (fun w : Int × ax_H => Q = ax_Q G X h0 w.2 (some (.int (Int32.ofInt w.1)))) w) : ax_W G X Q h 0 ls [] := by
  unfold f_J3_min at e
  refine ax_iload_n B dJ3_min_0 rfl hl 0 rfl ?_
  refine ax_iload_n B dJ3_min_1 rfl hl 1 rfl ?_
  refine ax_icmp_gt (tgt := 9) B dJ3_min_2 (by decide) e (fun e => ?_) (fun e => ?_)
  · refine ax_iload_n B dJ3_min_9 rfl hl 1 rfl ?_
    have e8 := e
    have hp : Q = _ := hp
    subst hp
    exact ax_ireturn B Z dJ3_min_10 e8
  · refine ax_iload_n B dJ3_min_5 rfl hl 0 rfl ?_
    refine ax_goto (tgt := 10) B dJ3_min_6 (by decide) ?_
    have e8 := e
    have hp : Q = _ := hp
    subst hp
    exact ax_ireturn B Z dJ3_min_10 e8
theorem mt_J3_min (l : Launch) (G : ax_G) (hSF : ax_SF G) (x0 : Int) (x1 : Int) (h : ax_H) (w : Int × ax_H) (e : f_J3_min G.2.2 x0 x1 h = some w) : ax_Met l G yJ3_min cJ3_min 2 ((some FieldType.int)) 1 40 [.int (Int32.ofInt x0), .int (Int32.ofInt x1)] h w.2 (some (.int (Int32.ofInt w.1))) :=
  ax_enter [.inl x0, .inl x1] (y := yJ3_min) hSF (by decide +kernel) (Nat.le_of_ble_eq_true rfl) (fun X ls B Z hn hl => we_J3_min hSF B Z hn x0 x1 hl e rfl)
def dkwX0_tell_1 : List UInt8 := [27, 172]
abbrev dktX0_tell_1 : List UInt8 := dkwX0_tell_1 ++ []
def dkwX0_tell_0 : List UInt8 := [42, 27, 3, 184, 0, 82, 181, 0, 88, 27, 156, 0, 14, 42, 180, 0, 56, 27, 116, 92, 46, 4, 96, 79]
abbrev dktX0_tell_0 : List UInt8 := dkwX0_tell_0 ++ dktX0_tell_1
theorem dksX0_tell_0 : cX0_tell.data.toList.drop 0 = dktX0_tell_0 := by decide +kernel
theorem dksX0_tell_1 : cX0_tell.data.toList.drop 24 = dktX0_tell_1 := dk_seg dksX0_tell_0 24 rfl rfl
theorem dX0_tell_0 : decode cX0_tell 0 = .ok (.aload_n 0, 1) := dk_42 (dk_at dksX0_tell_0 0 rfl rfl)
theorem dX0_tell_1 : decode cX0_tell 1 = .ok (.iload_n 1, 1) := dk_27 (dk_at dksX0_tell_0 1 rfl rfl)
theorem dX0_tell_2 : decode cX0_tell 2 = .ok (.iconst 0, 1) := dk_3 (dk_at dksX0_tell_0 2 rfl rfl)
theorem dX0_tell_3 : decode cX0_tell 3 = .ok (.invokestatic 82, 3) := dk_184 0 82 (dk_at dksX0_tell_0 3 rfl rfl)
theorem dX0_tell_6 : decode cX0_tell 6 = .ok (.putfield 88, 3) := dk_181 0 88 (dk_at dksX0_tell_0 6 rfl rfl)
theorem dX0_tell_9 : decode cX0_tell 9 = .ok (.iload_n 1, 1) := dk_27 (dk_at dksX0_tell_0 9 rfl rfl)
theorem dX0_tell_10 : decode cX0_tell 10 = .ok (.ifCond .ge 14, 3) := dk_156 0 14 (dk_at dksX0_tell_0 10 rfl rfl)
theorem dX0_tell_13 : decode cX0_tell 13 = .ok (.aload_n 0, 1) := dk_42 (dk_at dksX0_tell_0 13 rfl rfl)
theorem dX0_tell_14 : decode cX0_tell 14 = .ok (.getfield 56, 3) := dk_180 0 56 (dk_at dksX0_tell_0 14 rfl rfl)
theorem dX0_tell_17 : decode cX0_tell 17 = .ok (.iload_n 1, 1) := dk_27 (dk_at dksX0_tell_0 17 rfl rfl)
theorem dX0_tell_18 : decode cX0_tell 18 = .ok (.ineg, 1) := dk_116 (dk_at dksX0_tell_0 18 rfl rfl)
theorem dX0_tell_19 : decode cX0_tell 19 = .ok (.dup2, 1) := dk_92 (dk_at dksX0_tell_0 19 rfl rfl)
theorem dX0_tell_20 : decode cX0_tell 20 = .ok (.iaload, 1) := dk_46 (dk_at dksX0_tell_0 20 rfl rfl)
theorem dX0_tell_21 : decode cX0_tell 21 = .ok (.iconst 1, 1) := dk_4 (dk_at dksX0_tell_0 21 rfl rfl)
theorem dX0_tell_22 : decode cX0_tell 22 = .ok (.iadd, 1) := dk_96 (dk_at dksX0_tell_0 22 rfl rfl)
theorem dX0_tell_23 : decode cX0_tell 23 = .ok (.iastore, 1) := dk_79 (dk_at dksX0_tell_0 23 rfl rfl)
theorem dX0_tell_24 : decode cX0_tell 24 = .ok (.iload_n 1, 1) := dk_27 (dk_at dksX0_tell_1 0 rfl rfl)
theorem dX0_tell_25 : decode cX0_tell 25 = .ok (.ireturn, 1) := dk_172 (dk_at dksX0_tell_1 1 rfl rfl)
noncomputable def f_X0_tell_24 (E : ax_E) (x1 : Int) (h : ax_H) : Option (Int × ax_H) :=
  some (x1, h)
noncomputable def f_X0_tell (E : ax_E) (x0 : Option Nat) (x1 : Int) (h : ax_H) : Option (Int × ax_H) :=
  (f_J3_min E x1 0 h).bind fun q1 =>
  (ax_pI q1.2 x0 0 7 q1.1).bind fun h2 =>
  if i2 x1 < 0 then
    (ax_gR E h2 x0 0 6).bind fun v3 =>
    (ax_ld E h2 v3 100 (-x1)).bind fun v4 =>
    (ax_sto h2 v3 100 (-x1) (v4 + 1)).bind fun h5 =>
    f_X0_tell_24 E x1 h5
  else
    f_X0_tell_24 E x1 h2
set_option maxHeartbeats 4000000 in
theorem w_X0_tell_24 {l : Launch} {G : ax_G} {X : ax_X} {Q : State → Prop} {h0 h : ax_H} {ls : Array Slot} (hSF : ax_SF G) (B : ax_BL l G X cX0_tell 2 RX0 2 61) (Z : ax_Z X h0 ((some FieldType.int))) (hn : X.2.2.2.2.2.2.2.2.1.name = yX0_tell.name) (x1 : Int) {w : Int × ax_H} (hl : ax_hl ls 2 [(1, .inl x1)]) (e : f_X0_tell_24 G.2.2 x1 h = some w) (hp : (fun w : Int × ax_H => Q = ax_Q G X h0 w.2 (some (.int (Int32.ofInt w.1)))) w) : ax_W G X Q h 24 ls [] := by
  unfold f_X0_tell_24 at e
  refine ax_iload_n B dX0_tell_24 rfl hl 0 rfl ?_
  have e8 := e
  have hp : Q = _ := hp
  subst hp
  exact ax_ireturn B Z dX0_tell_25 e8
set_option maxHeartbeats 4000000 in
theorem we_X0_tell {l : Launch} {G : ax_G} {X : ax_X} {Q : State → Prop} {h0 h : ax_H} {ls : Array Slot} (hSF : ax_SF G) (B : ax_BL l G X cX0_tell 2 RX0 2 61) (Z : ax_Z X h0 ((some FieldType.int))) (hn : X.2.2.2.2.2.2.2.2.1.name = yX0_tell.name) (x0 : Option Nat) (x1 : Int) {w : Int × ax_H} (hl : ax_hl ls 2 [(0, .inr (.inr x0)), (1, .inl x1)]) (e : f_X0_tell G.2.2 x0 x1 h = some w) (hp : (fun w : Int × ax_H => Q = ax_Q G X h0 w.2 (some (.int (Int32.ofInt w.1)))) w) : ax_W G X Q h 0 ls [] := by
  unfold f_X0_tell at e
  refine ax_aload_n B dX0_tell_0 rfl hl 0 rfl ?_
  refine ax_iload_n B dX0_tell_1 rfl hl 1 rfl ?_
  refine ax_iconst B dX0_tell_2 ?_
  refine ax_isI (y := yJ3_min) (n := 2) (As := [.int (Int32.ofInt x1), .int (Int32.ofInt 0)]) B (lw_S q440 q441 q134 q442) (by decide +kernel) ⟨Nat.le_of_ble_eq_true rfl, Nat.le_of_ble_eq_true rfl⟩ (fun w1 e1 => mt_J3_min l G hSF x1 0 _ w1 e1) rfl hl.size (by simp only [List.map_cons, List.map_nil, List.sum_cons, List.sum_nil, va_rf_cat, ax_catI, ax_catL]; decide) dX0_tell_3 e (fun q1 e => ?_)
  refine ax_putI B ff_X0_88_0 (Or.inl rfl) rfl dX0_tell_6 e (fun h2 e => ?_)
  refine ax_iload_n B dX0_tell_9 rfl hl 1 rfl ?_
  refine ax_if_ge (tgt := 24) B dX0_tell_10 (by decide) e (fun e => ?_) (fun e => ?_)
  · refine ax_aload_n B dX0_tell_13 rfl hl 0 rfl ?_
    refine ax_getR B ff_X0_56_0 (fun _ _ => rfl) dX0_tell_14 e (fun v3 e => ?_)
    refine ax_iload_n B dX0_tell_17 rfl hl 1 rfl ?_
    refine ax_ineg' B dX0_tell_18 ?_
    refine ax_dup2 B dX0_tell_19 (rfl) (va_rf_cat _) ?_
    refine ax_iald B kd100 dX0_tell_20 e (fun v4 e => ?_)
    refine ax_iconst B dX0_tell_21 ?_
    refine ax_iadd' B dX0_tell_22 ?_
    refine ax_iast B kd100 dX0_tell_23 e (fun h5 e => ?_)
    exact w_X0_tell_24 hSF B Z hn x1 (hl.sub [1] rfl) e hp
  · exact w_X0_tell_24 hSF B Z hn x1 (hl.sub [1] rfl) e hp
theorem mt_X0_tell (l : Launch) (G : ax_G) (hSF : ax_SF G) (x0 : Option Nat) (x1 : Int) (h : ax_H) (w : Int × ax_H) (e : f_X0_tell G.2.2 x0 x1 h = some w) : ax_Met l G yX0_tell cX0_tell 2 ((some FieldType.int)) 2 61 [va_rf x0, .int (Int32.ofInt x1)] h w.2 (some (.int (Int32.ofInt w.1))) :=
  ax_enter [.inr (.inr x0), .inl x1] (y := yX0_tell) hSF (plainFor_of_name (by decide +kernel)) (Nat.le_of_ble_eq_true rfl) (fun X ls B Z hn hl => we_X0_tell hSF B Z hn x0 x1 hl e rfl)
def dkwX0_books_0 : List UInt8 := [42, 180, 0, 20, 180, 0, 98, 176]
abbrev dktX0_books_0 : List UInt8 := dkwX0_books_0 ++ []
theorem dksX0_books_0 : cX0_books.data.toList.drop 0 = dktX0_books_0 := by decide +kernel
theorem dX0_books_0 : decode cX0_books 0 = .ok (.aload_n 0, 1) := dk_42 (dk_at dksX0_books_0 0 rfl rfl)
theorem dX0_books_1 : decode cX0_books 1 = .ok (.getfield 20, 3) := dk_180 0 20 (dk_at dksX0_books_0 1 rfl rfl)
theorem dX0_books_4 : decode cX0_books 4 = .ok (.getfield 98, 3) := dk_180 0 98 (dk_at dksX0_books_0 4 rfl rfl)
theorem dX0_books_7 : decode cX0_books 7 = .ok (.areturn, 1) := dk_176 (dk_at dksX0_books_0 7 rfl rfl)
noncomputable def f_X0_books (E : ax_E) (x0 : Option Nat) (h : ax_H) : Option (Option Nat × ax_H) :=
  (ax_gR E h x0 0 0).bind fun v1 =>
  (ax_gR E h v1 1 3).bind fun v2 =>
  some (v2, h)
set_option maxHeartbeats 4000000 in
theorem we_X0_books {l : Launch} {G : ax_G} {X : ax_X} {Q : State → Prop} {h0 h : ax_H} {ls : Array Slot} (hSF : ax_SF G) (B : ax_BL l G X cX0_books 1 RX0 1 40) (Z : ax_Z X h0 ((some (FieldType.object "DebtDoors$Books")))) (hn : X.2.2.2.2.2.2.2.2.1.name = yX0_books.name) (x0 : Option Nat) {w : Option Nat × ax_H} (hl : ax_hl ls 1 [(0, .inr (.inr x0))]) (e : f_X0_books G.2.2 x0 h = some w) (hp : (fun w : Option Nat × ax_H => Q = ax_Q G X h0 w.2 (some (va_rf w.1))) w) : ax_W G X Q h 0 ls [] := by
  unfold f_X0_books at e
  refine ax_aload_n B dX0_books_0 rfl hl 0 rfl ?_
  refine ax_getR B ff_X0_20_0 (fun _ _ => rfl) dX0_books_1 e (fun v1 e => ?_)
  refine ax_getR B ff_X0_98_1 (fun _ _ => rfl) dX0_books_4 e (fun v2 e => ?_)
  have e8 := e
  have hp : Q = _ := hp
  subst hp
  exact ax_areturn B Z (Or.inl ⟨_, rfl⟩) dX0_books_7 e8
theorem mt_X0_books (l : Launch) (G : ax_G) (hSF : ax_SF G) (x0 : Option Nat) (h : ax_H) (w : Option Nat × ax_H) (e : f_X0_books G.2.2 x0 h = some w) : ax_Met l G yX0_books cX0_books 1 ((some (FieldType.object "DebtDoors$Books"))) 1 40 [va_rf x0] h w.2 (some (va_rf w.1)) :=
  ax_enter [.inr (.inr x0)] (y := yX0_books) hSF (plainFor_of_name (by decide +kernel)) (Nat.le_of_ble_eq_true rfl) (fun X ls B Z hn hl => we_X0_books hSF B Z hn x0 hl e rfl)
def dkwJ2_clear_1 : List UInt8 := [181, 0, 48, 62, 29, 28, 162, 0, 13, 43, 29, 1, 83, 132, 3, 1, 167, 255, 244, 177]
abbrev dktJ2_clear_1 : List UInt8 := dkwJ2_clear_1 ++ []
def dkwJ2_clear_0 : List UInt8 := [42, 89, 180, 0, 63, 4, 96, 181, 0, 63, 42, 180, 0, 9, 76, 42, 180, 0, 48, 61, 42, 3, 90]
abbrev dktJ2_clear_0 : List UInt8 := dkwJ2_clear_0 ++ dktJ2_clear_1
theorem dksJ2_clear_0 : cJ2_clear.data.toList.drop 0 = dktJ2_clear_0 := by decide +kernel
theorem dksJ2_clear_1 : cJ2_clear.data.toList.drop 23 = dktJ2_clear_1 := dk_seg dksJ2_clear_0 23 rfl rfl
theorem dJ2_clear_0 : decode cJ2_clear 0 = .ok (.aload_n 0, 1) := dk_42 (dk_at dksJ2_clear_0 0 rfl rfl)
theorem dJ2_clear_1 : decode cJ2_clear 1 = .ok (.dup, 1) := dk_89 (dk_at dksJ2_clear_0 1 rfl rfl)
theorem dJ2_clear_2 : decode cJ2_clear 2 = .ok (.getfield 63, 3) := dk_180 0 63 (dk_at dksJ2_clear_0 2 rfl rfl)
theorem dJ2_clear_5 : decode cJ2_clear 5 = .ok (.iconst 1, 1) := dk_4 (dk_at dksJ2_clear_0 5 rfl rfl)
theorem dJ2_clear_6 : decode cJ2_clear 6 = .ok (.iadd, 1) := dk_96 (dk_at dksJ2_clear_0 6 rfl rfl)
theorem dJ2_clear_7 : decode cJ2_clear 7 = .ok (.putfield 63, 3) := dk_181 0 63 (dk_at dksJ2_clear_0 7 rfl rfl)
theorem dJ2_clear_10 : decode cJ2_clear 10 = .ok (.aload_n 0, 1) := dk_42 (dk_at dksJ2_clear_0 10 rfl rfl)
theorem dJ2_clear_11 : decode cJ2_clear 11 = .ok (.getfield 9, 3) := dk_180 0 9 (dk_at dksJ2_clear_0 11 rfl rfl)
theorem dJ2_clear_14 : decode cJ2_clear 14 = .ok (.astore_n 1, 1) := dk_76 (dk_at dksJ2_clear_0 14 rfl rfl)
theorem dJ2_clear_15 : decode cJ2_clear 15 = .ok (.aload_n 0, 1) := dk_42 (dk_at dksJ2_clear_0 15 rfl rfl)
theorem dJ2_clear_16 : decode cJ2_clear 16 = .ok (.getfield 48, 3) := dk_180 0 48 (dk_at dksJ2_clear_0 16 rfl rfl)
theorem dJ2_clear_19 : decode cJ2_clear 19 = .ok (.istore_n 2, 1) := dk_61 (dk_at dksJ2_clear_0 19 rfl rfl)
theorem dJ2_clear_20 : decode cJ2_clear 20 = .ok (.aload_n 0, 1) := dk_42 (dk_at dksJ2_clear_0 20 rfl rfl)
theorem dJ2_clear_21 : decode cJ2_clear 21 = .ok (.iconst 0, 1) := dk_3 (dk_at dksJ2_clear_0 21 rfl rfl)
theorem dJ2_clear_22 : decode cJ2_clear 22 = .ok (.dup_x1, 1) := dk_90 (dk_at dksJ2_clear_0 22 rfl rfl)
theorem dJ2_clear_23 : decode cJ2_clear 23 = .ok (.putfield 48, 3) := dk_181 0 48 (dk_at dksJ2_clear_1 0 rfl rfl)
theorem dJ2_clear_26 : decode cJ2_clear 26 = .ok (.istore_n 3, 1) := dk_62 (dk_at dksJ2_clear_1 3 rfl rfl)
theorem dJ2_clear_27 : decode cJ2_clear 27 = .ok (.iload_n 3, 1) := dk_29 (dk_at dksJ2_clear_1 4 rfl rfl)
theorem dJ2_clear_28 : decode cJ2_clear 28 = .ok (.iload_n 2, 1) := dk_28 (dk_at dksJ2_clear_1 5 rfl rfl)
theorem dJ2_clear_29 : decode cJ2_clear 29 = .ok (.if_icmp .ge 13, 3) := dk_162 0 13 (dk_at dksJ2_clear_1 6 rfl rfl)
theorem dJ2_clear_32 : decode cJ2_clear 32 = .ok (.aload_n 1, 1) := dk_43 (dk_at dksJ2_clear_1 9 rfl rfl)
theorem dJ2_clear_33 : decode cJ2_clear 33 = .ok (.iload_n 3, 1) := dk_29 (dk_at dksJ2_clear_1 10 rfl rfl)
theorem dJ2_clear_34 : decode cJ2_clear 34 = .ok (.aconst_null, 1) := dk_1 (dk_at dksJ2_clear_1 11 rfl rfl)
theorem dJ2_clear_35 : decode cJ2_clear 35 = .ok (.aastore, 1) := dk_83 (dk_at dksJ2_clear_1 12 rfl rfl)
theorem dJ2_clear_36 : decode cJ2_clear 36 = .ok (.iinc 3 1, 3) := dk_132 3 1 (dk_at dksJ2_clear_1 13 rfl rfl)
theorem dJ2_clear_39 : decode cJ2_clear 39 = .ok (.goto (-12), 3) := dk_167 255 244 (dk_at dksJ2_clear_1 16 rfl rfl)
theorem dJ2_clear_42 : decode cJ2_clear 42 = .ok (.return_, 1) := dk_177 (dk_at dksJ2_clear_1 19 rfl rfl)
noncomputable def lb_J2_clear_27 (E : ax_E) (x1 : Option Nat) (x2 : Int) (x3 : Int) (h : ax_H) : Option ((Int × ax_H) ⊕ (ax_H)) :=
  if i2 x3 < i2 x2 then
    (ax_stR E oj_104 h x1 104 x3 none).bind fun h1 =>
    some (.inl ((x3 + 1), h1))
  else
    (some h).map Sum.inr
noncomputable def f_J2_clear_27 (E : ax_E) (x1 : Option Nat) (x2 : Int) (x3 : Int) (h : ax_H) : Option (ax_H) :=
  ax_iter (fun s : Int × ax_H => lb_J2_clear_27 E x1 x2 s.1 s.2) (x3, h)
noncomputable def f_J2_clear (E : ax_E) (x0 : Option Nat) (h : ax_H) : Option (ax_H) :=
  (ax_gI E h x0 42 0).bind fun v1 =>
  (ax_pI h x0 42 0 (v1 + 1)).bind fun h2 =>
  (ax_gR E h2 x0 42 1).bind fun v3 =>
  (ax_gI E h2 x0 42 2).bind fun v4 =>
  (ax_pI h2 x0 42 2 0).bind fun h5 =>
  f_J2_clear_27 E v3 v4 0 h5
def pi_J2_clear_27 (G : ax_G) (X : ax_X) (Q : State → Prop) (x1 : Option Nat) (x2 : Int) : Int × ax_H → Prop := fun s => ∀ ls : Array Slot, ax_hl ls 4 [(1, .inr (.inr x1)), (2, .inl x2), (3, .inl s.1)] → ax_W G X Q s.2 27 ls []
set_option maxHeartbeats 4000000 in
theorem wb_J2_clear_27 {l : Launch} {G : ax_G} {X : ax_X} {Q : State → Prop} {h0 h : ax_H} {ls : Array Slot} (hSF : ax_SF G) (B : ax_BL l G X cJ2_clear 4 RJ2 1 40) (Z : ax_Z X h0 none) (hn : X.2.2.2.2.2.2.2.2.1.name = yJ2_clear.name) (x1 : Option Nat) (x2 : Int) (x3 : Int) {w : (Int × ax_H) ⊕ (ax_H)} (hl : ax_hl ls 4 [(1, .inr (.inr x1)), (2, .inl x2), (3, .inl x3)]) (e : lb_J2_clear_27 G.2.2 x1 x2 x3 h = some w) (hp : (ax_PL (pi_J2_clear_27 G X Q x1 x2) (fun w : ax_H => Q = ax_Q G X h0 w none)) w) : ax_W G X Q h 27 ls [] := by
  unfold lb_J2_clear_27 at e
  refine ax_iload_n B dJ2_clear_27 rfl hl 2 rfl ?_
  refine ax_iload_n B dJ2_clear_28 rfl hl 1 rfl ?_
  refine ax_icmp_ge (tgt := 42) B dJ2_clear_29 (by decide) e (fun e => ?_) (fun e => ?_)
  · refine ax_aload_n B dJ2_clear_32 rfl hl 0 rfl ?_
    refine ax_iload_n B dJ2_clear_33 rfl hl 2 rfl ?_
    refine ax_null B dJ2_clear_34 ?_
    refine ax_aast B kd104 (ok_104 B) dJ2_clear_35 e (fun h1 e => ?_)
    refine ax_iinc (L' := [(3, .inl (x3 + 1)), (1, .inr (.inr x1)), (2, .inl x2)]) B dJ2_clear_36 hl 2 rfl (by decide) rfl (fun ls hl => ?_)
    refine ax_goto (tgt := 27) B dJ2_clear_39 (by decide) ?_
    cases e
    exact hp _ (hl.sub [1, 2, 0] rfl)
  · obtain ⟨w, e9_1, rfl⟩ := Option.map_eq_some_iff.mp e
    have e := e9_1
    have e8 := e
    have hp : Q = _ := hp
    subst hp
    exact ax_return B Z dJ2_clear_42 e8
theorem w_J2_clear_27 {l : Launch} {G : ax_G} {X : ax_X} {Q : State → Prop} {h0 h : ax_H} {ls : Array Slot} (hSF : ax_SF G) (B : ax_BL l G X cJ2_clear 4 RJ2 1 40) (Z : ax_Z X h0 none) (hn : X.2.2.2.2.2.2.2.2.1.name = yJ2_clear.name) (x1 : Option Nat) (x2 : Int) (x3 : Int) {w : ax_H} (hl : ax_hl ls 4 [(1, .inr (.inr x1)), (2, .inl x2), (3, .inl x3)]) (e : f_J2_clear_27 G.2.2 x1 x2 x3 h = some w) (hp : (fun w : ax_H => Q = ax_Q G X h0 w none) w) : ax_W G X Q h 27 ls [] :=
  ax_iter_W (Pin := pi_J2_clear_27 G X Q x1 x2) (Pout := (fun w : ax_H => Q = ax_Q G X h0 w none)) (fun s w e hp ls hl => wb_J2_clear_27 hSF B Z hn x1 x2 s.1 hl e hp) _ _ e hp ls hl
set_option maxHeartbeats 4000000 in
theorem we_J2_clear {l : Launch} {G : ax_G} {X : ax_X} {Q : State → Prop} {h0 h : ax_H} {ls : Array Slot} (hSF : ax_SF G) (B : ax_BL l G X cJ2_clear 4 RJ2 1 40) (Z : ax_Z X h0 none) (hn : X.2.2.2.2.2.2.2.2.1.name = yJ2_clear.name) (x0 : Option Nat) {w : ax_H} (hl : ax_hl ls 4 [(0, .inr (.inr x0))]) (e : f_J2_clear G.2.2 x0 h = some w) (hp : (fun w : ax_H => Q = ax_Q G X h0 w none) w) : ax_W G X Q h 0 ls [] := by
  unfold f_J2_clear at e
  refine ax_aload_n B dJ2_clear_0 rfl hl 0 rfl ?_
  refine ax_dup B dJ2_clear_1 (va_rf_cat _) ?_
  refine ax_getI B ff_J2_63_42 (fun _ _ => rfl) dJ2_clear_2 e (fun v1 e => ?_)
  refine ax_iconst B dJ2_clear_5 ?_
  refine ax_iadd' B dJ2_clear_6 ?_
  refine ax_putI B ff_J2_63_42 (Or.inl rfl) rfl dJ2_clear_7 e (fun h2 e => ?_)
  refine ax_aload_n B dJ2_clear_10 rfl hl 0 rfl ?_
  refine ax_getR B ff_J2_9_42 (fun _ _ => rfl) dJ2_clear_11 e (fun v3 e => ?_)
  refine ax_astore_n (L' := [(1, .inr (.inr v3)), (0, .inr (.inr x0))]) B dJ2_clear_14 rfl hl (by decide) rfl (fun ls hl => ?_)
  refine ax_aload_n B dJ2_clear_15 rfl hl 1 rfl ?_
  refine ax_getI B ff_J2_48_42 (fun _ _ => rfl) dJ2_clear_16 e (fun v4 e => ?_)
  refine ax_istore_n (L' := [(2, .inl v4), (1, .inr (.inr v3)), (0, .inr (.inr x0))]) B dJ2_clear_19 rfl hl (by decide) rfl (fun ls hl => ?_)
  refine ax_aload_n B dJ2_clear_20 rfl hl 2 rfl ?_
  refine ax_iconst B dJ2_clear_21 ?_
  refine ax_dup_x1 B dJ2_clear_22 (rfl) (va_rf_cat _) ?_
  refine ax_putI B ff_J2_48_42 (Or.inl rfl) rfl dJ2_clear_23 e (fun h5 e => ?_)
  refine ax_istore_n (L' := [(3, .inl 0), (2, .inl v4), (1, .inr (.inr v3)), (0, .inr (.inr x0))]) B dJ2_clear_26 rfl hl (by decide) rfl (fun ls hl => ?_)
  exact w_J2_clear_27 hSF B Z hn v3 v4 0 (hl.sub [2, 1, 0] rfl) e hp
theorem mt_J2_clear (l : Launch) (G : ax_G) (hSF : ax_SF G) (x0 : Option Nat) (h : ax_H) (w : ax_H) (e : f_J2_clear G.2.2 x0 h = some w) : ax_Met l G yJ2_clear cJ2_clear 4 none 1 40 [va_rf x0] h w none :=
  ax_enter [.inr (.inr x0)] (y := yJ2_clear) hSF (plainFor_of_name (by decide +kernel)) (Nat.le_of_ble_eq_true rfl) (fun X ls B Z hn hl => we_J2_clear hSF B Z hn x0 hl e rfl)
def dkwX0_settled_0 : List UInt8 := [27, 155, 0, 10, 42, 180, 0, 31, 182, 0, 91, 42, 27, 182, 0, 94, 172]
abbrev dktX0_settled_0 : List UInt8 := dkwX0_settled_0 ++ []
theorem dksX0_settled_0 : cX0_settled.data.toList.drop 0 = dktX0_settled_0 := by decide +kernel
theorem dX0_settled_0 : decode cX0_settled 0 = .ok (.iload_n 1, 1) := dk_27 (dk_at dksX0_settled_0 0 rfl rfl)
theorem dX0_settled_1 : decode cX0_settled 1 = .ok (.ifCond .lt 10, 3) := dk_155 0 10 (dk_at dksX0_settled_0 1 rfl rfl)
theorem dX0_settled_4 : decode cX0_settled 4 = .ok (.aload_n 0, 1) := dk_42 (dk_at dksX0_settled_0 4 rfl rfl)
theorem dX0_settled_5 : decode cX0_settled 5 = .ok (.getfield 31, 3) := dk_180 0 31 (dk_at dksX0_settled_0 5 rfl rfl)
theorem dX0_settled_8 : decode cX0_settled 8 = .ok (.invokevirtual 91, 3) := dk_182 0 91 (dk_at dksX0_settled_0 8 rfl rfl)
theorem dX0_settled_11 : decode cX0_settled 11 = .ok (.aload_n 0, 1) := dk_42 (dk_at dksX0_settled_0 11 rfl rfl)
theorem dX0_settled_12 : decode cX0_settled 12 = .ok (.iload_n 1, 1) := dk_27 (dk_at dksX0_settled_0 12 rfl rfl)
theorem dX0_settled_13 : decode cX0_settled 13 = .ok (.invokevirtual 94, 3) := dk_182 0 94 (dk_at dksX0_settled_0 13 rfl rfl)
theorem dX0_settled_16 : decode cX0_settled 16 = .ok (.ireturn, 1) := dk_172 (dk_at dksX0_settled_0 16 rfl rfl)
noncomputable def f_X0_settled_11 (E : ax_E) (x0 : Option Nat) (x1 : Int) (h : ax_H) : Option (Int × ax_H) :=
  (ax_ce E h x0 0).bind fun _ => (f_X0_tell E x0 x1 h).bind fun q1 =>
  some (q1.1, q1.2)
noncomputable def f_X0_settled (E : ax_E) (x0 : Option Nat) (x1 : Int) (h : ax_H) : Option (Int × ax_H) :=
  if i2 x1 < 0 then
    f_X0_settled_11 E x0 x1 h
  else
    (ax_gR E h x0 0 2).bind fun v1 =>
    (ax_ce E h v1 42).bind fun _ => (f_J2_clear E v1 h).bind fun h2 =>
    f_X0_settled_11 E x0 x1 h2
set_option maxHeartbeats 4000000 in
theorem w_X0_settled_11 {l : Launch} {G : ax_G} {X : ax_X} {Q : State → Prop} {h0 h : ax_H} {ls : Array Slot} (hSF : ax_SF G) (B : ax_BL l G X cX0_settled 2 RX0 3 82) (Z : ax_Z X h0 ((some FieldType.int))) (hn : X.2.2.2.2.2.2.2.2.1.name = yX0_settled.name) (x0 : Option Nat) (x1 : Int) {w : Int × ax_H} (hl : ax_hl ls 2 [(0, .inr (.inr x0)), (1, .inl x1)]) (e : f_X0_settled_11 G.2.2 x0 x1 h = some w) (hp : (fun w : Int × ax_H => Q = ax_Q G X h0 w.2 (some (.int (Int32.ofInt w.1)))) w) : ax_W G X Q h 11 ls [] := by
  unfold f_X0_settled_11 at e
  refine ax_aload_n B dX0_settled_11 rfl hl 0 rfl ?_
  refine ax_iload_n B dX0_settled_12 rfl hl 1 rfl ?_
  refine ax_ivI (y := yX0_tell) (n := 1) (As := [.int (Int32.ofInt x1)]) B kd0 (lw_V q436 q438 qs1 q125 q439) (by decide +kernel) ⟨Nat.le_of_ble_eq_true rfl, Nat.le_of_ble_eq_true rfl⟩ (fun w1 e1 => mt_X0_tell l G hSF x0 x1 _ w1 e1) rfl hl.size (by decide) dX0_settled_13 e (fun q1 e => ?_)
  have e8 := e
  have hp : Q = _ := hp
  subst hp
  exact ax_ireturn B Z dX0_settled_16 e8
set_option maxHeartbeats 4000000 in
theorem we_X0_settled {l : Launch} {G : ax_G} {X : ax_X} {Q : State → Prop} {h0 h : ax_H} {ls : Array Slot} (hSF : ax_SF G) (B : ax_BL l G X cX0_settled 2 RX0 3 82) (Z : ax_Z X h0 ((some FieldType.int))) (hn : X.2.2.2.2.2.2.2.2.1.name = yX0_settled.name) (x0 : Option Nat) (x1 : Int) {w : Int × ax_H} (hl : ax_hl ls 2 [(0, .inr (.inr x0)), (1, .inl x1)]) (e : f_X0_settled G.2.2 x0 x1 h = some w) (hp : (fun w : Int × ax_H => Q = ax_Q G X h0 w.2 (some (.int (Int32.ofInt w.1)))) w) : ax_W G X Q h 0 ls [] := by
  unfold f_X0_settled at e
  refine ax_iload_n B dX0_settled_0 rfl hl 1 rfl ?_
  refine ax_if_lt (tgt := 11) B dX0_settled_1 (by decide) e (fun e => ?_) (fun e => ?_)
  · exact w_X0_settled_11 hSF B Z hn x0 x1 (hl.sub [0, 1] rfl) e hp
  · refine ax_aload_n B dX0_settled_4 rfl hl 0 rfl ?_
    refine ax_getR B ff_X0_31_0 (fun _ _ => rfl) dX0_settled_5 e (fun v1 e => ?_)
    refine ax_ivV (y := yJ2_clear) (n := 0) (As := []) B kd42 (lw_V q451 q452 q453 q129 q454) (by decide +kernel) ⟨Nat.le_of_ble_eq_true rfl, Nat.le_of_ble_eq_true rfl⟩ (fun w1 e1 => mt_J2_clear l G hSF v1 _ w1 e1) rfl hl.size (by decide) dX0_settled_8 e (fun h2 e => ?_)
    exact w_X0_settled_11 hSF B Z hn x0 x1 (hl.sub [0, 1] rfl) e hp
theorem mt_X0_settled (l : Launch) (G : ax_G) (hSF : ax_SF G) (x0 : Option Nat) (x1 : Int) (h : ax_H) (w : Int × ax_H) (e : f_X0_settled G.2.2 x0 x1 h = some w) : ax_Met l G yX0_settled cX0_settled 2 ((some FieldType.int)) 3 82 [va_rf x0, .int (Int32.ofInt x1)] h w.2 (some (.int (Int32.ofInt w.1))) :=
  ax_enter [.inr (.inr x0), .inl x1] (y := yX0_settled) hSF (plainFor_of_name (by decide +kernel)) (Nat.le_of_ble_eq_true rfl) (fun X ls B Z hn hl => we_X0_settled hSF B Z hn x0 x1 hl e rfl)
def dkwX0_person_4 : List UInt8 := [96, 181, 0, 101, 42, 21, 4, 182, 0, 139, 172]
abbrev dktX0_person_4 : List UInt8 := dkwX0_person_4 ++ []
def dkwX0_person_3 : List UInt8 := [21, 4, 28, 79, 42, 180, 0, 20, 180, 0, 136, 21, 4, 29, 79, 42, 180, 0, 20, 89, 180, 0, 101, 4]
abbrev dktX0_person_3 : List UInt8 := dkwX0_person_3 ++ dktX0_person_4
def dkwX0_person_2 : List UInt8 := [16, 251, 182, 0, 94, 172, 42, 182, 0, 104, 180, 0, 130, 21, 4, 27, 79, 42, 180, 0, 20, 180, 0, 133]
abbrev dktX0_person_2 : List UInt8 := dkwX0_person_2 ++ dktX0_person_3
def dkwX0_person_1 : List UInt8 := [42, 2, 182, 0, 94, 172, 42, 180, 0, 20, 180, 0, 101, 54, 4, 21, 4, 16, 7, 160, 0, 10, 42]
abbrev dktX0_person_1 : List UInt8 := dkwX0_person_1 ++ dktX0_person_2
def dkwX0_person_0 : List UInt8 := [3, 27, 184, 0, 126, 153, 0, 19, 4, 28, 184, 0, 126, 153, 0, 11, 5, 29, 184, 0, 126, 154, 0, 9]
abbrev dktX0_person_0 : List UInt8 := dkwX0_person_0 ++ dktX0_person_1
theorem dksX0_person_0 : cX0_person.data.toList.drop 0 = dktX0_person_0 := by decide +kernel
theorem dksX0_person_1 : cX0_person.data.toList.drop 24 = dktX0_person_1 := dk_seg dksX0_person_0 24 rfl rfl
theorem dksX0_person_2 : cX0_person.data.toList.drop 47 = dktX0_person_2 := dk_seg dksX0_person_1 23 rfl rfl
theorem dksX0_person_3 : cX0_person.data.toList.drop 71 = dktX0_person_3 := dk_seg dksX0_person_2 24 rfl rfl
theorem dksX0_person_4 : cX0_person.data.toList.drop 95 = dktX0_person_4 := dk_seg dksX0_person_3 24 rfl rfl
theorem dX0_person_0 : decode cX0_person 0 = .ok (.iconst 0, 1) := dk_3 (dk_at dksX0_person_0 0 rfl rfl)
theorem dX0_person_1 : decode cX0_person 1 = .ok (.iload_n 1, 1) := dk_27 (dk_at dksX0_person_0 1 rfl rfl)
theorem dX0_person_2 : decode cX0_person 2 = .ok (.invokestatic 126, 3) := dk_184 0 126 (dk_at dksX0_person_0 2 rfl rfl)
theorem dX0_person_5 : decode cX0_person 5 = .ok (.ifCond .eq 19, 3) := dk_153 0 19 (dk_at dksX0_person_0 5 rfl rfl)
theorem dX0_person_8 : decode cX0_person 8 = .ok (.iconst 1, 1) := dk_4 (dk_at dksX0_person_0 8 rfl rfl)
theorem dX0_person_9 : decode cX0_person 9 = .ok (.iload_n 2, 1) := dk_28 (dk_at dksX0_person_0 9 rfl rfl)
theorem dX0_person_10 : decode cX0_person 10 = .ok (.invokestatic 126, 3) := dk_184 0 126 (dk_at dksX0_person_0 10 rfl rfl)
theorem dX0_person_13 : decode cX0_person 13 = .ok (.ifCond .eq 11, 3) := dk_153 0 11 (dk_at dksX0_person_0 13 rfl rfl)
theorem dX0_person_16 : decode cX0_person 16 = .ok (.iconst 2, 1) := dk_5 (dk_at dksX0_person_0 16 rfl rfl)
theorem dX0_person_17 : decode cX0_person 17 = .ok (.iload_n 3, 1) := dk_29 (dk_at dksX0_person_0 17 rfl rfl)
theorem dX0_person_18 : decode cX0_person 18 = .ok (.invokestatic 126, 3) := dk_184 0 126 (dk_at dksX0_person_0 18 rfl rfl)
theorem dX0_person_21 : decode cX0_person 21 = .ok (.ifCond .ne 9, 3) := dk_154 0 9 (dk_at dksX0_person_0 21 rfl rfl)
theorem dX0_person_24 : decode cX0_person 24 = .ok (.aload_n 0, 1) := dk_42 (dk_at dksX0_person_1 0 rfl rfl)
theorem dX0_person_25 : decode cX0_person 25 = .ok (.iconst (-1), 1) := dk_2 (dk_at dksX0_person_1 1 rfl rfl)
theorem dX0_person_26 : decode cX0_person 26 = .ok (.invokevirtual 94, 3) := dk_182 0 94 (dk_at dksX0_person_1 2 rfl rfl)
theorem dX0_person_29 : decode cX0_person 29 = .ok (.ireturn, 1) := dk_172 (dk_at dksX0_person_1 5 rfl rfl)
theorem dX0_person_30 : decode cX0_person 30 = .ok (.aload_n 0, 1) := dk_42 (dk_at dksX0_person_1 6 rfl rfl)
theorem dX0_person_31 : decode cX0_person 31 = .ok (.getfield 20, 3) := dk_180 0 20 (dk_at dksX0_person_1 7 rfl rfl)
theorem dX0_person_34 : decode cX0_person 34 = .ok (.getfield 101, 3) := dk_180 0 101 (dk_at dksX0_person_1 10 rfl rfl)
theorem dX0_person_37 : decode cX0_person 37 = .ok (.istore 4, 2) := dk_54 4 (dk_at dksX0_person_1 13 rfl rfl)
theorem dX0_person_39 : decode cX0_person 39 = .ok (.iload 4, 2) := dk_21 4 (dk_at dksX0_person_1 15 rfl rfl)
theorem dX0_person_41 : decode cX0_person 41 = .ok (.bipush 7, 2) := dk_16 7 (dk_at dksX0_person_1 17 rfl rfl)
theorem dX0_person_43 : decode cX0_person 43 = .ok (.if_icmp .ne 10, 3) := dk_160 0 10 (dk_at dksX0_person_1 19 rfl rfl)
theorem dX0_person_46 : decode cX0_person 46 = .ok (.aload_n 0, 1) := dk_42 (dk_at dksX0_person_1 22 rfl rfl)
theorem dX0_person_47 : decode cX0_person 47 = .ok (.bipush (-5), 2) := dk_16 251 (dk_at dksX0_person_2 0 rfl rfl)
theorem dX0_person_49 : decode cX0_person 49 = .ok (.invokevirtual 94, 3) := dk_182 0 94 (dk_at dksX0_person_2 2 rfl rfl)
theorem dX0_person_52 : decode cX0_person 52 = .ok (.ireturn, 1) := dk_172 (dk_at dksX0_person_2 5 rfl rfl)
theorem dX0_person_53 : decode cX0_person 53 = .ok (.aload_n 0, 1) := dk_42 (dk_at dksX0_person_2 6 rfl rfl)
theorem dX0_person_54 : decode cX0_person 54 = .ok (.invokevirtual 104, 3) := dk_182 0 104 (dk_at dksX0_person_2 7 rfl rfl)
theorem dX0_person_57 : decode cX0_person 57 = .ok (.getfield 130, 3) := dk_180 0 130 (dk_at dksX0_person_2 10 rfl rfl)
theorem dX0_person_60 : decode cX0_person 60 = .ok (.iload 4, 2) := dk_21 4 (dk_at dksX0_person_2 13 rfl rfl)
theorem dX0_person_62 : decode cX0_person 62 = .ok (.iload_n 1, 1) := dk_27 (dk_at dksX0_person_2 15 rfl rfl)
theorem dX0_person_63 : decode cX0_person 63 = .ok (.iastore, 1) := dk_79 (dk_at dksX0_person_2 16 rfl rfl)
theorem dX0_person_64 : decode cX0_person 64 = .ok (.aload_n 0, 1) := dk_42 (dk_at dksX0_person_2 17 rfl rfl)
theorem dX0_person_65 : decode cX0_person 65 = .ok (.getfield 20, 3) := dk_180 0 20 (dk_at dksX0_person_2 18 rfl rfl)
theorem dX0_person_68 : decode cX0_person 68 = .ok (.getfield 133, 3) := dk_180 0 133 (dk_at dksX0_person_2 21 rfl rfl)
theorem dX0_person_71 : decode cX0_person 71 = .ok (.iload 4, 2) := dk_21 4 (dk_at dksX0_person_3 0 rfl rfl)
theorem dX0_person_73 : decode cX0_person 73 = .ok (.iload_n 2, 1) := dk_28 (dk_at dksX0_person_3 2 rfl rfl)
theorem dX0_person_74 : decode cX0_person 74 = .ok (.iastore, 1) := dk_79 (dk_at dksX0_person_3 3 rfl rfl)
theorem dX0_person_75 : decode cX0_person 75 = .ok (.aload_n 0, 1) := dk_42 (dk_at dksX0_person_3 4 rfl rfl)
theorem dX0_person_76 : decode cX0_person 76 = .ok (.getfield 20, 3) := dk_180 0 20 (dk_at dksX0_person_3 5 rfl rfl)
theorem dX0_person_79 : decode cX0_person 79 = .ok (.getfield 136, 3) := dk_180 0 136 (dk_at dksX0_person_3 8 rfl rfl)
theorem dX0_person_82 : decode cX0_person 82 = .ok (.iload 4, 2) := dk_21 4 (dk_at dksX0_person_3 11 rfl rfl)
theorem dX0_person_84 : decode cX0_person 84 = .ok (.iload_n 3, 1) := dk_29 (dk_at dksX0_person_3 13 rfl rfl)
theorem dX0_person_85 : decode cX0_person 85 = .ok (.iastore, 1) := dk_79 (dk_at dksX0_person_3 14 rfl rfl)
theorem dX0_person_86 : decode cX0_person 86 = .ok (.aload_n 0, 1) := dk_42 (dk_at dksX0_person_3 15 rfl rfl)
theorem dX0_person_87 : decode cX0_person 87 = .ok (.getfield 20, 3) := dk_180 0 20 (dk_at dksX0_person_3 16 rfl rfl)
theorem dX0_person_90 : decode cX0_person 90 = .ok (.dup, 1) := dk_89 (dk_at dksX0_person_3 19 rfl rfl)
theorem dX0_person_91 : decode cX0_person 91 = .ok (.getfield 101, 3) := dk_180 0 101 (dk_at dksX0_person_3 20 rfl rfl)
theorem dX0_person_94 : decode cX0_person 94 = .ok (.iconst 1, 1) := dk_4 (dk_at dksX0_person_3 23 rfl rfl)
theorem dX0_person_95 : decode cX0_person 95 = .ok (.iadd, 1) := dk_96 (dk_at dksX0_person_4 0 rfl rfl)
theorem dX0_person_96 : decode cX0_person 96 = .ok (.putfield 101, 3) := dk_181 0 101 (dk_at dksX0_person_4 1 rfl rfl)
theorem dX0_person_99 : decode cX0_person 99 = .ok (.aload_n 0, 1) := dk_42 (dk_at dksX0_person_4 4 rfl rfl)
theorem dX0_person_100 : decode cX0_person 100 = .ok (.iload 4, 2) := dk_21 4 (dk_at dksX0_person_4 5 rfl rfl)
theorem dX0_person_102 : decode cX0_person 102 = .ok (.invokevirtual 139, 3) := dk_182 0 139 (dk_at dksX0_person_4 7 rfl rfl)
theorem dX0_person_105 : decode cX0_person 105 = .ok (.ireturn, 1) := dk_172 (dk_at dksX0_person_4 10 rfl rfl)
noncomputable def f_X0_person_24 (E : ax_E) (x0 : Option Nat) (h : ax_H) : Option (Int × ax_H) :=
  (ax_ce E h x0 0).bind fun _ => (f_X0_tell E x0 (-1) h).bind fun q1 =>
  some (q1.1, q1.2)
noncomputable def f_X0_person (E : ax_E) (x0 : Option Nat) (x1 : Int) (x2 : Int) (x3 : Int) (h : ax_H) : Option (Int × ax_H) :=
  (f_X0_canBe E 0 x1 h).bind fun q1 =>
  if i2 q1.1 = 0 then
    f_X0_person_24 E x0 q1.2
  else
    (f_X0_canBe E 1 x2 q1.2).bind fun q2 =>
    if i2 q2.1 = 0 then
      f_X0_person_24 E x0 q2.2
    else
      (f_X0_canBe E 2 x3 q2.2).bind fun q3 =>
      if i2 q3.1 = 0 then
        f_X0_person_24 E x0 q3.2
      else
        (ax_gR E q3.2 x0 0 0).bind fun v4 =>
        (ax_gI E q3.2 v4 1 6).bind fun v5 =>
        if i2 v5 = i2 7 then
          (ax_ce E q3.2 x0 0).bind fun _ => (f_X0_tell E x0 (-5) q3.2).bind fun q6 =>
          some (q6.1, q6.2)
        else
          (ax_ce E q3.2 x0 0).bind fun _ => (f_X0_books E x0 q3.2).bind fun q7 =>
          (ax_gR E q7.2 q7.1 2 0).bind fun v8 =>
          (ax_sto q7.2 v8 100 v5 x1).bind fun h9 =>
          (ax_gR E h9 x0 0 0).bind fun v10 =>
          (ax_gR E h9 v10 1 4).bind fun v11 =>
          (ax_sto h9 v11 100 v5 x2).bind fun h12 =>
          (ax_gR E h12 x0 0 0).bind fun v13 =>
          (ax_gR E h12 v13 1 5).bind fun v14 =>
          (ax_sto h12 v14 100 v5 x3).bind fun h15 =>
          (ax_gR E h15 x0 0 0).bind fun v16 =>
          (ax_gI E h15 v16 1 6).bind fun v17 =>
          (ax_pI h15 v16 1 6 (v17 + 1)).bind fun h18 =>
          (ax_ce E h18 x0 0).bind fun _ => (f_X0_settled E x0 v5 h18).bind fun q19 =>
          some (q19.1, q19.2)
set_option maxHeartbeats 4000000 in
theorem w_X0_person_24 {l : Launch} {G : ax_G} {X : ax_X} {Q : State → Prop} {h0 h : ax_H} {ls : Array Slot} (hSF : ax_SF G) (B : ax_BL l G X cX0_person 5 RX0 4 106) (Z : ax_Z X h0 ((some FieldType.int))) (hn : X.2.2.2.2.2.2.2.2.1.name = yX0_person.name) (x0 : Option Nat) {w : Int × ax_H} (hl : ax_hl ls 5 [(0, .inr (.inr x0))]) (e : f_X0_person_24 G.2.2 x0 h = some w) (hp : (fun w : Int × ax_H => Q = ax_Q G X h0 w.2 (some (.int (Int32.ofInt w.1)))) w) : ax_W G X Q h 24 ls [] := by
  unfold f_X0_person_24 at e
  refine ax_aload_n B dX0_person_24 rfl hl 0 rfl ?_
  refine ax_iconst B dX0_person_25 ?_
  refine ax_ivI (y := yX0_tell) (n := 1) (As := [.int (Int32.ofInt (-1))]) B kd0 (lw_V q436 q438 qs1 q125 q439) (by decide +kernel) ⟨Nat.le_of_ble_eq_true rfl, Nat.le_of_ble_eq_true rfl⟩ (fun w1 e1 => mt_X0_tell l G hSF x0 (-1) _ w1 e1) rfl hl.size (by decide) dX0_person_26 e (fun q1 e => ?_)
  have e8 := e
  have hp : Q = _ := hp
  subst hp
  exact ax_ireturn B Z dX0_person_29 e8
set_option maxHeartbeats 4000000 in
theorem we_X0_person {l : Launch} {G : ax_G} {X : ax_X} {Q : State → Prop} {h0 h : ax_H} {ls : Array Slot} (hSF : ax_SF G) (B : ax_BL l G X cX0_person 5 RX0 4 106) (Z : ax_Z X h0 ((some FieldType.int))) (hn : X.2.2.2.2.2.2.2.2.1.name = yX0_person.name) (x0 : Option Nat) (x1 : Int) (x2 : Int) (x3 : Int) {w : Int × ax_H} (hl : ax_hl ls 5 [(0, .inr (.inr x0)), (1, .inl x1), (2, .inl x2), (3, .inl x3)]) (e : f_X0_person G.2.2 x0 x1 x2 x3 h = some w) (hp : (fun w : Int × ax_H => Q = ax_Q G X h0 w.2 (some (.int (Int32.ofInt w.1)))) w) : ax_W G X Q h 0 ls [] := by
  unfold f_X0_person at e
  refine ax_iconst B dX0_person_0 ?_
  refine ax_iload_n B dX0_person_1 rfl hl 1 rfl ?_
  refine ax_isI (y := yX0_canBe) (n := 2) (As := [.int (Int32.ofInt 0), .int (Int32.ofInt x1)]) B (lw_S q427 q428 q125 q429) (by decide +kernel) ⟨Nat.le_of_ble_eq_true rfl, Nat.le_of_ble_eq_true rfl⟩ (fun w1 e1 => mt_X0_canBe l G hSF 0 x1 _ w1 e1) rfl hl.size (by decide) dX0_person_2 e (fun q1 e => ?_)
  refine ax_if_eq (tgt := 24) B dX0_person_5 (by decide) e (fun e => ?_) (fun e => ?_)
  · exact w_X0_person_24 hSF B Z hn x0 (hl.sub [0] rfl) e hp
  · refine ax_iconst B dX0_person_8 ?_
    refine ax_iload_n B dX0_person_9 rfl hl 2 rfl ?_
    refine ax_isI (y := yX0_canBe) (n := 2) (As := [.int (Int32.ofInt 1), .int (Int32.ofInt x2)]) B (lw_S q427 q428 q125 q429) (by decide +kernel) ⟨Nat.le_of_ble_eq_true rfl, Nat.le_of_ble_eq_true rfl⟩ (fun w1 e1 => mt_X0_canBe l G hSF 1 x2 _ w1 e1) rfl hl.size (by decide) dX0_person_10 e (fun q2 e => ?_)
    refine ax_if_eq (tgt := 24) B dX0_person_13 (by decide) e (fun e => ?_) (fun e => ?_)
    · exact w_X0_person_24 hSF B Z hn x0 (hl.sub [0] rfl) e hp
    · refine ax_iconst B dX0_person_16 ?_
      refine ax_iload_n B dX0_person_17 rfl hl 3 rfl ?_
      refine ax_isI (y := yX0_canBe) (n := 2) (As := [.int (Int32.ofInt 2), .int (Int32.ofInt x3)]) B (lw_S q427 q428 q125 q429) (by decide +kernel) ⟨Nat.le_of_ble_eq_true rfl, Nat.le_of_ble_eq_true rfl⟩ (fun w1 e1 => mt_X0_canBe l G hSF 2 x3 _ w1 e1) rfl hl.size (by decide) dX0_person_18 e (fun q3 e => ?_)
      refine ax_if_ne (tgt := 30) B dX0_person_21 (by decide) e (fun e => ?_) (fun e => ?_)
      · exact w_X0_person_24 hSF B Z hn x0 (hl.sub [0] rfl) e hp
      · refine ax_aload_n B dX0_person_30 rfl hl 0 rfl ?_
        refine ax_getR B ff_X0_20_0 (fun _ _ => rfl) dX0_person_31 e (fun v4 e => ?_)
        refine ax_getI B ff_X0_101_1 (fun _ _ => rfl) dX0_person_34 e (fun v5 e => ?_)
        refine ax_istore (L' := [(4, .inl v5), (0, .inr (.inr x0)), (1, .inl x1), (2, .inl x2), (3, .inl x3)]) B dX0_person_37 hl (by decide) rfl (fun ls hl => ?_)
        refine ax_iload B dX0_person_39 hl 0 rfl ?_
        refine ax_bipush B dX0_person_41 (by decide) ?_
        refine ax_icmp_ne (tgt := 53) B dX0_person_43 (by decide) e (fun e => ?_) (fun e => ?_)
        · refine ax_aload_n B dX0_person_46 rfl hl 1 rfl ?_
          refine ax_bipush B dX0_person_47 (by decide) ?_
          refine ax_ivI (y := yX0_tell) (n := 1) (As := [.int (Int32.ofInt (-5))]) B kd0 (lw_V q436 q438 qs1 q125 q439) (by decide +kernel) ⟨Nat.le_of_ble_eq_true rfl, Nat.le_of_ble_eq_true rfl⟩ (fun w1 e1 => mt_X0_tell l G hSF x0 (-5) _ w1 e1) rfl hl.size (by decide) dX0_person_49 e (fun q6 e => ?_)
          have e8 := e
          have hp : Q = _ := hp
          subst hp
          exact ax_ireturn B Z dX0_person_52 e8
        · refine ax_aload_n B dX0_person_53 rfl hl 1 rfl ?_
          refine ax_ivR (y := yX0_books) (n := 0) (As := []) B kd0 (lw_V q443 q445 qs2 q125 q446) (by decide +kernel) ⟨Nat.le_of_ble_eq_true rfl, Nat.le_of_ble_eq_true rfl⟩ (fun w1 e1 => mt_X0_books l G hSF x0 _ w1 e1) rfl hl.size (by decide) dX0_person_54 e (fun q7 e => ?_)
          refine ax_getR B ff_X0_130_2 (fun _ _ => rfl) dX0_person_57 e (fun v8 e => ?_)
          refine ax_iload B dX0_person_60 hl 0 rfl ?_
          refine ax_iload_n B dX0_person_62 rfl hl 2 rfl ?_
          refine ax_iast B kd100 dX0_person_63 e (fun h9 e => ?_)
          refine ax_aload_n B dX0_person_64 rfl hl 1 rfl ?_
          refine ax_getR B ff_X0_20_0 (fun _ _ => rfl) dX0_person_65 e (fun v10 e => ?_)
          refine ax_getR B ff_X0_133_1 (fun _ _ => rfl) dX0_person_68 e (fun v11 e => ?_)
          refine ax_iload B dX0_person_71 hl 0 rfl ?_
          refine ax_iload_n B dX0_person_73 rfl hl 3 rfl ?_
          refine ax_iast B kd100 dX0_person_74 e (fun h12 e => ?_)
          refine ax_aload_n B dX0_person_75 rfl hl 1 rfl ?_
          refine ax_getR B ff_X0_20_0 (fun _ _ => rfl) dX0_person_76 e (fun v13 e => ?_)
          refine ax_getR B ff_X0_136_1 (fun _ _ => rfl) dX0_person_79 e (fun v14 e => ?_)
          refine ax_iload B dX0_person_82 hl 0 rfl ?_
          refine ax_iload_n B dX0_person_84 rfl hl 4 rfl ?_
          refine ax_iast B kd100 dX0_person_85 e (fun h15 e => ?_)
          refine ax_aload_n B dX0_person_86 rfl hl 1 rfl ?_
          refine ax_getR B ff_X0_20_0 (fun _ _ => rfl) dX0_person_87 e (fun v16 e => ?_)
          refine ax_dup B dX0_person_90 (va_rf_cat _) ?_
          refine ax_getI B ff_X0_101_1 (fun _ _ => rfl) dX0_person_91 e (fun v17 e => ?_)
          refine ax_iconst B dX0_person_94 ?_
          refine ax_iadd' B dX0_person_95 ?_
          refine ax_putI B ff_X0_101_1 (Or.inl rfl) rfl dX0_person_96 e (fun h18 e => ?_)
          refine ax_aload_n B dX0_person_99 rfl hl 1 rfl ?_
          refine ax_iload B dX0_person_100 hl 0 rfl ?_
          refine ax_ivI (y := yX0_settled) (n := 1) (As := [.int (Int32.ofInt v5)]) B kd0 (lw_V q447 q449 qs3 q125 q450) (by decide +kernel) ⟨Nat.le_of_ble_eq_true rfl, Nat.le_of_ble_eq_true rfl⟩ (fun w1 e1 => mt_X0_settled l G hSF x0 v5 _ w1 e1) rfl hl.size (by decide) dX0_person_102 e (fun q19 e => ?_)
          have e8 := e
          have hp : Q = _ := hp
          subst hp
          exact ax_ireturn B Z dX0_person_105 e8
theorem mt_X0_person (l : Launch) (G : ax_G) (hSF : ax_SF G) (x0 : Option Nat) (x1 : Int) (x2 : Int) (x3 : Int) (h : ax_H) (w : Int × ax_H) (e : f_X0_person G.2.2 x0 x1 x2 x3 h = some w) : ax_Met l G yX0_person cX0_person 5 ((some FieldType.int)) 4 106 [va_rf x0, .int (Int32.ofInt x1), .int (Int32.ofInt x2), .int (Int32.ofInt x3)] h w.2 (some (.int (Int32.ofInt w.1))) :=
  ax_enter [.inr (.inr x0), .inl x1, .inl x2, .inl x3] (y := yX0_person) hSF (plainFor_of_name (by decide +kernel)) (Nat.le_of_ble_eq_true rfl) (fun X ls B Z hn hl => we_X0_person hSF B Z hn x0 x1 x2 x3 hl e rfl)
def dkwX0_isPerson_0 : List UInt8 := [27, 133, 9, 42, 180, 0, 20, 180, 0, 101, 4, 100, 133, 184, 0, 5, 172]
abbrev dktX0_isPerson_0 : List UInt8 := dkwX0_isPerson_0 ++ []
theorem dksX0_isPerson_0 : cX0_isPerson.data.toList.drop 0 = dktX0_isPerson_0 := by decide +kernel
theorem dX0_isPerson_0 : decode cX0_isPerson 0 = .ok (.iload_n 1, 1) := dk_27 (dk_at dksX0_isPerson_0 0 rfl rfl)
theorem dX0_isPerson_1 : decode cX0_isPerson 1 = .ok (.i2l, 1) := dk_133 (dk_at dksX0_isPerson_0 1 rfl rfl)
theorem dX0_isPerson_2 : decode cX0_isPerson 2 = .ok (.lconst 0, 1) := dk_9 (dk_at dksX0_isPerson_0 2 rfl rfl)
theorem dX0_isPerson_3 : decode cX0_isPerson 3 = .ok (.aload_n 0, 1) := dk_42 (dk_at dksX0_isPerson_0 3 rfl rfl)
theorem dX0_isPerson_4 : decode cX0_isPerson 4 = .ok (.getfield 20, 3) := dk_180 0 20 (dk_at dksX0_isPerson_0 4 rfl rfl)
theorem dX0_isPerson_7 : decode cX0_isPerson 7 = .ok (.getfield 101, 3) := dk_180 0 101 (dk_at dksX0_isPerson_0 7 rfl rfl)
theorem dX0_isPerson_10 : decode cX0_isPerson 10 = .ok (.iconst 1, 1) := dk_4 (dk_at dksX0_isPerson_0 10 rfl rfl)
theorem dX0_isPerson_11 : decode cX0_isPerson 11 = .ok (.isub, 1) := dk_100 (dk_at dksX0_isPerson_0 11 rfl rfl)
theorem dX0_isPerson_12 : decode cX0_isPerson 12 = .ok (.i2l, 1) := dk_133 (dk_at dksX0_isPerson_0 12 rfl rfl)
theorem dX0_isPerson_13 : decode cX0_isPerson 13 = .ok (.invokestatic 5, 3) := dk_184 0 5 (dk_at dksX0_isPerson_0 13 rfl rfl)
theorem dX0_isPerson_16 : decode cX0_isPerson 16 = .ok (.ireturn, 1) := dk_172 (dk_at dksX0_isPerson_0 16 rfl rfl)
noncomputable def f_X0_isPerson (E : ax_E) (x0 : Option Nat) (x1 : Int) (h : ax_H) : Option (Int × ax_H) :=
  (ax_gR E h x0 0 0).bind fun v1 =>
  (ax_gI E h v1 1 6).bind fun v2 =>
  (f_X0_in E (i2 x1) 0 (i2 (v2 - 1)) h).bind fun q3 =>
  if q3.1 = 0 ∨ q3.1 = 1 then some (q3.1, q3.2) else none
set_option maxHeartbeats 4000000 in
theorem we_X0_isPerson {l : Launch} {G : ax_G} {X : ax_X} {Q : State → Prop} {h0 h : ax_H} {ls : Array Slot} (hSF : ax_SF G) (B : ax_BL l G X cX0_isPerson 2 RX0 2 65) (Z : ax_Z X h0 ((some FieldType.boolean))) (hn : X.2.2.2.2.2.2.2.2.1.name = yX0_isPerson.name) (x0 : Option Nat) (x1 : Int) {w : Int × ax_H} (hl : ax_hl ls 2 [(0, .inr (.inr x0)), (1, .inl x1)]) (e : f_X0_isPerson G.2.2 x0 x1 h = some w) (hp : (fun w : Int × ax_H => Q = ax_Q G X h0 w.2 (some (.int (Int32.ofInt w.1)))) w) : ax_W G X Q h 0 ls [] := by
  unfold f_X0_isPerson at e
  refine ax_iload_n B dX0_isPerson_0 rfl hl 1 rfl ?_
  refine ax_i2l' B dX0_isPerson_1 ?_
  refine ax_lconst (v := 0) B dX0_isPerson_2 rfl ?_
  refine ax_aload_n B dX0_isPerson_3 rfl hl 0 rfl ?_
  refine ax_getR B ff_X0_20_0 (fun _ _ => rfl) dX0_isPerson_4 e (fun v1 e => ?_)
  refine ax_getI B ff_X0_101_1 (fun _ _ => rfl) dX0_isPerson_7 e (fun v2 e => ?_)
  refine ax_iconst B dX0_isPerson_10 ?_
  refine ax_isub' B dX0_isPerson_11 ?_
  refine ax_i2l' B dX0_isPerson_12 ?_
  refine ax_isI (y := yX0_in) (n := 3) (As := [.long (Int64.ofInt (i2 x1)), .long (Int64.ofInt 0), .long (Int64.ofInt (i2 (v2 - 1)))]) B (lw_S q420 q421 q125 q422) (by decide +kernel) ⟨Nat.le_of_ble_eq_true rfl, Nat.le_of_ble_eq_true rfl⟩ (fun w1 e1 => mt_X0_in l G hSF (i2 x1) 0 (i2 (v2 - 1)) _ w1 e1) rfl hl.size (by decide) dX0_isPerson_13 e (fun q3 e => ?_)
  have e8 := e
  have hp : Q = _ := hp
  subst hp
  exact ax_zreturn B Z dX0_isPerson_16 e8
theorem mt_X0_isPerson (l : Launch) (G : ax_G) (hSF : ax_SF G) (x0 : Option Nat) (x1 : Int) (h : ax_H) (w : Int × ax_H) (e : f_X0_isPerson G.2.2 x0 x1 h = some w) : ax_Met l G yX0_isPerson cX0_isPerson 2 ((some FieldType.boolean)) 2 65 [va_rf x0, .int (Int32.ofInt x1)] h w.2 (some (.int (Int32.ofInt w.1))) :=
  ax_enter [.inr (.inr x0), .inl x1] (y := yX0_isPerson) hSF (plainFor_of_name (by decide +kernel)) (Nat.le_of_ble_eq_true rfl) (fun X ls B Z hn hl => we_X0_isPerson hSF B Z hn x0 x1 hl e rfl)
def dkwX0_factsOf_1 : List UInt8 := [180, 0, 133, 167, 0, 10, 42, 180, 0, 20, 180, 0, 136, 176]
abbrev dktX0_factsOf_1 : List UInt8 := dkwX0_factsOf_1 ++ []
def dkwX0_factsOf_0 : List UInt8 := [27, 154, 0, 13, 42, 182, 0, 104, 180, 0, 130, 167, 0, 25, 27, 4, 160, 0, 13, 42, 180, 0, 20]
abbrev dktX0_factsOf_0 : List UInt8 := dkwX0_factsOf_0 ++ dktX0_factsOf_1
theorem dksX0_factsOf_0 : cX0_factsOf.data.toList.drop 0 = dktX0_factsOf_0 := by decide +kernel
theorem dksX0_factsOf_1 : cX0_factsOf.data.toList.drop 23 = dktX0_factsOf_1 := dk_seg dksX0_factsOf_0 23 rfl rfl
theorem dX0_factsOf_0 : decode cX0_factsOf 0 = .ok (.iload_n 1, 1) := dk_27 (dk_at dksX0_factsOf_0 0 rfl rfl)
theorem dX0_factsOf_1 : decode cX0_factsOf 1 = .ok (.ifCond .ne 13, 3) := dk_154 0 13 (dk_at dksX0_factsOf_0 1 rfl rfl)
theorem dX0_factsOf_4 : decode cX0_factsOf 4 = .ok (.aload_n 0, 1) := dk_42 (dk_at dksX0_factsOf_0 4 rfl rfl)
theorem dX0_factsOf_5 : decode cX0_factsOf 5 = .ok (.invokevirtual 104, 3) := dk_182 0 104 (dk_at dksX0_factsOf_0 5 rfl rfl)
theorem dX0_factsOf_8 : decode cX0_factsOf 8 = .ok (.getfield 130, 3) := dk_180 0 130 (dk_at dksX0_factsOf_0 8 rfl rfl)
theorem dX0_factsOf_11 : decode cX0_factsOf 11 = .ok (.goto 25, 3) := dk_167 0 25 (dk_at dksX0_factsOf_0 11 rfl rfl)
theorem dX0_factsOf_14 : decode cX0_factsOf 14 = .ok (.iload_n 1, 1) := dk_27 (dk_at dksX0_factsOf_0 14 rfl rfl)
theorem dX0_factsOf_15 : decode cX0_factsOf 15 = .ok (.iconst 1, 1) := dk_4 (dk_at dksX0_factsOf_0 15 rfl rfl)
theorem dX0_factsOf_16 : decode cX0_factsOf 16 = .ok (.if_icmp .ne 13, 3) := dk_160 0 13 (dk_at dksX0_factsOf_0 16 rfl rfl)
theorem dX0_factsOf_19 : decode cX0_factsOf 19 = .ok (.aload_n 0, 1) := dk_42 (dk_at dksX0_factsOf_0 19 rfl rfl)
theorem dX0_factsOf_20 : decode cX0_factsOf 20 = .ok (.getfield 20, 3) := dk_180 0 20 (dk_at dksX0_factsOf_0 20 rfl rfl)
theorem dX0_factsOf_23 : decode cX0_factsOf 23 = .ok (.getfield 133, 3) := dk_180 0 133 (dk_at dksX0_factsOf_1 0 rfl rfl)
theorem dX0_factsOf_26 : decode cX0_factsOf 26 = .ok (.goto 10, 3) := dk_167 0 10 (dk_at dksX0_factsOf_1 3 rfl rfl)
theorem dX0_factsOf_29 : decode cX0_factsOf 29 = .ok (.aload_n 0, 1) := dk_42 (dk_at dksX0_factsOf_1 6 rfl rfl)
theorem dX0_factsOf_30 : decode cX0_factsOf 30 = .ok (.getfield 20, 3) := dk_180 0 20 (dk_at dksX0_factsOf_1 7 rfl rfl)
theorem dX0_factsOf_33 : decode cX0_factsOf 33 = .ok (.getfield 136, 3) := dk_180 0 136 (dk_at dksX0_factsOf_1 10 rfl rfl)
theorem dX0_factsOf_36 : decode cX0_factsOf 36 = .ok (.areturn, 1) := dk_176 (dk_at dksX0_factsOf_1 13 rfl rfl)
noncomputable def f_X0_factsOf (E : ax_E) (x0 : Option Nat) (x1 : Int) (h : ax_H) : Option (Option Nat × ax_H) :=
  if i2 x1 = 0 then
    (ax_ce E h x0 0).bind fun _ => (f_X0_books E x0 h).bind fun q1 =>
    (ax_gR E q1.2 q1.1 2 0).bind fun v2 =>
    some (v2, q1.2)
  else
    if i2 x1 = i2 1 then
      (ax_gR E h x0 0 0).bind fun v3 =>
      (ax_gR E h v3 1 4).bind fun v4 =>
      some (v4, h)
    else
      (ax_gR E h x0 0 0).bind fun v5 =>
      (ax_gR E h v5 1 5).bind fun v6 =>
      some (v6, h)
set_option maxHeartbeats 4000000 in
theorem we_X0_factsOf {l : Launch} {G : ax_G} {X : ax_X} {Q : State → Prop} {h0 h : ax_H} {ls : Array Slot} (hSF : ax_SF G) (B : ax_BL l G X cX0_factsOf 2 RX0 2 60) (Z : ax_Z X h0 ((some (FieldType.array FieldType.int)))) (hn : X.2.2.2.2.2.2.2.2.1.name = yX0_factsOf.name) (x0 : Option Nat) (x1 : Int) {w : Option Nat × ax_H} (hl : ax_hl ls 2 [(0, .inr (.inr x0)), (1, .inl x1)]) (e : f_X0_factsOf G.2.2 x0 x1 h = some w) (hp : (fun w : Option Nat × ax_H => Q = ax_Q G X h0 w.2 (some (va_rf w.1))) w) : ax_W G X Q h 0 ls [] := by
  unfold f_X0_factsOf at e
  refine ax_iload_n B dX0_factsOf_0 rfl hl 1 rfl ?_
  refine ax_if_ne (tgt := 14) B dX0_factsOf_1 (by decide) e (fun e => ?_) (fun e => ?_)
  · refine ax_aload_n B dX0_factsOf_4 rfl hl 0 rfl ?_
    refine ax_ivR (y := yX0_books) (n := 0) (As := []) B kd0 (lw_V q443 q445 qs2 q125 q446) (by decide +kernel) ⟨Nat.le_of_ble_eq_true rfl, Nat.le_of_ble_eq_true rfl⟩ (fun w1 e1 => mt_X0_books l G hSF x0 _ w1 e1) rfl hl.size (by decide) dX0_factsOf_5 e (fun q1 e => ?_)
    refine ax_getR B ff_X0_130_2 (fun _ _ => rfl) dX0_factsOf_8 e (fun v2 e => ?_)
    refine ax_goto (tgt := 36) B dX0_factsOf_11 (by decide) ?_
    have e8 := e
    have hp : Q = _ := hp
    subst hp
    exact ax_areturn B Z (Or.inr ⟨_, rfl⟩) dX0_factsOf_36 e8
  · refine ax_iload_n B dX0_factsOf_14 rfl hl 1 rfl ?_
    refine ax_iconst B dX0_factsOf_15 ?_
    refine ax_icmp_ne (tgt := 29) B dX0_factsOf_16 (by decide) e (fun e => ?_) (fun e => ?_)
    · refine ax_aload_n B dX0_factsOf_19 rfl hl 0 rfl ?_
      refine ax_getR B ff_X0_20_0 (fun _ _ => rfl) dX0_factsOf_20 e (fun v3 e => ?_)
      refine ax_getR B ff_X0_133_1 (fun _ _ => rfl) dX0_factsOf_23 e (fun v4 e => ?_)
      refine ax_goto (tgt := 36) B dX0_factsOf_26 (by decide) ?_
      have e8 := e
      have hp : Q = _ := hp
      subst hp
      exact ax_areturn B Z (Or.inr ⟨_, rfl⟩) dX0_factsOf_36 e8
    · refine ax_aload_n B dX0_factsOf_29 rfl hl 0 rfl ?_
      refine ax_getR B ff_X0_20_0 (fun _ _ => rfl) dX0_factsOf_30 e (fun v5 e => ?_)
      refine ax_getR B ff_X0_136_1 (fun _ _ => rfl) dX0_factsOf_33 e (fun v6 e => ?_)
      have e8 := e
      have hp : Q = _ := hp
      subst hp
      exact ax_areturn B Z (Or.inr ⟨_, rfl⟩) dX0_factsOf_36 e8
theorem mt_X0_factsOf (l : Launch) (G : ax_G) (hSF : ax_SF G) (x0 : Option Nat) (x1 : Int) (h : ax_H) (w : Option Nat × ax_H) (e : f_X0_factsOf G.2.2 x0 x1 h = some w) : ax_Met l G yX0_factsOf cX0_factsOf 2 ((some (FieldType.array FieldType.int))) 2 60 [va_rf x0, .int (Int32.ofInt x1)] h w.2 (some (va_rf w.1)) :=
  ax_enter [.inr (.inr x0), .inl x1] (y := yX0_factsOf) hSF (plainFor_of_name (by decide +kernel)) (Nat.le_of_ble_eq_true rfl) (fun X ls B Z hn hl => we_X0_factsOf hSF B Z hn x0 x1 hl e rfl)
def dkwX0_was_0 : List UInt8 := [42, 180, 0, 31, 182, 0, 91, 42, 3, 181, 0, 88, 27, 172]
abbrev dktX0_was_0 : List UInt8 := dkwX0_was_0 ++ []
theorem dksX0_was_0 : cX0_was.data.toList.drop 0 = dktX0_was_0 := by decide +kernel
theorem dX0_was_0 : decode cX0_was 0 = .ok (.aload_n 0, 1) := dk_42 (dk_at dksX0_was_0 0 rfl rfl)
theorem dX0_was_1 : decode cX0_was 1 = .ok (.getfield 31, 3) := dk_180 0 31 (dk_at dksX0_was_0 1 rfl rfl)
theorem dX0_was_4 : decode cX0_was 4 = .ok (.invokevirtual 91, 3) := dk_182 0 91 (dk_at dksX0_was_0 4 rfl rfl)
theorem dX0_was_7 : decode cX0_was 7 = .ok (.aload_n 0, 1) := dk_42 (dk_at dksX0_was_0 7 rfl rfl)
theorem dX0_was_8 : decode cX0_was 8 = .ok (.iconst 0, 1) := dk_3 (dk_at dksX0_was_0 8 rfl rfl)
theorem dX0_was_9 : decode cX0_was 9 = .ok (.putfield 88, 3) := dk_181 0 88 (dk_at dksX0_was_0 9 rfl rfl)
theorem dX0_was_12 : decode cX0_was 12 = .ok (.iload_n 1, 1) := dk_27 (dk_at dksX0_was_0 12 rfl rfl)
theorem dX0_was_13 : decode cX0_was 13 = .ok (.ireturn, 1) := dk_172 (dk_at dksX0_was_0 13 rfl rfl)
noncomputable def f_X0_was (E : ax_E) (x0 : Option Nat) (x1 : Int) (h : ax_H) : Option (Int × ax_H) :=
  (ax_gR E h x0 0 2).bind fun v1 =>
  (ax_ce E h v1 42).bind fun _ => (f_J2_clear E v1 h).bind fun h2 =>
  (ax_pI h2 x0 0 7 0).bind fun h3 =>
  some (x1, h3)
set_option maxHeartbeats 4000000 in
theorem we_X0_was {l : Launch} {G : ax_G} {X : ax_X} {Q : State → Prop} {h0 h : ax_H} {ls : Array Slot} (hSF : ax_SF G) (B : ax_BL l G X cX0_was 2 RX0 2 63) (Z : ax_Z X h0 ((some FieldType.int))) (hn : X.2.2.2.2.2.2.2.2.1.name = yX0_was.name) (x0 : Option Nat) (x1 : Int) {w : Int × ax_H} (hl : ax_hl ls 2 [(0, .inr (.inr x0)), (1, .inl x1)]) (e : f_X0_was G.2.2 x0 x1 h = some w) (hp : (fun w : Int × ax_H => Q = ax_Q G X h0 w.2 (some (.int (Int32.ofInt w.1)))) w) : ax_W G X Q h 0 ls [] := by
  unfold f_X0_was at e
  refine ax_aload_n B dX0_was_0 rfl hl 0 rfl ?_
  refine ax_getR B ff_X0_31_0 (fun _ _ => rfl) dX0_was_1 e (fun v1 e => ?_)
  refine ax_ivV (y := yJ2_clear) (n := 0) (As := []) B kd42 (lw_V q451 q452 q453 q129 q454) (by decide +kernel) ⟨Nat.le_of_ble_eq_true rfl, Nat.le_of_ble_eq_true rfl⟩ (fun w1 e1 => mt_J2_clear l G hSF v1 _ w1 e1) rfl hl.size (by decide) dX0_was_4 e (fun h2 e => ?_)
  refine ax_aload_n B dX0_was_7 rfl hl 0 rfl ?_
  refine ax_iconst B dX0_was_8 ?_
  refine ax_putI B ff_X0_88_0 (Or.inl rfl) rfl dX0_was_9 e (fun h3 e => ?_)
  refine ax_iload_n B dX0_was_12 rfl hl 1 rfl ?_
  have e8 := e
  have hp : Q = _ := hp
  subst hp
  exact ax_ireturn B Z dX0_was_13 e8
theorem mt_X0_was (l : Launch) (G : ax_G) (hSF : ax_SF G) (x0 : Option Nat) (x1 : Int) (h : ax_H) (w : Int × ax_H) (e : f_X0_was G.2.2 x0 x1 h = some w) : ax_Met l G yX0_was cX0_was 2 ((some FieldType.int)) 2 63 [va_rf x0, .int (Int32.ofInt x1)] h w.2 (some (.int (Int32.ofInt w.1))) :=
  ax_enter [.inr (.inr x0), .inl x1] (y := yX0_was) hSF (plainFor_of_name (by decide +kernel)) (Nat.le_of_ble_eq_true rfl) (fun X ls B Z hn hl => we_X0_was hSF B Z hn x0 x1 hl e rfl)
def dkwX0_put_2 : List UInt8 := [21, 4, 182, 0, 146, 172]
abbrev dktX0_put_2 : List UInt8 := dkwX0_put_2 ++ []
def dkwX0_put_1 : List UInt8 := [16, 254, 182, 0, 94, 172, 42, 28, 182, 0, 142, 27, 46, 54, 4, 42, 28, 182, 0, 142, 27, 29, 79, 42]
abbrev dktX0_put_1 : List UInt8 := dkwX0_put_1 ++ dktX0_put_2
def dkwX0_put_0 : List UInt8 := [28, 29, 184, 0, 126, 154, 0, 9, 42, 2, 182, 0, 94, 172, 42, 27, 182, 0, 110, 154, 0, 10, 42]
abbrev dktX0_put_0 : List UInt8 := dkwX0_put_0 ++ dktX0_put_1
theorem dksX0_put_0 : cX0_put.data.toList.drop 0 = dktX0_put_0 := by decide +kernel
theorem dksX0_put_1 : cX0_put.data.toList.drop 23 = dktX0_put_1 := dk_seg dksX0_put_0 23 rfl rfl
theorem dksX0_put_2 : cX0_put.data.toList.drop 47 = dktX0_put_2 := dk_seg dksX0_put_1 24 rfl rfl
theorem dX0_put_0 : decode cX0_put 0 = .ok (.iload_n 2, 1) := dk_28 (dk_at dksX0_put_0 0 rfl rfl)
theorem dX0_put_1 : decode cX0_put 1 = .ok (.iload_n 3, 1) := dk_29 (dk_at dksX0_put_0 1 rfl rfl)
theorem dX0_put_2 : decode cX0_put 2 = .ok (.invokestatic 126, 3) := dk_184 0 126 (dk_at dksX0_put_0 2 rfl rfl)
theorem dX0_put_5 : decode cX0_put 5 = .ok (.ifCond .ne 9, 3) := dk_154 0 9 (dk_at dksX0_put_0 5 rfl rfl)
theorem dX0_put_8 : decode cX0_put 8 = .ok (.aload_n 0, 1) := dk_42 (dk_at dksX0_put_0 8 rfl rfl)
theorem dX0_put_9 : decode cX0_put 9 = .ok (.iconst (-1), 1) := dk_2 (dk_at dksX0_put_0 9 rfl rfl)
theorem dX0_put_10 : decode cX0_put 10 = .ok (.invokevirtual 94, 3) := dk_182 0 94 (dk_at dksX0_put_0 10 rfl rfl)
theorem dX0_put_13 : decode cX0_put 13 = .ok (.ireturn, 1) := dk_172 (dk_at dksX0_put_0 13 rfl rfl)
theorem dX0_put_14 : decode cX0_put 14 = .ok (.aload_n 0, 1) := dk_42 (dk_at dksX0_put_0 14 rfl rfl)
theorem dX0_put_15 : decode cX0_put 15 = .ok (.iload_n 1, 1) := dk_27 (dk_at dksX0_put_0 15 rfl rfl)
theorem dX0_put_16 : decode cX0_put 16 = .ok (.invokevirtual 110, 3) := dk_182 0 110 (dk_at dksX0_put_0 16 rfl rfl)
theorem dX0_put_19 : decode cX0_put 19 = .ok (.ifCond .ne 10, 3) := dk_154 0 10 (dk_at dksX0_put_0 19 rfl rfl)
theorem dX0_put_22 : decode cX0_put 22 = .ok (.aload_n 0, 1) := dk_42 (dk_at dksX0_put_0 22 rfl rfl)
theorem dX0_put_23 : decode cX0_put 23 = .ok (.bipush (-2), 2) := dk_16 254 (dk_at dksX0_put_1 0 rfl rfl)
theorem dX0_put_25 : decode cX0_put 25 = .ok (.invokevirtual 94, 3) := dk_182 0 94 (dk_at dksX0_put_1 2 rfl rfl)
theorem dX0_put_28 : decode cX0_put 28 = .ok (.ireturn, 1) := dk_172 (dk_at dksX0_put_1 5 rfl rfl)
theorem dX0_put_29 : decode cX0_put 29 = .ok (.aload_n 0, 1) := dk_42 (dk_at dksX0_put_1 6 rfl rfl)
theorem dX0_put_30 : decode cX0_put 30 = .ok (.iload_n 2, 1) := dk_28 (dk_at dksX0_put_1 7 rfl rfl)
theorem dX0_put_31 : decode cX0_put 31 = .ok (.invokevirtual 142, 3) := dk_182 0 142 (dk_at dksX0_put_1 8 rfl rfl)
theorem dX0_put_34 : decode cX0_put 34 = .ok (.iload_n 1, 1) := dk_27 (dk_at dksX0_put_1 11 rfl rfl)
theorem dX0_put_35 : decode cX0_put 35 = .ok (.iaload, 1) := dk_46 (dk_at dksX0_put_1 12 rfl rfl)
theorem dX0_put_36 : decode cX0_put 36 = .ok (.istore 4, 2) := dk_54 4 (dk_at dksX0_put_1 13 rfl rfl)
theorem dX0_put_38 : decode cX0_put 38 = .ok (.aload_n 0, 1) := dk_42 (dk_at dksX0_put_1 15 rfl rfl)
theorem dX0_put_39 : decode cX0_put 39 = .ok (.iload_n 2, 1) := dk_28 (dk_at dksX0_put_1 16 rfl rfl)
theorem dX0_put_40 : decode cX0_put 40 = .ok (.invokevirtual 142, 3) := dk_182 0 142 (dk_at dksX0_put_1 17 rfl rfl)
theorem dX0_put_43 : decode cX0_put 43 = .ok (.iload_n 1, 1) := dk_27 (dk_at dksX0_put_1 20 rfl rfl)
theorem dX0_put_44 : decode cX0_put 44 = .ok (.iload_n 3, 1) := dk_29 (dk_at dksX0_put_1 21 rfl rfl)
theorem dX0_put_45 : decode cX0_put 45 = .ok (.iastore, 1) := dk_79 (dk_at dksX0_put_1 22 rfl rfl)
theorem dX0_put_46 : decode cX0_put 46 = .ok (.aload_n 0, 1) := dk_42 (dk_at dksX0_put_1 23 rfl rfl)
theorem dX0_put_47 : decode cX0_put 47 = .ok (.iload 4, 2) := dk_21 4 (dk_at dksX0_put_2 0 rfl rfl)
theorem dX0_put_49 : decode cX0_put 49 = .ok (.invokevirtual 146, 3) := dk_182 0 146 (dk_at dksX0_put_2 2 rfl rfl)
theorem dX0_put_52 : decode cX0_put 52 = .ok (.ireturn, 1) := dk_172 (dk_at dksX0_put_2 5 rfl rfl)
noncomputable def f_X0_put (E : ax_E) (x0 : Option Nat) (x1 : Int) (x2 : Int) (x3 : Int) (h : ax_H) : Option (Int × ax_H) :=
  (f_X0_canBe E x2 x3 h).bind fun q1 =>
  if i2 q1.1 = 0 then
    (ax_ce E q1.2 x0 0).bind fun _ => (f_X0_tell E x0 (-1) q1.2).bind fun q2 =>
    some (q2.1, q2.2)
  else
    (ax_ce E q1.2 x0 0).bind fun _ => (f_X0_isPerson E x0 x1 q1.2).bind fun q3 =>
    if i2 q3.1 = 0 then
      (ax_ce E q3.2 x0 0).bind fun _ => (f_X0_tell E x0 (-2) q3.2).bind fun q4 =>
      some (q4.1, q4.2)
    else
      (ax_ce E q3.2 x0 0).bind fun _ => (f_X0_factsOf E x0 x2 q3.2).bind fun q5 =>
      (ax_ld E q5.2 q5.1 100 x1).bind fun v6 =>
      (ax_ce E q5.2 x0 0).bind fun _ => (f_X0_factsOf E x0 x2 q5.2).bind fun q7 =>
      (ax_sto q7.2 q7.1 100 x1 x3).bind fun h8 =>
      (ax_ce E h8 x0 0).bind fun _ => (f_X0_was E x0 v6 h8).bind fun q9 =>
      some (q9.1, q9.2)
set_option maxHeartbeats 4000000 in
theorem we_X0_put {l : Launch} {G : ax_G} {X : ax_X} {Q : State → Prop} {h0 h : ax_H} {ls : Array Slot} (hSF : ax_SF G) (B : ax_BL l G X cX0_put 5 RX0 4 106) (Z : ax_Z X h0 ((some FieldType.int))) (hn : X.2.2.2.2.2.2.2.2.1.name = yX0_put.name) (x0 : Option Nat) (x1 : Int) (x2 : Int) (x3 : Int) {w : Int × ax_H} (hl : ax_hl ls 5 [(0, .inr (.inr x0)), (1, .inl x1), (2, .inl x2), (3, .inl x3)]) (e : f_X0_put G.2.2 x0 x1 x2 x3 h = some w) (hp : (fun w : Int × ax_H => Q = ax_Q G X h0 w.2 (some (.int (Int32.ofInt w.1)))) w) : ax_W G X Q h 0 ls [] := by
  unfold f_X0_put at e
  refine ax_iload_n B dX0_put_0 rfl hl 2 rfl ?_
  refine ax_iload_n B dX0_put_1 rfl hl 3 rfl ?_
  refine ax_isI (y := yX0_canBe) (n := 2) (As := [.int (Int32.ofInt x2), .int (Int32.ofInt x3)]) B (lw_S q427 q428 q125 q429) (by decide +kernel) ⟨Nat.le_of_ble_eq_true rfl, Nat.le_of_ble_eq_true rfl⟩ (fun w1 e1 => mt_X0_canBe l G hSF x2 x3 _ w1 e1) rfl hl.size (by decide) dX0_put_2 e (fun q1 e => ?_)
  refine ax_if_ne (tgt := 14) B dX0_put_5 (by decide) e (fun e => ?_) (fun e => ?_)
  · refine ax_aload_n B dX0_put_8 rfl hl 0 rfl ?_
    refine ax_iconst B dX0_put_9 ?_
    refine ax_ivI (y := yX0_tell) (n := 1) (As := [.int (Int32.ofInt (-1))]) B kd0 (lw_V q436 q438 qs1 q125 q439) (by decide +kernel) ⟨Nat.le_of_ble_eq_true rfl, Nat.le_of_ble_eq_true rfl⟩ (fun w1 e1 => mt_X0_tell l G hSF x0 (-1) _ w1 e1) rfl hl.size (by decide) dX0_put_10 e (fun q2 e => ?_)
    have e8 := e
    have hp : Q = _ := hp
    subst hp
    exact ax_ireturn B Z dX0_put_13 e8
  · refine ax_aload_n B dX0_put_14 rfl hl 0 rfl ?_
    refine ax_iload_n B dX0_put_15 rfl hl 1 rfl ?_
    refine ax_ivI (y := yX0_isPerson) (n := 1) (As := [.int (Int32.ofInt x1)]) B kd0 (lw_V q459 q461 qs4 q125 q462) (by decide +kernel) ⟨Nat.le_of_ble_eq_true rfl, Nat.le_of_ble_eq_true rfl⟩ (fun w1 e1 => mt_X0_isPerson l G hSF x0 x1 _ w1 e1) rfl hl.size (by decide) dX0_put_16 e (fun q3 e => ?_)
    refine ax_if_ne (tgt := 29) B dX0_put_19 (by decide) e (fun e => ?_) (fun e => ?_)
    · refine ax_aload_n B dX0_put_22 rfl hl 0 rfl ?_
      refine ax_bipush B dX0_put_23 (by decide) ?_
      refine ax_ivI (y := yX0_tell) (n := 1) (As := [.int (Int32.ofInt (-2))]) B kd0 (lw_V q436 q438 qs1 q125 q439) (by decide +kernel) ⟨Nat.le_of_ble_eq_true rfl, Nat.le_of_ble_eq_true rfl⟩ (fun w1 e1 => mt_X0_tell l G hSF x0 (-2) _ w1 e1) rfl hl.size (by decide) dX0_put_25 e (fun q4 e => ?_)
      have e8 := e
      have hp : Q = _ := hp
      subst hp
      exact ax_ireturn B Z dX0_put_28 e8
    · refine ax_aload_n B dX0_put_29 rfl hl 0 rfl ?_
      refine ax_iload_n B dX0_put_30 rfl hl 2 rfl ?_
      refine ax_ivR (y := yX0_factsOf) (n := 1) (As := [.int (Int32.ofInt x2)]) B kd0 (lw_V q463 q465 qs5 q125 q466) (by decide +kernel) ⟨Nat.le_of_ble_eq_true rfl, Nat.le_of_ble_eq_true rfl⟩ (fun w1 e1 => mt_X0_factsOf l G hSF x0 x2 _ w1 e1) rfl hl.size (by decide) dX0_put_31 e (fun q5 e => ?_)
      refine ax_iload_n B dX0_put_34 rfl hl 1 rfl ?_
      refine ax_iald B kd100 dX0_put_35 e (fun v6 e => ?_)
      refine ax_istore (L' := [(4, .inl v6), (0, .inr (.inr x0)), (1, .inl x1), (2, .inl x2), (3, .inl x3)]) B dX0_put_36 hl (by decide) rfl (fun ls hl => ?_)
      refine ax_aload_n B dX0_put_38 rfl hl 1 rfl ?_
      refine ax_iload_n B dX0_put_39 rfl hl 3 rfl ?_
      refine ax_ivR (y := yX0_factsOf) (n := 1) (As := [.int (Int32.ofInt x2)]) B kd0 (lw_V q463 q465 qs5 q125 q466) (by decide +kernel) ⟨Nat.le_of_ble_eq_true rfl, Nat.le_of_ble_eq_true rfl⟩ (fun w1 e1 => mt_X0_factsOf l G hSF x0 x2 _ w1 e1) rfl hl.size (by decide) dX0_put_40 e (fun q7 e => ?_)
      refine ax_iload_n B dX0_put_43 rfl hl 2 rfl ?_
      refine ax_iload_n B dX0_put_44 rfl hl 4 rfl ?_
      refine ax_iast B kd100 dX0_put_45 e (fun h8 e => ?_)
      refine ax_aload_n B dX0_put_46 rfl hl 1 rfl ?_
      refine ax_iload B dX0_put_47 hl 0 rfl ?_
      refine ax_ivI (y := yX0_was) (n := 1) (As := [.int (Int32.ofInt v6)]) B kd0 (lw_V q467 q469 qs6 q125 q470) (by decide +kernel) ⟨Nat.le_of_ble_eq_true rfl, Nat.le_of_ble_eq_true rfl⟩ (fun w1 e1 => mt_X0_was l G hSF x0 v6 _ w1 e1) rfl hl.size (by decide) dX0_put_49 e (fun q9 e => ?_)
      have e8 := e
      have hp : Q = _ := hp
      subst hp
      exact ax_ireturn B Z dX0_put_52 e8
theorem mt_X0_put (l : Launch) (G : ax_G) (hSF : ax_SF G) (x0 : Option Nat) (x1 : Int) (x2 : Int) (x3 : Int) (h : ax_H) (w : Int × ax_H) (e : f_X0_put G.2.2 x0 x1 x2 x3 h = some w) : ax_Met l G yX0_put cX0_put 5 ((some FieldType.int)) 4 106 [va_rf x0, .int (Int32.ofInt x1), .int (Int32.ofInt x2), .int (Int32.ofInt x3)] h w.2 (some (.int (Int32.ofInt w.1))) :=
  ax_enter [.inr (.inr x0), .inl x1, .inl x2, .inl x3] (y := yX0_put) hSF (plainFor_of_name (by decide +kernel)) (Nat.le_of_ble_eq_true rfl) (fun X ls B Z hn hl => we_X0_put hSF B Z hn x0 x1 x2 x3 hl e rfl)
def dkwX0_of_1 : List UInt8 := [182, 0, 142, 27, 46, 167, 0, 4, 2, 172]
abbrev dktX0_of_1 : List UInt8 := dkwX0_of_1 ++ []
def dkwX0_of_0 : List UInt8 := [42, 27, 182, 0, 110, 153, 0, 25, 28, 133, 9, 20, 0, 149, 184, 0, 5, 153, 0, 13, 42, 28]
abbrev dktX0_of_0 : List UInt8 := dkwX0_of_0 ++ dktX0_of_1
theorem dksX0_of_0 : cX0_of.data.toList.drop 0 = dktX0_of_0 := by decide +kernel
theorem dksX0_of_1 : cX0_of.data.toList.drop 22 = dktX0_of_1 := dk_seg dksX0_of_0 22 rfl rfl
theorem dX0_of_0 : decode cX0_of 0 = .ok (.aload_n 0, 1) := dk_42 (dk_at dksX0_of_0 0 rfl rfl)
theorem dX0_of_1 : decode cX0_of 1 = .ok (.iload_n 1, 1) := dk_27 (dk_at dksX0_of_0 1 rfl rfl)
theorem dX0_of_2 : decode cX0_of 2 = .ok (.invokevirtual 110, 3) := dk_182 0 110 (dk_at dksX0_of_0 2 rfl rfl)
theorem dX0_of_5 : decode cX0_of 5 = .ok (.ifCond .eq 25, 3) := dk_153 0 25 (dk_at dksX0_of_0 5 rfl rfl)
theorem dX0_of_8 : decode cX0_of 8 = .ok (.iload_n 2, 1) := dk_28 (dk_at dksX0_of_0 8 rfl rfl)
theorem dX0_of_9 : decode cX0_of 9 = .ok (.i2l, 1) := dk_133 (dk_at dksX0_of_0 9 rfl rfl)
theorem dX0_of_10 : decode cX0_of 10 = .ok (.lconst 0, 1) := dk_9 (dk_at dksX0_of_0 10 rfl rfl)
theorem dX0_of_11 : decode cX0_of 11 = .ok (.ldc2_w 149, 3) := dk_20 0 149 (dk_at dksX0_of_0 11 rfl rfl)
theorem dX0_of_14 : decode cX0_of 14 = .ok (.invokestatic 5, 3) := dk_184 0 5 (dk_at dksX0_of_0 14 rfl rfl)
theorem dX0_of_17 : decode cX0_of 17 = .ok (.ifCond .eq 13, 3) := dk_153 0 13 (dk_at dksX0_of_0 17 rfl rfl)
theorem dX0_of_20 : decode cX0_of 20 = .ok (.aload_n 0, 1) := dk_42 (dk_at dksX0_of_0 20 rfl rfl)
theorem dX0_of_21 : decode cX0_of 21 = .ok (.iload_n 2, 1) := dk_28 (dk_at dksX0_of_0 21 rfl rfl)
theorem dX0_of_22 : decode cX0_of 22 = .ok (.invokevirtual 142, 3) := dk_182 0 142 (dk_at dksX0_of_1 0 rfl rfl)
theorem dX0_of_25 : decode cX0_of 25 = .ok (.iload_n 1, 1) := dk_27 (dk_at dksX0_of_1 3 rfl rfl)
theorem dX0_of_26 : decode cX0_of 26 = .ok (.iaload, 1) := dk_46 (dk_at dksX0_of_1 4 rfl rfl)
theorem dX0_of_27 : decode cX0_of 27 = .ok (.goto 4, 3) := dk_167 0 4 (dk_at dksX0_of_1 5 rfl rfl)
theorem dX0_of_30 : decode cX0_of 30 = .ok (.iconst (-1), 1) := dk_2 (dk_at dksX0_of_1 8 rfl rfl)
theorem dX0_of_31 : decode cX0_of 31 = .ok (.ireturn, 1) := dk_172 (dk_at dksX0_of_1 9 rfl rfl)
noncomputable def f_X0_of_30 (E : ax_E) (h : ax_H) : Option (Int × ax_H) :=
  some ((-1), h)
noncomputable def f_X0_of (E : ax_E) (x0 : Option Nat) (x1 : Int) (x2 : Int) (h : ax_H) : Option (Int × ax_H) :=
  (ax_ce E h x0 0).bind fun _ => (f_X0_isPerson E x0 x1 h).bind fun q1 =>
  if i2 q1.1 = 0 then
    f_X0_of_30 E q1.2
  else
    (f_X0_in E (i2 x2) 0 2 q1.2).bind fun q2 =>
    if i2 q2.1 = 0 then
      f_X0_of_30 E q2.2
    else
      (ax_ce E q2.2 x0 0).bind fun _ => (f_X0_factsOf E x0 x2 q2.2).bind fun q3 =>
      (ax_ld E q3.2 q3.1 100 x1).bind fun v4 =>
      some (v4, q3.2)
set_option maxHeartbeats 4000000 in
theorem w_X0_of_30 {l : Launch} {G : ax_G} {X : ax_X} {Q : State → Prop} {h0 h : ax_H} {ls : Array Slot} (hSF : ax_SF G) (B : ax_BL l G X cX0_of 3 RX0 3 86) (Z : ax_Z X h0 ((some FieldType.int))) (hn : X.2.2.2.2.2.2.2.2.1.name = yX0_of.name) {w : Int × ax_H} (hl : ax_hl ls 3 []) (e : f_X0_of_30 G.2.2 h = some w) (hp : (fun w : Int × ax_H => Q = ax_Q G X h0 w.2 (some (.int (Int32.ofInt w.1)))) w) : ax_W G X Q h 30 ls [] := by
  unfold f_X0_of_30 at e
  refine ax_iconst B dX0_of_30 ?_
  have e8 := e
  have hp : Q = _ := hp
  subst hp
  exact ax_ireturn B Z dX0_of_31 e8
set_option maxHeartbeats 4000000 in
theorem we_X0_of {l : Launch} {G : ax_G} {X : ax_X} {Q : State → Prop} {h0 h : ax_H} {ls : Array Slot} (hSF : ax_SF G) (B : ax_BL l G X cX0_of 3 RX0 3 86) (Z : ax_Z X h0 ((some FieldType.int))) (hn : X.2.2.2.2.2.2.2.2.1.name = yX0_of.name) (x0 : Option Nat) (x1 : Int) (x2 : Int) {w : Int × ax_H} (hl : ax_hl ls 3 [(0, .inr (.inr x0)), (1, .inl x1), (2, .inl x2)]) (e : f_X0_of G.2.2 x0 x1 x2 h = some w) (hp : (fun w : Int × ax_H => Q = ax_Q G X h0 w.2 (some (.int (Int32.ofInt w.1)))) w) : ax_W G X Q h 0 ls [] := by
  unfold f_X0_of at e
  refine ax_aload_n B dX0_of_0 rfl hl 0 rfl ?_
  refine ax_iload_n B dX0_of_1 rfl hl 1 rfl ?_
  refine ax_ivI (y := yX0_isPerson) (n := 1) (As := [.int (Int32.ofInt x1)]) B kd0 (lw_V q459 q461 qs4 q125 q462) (by decide +kernel) ⟨Nat.le_of_ble_eq_true rfl, Nat.le_of_ble_eq_true rfl⟩ (fun w1 e1 => mt_X0_isPerson l G hSF x0 x1 _ w1 e1) rfl hl.size (by decide) dX0_of_2 e (fun q1 e => ?_)
  refine ax_if_eq (tgt := 30) B dX0_of_5 (by decide) e (fun e => ?_) (fun e => ?_)
  · exact w_X0_of_30 hSF B Z hn (hl.sub [] rfl) e hp
  · refine ax_iload_n B dX0_of_8 rfl hl 2 rfl ?_
    refine ax_i2l' B dX0_of_9 ?_
    refine ax_lconst (v := 0) B dX0_of_10 rfl ?_
    refine ax_ldc2 B cn_X0_149 dX0_of_11 ?_
    refine ax_isI (y := yX0_in) (n := 3) (As := [.long (Int64.ofInt (i2 x2)), .long (Int64.ofInt 0), .long (Int64.ofInt 2)]) B (lw_S q420 q421 q125 q422) (by decide +kernel) ⟨Nat.le_of_ble_eq_true rfl, Nat.le_of_ble_eq_true rfl⟩ (fun w1 e1 => mt_X0_in l G hSF (i2 x2) 0 2 _ w1 e1) rfl hl.size (by decide) dX0_of_14 e (fun q2 e => ?_)
    refine ax_if_eq (tgt := 30) B dX0_of_17 (by decide) e (fun e => ?_) (fun e => ?_)
    · exact w_X0_of_30 hSF B Z hn (hl.sub [] rfl) e hp
    · refine ax_aload_n B dX0_of_20 rfl hl 0 rfl ?_
      refine ax_iload_n B dX0_of_21 rfl hl 2 rfl ?_
      refine ax_ivR (y := yX0_factsOf) (n := 1) (As := [.int (Int32.ofInt x2)]) B kd0 (lw_V q463 q465 qs5 q125 q466) (by decide +kernel) ⟨Nat.le_of_ble_eq_true rfl, Nat.le_of_ble_eq_true rfl⟩ (fun w1 e1 => mt_X0_factsOf l G hSF x0 x2 _ w1 e1) rfl hl.size (by decide) dX0_of_22 e (fun q3 e => ?_)
      refine ax_iload_n B dX0_of_25 rfl hl 1 rfl ?_
      refine ax_iald B kd100 dX0_of_26 e (fun v4 e => ?_)
      refine ax_goto (tgt := 31) B dX0_of_27 (by decide) ?_
      have e8 := e
      have hp : Q = _ := hp
      subst hp
      exact ax_ireturn B Z dX0_of_31 e8
theorem mt_X0_of (l : Launch) (G : ax_G) (hSF : ax_SF G) (x0 : Option Nat) (x1 : Int) (x2 : Int) (h : ax_H) (w : Int × ax_H) (e : f_X0_of G.2.2 x0 x1 x2 h = some w) : ax_Met l G yX0_of cX0_of 3 ((some FieldType.int)) 3 86 [va_rf x0, .int (Int32.ofInt x1), .int (Int32.ofInt x2)] h w.2 (some (.int (Int32.ofInt w.1))) :=
  ax_enter [.inr (.inr x0), .inl x1, .inl x2] (y := yX0_of) hSF (plainFor_of_name (by decide +kernel)) (Nat.le_of_ble_eq_true rfl) (fun X ls B Z hn hl => we_X0_of hSF B Z hn x0 x1 x2 hl e rfl)
def dkwX0_isAmount_0 : List UInt8 := [26, 133, 10, 20, 0, 3, 184, 0, 5, 172]
abbrev dktX0_isAmount_0 : List UInt8 := dkwX0_isAmount_0 ++ []
theorem dksX0_isAmount_0 : cX0_isAmount.data.toList.drop 0 = dktX0_isAmount_0 := by decide +kernel
theorem dX0_isAmount_0 : decode cX0_isAmount 0 = .ok (.iload_n 0, 1) := dk_26 (dk_at dksX0_isAmount_0 0 rfl rfl)
theorem dX0_isAmount_1 : decode cX0_isAmount 1 = .ok (.i2l, 1) := dk_133 (dk_at dksX0_isAmount_0 1 rfl rfl)
theorem dX0_isAmount_2 : decode cX0_isAmount 2 = .ok (.lconst 1, 1) := dk_10 (dk_at dksX0_isAmount_0 2 rfl rfl)
theorem dX0_isAmount_3 : decode cX0_isAmount 3 = .ok (.ldc2_w 3, 3) := dk_20 0 3 (dk_at dksX0_isAmount_0 3 rfl rfl)
theorem dX0_isAmount_6 : decode cX0_isAmount 6 = .ok (.invokestatic 5, 3) := dk_184 0 5 (dk_at dksX0_isAmount_0 6 rfl rfl)
theorem dX0_isAmount_9 : decode cX0_isAmount 9 = .ok (.ireturn, 1) := dk_172 (dk_at dksX0_isAmount_0 9 rfl rfl)
noncomputable def f_X0_isAmount (E : ax_E) (x0 : Int) (h : ax_H) : Option (Int × ax_H) :=
  (f_X0_in E (i2 x0) 1 9999 h).bind fun q1 =>
  if q1.1 = 0 ∨ q1.1 = 1 then some (q1.1, q1.2) else none
set_option maxHeartbeats 4000000 in
theorem we_X0_isAmount {l : Launch} {G : ax_G} {X : ax_X} {Q : State → Prop} {h0 h : ax_H} {ls : Array Slot} (hSF : ax_SF G) (B : ax_BL l G X cX0_isAmount 1 RX0 2 65) (Z : ax_Z X h0 ((some FieldType.boolean))) (hn : X.2.2.2.2.2.2.2.2.1.name = yX0_isAmount.name) (x0 : Int) {w : Int × ax_H} (hl : ax_hl ls 1 [(0, .inl x0)]) (e : f_X0_isAmount G.2.2 x0 h = some w) (hp : (fun w : Int × ax_H => Q = ax_Q G X h0 w.2 (some (.int (Int32.ofInt w.1)))) w) : ax_W G X Q h 0 ls [] := by
  unfold f_X0_isAmount at e
  refine ax_iload_n B dX0_isAmount_0 rfl hl 0 rfl ?_
  refine ax_i2l' B dX0_isAmount_1 ?_
  refine ax_lconst (v := 1) B dX0_isAmount_2 rfl ?_
  refine ax_ldc2 B cn_X0_3 dX0_isAmount_3 ?_
  refine ax_isI (y := yX0_in) (n := 3) (As := [.long (Int64.ofInt (i2 x0)), .long (Int64.ofInt 1), .long (Int64.ofInt 9999)]) B (lw_S q420 q421 q125 q422) (by decide +kernel) ⟨Nat.le_of_ble_eq_true rfl, Nat.le_of_ble_eq_true rfl⟩ (fun w1 e1 => mt_X0_in l G hSF (i2 x0) 1 9999 _ w1 e1) rfl hl.size (by decide) dX0_isAmount_6 e (fun q1 e => ?_)
  have e8 := e
  have hp : Q = _ := hp
  subst hp
  exact ax_zreturn B Z dX0_isAmount_9 e8
theorem mt_X0_isAmount (l : Launch) (G : ax_G) (hSF : ax_SF G) (x0 : Int) (h : ax_H) (w : Int × ax_H) (e : f_X0_isAmount G.2.2 x0 h = some w) : ax_Met l G yX0_isAmount cX0_isAmount 1 ((some FieldType.boolean)) 2 65 [.int (Int32.ofInt x0)] h w.2 (some (.int (Int32.ofInt w.1))) :=
  ax_enter [.inl x0] (y := yX0_isAmount) hSF (plainFor_of_name (by decide +kernel)) (Nat.le_of_ble_eq_true rfl) (fun X ls B Z hn hl => we_X0_isAmount hSF B Z hn x0 hl e rfl)
def dkwX2_add_2 : List UInt8 := [180, 0, 41, 79, 177]
abbrev dktX2_add_2 : List UInt8 := dkwX2_add_2 ++ []
def dkwX2_add_1 : List UInt8 := [42, 180, 0, 33, 29, 79, 42, 180, 0, 24, 42, 89, 180, 0, 33, 90, 4, 96, 181, 0, 33, 42]
abbrev dktX2_add_1 : List UInt8 := dkwX2_add_1 ++ dktX2_add_2
def dkwX2_add_0 : List UInt8 := [42, 180, 0, 15, 42, 180, 0, 33, 27, 79, 42, 180, 0, 18, 42, 180, 0, 33, 28, 79, 42, 180, 0, 21]
abbrev dktX2_add_0 : List UInt8 := dkwX2_add_0 ++ dktX2_add_1
theorem dksX2_add_0 : cX2_add.data.toList.drop 0 = dktX2_add_0 := by decide +kernel
theorem dksX2_add_1 : cX2_add.data.toList.drop 24 = dktX2_add_1 := dk_seg dksX2_add_0 24 rfl rfl
theorem dksX2_add_2 : cX2_add.data.toList.drop 46 = dktX2_add_2 := dk_seg dksX2_add_1 22 rfl rfl
theorem dX2_add_0 : decode cX2_add 0 = .ok (.aload_n 0, 1) := dk_42 (dk_at dksX2_add_0 0 rfl rfl)
theorem dX2_add_1 : decode cX2_add 1 = .ok (.getfield 15, 3) := dk_180 0 15 (dk_at dksX2_add_0 1 rfl rfl)
theorem dX2_add_4 : decode cX2_add 4 = .ok (.aload_n 0, 1) := dk_42 (dk_at dksX2_add_0 4 rfl rfl)
theorem dX2_add_5 : decode cX2_add 5 = .ok (.getfield 33, 3) := dk_180 0 33 (dk_at dksX2_add_0 5 rfl rfl)
theorem dX2_add_8 : decode cX2_add 8 = .ok (.iload_n 1, 1) := dk_27 (dk_at dksX2_add_0 8 rfl rfl)
theorem dX2_add_9 : decode cX2_add 9 = .ok (.iastore, 1) := dk_79 (dk_at dksX2_add_0 9 rfl rfl)
theorem dX2_add_10 : decode cX2_add 10 = .ok (.aload_n 0, 1) := dk_42 (dk_at dksX2_add_0 10 rfl rfl)
theorem dX2_add_11 : decode cX2_add 11 = .ok (.getfield 18, 3) := dk_180 0 18 (dk_at dksX2_add_0 11 rfl rfl)
theorem dX2_add_14 : decode cX2_add 14 = .ok (.aload_n 0, 1) := dk_42 (dk_at dksX2_add_0 14 rfl rfl)
theorem dX2_add_15 : decode cX2_add 15 = .ok (.getfield 33, 3) := dk_180 0 33 (dk_at dksX2_add_0 15 rfl rfl)
theorem dX2_add_18 : decode cX2_add 18 = .ok (.iload_n 2, 1) := dk_28 (dk_at dksX2_add_0 18 rfl rfl)
theorem dX2_add_19 : decode cX2_add 19 = .ok (.iastore, 1) := dk_79 (dk_at dksX2_add_0 19 rfl rfl)
theorem dX2_add_20 : decode cX2_add 20 = .ok (.aload_n 0, 1) := dk_42 (dk_at dksX2_add_0 20 rfl rfl)
theorem dX2_add_21 : decode cX2_add 21 = .ok (.getfield 21, 3) := dk_180 0 21 (dk_at dksX2_add_0 21 rfl rfl)
theorem dX2_add_24 : decode cX2_add 24 = .ok (.aload_n 0, 1) := dk_42 (dk_at dksX2_add_1 0 rfl rfl)
theorem dX2_add_25 : decode cX2_add 25 = .ok (.getfield 33, 3) := dk_180 0 33 (dk_at dksX2_add_1 1 rfl rfl)
theorem dX2_add_28 : decode cX2_add 28 = .ok (.iload_n 3, 1) := dk_29 (dk_at dksX2_add_1 4 rfl rfl)
theorem dX2_add_29 : decode cX2_add 29 = .ok (.iastore, 1) := dk_79 (dk_at dksX2_add_1 5 rfl rfl)
theorem dX2_add_30 : decode cX2_add 30 = .ok (.aload_n 0, 1) := dk_42 (dk_at dksX2_add_1 6 rfl rfl)
theorem dX2_add_31 : decode cX2_add 31 = .ok (.getfield 24, 3) := dk_180 0 24 (dk_at dksX2_add_1 7 rfl rfl)
theorem dX2_add_34 : decode cX2_add 34 = .ok (.aload_n 0, 1) := dk_42 (dk_at dksX2_add_1 10 rfl rfl)
theorem dX2_add_35 : decode cX2_add 35 = .ok (.dup, 1) := dk_89 (dk_at dksX2_add_1 11 rfl rfl)
theorem dX2_add_36 : decode cX2_add 36 = .ok (.getfield 33, 3) := dk_180 0 33 (dk_at dksX2_add_1 12 rfl rfl)
theorem dX2_add_39 : decode cX2_add 39 = .ok (.dup_x1, 1) := dk_90 (dk_at dksX2_add_1 15 rfl rfl)
theorem dX2_add_40 : decode cX2_add 40 = .ok (.iconst 1, 1) := dk_4 (dk_at dksX2_add_1 16 rfl rfl)
theorem dX2_add_41 : decode cX2_add 41 = .ok (.iadd, 1) := dk_96 (dk_at dksX2_add_1 17 rfl rfl)
theorem dX2_add_42 : decode cX2_add 42 = .ok (.putfield 33, 3) := dk_181 0 33 (dk_at dksX2_add_1 18 rfl rfl)
theorem dX2_add_45 : decode cX2_add 45 = .ok (.aload_n 0, 1) := dk_42 (dk_at dksX2_add_1 21 rfl rfl)
theorem dX2_add_46 : decode cX2_add 46 = .ok (.getfield 41, 3) := dk_180 0 41 (dk_at dksX2_add_2 0 rfl rfl)
theorem dX2_add_49 : decode cX2_add 49 = .ok (.iastore, 1) := dk_79 (dk_at dksX2_add_2 3 rfl rfl)
theorem dX2_add_50 : decode cX2_add 50 = .ok (.return_, 1) := dk_177 (dk_at dksX2_add_2 4 rfl rfl)
noncomputable def f_X2_add (E : ax_E) (x0 : Option Nat) (x1 : Int) (x2 : Int) (x3 : Int) (h : ax_H) : Option (ax_H) :=
  (ax_gR E h x0 2 1).bind fun v1 =>
  (ax_gI E h x0 2 5).bind fun v2 =>
  (ax_sto h v1 100 v2 x1).bind fun h3 =>
  (ax_gR E h3 x0 2 2).bind fun v4 =>
  (ax_gI E h3 x0 2 5).bind fun v5 =>
  (ax_sto h3 v4 100 v5 x2).bind fun h6 =>
  (ax_gR E h6 x0 2 3).bind fun v7 =>
  (ax_gI E h6 x0 2 5).bind fun v8 =>
  (ax_sto h6 v7 100 v8 x3).bind fun h9 =>
  (ax_gR E h9 x0 2 4).bind fun v10 =>
  (ax_gI E h9 x0 2 5).bind fun v11 =>
  (ax_pI h9 x0 2 5 (v11 + 1)).bind fun h12 =>
  (ax_gI E h12 x0 2 6).bind fun v13 =>
  (ax_sto h12 v10 100 v11 v13).bind fun h14 =>
  some h14
set_option maxHeartbeats 4000000 in
theorem we_X2_add {l : Launch} {G : ax_G} {X : ax_X} {Q : State → Prop} {h0 h : ax_H} {ls : Array Slot} (hSF : ax_SF G) (B : ax_BL l G X cX2_add 4 RX2 1 40) (Z : ax_Z X h0 none) (hn : X.2.2.2.2.2.2.2.2.1.name = yX2_add.name) (x0 : Option Nat) (x1 : Int) (x2 : Int) (x3 : Int) {w : ax_H} (hl : ax_hl ls 4 [(0, .inr (.inr x0)), (1, .inl x1), (2, .inl x2), (3, .inl x3)]) (e : f_X2_add G.2.2 x0 x1 x2 x3 h = some w) (hp : (fun w : ax_H => Q = ax_Q G X h0 w none) w) : ax_W G X Q h 0 ls [] := by
  unfold f_X2_add at e
  refine ax_aload_n B dX2_add_0 rfl hl 0 rfl ?_
  refine ax_getR B ff_X2_15_2 (fun _ _ => rfl) dX2_add_1 e (fun v1 e => ?_)
  refine ax_aload_n B dX2_add_4 rfl hl 0 rfl ?_
  refine ax_getI B ff_X2_33_2 (fun _ _ => rfl) dX2_add_5 e (fun v2 e => ?_)
  refine ax_iload_n B dX2_add_8 rfl hl 1 rfl ?_
  refine ax_iast B kd100 dX2_add_9 e (fun h3 e => ?_)
  refine ax_aload_n B dX2_add_10 rfl hl 0 rfl ?_
  refine ax_getR B ff_X2_18_2 (fun _ _ => rfl) dX2_add_11 e (fun v4 e => ?_)
  refine ax_aload_n B dX2_add_14 rfl hl 0 rfl ?_
  refine ax_getI B ff_X2_33_2 (fun _ _ => rfl) dX2_add_15 e (fun v5 e => ?_)
  refine ax_iload_n B dX2_add_18 rfl hl 2 rfl ?_
  refine ax_iast B kd100 dX2_add_19 e (fun h6 e => ?_)
  refine ax_aload_n B dX2_add_20 rfl hl 0 rfl ?_
  refine ax_getR B ff_X2_21_2 (fun _ _ => rfl) dX2_add_21 e (fun v7 e => ?_)
  refine ax_aload_n B dX2_add_24 rfl hl 0 rfl ?_
  refine ax_getI B ff_X2_33_2 (fun _ _ => rfl) dX2_add_25 e (fun v8 e => ?_)
  refine ax_iload_n B dX2_add_28 rfl hl 3 rfl ?_
  refine ax_iast B kd100 dX2_add_29 e (fun h9 e => ?_)
  refine ax_aload_n B dX2_add_30 rfl hl 0 rfl ?_
  refine ax_getR B ff_X2_24_2 (fun _ _ => rfl) dX2_add_31 e (fun v10 e => ?_)
  refine ax_aload_n B dX2_add_34 rfl hl 0 rfl ?_
  refine ax_dup B dX2_add_35 (va_rf_cat _) ?_
  refine ax_getI B ff_X2_33_2 (fun _ _ => rfl) dX2_add_36 e (fun v11 e => ?_)
  refine ax_dup_x1 B dX2_add_39 (rfl) (va_rf_cat _) ?_
  refine ax_iconst B dX2_add_40 ?_
  refine ax_iadd' B dX2_add_41 ?_
  refine ax_putI B ff_X2_33_2 (Or.inl rfl) rfl dX2_add_42 e (fun h12 e => ?_)
  refine ax_aload_n B dX2_add_45 rfl hl 0 rfl ?_
  refine ax_getI B ff_X2_41_2 (fun _ _ => rfl) dX2_add_46 e (fun v13 e => ?_)
  refine ax_iast B kd100 dX2_add_49 e (fun h14 e => ?_)
  have e8 := e
  have hp : Q = _ := hp
  subst hp
  exact ax_return B Z dX2_add_50 e8
theorem mt_X2_add (l : Launch) (G : ax_G) (hSF : ax_SF G) (x0 : Option Nat) (x1 : Int) (x2 : Int) (x3 : Int) (h : ax_H) (w : ax_H) (e : f_X2_add G.2.2 x0 x1 x2 x3 h = some w) : ax_Met l G yX2_add cX2_add 4 none 1 40 [va_rf x0, .int (Int32.ofInt x1), .int (Int32.ofInt x2), .int (Int32.ofInt x3)] h w none :=
  ax_enter [.inr (.inr x0), .inl x1, .inl x2, .inl x3] (y := yX2_add) hSF (plainFor_of_name (by decide +kernel)) (Nat.le_of_ble_eq_true rfl) (fun X ls B Z hn hl => we_X2_add hSF B Z hn x0 x1 x2 x3 hl e rfl)
def dkwX0_debtNow_2 : List UInt8 := [42, 182, 0, 104, 27, 28, 29, 182, 0, 154, 42, 182, 0, 104, 180, 0, 107, 4, 100, 172]
abbrev dktX0_debtNow_2 : List UInt8 := dkwX0_debtNow_2 ++ []
def dkwX0_debtNow_1 : List UInt8 := [182, 0, 110, 154, 0, 6, 16, 254, 172, 42, 182, 0, 104, 180, 0, 107, 16, 16, 160, 0, 6, 16, 251, 172]
abbrev dktX0_debtNow_1 : List UInt8 := dkwX0_debtNow_1 ++ dktX0_debtNow_2
def dkwX0_debtNow_0 : List UInt8 := [29, 184, 0, 151, 153, 0, 8, 27, 28, 160, 0, 5, 2, 172, 42, 27, 182, 0, 110, 153, 0, 11, 42, 28]
abbrev dktX0_debtNow_0 : List UInt8 := dkwX0_debtNow_0 ++ dktX0_debtNow_1
theorem dksX0_debtNow_0 : cX0_debtNow.data.toList.drop 0 = dktX0_debtNow_0 := by decide +kernel
theorem dksX0_debtNow_1 : cX0_debtNow.data.toList.drop 24 = dktX0_debtNow_1 := dk_seg dksX0_debtNow_0 24 rfl rfl
theorem dksX0_debtNow_2 : cX0_debtNow.data.toList.drop 48 = dktX0_debtNow_2 := dk_seg dksX0_debtNow_1 24 rfl rfl
theorem dX0_debtNow_0 : decode cX0_debtNow 0 = .ok (.iload_n 3, 1) := dk_29 (dk_at dksX0_debtNow_0 0 rfl rfl)
theorem dX0_debtNow_1 : decode cX0_debtNow 1 = .ok (.invokestatic 151, 3) := dk_184 0 151 (dk_at dksX0_debtNow_0 1 rfl rfl)
theorem dX0_debtNow_4 : decode cX0_debtNow 4 = .ok (.ifCond .eq 8, 3) := dk_153 0 8 (dk_at dksX0_debtNow_0 4 rfl rfl)
theorem dX0_debtNow_7 : decode cX0_debtNow 7 = .ok (.iload_n 1, 1) := dk_27 (dk_at dksX0_debtNow_0 7 rfl rfl)
theorem dX0_debtNow_8 : decode cX0_debtNow 8 = .ok (.iload_n 2, 1) := dk_28 (dk_at dksX0_debtNow_0 8 rfl rfl)
theorem dX0_debtNow_9 : decode cX0_debtNow 9 = .ok (.if_icmp .ne 5, 3) := dk_160 0 5 (dk_at dksX0_debtNow_0 9 rfl rfl)
theorem dX0_debtNow_12 : decode cX0_debtNow 12 = .ok (.iconst (-1), 1) := dk_2 (dk_at dksX0_debtNow_0 12 rfl rfl)
theorem dX0_debtNow_13 : decode cX0_debtNow 13 = .ok (.ireturn, 1) := dk_172 (dk_at dksX0_debtNow_0 13 rfl rfl)
theorem dX0_debtNow_14 : decode cX0_debtNow 14 = .ok (.aload_n 0, 1) := dk_42 (dk_at dksX0_debtNow_0 14 rfl rfl)
theorem dX0_debtNow_15 : decode cX0_debtNow 15 = .ok (.iload_n 1, 1) := dk_27 (dk_at dksX0_debtNow_0 15 rfl rfl)
theorem dX0_debtNow_16 : decode cX0_debtNow 16 = .ok (.invokevirtual 110, 3) := dk_182 0 110 (dk_at dksX0_debtNow_0 16 rfl rfl)
theorem dX0_debtNow_19 : decode cX0_debtNow 19 = .ok (.ifCond .eq 11, 3) := dk_153 0 11 (dk_at dksX0_debtNow_0 19 rfl rfl)
theorem dX0_debtNow_22 : decode cX0_debtNow 22 = .ok (.aload_n 0, 1) := dk_42 (dk_at dksX0_debtNow_0 22 rfl rfl)
theorem dX0_debtNow_23 : decode cX0_debtNow 23 = .ok (.iload_n 2, 1) := dk_28 (dk_at dksX0_debtNow_0 23 rfl rfl)
theorem dX0_debtNow_24 : decode cX0_debtNow 24 = .ok (.invokevirtual 110, 3) := dk_182 0 110 (dk_at dksX0_debtNow_1 0 rfl rfl)
theorem dX0_debtNow_27 : decode cX0_debtNow 27 = .ok (.ifCond .ne 6, 3) := dk_154 0 6 (dk_at dksX0_debtNow_1 3 rfl rfl)
theorem dX0_debtNow_30 : decode cX0_debtNow 30 = .ok (.bipush (-2), 2) := dk_16 254 (dk_at dksX0_debtNow_1 6 rfl rfl)
theorem dX0_debtNow_32 : decode cX0_debtNow 32 = .ok (.ireturn, 1) := dk_172 (dk_at dksX0_debtNow_1 8 rfl rfl)
theorem dX0_debtNow_33 : decode cX0_debtNow 33 = .ok (.aload_n 0, 1) := dk_42 (dk_at dksX0_debtNow_1 9 rfl rfl)
theorem dX0_debtNow_34 : decode cX0_debtNow 34 = .ok (.invokevirtual 104, 3) := dk_182 0 104 (dk_at dksX0_debtNow_1 10 rfl rfl)
theorem dX0_debtNow_37 : decode cX0_debtNow 37 = .ok (.getfield 107, 3) := dk_180 0 107 (dk_at dksX0_debtNow_1 13 rfl rfl)
theorem dX0_debtNow_40 : decode cX0_debtNow 40 = .ok (.bipush 16, 2) := dk_16 16 (dk_at dksX0_debtNow_1 16 rfl rfl)
theorem dX0_debtNow_42 : decode cX0_debtNow 42 = .ok (.if_icmp .ne 6, 3) := dk_160 0 6 (dk_at dksX0_debtNow_1 18 rfl rfl)
theorem dX0_debtNow_45 : decode cX0_debtNow 45 = .ok (.bipush (-5), 2) := dk_16 251 (dk_at dksX0_debtNow_1 21 rfl rfl)
theorem dX0_debtNow_47 : decode cX0_debtNow 47 = .ok (.ireturn, 1) := dk_172 (dk_at dksX0_debtNow_1 23 rfl rfl)
theorem dX0_debtNow_48 : decode cX0_debtNow 48 = .ok (.aload_n 0, 1) := dk_42 (dk_at dksX0_debtNow_2 0 rfl rfl)
theorem dX0_debtNow_49 : decode cX0_debtNow 49 = .ok (.invokevirtual 104, 3) := dk_182 0 104 (dk_at dksX0_debtNow_2 1 rfl rfl)
theorem dX0_debtNow_52 : decode cX0_debtNow 52 = .ok (.iload_n 1, 1) := dk_27 (dk_at dksX0_debtNow_2 4 rfl rfl)
theorem dX0_debtNow_53 : decode cX0_debtNow 53 = .ok (.iload_n 2, 1) := dk_28 (dk_at dksX0_debtNow_2 5 rfl rfl)
theorem dX0_debtNow_54 : decode cX0_debtNow 54 = .ok (.iload_n 3, 1) := dk_29 (dk_at dksX0_debtNow_2 6 rfl rfl)
theorem dX0_debtNow_55 : decode cX0_debtNow 55 = .ok (.invokevirtual 154, 3) := dk_182 0 154 (dk_at dksX0_debtNow_2 7 rfl rfl)
theorem dX0_debtNow_58 : decode cX0_debtNow 58 = .ok (.aload_n 0, 1) := dk_42 (dk_at dksX0_debtNow_2 10 rfl rfl)
theorem dX0_debtNow_59 : decode cX0_debtNow 59 = .ok (.invokevirtual 104, 3) := dk_182 0 104 (dk_at dksX0_debtNow_2 11 rfl rfl)
theorem dX0_debtNow_62 : decode cX0_debtNow 62 = .ok (.getfield 107, 3) := dk_180 0 107 (dk_at dksX0_debtNow_2 14 rfl rfl)
theorem dX0_debtNow_65 : decode cX0_debtNow 65 = .ok (.iconst 1, 1) := dk_4 (dk_at dksX0_debtNow_2 17 rfl rfl)
theorem dX0_debtNow_66 : decode cX0_debtNow 66 = .ok (.isub, 1) := dk_100 (dk_at dksX0_debtNow_2 18 rfl rfl)
theorem dX0_debtNow_67 : decode cX0_debtNow 67 = .ok (.ireturn, 1) := dk_172 (dk_at dksX0_debtNow_2 19 rfl rfl)
noncomputable def f_X0_debtNow_12 (E : ax_E) (h : ax_H) : Option (Int × ax_H) :=
  some ((-1), h)
noncomputable def f_X0_debtNow_30 (E : ax_E) (h : ax_H) : Option (Int × ax_H) :=
  some ((-2), h)
noncomputable def f_X0_debtNow (E : ax_E) (x0 : Option Nat) (x1 : Int) (x2 : Int) (x3 : Int) (h : ax_H) : Option (Int × ax_H) :=
  (f_X0_isAmount E x3 h).bind fun q1 =>
  if i2 q1.1 = 0 then
    f_X0_debtNow_12 E q1.2
  else
    if i2 x1 = i2 x2 then
      f_X0_debtNow_12 E q1.2
    else
      (ax_ce E q1.2 x0 0).bind fun _ => (f_X0_isPerson E x0 x1 q1.2).bind fun q2 =>
      if i2 q2.1 = 0 then
        f_X0_debtNow_30 E q2.2
      else
        (ax_ce E q2.2 x0 0).bind fun _ => (f_X0_isPerson E x0 x2 q2.2).bind fun q3 =>
        if i2 q3.1 = 0 then
          f_X0_debtNow_30 E q3.2
        else
          (ax_ce E q3.2 x0 0).bind fun _ => (f_X0_books E x0 q3.2).bind fun q4 =>
          (ax_gI E q4.2 q4.1 2 5).bind fun v5 =>
          if i2 v5 = i2 16 then
            some ((-5), q4.2)
          else
            (ax_ce E q4.2 x0 0).bind fun _ => (f_X0_books E x0 q4.2).bind fun q6 =>
            (ax_ce E q6.2 q6.1 2).bind fun _ => (f_X2_add E q6.1 x1 x2 x3 q6.2).bind fun h7 =>
            (ax_ce E h7 x0 0).bind fun _ => (f_X0_books E x0 h7).bind fun q8 =>
            (ax_gI E q8.2 q8.1 2 5).bind fun v9 =>
            some ((v9 - 1), q8.2)
set_option maxHeartbeats 4000000 in
theorem w_X0_debtNow_12 {l : Launch} {G : ax_G} {X : ax_X} {Q : State → Prop} {h0 h : ax_H} {ls : Array Slot} (hSF : ax_SF G) (B : ax_BL l G X cX0_debtNow 4 RX0 3 86) (Z : ax_Z X h0 ((some FieldType.int))) (hn : X.2.2.2.2.2.2.2.2.1.name = yX0_debtNow.name) {w : Int × ax_H} (hl : ax_hl ls 4 []) (e : f_X0_debtNow_12 G.2.2 h = some w) (hp : (fun w : Int × ax_H => Q = ax_Q G X h0 w.2 (some (.int (Int32.ofInt w.1)))) w) : ax_W G X Q h 12 ls [] := by
  unfold f_X0_debtNow_12 at e
  refine ax_iconst B dX0_debtNow_12 ?_
  have e8 := e
  have hp : Q = _ := hp
  subst hp
  exact ax_ireturn B Z dX0_debtNow_13 e8
set_option maxHeartbeats 4000000 in
theorem w_X0_debtNow_30 {l : Launch} {G : ax_G} {X : ax_X} {Q : State → Prop} {h0 h : ax_H} {ls : Array Slot} (hSF : ax_SF G) (B : ax_BL l G X cX0_debtNow 4 RX0 3 86) (Z : ax_Z X h0 ((some FieldType.int))) (hn : X.2.2.2.2.2.2.2.2.1.name = yX0_debtNow.name) {w : Int × ax_H} (hl : ax_hl ls 4 []) (e : f_X0_debtNow_30 G.2.2 h = some w) (hp : (fun w : Int × ax_H => Q = ax_Q G X h0 w.2 (some (.int (Int32.ofInt w.1)))) w) : ax_W G X Q h 30 ls [] := by
  unfold f_X0_debtNow_30 at e
  refine ax_bipush B dX0_debtNow_30 (by decide) ?_
  have e8 := e
  have hp : Q = _ := hp
  subst hp
  exact ax_ireturn B Z dX0_debtNow_32 e8
set_option maxHeartbeats 4000000 in
theorem we_X0_debtNow {l : Launch} {G : ax_G} {X : ax_X} {Q : State → Prop} {h0 h : ax_H} {ls : Array Slot} (hSF : ax_SF G) (B : ax_BL l G X cX0_debtNow 4 RX0 3 86) (Z : ax_Z X h0 ((some FieldType.int))) (hn : X.2.2.2.2.2.2.2.2.1.name = yX0_debtNow.name) (x0 : Option Nat) (x1 : Int) (x2 : Int) (x3 : Int) {w : Int × ax_H} (hl : ax_hl ls 4 [(0, .inr (.inr x0)), (1, .inl x1), (2, .inl x2), (3, .inl x3)]) (e : f_X0_debtNow G.2.2 x0 x1 x2 x3 h = some w) (hp : (fun w : Int × ax_H => Q = ax_Q G X h0 w.2 (some (.int (Int32.ofInt w.1)))) w) : ax_W G X Q h 0 ls [] := by
  unfold f_X0_debtNow at e
  refine ax_iload_n B dX0_debtNow_0 rfl hl 3 rfl ?_
  refine ax_isI (y := yX0_isAmount) (n := 1) (As := [.int (Int32.ofInt x3)]) B (lw_S q484 q485 q125 q486) (by decide +kernel) ⟨Nat.le_of_ble_eq_true rfl, Nat.le_of_ble_eq_true rfl⟩ (fun w1 e1 => mt_X0_isAmount l G hSF x3 _ w1 e1) rfl hl.size (by decide) dX0_debtNow_1 e (fun q1 e => ?_)
  refine ax_if_eq (tgt := 12) B dX0_debtNow_4 (by decide) e (fun e => ?_) (fun e => ?_)
  · exact w_X0_debtNow_12 hSF B Z hn (hl.sub [] rfl) e hp
  · refine ax_iload_n B dX0_debtNow_7 rfl hl 1 rfl ?_
    refine ax_iload_n B dX0_debtNow_8 rfl hl 2 rfl ?_
    refine ax_icmp_ne (tgt := 14) B dX0_debtNow_9 (by decide) e (fun e => ?_) (fun e => ?_)
    · exact w_X0_debtNow_12 hSF B Z hn (hl.sub [] rfl) e hp
    · refine ax_aload_n B dX0_debtNow_14 rfl hl 0 rfl ?_
      refine ax_iload_n B dX0_debtNow_15 rfl hl 1 rfl ?_
      refine ax_ivI (y := yX0_isPerson) (n := 1) (As := [.int (Int32.ofInt x1)]) B kd0 (lw_V q459 q461 qs4 q125 q462) (by decide +kernel) ⟨Nat.le_of_ble_eq_true rfl, Nat.le_of_ble_eq_true rfl⟩ (fun w1 e1 => mt_X0_isPerson l G hSF x0 x1 _ w1 e1) rfl hl.size (by decide) dX0_debtNow_16 e (fun q2 e => ?_)
      refine ax_if_eq (tgt := 30) B dX0_debtNow_19 (by decide) e (fun e => ?_) (fun e => ?_)
      · exact w_X0_debtNow_30 hSF B Z hn (hl.sub [] rfl) e hp
      · refine ax_aload_n B dX0_debtNow_22 rfl hl 0 rfl ?_
        refine ax_iload_n B dX0_debtNow_23 rfl hl 2 rfl ?_
        refine ax_ivI (y := yX0_isPerson) (n := 1) (As := [.int (Int32.ofInt x2)]) B kd0 (lw_V q459 q461 qs4 q125 q462) (by decide +kernel) ⟨Nat.le_of_ble_eq_true rfl, Nat.le_of_ble_eq_true rfl⟩ (fun w1 e1 => mt_X0_isPerson l G hSF x0 x2 _ w1 e1) rfl hl.size (by decide) dX0_debtNow_24 e (fun q3 e => ?_)
        refine ax_if_ne (tgt := 33) B dX0_debtNow_27 (by decide) e (fun e => ?_) (fun e => ?_)
        · exact w_X0_debtNow_30 hSF B Z hn (hl.sub [] rfl) e hp
        · refine ax_aload_n B dX0_debtNow_33 rfl hl 0 rfl ?_
          refine ax_ivR (y := yX0_books) (n := 0) (As := []) B kd0 (lw_V q443 q445 qs2 q125 q446) (by decide +kernel) ⟨Nat.le_of_ble_eq_true rfl, Nat.le_of_ble_eq_true rfl⟩ (fun w1 e1 => mt_X0_books l G hSF x0 _ w1 e1) rfl hl.size (by decide) dX0_debtNow_34 e (fun q4 e => ?_)
          refine ax_getI B ff_X0_107_2 (fun _ _ => rfl) dX0_debtNow_37 e (fun v5 e => ?_)
          refine ax_bipush B dX0_debtNow_40 (by decide) ?_
          refine ax_icmp_ne (tgt := 48) B dX0_debtNow_42 (by decide) e (fun e => ?_) (fun e => ?_)
          · refine ax_bipush B dX0_debtNow_45 (by decide) ?_
            have e8 := e
            have hp : Q = _ := hp
            subst hp
            exact ax_ireturn B Z dX0_debtNow_47 e8
          · refine ax_aload_n B dX0_debtNow_48 rfl hl 0 rfl ?_
            refine ax_ivR (y := yX0_books) (n := 0) (As := []) B kd0 (lw_V q443 q445 qs2 q125 q446) (by decide +kernel) ⟨Nat.le_of_ble_eq_true rfl, Nat.le_of_ble_eq_true rfl⟩ (fun w1 e1 => mt_X0_books l G hSF x0 _ w1 e1) rfl hl.size (by decide) dX0_debtNow_49 e (fun q6 e => ?_)
            refine ax_iload_n B dX0_debtNow_52 rfl hl 1 rfl ?_
            refine ax_iload_n B dX0_debtNow_53 rfl hl 2 rfl ?_
            refine ax_iload_n B dX0_debtNow_54 rfl hl 3 rfl ?_
            refine ax_ivV (y := yX2_add) (n := 3) (As := [.int (Int32.ofInt x1), .int (Int32.ofInt x2), .int (Int32.ofInt x3)]) B kd2 (lw_V q487 q488 q489 q130 q490) (by decide +kernel) ⟨Nat.le_of_ble_eq_true rfl, Nat.le_of_ble_eq_true rfl⟩ (fun w1 e1 => mt_X2_add l G hSF q6.1 x1 x2 x3 _ w1 e1) rfl hl.size (by decide) dX0_debtNow_55 e (fun h7 e => ?_)
            refine ax_aload_n B dX0_debtNow_58 rfl hl 0 rfl ?_
            refine ax_ivR (y := yX0_books) (n := 0) (As := []) B kd0 (lw_V q443 q445 qs2 q125 q446) (by decide +kernel) ⟨Nat.le_of_ble_eq_true rfl, Nat.le_of_ble_eq_true rfl⟩ (fun w1 e1 => mt_X0_books l G hSF x0 _ w1 e1) rfl hl.size (by decide) dX0_debtNow_59 e (fun q8 e => ?_)
            refine ax_getI B ff_X0_107_2 (fun _ _ => rfl) dX0_debtNow_62 e (fun v9 e => ?_)
            refine ax_iconst B dX0_debtNow_65 ?_
            refine ax_isub' B dX0_debtNow_66 ?_
            have e8 := e
            have hp : Q = _ := hp
            subst hp
            exact ax_ireturn B Z dX0_debtNow_67 e8
theorem mt_X0_debtNow (l : Launch) (G : ax_G) (hSF : ax_SF G) (x0 : Option Nat) (x1 : Int) (x2 : Int) (x3 : Int) (h : ax_H) (w : Int × ax_H) (e : f_X0_debtNow G.2.2 x0 x1 x2 x3 h = some w) : ax_Met l G yX0_debtNow cX0_debtNow 4 ((some FieldType.int)) 3 86 [va_rf x0, .int (Int32.ofInt x1), .int (Int32.ofInt x2), .int (Int32.ofInt x3)] h w.2 (some (.int (Int32.ofInt w.1))) :=
  ax_enter [.inr (.inr x0), .inl x1, .inl x2, .inl x3] (y := yX0_debtNow) hSF (plainFor_of_name (by decide +kernel)) (Nat.le_of_ble_eq_true rfl) (fun X ls B Z hn hl => we_X0_debtNow hSF B Z hn x0 x1 x2 x3 hl e rfl)
def dkwX0_debt_0 : List UInt8 := [42, 42, 27, 28, 29, 182, 0, 158, 182, 0, 139, 172]
abbrev dktX0_debt_0 : List UInt8 := dkwX0_debt_0 ++ []
theorem dksX0_debt_0 : cX0_debt.data.toList.drop 0 = dktX0_debt_0 := by decide +kernel
theorem dX0_debt_0 : decode cX0_debt 0 = .ok (.aload_n 0, 1) := dk_42 (dk_at dksX0_debt_0 0 rfl rfl)
theorem dX0_debt_1 : decode cX0_debt 1 = .ok (.aload_n 0, 1) := dk_42 (dk_at dksX0_debt_0 1 rfl rfl)
theorem dX0_debt_2 : decode cX0_debt 2 = .ok (.iload_n 1, 1) := dk_27 (dk_at dksX0_debt_0 2 rfl rfl)
theorem dX0_debt_3 : decode cX0_debt 3 = .ok (.iload_n 2, 1) := dk_28 (dk_at dksX0_debt_0 3 rfl rfl)
theorem dX0_debt_4 : decode cX0_debt 4 = .ok (.iload_n 3, 1) := dk_29 (dk_at dksX0_debt_0 4 rfl rfl)
theorem dX0_debt_5 : decode cX0_debt 5 = .ok (.invokevirtual 158, 3) := dk_182 0 158 (dk_at dksX0_debt_0 5 rfl rfl)
theorem dX0_debt_8 : decode cX0_debt 8 = .ok (.invokevirtual 139, 3) := dk_182 0 139 (dk_at dksX0_debt_0 8 rfl rfl)
theorem dX0_debt_11 : decode cX0_debt 11 = .ok (.ireturn, 1) := dk_172 (dk_at dksX0_debt_0 11 rfl rfl)
noncomputable def f_X0_debt (E : ax_E) (x0 : Option Nat) (x1 : Int) (x2 : Int) (x3 : Int) (h : ax_H) : Option (Int × ax_H) :=
  (ax_ce E h x0 0).bind fun _ => (f_X0_debtNow E x0 x1 x2 x3 h).bind fun q1 =>
  (ax_ce E q1.2 x0 0).bind fun _ => (f_X0_settled E x0 q1.1 q1.2).bind fun q2 =>
  some (q2.1, q2.2)
set_option maxHeartbeats 4000000 in
theorem we_X0_debt {l : Launch} {G : ax_G} {X : ax_X} {Q : State → Prop} {h0 h : ax_H} {ls : Array Slot} (hSF : ax_SF G) (B : ax_BL l G X cX0_debt 4 RX0 4 109) (Z : ax_Z X h0 ((some FieldType.int))) (hn : X.2.2.2.2.2.2.2.2.1.name = yX0_debt.name) (x0 : Option Nat) (x1 : Int) (x2 : Int) (x3 : Int) {w : Int × ax_H} (hl : ax_hl ls 4 [(0, .inr (.inr x0)), (1, .inl x1), (2, .inl x2), (3, .inl x3)]) (e : f_X0_debt G.2.2 x0 x1 x2 x3 h = some w) (hp : (fun w : Int × ax_H => Q = ax_Q G X h0 w.2 (some (.int (Int32.ofInt w.1)))) w) : ax_W G X Q h 0 ls [] := by
  unfold f_X0_debt at e
  refine ax_aload_n B dX0_debt_0 rfl hl 0 rfl ?_
  refine ax_aload_n B dX0_debt_1 rfl hl 0 rfl ?_
  refine ax_iload_n B dX0_debt_2 rfl hl 1 rfl ?_
  refine ax_iload_n B dX0_debt_3 rfl hl 2 rfl ?_
  refine ax_iload_n B dX0_debt_4 rfl hl 3 rfl ?_
  refine ax_ivI (y := yX0_debtNow) (n := 3) (As := [.int (Int32.ofInt x1), .int (Int32.ofInt x2), .int (Int32.ofInt x3)]) B kd0 (lw_V q480 q482 qs7 q125 q483) (by decide +kernel) ⟨Nat.le_of_ble_eq_true rfl, Nat.le_of_ble_eq_true rfl⟩ (fun w1 e1 => mt_X0_debtNow l G hSF x0 x1 x2 x3 _ w1 e1) rfl hl.size (by simp only [List.map_cons, List.map_nil, List.sum_cons, List.sum_nil, va_rf_cat, ax_catI, ax_catL]; decide) dX0_debt_5 e (fun q1 e => ?_)
  refine ax_ivI (y := yX0_settled) (n := 1) (As := [.int (Int32.ofInt q1.1)]) B kd0 (lw_V q447 q449 qs3 q125 q450) (by decide +kernel) ⟨Nat.le_of_ble_eq_true rfl, Nat.le_of_ble_eq_true rfl⟩ (fun w1 e1 => mt_X0_settled l G hSF x0 q1.1 _ w1 e1) rfl hl.size (by decide) dX0_debt_8 e (fun q2 e => ?_)
  have e8 := e
  have hp : Q = _ := hp
  subst hp
  exact ax_ireturn B Z dX0_debt_11 e8
theorem mt_X0_debt (l : Launch) (G : ax_G) (hSF : ax_SF G) (x0 : Option Nat) (x1 : Int) (x2 : Int) (x3 : Int) (h : ax_H) (w : Int × ax_H) (e : f_X0_debt G.2.2 x0 x1 x2 x3 h = some w) : ax_Met l G yX0_debt cX0_debt 4 ((some FieldType.int)) 4 109 [va_rf x0, .int (Int32.ofInt x1), .int (Int32.ofInt x2), .int (Int32.ofInt x3)] h w.2 (some (.int (Int32.ofInt w.1))) :=
  ax_enter [.inr (.inr x0), .inl x1, .inl x2, .inl x3] (y := yX0_debt) hSF (plainFor_of_name (by decide +kernel)) (Nat.le_of_ble_eq_true rfl) (fun X ls B Z hn hl => we_X0_debt hSF B Z hn x0 x1 x2 x3 hl e rfl)
def dkwX0_isDebt_0 : List UInt8 := [27, 133, 9, 42, 182, 0, 104, 180, 0, 107, 4, 100, 133, 184, 0, 5, 172]
abbrev dktX0_isDebt_0 : List UInt8 := dkwX0_isDebt_0 ++ []
theorem dksX0_isDebt_0 : cX0_isDebt.data.toList.drop 0 = dktX0_isDebt_0 := by decide +kernel
theorem dX0_isDebt_0 : decode cX0_isDebt 0 = .ok (.iload_n 1, 1) := dk_27 (dk_at dksX0_isDebt_0 0 rfl rfl)
theorem dX0_isDebt_1 : decode cX0_isDebt 1 = .ok (.i2l, 1) := dk_133 (dk_at dksX0_isDebt_0 1 rfl rfl)
theorem dX0_isDebt_2 : decode cX0_isDebt 2 = .ok (.lconst 0, 1) := dk_9 (dk_at dksX0_isDebt_0 2 rfl rfl)
theorem dX0_isDebt_3 : decode cX0_isDebt 3 = .ok (.aload_n 0, 1) := dk_42 (dk_at dksX0_isDebt_0 3 rfl rfl)
theorem dX0_isDebt_4 : decode cX0_isDebt 4 = .ok (.invokevirtual 104, 3) := dk_182 0 104 (dk_at dksX0_isDebt_0 4 rfl rfl)
theorem dX0_isDebt_7 : decode cX0_isDebt 7 = .ok (.getfield 107, 3) := dk_180 0 107 (dk_at dksX0_isDebt_0 7 rfl rfl)
theorem dX0_isDebt_10 : decode cX0_isDebt 10 = .ok (.iconst 1, 1) := dk_4 (dk_at dksX0_isDebt_0 10 rfl rfl)
theorem dX0_isDebt_11 : decode cX0_isDebt 11 = .ok (.isub, 1) := dk_100 (dk_at dksX0_isDebt_0 11 rfl rfl)
theorem dX0_isDebt_12 : decode cX0_isDebt 12 = .ok (.i2l, 1) := dk_133 (dk_at dksX0_isDebt_0 12 rfl rfl)
theorem dX0_isDebt_13 : decode cX0_isDebt 13 = .ok (.invokestatic 5, 3) := dk_184 0 5 (dk_at dksX0_isDebt_0 13 rfl rfl)
theorem dX0_isDebt_16 : decode cX0_isDebt 16 = .ok (.ireturn, 1) := dk_172 (dk_at dksX0_isDebt_0 16 rfl rfl)
noncomputable def f_X0_isDebt (E : ax_E) (x0 : Option Nat) (x1 : Int) (h : ax_H) : Option (Int × ax_H) :=
  (ax_ce E h x0 0).bind fun _ => (f_X0_books E x0 h).bind fun q1 =>
  (ax_gI E q1.2 q1.1 2 5).bind fun v2 =>
  (f_X0_in E (i2 x1) 0 (i2 (v2 - 1)) q1.2).bind fun q3 =>
  if q3.1 = 0 ∨ q3.1 = 1 then some (q3.1, q3.2) else none
set_option maxHeartbeats 4000000 in
theorem we_X0_isDebt {l : Launch} {G : ax_G} {X : ax_X} {Q : State → Prop} {h0 h : ax_H} {ls : Array Slot} (hSF : ax_SF G) (B : ax_BL l G X cX0_isDebt 2 RX0 2 65) (Z : ax_Z X h0 ((some FieldType.boolean))) (hn : X.2.2.2.2.2.2.2.2.1.name = yX0_isDebt.name) (x0 : Option Nat) (x1 : Int) {w : Int × ax_H} (hl : ax_hl ls 2 [(0, .inr (.inr x0)), (1, .inl x1)]) (e : f_X0_isDebt G.2.2 x0 x1 h = some w) (hp : (fun w : Int × ax_H => Q = ax_Q G X h0 w.2 (some (.int (Int32.ofInt w.1)))) w) : ax_W G X Q h 0 ls [] := by
  unfold f_X0_isDebt at e
  refine ax_iload_n B dX0_isDebt_0 rfl hl 1 rfl ?_
  refine ax_i2l' B dX0_isDebt_1 ?_
  refine ax_lconst (v := 0) B dX0_isDebt_2 rfl ?_
  refine ax_aload_n B dX0_isDebt_3 rfl hl 0 rfl ?_
  refine ax_ivR (y := yX0_books) (n := 0) (As := []) B kd0 (lw_V q443 q445 qs2 q125 q446) (by decide +kernel) ⟨Nat.le_of_ble_eq_true rfl, Nat.le_of_ble_eq_true rfl⟩ (fun w1 e1 => mt_X0_books l G hSF x0 _ w1 e1) rfl hl.size (by simp only [List.map_cons, List.map_nil, List.sum_cons, List.sum_nil, va_rf_cat, ax_catI, ax_catL]; decide) dX0_isDebt_4 e (fun q1 e => ?_)
  refine ax_getI B ff_X0_107_2 (fun _ _ => rfl) dX0_isDebt_7 e (fun v2 e => ?_)
  refine ax_iconst B dX0_isDebt_10 ?_
  refine ax_isub' B dX0_isDebt_11 ?_
  refine ax_i2l' B dX0_isDebt_12 ?_
  refine ax_isI (y := yX0_in) (n := 3) (As := [.long (Int64.ofInt (i2 x1)), .long (Int64.ofInt 0), .long (Int64.ofInt (i2 (v2 - 1)))]) B (lw_S q420 q421 q125 q422) (by decide +kernel) ⟨Nat.le_of_ble_eq_true rfl, Nat.le_of_ble_eq_true rfl⟩ (fun w1 e1 => mt_X0_in l G hSF (i2 x1) 0 (i2 (v2 - 1)) _ w1 e1) rfl hl.size (by decide) dX0_isDebt_13 e (fun q3 e => ?_)
  have e8 := e
  have hp : Q = _ := hp
  subst hp
  exact ax_zreturn B Z dX0_isDebt_16 e8
theorem mt_X0_isDebt (l : Launch) (G : ax_G) (hSF : ax_SF G) (x0 : Option Nat) (x1 : Int) (h : ax_H) (w : Int × ax_H) (e : f_X0_isDebt G.2.2 x0 x1 h = some w) : ax_Met l G yX0_isDebt cX0_isDebt 2 ((some FieldType.boolean)) 2 65 [va_rf x0, .int (Int32.ofInt x1)] h w.2 (some (.int (Int32.ofInt w.1))) :=
  ax_enter [.inr (.inr x0), .inl x1] (y := yX0_isDebt) hSF (plainFor_of_name (by decide +kernel)) (Nat.le_of_ble_eq_true rfl) (fun X ls B Z hn hl => we_X0_isDebt hSF B Z hn x0 x1 hl e rfl)
def dkwX2_is_1 : List UInt8 := [3, 172]
abbrev dktX2_is_1 : List UInt8 := dkwX2_is_1 ++ []
def dkwX2_is_0 : List UInt8 := [42, 180, 0, 15, 27, 46, 28, 160, 0, 17, 42, 180, 0, 18, 27, 46, 29, 160, 0, 7, 4, 167, 0, 4]
abbrev dktX2_is_0 : List UInt8 := dkwX2_is_0 ++ dktX2_is_1
theorem dksX2_is_0 : cX2_is.data.toList.drop 0 = dktX2_is_0 := by decide +kernel
theorem dksX2_is_1 : cX2_is.data.toList.drop 24 = dktX2_is_1 := dk_seg dksX2_is_0 24 rfl rfl
theorem dX2_is_0 : decode cX2_is 0 = .ok (.aload_n 0, 1) := dk_42 (dk_at dksX2_is_0 0 rfl rfl)
theorem dX2_is_1 : decode cX2_is 1 = .ok (.getfield 15, 3) := dk_180 0 15 (dk_at dksX2_is_0 1 rfl rfl)
theorem dX2_is_4 : decode cX2_is 4 = .ok (.iload_n 1, 1) := dk_27 (dk_at dksX2_is_0 4 rfl rfl)
theorem dX2_is_5 : decode cX2_is 5 = .ok (.iaload, 1) := dk_46 (dk_at dksX2_is_0 5 rfl rfl)
theorem dX2_is_6 : decode cX2_is 6 = .ok (.iload_n 2, 1) := dk_28 (dk_at dksX2_is_0 6 rfl rfl)
theorem dX2_is_7 : decode cX2_is 7 = .ok (.if_icmp .ne 17, 3) := dk_160 0 17 (dk_at dksX2_is_0 7 rfl rfl)
theorem dX2_is_10 : decode cX2_is 10 = .ok (.aload_n 0, 1) := dk_42 (dk_at dksX2_is_0 10 rfl rfl)
theorem dX2_is_11 : decode cX2_is 11 = .ok (.getfield 18, 3) := dk_180 0 18 (dk_at dksX2_is_0 11 rfl rfl)
theorem dX2_is_14 : decode cX2_is 14 = .ok (.iload_n 1, 1) := dk_27 (dk_at dksX2_is_0 14 rfl rfl)
theorem dX2_is_15 : decode cX2_is 15 = .ok (.iaload, 1) := dk_46 (dk_at dksX2_is_0 15 rfl rfl)
theorem dX2_is_16 : decode cX2_is 16 = .ok (.iload_n 3, 1) := dk_29 (dk_at dksX2_is_0 16 rfl rfl)
theorem dX2_is_17 : decode cX2_is 17 = .ok (.if_icmp .ne 7, 3) := dk_160 0 7 (dk_at dksX2_is_0 17 rfl rfl)
theorem dX2_is_20 : decode cX2_is 20 = .ok (.iconst 1, 1) := dk_4 (dk_at dksX2_is_0 20 rfl rfl)
theorem dX2_is_21 : decode cX2_is 21 = .ok (.goto 4, 3) := dk_167 0 4 (dk_at dksX2_is_0 21 rfl rfl)
theorem dX2_is_24 : decode cX2_is 24 = .ok (.iconst 0, 1) := dk_3 (dk_at dksX2_is_1 0 rfl rfl)
theorem dX2_is_25 : decode cX2_is 25 = .ok (.ireturn, 1) := dk_172 (dk_at dksX2_is_1 1 rfl rfl)
noncomputable def f_X2_is_24 (E : ax_E) (h : ax_H) : Option (Int × ax_H) :=
  some (0, h)
noncomputable def f_X2_is (E : ax_E) (x0 : Option Nat) (x1 : Int) (x2 : Int) (x3 : Int) (h : ax_H) : Option (Int × ax_H) :=
  (ax_gR E h x0 2 1).bind fun v1 =>
  (ax_ld E h v1 100 x1).bind fun v2 =>
  if i2 v2 = i2 x2 then
    (ax_gR E h x0 2 2).bind fun v3 =>
    (ax_ld E h v3 100 x1).bind fun v4 =>
    if i2 v4 = i2 x3 then
      some (1, h)
    else
      f_X2_is_24 E h
  else
    f_X2_is_24 E h
set_option maxHeartbeats 4000000 in
theorem w_X2_is_24 {l : Launch} {G : ax_G} {X : ax_X} {Q : State → Prop} {h0 h : ax_H} {ls : Array Slot} (hSF : ax_SF G) (B : ax_BL l G X cX2_is 4 RX2 1 40) (Z : ax_Z X h0 ((some FieldType.boolean))) (hn : X.2.2.2.2.2.2.2.2.1.name = yX2_is.name) {w : Int × ax_H} (hl : ax_hl ls 4 []) (e : f_X2_is_24 G.2.2 h = some w) (hp : (fun w : Int × ax_H => Q = ax_Q G X h0 w.2 (some (.int (Int32.ofInt w.1)))) w) : ax_W G X Q h 24 ls [] := by
  unfold f_X2_is_24 at e
  refine ax_iconst B dX2_is_24 ?_
  have e8 := e
  have hp : Q = _ := hp
  subst hp
  exact ax_zreturnL (by decide) B Z dX2_is_25 e8
set_option maxHeartbeats 4000000 in
theorem we_X2_is {l : Launch} {G : ax_G} {X : ax_X} {Q : State → Prop} {h0 h : ax_H} {ls : Array Slot} (hSF : ax_SF G) (B : ax_BL l G X cX2_is 4 RX2 1 40) (Z : ax_Z X h0 ((some FieldType.boolean))) (hn : X.2.2.2.2.2.2.2.2.1.name = yX2_is.name) (x0 : Option Nat) (x1 : Int) (x2 : Int) (x3 : Int) {w : Int × ax_H} (hl : ax_hl ls 4 [(0, .inr (.inr x0)), (1, .inl x1), (2, .inl x2), (3, .inl x3)]) (e : f_X2_is G.2.2 x0 x1 x2 x3 h = some w) (hp : (fun w : Int × ax_H => Q = ax_Q G X h0 w.2 (some (.int (Int32.ofInt w.1)))) w) : ax_W G X Q h 0 ls [] := by
  unfold f_X2_is at e
  refine ax_aload_n B dX2_is_0 rfl hl 0 rfl ?_
  refine ax_getR B ff_X2_15_2 (fun _ _ => rfl) dX2_is_1 e (fun v1 e => ?_)
  refine ax_iload_n B dX2_is_4 rfl hl 1 rfl ?_
  refine ax_iald B kd100 dX2_is_5 e (fun v2 e => ?_)
  refine ax_iload_n B dX2_is_6 rfl hl 2 rfl ?_
  refine ax_icmp_ne (tgt := 24) B dX2_is_7 (by decide) e (fun e => ?_) (fun e => ?_)
  · refine ax_aload_n B dX2_is_10 rfl hl 0 rfl ?_
    refine ax_getR B ff_X2_18_2 (fun _ _ => rfl) dX2_is_11 e (fun v3 e => ?_)
    refine ax_iload_n B dX2_is_14 rfl hl 1 rfl ?_
    refine ax_iald B kd100 dX2_is_15 e (fun v4 e => ?_)
    refine ax_iload_n B dX2_is_16 rfl hl 3 rfl ?_
    refine ax_icmp_ne (tgt := 24) B dX2_is_17 (by decide) e (fun e => ?_) (fun e => ?_)
    · refine ax_iconst B dX2_is_20 ?_
      refine ax_goto (tgt := 25) B dX2_is_21 (by decide) ?_
      have e8 := e
      have hp : Q = _ := hp
      subst hp
      exact ax_zreturnL (by decide) B Z dX2_is_25 e8
    · exact w_X2_is_24 hSF B Z hn (hl.sub [] rfl) e hp
  · exact w_X2_is_24 hSF B Z hn (hl.sub [] rfl) e hp
theorem mt_X2_is (l : Launch) (G : ax_G) (hSF : ax_SF G) (x0 : Option Nat) (x1 : Int) (x2 : Int) (x3 : Int) (h : ax_H) (w : Int × ax_H) (e : f_X2_is G.2.2 x0 x1 x2 x3 h = some w) : ax_Met l G yX2_is cX2_is 4 ((some FieldType.boolean)) 1 40 [va_rf x0, .int (Int32.ofInt x1), .int (Int32.ofInt x2), .int (Int32.ofInt x3)] h w.2 (some (.int (Int32.ofInt w.1))) :=
  ax_enter [.inr (.inr x0), .inl x1, .inl x2, .inl x3] (y := yX2_is) hSF (plainFor_of_name (by decide +kernel)) (Nat.le_of_ble_eq_true rfl) (fun X ls B Z hn hl => we_X2_is hSF B Z hn x0 x1 x2 x3 hl e rfl)
def dkwX2_owes_1 : List UInt8 := [153, 0, 13, 42, 180, 0, 21, 21, 4, 46, 167, 0, 4, 3, 96, 62, 132, 4, 1, 167, 255, 219, 29, 172]
abbrev dktX2_owes_1 : List UInt8 := dkwX2_owes_1 ++ []
def dkwX2_owes_0 : List UInt8 := [3, 62, 3, 54, 4, 21, 4, 42, 180, 0, 33, 162, 0, 34, 29, 42, 21, 4, 27, 28, 182, 0, 44]
abbrev dktX2_owes_0 : List UInt8 := dkwX2_owes_0 ++ dktX2_owes_1
theorem dksX2_owes_0 : cX2_owes.data.toList.drop 0 = dktX2_owes_0 := by decide +kernel
theorem dksX2_owes_1 : cX2_owes.data.toList.drop 23 = dktX2_owes_1 := dk_seg dksX2_owes_0 23 rfl rfl
theorem dX2_owes_0 : decode cX2_owes 0 = .ok (.iconst 0, 1) := dk_3 (dk_at dksX2_owes_0 0 rfl rfl)
theorem dX2_owes_1 : decode cX2_owes 1 = .ok (.istore_n 3, 1) := dk_62 (dk_at dksX2_owes_0 1 rfl rfl)
theorem dX2_owes_2 : decode cX2_owes 2 = .ok (.iconst 0, 1) := dk_3 (dk_at dksX2_owes_0 2 rfl rfl)
theorem dX2_owes_3 : decode cX2_owes 3 = .ok (.istore 4, 2) := dk_54 4 (dk_at dksX2_owes_0 3 rfl rfl)
theorem dX2_owes_5 : decode cX2_owes 5 = .ok (.iload 4, 2) := dk_21 4 (dk_at dksX2_owes_0 5 rfl rfl)
theorem dX2_owes_7 : decode cX2_owes 7 = .ok (.aload_n 0, 1) := dk_42 (dk_at dksX2_owes_0 7 rfl rfl)
theorem dX2_owes_8 : decode cX2_owes 8 = .ok (.getfield 33, 3) := dk_180 0 33 (dk_at dksX2_owes_0 8 rfl rfl)
theorem dX2_owes_11 : decode cX2_owes 11 = .ok (.if_icmp .ge 34, 3) := dk_162 0 34 (dk_at dksX2_owes_0 11 rfl rfl)
theorem dX2_owes_14 : decode cX2_owes 14 = .ok (.iload_n 3, 1) := dk_29 (dk_at dksX2_owes_0 14 rfl rfl)
theorem dX2_owes_15 : decode cX2_owes 15 = .ok (.aload_n 0, 1) := dk_42 (dk_at dksX2_owes_0 15 rfl rfl)
theorem dX2_owes_16 : decode cX2_owes 16 = .ok (.iload 4, 2) := dk_21 4 (dk_at dksX2_owes_0 16 rfl rfl)
theorem dX2_owes_18 : decode cX2_owes 18 = .ok (.iload_n 1, 1) := dk_27 (dk_at dksX2_owes_0 18 rfl rfl)
theorem dX2_owes_19 : decode cX2_owes 19 = .ok (.iload_n 2, 1) := dk_28 (dk_at dksX2_owes_0 19 rfl rfl)
theorem dX2_owes_20 : decode cX2_owes 20 = .ok (.invokevirtual 44, 3) := dk_182 0 44 (dk_at dksX2_owes_0 20 rfl rfl)
theorem dX2_owes_23 : decode cX2_owes 23 = .ok (.ifCond .eq 13, 3) := dk_153 0 13 (dk_at dksX2_owes_1 0 rfl rfl)
theorem dX2_owes_26 : decode cX2_owes 26 = .ok (.aload_n 0, 1) := dk_42 (dk_at dksX2_owes_1 3 rfl rfl)
theorem dX2_owes_27 : decode cX2_owes 27 = .ok (.getfield 21, 3) := dk_180 0 21 (dk_at dksX2_owes_1 4 rfl rfl)
theorem dX2_owes_30 : decode cX2_owes 30 = .ok (.iload 4, 2) := dk_21 4 (dk_at dksX2_owes_1 7 rfl rfl)
theorem dX2_owes_32 : decode cX2_owes 32 = .ok (.iaload, 1) := dk_46 (dk_at dksX2_owes_1 9 rfl rfl)
theorem dX2_owes_33 : decode cX2_owes 33 = .ok (.goto 4, 3) := dk_167 0 4 (dk_at dksX2_owes_1 10 rfl rfl)
theorem dX2_owes_36 : decode cX2_owes 36 = .ok (.iconst 0, 1) := dk_3 (dk_at dksX2_owes_1 13 rfl rfl)
theorem dX2_owes_37 : decode cX2_owes 37 = .ok (.iadd, 1) := dk_96 (dk_at dksX2_owes_1 14 rfl rfl)
theorem dX2_owes_38 : decode cX2_owes 38 = .ok (.istore_n 3, 1) := dk_62 (dk_at dksX2_owes_1 15 rfl rfl)
theorem dX2_owes_39 : decode cX2_owes 39 = .ok (.iinc 4 1, 3) := dk_132 4 1 (dk_at dksX2_owes_1 16 rfl rfl)
theorem dX2_owes_42 : decode cX2_owes 42 = .ok (.goto (-37), 3) := dk_167 255 219 (dk_at dksX2_owes_1 19 rfl rfl)
theorem dX2_owes_45 : decode cX2_owes 45 = .ok (.iload_n 3, 1) := dk_29 (dk_at dksX2_owes_1 22 rfl rfl)
theorem dX2_owes_46 : decode cX2_owes 46 = .ok (.ireturn, 1) := dk_172 (dk_at dksX2_owes_1 23 rfl rfl)
noncomputable def f_X2_owes_37 (E : ax_E) (x0 : Option Nat) (x1 : Int) (x2 : Int) (x4 : Int) (s0 : Int) (s1 : Int) (h : ax_H) : Option ((Int × Int × ax_H) ⊕ (Int × ax_H)) :=
  some (.inl ((s0 + s1), (x4 + 1), h))
noncomputable def lb_X2_owes_5 (E : ax_E) (x0 : Option Nat) (x1 : Int) (x2 : Int) (x3 : Int) (x4 : Int) (h : ax_H) : Option ((Int × Int × ax_H) ⊕ (Int × ax_H)) :=
  (ax_gI E h x0 2 5).bind fun v1 =>
  if i2 x4 < i2 v1 then
    (ax_ce E h x0 2).bind fun _ => (f_X2_is E x0 x4 x1 x2 h).bind fun q2 =>
    if i2 q2.1 = 0 then
      f_X2_owes_37 E x0 x1 x2 x4 x3 0 q2.2
    else
      (ax_gR E q2.2 x0 2 3).bind fun v3 =>
      (ax_ld E q2.2 v3 100 x4).bind fun v4 =>
      f_X2_owes_37 E x0 x1 x2 x4 x3 v4 q2.2
  else
    (some (x3, h)).map Sum.inr
noncomputable def f_X2_owes_5 (E : ax_E) (x0 : Option Nat) (x1 : Int) (x2 : Int) (x3 : Int) (x4 : Int) (h : ax_H) : Option (Int × ax_H) :=
  ax_iter (fun s : Int × Int × ax_H => lb_X2_owes_5 E x0 x1 x2 s.1 s.2.1 s.2.2) (x3, x4, h)
noncomputable def f_X2_owes (E : ax_E) (x0 : Option Nat) (x1 : Int) (x2 : Int) (h : ax_H) : Option (Int × ax_H) :=
  f_X2_owes_5 E x0 x1 x2 0 0 h
def pi_X2_owes_5 (G : ax_G) (X : ax_X) (Q : State → Prop) (x0 : Option Nat) (x1 : Int) (x2 : Int) : Int × Int × ax_H → Prop := fun s => ∀ ls : Array Slot, ax_hl ls 5 [(0, .inr (.inr x0)), (1, .inl x1), (2, .inl x2), (3, .inl s.1), (4, .inl s.2.1)] → ax_W G X Q s.2.2 5 ls []
set_option maxHeartbeats 4000000 in
theorem w_X2_owes_37 {l : Launch} {G : ax_G} {X : ax_X} {Q : State → Prop} {h0 h : ax_H} {ls : Array Slot} (hSF : ax_SF G) (B : ax_BL l G X cX2_owes 5 RX2 2 63) (Z : ax_Z X h0 ((some FieldType.int))) (hn : X.2.2.2.2.2.2.2.2.1.name = yX2_owes.name) (x0 : Option Nat) (x1 : Int) (x2 : Int) (x4 : Int) (s0 : Int) (s1 : Int) {w : (Int × Int × ax_H) ⊕ (Int × ax_H)} (hl : ax_hl ls 5 [(0, .inr (.inr x0)), (1, .inl x1), (2, .inl x2), (4, .inl x4)]) (e : f_X2_owes_37 G.2.2 x0 x1 x2 x4 s0 s1 h = some w) (hp : (ax_PL (pi_X2_owes_5 G X Q x0 x1 x2) (fun w : Int × ax_H => Q = ax_Q G X h0 w.2 (some (.int (Int32.ofInt w.1))))) w) : ax_W G X Q h 37 ls [.int (Int32.ofInt s1), .int (Int32.ofInt s0)] := by
  unfold f_X2_owes_37 at e
  refine ax_iadd' B dX2_owes_37 ?_
  refine ax_istore_n (L' := [(3, .inl (s0 + s1)), (0, .inr (.inr x0)), (1, .inl x1), (2, .inl x2), (4, .inl x4)]) B dX2_owes_38 rfl hl (by decide) rfl (fun ls hl => ?_)
  refine ax_iinc (L' := [(4, .inl (x4 + 1)), (3, .inl (s0 + s1)), (0, .inr (.inr x0)), (1, .inl x1), (2, .inl x2)]) B dX2_owes_39 hl 4 rfl (by decide) rfl (fun ls hl => ?_)
  refine ax_goto (tgt := 5) B dX2_owes_42 (by decide) ?_
  cases e
  exact hp _ (hl.sub [2, 3, 4, 1, 0] rfl)
set_option maxHeartbeats 4000000 in
theorem wb_X2_owes_5 {l : Launch} {G : ax_G} {X : ax_X} {Q : State → Prop} {h0 h : ax_H} {ls : Array Slot} (hSF : ax_SF G) (B : ax_BL l G X cX2_owes 5 RX2 2 63) (Z : ax_Z X h0 ((some FieldType.int))) (hn : X.2.2.2.2.2.2.2.2.1.name = yX2_owes.name) (x0 : Option Nat) (x1 : Int) (x2 : Int) (x3 : Int) (x4 : Int) {w : (Int × Int × ax_H) ⊕ (Int × ax_H)} (hl : ax_hl ls 5 [(0, .inr (.inr x0)), (1, .inl x1), (2, .inl x2), (3, .inl x3), (4, .inl x4)]) (e : lb_X2_owes_5 G.2.2 x0 x1 x2 x3 x4 h = some w) (hp : (ax_PL (pi_X2_owes_5 G X Q x0 x1 x2) (fun w : Int × ax_H => Q = ax_Q G X h0 w.2 (some (.int (Int32.ofInt w.1))))) w) : ax_W G X Q h 5 ls [] := by
  unfold lb_X2_owes_5 at e
  refine ax_iload B dX2_owes_5 hl 4 rfl ?_
  refine ax_aload_n B dX2_owes_7 rfl hl 0 rfl ?_
  refine ax_getI B ff_X2_33_2 (fun _ _ => rfl) dX2_owes_8 e (fun v1 e => ?_)
  refine ax_icmp_ge (tgt := 45) B dX2_owes_11 (by decide) e (fun e => ?_) (fun e => ?_)
  · refine ax_iload_n B dX2_owes_14 rfl hl 3 rfl ?_
    refine ax_aload_n B dX2_owes_15 rfl hl 0 rfl ?_
    refine ax_iload B dX2_owes_16 hl 4 rfl ?_
    refine ax_iload_n B dX2_owes_18 rfl hl 1 rfl ?_
    refine ax_iload_n B dX2_owes_19 rfl hl 2 rfl ?_
    refine ax_ivI (y := yX2_is) (n := 3) (As := [.int (Int32.ofInt x4), .int (Int32.ofInt x1), .int (Int32.ofInt x2)]) B kd2 (lw_V q511 q512 q513 q130 q514) (by decide +kernel) ⟨Nat.le_of_ble_eq_true rfl, Nat.le_of_ble_eq_true rfl⟩ (fun w1 e1 => mt_X2_is l G hSF x0 x4 x1 x2 _ w1 e1) rfl hl.size (by simp only [List.map_cons, List.map_nil, List.sum_cons, List.sum_nil, va_rf_cat, ax_catI, ax_catL]; decide) dX2_owes_20 e (fun q2 e => ?_)
    refine ax_if_eq (tgt := 36) B dX2_owes_23 (by decide) e (fun e => ?_) (fun e => ?_)
    · refine ax_iconst B dX2_owes_36 ?_
      exact w_X2_owes_37 hSF B Z hn x0 x1 x2 x4 x3 0 (hl.sub [0, 1, 2, 4] rfl) e hp
    · refine ax_aload_n B dX2_owes_26 rfl hl 0 rfl ?_
      refine ax_getR B ff_X2_21_2 (fun _ _ => rfl) dX2_owes_27 e (fun v3 e => ?_)
      refine ax_iload B dX2_owes_30 hl 4 rfl ?_
      refine ax_iald B kd100 dX2_owes_32 e (fun v4 e => ?_)
      refine ax_goto (tgt := 37) B dX2_owes_33 (by decide) ?_
      exact w_X2_owes_37 hSF B Z hn x0 x1 x2 x4 x3 v4 (hl.sub [0, 1, 2, 4] rfl) e hp
  · obtain ⟨w, e9_1, rfl⟩ := Option.map_eq_some_iff.mp e
    have e := e9_1
    refine ax_iload_n B dX2_owes_45 rfl hl 3 rfl ?_
    have e8 := e
    have hp : Q = _ := hp
    subst hp
    exact ax_ireturn B Z dX2_owes_46 e8
theorem w_X2_owes_5 {l : Launch} {G : ax_G} {X : ax_X} {Q : State → Prop} {h0 h : ax_H} {ls : Array Slot} (hSF : ax_SF G) (B : ax_BL l G X cX2_owes 5 RX2 2 63) (Z : ax_Z X h0 ((some FieldType.int))) (hn : X.2.2.2.2.2.2.2.2.1.name = yX2_owes.name) (x0 : Option Nat) (x1 : Int) (x2 : Int) (x3 : Int) (x4 : Int) {w : Int × ax_H} (hl : ax_hl ls 5 [(0, .inr (.inr x0)), (1, .inl x1), (2, .inl x2), (3, .inl x3), (4, .inl x4)]) (e : f_X2_owes_5 G.2.2 x0 x1 x2 x3 x4 h = some w) (hp : (fun w : Int × ax_H => Q = ax_Q G X h0 w.2 (some (.int (Int32.ofInt w.1)))) w) : ax_W G X Q h 5 ls [] :=
  ax_iter_W (Pin := pi_X2_owes_5 G X Q x0 x1 x2) (Pout := (fun w : Int × ax_H => Q = ax_Q G X h0 w.2 (some (.int (Int32.ofInt w.1))))) (fun s w e hp ls hl => wb_X2_owes_5 hSF B Z hn x0 x1 x2 s.1 s.2.1 hl e hp) _ _ e hp ls hl
set_option maxHeartbeats 4000000 in
theorem we_X2_owes {l : Launch} {G : ax_G} {X : ax_X} {Q : State → Prop} {h0 h : ax_H} {ls : Array Slot} (hSF : ax_SF G) (B : ax_BL l G X cX2_owes 5 RX2 2 63) (Z : ax_Z X h0 ((some FieldType.int))) (hn : X.2.2.2.2.2.2.2.2.1.name = yX2_owes.name) (x0 : Option Nat) (x1 : Int) (x2 : Int) {w : Int × ax_H} (hl : ax_hl ls 5 [(0, .inr (.inr x0)), (1, .inl x1), (2, .inl x2)]) (e : f_X2_owes G.2.2 x0 x1 x2 h = some w) (hp : (fun w : Int × ax_H => Q = ax_Q G X h0 w.2 (some (.int (Int32.ofInt w.1)))) w) : ax_W G X Q h 0 ls [] := by
  unfold f_X2_owes at e
  refine ax_iconst B dX2_owes_0 ?_
  refine ax_istore_n (L' := [(3, .inl 0), (0, .inr (.inr x0)), (1, .inl x1), (2, .inl x2)]) B dX2_owes_1 rfl hl (by decide) rfl (fun ls hl => ?_)
  refine ax_iconst B dX2_owes_2 ?_
  refine ax_istore (L' := [(4, .inl 0), (3, .inl 0), (0, .inr (.inr x0)), (1, .inl x1), (2, .inl x2)]) B dX2_owes_3 hl (by decide) rfl (fun ls hl => ?_)
  exact w_X2_owes_5 hSF B Z hn x0 x1 x2 0 0 (hl.sub [2, 3, 4, 1, 0] rfl) e hp
theorem mt_X2_owes (l : Launch) (G : ax_G) (hSF : ax_SF G) (x0 : Option Nat) (x1 : Int) (x2 : Int) (h : ax_H) (w : Int × ax_H) (e : f_X2_owes G.2.2 x0 x1 x2 h = some w) : ax_Met l G yX2_owes cX2_owes 5 ((some FieldType.int)) 2 63 [va_rf x0, .int (Int32.ofInt x1), .int (Int32.ofInt x2)] h w.2 (some (.int (Int32.ofInt w.1))) :=
  ax_enter [.inr (.inr x0), .inl x1, .inl x2] (y := yX2_owes) hSF (plainFor_of_name (by decide +kernel)) (Nat.le_of_ble_eq_true rfl) (fun X ls B Z hn hl => we_X2_owes hSF B Z hn x0 x1 x2 hl e rfl)
def dkwX0_ask_6 : List UInt8 := [177]
abbrev dktX0_ask_6 : List UInt8 := dkwX0_ask_6 ++ []
def dkwX0_ask_5 : List UInt8 := [16, 8, 21, 5, 133, 80, 42, 180, 0, 38, 180, 0, 246, 16, 9, 42, 180, 0, 20, 180, 0, 197, 133, 80]
abbrev dktX0_ask_5 : List UInt8 := dkwX0_ask_5 ++ dktX0_ask_6
def dkwX0_ask_4 : List UInt8 := [20, 0, 250, 80, 42, 180, 0, 38, 180, 0, 246, 16, 7, 20, 0, 250, 80, 42, 180, 0, 38, 180, 0, 246]
abbrev dktX0_ask_4 : List UInt8 := dkwX0_ask_4 ++ dktX0_ask_5
def dkwX0_ask_3 : List UInt8 := [180, 0, 246, 8, 42, 180, 0, 20, 180, 0, 136, 27, 46, 133, 80, 42, 180, 0, 38, 180, 0, 246, 16, 6]
abbrev dktX0_ask_3 : List UInt8 := dkwX0_ask_3 ++ dktX0_ask_4
def dkwX0_ask_2 : List UInt8 := [180, 0, 38, 180, 0, 246, 7, 42, 180, 0, 20, 180, 0, 133, 27, 46, 133, 80, 42, 180, 0, 38]
abbrev dktX0_ask_2 : List UInt8 := dkwX0_ask_2 ++ dktX0_ask_3
def dkwX0_ask_1 : List UInt8 := [180, 0, 38, 180, 0, 246, 5, 29, 133, 80, 42, 180, 0, 38, 180, 0, 246, 6, 21, 4, 133, 80, 42]
abbrev dktX0_ask_1 : List UInt8 := dkwX0_ask_1 ++ dktX0_ask_2
def dkwX0_ask_0 : List UInt8 := [42, 180, 0, 38, 180, 0, 246, 3, 27, 133, 80, 42, 180, 0, 38, 180, 0, 246, 4, 28, 133, 80, 42]
abbrev dktX0_ask_0 : List UInt8 := dkwX0_ask_0 ++ dktX0_ask_1
theorem dksX0_ask_0 : cX0_ask.data.toList.drop 0 = dktX0_ask_0 := by decide +kernel
theorem dksX0_ask_1 : cX0_ask.data.toList.drop 23 = dktX0_ask_1 := dk_seg dksX0_ask_0 23 rfl rfl
theorem dksX0_ask_2 : cX0_ask.data.toList.drop 46 = dktX0_ask_2 := dk_seg dksX0_ask_1 23 rfl rfl
theorem dksX0_ask_3 : cX0_ask.data.toList.drop 68 = dktX0_ask_3 := dk_seg dksX0_ask_2 22 rfl rfl
theorem dksX0_ask_4 : cX0_ask.data.toList.drop 92 = dktX0_ask_4 := dk_seg dksX0_ask_3 24 rfl rfl
theorem dksX0_ask_5 : cX0_ask.data.toList.drop 116 = dktX0_ask_5 := dk_seg dksX0_ask_4 24 rfl rfl
theorem dksX0_ask_6 : cX0_ask.data.toList.drop 140 = dktX0_ask_6 := dk_seg dksX0_ask_5 24 rfl rfl
theorem dX0_ask_0 : decode cX0_ask 0 = .ok (.aload_n 0, 1) := dk_42 (dk_at dksX0_ask_0 0 rfl rfl)
theorem dX0_ask_1 : decode cX0_ask 1 = .ok (.getfield 38, 3) := dk_180 0 38 (dk_at dksX0_ask_0 1 rfl rfl)
theorem dX0_ask_4 : decode cX0_ask 4 = .ok (.getfield 246, 3) := dk_180 0 246 (dk_at dksX0_ask_0 4 rfl rfl)
theorem dX0_ask_7 : decode cX0_ask 7 = .ok (.iconst 0, 1) := dk_3 (dk_at dksX0_ask_0 7 rfl rfl)
theorem dX0_ask_8 : decode cX0_ask 8 = .ok (.iload_n 1, 1) := dk_27 (dk_at dksX0_ask_0 8 rfl rfl)
theorem dX0_ask_9 : decode cX0_ask 9 = .ok (.i2l, 1) := dk_133 (dk_at dksX0_ask_0 9 rfl rfl)
theorem dX0_ask_10 : decode cX0_ask 10 = .ok (.lastore, 1) := dk_80 (dk_at dksX0_ask_0 10 rfl rfl)
theorem dX0_ask_11 : decode cX0_ask 11 = .ok (.aload_n 0, 1) := dk_42 (dk_at dksX0_ask_0 11 rfl rfl)
theorem dX0_ask_12 : decode cX0_ask 12 = .ok (.getfield 38, 3) := dk_180 0 38 (dk_at dksX0_ask_0 12 rfl rfl)
theorem dX0_ask_15 : decode cX0_ask 15 = .ok (.getfield 246, 3) := dk_180 0 246 (dk_at dksX0_ask_0 15 rfl rfl)
theorem dX0_ask_18 : decode cX0_ask 18 = .ok (.iconst 1, 1) := dk_4 (dk_at dksX0_ask_0 18 rfl rfl)
theorem dX0_ask_19 : decode cX0_ask 19 = .ok (.iload_n 2, 1) := dk_28 (dk_at dksX0_ask_0 19 rfl rfl)
theorem dX0_ask_20 : decode cX0_ask 20 = .ok (.i2l, 1) := dk_133 (dk_at dksX0_ask_0 20 rfl rfl)
theorem dX0_ask_21 : decode cX0_ask 21 = .ok (.lastore, 1) := dk_80 (dk_at dksX0_ask_0 21 rfl rfl)
theorem dX0_ask_22 : decode cX0_ask 22 = .ok (.aload_n 0, 1) := dk_42 (dk_at dksX0_ask_0 22 rfl rfl)
theorem dX0_ask_23 : decode cX0_ask 23 = .ok (.getfield 38, 3) := dk_180 0 38 (dk_at dksX0_ask_1 0 rfl rfl)
theorem dX0_ask_26 : decode cX0_ask 26 = .ok (.getfield 246, 3) := dk_180 0 246 (dk_at dksX0_ask_1 3 rfl rfl)
theorem dX0_ask_29 : decode cX0_ask 29 = .ok (.iconst 2, 1) := dk_5 (dk_at dksX0_ask_1 6 rfl rfl)
theorem dX0_ask_30 : decode cX0_ask 30 = .ok (.iload_n 3, 1) := dk_29 (dk_at dksX0_ask_1 7 rfl rfl)
theorem dX0_ask_31 : decode cX0_ask 31 = .ok (.i2l, 1) := dk_133 (dk_at dksX0_ask_1 8 rfl rfl)
theorem dX0_ask_32 : decode cX0_ask 32 = .ok (.lastore, 1) := dk_80 (dk_at dksX0_ask_1 9 rfl rfl)
theorem dX0_ask_33 : decode cX0_ask 33 = .ok (.aload_n 0, 1) := dk_42 (dk_at dksX0_ask_1 10 rfl rfl)
theorem dX0_ask_34 : decode cX0_ask 34 = .ok (.getfield 38, 3) := dk_180 0 38 (dk_at dksX0_ask_1 11 rfl rfl)
theorem dX0_ask_37 : decode cX0_ask 37 = .ok (.getfield 246, 3) := dk_180 0 246 (dk_at dksX0_ask_1 14 rfl rfl)
theorem dX0_ask_40 : decode cX0_ask 40 = .ok (.iconst 3, 1) := dk_6 (dk_at dksX0_ask_1 17 rfl rfl)
theorem dX0_ask_41 : decode cX0_ask 41 = .ok (.iload 4, 2) := dk_21 4 (dk_at dksX0_ask_1 18 rfl rfl)
theorem dX0_ask_43 : decode cX0_ask 43 = .ok (.i2l, 1) := dk_133 (dk_at dksX0_ask_1 20 rfl rfl)
theorem dX0_ask_44 : decode cX0_ask 44 = .ok (.lastore, 1) := dk_80 (dk_at dksX0_ask_1 21 rfl rfl)
theorem dX0_ask_45 : decode cX0_ask 45 = .ok (.aload_n 0, 1) := dk_42 (dk_at dksX0_ask_1 22 rfl rfl)
theorem dX0_ask_46 : decode cX0_ask 46 = .ok (.getfield 38, 3) := dk_180 0 38 (dk_at dksX0_ask_2 0 rfl rfl)
theorem dX0_ask_49 : decode cX0_ask 49 = .ok (.getfield 246, 3) := dk_180 0 246 (dk_at dksX0_ask_2 3 rfl rfl)
theorem dX0_ask_52 : decode cX0_ask 52 = .ok (.iconst 4, 1) := dk_7 (dk_at dksX0_ask_2 6 rfl rfl)
theorem dX0_ask_53 : decode cX0_ask 53 = .ok (.aload_n 0, 1) := dk_42 (dk_at dksX0_ask_2 7 rfl rfl)
theorem dX0_ask_54 : decode cX0_ask 54 = .ok (.getfield 20, 3) := dk_180 0 20 (dk_at dksX0_ask_2 8 rfl rfl)
theorem dX0_ask_57 : decode cX0_ask 57 = .ok (.getfield 133, 3) := dk_180 0 133 (dk_at dksX0_ask_2 11 rfl rfl)
theorem dX0_ask_60 : decode cX0_ask 60 = .ok (.iload_n 1, 1) := dk_27 (dk_at dksX0_ask_2 14 rfl rfl)
theorem dX0_ask_61 : decode cX0_ask 61 = .ok (.iaload, 1) := dk_46 (dk_at dksX0_ask_2 15 rfl rfl)
theorem dX0_ask_62 : decode cX0_ask 62 = .ok (.i2l, 1) := dk_133 (dk_at dksX0_ask_2 16 rfl rfl)
theorem dX0_ask_63 : decode cX0_ask 63 = .ok (.lastore, 1) := dk_80 (dk_at dksX0_ask_2 17 rfl rfl)
theorem dX0_ask_64 : decode cX0_ask 64 = .ok (.aload_n 0, 1) := dk_42 (dk_at dksX0_ask_2 18 rfl rfl)
theorem dX0_ask_65 : decode cX0_ask 65 = .ok (.getfield 38, 3) := dk_180 0 38 (dk_at dksX0_ask_2 19 rfl rfl)
theorem dX0_ask_68 : decode cX0_ask 68 = .ok (.getfield 246, 3) := dk_180 0 246 (dk_at dksX0_ask_3 0 rfl rfl)
theorem dX0_ask_71 : decode cX0_ask 71 = .ok (.iconst 5, 1) := dk_8 (dk_at dksX0_ask_3 3 rfl rfl)
theorem dX0_ask_72 : decode cX0_ask 72 = .ok (.aload_n 0, 1) := dk_42 (dk_at dksX0_ask_3 4 rfl rfl)
theorem dX0_ask_73 : decode cX0_ask 73 = .ok (.getfield 20, 3) := dk_180 0 20 (dk_at dksX0_ask_3 5 rfl rfl)
theorem dX0_ask_76 : decode cX0_ask 76 = .ok (.getfield 136, 3) := dk_180 0 136 (dk_at dksX0_ask_3 8 rfl rfl)
theorem dX0_ask_79 : decode cX0_ask 79 = .ok (.iload_n 1, 1) := dk_27 (dk_at dksX0_ask_3 11 rfl rfl)
theorem dX0_ask_80 : decode cX0_ask 80 = .ok (.iaload, 1) := dk_46 (dk_at dksX0_ask_3 12 rfl rfl)
theorem dX0_ask_81 : decode cX0_ask 81 = .ok (.i2l, 1) := dk_133 (dk_at dksX0_ask_3 13 rfl rfl)
theorem dX0_ask_82 : decode cX0_ask 82 = .ok (.lastore, 1) := dk_80 (dk_at dksX0_ask_3 14 rfl rfl)
theorem dX0_ask_83 : decode cX0_ask 83 = .ok (.aload_n 0, 1) := dk_42 (dk_at dksX0_ask_3 15 rfl rfl)
theorem dX0_ask_84 : decode cX0_ask 84 = .ok (.getfield 38, 3) := dk_180 0 38 (dk_at dksX0_ask_3 16 rfl rfl)
theorem dX0_ask_87 : decode cX0_ask 87 = .ok (.getfield 246, 3) := dk_180 0 246 (dk_at dksX0_ask_3 19 rfl rfl)
theorem dX0_ask_90 : decode cX0_ask 90 = .ok (.bipush 6, 2) := dk_16 6 (dk_at dksX0_ask_3 22 rfl rfl)
theorem dX0_ask_92 : decode cX0_ask 92 = .ok (.ldc2_w 250, 3) := dk_20 0 250 (dk_at dksX0_ask_4 0 rfl rfl)
theorem dX0_ask_95 : decode cX0_ask 95 = .ok (.lastore, 1) := dk_80 (dk_at dksX0_ask_4 3 rfl rfl)
theorem dX0_ask_96 : decode cX0_ask 96 = .ok (.aload_n 0, 1) := dk_42 (dk_at dksX0_ask_4 4 rfl rfl)
theorem dX0_ask_97 : decode cX0_ask 97 = .ok (.getfield 38, 3) := dk_180 0 38 (dk_at dksX0_ask_4 5 rfl rfl)
theorem dX0_ask_100 : decode cX0_ask 100 = .ok (.getfield 246, 3) := dk_180 0 246 (dk_at dksX0_ask_4 8 rfl rfl)
theorem dX0_ask_103 : decode cX0_ask 103 = .ok (.bipush 7, 2) := dk_16 7 (dk_at dksX0_ask_4 11 rfl rfl)
theorem dX0_ask_105 : decode cX0_ask 105 = .ok (.ldc2_w 250, 3) := dk_20 0 250 (dk_at dksX0_ask_4 13 rfl rfl)
theorem dX0_ask_108 : decode cX0_ask 108 = .ok (.lastore, 1) := dk_80 (dk_at dksX0_ask_4 16 rfl rfl)
theorem dX0_ask_109 : decode cX0_ask 109 = .ok (.aload_n 0, 1) := dk_42 (dk_at dksX0_ask_4 17 rfl rfl)
theorem dX0_ask_110 : decode cX0_ask 110 = .ok (.getfield 38, 3) := dk_180 0 38 (dk_at dksX0_ask_4 18 rfl rfl)
theorem dX0_ask_113 : decode cX0_ask 113 = .ok (.getfield 246, 3) := dk_180 0 246 (dk_at dksX0_ask_4 21 rfl rfl)
theorem dX0_ask_116 : decode cX0_ask 116 = .ok (.bipush 8, 2) := dk_16 8 (dk_at dksX0_ask_5 0 rfl rfl)
theorem dX0_ask_118 : decode cX0_ask 118 = .ok (.iload 5, 2) := dk_21 5 (dk_at dksX0_ask_5 2 rfl rfl)
theorem dX0_ask_120 : decode cX0_ask 120 = .ok (.i2l, 1) := dk_133 (dk_at dksX0_ask_5 4 rfl rfl)
theorem dX0_ask_121 : decode cX0_ask 121 = .ok (.lastore, 1) := dk_80 (dk_at dksX0_ask_5 5 rfl rfl)
theorem dX0_ask_122 : decode cX0_ask 122 = .ok (.aload_n 0, 1) := dk_42 (dk_at dksX0_ask_5 6 rfl rfl)
theorem dX0_ask_123 : decode cX0_ask 123 = .ok (.getfield 38, 3) := dk_180 0 38 (dk_at dksX0_ask_5 7 rfl rfl)
theorem dX0_ask_126 : decode cX0_ask 126 = .ok (.getfield 246, 3) := dk_180 0 246 (dk_at dksX0_ask_5 10 rfl rfl)
theorem dX0_ask_129 : decode cX0_ask 129 = .ok (.bipush 9, 2) := dk_16 9 (dk_at dksX0_ask_5 13 rfl rfl)
theorem dX0_ask_131 : decode cX0_ask 131 = .ok (.aload_n 0, 1) := dk_42 (dk_at dksX0_ask_5 15 rfl rfl)
theorem dX0_ask_132 : decode cX0_ask 132 = .ok (.getfield 20, 3) := dk_180 0 20 (dk_at dksX0_ask_5 16 rfl rfl)
theorem dX0_ask_135 : decode cX0_ask 135 = .ok (.getfield 197, 3) := dk_180 0 197 (dk_at dksX0_ask_5 19 rfl rfl)
theorem dX0_ask_138 : decode cX0_ask 138 = .ok (.i2l, 1) := dk_133 (dk_at dksX0_ask_5 22 rfl rfl)
theorem dX0_ask_139 : decode cX0_ask 139 = .ok (.lastore, 1) := dk_80 (dk_at dksX0_ask_5 23 rfl rfl)
theorem dX0_ask_140 : decode cX0_ask 140 = .ok (.return_, 1) := dk_177 (dk_at dksX0_ask_6 0 rfl rfl)
noncomputable def f_X0_ask (E : ax_E) (x0 : Option Nat) (x1 : Int) (x2 : Int) (x3 : Int) (x4 : Int) (x5 : Int) (h : ax_H) : Option (ax_H) :=
  (ax_gR E h x0 0 3).bind fun v1 =>
  (ax_gR E h v1 3 0).bind fun v2 =>
  (ax_sto h v2 103 0 (i2 x1)).bind fun h3 =>
  (ax_gR E h3 x0 0 3).bind fun v4 =>
  (ax_gR E h3 v4 3 0).bind fun v5 =>
  (ax_sto h3 v5 103 1 (i2 x2)).bind fun h6 =>
  (ax_gR E h6 x0 0 3).bind fun v7 =>
  (ax_gR E h6 v7 3 0).bind fun v8 =>
  (ax_sto h6 v8 103 2 (i2 x3)).bind fun h9 =>
  (ax_gR E h9 x0 0 3).bind fun v10 =>
  (ax_gR E h9 v10 3 0).bind fun v11 =>
  (ax_sto h9 v11 103 3 (i2 x4)).bind fun h12 =>
  (ax_gR E h12 x0 0 3).bind fun v13 =>
  (ax_gR E h12 v13 3 0).bind fun v14 =>
  (ax_gR E h12 x0 0 0).bind fun v15 =>
  (ax_gR E h12 v15 1 4).bind fun v16 =>
  (ax_ld E h12 v16 100 x1).bind fun v17 =>
  (ax_sto h12 v14 103 4 (i2 v17)).bind fun h18 =>
  (ax_gR E h18 x0 0 3).bind fun v19 =>
  (ax_gR E h18 v19 3 0).bind fun v20 =>
  (ax_gR E h18 x0 0 0).bind fun v21 =>
  (ax_gR E h18 v21 1 5).bind fun v22 =>
  (ax_ld E h18 v22 100 x1).bind fun v23 =>
  (ax_sto h18 v20 103 5 (i2 v23)).bind fun h24 =>
  (ax_gR E h24 x0 0 3).bind fun v25 =>
  (ax_gR E h24 v25 3 0).bind fun v26 =>
  (ax_sto h24 v26 103 6 (-1)).bind fun h27 =>
  (ax_gR E h27 x0 0 3).bind fun v28 =>
  (ax_gR E h27 v28 3 0).bind fun v29 =>
  (ax_sto h27 v29 103 7 (-1)).bind fun h30 =>
  (ax_gR E h30 x0 0 3).bind fun v31 =>
  (ax_gR E h30 v31 3 0).bind fun v32 =>
  (ax_sto h30 v32 103 8 (i2 x5)).bind fun h33 =>
  (ax_gR E h33 x0 0 3).bind fun v34 =>
  (ax_gR E h33 v34 3 0).bind fun v35 =>
  (ax_gR E h33 x0 0 0).bind fun v36 =>
  (ax_gI E h33 v36 1 7).bind fun v37 =>
  (ax_sto h33 v35 103 9 (i2 v37)).bind fun h38 =>
  some h38
set_option maxHeartbeats 4000000 in
theorem we_X0_ask {l : Launch} {G : ax_G} {X : ax_X} {Q : State → Prop} {h0 h : ax_H} {ls : Array Slot} (hSF : ax_SF G) (B : ax_BL l G X cX0_ask 6 RX0 1 40) (Z : ax_Z X h0 none) (hn : X.2.2.2.2.2.2.2.2.1.name = yX0_ask.name) (x0 : Option Nat) (x1 : Int) (x2 : Int) (x3 : Int) (x4 : Int) (x5 : Int) {w : ax_H} (hl : ax_hl ls 6 [(0, .inr (.inr x0)), (1, .inl x1), (2, .inl x2), (3, .inl x3), (4, .inl x4), (5, .inl x5)]) (e : f_X0_ask G.2.2 x0 x1 x2 x3 x4 x5 h = some w) (hp : (fun w : ax_H => Q = ax_Q G X h0 w none) w) : ax_W G X Q h 0 ls [] := by
  unfold f_X0_ask at e
  refine ax_aload_n B dX0_ask_0 rfl hl 0 rfl ?_
  refine ax_getR B ff_X0_38_0 (fun _ _ => rfl) dX0_ask_1 e (fun v1 e => ?_)
  refine ax_getR B ff_X0_246_3 (fun _ _ => rfl) dX0_ask_4 e (fun v2 e => ?_)
  refine ax_iconst B dX0_ask_7 ?_
  refine ax_iload_n B dX0_ask_8 rfl hl 1 rfl ?_
  refine ax_i2l' B dX0_ask_9 ?_
  refine ax_last B kd103 dX0_ask_10 e (fun h3 e => ?_)
  refine ax_aload_n B dX0_ask_11 rfl hl 0 rfl ?_
  refine ax_getR B ff_X0_38_0 (fun _ _ => rfl) dX0_ask_12 e (fun v4 e => ?_)
  refine ax_getR B ff_X0_246_3 (fun _ _ => rfl) dX0_ask_15 e (fun v5 e => ?_)
  refine ax_iconst B dX0_ask_18 ?_
  refine ax_iload_n B dX0_ask_19 rfl hl 2 rfl ?_
  refine ax_i2l' B dX0_ask_20 ?_
  refine ax_last B kd103 dX0_ask_21 e (fun h6 e => ?_)
  refine ax_aload_n B dX0_ask_22 rfl hl 0 rfl ?_
  refine ax_getR B ff_X0_38_0 (fun _ _ => rfl) dX0_ask_23 e (fun v7 e => ?_)
  refine ax_getR B ff_X0_246_3 (fun _ _ => rfl) dX0_ask_26 e (fun v8 e => ?_)
  refine ax_iconst B dX0_ask_29 ?_
  refine ax_iload_n B dX0_ask_30 rfl hl 3 rfl ?_
  refine ax_i2l' B dX0_ask_31 ?_
  refine ax_last B kd103 dX0_ask_32 e (fun h9 e => ?_)
  refine ax_aload_n B dX0_ask_33 rfl hl 0 rfl ?_
  refine ax_getR B ff_X0_38_0 (fun _ _ => rfl) dX0_ask_34 e (fun v10 e => ?_)
  refine ax_getR B ff_X0_246_3 (fun _ _ => rfl) dX0_ask_37 e (fun v11 e => ?_)
  refine ax_iconst B dX0_ask_40 ?_
  refine ax_iload B dX0_ask_41 hl 4 rfl ?_
  refine ax_i2l' B dX0_ask_43 ?_
  refine ax_last B kd103 dX0_ask_44 e (fun h12 e => ?_)
  refine ax_aload_n B dX0_ask_45 rfl hl 0 rfl ?_
  refine ax_getR B ff_X0_38_0 (fun _ _ => rfl) dX0_ask_46 e (fun v13 e => ?_)
  refine ax_getR B ff_X0_246_3 (fun _ _ => rfl) dX0_ask_49 e (fun v14 e => ?_)
  refine ax_iconst B dX0_ask_52 ?_
  refine ax_aload_n B dX0_ask_53 rfl hl 0 rfl ?_
  refine ax_getR B ff_X0_20_0 (fun _ _ => rfl) dX0_ask_54 e (fun v15 e => ?_)
  refine ax_getR B ff_X0_133_1 (fun _ _ => rfl) dX0_ask_57 e (fun v16 e => ?_)
  refine ax_iload_n B dX0_ask_60 rfl hl 1 rfl ?_
  refine ax_iald B kd100 dX0_ask_61 e (fun v17 e => ?_)
  refine ax_i2l' B dX0_ask_62 ?_
  refine ax_last B kd103 dX0_ask_63 e (fun h18 e => ?_)
  refine ax_aload_n B dX0_ask_64 rfl hl 0 rfl ?_
  refine ax_getR B ff_X0_38_0 (fun _ _ => rfl) dX0_ask_65 e (fun v19 e => ?_)
  refine ax_getR B ff_X0_246_3 (fun _ _ => rfl) dX0_ask_68 e (fun v20 e => ?_)
  refine ax_iconst B dX0_ask_71 ?_
  refine ax_aload_n B dX0_ask_72 rfl hl 0 rfl ?_
  refine ax_getR B ff_X0_20_0 (fun _ _ => rfl) dX0_ask_73 e (fun v21 e => ?_)
  refine ax_getR B ff_X0_136_1 (fun _ _ => rfl) dX0_ask_76 e (fun v22 e => ?_)
  refine ax_iload_n B dX0_ask_79 rfl hl 1 rfl ?_
  refine ax_iald B kd100 dX0_ask_80 e (fun v23 e => ?_)
  refine ax_i2l' B dX0_ask_81 ?_
  refine ax_last B kd103 dX0_ask_82 e (fun h24 e => ?_)
  refine ax_aload_n B dX0_ask_83 rfl hl 0 rfl ?_
  refine ax_getR B ff_X0_38_0 (fun _ _ => rfl) dX0_ask_84 e (fun v25 e => ?_)
  refine ax_getR B ff_X0_246_3 (fun _ _ => rfl) dX0_ask_87 e (fun v26 e => ?_)
  refine ax_bipush B dX0_ask_90 (by decide) ?_
  refine ax_ldc2 B cn_X0_250 dX0_ask_92 ?_
  refine ax_last B kd103 dX0_ask_95 e (fun h27 e => ?_)
  refine ax_aload_n B dX0_ask_96 rfl hl 0 rfl ?_
  refine ax_getR B ff_X0_38_0 (fun _ _ => rfl) dX0_ask_97 e (fun v28 e => ?_)
  refine ax_getR B ff_X0_246_3 (fun _ _ => rfl) dX0_ask_100 e (fun v29 e => ?_)
  refine ax_bipush B dX0_ask_103 (by decide) ?_
  refine ax_ldc2 B cn_X0_250 dX0_ask_105 ?_
  refine ax_last B kd103 dX0_ask_108 e (fun h30 e => ?_)
  refine ax_aload_n B dX0_ask_109 rfl hl 0 rfl ?_
  refine ax_getR B ff_X0_38_0 (fun _ _ => rfl) dX0_ask_110 e (fun v31 e => ?_)
  refine ax_getR B ff_X0_246_3 (fun _ _ => rfl) dX0_ask_113 e (fun v32 e => ?_)
  refine ax_bipush B dX0_ask_116 (by decide) ?_
  refine ax_iload B dX0_ask_118 hl 5 rfl ?_
  refine ax_i2l' B dX0_ask_120 ?_
  refine ax_last B kd103 dX0_ask_121 e (fun h33 e => ?_)
  refine ax_aload_n B dX0_ask_122 rfl hl 0 rfl ?_
  refine ax_getR B ff_X0_38_0 (fun _ _ => rfl) dX0_ask_123 e (fun v34 e => ?_)
  refine ax_getR B ff_X0_246_3 (fun _ _ => rfl) dX0_ask_126 e (fun v35 e => ?_)
  refine ax_bipush B dX0_ask_129 (by decide) ?_
  refine ax_aload_n B dX0_ask_131 rfl hl 0 rfl ?_
  refine ax_getR B ff_X0_20_0 (fun _ _ => rfl) dX0_ask_132 e (fun v36 e => ?_)
  refine ax_getI B ff_X0_197_1 (fun _ _ => rfl) dX0_ask_135 e (fun v37 e => ?_)
  refine ax_i2l' B dX0_ask_138 ?_
  refine ax_last B kd103 dX0_ask_139 e (fun h38 e => ?_)
  have e8 := e
  have hp : Q = _ := hp
  subst hp
  exact ax_return B Z dX0_ask_140 e8
theorem mt_X0_ask (l : Launch) (G : ax_G) (hSF : ax_SF G) (x0 : Option Nat) (x1 : Int) (x2 : Int) (x3 : Int) (x4 : Int) (x5 : Int) (h : ax_H) (w : ax_H) (e : f_X0_ask G.2.2 x0 x1 x2 x3 x4 x5 h = some w) : ax_Met l G yX0_ask cX0_ask 6 none 1 40 [va_rf x0, .int (Int32.ofInt x1), .int (Int32.ofInt x2), .int (Int32.ofInt x3), .int (Int32.ofInt x4), .int (Int32.ofInt x5)] h w none :=
  ax_enter [.inr (.inr x0), .inl x1, .inl x2, .inl x3, .inl x4, .inl x5] (y := yX0_ask) hSF (plainFor_of_name (by decide +kernel)) (Nat.le_of_ble_eq_true rfl) (fun X ls B Z hn hl => we_X0_ask hSF B Z hn x0 x1 x2 x3 x4 x5 hl e rfl)
def dkwJ5_checkIndex_0 : List UInt8 := [26, 155, 0, 8, 26, 27, 161, 0, 10, 44, 26, 27, 184, 0, 95, 191, 26, 172]
abbrev dktJ5_checkIndex_0 : List UInt8 := dkwJ5_checkIndex_0 ++ []
theorem dksJ5_checkIndex_0 : cJ5_checkIndex.data.toList.drop 0 = dktJ5_checkIndex_0 := by decide +kernel
theorem dJ5_checkIndex_0 : decode cJ5_checkIndex 0 = .ok (.iload_n 0, 1) := dk_26 (dk_at dksJ5_checkIndex_0 0 rfl rfl)
theorem dJ5_checkIndex_1 : decode cJ5_checkIndex 1 = .ok (.ifCond .lt 8, 3) := dk_155 0 8 (dk_at dksJ5_checkIndex_0 1 rfl rfl)
theorem dJ5_checkIndex_4 : decode cJ5_checkIndex 4 = .ok (.iload_n 0, 1) := dk_26 (dk_at dksJ5_checkIndex_0 4 rfl rfl)
theorem dJ5_checkIndex_5 : decode cJ5_checkIndex 5 = .ok (.iload_n 1, 1) := dk_27 (dk_at dksJ5_checkIndex_0 5 rfl rfl)
theorem dJ5_checkIndex_6 : decode cJ5_checkIndex 6 = .ok (.if_icmp .lt 10, 3) := dk_161 0 10 (dk_at dksJ5_checkIndex_0 6 rfl rfl)
theorem dJ5_checkIndex_9 : decode cJ5_checkIndex 9 = .ok (.aload_n 2, 1) := dk_44 (dk_at dksJ5_checkIndex_0 9 rfl rfl)
theorem dJ5_checkIndex_10 : decode cJ5_checkIndex 10 = .ok (.iload_n 0, 1) := dk_26 (dk_at dksJ5_checkIndex_0 10 rfl rfl)
theorem dJ5_checkIndex_11 : decode cJ5_checkIndex 11 = .ok (.iload_n 1, 1) := dk_27 (dk_at dksJ5_checkIndex_0 11 rfl rfl)
theorem dJ5_checkIndex_12 : decode cJ5_checkIndex 12 = .ok (.invokestatic 95, 3) := dk_184 0 95 (dk_at dksJ5_checkIndex_0 12 rfl rfl)
theorem dJ5_checkIndex_15 : decode cJ5_checkIndex 15 = .ok (.athrow, 1) := dk_191 (dk_at dksJ5_checkIndex_0 15 rfl rfl)
theorem dJ5_checkIndex_16 : decode cJ5_checkIndex 16 = .ok (.iload_n 0, 1) := dk_26 (dk_at dksJ5_checkIndex_0 16 rfl rfl)
theorem dJ5_checkIndex_17 : decode cJ5_checkIndex 17 = .ok (.ireturn, 1) := dk_172 (dk_at dksJ5_checkIndex_0 17 rfl rfl)
noncomputable def f_J5_checkIndex_9 (E : ax_E) (x0 : Int) (x1 : Int) (x2 : Option Nat) (h : ax_H) : Option (Int × ax_H) :=
  none
noncomputable def f_J5_checkIndex (E : ax_E) (x0 : Int) (x1 : Int) (x2 : Option Nat) (h : ax_H) : Option (Int × ax_H) :=
  if i2 x0 < 0 then
    f_J5_checkIndex_9 E x0 x1 x2 h
  else
    if i2 x0 < i2 x1 then
      some (x0, h)
    else
      f_J5_checkIndex_9 E x0 x1 x2 h
set_option maxHeartbeats 4000000 in
theorem w_J5_checkIndex_9 {l : Launch} {G : ax_G} {X : ax_X} {Q : State → Prop} {h0 h : ax_H} {ls : Array Slot} (hSF : ax_SF G) (B : ax_BL l G X cJ5_checkIndex 3 RJ5 1 40) (Z : ax_Z X h0 ((some FieldType.int))) (hn : X.2.2.2.2.2.2.2.2.1.name = yJ5_checkIndex.name) (x0 : Int) (x1 : Int) (x2 : Option Nat) {w : Int × ax_H} (hl : ax_hl ls 3 [(0, .inl x0), (1, .inl x1), (2, .inr (.inr x2))]) (e : f_J5_checkIndex_9 G.2.2 x0 x1 x2 h = some w) (hp : (fun w : Int × ax_H => Q = ax_Q G X h0 w.2 (some (.int (Int32.ofInt w.1)))) w) : ax_W G X Q h 9 ls [] := by
  unfold f_J5_checkIndex_9 at e
  refine ax_aload_n B dJ5_checkIndex_9 rfl hl 2 rfl ?_
  refine ax_iload_n B dJ5_checkIndex_10 rfl hl 0 rfl ?_
  refine ax_iload_n B dJ5_checkIndex_11 rfl hl 1 rfl ?_
  cases e
set_option maxHeartbeats 4000000 in
theorem we_J5_checkIndex {l : Launch} {G : ax_G} {X : ax_X} {Q : State → Prop} {h0 h : ax_H} {ls : Array Slot} (hSF : ax_SF G) (B : ax_BL l G X cJ5_checkIndex 3 RJ5 1 40) (Z : ax_Z X h0 ((some FieldType.int))) (hn : X.2.2.2.2.2.2.2.2.1.name = yJ5_checkIndex.name) (x0 : Int) (x1 : Int) (x2 : Option Nat) {w : Int × ax_H} (hl : ax_hl ls 3 [(0, .inl x0), (1, .inl x1), (2, .inr (.inr x2))]) (e : f_J5_checkIndex G.2.2 x0 x1 x2 h = some w) (hp : (fun w : Int × ax_H => Q = ax_Q G X h0 w.2 (some (.int (Int32.ofInt w.1)))) w) : ax_W G X Q h 0 ls [] := by
  unfold f_J5_checkIndex at e
  refine ax_iload_n B dJ5_checkIndex_0 rfl hl 0 rfl ?_
  refine ax_if_lt (tgt := 9) B dJ5_checkIndex_1 (by decide) e (fun e => ?_) (fun e => ?_)
  · exact w_J5_checkIndex_9 hSF B Z hn x0 x1 x2 (hl.sub [0, 1, 2] rfl) e hp
  · refine ax_iload_n B dJ5_checkIndex_4 rfl hl 0 rfl ?_
    refine ax_iload_n B dJ5_checkIndex_5 rfl hl 1 rfl ?_
    refine ax_icmp_lt (tgt := 16) B dJ5_checkIndex_6 (by decide) e (fun e => ?_) (fun e => ?_)
    · refine ax_iload_n B dJ5_checkIndex_16 rfl hl 0 rfl ?_
      have e8 := e
      have hp : Q = _ := hp
      subst hp
      exact ax_ireturn B Z dJ5_checkIndex_17 e8
    · exact w_J5_checkIndex_9 hSF B Z hn x0 x1 x2 (hl.sub [0, 1, 2] rfl) e hp
theorem mt_J5_checkIndex (l : Launch) (G : ax_G) (hSF : ax_SF G) (x0 : Int) (x1 : Int) (x2 : Option Nat) (h : ax_H) (w : Int × ax_H) (e : f_J5_checkIndex G.2.2 x0 x1 x2 h = some w) : ax_Met l G yJ5_checkIndex cJ5_checkIndex 3 ((some FieldType.int)) 1 40 [.int (Int32.ofInt x0), .int (Int32.ofInt x1), va_rf x2] h w.2 (some (.int (Int32.ofInt w.1))) :=
  ax_enter [.inl x0, .inl x1, .inr (.inr x2)] (y := yJ5_checkIndex) hSF (plainFor_of_name (by decide +kernel)) (Nat.le_of_ble_eq_true rfl) (fun X ls B Z hn hl => we_J5_checkIndex hSF B Z hn x0 x1 x2 hl e rfl)
def dkwJ4_checkIndex_0 : List UInt8 := [26, 27, 1, 184, 0, 105, 172]
abbrev dktJ4_checkIndex_0 : List UInt8 := dkwJ4_checkIndex_0 ++ []
theorem dksJ4_checkIndex_0 : cJ4_checkIndex.data.toList.drop 0 = dktJ4_checkIndex_0 := by decide +kernel
theorem dJ4_checkIndex_0 : decode cJ4_checkIndex 0 = .ok (.iload_n 0, 1) := dk_26 (dk_at dksJ4_checkIndex_0 0 rfl rfl)
theorem dJ4_checkIndex_1 : decode cJ4_checkIndex 1 = .ok (.iload_n 1, 1) := dk_27 (dk_at dksJ4_checkIndex_0 1 rfl rfl)
theorem dJ4_checkIndex_2 : decode cJ4_checkIndex 2 = .ok (.aconst_null, 1) := dk_1 (dk_at dksJ4_checkIndex_0 2 rfl rfl)
theorem dJ4_checkIndex_3 : decode cJ4_checkIndex 3 = .ok (.invokestatic 105, 3) := dk_184 0 105 (dk_at dksJ4_checkIndex_0 3 rfl rfl)
theorem dJ4_checkIndex_6 : decode cJ4_checkIndex 6 = .ok (.ireturn, 1) := dk_172 (dk_at dksJ4_checkIndex_0 6 rfl rfl)
noncomputable def f_J4_checkIndex (E : ax_E) (x0 : Int) (x1 : Int) (h : ax_H) : Option (Int × ax_H) :=
  (f_J5_checkIndex E x0 x1 none h).bind fun q1 =>
  some (q1.1, q1.2)
set_option maxHeartbeats 4000000 in
theorem we_J4_checkIndex {l : Launch} {G : ax_G} {X : ax_X} {Q : State → Prop} {h0 h : ax_H} {ls : Array Slot} (hSF : ax_SF G) (B : ax_BL l G X cJ4_checkIndex 2 RJ4 2 62) (Z : ax_Z X h0 ((some FieldType.int))) (hn : X.2.2.2.2.2.2.2.2.1.name = yJ4_checkIndex.name) (x0 : Int) (x1 : Int) {w : Int × ax_H} (hl : ax_hl ls 2 [(0, .inl x0), (1, .inl x1)]) (e : f_J4_checkIndex G.2.2 x0 x1 h = some w) (hp : (fun w : Int × ax_H => Q = ax_Q G X h0 w.2 (some (.int (Int32.ofInt w.1)))) w) : ax_W G X Q h 0 ls [] := by
  unfold f_J4_checkIndex at e
  refine ax_iload_n B dJ4_checkIndex_0 rfl hl 0 rfl ?_
  refine ax_iload_n B dJ4_checkIndex_1 rfl hl 1 rfl ?_
  refine ax_null B dJ4_checkIndex_2 ?_
  refine ax_isI (y := yJ5_checkIndex) (n := 3) (As := [.int (Int32.ofInt x0), .int (Int32.ofInt x1), va_rf none]) B (lw_S q531 q532 q136 q533) (by decide +kernel) ⟨Nat.le_of_ble_eq_true rfl, Nat.le_of_ble_eq_true rfl⟩ (fun w1 e1 => mt_J5_checkIndex l G hSF x0 x1 none _ w1 e1) rfl hl.size (by decide) dJ4_checkIndex_3 e (fun q1 e => ?_)
  have e8 := e
  have hp : Q = _ := hp
  subst hp
  exact ax_ireturn B Z dJ4_checkIndex_6 e8
theorem mt_J4_checkIndex (l : Launch) (G : ax_G) (hSF : ax_SF G) (x0 : Int) (x1 : Int) (h : ax_H) (w : Int × ax_H) (e : f_J4_checkIndex G.2.2 x0 x1 h = some w) : ax_Met l G yJ4_checkIndex cJ4_checkIndex 2 ((some FieldType.int)) 2 62 [.int (Int32.ofInt x0), .int (Int32.ofInt x1)] h w.2 (some (.int (Int32.ofInt w.1))) :=
  ax_enter [.inl x0, .inl x1] (y := yJ4_checkIndex) hSF (plainFor_of_name (by decide +kernel)) (Nat.le_of_ble_eq_true rfl) (fun X ls B Z hn hl => we_J4_checkIndex hSF B Z hn x0 x1 hl e rfl)
def dkwJ2_elementData_0 : List UInt8 := [42, 180, 0, 9, 27, 50, 176]
abbrev dktJ2_elementData_0 : List UInt8 := dkwJ2_elementData_0 ++ []
theorem dksJ2_elementData_0 : cJ2_elementData.data.toList.drop 0 = dktJ2_elementData_0 := by decide +kernel
theorem dJ2_elementData_0 : decode cJ2_elementData 0 = .ok (.aload_n 0, 1) := dk_42 (dk_at dksJ2_elementData_0 0 rfl rfl)
theorem dJ2_elementData_1 : decode cJ2_elementData 1 = .ok (.getfield 9, 3) := dk_180 0 9 (dk_at dksJ2_elementData_0 1 rfl rfl)
theorem dJ2_elementData_4 : decode cJ2_elementData 4 = .ok (.iload_n 1, 1) := dk_27 (dk_at dksJ2_elementData_0 4 rfl rfl)
theorem dJ2_elementData_5 : decode cJ2_elementData 5 = .ok (.aaload, 1) := dk_50 (dk_at dksJ2_elementData_0 5 rfl rfl)
theorem dJ2_elementData_6 : decode cJ2_elementData 6 = .ok (.areturn, 1) := dk_176 (dk_at dksJ2_elementData_0 6 rfl rfl)
noncomputable def f_J2_elementData (E : ax_E) (x0 : Option Nat) (x1 : Int) (h : ax_H) : Option (Option Nat × ax_H) :=
  (ax_gR E h x0 42 1).bind fun v1 =>
  (ax_ldR E h v1 104 x1).bind fun v2 =>
  some (v2, h)
set_option maxHeartbeats 4000000 in
theorem we_J2_elementData {l : Launch} {G : ax_G} {X : ax_X} {Q : State → Prop} {h0 h : ax_H} {ls : Array Slot} (hSF : ax_SF G) (B : ax_BL l G X cJ2_elementData 2 RJ2 1 40) (Z : ax_Z X h0 ((some (FieldType.object "java/lang/Object")))) (hn : X.2.2.2.2.2.2.2.2.1.name = yJ2_elementData.name) (x0 : Option Nat) (x1 : Int) {w : Option Nat × ax_H} (hl : ax_hl ls 2 [(0, .inr (.inr x0)), (1, .inl x1)]) (e : f_J2_elementData G.2.2 x0 x1 h = some w) (hp : (fun w : Option Nat × ax_H => Q = ax_Q G X h0 w.2 (some (va_rf w.1))) w) : ax_W G X Q h 0 ls [] := by
  unfold f_J2_elementData at e
  refine ax_aload_n B dJ2_elementData_0 rfl hl 0 rfl ?_
  refine ax_getR B ff_J2_9_42 (fun _ _ => rfl) dJ2_elementData_1 e (fun v1 e => ?_)
  refine ax_iload_n B dJ2_elementData_4 rfl hl 1 rfl ?_
  refine ax_aald rfl B kd104 dJ2_elementData_5 e (fun v2 e => ?_)
  have e8 := e
  have hp : Q = _ := hp
  subst hp
  exact ax_areturn B Z (Or.inl ⟨_, rfl⟩) dJ2_elementData_6 e8
theorem mt_J2_elementData (l : Launch) (G : ax_G) (hSF : ax_SF G) (x0 : Option Nat) (x1 : Int) (h : ax_H) (w : Option Nat × ax_H) (e : f_J2_elementData G.2.2 x0 x1 h = some w) : ax_Met l G yJ2_elementData cJ2_elementData 2 ((some (FieldType.object "java/lang/Object"))) 1 40 [va_rf x0, .int (Int32.ofInt x1)] h w.2 (some (va_rf w.1)) :=
  ax_enter [.inr (.inr x0), .inl x1] (y := yJ2_elementData) hSF (plainFor_of_name (by decide +kernel)) (Nat.le_of_ble_eq_true rfl) (fun X ls B Z hn hl => we_J2_elementData hSF B Z hn x0 x1 hl e rfl)
def dkwJ2_get_0 : List UInt8 := [27, 42, 180, 0, 48, 184, 0, 118, 87, 42, 27, 182, 0, 123, 176]
abbrev dktJ2_get_0 : List UInt8 := dkwJ2_get_0 ++ []
theorem dksJ2_get_0 : cJ2_get.data.toList.drop 0 = dktJ2_get_0 := by decide +kernel
theorem dJ2_get_0 : decode cJ2_get 0 = .ok (.iload_n 1, 1) := dk_27 (dk_at dksJ2_get_0 0 rfl rfl)
theorem dJ2_get_1 : decode cJ2_get 1 = .ok (.aload_n 0, 1) := dk_42 (dk_at dksJ2_get_0 1 rfl rfl)
theorem dJ2_get_2 : decode cJ2_get 2 = .ok (.getfield 48, 3) := dk_180 0 48 (dk_at dksJ2_get_0 2 rfl rfl)
theorem dJ2_get_5 : decode cJ2_get 5 = .ok (.invokestatic 118, 3) := dk_184 0 118 (dk_at dksJ2_get_0 5 rfl rfl)
theorem dJ2_get_8 : decode cJ2_get 8 = .ok (.pop, 1) := dk_87 (dk_at dksJ2_get_0 8 rfl rfl)
theorem dJ2_get_9 : decode cJ2_get 9 = .ok (.aload_n 0, 1) := dk_42 (dk_at dksJ2_get_0 9 rfl rfl)
theorem dJ2_get_10 : decode cJ2_get 10 = .ok (.iload_n 1, 1) := dk_27 (dk_at dksJ2_get_0 10 rfl rfl)
theorem dJ2_get_11 : decode cJ2_get 11 = .ok (.invokevirtual 123, 3) := dk_182 0 123 (dk_at dksJ2_get_0 11 rfl rfl)
theorem dJ2_get_14 : decode cJ2_get 14 = .ok (.areturn, 1) := dk_176 (dk_at dksJ2_get_0 14 rfl rfl)
noncomputable def f_J2_get (E : ax_E) (x0 : Option Nat) (x1 : Int) (h : ax_H) : Option (Option Nat × ax_H) :=
  (ax_gI E h x0 42 2).bind fun v1 =>
  (f_J4_checkIndex E x1 v1 h).bind fun q2 =>
  (ax_ce E q2.2 x0 42).bind fun _ => (f_J2_elementData E x0 x1 q2.2).bind fun q3 =>
  some (q3.1, q3.2)
set_option maxHeartbeats 4000000 in
theorem we_J2_get {l : Launch} {G : ax_G} {X : ax_X} {Q : State → Prop} {h0 h : ax_H} {ls : Array Slot} (hSF : ax_SF G) (B : ax_BL l G X cJ2_get 2 RJ2 3 83) (Z : ax_Z X h0 ((some (FieldType.object "java/lang/Object")))) (hn : X.2.2.2.2.2.2.2.2.1.name = yJ2_get.name) (x0 : Option Nat) (x1 : Int) {w : Option Nat × ax_H} (hl : ax_hl ls 2 [(0, .inr (.inr x0)), (1, .inl x1)]) (e : f_J2_get G.2.2 x0 x1 h = some w) (hp : (fun w : Option Nat × ax_H => Q = ax_Q G X h0 w.2 (some (va_rf w.1))) w) : ax_W G X Q h 0 ls [] := by
  unfold f_J2_get at e
  refine ax_iload_n B dJ2_get_0 rfl hl 1 rfl ?_
  refine ax_aload_n B dJ2_get_1 rfl hl 0 rfl ?_
  refine ax_getI B ff_J2_48_42 (fun _ _ => rfl) dJ2_get_2 e (fun v1 e => ?_)
  refine ax_isI (y := yJ4_checkIndex) (n := 2) (As := [.int (Int32.ofInt x1), .int (Int32.ofInt v1)]) B (lw_S q528 q529 q135 q530) (by decide +kernel) ⟨Nat.le_of_ble_eq_true rfl, Nat.le_of_ble_eq_true rfl⟩ (fun w1 e1 => mt_J4_checkIndex l G hSF x1 v1 _ w1 e1) rfl hl.size (by decide) dJ2_get_5 e (fun q2 e => ?_)
  refine ax_pop B dJ2_get_8 (rfl) ?_
  refine ax_aload_n B dJ2_get_9 rfl hl 0 rfl ?_
  refine ax_iload_n B dJ2_get_10 rfl hl 1 rfl ?_
  refine ax_ivR (y := yJ2_elementData) (n := 1) (As := [.int (Int32.ofInt x1)]) B kd42 (lw_V q534 q535 q536 q129 q537) (by decide +kernel) ⟨Nat.le_of_ble_eq_true rfl, Nat.le_of_ble_eq_true rfl⟩ (fun w1 e1 => mt_J2_elementData l G hSF x0 x1 _ w1 e1) rfl hl.size (by decide) dJ2_get_11 e (fun q3 e => ?_)
  have e8 := e
  have hp : Q = _ := hp
  subst hp
  exact ax_areturn B Z (Or.inl ⟨_, rfl⟩) dJ2_get_14 e8
theorem mt_J2_get (l : Launch) (G : ax_G) (hSF : ax_SF G) (x0 : Option Nat) (x1 : Int) (h : ax_H) (w : Option Nat × ax_H) (e : f_J2_get G.2.2 x0 x1 h = some w) : ax_Met l G yJ2_get cJ2_get 2 ((some (FieldType.object "java/lang/Object"))) 3 83 [va_rf x0, .int (Int32.ofInt x1)] h w.2 (some (va_rf w.1)) :=
  ax_enter [.inr (.inr x0), .inl x1] (y := yJ2_get) hSF (plainFor_of_name (by decide +kernel)) (Nat.le_of_ble_eq_true rfl) (fun X ls B Z hn hl => we_J2_get hSF B Z hn x0 x1 hl e rfl)
def dkwX0_law1_1 : List UInt8 := [180, 0, 215, 42, 180, 0, 20, 180, 0, 239, 182, 0, 242, 192, 0, 45, 176]
abbrev dktX0_law1_1 : List UInt8 := dkwX0_law1_1 ++ []
def dkwX0_law1_0 : List UInt8 := [42, 180, 0, 20, 180, 0, 239, 2, 160, 0, 10, 42, 180, 0, 52, 167, 0, 23, 42, 180, 0, 20]
abbrev dktX0_law1_0 : List UInt8 := dkwX0_law1_0 ++ dktX0_law1_1
theorem dksX0_law1_0 : cX0_law1.data.toList.drop 0 = dktX0_law1_0 := by decide +kernel
theorem dksX0_law1_1 : cX0_law1.data.toList.drop 22 = dktX0_law1_1 := dk_seg dksX0_law1_0 22 rfl rfl
theorem dX0_law1_0 : decode cX0_law1 0 = .ok (.aload_n 0, 1) := dk_42 (dk_at dksX0_law1_0 0 rfl rfl)
theorem dX0_law1_1 : decode cX0_law1 1 = .ok (.getfield 20, 3) := dk_180 0 20 (dk_at dksX0_law1_0 1 rfl rfl)
theorem dX0_law1_4 : decode cX0_law1 4 = .ok (.getfield 239, 3) := dk_180 0 239 (dk_at dksX0_law1_0 4 rfl rfl)
theorem dX0_law1_7 : decode cX0_law1 7 = .ok (.iconst (-1), 1) := dk_2 (dk_at dksX0_law1_0 7 rfl rfl)
theorem dX0_law1_8 : decode cX0_law1 8 = .ok (.if_icmp .ne 10, 3) := dk_160 0 10 (dk_at dksX0_law1_0 8 rfl rfl)
theorem dX0_law1_11 : decode cX0_law1 11 = .ok (.aload_n 0, 1) := dk_42 (dk_at dksX0_law1_0 11 rfl rfl)
theorem dX0_law1_12 : decode cX0_law1 12 = .ok (.getfield 52, 3) := dk_180 0 52 (dk_at dksX0_law1_0 12 rfl rfl)
theorem dX0_law1_15 : decode cX0_law1 15 = .ok (.goto 23, 3) := dk_167 0 23 (dk_at dksX0_law1_0 15 rfl rfl)
theorem dX0_law1_18 : decode cX0_law1 18 = .ok (.aload_n 0, 1) := dk_42 (dk_at dksX0_law1_0 18 rfl rfl)
theorem dX0_law1_19 : decode cX0_law1 19 = .ok (.getfield 20, 3) := dk_180 0 20 (dk_at dksX0_law1_0 19 rfl rfl)
theorem dX0_law1_22 : decode cX0_law1 22 = .ok (.getfield 215, 3) := dk_180 0 215 (dk_at dksX0_law1_1 0 rfl rfl)
theorem dX0_law1_25 : decode cX0_law1 25 = .ok (.aload_n 0, 1) := dk_42 (dk_at dksX0_law1_1 3 rfl rfl)
theorem dX0_law1_26 : decode cX0_law1 26 = .ok (.getfield 20, 3) := dk_180 0 20 (dk_at dksX0_law1_1 4 rfl rfl)
theorem dX0_law1_29 : decode cX0_law1 29 = .ok (.getfield 239, 3) := dk_180 0 239 (dk_at dksX0_law1_1 7 rfl rfl)
theorem dX0_law1_32 : decode cX0_law1 32 = .ok (.invokevirtual 242, 3) := dk_182 0 242 (dk_at dksX0_law1_1 10 rfl rfl)
theorem dX0_law1_35 : decode cX0_law1 35 = .ok (.checkcast 45, 3) := dk_192 0 45 (dk_at dksX0_law1_1 13 rfl rfl)
theorem dX0_law1_38 : decode cX0_law1 38 = .ok (.areturn, 1) := dk_176 (dk_at dksX0_law1_1 16 rfl rfl)
noncomputable def f_X0_law1 (E : ax_E) (x0 : Option Nat) (h : ax_H) : Option (Option Nat × ax_H) :=
  (ax_gR E h x0 0 0).bind fun v1 =>
  (ax_gI E h v1 1 8).bind fun v2 =>
  if i2 v2 = i2 (-1) then
    (ax_gR E h x0 0 5).bind fun v3 =>
    some (v3, h)
  else
    (ax_gR E h x0 0 0).bind fun v4 =>
    (ax_gR E h v4 1 0).bind fun v5 =>
    (ax_gR E h x0 0 0).bind fun v6 =>
    (ax_gI E h v6 1 8).bind fun v7 =>
    (ax_ce E h v5 42).bind fun _ => (f_J2_get E v5 v7 h).bind fun q8 =>
    (ax_cc E q8.2 q8.1 4).bind fun _ =>
    some (q8.1, q8.2)
set_option maxHeartbeats 4000000 in
theorem we_X0_law1 {l : Launch} {G : ax_G} {X : ax_X} {Q : State → Prop} {h0 h : ax_H} {ls : Array Slot} (hSF : ax_SF G) (B : ax_BL l G X cX0_law1 1 RX0 4 104) (Z : ax_Z X h0 ((some (FieldType.object "DebtDoors$Text")))) (hn : X.2.2.2.2.2.2.2.2.1.name = yX0_law1.name) (x0 : Option Nat) {w : Option Nat × ax_H} (hl : ax_hl ls 1 [(0, .inr (.inr x0))]) (e : f_X0_law1 G.2.2 x0 h = some w) (hp : (fun w : Option Nat × ax_H => Q = ax_Q G X h0 w.2 (some (va_rf w.1))) w) : ax_W G X Q h 0 ls [] := by
  unfold f_X0_law1 at e
  refine ax_aload_n B dX0_law1_0 rfl hl 0 rfl ?_
  refine ax_getR B ff_X0_20_0 (fun _ _ => rfl) dX0_law1_1 e (fun v1 e => ?_)
  refine ax_getI B ff_X0_239_1 (fun _ _ => rfl) dX0_law1_4 e (fun v2 e => ?_)
  refine ax_iconst B dX0_law1_7 ?_
  refine ax_icmp_ne (tgt := 18) B dX0_law1_8 (by decide) e (fun e => ?_) (fun e => ?_)
  · refine ax_aload_n B dX0_law1_11 rfl hl 0 rfl ?_
    refine ax_getR B ff_X0_52_0 (fun _ _ => rfl) dX0_law1_12 e (fun v3 e => ?_)
    refine ax_goto (tgt := 38) B dX0_law1_15 (by decide) ?_
    have e8 := e
    have hp : Q = _ := hp
    subst hp
    exact ax_areturn B Z (Or.inl ⟨_, rfl⟩) dX0_law1_38 e8
  · refine ax_aload_n B dX0_law1_18 rfl hl 0 rfl ?_
    refine ax_getR B ff_X0_20_0 (fun _ _ => rfl) dX0_law1_19 e (fun v4 e => ?_)
    refine ax_getR B ff_X0_215_1 (fun _ _ => rfl) dX0_law1_22 e (fun v5 e => ?_)
    refine ax_aload_n B dX0_law1_25 rfl hl 0 rfl ?_
    refine ax_getR B ff_X0_20_0 (fun _ _ => rfl) dX0_law1_26 e (fun v6 e => ?_)
    refine ax_getI B ff_X0_239_1 (fun _ _ => rfl) dX0_law1_29 e (fun v7 e => ?_)
    refine ax_ivR (y := yJ2_get) (n := 1) (As := [.int (Int32.ofInt v7)]) B kd42 (lw_V q524 q525 q526 q129 q527) (by decide +kernel) ⟨Nat.le_of_ble_eq_true rfl, Nat.le_of_ble_eq_true rfl⟩ (fun w1 e1 => mt_J2_get l G hSF v5 v7 _ w1 e1) rfl hl.size (by decide) dX0_law1_32 e (fun q8 e => ?_)
    refine ax_ckc B kd4 q326 dX0_law1_35 e (fun e => ?_)
    have e8 := e
    have hp : Q = _ := hp
    subst hp
    exact ax_areturn B Z (Or.inl ⟨_, rfl⟩) dX0_law1_38 e8
theorem mt_X0_law1 (l : Launch) (G : ax_G) (hSF : ax_SF G) (x0 : Option Nat) (h : ax_H) (w : Option Nat × ax_H) (e : f_X0_law1 G.2.2 x0 h = some w) : ax_Met l G yX0_law1 cX0_law1 1 ((some (FieldType.object "DebtDoors$Text"))) 4 104 [va_rf x0] h w.2 (some (va_rf w.1)) :=
  ax_enter [.inr (.inr x0)] (y := yX0_law1) hSF (plainFor_of_name (by decide +kernel)) (Nat.le_of_ble_eq_true rfl) (fun X ls B Z hn hl => we_X0_law1 hSF B Z hn x0 hl e rfl)
def dkwX10_of_0 : List UInt8 := [42, 180, 0, 7, 133, 173]
abbrev dktX10_of_0 : List UInt8 := dkwX10_of_0 ++ []
theorem dksX10_of_0 : cX10_of.data.toList.drop 0 = dktX10_of_0 := by decide +kernel
theorem dX10_of_0 : decode cX10_of 0 = .ok (.aload_n 0, 1) := dk_42 (dk_at dksX10_of_0 0 rfl rfl)
theorem dX10_of_1 : decode cX10_of 1 = .ok (.getfield 7, 3) := dk_180 0 7 (dk_at dksX10_of_0 1 rfl rfl)
theorem dX10_of_4 : decode cX10_of 4 = .ok (.i2l, 1) := dk_133 (dk_at dksX10_of_0 4 rfl rfl)
theorem dX10_of_5 : decode cX10_of 5 = .ok (.lreturn, 1) := dk_173 (dk_at dksX10_of_0 5 rfl rfl)
noncomputable def f_X10_of (E : ax_E) (x0 : Option Nat) (x1 : Option Nat) (h : ax_H) : Option (Int × ax_H) :=
  (ax_gI E h x0 10 0).bind fun v1 =>
  some ((i2 v1), h)
set_option maxHeartbeats 4000000 in
theorem we_X10_of {l : Launch} {G : ax_G} {X : ax_X} {Q : State → Prop} {h0 h : ax_H} {ls : Array Slot} (hSF : ax_SF G) (B : ax_BL l G X cX10_of 2 RX10 1 40) (Z : ax_Z X h0 ((some FieldType.long))) (hn : X.2.2.2.2.2.2.2.2.1.name = yX10_of.name) (x0 : Option Nat) (x1 : Option Nat) {w : Int × ax_H} (hl : ax_hl ls 2 [(0, .inr (.inr x0)), (1, .inr (.inr x1))]) (e : f_X10_of G.2.2 x0 x1 h = some w) (hp : (fun w : Int × ax_H => Q = ax_Q G X h0 w.2 (some (.long (Int64.ofInt w.1)))) w) : ax_W G X Q h 0 ls [] := by
  unfold f_X10_of at e
  refine ax_aload_n B dX10_of_0 rfl hl 0 rfl ?_
  refine ax_getI B ff_X10_7_10 (fun _ _ => rfl) dX10_of_1 e (fun v1 e => ?_)
  refine ax_i2l' B dX10_of_4 ?_
  have e8 := e
  have hp : Q = _ := hp
  subst hp
  exact ax_lreturn B Z dX10_of_5 e8
theorem mt_X10_of (l : Launch) (G : ax_G) (hSF : ax_SF G) (x0 : Option Nat) (x1 : Option Nat) (h : ax_H) (w : Int × ax_H) (e : f_X10_of G.2.2 x0 x1 h = some w) : ax_Met l G yX10_of cX10_of 2 ((some FieldType.long)) 1 40 [va_rf x0, va_rf x1] h w.2 (some (.long (Int64.ofInt w.1))) :=
  ax_enter [.inr (.inr x0), .inr (.inr x1)] (y := yX10_of) hSF (plainFor_of_name (by decide +kernel)) (Nat.le_of_ble_eq_true rfl) (fun X ls B Z hn hl => we_X10_of hSF B Z hn x0 x1 hl e rfl)
def dkwX11_of_0 : List UInt8 := [43, 180, 0, 13, 42, 180, 0, 7, 47, 173]
abbrev dktX11_of_0 : List UInt8 := dkwX11_of_0 ++ []
theorem dksX11_of_0 : cX11_of.data.toList.drop 0 = dktX11_of_0 := by decide +kernel
theorem dX11_of_0 : decode cX11_of 0 = .ok (.aload_n 1, 1) := dk_43 (dk_at dksX11_of_0 0 rfl rfl)
theorem dX11_of_1 : decode cX11_of 1 = .ok (.getfield 13, 3) := dk_180 0 13 (dk_at dksX11_of_0 1 rfl rfl)
theorem dX11_of_4 : decode cX11_of 4 = .ok (.aload_n 0, 1) := dk_42 (dk_at dksX11_of_0 4 rfl rfl)
theorem dX11_of_5 : decode cX11_of 5 = .ok (.getfield 7, 3) := dk_180 0 7 (dk_at dksX11_of_0 5 rfl rfl)
theorem dX11_of_8 : decode cX11_of 8 = .ok (.laload, 1) := dk_47 (dk_at dksX11_of_0 8 rfl rfl)
theorem dX11_of_9 : decode cX11_of 9 = .ok (.lreturn, 1) := dk_173 (dk_at dksX11_of_0 9 rfl rfl)
noncomputable def f_X11_of (E : ax_E) (x0 : Option Nat) (x1 : Option Nat) (h : ax_H) : Option (Int × ax_H) :=
  (ax_gR E h x1 3 0).bind fun v1 =>
  (ax_gI E h x0 11 0).bind fun v2 =>
  (ax_ld E h v1 103 v2).bind fun v3 =>
  some (v3, h)
set_option maxHeartbeats 4000000 in
theorem we_X11_of {l : Launch} {G : ax_G} {X : ax_X} {Q : State → Prop} {h0 h : ax_H} {ls : Array Slot} (hSF : ax_SF G) (B : ax_BL l G X cX11_of 2 RX11 1 40) (Z : ax_Z X h0 ((some FieldType.long))) (hn : X.2.2.2.2.2.2.2.2.1.name = yX11_of.name) (x0 : Option Nat) (x1 : Option Nat) {w : Int × ax_H} (hl : ax_hl ls 2 [(0, .inr (.inr x0)), (1, .inr (.inr x1))]) (e : f_X11_of G.2.2 x0 x1 h = some w) (hp : (fun w : Int × ax_H => Q = ax_Q G X h0 w.2 (some (.long (Int64.ofInt w.1)))) w) : ax_W G X Q h 0 ls [] := by
  unfold f_X11_of at e
  refine ax_aload_n B dX11_of_0 rfl hl 1 rfl ?_
  refine ax_getR B ff_X11_13_3 (fun _ _ => rfl) dX11_of_1 e (fun v1 e => ?_)
  refine ax_aload_n B dX11_of_4 rfl hl 0 rfl ?_
  refine ax_getI B ff_X11_7_11 (fun _ _ => rfl) dX11_of_5 e (fun v2 e => ?_)
  refine ax_lald B kd103 dX11_of_8 e (fun v3 e => ?_)
  have e8 := e
  have hp : Q = _ := hp
  subst hp
  exact ax_lreturn B Z dX11_of_9 e8
theorem mt_X11_of (l : Launch) (G : ax_G) (hSF : ax_SF G) (x0 : Option Nat) (x1 : Option Nat) (h : ax_H) (w : Int × ax_H) (e : f_X11_of G.2.2 x0 x1 h = some w) : ax_Met l G yX11_of cX11_of 2 ((some FieldType.long)) 1 40 [va_rf x0, va_rf x1] h w.2 (some (.long (Int64.ofInt w.1))) :=
  ax_enter [.inr (.inr x0), .inr (.inr x1)] (y := yX11_of) hSF (plainFor_of_name (by decide +kernel)) (Nat.le_of_ble_eq_true rfl) (fun X ls B Z hn hl => we_X11_of hSF B Z hn x0 x1 hl e rfl)
def dkwX12_of_1 : List UInt8 := [42, 180, 0, 15, 46, 133, 167, 0, 6, 20, 0, 33, 173]
abbrev dktX12_of_1 : List UInt8 := dkwX12_of_1 ++ []
def dkwX12_of_0 : List UInt8 := [42, 180, 0, 3, 42, 180, 0, 15, 182, 0, 19, 153, 0, 22, 42, 180, 0, 3, 182, 0, 23, 180, 0, 27]
abbrev dktX12_of_0 : List UInt8 := dkwX12_of_0 ++ dktX12_of_1
theorem dksX12_of_0 : cX12_of.data.toList.drop 0 = dktX12_of_0 := by decide +kernel
theorem dksX12_of_1 : cX12_of.data.toList.drop 24 = dktX12_of_1 := dk_seg dksX12_of_0 24 rfl rfl
theorem dX12_of_0 : decode cX12_of 0 = .ok (.aload_n 0, 1) := dk_42 (dk_at dksX12_of_0 0 rfl rfl)
theorem dX12_of_1 : decode cX12_of 1 = .ok (.getfield 3, 3) := dk_180 0 3 (dk_at dksX12_of_0 1 rfl rfl)
theorem dX12_of_4 : decode cX12_of 4 = .ok (.aload_n 0, 1) := dk_42 (dk_at dksX12_of_0 4 rfl rfl)
theorem dX12_of_5 : decode cX12_of 5 = .ok (.getfield 15, 3) := dk_180 0 15 (dk_at dksX12_of_0 5 rfl rfl)
theorem dX12_of_8 : decode cX12_of 8 = .ok (.invokevirtual 19, 3) := dk_182 0 19 (dk_at dksX12_of_0 8 rfl rfl)
theorem dX12_of_11 : decode cX12_of 11 = .ok (.ifCond .eq 22, 3) := dk_153 0 22 (dk_at dksX12_of_0 11 rfl rfl)
theorem dX12_of_14 : decode cX12_of 14 = .ok (.aload_n 0, 1) := dk_42 (dk_at dksX12_of_0 14 rfl rfl)
theorem dX12_of_15 : decode cX12_of 15 = .ok (.getfield 3, 3) := dk_180 0 3 (dk_at dksX12_of_0 15 rfl rfl)
theorem dX12_of_18 : decode cX12_of 18 = .ok (.invokevirtual 23, 3) := dk_182 0 23 (dk_at dksX12_of_0 18 rfl rfl)
theorem dX12_of_21 : decode cX12_of 21 = .ok (.getfield 27, 3) := dk_180 0 27 (dk_at dksX12_of_0 21 rfl rfl)
theorem dX12_of_24 : decode cX12_of 24 = .ok (.aload_n 0, 1) := dk_42 (dk_at dksX12_of_1 0 rfl rfl)
theorem dX12_of_25 : decode cX12_of 25 = .ok (.getfield 15, 3) := dk_180 0 15 (dk_at dksX12_of_1 1 rfl rfl)
theorem dX12_of_28 : decode cX12_of 28 = .ok (.iaload, 1) := dk_46 (dk_at dksX12_of_1 4 rfl rfl)
theorem dX12_of_29 : decode cX12_of 29 = .ok (.i2l, 1) := dk_133 (dk_at dksX12_of_1 5 rfl rfl)
theorem dX12_of_30 : decode cX12_of 30 = .ok (.goto 6, 3) := dk_167 0 6 (dk_at dksX12_of_1 6 rfl rfl)
theorem dX12_of_33 : decode cX12_of 33 = .ok (.ldc2_w 33, 3) := dk_20 0 33 (dk_at dksX12_of_1 9 rfl rfl)
theorem dX12_of_36 : decode cX12_of 36 = .ok (.lreturn, 1) := dk_173 (dk_at dksX12_of_1 12 rfl rfl)
noncomputable def f_X12_of (E : ax_E) (x0 : Option Nat) (x1 : Option Nat) (h : ax_H) : Option (Int × ax_H) :=
  (ax_gR E h x0 12 1).bind fun v1 =>
  (ax_gI E h x0 12 0).bind fun v2 =>
  (ax_ce E h v1 0).bind fun _ => (f_X0_isPerson E v1 v2 h).bind fun q3 =>
  if i2 q3.1 = 0 then
    some ((-1), q3.2)
  else
    (ax_gR E q3.2 x0 12 1).bind fun v4 =>
    (ax_ce E q3.2 v4 0).bind fun _ => (f_X0_books E v4 q3.2).bind fun q5 =>
    (ax_gR E q5.2 q5.1 2 0).bind fun v6 =>
    (ax_gI E q5.2 x0 12 0).bind fun v7 =>
    (ax_ld E q5.2 v6 100 v7).bind fun v8 =>
    some ((i2 v8), q5.2)
set_option maxHeartbeats 4000000 in
theorem we_X12_of {l : Launch} {G : ax_G} {X : ax_X} {Q : State → Prop} {h0 h : ax_H} {ls : Array Slot} (hSF : ax_SF G) (B : ax_BL l G X cX12_of 2 RX12 3 86) (Z : ax_Z X h0 ((some FieldType.long))) (hn : X.2.2.2.2.2.2.2.2.1.name = yX12_of.name) (x0 : Option Nat) (x1 : Option Nat) {w : Int × ax_H} (hl : ax_hl ls 2 [(0, .inr (.inr x0)), (1, .inr (.inr x1))]) (e : f_X12_of G.2.2 x0 x1 h = some w) (hp : (fun w : Int × ax_H => Q = ax_Q G X h0 w.2 (some (.long (Int64.ofInt w.1)))) w) : ax_W G X Q h 0 ls [] := by
  unfold f_X12_of at e
  refine ax_aload_n B dX12_of_0 rfl hl 0 rfl ?_
  refine ax_getR B ff_X12_3_12 (fun _ _ => rfl) dX12_of_1 e (fun v1 e => ?_)
  refine ax_aload_n B dX12_of_4 rfl hl 0 rfl ?_
  refine ax_getI B ff_X12_15_12 (fun _ _ => rfl) dX12_of_5 e (fun v2 e => ?_)
  refine ax_ivNI (y := yX0_isPerson) (n := 1) (As := [.int (Int32.ofInt v2)]) B kd0 q574 q461 qs4 q125 q462 (by decide +kernel) ⟨Nat.le_of_ble_eq_true rfl, Nat.le_of_ble_eq_true rfl⟩ (fun w1 e1 => mt_X0_isPerson l G hSF v1 v2 _ w1 e1) rfl hl.size (by decide) dX12_of_8 e (fun q3 e => ?_)
  refine ax_if_eq (tgt := 33) B dX12_of_11 (by decide) e (fun e => ?_) (fun e => ?_)
  · refine ax_ldc2 B cn_X12_33 dX12_of_33 ?_
    have e8 := e
    have hp : Q = _ := hp
    subst hp
    exact ax_lreturn B Z dX12_of_36 e8
  · refine ax_aload_n B dX12_of_14 rfl hl 0 rfl ?_
    refine ax_getR B ff_X12_3_12 (fun _ _ => rfl) dX12_of_15 e (fun v4 e => ?_)
    refine ax_ivNR (y := yX0_books) (n := 0) (As := []) B kd0 q575 q445 qs2 q125 q446 (by decide +kernel) ⟨Nat.le_of_ble_eq_true rfl, Nat.le_of_ble_eq_true rfl⟩ (fun w1 e1 => mt_X0_books l G hSF v4 _ w1 e1) rfl hl.size (by decide) dX12_of_18 e (fun q5 e => ?_)
    refine ax_getR B ff_X12_27_2 (fun _ _ => rfl) dX12_of_21 e (fun v6 e => ?_)
    refine ax_aload_n B dX12_of_24 rfl hl 0 rfl ?_
    refine ax_getI B ff_X12_15_12 (fun _ _ => rfl) dX12_of_25 e (fun v7 e => ?_)
    refine ax_iald B kd100 dX12_of_28 e (fun v8 e => ?_)
    refine ax_i2l' B dX12_of_29 ?_
    refine ax_goto (tgt := 36) B dX12_of_30 (by decide) ?_
    have e8 := e
    have hp : Q = _ := hp
    subst hp
    exact ax_lreturn B Z dX12_of_36 e8
theorem mt_X12_of (l : Launch) (G : ax_G) (hSF : ax_SF G) (x0 : Option Nat) (x1 : Option Nat) (h : ax_H) (w : Int × ax_H) (e : f_X12_of G.2.2 x0 x1 h = some w) : ax_Met l G yX12_of cX12_of 2 ((some FieldType.long)) 3 86 [va_rf x0, va_rf x1] h w.2 (some (.long (Int64.ofInt w.1))) :=
  ax_enter [.inr (.inr x0), .inr (.inr x1)] (y := yX12_of) hSF (plainFor_of_name (by decide +kernel)) (Nat.le_of_ble_eq_true rfl) (fun X ls B Z hn hl => we_X12_of hSF B Z hn x0 x1 hl e rfl)
def dkwX0_areTwo_1 : List UInt8 := [167, 0, 4, 3, 172]
abbrev dktX0_areTwo_1 : List UInt8 := dkwX0_areTwo_1 ++ []
def dkwX0_areTwo_0 : List UInt8 := [42, 27, 182, 0, 110, 153, 0, 20, 42, 28, 182, 0, 110, 153, 0, 12, 27, 28, 159, 0, 7, 4]
abbrev dktX0_areTwo_0 : List UInt8 := dkwX0_areTwo_0 ++ dktX0_areTwo_1
theorem dksX0_areTwo_0 : cX0_areTwo.data.toList.drop 0 = dktX0_areTwo_0 := by decide +kernel
theorem dksX0_areTwo_1 : cX0_areTwo.data.toList.drop 22 = dktX0_areTwo_1 := dk_seg dksX0_areTwo_0 22 rfl rfl
theorem dX0_areTwo_0 : decode cX0_areTwo 0 = .ok (.aload_n 0, 1) := dk_42 (dk_at dksX0_areTwo_0 0 rfl rfl)
theorem dX0_areTwo_1 : decode cX0_areTwo 1 = .ok (.iload_n 1, 1) := dk_27 (dk_at dksX0_areTwo_0 1 rfl rfl)
theorem dX0_areTwo_2 : decode cX0_areTwo 2 = .ok (.invokevirtual 110, 3) := dk_182 0 110 (dk_at dksX0_areTwo_0 2 rfl rfl)
theorem dX0_areTwo_5 : decode cX0_areTwo 5 = .ok (.ifCond .eq 20, 3) := dk_153 0 20 (dk_at dksX0_areTwo_0 5 rfl rfl)
theorem dX0_areTwo_8 : decode cX0_areTwo 8 = .ok (.aload_n 0, 1) := dk_42 (dk_at dksX0_areTwo_0 8 rfl rfl)
theorem dX0_areTwo_9 : decode cX0_areTwo 9 = .ok (.iload_n 2, 1) := dk_28 (dk_at dksX0_areTwo_0 9 rfl rfl)
theorem dX0_areTwo_10 : decode cX0_areTwo 10 = .ok (.invokevirtual 110, 3) := dk_182 0 110 (dk_at dksX0_areTwo_0 10 rfl rfl)
theorem dX0_areTwo_13 : decode cX0_areTwo 13 = .ok (.ifCond .eq 12, 3) := dk_153 0 12 (dk_at dksX0_areTwo_0 13 rfl rfl)
theorem dX0_areTwo_16 : decode cX0_areTwo 16 = .ok (.iload_n 1, 1) := dk_27 (dk_at dksX0_areTwo_0 16 rfl rfl)
theorem dX0_areTwo_17 : decode cX0_areTwo 17 = .ok (.iload_n 2, 1) := dk_28 (dk_at dksX0_areTwo_0 17 rfl rfl)
theorem dX0_areTwo_18 : decode cX0_areTwo 18 = .ok (.if_icmp .eq 7, 3) := dk_159 0 7 (dk_at dksX0_areTwo_0 18 rfl rfl)
theorem dX0_areTwo_21 : decode cX0_areTwo 21 = .ok (.iconst 1, 1) := dk_4 (dk_at dksX0_areTwo_0 21 rfl rfl)
theorem dX0_areTwo_22 : decode cX0_areTwo 22 = .ok (.goto 4, 3) := dk_167 0 4 (dk_at dksX0_areTwo_1 0 rfl rfl)
theorem dX0_areTwo_25 : decode cX0_areTwo 25 = .ok (.iconst 0, 1) := dk_3 (dk_at dksX0_areTwo_1 3 rfl rfl)
theorem dX0_areTwo_26 : decode cX0_areTwo 26 = .ok (.ireturn, 1) := dk_172 (dk_at dksX0_areTwo_1 4 rfl rfl)
noncomputable def f_X0_areTwo_25 (E : ax_E) (h : ax_H) : Option (Int × ax_H) :=
  some (0, h)
noncomputable def f_X0_areTwo (E : ax_E) (x0 : Option Nat) (x1 : Int) (x2 : Int) (h : ax_H) : Option (Int × ax_H) :=
  (ax_ce E h x0 0).bind fun _ => (f_X0_isPerson E x0 x1 h).bind fun q1 =>
  if i2 q1.1 = 0 then
    f_X0_areTwo_25 E q1.2
  else
    (ax_ce E q1.2 x0 0).bind fun _ => (f_X0_isPerson E x0 x2 q1.2).bind fun q2 =>
    if i2 q2.1 = 0 then
      f_X0_areTwo_25 E q2.2
    else
      if i2 x1 = i2 x2 then
        f_X0_areTwo_25 E q2.2
      else
        some (1, q2.2)
set_option maxHeartbeats 4000000 in
theorem w_X0_areTwo_25 {l : Launch} {G : ax_G} {X : ax_X} {Q : State → Prop} {h0 h : ax_H} {ls : Array Slot} (hSF : ax_SF G) (B : ax_BL l G X cX0_areTwo 3 RX0 3 86) (Z : ax_Z X h0 ((some FieldType.boolean))) (hn : X.2.2.2.2.2.2.2.2.1.name = yX0_areTwo.name) {w : Int × ax_H} (hl : ax_hl ls 3 []) (e : f_X0_areTwo_25 G.2.2 h = some w) (hp : (fun w : Int × ax_H => Q = ax_Q G X h0 w.2 (some (.int (Int32.ofInt w.1)))) w) : ax_W G X Q h 25 ls [] := by
  unfold f_X0_areTwo_25 at e
  refine ax_iconst B dX0_areTwo_25 ?_
  have e8 := e
  have hp : Q = _ := hp
  subst hp
  exact ax_zreturnL (by decide) B Z dX0_areTwo_26 e8
set_option maxHeartbeats 4000000 in
theorem we_X0_areTwo {l : Launch} {G : ax_G} {X : ax_X} {Q : State → Prop} {h0 h : ax_H} {ls : Array Slot} (hSF : ax_SF G) (B : ax_BL l G X cX0_areTwo 3 RX0 3 86) (Z : ax_Z X h0 ((some FieldType.boolean))) (hn : X.2.2.2.2.2.2.2.2.1.name = yX0_areTwo.name) (x0 : Option Nat) (x1 : Int) (x2 : Int) {w : Int × ax_H} (hl : ax_hl ls 3 [(0, .inr (.inr x0)), (1, .inl x1), (2, .inl x2)]) (e : f_X0_areTwo G.2.2 x0 x1 x2 h = some w) (hp : (fun w : Int × ax_H => Q = ax_Q G X h0 w.2 (some (.int (Int32.ofInt w.1)))) w) : ax_W G X Q h 0 ls [] := by
  unfold f_X0_areTwo at e
  refine ax_aload_n B dX0_areTwo_0 rfl hl 0 rfl ?_
  refine ax_iload_n B dX0_areTwo_1 rfl hl 1 rfl ?_
  refine ax_ivI (y := yX0_isPerson) (n := 1) (As := [.int (Int32.ofInt x1)]) B kd0 (lw_V q459 q461 qs4 q125 q462) (by decide +kernel) ⟨Nat.le_of_ble_eq_true rfl, Nat.le_of_ble_eq_true rfl⟩ (fun w1 e1 => mt_X0_isPerson l G hSF x0 x1 _ w1 e1) rfl hl.size (by decide) dX0_areTwo_2 e (fun q1 e => ?_)
  refine ax_if_eq (tgt := 25) B dX0_areTwo_5 (by decide) e (fun e => ?_) (fun e => ?_)
  · exact w_X0_areTwo_25 hSF B Z hn (hl.sub [] rfl) e hp
  · refine ax_aload_n B dX0_areTwo_8 rfl hl 0 rfl ?_
    refine ax_iload_n B dX0_areTwo_9 rfl hl 2 rfl ?_
    refine ax_ivI (y := yX0_isPerson) (n := 1) (As := [.int (Int32.ofInt x2)]) B kd0 (lw_V q459 q461 qs4 q125 q462) (by decide +kernel) ⟨Nat.le_of_ble_eq_true rfl, Nat.le_of_ble_eq_true rfl⟩ (fun w1 e1 => mt_X0_isPerson l G hSF x0 x2 _ w1 e1) rfl hl.size (by decide) dX0_areTwo_10 e (fun q2 e => ?_)
    refine ax_if_eq (tgt := 25) B dX0_areTwo_13 (by decide) e (fun e => ?_) (fun e => ?_)
    · exact w_X0_areTwo_25 hSF B Z hn (hl.sub [] rfl) e hp
    · refine ax_iload_n B dX0_areTwo_16 rfl hl 1 rfl ?_
      refine ax_iload_n B dX0_areTwo_17 rfl hl 2 rfl ?_
      refine ax_icmp_eq (tgt := 25) B dX0_areTwo_18 (by decide) e (fun e => ?_) (fun e => ?_)
      · exact w_X0_areTwo_25 hSF B Z hn (hl.sub [] rfl) e hp
      · refine ax_iconst B dX0_areTwo_21 ?_
        refine ax_goto (tgt := 26) B dX0_areTwo_22 (by decide) ?_
        have e8 := e
        have hp : Q = _ := hp
        subst hp
        exact ax_zreturnL (by decide) B Z dX0_areTwo_26 e8
theorem mt_X0_areTwo (l : Launch) (G : ax_G) (hSF : ax_SF G) (x0 : Option Nat) (x1 : Int) (x2 : Int) (h : ax_H) (w : Int × ax_H) (e : f_X0_areTwo G.2.2 x0 x1 x2 h = some w) : ax_Met l G yX0_areTwo cX0_areTwo 3 ((some FieldType.boolean)) 3 86 [va_rf x0, .int (Int32.ofInt x1), .int (Int32.ofInt x2)] h w.2 (some (.int (Int32.ofInt w.1))) :=
  ax_enter [.inr (.inr x0), .inl x1, .inl x2] (y := yX0_areTwo) hSF (plainFor_of_name (by decide +kernel)) (Nat.le_of_ble_eq_true rfl) (fun X ls B Z hn hl => we_X0_areTwo hSF B Z hn x0 x1 x2 hl e rfl)
def dkwX13_of_1 : List UInt8 := [182, 0, 26, 42, 180, 0, 13, 42, 180, 0, 17, 182, 0, 30, 133, 167, 0, 4, 9, 173]
abbrev dktX13_of_1 : List UInt8 := dkwX13_of_1 ++ []
def dkwX13_of_0 : List UInt8 := [42, 180, 0, 1, 42, 180, 0, 13, 42, 180, 0, 17, 182, 0, 20, 153, 0, 25, 42, 180, 0, 1]
abbrev dktX13_of_0 : List UInt8 := dkwX13_of_0 ++ dktX13_of_1
theorem dksX13_of_0 : cX13_of.data.toList.drop 0 = dktX13_of_0 := by decide +kernel
theorem dksX13_of_1 : cX13_of.data.toList.drop 22 = dktX13_of_1 := dk_seg dksX13_of_0 22 rfl rfl
theorem dX13_of_0 : decode cX13_of 0 = .ok (.aload_n 0, 1) := dk_42 (dk_at dksX13_of_0 0 rfl rfl)
theorem dX13_of_1 : decode cX13_of 1 = .ok (.getfield 1, 3) := dk_180 0 1 (dk_at dksX13_of_0 1 rfl rfl)
theorem dX13_of_4 : decode cX13_of 4 = .ok (.aload_n 0, 1) := dk_42 (dk_at dksX13_of_0 4 rfl rfl)
theorem dX13_of_5 : decode cX13_of 5 = .ok (.getfield 13, 3) := dk_180 0 13 (dk_at dksX13_of_0 5 rfl rfl)
theorem dX13_of_8 : decode cX13_of 8 = .ok (.aload_n 0, 1) := dk_42 (dk_at dksX13_of_0 8 rfl rfl)
theorem dX13_of_9 : decode cX13_of 9 = .ok (.getfield 17, 3) := dk_180 0 17 (dk_at dksX13_of_0 9 rfl rfl)
theorem dX13_of_12 : decode cX13_of 12 = .ok (.invokevirtual 20, 3) := dk_182 0 20 (dk_at dksX13_of_0 12 rfl rfl)
theorem dX13_of_15 : decode cX13_of 15 = .ok (.ifCond .eq 25, 3) := dk_153 0 25 (dk_at dksX13_of_0 15 rfl rfl)
theorem dX13_of_18 : decode cX13_of 18 = .ok (.aload_n 0, 1) := dk_42 (dk_at dksX13_of_0 18 rfl rfl)
theorem dX13_of_19 : decode cX13_of 19 = .ok (.getfield 1, 3) := dk_180 0 1 (dk_at dksX13_of_0 19 rfl rfl)
theorem dX13_of_22 : decode cX13_of 22 = .ok (.invokevirtual 26, 3) := dk_182 0 26 (dk_at dksX13_of_1 0 rfl rfl)
theorem dX13_of_25 : decode cX13_of 25 = .ok (.aload_n 0, 1) := dk_42 (dk_at dksX13_of_1 3 rfl rfl)
theorem dX13_of_26 : decode cX13_of 26 = .ok (.getfield 13, 3) := dk_180 0 13 (dk_at dksX13_of_1 4 rfl rfl)
theorem dX13_of_29 : decode cX13_of 29 = .ok (.aload_n 0, 1) := dk_42 (dk_at dksX13_of_1 7 rfl rfl)
theorem dX13_of_30 : decode cX13_of 30 = .ok (.getfield 17, 3) := dk_180 0 17 (dk_at dksX13_of_1 8 rfl rfl)
theorem dX13_of_33 : decode cX13_of 33 = .ok (.invokevirtual 30, 3) := dk_182 0 30 (dk_at dksX13_of_1 11 rfl rfl)
theorem dX13_of_36 : decode cX13_of 36 = .ok (.i2l, 1) := dk_133 (dk_at dksX13_of_1 14 rfl rfl)
theorem dX13_of_37 : decode cX13_of 37 = .ok (.goto 4, 3) := dk_167 0 4 (dk_at dksX13_of_1 15 rfl rfl)
theorem dX13_of_40 : decode cX13_of 40 = .ok (.lconst 0, 1) := dk_9 (dk_at dksX13_of_1 18 rfl rfl)
theorem dX13_of_41 : decode cX13_of 41 = .ok (.lreturn, 1) := dk_173 (dk_at dksX13_of_1 19 rfl rfl)
noncomputable def f_X13_of (E : ax_E) (x0 : Option Nat) (x1 : Option Nat) (h : ax_H) : Option (Int × ax_H) :=
  (ax_gR E h x0 13 2).bind fun v1 =>
  (ax_gI E h x0 13 0).bind fun v2 =>
  (ax_gI E h x0 13 1).bind fun v3 =>
  (ax_ce E h v1 0).bind fun _ => (f_X0_areTwo E v1 v2 v3 h).bind fun q4 =>
  if i2 q4.1 = 0 then
    some (0, q4.2)
  else
    (ax_gR E q4.2 x0 13 2).bind fun v5 =>
    (ax_ce E q4.2 v5 0).bind fun _ => (f_X0_books E v5 q4.2).bind fun q6 =>
    (ax_gI E q6.2 x0 13 0).bind fun v7 =>
    (ax_gI E q6.2 x0 13 1).bind fun v8 =>
    (ax_ce E q6.2 q6.1 2).bind fun _ => (f_X2_owes E q6.1 v7 v8 q6.2).bind fun q9 =>
    some ((i2 q9.1), q9.2)
set_option maxHeartbeats 4000000 in
theorem we_X13_of {l : Launch} {G : ax_G} {X : ax_X} {Q : State → Prop} {h0 h : ax_H} {ls : Array Slot} (hSF : ax_SF G) (B : ax_BL l G X cX13_of 2 RX13 4 108) (Z : ax_Z X h0 ((some FieldType.long))) (hn : X.2.2.2.2.2.2.2.2.1.name = yX13_of.name) (x0 : Option Nat) (x1 : Option Nat) {w : Int × ax_H} (hl : ax_hl ls 2 [(0, .inr (.inr x0)), (1, .inr (.inr x1))]) (e : f_X13_of G.2.2 x0 x1 h = some w) (hp : (fun w : Int × ax_H => Q = ax_Q G X h0 w.2 (some (.long (Int64.ofInt w.1)))) w) : ax_W G X Q h 0 ls [] := by
  unfold f_X13_of at e
  refine ax_aload_n B dX13_of_0 rfl hl 0 rfl ?_
  refine ax_getR B ff_X13_1_13 (fun _ _ => rfl) dX13_of_1 e (fun v1 e => ?_)
  refine ax_aload_n B dX13_of_4 rfl hl 0 rfl ?_
  refine ax_getI B ff_X13_13_13 (fun _ _ => rfl) dX13_of_5 e (fun v2 e => ?_)
  refine ax_aload_n B dX13_of_8 rfl hl 0 rfl ?_
  refine ax_getI B ff_X13_17_13 (fun _ _ => rfl) dX13_of_9 e (fun v3 e => ?_)
  refine ax_ivNI (y := yX0_areTwo) (n := 2) (As := [.int (Int32.ofInt v2), .int (Int32.ofInt v3)]) B kd0 q564 q566 qs13 q125 q567 (by decide +kernel) ⟨Nat.le_of_ble_eq_true rfl, Nat.le_of_ble_eq_true rfl⟩ (fun w1 e1 => mt_X0_areTwo l G hSF v1 v2 v3 _ w1 e1) rfl hl.size (by decide) dX13_of_12 e (fun q4 e => ?_)
  refine ax_if_eq (tgt := 40) B dX13_of_15 (by decide) e (fun e => ?_) (fun e => ?_)
  · refine ax_lconst (v := 0) B dX13_of_40 rfl ?_
    have e8 := e
    have hp : Q = _ := hp
    subst hp
    exact ax_lreturn B Z dX13_of_41 e8
  · refine ax_aload_n B dX13_of_18 rfl hl 0 rfl ?_
    refine ax_getR B ff_X13_1_13 (fun _ _ => rfl) dX13_of_19 e (fun v5 e => ?_)
    refine ax_ivNR (y := yX0_books) (n := 0) (As := []) B kd0 q568 q445 qs2 q125 q446 (by decide +kernel) ⟨Nat.le_of_ble_eq_true rfl, Nat.le_of_ble_eq_true rfl⟩ (fun w1 e1 => mt_X0_books l G hSF v5 _ w1 e1) rfl hl.size (by decide) dX13_of_22 e (fun q6 e => ?_)
    refine ax_aload_n B dX13_of_25 rfl hl 0 rfl ?_
    refine ax_getI B ff_X13_13_13 (fun _ _ => rfl) dX13_of_26 e (fun v7 e => ?_)
    refine ax_aload_n B dX13_of_29 rfl hl 0 rfl ?_
    refine ax_getI B ff_X13_17_13 (fun _ _ => rfl) dX13_of_30 e (fun v8 e => ?_)
    refine ax_ivI (y := yX2_owes) (n := 2) (As := [.int (Int32.ofInt v7), .int (Int32.ofInt v8)]) B kd2 (lw_V q569 q508 q509 q130 q510) (by decide +kernel) ⟨Nat.le_of_ble_eq_true rfl, Nat.le_of_ble_eq_true rfl⟩ (fun w1 e1 => mt_X2_owes l G hSF q6.1 v7 v8 _ w1 e1) rfl hl.size (by decide) dX13_of_33 e (fun q9 e => ?_)
    refine ax_i2l' B dX13_of_36 ?_
    refine ax_goto (tgt := 41) B dX13_of_37 (by decide) ?_
    have e8 := e
    have hp : Q = _ := hp
    subst hp
    exact ax_lreturn B Z dX13_of_41 e8
theorem mt_X13_of (l : Launch) (G : ax_G) (hSF : ax_SF G) (x0 : Option Nat) (x1 : Option Nat) (h : ax_H) (w : Int × ax_H) (e : f_X13_of G.2.2 x0 x1 h = some w) : ax_Met l G yX13_of cX13_of 2 ((some FieldType.long)) 4 108 [va_rf x0, va_rf x1] h w.2 (some (.long (Int64.ofInt w.1))) :=
  ax_enter [.inr (.inr x0), .inr (.inr x1)] (y := yX13_of) hSF (plainFor_of_name (by decide +kernel)) (Nat.le_of_ble_eq_true rfl) (fun X ls B Z hn hl => we_X13_of hSF B Z hn x0 x1 hl e rfl)
def dkwX3_within_1 : List UInt8 := [4, 167, 0, 4, 3, 181, 0, 13, 42, 180, 0, 13, 153, 0, 7, 9, 167, 0, 4, 31, 173]
abbrev dktX3_within_1 : List UInt8 := dkwX3_within_1 ++ []
def dkwX3_within_0 : List UInt8 := [42, 42, 180, 0, 13, 154, 0, 19, 31, 20, 0, 17, 148, 157, 0, 11, 31, 20, 0, 19, 148, 156, 0, 7]
abbrev dktX3_within_0 : List UInt8 := dkwX3_within_0 ++ dktX3_within_1
theorem dksX3_within_0 : cX3_within.data.toList.drop 0 = dktX3_within_0 := by decide +kernel
theorem dksX3_within_1 : cX3_within.data.toList.drop 24 = dktX3_within_1 := dk_seg dksX3_within_0 24 rfl rfl
theorem dX3_within_0 : decode cX3_within 0 = .ok (.aload_n 0, 1) := dk_42 (dk_at dksX3_within_0 0 rfl rfl)
theorem dX3_within_1 : decode cX3_within 1 = .ok (.aload_n 0, 1) := dk_42 (dk_at dksX3_within_0 1 rfl rfl)
theorem dX3_within_2 : decode cX3_within 2 = .ok (.getfield 13, 3) := dk_180 0 13 (dk_at dksX3_within_0 2 rfl rfl)
theorem dX3_within_5 : decode cX3_within 5 = .ok (.ifCond .ne 19, 3) := dk_154 0 19 (dk_at dksX3_within_0 5 rfl rfl)
theorem dX3_within_8 : decode cX3_within 8 = .ok (.lload_n 1, 1) := dk_31 (dk_at dksX3_within_0 8 rfl rfl)
theorem dX3_within_9 : decode cX3_within 9 = .ok (.ldc2_w 17, 3) := dk_20 0 17 (dk_at dksX3_within_0 9 rfl rfl)
theorem dX3_within_12 : decode cX3_within 12 = .ok (.lcmp, 1) := dk_148 (dk_at dksX3_within_0 12 rfl rfl)
theorem dX3_within_13 : decode cX3_within 13 = .ok (.ifCond .gt 11, 3) := dk_157 0 11 (dk_at dksX3_within_0 13 rfl rfl)
theorem dX3_within_16 : decode cX3_within 16 = .ok (.lload_n 1, 1) := dk_31 (dk_at dksX3_within_0 16 rfl rfl)
theorem dX3_within_17 : decode cX3_within 17 = .ok (.ldc2_w 19, 3) := dk_20 0 19 (dk_at dksX3_within_0 17 rfl rfl)
theorem dX3_within_20 : decode cX3_within 20 = .ok (.lcmp, 1) := dk_148 (dk_at dksX3_within_0 20 rfl rfl)
theorem dX3_within_21 : decode cX3_within 21 = .ok (.ifCond .ge 7, 3) := dk_156 0 7 (dk_at dksX3_within_0 21 rfl rfl)
theorem dX3_within_24 : decode cX3_within 24 = .ok (.iconst 1, 1) := dk_4 (dk_at dksX3_within_1 0 rfl rfl)
theorem dX3_within_25 : decode cX3_within 25 = .ok (.goto 4, 3) := dk_167 0 4 (dk_at dksX3_within_1 1 rfl rfl)
theorem dX3_within_28 : decode cX3_within 28 = .ok (.iconst 0, 1) := dk_3 (dk_at dksX3_within_1 4 rfl rfl)
theorem dX3_within_29 : decode cX3_within 29 = .ok (.putfield 13, 3) := dk_181 0 13 (dk_at dksX3_within_1 5 rfl rfl)
theorem dX3_within_32 : decode cX3_within 32 = .ok (.aload_n 0, 1) := dk_42 (dk_at dksX3_within_1 8 rfl rfl)
theorem dX3_within_33 : decode cX3_within 33 = .ok (.getfield 13, 3) := dk_180 0 13 (dk_at dksX3_within_1 9 rfl rfl)
theorem dX3_within_36 : decode cX3_within 36 = .ok (.ifCond .eq 7, 3) := dk_153 0 7 (dk_at dksX3_within_1 12 rfl rfl)
theorem dX3_within_39 : decode cX3_within 39 = .ok (.lconst 0, 1) := dk_9 (dk_at dksX3_within_1 15 rfl rfl)
theorem dX3_within_40 : decode cX3_within 40 = .ok (.goto 4, 3) := dk_167 0 4 (dk_at dksX3_within_1 16 rfl rfl)
theorem dX3_within_43 : decode cX3_within 43 = .ok (.lload_n 1, 1) := dk_31 (dk_at dksX3_within_1 19 rfl rfl)
theorem dX3_within_44 : decode cX3_within 44 = .ok (.lreturn, 1) := dk_173 (dk_at dksX3_within_1 20 rfl rfl)
noncomputable def f_X3_within_29 (E : ax_E) (x0 : Option Nat) (x1 : Int) (s0 : Option Nat) (s1 : Int) (h : ax_H) : Option (Int × ax_H) :=
  if s1 = 0 ∨ s1 = 1 then (ax_pI h s0 3 1 s1).bind fun h1 =>
    (ax_gI E h1 x0 3 1).bind fun v2 =>
    if i2 v2 = 0 then
      some (x1, h1)
    else
      some (0, h1)
  else none
noncomputable def f_X3_within_24 (E : ax_E) (x0 : Option Nat) (x1 : Int) (s0 : Option Nat) (h : ax_H) : Option (Int × ax_H) :=
  f_X3_within_29 E x0 x1 s0 1 h
noncomputable def f_X3_within (E : ax_E) (x0 : Option Nat) (x1 : Int) (h : ax_H) : Option (Int × ax_H) :=
  (ax_gI E h x0 3 1).bind fun v1 =>
  if i2 v1 = 0 then
    if 0 < i2 (ax_cmp x1 1000000000) then
      f_X3_within_24 E x0 x1 x0 h
    else
      if i2 (ax_cmp x1 (-1000000000)) < 0 then
        f_X3_within_24 E x0 x1 x0 h
      else
        f_X3_within_29 E x0 x1 x0 0 h
  else
    f_X3_within_24 E x0 x1 x0 h
set_option maxHeartbeats 4000000 in
theorem w_X3_within_29 {l : Launch} {G : ax_G} {X : ax_X} {Q : State → Prop} {h0 h : ax_H} {ls : Array Slot} (hSF : ax_SF G) (B : ax_BL l G X cX3_within 3 RX3 1 40) (Z : ax_Z X h0 ((some FieldType.long))) (hn : X.2.2.2.2.2.2.2.2.1.name = yX3_within.name) (x0 : Option Nat) (x1 : Int) (s0 : Option Nat) (s1 : Int) {w : Int × ax_H} (hl : ax_hl ls 3 [(0, .inr (.inr x0)), (1, .inr (.inl x1))]) (e : f_X3_within_29 G.2.2 x0 x1 s0 s1 h = some w) (hp : (fun w : Int × ax_H => Q = ax_Q G X h0 w.2 (some (.long (Int64.ofInt w.1)))) w) : ax_W G X Q h 29 ls [.int (Int32.ofInt s1), va_rf s0] := by
  unfold f_X3_within_29 at e
  refine ax_putZ B ff_X3_13_3 (Or.inl rfl) dX3_within_29 e (fun h1 e => ?_)
  refine ax_aload_n B dX3_within_32 rfl hl 0 rfl ?_
  refine ax_getI B ff_X3_13_3 (fun _ _ => rfl) dX3_within_33 e (fun v2 e => ?_)
  refine ax_if_eq (tgt := 43) B dX3_within_36 (by decide) e (fun e => ?_) (fun e => ?_)
  · refine ax_lload_n B dX3_within_43 rfl hl 1 rfl ?_
    have e8 := e
    have hp : Q = _ := hp
    subst hp
    exact ax_lreturn B Z dX3_within_44 e8
  · refine ax_lconst (v := 0) B dX3_within_39 rfl ?_
    refine ax_goto (tgt := 44) B dX3_within_40 (by decide) ?_
    have e8 := e
    have hp : Q = _ := hp
    subst hp
    exact ax_lreturn B Z dX3_within_44 e8
set_option maxHeartbeats 4000000 in
theorem w_X3_within_24 {l : Launch} {G : ax_G} {X : ax_X} {Q : State → Prop} {h0 h : ax_H} {ls : Array Slot} (hSF : ax_SF G) (B : ax_BL l G X cX3_within 3 RX3 1 40) (Z : ax_Z X h0 ((some FieldType.long))) (hn : X.2.2.2.2.2.2.2.2.1.name = yX3_within.name) (x0 : Option Nat) (x1 : Int) (s0 : Option Nat) {w : Int × ax_H} (hl : ax_hl ls 3 [(0, .inr (.inr x0)), (1, .inr (.inl x1))]) (e : f_X3_within_24 G.2.2 x0 x1 s0 h = some w) (hp : (fun w : Int × ax_H => Q = ax_Q G X h0 w.2 (some (.long (Int64.ofInt w.1)))) w) : ax_W G X Q h 24 ls [va_rf s0] := by
  unfold f_X3_within_24 at e
  refine ax_iconst B dX3_within_24 ?_
  refine ax_goto (tgt := 29) B dX3_within_25 (by decide) ?_
  exact w_X3_within_29 hSF B Z hn x0 x1 s0 1 (hl.sub [0, 1] rfl) e hp
set_option maxHeartbeats 4000000 in
theorem we_X3_within {l : Launch} {G : ax_G} {X : ax_X} {Q : State → Prop} {h0 h : ax_H} {ls : Array Slot} (hSF : ax_SF G) (B : ax_BL l G X cX3_within 3 RX3 1 40) (Z : ax_Z X h0 ((some FieldType.long))) (hn : X.2.2.2.2.2.2.2.2.1.name = yX3_within.name) (x0 : Option Nat) (x1 : Int) {w : Int × ax_H} (hl : ax_hl ls 3 [(0, .inr (.inr x0)), (1, .inr (.inl x1))]) (e : f_X3_within G.2.2 x0 x1 h = some w) (hp : (fun w : Int × ax_H => Q = ax_Q G X h0 w.2 (some (.long (Int64.ofInt w.1)))) w) : ax_W G X Q h 0 ls [] := by
  unfold f_X3_within at e
  refine ax_aload_n B dX3_within_0 rfl hl 0 rfl ?_
  refine ax_aload_n B dX3_within_1 rfl hl 0 rfl ?_
  refine ax_getI B ff_X3_13_3 (fun _ _ => rfl) dX3_within_2 e (fun v1 e => ?_)
  refine ax_if_ne (tgt := 24) B dX3_within_5 (by decide) e (fun e => ?_) (fun e => ?_)
  · refine ax_lload_n B dX3_within_8 rfl hl 1 rfl ?_
    refine ax_ldc2 B cn_X3_17 dX3_within_9 ?_
    refine ax_lcmp' B dX3_within_12 ?_
    refine ax_if_gt (tgt := 24) B dX3_within_13 (by decide) e (fun e => ?_) (fun e => ?_)
    · exact w_X3_within_24 hSF B Z hn x0 x1 x0 (hl.sub [0, 1] rfl) e hp
    · refine ax_lload_n B dX3_within_16 rfl hl 1 rfl ?_
      refine ax_ldc2 B cn_X3_19 dX3_within_17 ?_
      refine ax_lcmp' B dX3_within_20 ?_
      refine ax_if_ge (tgt := 28) B dX3_within_21 (by decide) e (fun e => ?_) (fun e => ?_)
      · exact w_X3_within_24 hSF B Z hn x0 x1 x0 (hl.sub [0, 1] rfl) e hp
      · refine ax_iconst B dX3_within_28 ?_
        exact w_X3_within_29 hSF B Z hn x0 x1 x0 0 (hl.sub [0, 1] rfl) e hp
  · exact w_X3_within_24 hSF B Z hn x0 x1 x0 (hl.sub [0, 1] rfl) e hp
theorem mt_X3_within (l : Launch) (G : ax_G) (hSF : ax_SF G) (x0 : Option Nat) (x1 : Int) (h : ax_H) (w : Int × ax_H) (e : f_X3_within G.2.2 x0 x1 h = some w) : ax_Met l G yX3_within cX3_within 3 ((some FieldType.long)) 1 40 [va_rf x0, .long (Int64.ofInt x1)] h w.2 (some (.long (Int64.ofInt w.1))) :=
  ax_enter [.inr (.inr x0), .inr (.inl x1)] (y := yX3_within) hSF (plainFor_of_name (by decide +kernel)) (Nat.le_of_ble_eq_true rfl) (fun X ls B Z hn hl => we_X3_within hSF B Z hn x0 x1 hl e rfl)
def dkwX14_of_6 : List UInt8 := [182, 0, 30, 173]
abbrev dktX14_of_6 : List UInt8 := dkwX14_of_6 ++ []
def dkwX14_of_5 : List UInt8 := [97, 167, 0, 23, 42, 180, 0, 13, 16, 45, 160, 0, 10, 32, 22, 4, 101, 167, 0, 7, 32, 22, 4, 105]
abbrev dktX14_of_5 : List UInt8 := dkwX14_of_5 ++ dktX14_of_6
def dkwX14_of_4 : List UInt8 := [22, 4, 109, 167, 0, 7, 32, 22, 4, 113, 173, 43, 42, 180, 0, 13, 16, 43, 160, 0, 10, 32, 22, 4]
abbrev dktX14_of_4 : List UInt8 := dkwX14_of_4 ++ dktX14_of_5
def dkwX14_of_3 : List UInt8 := [181, 0, 24, 22, 4, 9, 148, 154, 0, 7, 9, 167, 0, 23, 42, 180, 0, 13, 16, 47, 160, 0, 10, 32]
abbrev dktX14_of_3 : List UInt8 := dkwX14_of_3 ++ dktX14_of_4
def dkwX14_of_2 : List UInt8 := [42, 180, 0, 13, 16, 37, 160, 0, 51, 43, 22, 4, 9, 148, 154, 0, 7, 4, 167, 0, 4, 3]
abbrev dktX14_of_2 : List UInt8 := dkwX14_of_2 ++ dktX14_of_3
def dkwX14_of_1 : List UInt8 := [43, 182, 0, 20, 55, 4, 43, 180, 0, 24, 153, 0, 5, 9, 173, 42, 180, 0, 13, 16, 47, 159, 0, 12]
abbrev dktX14_of_1 : List UInt8 := dkwX14_of_1 ++ dktX14_of_2
def dkwX14_of_0 : List UInt8 := [42, 180, 0, 7, 43, 182, 0, 20, 65, 43, 180, 0, 24, 153, 0, 7, 9, 167, 0, 11, 42, 180, 0, 17]
abbrev dktX14_of_0 : List UInt8 := dkwX14_of_0 ++ dktX14_of_1
theorem dksX14_of_0 : cX14_of.data.toList.drop 0 = dktX14_of_0 := by decide +kernel
theorem dksX14_of_1 : cX14_of.data.toList.drop 24 = dktX14_of_1 := dk_seg dksX14_of_0 24 rfl rfl
theorem dksX14_of_2 : cX14_of.data.toList.drop 48 = dktX14_of_2 := dk_seg dksX14_of_1 24 rfl rfl
theorem dksX14_of_3 : cX14_of.data.toList.drop 70 = dktX14_of_3 := dk_seg dksX14_of_2 22 rfl rfl
theorem dksX14_of_4 : cX14_of.data.toList.drop 94 = dktX14_of_4 := dk_seg dksX14_of_3 24 rfl rfl
theorem dksX14_of_5 : cX14_of.data.toList.drop 118 = dktX14_of_5 := dk_seg dksX14_of_4 24 rfl rfl
theorem dksX14_of_6 : cX14_of.data.toList.drop 142 = dktX14_of_6 := dk_seg dksX14_of_5 24 rfl rfl
theorem dX14_of_0 : decode cX14_of 0 = .ok (.aload_n 0, 1) := dk_42 (dk_at dksX14_of_0 0 rfl rfl)
theorem dX14_of_1 : decode cX14_of 1 = .ok (.getfield 7, 3) := dk_180 0 7 (dk_at dksX14_of_0 1 rfl rfl)
theorem dX14_of_4 : decode cX14_of 4 = .ok (.aload_n 1, 1) := dk_43 (dk_at dksX14_of_0 4 rfl rfl)
theorem dX14_of_5 : decode cX14_of 5 = .ok (.invokevirtual 20, 3) := dk_182 0 20 (dk_at dksX14_of_0 5 rfl rfl)
theorem dX14_of_8 : decode cX14_of 8 = .ok (.lstore_n 2, 1) := dk_65 (dk_at dksX14_of_0 8 rfl rfl)
theorem dX14_of_9 : decode cX14_of 9 = .ok (.aload_n 1, 1) := dk_43 (dk_at dksX14_of_0 9 rfl rfl)
theorem dX14_of_10 : decode cX14_of 10 = .ok (.getfield 24, 3) := dk_180 0 24 (dk_at dksX14_of_0 10 rfl rfl)
theorem dX14_of_13 : decode cX14_of 13 = .ok (.ifCond .eq 7, 3) := dk_153 0 7 (dk_at dksX14_of_0 13 rfl rfl)
theorem dX14_of_16 : decode cX14_of 16 = .ok (.lconst 0, 1) := dk_9 (dk_at dksX14_of_0 16 rfl rfl)
theorem dX14_of_17 : decode cX14_of 17 = .ok (.goto 11, 3) := dk_167 0 11 (dk_at dksX14_of_0 17 rfl rfl)
theorem dX14_of_20 : decode cX14_of 20 = .ok (.aload_n 0, 1) := dk_42 (dk_at dksX14_of_0 20 rfl rfl)
theorem dX14_of_21 : decode cX14_of 21 = .ok (.getfield 17, 3) := dk_180 0 17 (dk_at dksX14_of_0 21 rfl rfl)
theorem dX14_of_24 : decode cX14_of 24 = .ok (.aload_n 1, 1) := dk_43 (dk_at dksX14_of_1 0 rfl rfl)
theorem dX14_of_25 : decode cX14_of 25 = .ok (.invokevirtual 20, 3) := dk_182 0 20 (dk_at dksX14_of_1 1 rfl rfl)
theorem dX14_of_28 : decode cX14_of 28 = .ok (.lstore 4, 2) := dk_55 4 (dk_at dksX14_of_1 4 rfl rfl)
theorem dX14_of_30 : decode cX14_of 30 = .ok (.aload_n 1, 1) := dk_43 (dk_at dksX14_of_1 6 rfl rfl)
theorem dX14_of_31 : decode cX14_of 31 = .ok (.getfield 24, 3) := dk_180 0 24 (dk_at dksX14_of_1 7 rfl rfl)
theorem dX14_of_34 : decode cX14_of 34 = .ok (.ifCond .eq 5, 3) := dk_153 0 5 (dk_at dksX14_of_1 10 rfl rfl)
theorem dX14_of_37 : decode cX14_of 37 = .ok (.lconst 0, 1) := dk_9 (dk_at dksX14_of_1 13 rfl rfl)
theorem dX14_of_38 : decode cX14_of 38 = .ok (.lreturn, 1) := dk_173 (dk_at dksX14_of_1 14 rfl rfl)
theorem dX14_of_39 : decode cX14_of 39 = .ok (.aload_n 0, 1) := dk_42 (dk_at dksX14_of_1 15 rfl rfl)
theorem dX14_of_40 : decode cX14_of 40 = .ok (.getfield 13, 3) := dk_180 0 13 (dk_at dksX14_of_1 16 rfl rfl)
theorem dX14_of_43 : decode cX14_of 43 = .ok (.bipush 47, 2) := dk_16 47 (dk_at dksX14_of_1 19 rfl rfl)
theorem dX14_of_45 : decode cX14_of 45 = .ok (.if_icmp .eq 12, 3) := dk_159 0 12 (dk_at dksX14_of_1 21 rfl rfl)
theorem dX14_of_48 : decode cX14_of 48 = .ok (.aload_n 0, 1) := dk_42 (dk_at dksX14_of_2 0 rfl rfl)
theorem dX14_of_49 : decode cX14_of 49 = .ok (.getfield 13, 3) := dk_180 0 13 (dk_at dksX14_of_2 1 rfl rfl)
theorem dX14_of_52 : decode cX14_of 52 = .ok (.bipush 37, 2) := dk_16 37 (dk_at dksX14_of_2 4 rfl rfl)
theorem dX14_of_54 : decode cX14_of 54 = .ok (.if_icmp .ne 51, 3) := dk_160 0 51 (dk_at dksX14_of_2 6 rfl rfl)
theorem dX14_of_57 : decode cX14_of 57 = .ok (.aload_n 1, 1) := dk_43 (dk_at dksX14_of_2 9 rfl rfl)
theorem dX14_of_58 : decode cX14_of 58 = .ok (.lload 4, 2) := dk_22 4 (dk_at dksX14_of_2 10 rfl rfl)
theorem dX14_of_60 : decode cX14_of 60 = .ok (.lconst 0, 1) := dk_9 (dk_at dksX14_of_2 12 rfl rfl)
theorem dX14_of_61 : decode cX14_of 61 = .ok (.lcmp, 1) := dk_148 (dk_at dksX14_of_2 13 rfl rfl)
theorem dX14_of_62 : decode cX14_of 62 = .ok (.ifCond .ne 7, 3) := dk_154 0 7 (dk_at dksX14_of_2 14 rfl rfl)
theorem dX14_of_65 : decode cX14_of 65 = .ok (.iconst 1, 1) := dk_4 (dk_at dksX14_of_2 17 rfl rfl)
theorem dX14_of_66 : decode cX14_of 66 = .ok (.goto 4, 3) := dk_167 0 4 (dk_at dksX14_of_2 18 rfl rfl)
theorem dX14_of_69 : decode cX14_of 69 = .ok (.iconst 0, 1) := dk_3 (dk_at dksX14_of_2 21 rfl rfl)
theorem dX14_of_70 : decode cX14_of 70 = .ok (.putfield 24, 3) := dk_181 0 24 (dk_at dksX14_of_3 0 rfl rfl)
theorem dX14_of_73 : decode cX14_of 73 = .ok (.lload 4, 2) := dk_22 4 (dk_at dksX14_of_3 3 rfl rfl)
theorem dX14_of_75 : decode cX14_of 75 = .ok (.lconst 0, 1) := dk_9 (dk_at dksX14_of_3 5 rfl rfl)
theorem dX14_of_76 : decode cX14_of 76 = .ok (.lcmp, 1) := dk_148 (dk_at dksX14_of_3 6 rfl rfl)
theorem dX14_of_77 : decode cX14_of 77 = .ok (.ifCond .ne 7, 3) := dk_154 0 7 (dk_at dksX14_of_3 7 rfl rfl)
theorem dX14_of_80 : decode cX14_of 80 = .ok (.lconst 0, 1) := dk_9 (dk_at dksX14_of_3 10 rfl rfl)
theorem dX14_of_81 : decode cX14_of 81 = .ok (.goto 23, 3) := dk_167 0 23 (dk_at dksX14_of_3 11 rfl rfl)
theorem dX14_of_84 : decode cX14_of 84 = .ok (.aload_n 0, 1) := dk_42 (dk_at dksX14_of_3 14 rfl rfl)
theorem dX14_of_85 : decode cX14_of 85 = .ok (.getfield 13, 3) := dk_180 0 13 (dk_at dksX14_of_3 15 rfl rfl)
theorem dX14_of_88 : decode cX14_of 88 = .ok (.bipush 47, 2) := dk_16 47 (dk_at dksX14_of_3 18 rfl rfl)
theorem dX14_of_90 : decode cX14_of 90 = .ok (.if_icmp .ne 10, 3) := dk_160 0 10 (dk_at dksX14_of_3 20 rfl rfl)
theorem dX14_of_93 : decode cX14_of 93 = .ok (.lload_n 2, 1) := dk_32 (dk_at dksX14_of_3 23 rfl rfl)
theorem dX14_of_94 : decode cX14_of 94 = .ok (.lload 4, 2) := dk_22 4 (dk_at dksX14_of_4 0 rfl rfl)
theorem dX14_of_96 : decode cX14_of 96 = .ok (.ldiv, 1) := dk_109 (dk_at dksX14_of_4 2 rfl rfl)
theorem dX14_of_97 : decode cX14_of 97 = .ok (.goto 7, 3) := dk_167 0 7 (dk_at dksX14_of_4 3 rfl rfl)
theorem dX14_of_100 : decode cX14_of 100 = .ok (.lload_n 2, 1) := dk_32 (dk_at dksX14_of_4 6 rfl rfl)
theorem dX14_of_101 : decode cX14_of 101 = .ok (.lload 4, 2) := dk_22 4 (dk_at dksX14_of_4 7 rfl rfl)
theorem dX14_of_103 : decode cX14_of 103 = .ok (.lrem, 1) := dk_113 (dk_at dksX14_of_4 9 rfl rfl)
theorem dX14_of_104 : decode cX14_of 104 = .ok (.lreturn, 1) := dk_173 (dk_at dksX14_of_4 10 rfl rfl)
theorem dX14_of_105 : decode cX14_of 105 = .ok (.aload_n 1, 1) := dk_43 (dk_at dksX14_of_4 11 rfl rfl)
theorem dX14_of_106 : decode cX14_of 106 = .ok (.aload_n 0, 1) := dk_42 (dk_at dksX14_of_4 12 rfl rfl)
theorem dX14_of_107 : decode cX14_of 107 = .ok (.getfield 13, 3) := dk_180 0 13 (dk_at dksX14_of_4 13 rfl rfl)
theorem dX14_of_110 : decode cX14_of 110 = .ok (.bipush 43, 2) := dk_16 43 (dk_at dksX14_of_4 16 rfl rfl)
theorem dX14_of_112 : decode cX14_of 112 = .ok (.if_icmp .ne 10, 3) := dk_160 0 10 (dk_at dksX14_of_4 18 rfl rfl)
theorem dX14_of_115 : decode cX14_of 115 = .ok (.lload_n 2, 1) := dk_32 (dk_at dksX14_of_4 21 rfl rfl)
theorem dX14_of_116 : decode cX14_of 116 = .ok (.lload 4, 2) := dk_22 4 (dk_at dksX14_of_4 22 rfl rfl)
theorem dX14_of_118 : decode cX14_of 118 = .ok (.ladd, 1) := dk_97 (dk_at dksX14_of_5 0 rfl rfl)
theorem dX14_of_119 : decode cX14_of 119 = .ok (.goto 23, 3) := dk_167 0 23 (dk_at dksX14_of_5 1 rfl rfl)
theorem dX14_of_122 : decode cX14_of 122 = .ok (.aload_n 0, 1) := dk_42 (dk_at dksX14_of_5 4 rfl rfl)
theorem dX14_of_123 : decode cX14_of 123 = .ok (.getfield 13, 3) := dk_180 0 13 (dk_at dksX14_of_5 5 rfl rfl)
theorem dX14_of_126 : decode cX14_of 126 = .ok (.bipush 45, 2) := dk_16 45 (dk_at dksX14_of_5 8 rfl rfl)
theorem dX14_of_128 : decode cX14_of 128 = .ok (.if_icmp .ne 10, 3) := dk_160 0 10 (dk_at dksX14_of_5 10 rfl rfl)
theorem dX14_of_131 : decode cX14_of 131 = .ok (.lload_n 2, 1) := dk_32 (dk_at dksX14_of_5 13 rfl rfl)
theorem dX14_of_132 : decode cX14_of 132 = .ok (.lload 4, 2) := dk_22 4 (dk_at dksX14_of_5 14 rfl rfl)
theorem dX14_of_134 : decode cX14_of 134 = .ok (.lsub, 1) := dk_101 (dk_at dksX14_of_5 16 rfl rfl)
theorem dX14_of_135 : decode cX14_of 135 = .ok (.goto 7, 3) := dk_167 0 7 (dk_at dksX14_of_5 17 rfl rfl)
theorem dX14_of_138 : decode cX14_of 138 = .ok (.lload_n 2, 1) := dk_32 (dk_at dksX14_of_5 20 rfl rfl)
theorem dX14_of_139 : decode cX14_of 139 = .ok (.lload 4, 2) := dk_22 4 (dk_at dksX14_of_5 21 rfl rfl)
theorem dX14_of_141 : decode cX14_of 141 = .ok (.lmul, 1) := dk_105 (dk_at dksX14_of_5 23 rfl rfl)
theorem dX14_of_142 : decode cX14_of 142 = .ok (.invokevirtual 30, 3) := dk_182 0 30 (dk_at dksX14_of_6 0 rfl rfl)
theorem dX14_of_145 : decode cX14_of 145 = .ok (.lreturn, 1) := dk_173 (dk_at dksX14_of_6 3 rfl rfl)
noncomputable def f_X14_of_70 (E : ax_E) (g0 : Option Nat → Option Nat → ax_H → Option (Int × ax_H)) (x0 : Option Nat) (x2 : Int) (x4 : Int) (s0 : Option Nat) (s1 : Int) (h : ax_H) : Option (Int × ax_H) :=
  if s1 = 0 ∨ s1 = 1 then (ax_pI h s0 3 1 s1).bind fun h1 =>
    if i2 (ax_cmp x4 0) = 0 then
      some (0, h1)
    else
      (ax_gI E h1 x0 14 2).bind fun v2 =>
      if i2 v2 = i2 47 then
        if l2 x4 = 0 then none else
        some (((l2 x2).tdiv (l2 x4)), h1)
      else
        if l2 x4 = 0 then none else
        some (((l2 x2).tmod (l2 x4)), h1)
  else none
noncomputable def f_X14_of_57 (E : ax_E) (g0 : Option Nat → Option Nat → ax_H → Option (Int × ax_H)) (x0 : Option Nat) (x1 : Option Nat) (x2 : Int) (x4 : Int) (h : ax_H) : Option (Int × ax_H) :=
  if i2 (ax_cmp x4 0) = 0 then
    f_X14_of_70 E g0 x0 x2 x4 x1 1 h
  else
    f_X14_of_70 E g0 x0 x2 x4 x1 0 h
noncomputable def f_X14_of_142 (E : ax_E) (g0 : Option Nat → Option Nat → ax_H → Option (Int × ax_H)) (s0 : Option Nat) (s1 : Int) (h : ax_H) : Option (Int × ax_H) :=
  (ax_ce E h s0 3).bind fun _ => (f_X3_within E s0 s1 h).bind fun q1 =>
  some (q1.1, q1.2)
noncomputable def f_X14_of_28 (E : ax_E) (g0 : Option Nat → Option Nat → ax_H → Option (Int × ax_H)) (x0 : Option Nat) (x1 : Option Nat) (x2 : Int) (s0 : Int) (h : ax_H) : Option (Int × ax_H) :=
  (ax_gI E h x1 3 1).bind fun v1 =>
  if i2 v1 = 0 then
    (ax_gI E h x0 14 2).bind fun v2 =>
    if i2 v2 = i2 47 then
      f_X14_of_57 E g0 x0 x1 x2 s0 h
    else
      (ax_gI E h x0 14 2).bind fun v3 =>
      if i2 v3 = i2 37 then
        f_X14_of_57 E g0 x0 x1 x2 s0 h
      else
        (ax_gI E h x0 14 2).bind fun v4 =>
        if i2 v4 = i2 43 then
          f_X14_of_142 E g0 x1 (x2 + s0) h
        else
          (ax_gI E h x0 14 2).bind fun v5 =>
          if i2 v5 = i2 45 then
            f_X14_of_142 E g0 x1 (x2 - s0) h
          else
            f_X14_of_142 E g0 x1 (x2 * s0) h
  else
    some (0, h)
noncomputable def f_X14_of (E : ax_E) (g0 : Option Nat → Option Nat → ax_H → Option (Int × ax_H)) (x0 : Option Nat) (x1 : Option Nat) (h : ax_H) : Option (Int × ax_H) :=
  (ax_gR E h x0 14 0).bind fun v1 =>
  (ax_dp E h v1 fun t => if t = 10 then f_X10_of E v1 x1 h else if t = 11 then f_X11_of E v1 x1 h else if t = 12 then f_X12_of E v1 x1 h else if t = 13 then f_X13_of E v1 x1 h else if t = 14 then g0 v1 x1 h else none).bind fun q2 =>
  (ax_gI E q2.2 x1 3 1).bind fun v3 =>
  if i2 v3 = 0 then
    (ax_gR E q2.2 x0 14 1).bind fun v4 =>
    (ax_dp E q2.2 v4 fun t => if t = 10 then f_X10_of E v4 x1 q2.2 else if t = 11 then f_X11_of E v4 x1 q2.2 else if t = 12 then f_X12_of E v4 x1 q2.2 else if t = 13 then f_X13_of E v4 x1 q2.2 else if t = 14 then g0 v4 x1 q2.2 else none).bind fun q5 =>
    f_X14_of_28 E g0 x0 x1 q2.1 q5.1 q5.2
  else
    f_X14_of_28 E g0 x0 x1 q2.1 0 q2.2
noncomputable def rg_X14_of (E : ax_E) : Nat → (Option Nat → Option Nat → ax_H → Option (Int × ax_H))
  | 0 => (fun x0 x1 h => none)
  | n + 1 => (fun x0 x1 h => f_X14_of E (rg_X14_of E n) x0 x1 h)
noncomputable def fn_X14_of (E : ax_E) (n : Nat) (x0 : Option Nat) (x1 : Option Nat) (h : ax_H) : Option (Int × ax_H) := (rg_X14_of E n) x0 x1 h
set_option maxHeartbeats 4000000 in
theorem w_X14_of_70 {l : Launch} {G : ax_G} {X : ax_X} {Q : State → Prop} {h0 h : ax_H} {ls : Array Slot} {g0 : Option Nat → Option Nat → ax_H → Option (Int × ax_H)} {fr lo fr1 lo1 : Nat} (hF : fr1 + 1 ≤ fr ∧ 5 ≤ fr ∧ lo1 + 25 ≤ lo ∧ 129 ≤ lo) (hg0 : ∀ (x0 : Option Nat) (x1 : Option Nat) (h : ax_H) (w : Int × ax_H), g0 x0 x1 h = some w → ax_Met l G yX14_of cX14_of 6 ((some FieldType.long)) fr1 lo1 [va_rf x0, va_rf x1] h w.2 (some (.long (Int64.ofInt w.1)))) (hSF : ax_SF G) (B : ax_BL l G X cX14_of 6 RX14 fr lo) (Z : ax_Z X h0 ((some FieldType.long))) (hn : X.2.2.2.2.2.2.2.2.1.name = yX14_of.name) (x0 : Option Nat) (x2 : Int) (x4 : Int) (s0 : Option Nat) (s1 : Int) {w : Int × ax_H} (hl : ax_hl ls 6 [(0, .inr (.inr x0)), (2, .inr (.inl x2)), (4, .inr (.inl x4))]) (e : f_X14_of_70 G.2.2 g0 x0 x2 x4 s0 s1 h = some w) (hp : (fun w : Int × ax_H => Q = ax_Q G X h0 w.2 (some (.long (Int64.ofInt w.1)))) w) : ax_W G X Q h 70 ls [.int (Int32.ofInt s1), va_rf s0] := by
  unfold f_X14_of_70 at e
  refine ax_putZ B ff_X14_24_3 (Or.inl rfl) dX14_of_70 e (fun h1 e => ?_)
  refine ax_lload B dX14_of_73 hl 2 rfl ?_
  refine ax_lconst (v := 0) B dX14_of_75 rfl ?_
  refine ax_lcmp' B dX14_of_76 ?_
  refine ax_if_ne (tgt := 84) B dX14_of_77 (by decide) e (fun e => ?_) (fun e => ?_)
  · refine ax_lconst (v := 0) B dX14_of_80 rfl ?_
    refine ax_goto (tgt := 104) B dX14_of_81 (by decide) ?_
    have e8 := e
    have hp : Q = _ := hp
    subst hp
    exact ax_lreturn B Z dX14_of_104 e8
  · refine ax_aload_n B dX14_of_84 rfl hl 0 rfl ?_
    refine ax_getI B ff_X14_13_14 (fun _ _ => rfl) dX14_of_85 e (fun v2 e => ?_)
    refine ax_bipush B dX14_of_88 (by decide) ?_
    refine ax_icmp_ne (tgt := 100) B dX14_of_90 (by decide) e (fun e => ?_) (fun e => ?_)
    · refine ax_lload_n B dX14_of_93 rfl hl 1 rfl ?_
      refine ax_lload B dX14_of_94 hl 2 rfl ?_
      refine ax_ldiv' B dX14_of_96 e (fun e => ?_)
      refine ax_goto (tgt := 104) B dX14_of_97 (by decide) ?_
      have e8 := e
      have hp : Q = _ := hp
      subst hp
      exact ax_lreturn B Z dX14_of_104 e8
    · refine ax_lload_n B dX14_of_100 rfl hl 1 rfl ?_
      refine ax_lload B dX14_of_101 hl 2 rfl ?_
      refine ax_lrem' B dX14_of_103 e (fun e => ?_)
      have e8 := e
      have hp : Q = _ := hp
      subst hp
      exact ax_lreturn B Z dX14_of_104 e8
set_option maxHeartbeats 4000000 in
theorem w_X14_of_57 {l : Launch} {G : ax_G} {X : ax_X} {Q : State → Prop} {h0 h : ax_H} {ls : Array Slot} {g0 : Option Nat → Option Nat → ax_H → Option (Int × ax_H)} {fr lo fr1 lo1 : Nat} (hF : fr1 + 1 ≤ fr ∧ 5 ≤ fr ∧ lo1 + 25 ≤ lo ∧ 129 ≤ lo) (hg0 : ∀ (x0 : Option Nat) (x1 : Option Nat) (h : ax_H) (w : Int × ax_H), g0 x0 x1 h = some w → ax_Met l G yX14_of cX14_of 6 ((some FieldType.long)) fr1 lo1 [va_rf x0, va_rf x1] h w.2 (some (.long (Int64.ofInt w.1)))) (hSF : ax_SF G) (B : ax_BL l G X cX14_of 6 RX14 fr lo) (Z : ax_Z X h0 ((some FieldType.long))) (hn : X.2.2.2.2.2.2.2.2.1.name = yX14_of.name) (x0 : Option Nat) (x1 : Option Nat) (x2 : Int) (x4 : Int) {w : Int × ax_H} (hl : ax_hl ls 6 [(0, .inr (.inr x0)), (1, .inr (.inr x1)), (2, .inr (.inl x2)), (4, .inr (.inl x4))]) (e : f_X14_of_57 G.2.2 g0 x0 x1 x2 x4 h = some w) (hp : (fun w : Int × ax_H => Q = ax_Q G X h0 w.2 (some (.long (Int64.ofInt w.1)))) w) : ax_W G X Q h 57 ls [] := by
  unfold f_X14_of_57 at e
  refine ax_aload_n B dX14_of_57 rfl hl 1 rfl ?_
  refine ax_lload B dX14_of_58 hl 3 rfl ?_
  refine ax_lconst (v := 0) B dX14_of_60 rfl ?_
  refine ax_lcmp' B dX14_of_61 ?_
  refine ax_if_ne (tgt := 69) B dX14_of_62 (by decide) e (fun e => ?_) (fun e => ?_)
  · refine ax_iconst B dX14_of_65 ?_
    refine ax_goto (tgt := 70) B dX14_of_66 (by decide) ?_
    exact w_X14_of_70 hF hg0 hSF B Z hn x0 x2 x4 x1 1 (hl.sub [0, 2, 3] rfl) e hp
  · refine ax_iconst B dX14_of_69 ?_
    exact w_X14_of_70 hF hg0 hSF B Z hn x0 x2 x4 x1 0 (hl.sub [0, 2, 3] rfl) e hp
set_option maxHeartbeats 4000000 in
theorem w_X14_of_142 {l : Launch} {G : ax_G} {X : ax_X} {Q : State → Prop} {h0 h : ax_H} {ls : Array Slot} {g0 : Option Nat → Option Nat → ax_H → Option (Int × ax_H)} {fr lo fr1 lo1 : Nat} (hF : fr1 + 1 ≤ fr ∧ 5 ≤ fr ∧ lo1 + 25 ≤ lo ∧ 129 ≤ lo) (hg0 : ∀ (x0 : Option Nat) (x1 : Option Nat) (h : ax_H) (w : Int × ax_H), g0 x0 x1 h = some w → ax_Met l G yX14_of cX14_of 6 ((some FieldType.long)) fr1 lo1 [va_rf x0, va_rf x1] h w.2 (some (.long (Int64.ofInt w.1)))) (hSF : ax_SF G) (B : ax_BL l G X cX14_of 6 RX14 fr lo) (Z : ax_Z X h0 ((some FieldType.long))) (hn : X.2.2.2.2.2.2.2.2.1.name = yX14_of.name) (s0 : Option Nat) (s1 : Int) {w : Int × ax_H} (hl : ax_hl ls 6 []) (e : f_X14_of_142 G.2.2 g0 s0 s1 h = some w) (hp : (fun w : Int × ax_H => Q = ax_Q G X h0 w.2 (some (.long (Int64.ofInt w.1)))) w) : ax_W G X Q h 142 ls [.long (Int64.ofInt s1), va_rf s0] := by
  unfold f_X14_of_142 at e
  refine ax_ivL (y := yX3_within) (n := 1) (As := [.long (Int64.ofInt s1)]) B kd3 (lw_V q577 q578 q579 q131 q580) (by decide +kernel) (by omega) (fun w1 e1 => mt_X3_within l G hSF s0 s1 _ w1 e1) rfl hl.size (by decide) dX14_of_142 e (fun q1 e => ?_)
  have e8 := e
  have hp : Q = _ := hp
  subst hp
  exact ax_lreturn B Z dX14_of_145 e8
set_option maxHeartbeats 4000000 in
theorem w_X14_of_28 {l : Launch} {G : ax_G} {X : ax_X} {Q : State → Prop} {h0 h : ax_H} {ls : Array Slot} {g0 : Option Nat → Option Nat → ax_H → Option (Int × ax_H)} {fr lo fr1 lo1 : Nat} (hF : fr1 + 1 ≤ fr ∧ 5 ≤ fr ∧ lo1 + 25 ≤ lo ∧ 129 ≤ lo) (hg0 : ∀ (x0 : Option Nat) (x1 : Option Nat) (h : ax_H) (w : Int × ax_H), g0 x0 x1 h = some w → ax_Met l G yX14_of cX14_of 6 ((some FieldType.long)) fr1 lo1 [va_rf x0, va_rf x1] h w.2 (some (.long (Int64.ofInt w.1)))) (hSF : ax_SF G) (B : ax_BL l G X cX14_of 6 RX14 fr lo) (Z : ax_Z X h0 ((some FieldType.long))) (hn : X.2.2.2.2.2.2.2.2.1.name = yX14_of.name) (x0 : Option Nat) (x1 : Option Nat) (x2 : Int) (s0 : Int) {w : Int × ax_H} (hl : ax_hl ls 6 [(0, .inr (.inr x0)), (1, .inr (.inr x1)), (2, .inr (.inl x2))]) (e : f_X14_of_28 G.2.2 g0 x0 x1 x2 s0 h = some w) (hp : (fun w : Int × ax_H => Q = ax_Q G X h0 w.2 (some (.long (Int64.ofInt w.1)))) w) : ax_W G X Q h 28 ls [.long (Int64.ofInt s0)] := by
  unfold f_X14_of_28 at e
  refine ax_lstore (L' := [(4, .inr (.inl s0)), (0, .inr (.inr x0)), (1, .inr (.inr x1)), (2, .inr (.inl x2))]) B dX14_of_28 hl (by decide) rfl (fun ls hl => ?_)
  refine ax_aload_n B dX14_of_30 rfl hl 2 rfl ?_
  refine ax_getI B ff_X14_24_3 (fun _ _ => rfl) dX14_of_31 e (fun v1 e => ?_)
  refine ax_if_eq (tgt := 39) B dX14_of_34 (by decide) e (fun e => ?_) (fun e => ?_)
  · refine ax_aload_n B dX14_of_39 rfl hl 1 rfl ?_
    refine ax_getI B ff_X14_13_14 (fun _ _ => rfl) dX14_of_40 e (fun v2 e => ?_)
    refine ax_bipush B dX14_of_43 (by decide) ?_
    refine ax_icmp_eq (tgt := 57) B dX14_of_45 (by decide) e (fun e => ?_) (fun e => ?_)
    · exact w_X14_of_57 hF hg0 hSF B Z hn x0 x1 x2 s0 (hl.sub [1, 2, 3, 0] rfl) e hp
    · refine ax_aload_n B dX14_of_48 rfl hl 1 rfl ?_
      refine ax_getI B ff_X14_13_14 (fun _ _ => rfl) dX14_of_49 e (fun v3 e => ?_)
      refine ax_bipush B dX14_of_52 (by decide) ?_
      refine ax_icmp_ne (tgt := 105) B dX14_of_54 (by decide) e (fun e => ?_) (fun e => ?_)
      · exact w_X14_of_57 hF hg0 hSF B Z hn x0 x1 x2 s0 (hl.sub [1, 2, 3, 0] rfl) e hp
      · refine ax_aload_n B dX14_of_105 rfl hl 2 rfl ?_
        refine ax_aload_n B dX14_of_106 rfl hl 1 rfl ?_
        refine ax_getI B ff_X14_13_14 (fun _ _ => rfl) dX14_of_107 e (fun v4 e => ?_)
        refine ax_bipush B dX14_of_110 (by decide) ?_
        refine ax_icmp_ne (tgt := 122) B dX14_of_112 (by decide) e (fun e => ?_) (fun e => ?_)
        · refine ax_lload_n B dX14_of_115 rfl hl 3 rfl ?_
          refine ax_lload B dX14_of_116 hl 0 rfl ?_
          refine ax_ladd' B dX14_of_118 ?_
          refine ax_goto (tgt := 142) B dX14_of_119 (by decide) ?_
          exact w_X14_of_142 hF hg0 hSF B Z hn x1 (x2 + s0) (hl.sub [] rfl) e hp
        · refine ax_aload_n B dX14_of_122 rfl hl 1 rfl ?_
          refine ax_getI B ff_X14_13_14 (fun _ _ => rfl) dX14_of_123 e (fun v5 e => ?_)
          refine ax_bipush B dX14_of_126 (by decide) ?_
          refine ax_icmp_ne (tgt := 138) B dX14_of_128 (by decide) e (fun e => ?_) (fun e => ?_)
          · refine ax_lload_n B dX14_of_131 rfl hl 3 rfl ?_
            refine ax_lload B dX14_of_132 hl 0 rfl ?_
            refine ax_lsub' B dX14_of_134 ?_
            refine ax_goto (tgt := 142) B dX14_of_135 (by decide) ?_
            exact w_X14_of_142 hF hg0 hSF B Z hn x1 (x2 - s0) (hl.sub [] rfl) e hp
          · refine ax_lload_n B dX14_of_138 rfl hl 3 rfl ?_
            refine ax_lload B dX14_of_139 hl 0 rfl ?_
            refine ax_lmul' B dX14_of_141 ?_
            exact w_X14_of_142 hF hg0 hSF B Z hn x1 (x2 * s0) (hl.sub [] rfl) e hp
  · refine ax_lconst (v := 0) B dX14_of_37 rfl ?_
    have e8 := e
    have hp : Q = _ := hp
    subst hp
    exact ax_lreturn B Z dX14_of_38 e8
set_option maxHeartbeats 4000000 in
theorem we_X14_of {l : Launch} {G : ax_G} {X : ax_X} {Q : State → Prop} {h0 h : ax_H} {ls : Array Slot} {g0 : Option Nat → Option Nat → ax_H → Option (Int × ax_H)} {fr lo fr1 lo1 : Nat} (hF : fr1 + 1 ≤ fr ∧ 5 ≤ fr ∧ lo1 + 25 ≤ lo ∧ 129 ≤ lo) (hg0 : ∀ (x0 : Option Nat) (x1 : Option Nat) (h : ax_H) (w : Int × ax_H), g0 x0 x1 h = some w → ax_Met l G yX14_of cX14_of 6 ((some FieldType.long)) fr1 lo1 [va_rf x0, va_rf x1] h w.2 (some (.long (Int64.ofInt w.1)))) (hSF : ax_SF G) (B : ax_BL l G X cX14_of 6 RX14 fr lo) (Z : ax_Z X h0 ((some FieldType.long))) (hn : X.2.2.2.2.2.2.2.2.1.name = yX14_of.name) (x0 : Option Nat) (x1 : Option Nat) {w : Int × ax_H} (hl : ax_hl ls 6 [(0, .inr (.inr x0)), (1, .inr (.inr x1))]) (e : f_X14_of G.2.2 g0 x0 x1 h = some w) (hp : (fun w : Int × ax_H => Q = ax_Q G X h0 w.2 (some (.long (Int64.ofInt w.1)))) w) : ax_W G X Q h 0 ls [] := by
  unfold f_X14_of at e
  refine ax_aload_n B dX14_of_0 rfl hl 0 rfl ?_
  refine ax_getR B ff_X14_7_14 (fun _ _ => rfl) dX14_of_1 e (fun v1 e => ?_)
  refine ax_aload_n B dX14_of_4 rfl hl 1 rfl ?_
  refine ax_iwL (x := ⟨"DebtDoors$Sum", "of", "(LDebtDoors$Asked;)J"⟩) (n := 1) (As := [va_rf x1]) B (fun w1 e1 => ?_) rfl hl.size (by decide) dX14_of_5 e (fun q2 e => ?_)
  · obtain ⟨t, c, e2, e1⟩ := ax_dp_spec e1
    rcases ax_ite e1 with ⟨hk, e1⟩ | ⟨-, e1⟩
    · subst hk
      exact ax_cal B kd10 e2 q561 q554 (ax_dcD B q553) (B.2.1.2.2.2.2 _ q555) q556 q150 q557 (by decide +kernel) (by omega) (mt_X10_of l G hSF v1 x1 _ w1 e1)
    rcases ax_ite e1 with ⟨hk, e1⟩ | ⟨-, e1⟩
    · subst hk
      exact ax_cal B kd11 e2 q561 q554 (ax_dcD B q553) (B.2.1.2.2.2.2 _ q584) q570 q151 q571 (by decide +kernel) (by omega) (mt_X11_of l G hSF v1 x1 _ w1 e1)
    rcases ax_ite e1 with ⟨hk, e1⟩ | ⟨-, e1⟩
    · subst hk
      exact ax_cal B kd12 e2 q561 q554 (ax_dcD B q553) (B.2.1.2.2.2.2 _ q585) q572 q152 q573 (by decide +kernel) (by omega) (mt_X12_of l G hSF v1 x1 _ w1 e1)
    rcases ax_ite e1 with ⟨hk, e1⟩ | ⟨-, e1⟩
    · subst hk
      exact ax_cal B kd13 e2 q561 q554 (ax_dcD B q553) (B.2.1.2.2.2.2 _ q583) q562 q153 q563 (by decide +kernel) (by omega) (mt_X13_of l G hSF v1 x1 _ w1 e1)
    rcases ax_ite e1 with ⟨hk, e1⟩ | ⟨-, e1⟩
    · subst hk
      exact ax_cal B kd14 e2 q561 q554 (ax_dcD B q553) (B.2.1.2.2.2.2 _ q558) q559 q154 q560 (by decide +kernel) (by omega) (hg0 v1 x1 _ w1 e1)
    cases e1
  refine ax_lstore_n (L' := [(2, .inr (.inl q2.1)), (0, .inr (.inr x0)), (1, .inr (.inr x1))]) B dX14_of_8 rfl hl (by decide) rfl (fun ls hl => ?_)
  refine ax_aload_n B dX14_of_9 rfl hl 2 rfl ?_
  refine ax_getI B ff_X14_24_3 (fun _ _ => rfl) dX14_of_10 e (fun v3 e => ?_)
  refine ax_if_eq (tgt := 20) B dX14_of_13 (by decide) e (fun e => ?_) (fun e => ?_)
  · refine ax_aload_n B dX14_of_20 rfl hl 1 rfl ?_
    refine ax_getR B ff_X14_17_14 (fun _ _ => rfl) dX14_of_21 e (fun v4 e => ?_)
    refine ax_aload_n B dX14_of_24 rfl hl 2 rfl ?_
    refine ax_iwL (x := ⟨"DebtDoors$Sum", "of", "(LDebtDoors$Asked;)J"⟩) (n := 1) (As := [va_rf x1]) B (fun w1 e1 => ?_) rfl hl.size (by decide) dX14_of_25 e (fun q5 e => ?_)
    · obtain ⟨t, c, e2, e1⟩ := ax_dp_spec e1
      rcases ax_ite e1 with ⟨hk, e1⟩ | ⟨-, e1⟩
      · subst hk
        exact ax_cal B kd10 e2 q561 q554 (ax_dcD B q553) (B.2.1.2.2.2.2 _ q555) q556 q150 q557 (by decide +kernel) (by omega) (mt_X10_of l G hSF v4 x1 _ w1 e1)
      rcases ax_ite e1 with ⟨hk, e1⟩ | ⟨-, e1⟩
      · subst hk
        exact ax_cal B kd11 e2 q561 q554 (ax_dcD B q553) (B.2.1.2.2.2.2 _ q584) q570 q151 q571 (by decide +kernel) (by omega) (mt_X11_of l G hSF v4 x1 _ w1 e1)
      rcases ax_ite e1 with ⟨hk, e1⟩ | ⟨-, e1⟩
      · subst hk
        exact ax_cal B kd12 e2 q561 q554 (ax_dcD B q553) (B.2.1.2.2.2.2 _ q585) q572 q152 q573 (by decide +kernel) (by omega) (mt_X12_of l G hSF v4 x1 _ w1 e1)
      rcases ax_ite e1 with ⟨hk, e1⟩ | ⟨-, e1⟩
      · subst hk
        exact ax_cal B kd13 e2 q561 q554 (ax_dcD B q553) (B.2.1.2.2.2.2 _ q583) q562 q153 q563 (by decide +kernel) (by omega) (mt_X13_of l G hSF v4 x1 _ w1 e1)
      rcases ax_ite e1 with ⟨hk, e1⟩ | ⟨-, e1⟩
      · subst hk
        exact ax_cal B kd14 e2 q561 q554 (ax_dcD B q553) (B.2.1.2.2.2.2 _ q558) q559 q154 q560 (by decide +kernel) (by omega) (hg0 v4 x1 _ w1 e1)
      cases e1
    exact w_X14_of_28 hF hg0 hSF B Z hn x0 x1 q2.1 q5.1 (hl.sub [1, 2, 0] rfl) e hp
  · refine ax_lconst (v := 0) B dX14_of_16 rfl ?_
    refine ax_goto (tgt := 28) B dX14_of_17 (by decide) ?_
    exact w_X14_of_28 hF hg0 hSF B Z hn x0 x1 q2.1 0 (hl.sub [1, 2, 0] rfl) e hp
theorem mt_X14_of (l : Launch) (G : ax_G) (hSF : ax_SF G) {g0 : Option Nat → Option Nat → ax_H → Option (Int × ax_H)} {fr lo fr1 lo1 : Nat} (hF : fr1 + 1 ≤ fr ∧ 5 ≤ fr ∧ lo1 + 25 ≤ lo ∧ 129 ≤ lo) (hg0 : ∀ (x0 : Option Nat) (x1 : Option Nat) (h : ax_H) (w : Int × ax_H), g0 x0 x1 h = some w → ax_Met l G yX14_of cX14_of 6 ((some FieldType.long)) fr1 lo1 [va_rf x0, va_rf x1] h w.2 (some (.long (Int64.ofInt w.1)))) (x0 : Option Nat) (x1 : Option Nat) (h : ax_H) (w : Int × ax_H) (e : f_X14_of G.2.2 g0 x0 x1 h = some w) : ax_Met l G yX14_of cX14_of 6 ((some FieldType.long)) fr lo [va_rf x0, va_rf x1] h w.2 (some (.long (Int64.ofInt w.1))) :=
  ax_enter [.inr (.inr x0), .inr (.inr x1)] (y := yX14_of) hSF (plainFor_of_name (by decide +kernel)) (Nat.le_of_ble_eq_true rfl) (fun X ls B Z hn hl => we_X14_of hF hg0 hSF B Z hn x0 x1 hl e rfl)
theorem mg_X14_of (l : Launch) (G : ax_G) (hSF : ax_SF G) : ∀ n : Nat, (∀ (x0 : Option Nat) (x1 : Option Nat) (h : ax_H) (w : Int × ax_H), (rg_X14_of G.2.2 n) x0 x1 h = some w → ax_Met l G yX14_of cX14_of 6 ((some FieldType.long)) (5 + n) (129 + n * 25) [va_rf x0, va_rf x1] h w.2 (some (.long (Int64.ofInt w.1))))
  | 0 => fun _ _ _ _ e => (by cases e)
  | n + 1 => by
    have ih := mg_X14_of l G hSF n
    exact fun x0 x1 h w e => mt_X14_of l G hSF (fr1 := 5 + n) (lo1 := 129 + n * 25) (by omega) (ih) x0 x1 h w e
theorem mf_X14_of (l : Launch) (G : ax_G) (hSF : ax_SF G) (n : Nat) (x0 : Option Nat) (x1 : Option Nat) (h : ax_H) (w : Int × ax_H) (e : fn_X14_of G.2.2 n x0 x1 h = some w) : ax_Met l G yX14_of cX14_of 6 ((some FieldType.long)) (5 + n) (129 + n * 25) [va_rf x0, va_rf x1] h w.2 (some (.long (Int64.ofInt w.1))) := (mg_X14_of l G hSF n) x0 x1 h w e
def dkwX17_of_3 : List UInt8 := [158, 0, 17, 167, 0, 10, 32, 22, 4, 148, 154, 0, 7, 4, 167, 0, 4, 3, 172]
abbrev dktX17_of_3 : List UInt8 := dkwX17_of_3 ++ []
def dkwX17_of_2 : List UInt8 := [22, 4, 148, 156, 0, 36, 167, 0, 29, 42, 180, 0, 13, 16, 62, 160, 0, 13, 32, 22, 4, 148]
abbrev dktX17_of_2 : List UInt8 := dkwX17_of_2 ++ dktX17_of_3
def dkwX17_of_1 : List UInt8 := [43, 182, 0, 20, 55, 4, 43, 180, 0, 26, 154, 0, 52, 42, 180, 0, 13, 16, 60, 160, 0, 13, 32]
abbrev dktX17_of_1 : List UInt8 := dkwX17_of_1 ++ dktX17_of_2
def dkwX17_of_0 : List UInt8 := [42, 180, 0, 7, 43, 182, 0, 20, 65, 43, 180, 0, 26, 153, 0, 7, 9, 167, 0, 11, 42, 180, 0, 17]
abbrev dktX17_of_0 : List UInt8 := dkwX17_of_0 ++ dktX17_of_1
theorem dksX17_of_0 : cX17_of.data.toList.drop 0 = dktX17_of_0 := by decide +kernel
theorem dksX17_of_1 : cX17_of.data.toList.drop 24 = dktX17_of_1 := dk_seg dksX17_of_0 24 rfl rfl
theorem dksX17_of_2 : cX17_of.data.toList.drop 47 = dktX17_of_2 := dk_seg dksX17_of_1 23 rfl rfl
theorem dksX17_of_3 : cX17_of.data.toList.drop 69 = dktX17_of_3 := dk_seg dksX17_of_2 22 rfl rfl
theorem dX17_of_0 : decode cX17_of 0 = .ok (.aload_n 0, 1) := dk_42 (dk_at dksX17_of_0 0 rfl rfl)
theorem dX17_of_1 : decode cX17_of 1 = .ok (.getfield 7, 3) := dk_180 0 7 (dk_at dksX17_of_0 1 rfl rfl)
theorem dX17_of_4 : decode cX17_of 4 = .ok (.aload_n 1, 1) := dk_43 (dk_at dksX17_of_0 4 rfl rfl)
theorem dX17_of_5 : decode cX17_of 5 = .ok (.invokevirtual 20, 3) := dk_182 0 20 (dk_at dksX17_of_0 5 rfl rfl)
theorem dX17_of_8 : decode cX17_of 8 = .ok (.lstore_n 2, 1) := dk_65 (dk_at dksX17_of_0 8 rfl rfl)
theorem dX17_of_9 : decode cX17_of 9 = .ok (.aload_n 1, 1) := dk_43 (dk_at dksX17_of_0 9 rfl rfl)
theorem dX17_of_10 : decode cX17_of 10 = .ok (.getfield 26, 3) := dk_180 0 26 (dk_at dksX17_of_0 10 rfl rfl)
theorem dX17_of_13 : decode cX17_of 13 = .ok (.ifCond .eq 7, 3) := dk_153 0 7 (dk_at dksX17_of_0 13 rfl rfl)
theorem dX17_of_16 : decode cX17_of 16 = .ok (.lconst 0, 1) := dk_9 (dk_at dksX17_of_0 16 rfl rfl)
theorem dX17_of_17 : decode cX17_of 17 = .ok (.goto 11, 3) := dk_167 0 11 (dk_at dksX17_of_0 17 rfl rfl)
theorem dX17_of_20 : decode cX17_of 20 = .ok (.aload_n 0, 1) := dk_42 (dk_at dksX17_of_0 20 rfl rfl)
theorem dX17_of_21 : decode cX17_of 21 = .ok (.getfield 17, 3) := dk_180 0 17 (dk_at dksX17_of_0 21 rfl rfl)
theorem dX17_of_24 : decode cX17_of 24 = .ok (.aload_n 1, 1) := dk_43 (dk_at dksX17_of_1 0 rfl rfl)
theorem dX17_of_25 : decode cX17_of 25 = .ok (.invokevirtual 20, 3) := dk_182 0 20 (dk_at dksX17_of_1 1 rfl rfl)
theorem dX17_of_28 : decode cX17_of 28 = .ok (.lstore 4, 2) := dk_55 4 (dk_at dksX17_of_1 4 rfl rfl)
theorem dX17_of_30 : decode cX17_of 30 = .ok (.aload_n 1, 1) := dk_43 (dk_at dksX17_of_1 6 rfl rfl)
theorem dX17_of_31 : decode cX17_of 31 = .ok (.getfield 26, 3) := dk_180 0 26 (dk_at dksX17_of_1 7 rfl rfl)
theorem dX17_of_34 : decode cX17_of 34 = .ok (.ifCond .ne 52, 3) := dk_154 0 52 (dk_at dksX17_of_1 10 rfl rfl)
theorem dX17_of_37 : decode cX17_of 37 = .ok (.aload_n 0, 1) := dk_42 (dk_at dksX17_of_1 13 rfl rfl)
theorem dX17_of_38 : decode cX17_of 38 = .ok (.getfield 13, 3) := dk_180 0 13 (dk_at dksX17_of_1 14 rfl rfl)
theorem dX17_of_41 : decode cX17_of 41 = .ok (.bipush 60, 2) := dk_16 60 (dk_at dksX17_of_1 17 rfl rfl)
theorem dX17_of_43 : decode cX17_of 43 = .ok (.if_icmp .ne 13, 3) := dk_160 0 13 (dk_at dksX17_of_1 19 rfl rfl)
theorem dX17_of_46 : decode cX17_of 46 = .ok (.lload_n 2, 1) := dk_32 (dk_at dksX17_of_1 22 rfl rfl)
theorem dX17_of_47 : decode cX17_of 47 = .ok (.lload 4, 2) := dk_22 4 (dk_at dksX17_of_2 0 rfl rfl)
theorem dX17_of_49 : decode cX17_of 49 = .ok (.lcmp, 1) := dk_148 (dk_at dksX17_of_2 2 rfl rfl)
theorem dX17_of_50 : decode cX17_of 50 = .ok (.ifCond .ge 36, 3) := dk_156 0 36 (dk_at dksX17_of_2 3 rfl rfl)
theorem dX17_of_53 : decode cX17_of 53 = .ok (.goto 29, 3) := dk_167 0 29 (dk_at dksX17_of_2 6 rfl rfl)
theorem dX17_of_56 : decode cX17_of 56 = .ok (.aload_n 0, 1) := dk_42 (dk_at dksX17_of_2 9 rfl rfl)
theorem dX17_of_57 : decode cX17_of 57 = .ok (.getfield 13, 3) := dk_180 0 13 (dk_at dksX17_of_2 10 rfl rfl)
theorem dX17_of_60 : decode cX17_of 60 = .ok (.bipush 62, 2) := dk_16 62 (dk_at dksX17_of_2 13 rfl rfl)
theorem dX17_of_62 : decode cX17_of 62 = .ok (.if_icmp .ne 13, 3) := dk_160 0 13 (dk_at dksX17_of_2 15 rfl rfl)
theorem dX17_of_65 : decode cX17_of 65 = .ok (.lload_n 2, 1) := dk_32 (dk_at dksX17_of_2 18 rfl rfl)
theorem dX17_of_66 : decode cX17_of 66 = .ok (.lload 4, 2) := dk_22 4 (dk_at dksX17_of_2 19 rfl rfl)
theorem dX17_of_68 : decode cX17_of 68 = .ok (.lcmp, 1) := dk_148 (dk_at dksX17_of_2 21 rfl rfl)
theorem dX17_of_69 : decode cX17_of 69 = .ok (.ifCond .le 17, 3) := dk_158 0 17 (dk_at dksX17_of_3 0 rfl rfl)
theorem dX17_of_72 : decode cX17_of 72 = .ok (.goto 10, 3) := dk_167 0 10 (dk_at dksX17_of_3 3 rfl rfl)
theorem dX17_of_75 : decode cX17_of 75 = .ok (.lload_n 2, 1) := dk_32 (dk_at dksX17_of_3 6 rfl rfl)
theorem dX17_of_76 : decode cX17_of 76 = .ok (.lload 4, 2) := dk_22 4 (dk_at dksX17_of_3 7 rfl rfl)
theorem dX17_of_78 : decode cX17_of 78 = .ok (.lcmp, 1) := dk_148 (dk_at dksX17_of_3 9 rfl rfl)
theorem dX17_of_79 : decode cX17_of 79 = .ok (.ifCond .ne 7, 3) := dk_154 0 7 (dk_at dksX17_of_3 10 rfl rfl)
theorem dX17_of_82 : decode cX17_of 82 = .ok (.iconst 1, 1) := dk_4 (dk_at dksX17_of_3 13 rfl rfl)
theorem dX17_of_83 : decode cX17_of 83 = .ok (.goto 4, 3) := dk_167 0 4 (dk_at dksX17_of_3 14 rfl rfl)
theorem dX17_of_86 : decode cX17_of 86 = .ok (.iconst 0, 1) := dk_3 (dk_at dksX17_of_3 17 rfl rfl)
theorem dX17_of_87 : decode cX17_of 87 = .ok (.ireturn, 1) := dk_172 (dk_at dksX17_of_3 18 rfl rfl)
noncomputable def f_X17_of_82 (E : ax_E) (h : ax_H) : Option (Int × ax_H) :=
  some (1, h)
noncomputable def f_X17_of_86 (E : ax_E) (h : ax_H) : Option (Int × ax_H) :=
  some (0, h)
noncomputable def f_X17_of_28 (E : ax_E) (x0 : Option Nat) (x1 : Option Nat) (x2 : Int) (s0 : Int) (h : ax_H) : Option (Int × ax_H) :=
  (ax_gI E h x1 3 1).bind fun v1 =>
  if i2 v1 = 0 then
    (ax_gI E h x0 17 2).bind fun v2 =>
    if i2 v2 = i2 60 then
      if i2 (ax_cmp x2 s0) < 0 then
        f_X17_of_82 E h
      else
        f_X17_of_86 E h
    else
      (ax_gI E h x0 17 2).bind fun v3 =>
      if i2 v3 = i2 62 then
        if 0 < i2 (ax_cmp x2 s0) then
          f_X17_of_82 E h
        else
          f_X17_of_86 E h
      else
        if i2 (ax_cmp x2 s0) = 0 then
          f_X17_of_82 E h
        else
          f_X17_of_86 E h
  else
    f_X17_of_86 E h
noncomputable def f_X17_of (E : ax_E) (x0 : Option Nat) (x1 : Option Nat) (h : ax_H) : Option (Int × ax_H) :=
  (ax_gR E h x0 17 0).bind fun v1 =>
  (ax_dp E h v1 fun t => if t = 10 then f_X10_of E v1 x1 h else if t = 11 then f_X11_of E v1 x1 h else if t = 12 then f_X12_of E v1 x1 h else if t = 13 then f_X13_of E v1 x1 h else if t = 14 then fn_X14_of E 64 v1 x1 h else none).bind fun q2 =>
  (ax_gI E q2.2 x1 3 1).bind fun v3 =>
  if i2 v3 = 0 then
    (ax_gR E q2.2 x0 17 1).bind fun v4 =>
    (ax_dp E q2.2 v4 fun t => if t = 10 then f_X10_of E v4 x1 q2.2 else if t = 11 then f_X11_of E v4 x1 q2.2 else if t = 12 then f_X12_of E v4 x1 q2.2 else if t = 13 then f_X13_of E v4 x1 q2.2 else if t = 14 then fn_X14_of E 64 v4 x1 q2.2 else none).bind fun q5 =>
    f_X17_of_28 E x0 x1 q2.1 q5.1 q5.2
  else
    f_X17_of_28 E x0 x1 q2.1 0 q2.2
set_option maxHeartbeats 4000000 in
theorem w_X17_of_82 {l : Launch} {G : ax_G} {X : ax_X} {Q : State → Prop} {h0 h : ax_H} {ls : Array Slot} (hSF : ax_SF G) (B : ax_BL l G X cX17_of 6 RX17 70 1754) (Z : ax_Z X h0 ((some FieldType.boolean))) (hn : X.2.2.2.2.2.2.2.2.1.name = yX17_of.name) {w : Int × ax_H} (hl : ax_hl ls 6 []) (e : f_X17_of_82 G.2.2 h = some w) (hp : (fun w : Int × ax_H => Q = ax_Q G X h0 w.2 (some (.int (Int32.ofInt w.1)))) w) : ax_W G X Q h 82 ls [] := by
  unfold f_X17_of_82 at e
  refine ax_iconst B dX17_of_82 ?_
  refine ax_goto (tgt := 87) B dX17_of_83 (by decide) ?_
  have e8 := e
  have hp : Q = _ := hp
  subst hp
  exact ax_zreturnL (by decide) B Z dX17_of_87 e8
set_option maxHeartbeats 4000000 in
theorem w_X17_of_86 {l : Launch} {G : ax_G} {X : ax_X} {Q : State → Prop} {h0 h : ax_H} {ls : Array Slot} (hSF : ax_SF G) (B : ax_BL l G X cX17_of 6 RX17 70 1754) (Z : ax_Z X h0 ((some FieldType.boolean))) (hn : X.2.2.2.2.2.2.2.2.1.name = yX17_of.name) {w : Int × ax_H} (hl : ax_hl ls 6 []) (e : f_X17_of_86 G.2.2 h = some w) (hp : (fun w : Int × ax_H => Q = ax_Q G X h0 w.2 (some (.int (Int32.ofInt w.1)))) w) : ax_W G X Q h 86 ls [] := by
  unfold f_X17_of_86 at e
  refine ax_iconst B dX17_of_86 ?_
  have e8 := e
  have hp : Q = _ := hp
  subst hp
  exact ax_zreturnL (by decide) B Z dX17_of_87 e8
set_option maxHeartbeats 4000000 in
theorem w_X17_of_28 {l : Launch} {G : ax_G} {X : ax_X} {Q : State → Prop} {h0 h : ax_H} {ls : Array Slot} (hSF : ax_SF G) (B : ax_BL l G X cX17_of 6 RX17 70 1754) (Z : ax_Z X h0 ((some FieldType.boolean))) (hn : X.2.2.2.2.2.2.2.2.1.name = yX17_of.name) (x0 : Option Nat) (x1 : Option Nat) (x2 : Int) (s0 : Int) {w : Int × ax_H} (hl : ax_hl ls 6 [(0, .inr (.inr x0)), (1, .inr (.inr x1)), (2, .inr (.inl x2))]) (e : f_X17_of_28 G.2.2 x0 x1 x2 s0 h = some w) (hp : (fun w : Int × ax_H => Q = ax_Q G X h0 w.2 (some (.int (Int32.ofInt w.1)))) w) : ax_W G X Q h 28 ls [.long (Int64.ofInt s0)] := by
  unfold f_X17_of_28 at e
  refine ax_lstore (L' := [(4, .inr (.inl s0)), (0, .inr (.inr x0)), (1, .inr (.inr x1)), (2, .inr (.inl x2))]) B dX17_of_28 hl (by decide) rfl (fun ls hl => ?_)
  refine ax_aload_n B dX17_of_30 rfl hl 2 rfl ?_
  refine ax_getI B ff_X17_26_3 (fun _ _ => rfl) dX17_of_31 e (fun v1 e => ?_)
  refine ax_if_ne (tgt := 86) B dX17_of_34 (by decide) e (fun e => ?_) (fun e => ?_)
  · refine ax_aload_n B dX17_of_37 rfl hl 1 rfl ?_
    refine ax_getI B ff_X17_13_17 (fun _ _ => rfl) dX17_of_38 e (fun v2 e => ?_)
    refine ax_bipush B dX17_of_41 (by decide) ?_
    refine ax_icmp_ne (tgt := 56) B dX17_of_43 (by decide) e (fun e => ?_) (fun e => ?_)
    · refine ax_lload_n B dX17_of_46 rfl hl 3 rfl ?_
      refine ax_lload B dX17_of_47 hl 0 rfl ?_
      refine ax_lcmp' B dX17_of_49 ?_
      refine ax_if_ge (tgt := 86) B dX17_of_50 (by decide) e (fun e => ?_) (fun e => ?_)
      · refine ax_goto (tgt := 82) B dX17_of_53 (by decide) ?_
        exact w_X17_of_82 hSF B Z hn (hl.sub [] rfl) e hp
      · exact w_X17_of_86 hSF B Z hn (hl.sub [] rfl) e hp
    · refine ax_aload_n B dX17_of_56 rfl hl 1 rfl ?_
      refine ax_getI B ff_X17_13_17 (fun _ _ => rfl) dX17_of_57 e (fun v3 e => ?_)
      refine ax_bipush B dX17_of_60 (by decide) ?_
      refine ax_icmp_ne (tgt := 75) B dX17_of_62 (by decide) e (fun e => ?_) (fun e => ?_)
      · refine ax_lload_n B dX17_of_65 rfl hl 3 rfl ?_
        refine ax_lload B dX17_of_66 hl 0 rfl ?_
        refine ax_lcmp' B dX17_of_68 ?_
        refine ax_if_le (tgt := 86) B dX17_of_69 (by decide) e (fun e => ?_) (fun e => ?_)
        · refine ax_goto (tgt := 82) B dX17_of_72 (by decide) ?_
          exact w_X17_of_82 hSF B Z hn (hl.sub [] rfl) e hp
        · exact w_X17_of_86 hSF B Z hn (hl.sub [] rfl) e hp
      · refine ax_lload_n B dX17_of_75 rfl hl 3 rfl ?_
        refine ax_lload B dX17_of_76 hl 0 rfl ?_
        refine ax_lcmp' B dX17_of_78 ?_
        refine ax_if_ne (tgt := 86) B dX17_of_79 (by decide) e (fun e => ?_) (fun e => ?_)
        · exact w_X17_of_82 hSF B Z hn (hl.sub [] rfl) e hp
        · exact w_X17_of_86 hSF B Z hn (hl.sub [] rfl) e hp
  · exact w_X17_of_86 hSF B Z hn (hl.sub [] rfl) e hp
set_option maxHeartbeats 4000000 in
theorem we_X17_of {l : Launch} {G : ax_G} {X : ax_X} {Q : State → Prop} {h0 h : ax_H} {ls : Array Slot} (hSF : ax_SF G) (B : ax_BL l G X cX17_of 6 RX17 70 1754) (Z : ax_Z X h0 ((some FieldType.boolean))) (hn : X.2.2.2.2.2.2.2.2.1.name = yX17_of.name) (x0 : Option Nat) (x1 : Option Nat) {w : Int × ax_H} (hl : ax_hl ls 6 [(0, .inr (.inr x0)), (1, .inr (.inr x1))]) (e : f_X17_of G.2.2 x0 x1 h = some w) (hp : (fun w : Int × ax_H => Q = ax_Q G X h0 w.2 (some (.int (Int32.ofInt w.1)))) w) : ax_W G X Q h 0 ls [] := by
  unfold f_X17_of at e
  refine ax_aload_n B dX17_of_0 rfl hl 0 rfl ?_
  refine ax_getR B ff_X17_7_17 (fun _ _ => rfl) dX17_of_1 e (fun v1 e => ?_)
  refine ax_aload_n B dX17_of_4 rfl hl 1 rfl ?_
  refine ax_iwL (x := ⟨"DebtDoors$Sum", "of", "(LDebtDoors$Asked;)J"⟩) (n := 1) (As := [va_rf x1]) B (fun w1 e1 => ?_) rfl hl.size (by decide) dX17_of_5 e (fun q2 e => ?_)
  · obtain ⟨t, c, e2, e1⟩ := ax_dp_spec e1
    rcases ax_ite e1 with ⟨hk, e1⟩ | ⟨-, e1⟩
    · subst hk
      exact ax_cal B kd10 e2 q552 q554 (ax_dcD B q553) (B.2.1.2.2.2.2 _ q555) q556 q150 q557 (by decide +kernel) ⟨Nat.le_of_ble_eq_true rfl, Nat.le_of_ble_eq_true rfl⟩ (mt_X10_of l G hSF v1 x1 _ w1 e1)
    rcases ax_ite e1 with ⟨hk, e1⟩ | ⟨-, e1⟩
    · subst hk
      exact ax_cal B kd11 e2 q552 q554 (ax_dcD B q553) (B.2.1.2.2.2.2 _ q584) q570 q151 q571 (by decide +kernel) ⟨Nat.le_of_ble_eq_true rfl, Nat.le_of_ble_eq_true rfl⟩ (mt_X11_of l G hSF v1 x1 _ w1 e1)
    rcases ax_ite e1 with ⟨hk, e1⟩ | ⟨-, e1⟩
    · subst hk
      exact ax_cal B kd12 e2 q552 q554 (ax_dcD B q553) (B.2.1.2.2.2.2 _ q585) q572 q152 q573 (by decide +kernel) ⟨Nat.le_of_ble_eq_true rfl, Nat.le_of_ble_eq_true rfl⟩ (mt_X12_of l G hSF v1 x1 _ w1 e1)
    rcases ax_ite e1 with ⟨hk, e1⟩ | ⟨-, e1⟩
    · subst hk
      exact ax_cal B kd13 e2 q552 q554 (ax_dcD B q553) (B.2.1.2.2.2.2 _ q583) q562 q153 q563 (by decide +kernel) ⟨Nat.le_of_ble_eq_true rfl, Nat.le_of_ble_eq_true rfl⟩ (mt_X13_of l G hSF v1 x1 _ w1 e1)
    rcases ax_ite e1 with ⟨hk, e1⟩ | ⟨-, e1⟩
    · subst hk
      exact ax_cal B kd14 e2 q552 q554 (ax_dcD B q553) (B.2.1.2.2.2.2 _ q558) q559 q154 q560 (by decide +kernel) ⟨Nat.le_of_ble_eq_true rfl, Nat.le_of_ble_eq_true rfl⟩ (mf_X14_of l G hSF 64 v1 x1 _ w1 e1)
    cases e1
  refine ax_lstore_n (L' := [(2, .inr (.inl q2.1)), (0, .inr (.inr x0)), (1, .inr (.inr x1))]) B dX17_of_8 rfl hl (by decide) rfl (fun ls hl => ?_)
  refine ax_aload_n B dX17_of_9 rfl hl 2 rfl ?_
  refine ax_getI B ff_X17_26_3 (fun _ _ => rfl) dX17_of_10 e (fun v3 e => ?_)
  refine ax_if_eq (tgt := 20) B dX17_of_13 (by decide) e (fun e => ?_) (fun e => ?_)
  · refine ax_aload_n B dX17_of_20 rfl hl 1 rfl ?_
    refine ax_getR B ff_X17_17_17 (fun _ _ => rfl) dX17_of_21 e (fun v4 e => ?_)
    refine ax_aload_n B dX17_of_24 rfl hl 2 rfl ?_
    refine ax_iwL (x := ⟨"DebtDoors$Sum", "of", "(LDebtDoors$Asked;)J"⟩) (n := 1) (As := [va_rf x1]) B (fun w1 e1 => ?_) rfl hl.size (by decide) dX17_of_25 e (fun q5 e => ?_)
    · obtain ⟨t, c, e2, e1⟩ := ax_dp_spec e1
      rcases ax_ite e1 with ⟨hk, e1⟩ | ⟨-, e1⟩
      · subst hk
        exact ax_cal B kd10 e2 q552 q554 (ax_dcD B q553) (B.2.1.2.2.2.2 _ q555) q556 q150 q557 (by decide +kernel) ⟨Nat.le_of_ble_eq_true rfl, Nat.le_of_ble_eq_true rfl⟩ (mt_X10_of l G hSF v4 x1 _ w1 e1)
      rcases ax_ite e1 with ⟨hk, e1⟩ | ⟨-, e1⟩
      · subst hk
        exact ax_cal B kd11 e2 q552 q554 (ax_dcD B q553) (B.2.1.2.2.2.2 _ q584) q570 q151 q571 (by decide +kernel) ⟨Nat.le_of_ble_eq_true rfl, Nat.le_of_ble_eq_true rfl⟩ (mt_X11_of l G hSF v4 x1 _ w1 e1)
      rcases ax_ite e1 with ⟨hk, e1⟩ | ⟨-, e1⟩
      · subst hk
        exact ax_cal B kd12 e2 q552 q554 (ax_dcD B q553) (B.2.1.2.2.2.2 _ q585) q572 q152 q573 (by decide +kernel) ⟨Nat.le_of_ble_eq_true rfl, Nat.le_of_ble_eq_true rfl⟩ (mt_X12_of l G hSF v4 x1 _ w1 e1)
      rcases ax_ite e1 with ⟨hk, e1⟩ | ⟨-, e1⟩
      · subst hk
        exact ax_cal B kd13 e2 q552 q554 (ax_dcD B q553) (B.2.1.2.2.2.2 _ q583) q562 q153 q563 (by decide +kernel) ⟨Nat.le_of_ble_eq_true rfl, Nat.le_of_ble_eq_true rfl⟩ (mt_X13_of l G hSF v4 x1 _ w1 e1)
      rcases ax_ite e1 with ⟨hk, e1⟩ | ⟨-, e1⟩
      · subst hk
        exact ax_cal B kd14 e2 q552 q554 (ax_dcD B q553) (B.2.1.2.2.2.2 _ q558) q559 q154 q560 (by decide +kernel) ⟨Nat.le_of_ble_eq_true rfl, Nat.le_of_ble_eq_true rfl⟩ (mf_X14_of l G hSF 64 v4 x1 _ w1 e1)
      cases e1
    exact w_X17_of_28 hSF B Z hn x0 x1 q2.1 q5.1 (hl.sub [1, 2, 0] rfl) e hp
  · refine ax_lconst (v := 0) B dX17_of_16 rfl ?_
    refine ax_goto (tgt := 28) B dX17_of_17 (by decide) ?_
    exact w_X17_of_28 hSF B Z hn x0 x1 q2.1 0 (hl.sub [1, 2, 0] rfl) e hp
theorem mt_X17_of (l : Launch) (G : ax_G) (hSF : ax_SF G) (x0 : Option Nat) (x1 : Option Nat) (h : ax_H) (w : Int × ax_H) (e : f_X17_of G.2.2 x0 x1 h = some w) : ax_Met l G yX17_of cX17_of 6 ((some FieldType.boolean)) 70 1754 [va_rf x0, va_rf x1] h w.2 (some (.int (Int32.ofInt w.1))) :=
  ax_enter [.inr (.inr x0), .inr (.inr x1)] (y := yX17_of) hSF (plainFor_of_name (by decide +kernel)) (Nat.le_of_ble_eq_true rfl) (fun X ls B Z hn hl => we_X17_of hSF B Z hn x0 x1 hl e rfl)
def dkwX19_of_3 : List UInt8 := [180, 0, 7, 172]
abbrev dktX19_of_3 : List UInt8 := dkwX19_of_3 ++ []
def dkwX19_of_2 : List UInt8 := [159, 0, 16, 42, 180, 0, 7, 154, 0, 7, 4, 167, 0, 4, 3, 172, 132, 4, 1, 167, 255, 202, 42]
abbrev dktX19_of_2 : List UInt8 := dkwX19_of_2 ++ dktX19_of_3
def dkwX19_of_1 : List UInt8 := [25, 5, 43, 182, 0, 17, 54, 6, 43, 180, 0, 21, 153, 0, 5, 3, 172, 21, 6, 42, 180, 0, 7]
abbrev dktX19_of_1 : List UInt8 := dkwX19_of_1 ++ dktX19_of_2
def dkwX19_of_0 : List UInt8 := [42, 180, 0, 13, 77, 44, 190, 62, 3, 54, 4, 21, 4, 29, 162, 0, 54, 44, 21, 4, 50, 58, 5]
abbrev dktX19_of_0 : List UInt8 := dkwX19_of_0 ++ dktX19_of_1
theorem dksX19_of_0 : cX19_of.data.toList.drop 0 = dktX19_of_0 := by decide +kernel
theorem dksX19_of_1 : cX19_of.data.toList.drop 23 = dktX19_of_1 := dk_seg dksX19_of_0 23 rfl rfl
theorem dksX19_of_2 : cX19_of.data.toList.drop 46 = dktX19_of_2 := dk_seg dksX19_of_1 23 rfl rfl
theorem dksX19_of_3 : cX19_of.data.toList.drop 69 = dktX19_of_3 := dk_seg dksX19_of_2 23 rfl rfl
theorem dX19_of_0 : decode cX19_of 0 = .ok (.aload_n 0, 1) := dk_42 (dk_at dksX19_of_0 0 rfl rfl)
theorem dX19_of_1 : decode cX19_of 1 = .ok (.getfield 13, 3) := dk_180 0 13 (dk_at dksX19_of_0 1 rfl rfl)
theorem dX19_of_4 : decode cX19_of 4 = .ok (.astore_n 2, 1) := dk_77 (dk_at dksX19_of_0 4 rfl rfl)
theorem dX19_of_5 : decode cX19_of 5 = .ok (.aload_n 2, 1) := dk_44 (dk_at dksX19_of_0 5 rfl rfl)
theorem dX19_of_6 : decode cX19_of 6 = .ok (.arraylength, 1) := dk_190 (dk_at dksX19_of_0 6 rfl rfl)
theorem dX19_of_7 : decode cX19_of 7 = .ok (.istore_n 3, 1) := dk_62 (dk_at dksX19_of_0 7 rfl rfl)
theorem dX19_of_8 : decode cX19_of 8 = .ok (.iconst 0, 1) := dk_3 (dk_at dksX19_of_0 8 rfl rfl)
theorem dX19_of_9 : decode cX19_of 9 = .ok (.istore 4, 2) := dk_54 4 (dk_at dksX19_of_0 9 rfl rfl)
theorem dX19_of_11 : decode cX19_of 11 = .ok (.iload 4, 2) := dk_21 4 (dk_at dksX19_of_0 11 rfl rfl)
theorem dX19_of_13 : decode cX19_of 13 = .ok (.iload_n 3, 1) := dk_29 (dk_at dksX19_of_0 13 rfl rfl)
theorem dX19_of_14 : decode cX19_of 14 = .ok (.if_icmp .ge 54, 3) := dk_162 0 54 (dk_at dksX19_of_0 14 rfl rfl)
theorem dX19_of_17 : decode cX19_of 17 = .ok (.aload_n 2, 1) := dk_44 (dk_at dksX19_of_0 17 rfl rfl)
theorem dX19_of_18 : decode cX19_of 18 = .ok (.iload 4, 2) := dk_21 4 (dk_at dksX19_of_0 18 rfl rfl)
theorem dX19_of_20 : decode cX19_of 20 = .ok (.aaload, 1) := dk_50 (dk_at dksX19_of_0 20 rfl rfl)
theorem dX19_of_21 : decode cX19_of 21 = .ok (.astore 5, 2) := dk_58 5 (dk_at dksX19_of_0 21 rfl rfl)
theorem dX19_of_23 : decode cX19_of 23 = .ok (.aload 5, 2) := dk_25 5 (dk_at dksX19_of_1 0 rfl rfl)
theorem dX19_of_25 : decode cX19_of 25 = .ok (.aload_n 1, 1) := dk_43 (dk_at dksX19_of_1 2 rfl rfl)
theorem dX19_of_26 : decode cX19_of 26 = .ok (.invokevirtual 17, 3) := dk_182 0 17 (dk_at dksX19_of_1 3 rfl rfl)
theorem dX19_of_29 : decode cX19_of 29 = .ok (.istore 6, 2) := dk_54 6 (dk_at dksX19_of_1 6 rfl rfl)
theorem dX19_of_31 : decode cX19_of 31 = .ok (.aload_n 1, 1) := dk_43 (dk_at dksX19_of_1 8 rfl rfl)
theorem dX19_of_32 : decode cX19_of 32 = .ok (.getfield 21, 3) := dk_180 0 21 (dk_at dksX19_of_1 9 rfl rfl)
theorem dX19_of_35 : decode cX19_of 35 = .ok (.ifCond .eq 5, 3) := dk_153 0 5 (dk_at dksX19_of_1 12 rfl rfl)
theorem dX19_of_38 : decode cX19_of 38 = .ok (.iconst 0, 1) := dk_3 (dk_at dksX19_of_1 15 rfl rfl)
theorem dX19_of_39 : decode cX19_of 39 = .ok (.ireturn, 1) := dk_172 (dk_at dksX19_of_1 16 rfl rfl)
theorem dX19_of_40 : decode cX19_of 40 = .ok (.iload 6, 2) := dk_21 6 (dk_at dksX19_of_1 17 rfl rfl)
theorem dX19_of_42 : decode cX19_of 42 = .ok (.aload_n 0, 1) := dk_42 (dk_at dksX19_of_1 19 rfl rfl)
theorem dX19_of_43 : decode cX19_of 43 = .ok (.getfield 7, 3) := dk_180 0 7 (dk_at dksX19_of_1 20 rfl rfl)
theorem dX19_of_46 : decode cX19_of 46 = .ok (.if_icmp .eq 16, 3) := dk_159 0 16 (dk_at dksX19_of_2 0 rfl rfl)
theorem dX19_of_49 : decode cX19_of 49 = .ok (.aload_n 0, 1) := dk_42 (dk_at dksX19_of_2 3 rfl rfl)
theorem dX19_of_50 : decode cX19_of 50 = .ok (.getfield 7, 3) := dk_180 0 7 (dk_at dksX19_of_2 4 rfl rfl)
theorem dX19_of_53 : decode cX19_of 53 = .ok (.ifCond .ne 7, 3) := dk_154 0 7 (dk_at dksX19_of_2 7 rfl rfl)
theorem dX19_of_56 : decode cX19_of 56 = .ok (.iconst 1, 1) := dk_4 (dk_at dksX19_of_2 10 rfl rfl)
theorem dX19_of_57 : decode cX19_of 57 = .ok (.goto 4, 3) := dk_167 0 4 (dk_at dksX19_of_2 11 rfl rfl)
theorem dX19_of_60 : decode cX19_of 60 = .ok (.iconst 0, 1) := dk_3 (dk_at dksX19_of_2 14 rfl rfl)
theorem dX19_of_61 : decode cX19_of 61 = .ok (.ireturn, 1) := dk_172 (dk_at dksX19_of_2 15 rfl rfl)
theorem dX19_of_62 : decode cX19_of 62 = .ok (.iinc 4 1, 3) := dk_132 4 1 (dk_at dksX19_of_2 16 rfl rfl)
theorem dX19_of_65 : decode cX19_of 65 = .ok (.goto (-54), 3) := dk_167 255 202 (dk_at dksX19_of_2 19 rfl rfl)
theorem dX19_of_68 : decode cX19_of 68 = .ok (.aload_n 0, 1) := dk_42 (dk_at dksX19_of_2 22 rfl rfl)
theorem dX19_of_69 : decode cX19_of 69 = .ok (.getfield 7, 3) := dk_180 0 7 (dk_at dksX19_of_3 0 rfl rfl)
theorem dX19_of_72 : decode cX19_of 72 = .ok (.ireturn, 1) := dk_172 (dk_at dksX19_of_3 3 rfl rfl)
def dkwX18_of_0 : List UInt8 := [42, 180, 0, 7, 43, 182, 0, 13, 154, 0, 14, 43, 180, 0, 17, 154, 0, 7, 4, 167, 0, 4, 3, 172]
abbrev dktX18_of_0 : List UInt8 := dkwX18_of_0 ++ []
theorem dksX18_of_0 : cX18_of.data.toList.drop 0 = dktX18_of_0 := by decide +kernel
theorem dX18_of_0 : decode cX18_of 0 = .ok (.aload_n 0, 1) := dk_42 (dk_at dksX18_of_0 0 rfl rfl)
theorem dX18_of_1 : decode cX18_of 1 = .ok (.getfield 7, 3) := dk_180 0 7 (dk_at dksX18_of_0 1 rfl rfl)
theorem dX18_of_4 : decode cX18_of 4 = .ok (.aload_n 1, 1) := dk_43 (dk_at dksX18_of_0 4 rfl rfl)
theorem dX18_of_5 : decode cX18_of 5 = .ok (.invokevirtual 13, 3) := dk_182 0 13 (dk_at dksX18_of_0 5 rfl rfl)
theorem dX18_of_8 : decode cX18_of 8 = .ok (.ifCond .ne 14, 3) := dk_154 0 14 (dk_at dksX18_of_0 8 rfl rfl)
theorem dX18_of_11 : decode cX18_of 11 = .ok (.aload_n 1, 1) := dk_43 (dk_at dksX18_of_0 11 rfl rfl)
theorem dX18_of_12 : decode cX18_of 12 = .ok (.getfield 17, 3) := dk_180 0 17 (dk_at dksX18_of_0 12 rfl rfl)
theorem dX18_of_15 : decode cX18_of 15 = .ok (.ifCond .ne 7, 3) := dk_154 0 7 (dk_at dksX18_of_0 15 rfl rfl)
theorem dX18_of_18 : decode cX18_of 18 = .ok (.iconst 1, 1) := dk_4 (dk_at dksX18_of_0 18 rfl rfl)
theorem dX18_of_19 : decode cX18_of 19 = .ok (.goto 4, 3) := dk_167 0 4 (dk_at dksX18_of_0 19 rfl rfl)
theorem dX18_of_22 : decode cX18_of 22 = .ok (.iconst 0, 1) := dk_3 (dk_at dksX18_of_0 22 rfl rfl)
theorem dX18_of_23 : decode cX18_of 23 = .ok (.ireturn, 1) := dk_172 (dk_at dksX18_of_0 23 rfl rfl)
noncomputable def lb_X19_of_11 (E : ax_E) (g0 : Option Nat → Option Nat → ax_H → Option (Int × ax_H)) (g1 : Option Nat → Option Nat → ax_H → Option (Int × ax_H)) (x0 : Option Nat) (x1 : Option Nat) (x2 : Option Nat) (x3 : Int) (x4 : Int) (h : ax_H) : Option ((Int × ax_H) ⊕ (Int × ax_H)) :=
  if i2 x4 < i2 x3 then
    (ax_ldR E h x2 109 x4).bind fun v1 =>
    (ax_dp E h v1 fun t => if t = 17 then f_X17_of E v1 x1 h else if t = 18 then g1 v1 x1 h else if t = 19 then g0 v1 x1 h else none).bind fun q2 =>
    (ax_gI E q2.2 x1 3 1).bind fun v3 =>
    if i2 v3 = 0 then
      (ax_gI E q2.2 x0 19 0).bind fun v4 =>
      if i2 q2.1 = i2 v4 then
        some (.inl ((x4 + 1), q2.2))
      else
        ((ax_gI E q2.2 x0 19 0).bind fun v5 =>
        if i2 v5 = 0 then
          some (1, q2.2)
        else
          some (0, q2.2)).map Sum.inr
    else
      (some (0, q2.2)).map Sum.inr
  else
    ((ax_gI E h x0 19 0).bind fun v6 =>
    if v6 = 0 ∨ v6 = 1 then some (v6, h) else none).map Sum.inr
noncomputable def f_X19_of_11 (E : ax_E) (g0 : Option Nat → Option Nat → ax_H → Option (Int × ax_H)) (g1 : Option Nat → Option Nat → ax_H → Option (Int × ax_H)) (x0 : Option Nat) (x1 : Option Nat) (x2 : Option Nat) (x3 : Int) (x4 : Int) (h : ax_H) : Option (Int × ax_H) :=
  ax_iter (fun s : Int × ax_H => lb_X19_of_11 E g0 g1 x0 x1 x2 x3 s.1 s.2) (x4, h)
noncomputable def f_X19_of (E : ax_E) (g0 : Option Nat → Option Nat → ax_H → Option (Int × ax_H)) (g1 : Option Nat → Option Nat → ax_H → Option (Int × ax_H)) (x0 : Option Nat) (x1 : Option Nat) (h : ax_H) : Option (Int × ax_H) :=
  (ax_gR E h x0 19 1).bind fun v1 =>
  (ax_len E h v1 109).bind fun v2 =>
  f_X19_of_11 E g0 g1 x0 x1 v1 v2 0 h
noncomputable def f_X18_of_22 (E : ax_E) (g0 : Option Nat → Option Nat → ax_H → Option (Int × ax_H)) (g1 : Option Nat → Option Nat → ax_H → Option (Int × ax_H)) (h : ax_H) : Option (Int × ax_H) :=
  some (0, h)
noncomputable def f_X18_of (E : ax_E) (g0 : Option Nat → Option Nat → ax_H → Option (Int × ax_H)) (g1 : Option Nat → Option Nat → ax_H → Option (Int × ax_H)) (x0 : Option Nat) (x1 : Option Nat) (h : ax_H) : Option (Int × ax_H) :=
  (ax_gR E h x0 18 0).bind fun v1 =>
  (ax_dp E h v1 fun t => if t = 17 then f_X17_of E v1 x1 h else if t = 18 then g1 v1 x1 h else if t = 19 then g0 v1 x1 h else none).bind fun q2 =>
  if i2 q2.1 = 0 then
    (ax_gI E q2.2 x1 3 1).bind fun v3 =>
    if i2 v3 = 0 then
      some (1, q2.2)
    else
      f_X18_of_22 E g0 g1 q2.2
  else
    f_X18_of_22 E g0 g1 q2.2
noncomputable def rg_X19_of (E : ax_E) : Nat → (Option Nat → Option Nat → ax_H → Option (Int × ax_H)) × (Option Nat → Option Nat → ax_H → Option (Int × ax_H))
  | 0 => ((fun x0 x1 h => none), (fun x0 x1 h => none))
  | n + 1 => ((fun x0 x1 h => f_X19_of E (rg_X19_of E n).1 (rg_X19_of E n).2 x0 x1 h), (fun x0 x1 h => f_X18_of E (rg_X19_of E n).1 (rg_X19_of E n).2 x0 x1 h))
noncomputable def fn_X19_of (E : ax_E) (n : Nat) (x0 : Option Nat) (x1 : Option Nat) (h : ax_H) : Option (Int × ax_H) := (rg_X19_of E n).1 x0 x1 h
noncomputable def fn_X18_of (E : ax_E) (n : Nat) (x0 : Option Nat) (x1 : Option Nat) (h : ax_H) : Option (Int × ax_H) := (rg_X19_of E n).2 x0 x1 h
def pi_X19_of_11 (G : ax_G) (X : ax_X) (Q : State → Prop) (x0 : Option Nat) (x1 : Option Nat) (x2 : Option Nat) (x3 : Int) : Int × ax_H → Prop := fun s => ∀ ls : Array Slot, ax_hl ls 7 [(0, .inr (.inr x0)), (1, .inr (.inr x1)), (2, .inr (.inr x2)), (3, .inl x3), (4, .inl s.1)] → ax_W G X Q s.2 11 ls []
set_option maxHeartbeats 4000000 in
theorem wb_X19_of_11 {l : Launch} {G : ax_G} {X : ax_X} {Q : State → Prop} {h0 h : ax_H} {ls : Array Slot} {g0 : Option Nat → Option Nat → ax_H → Option (Int × ax_H)} {g1 : Option Nat → Option Nat → ax_H → Option (Int × ax_H)} {fr lo fr1 lo1 : Nat} (hF : fr1 + 1 ≤ fr ∧ 71 ≤ fr ∧ lo1 + 26 ≤ lo ∧ 1779 ≤ lo) (hg0 : ∀ (x0 : Option Nat) (x1 : Option Nat) (h : ax_H) (w : Int × ax_H), g0 x0 x1 h = some w → ax_Met l G yX19_of cX19_of 7 ((some FieldType.boolean)) fr1 lo1 [va_rf x0, va_rf x1] h w.2 (some (.int (Int32.ofInt w.1)))) (hg1 : ∀ (x0 : Option Nat) (x1 : Option Nat) (h : ax_H) (w : Int × ax_H), g1 x0 x1 h = some w → ax_Met l G yX18_of cX18_of 2 ((some FieldType.boolean)) fr1 lo1 [va_rf x0, va_rf x1] h w.2 (some (.int (Int32.ofInt w.1)))) (hSF : ax_SF G) (B : ax_BL l G X cX19_of 7 RX19 fr lo) (Z : ax_Z X h0 ((some FieldType.boolean))) (hn : X.2.2.2.2.2.2.2.2.1.name = yX19_of.name) (x0 : Option Nat) (x1 : Option Nat) (x2 : Option Nat) (x3 : Int) (x4 : Int) {w : (Int × ax_H) ⊕ (Int × ax_H)} (hl : ax_hl ls 7 [(0, .inr (.inr x0)), (1, .inr (.inr x1)), (2, .inr (.inr x2)), (3, .inl x3), (4, .inl x4)]) (e : lb_X19_of_11 G.2.2 g0 g1 x0 x1 x2 x3 x4 h = some w) (hp : (ax_PL (pi_X19_of_11 G X Q x0 x1 x2 x3) (fun w : Int × ax_H => Q = ax_Q G X h0 w.2 (some (.int (Int32.ofInt w.1))))) w) : ax_W G X Q h 11 ls [] := by
  unfold lb_X19_of_11 at e
  refine ax_iload B dX19_of_11 hl 4 rfl ?_
  refine ax_iload_n B dX19_of_13 rfl hl 3 rfl ?_
  refine ax_icmp_ge (tgt := 68) B dX19_of_14 (by decide) e (fun e => ?_) (fun e => ?_)
  · refine ax_aload_n B dX19_of_17 rfl hl 2 rfl ?_
    refine ax_iload B dX19_of_18 hl 4 rfl ?_
    refine ax_aald rfl B kd109 dX19_of_20 e (fun v1 e => ?_)
    refine ax_astore (L' := [(5, .inr (.inr v1)), (0, .inr (.inr x0)), (1, .inr (.inr x1)), (2, .inr (.inr x2)), (3, .inl x3), (4, .inl x4)]) B dX19_of_21 hl (by decide) rfl (fun ls hl => ?_)
    refine ax_aload B dX19_of_23 hl 0 rfl ?_
    refine ax_aload_n B dX19_of_25 rfl hl 2 rfl ?_
    refine ax_iwI (x := ⟨"DebtDoors$Test", "of", "(LDebtDoors$Asked;)Z"⟩) (n := 1) (As := [va_rf x1]) B (fun w1 e1 => ?_) rfl hl.size (by decide) dX19_of_26 e (fun q2 e => ?_)
    · obtain ⟨t, c, e2, e1⟩ := ax_dp_spec e1
      rcases ax_ite e1 with ⟨hk, e1⟩ | ⟨-, e1⟩
      · subst hk
        exact ax_cal B kd17 e2 q592 q548 (ax_dcD B q547) (B.2.1.2.2.2.2 _ q549) q550 q157 q551 (by decide +kernel) (by omega) (mt_X17_of l G hSF v1 x1 _ w1 e1)
      rcases ax_ite e1 with ⟨hk, e1⟩ | ⟨-, e1⟩
      · subst hk
        exact ax_cal B kd18 e2 q592 q548 (ax_dcD B q547) (B.2.1.2.2.2.2 _ q586) q587 q158 q588 (by decide +kernel) (by omega) (hg1 v1 x1 _ w1 e1)
      rcases ax_ite e1 with ⟨hk, e1⟩ | ⟨-, e1⟩
      · subst hk
        exact ax_cal B kd19 e2 q592 q548 (ax_dcD B q547) (B.2.1.2.2.2.2 _ q593) q590 q159 q591 (by decide +kernel) (by omega) (hg0 v1 x1 _ w1 e1)
      cases e1
    refine ax_istore (L' := [(6, .inl q2.1), (5, .inr (.inr v1)), (0, .inr (.inr x0)), (1, .inr (.inr x1)), (2, .inr (.inr x2)), (3, .inl x3), (4, .inl x4)]) B dX19_of_29 hl (by decide) rfl (fun ls hl => ?_)
    refine ax_aload_n B dX19_of_31 rfl hl 3 rfl ?_
    refine ax_getI B ff_X19_21_3 (fun _ _ => rfl) dX19_of_32 e (fun v3 e => ?_)
    refine ax_if_eq (tgt := 40) B dX19_of_35 (by decide) e (fun e => ?_) (fun e => ?_)
    · refine ax_iload B dX19_of_40 hl 0 rfl ?_
      refine ax_aload_n B dX19_of_42 rfl hl 2 rfl ?_
      refine ax_getI B ff_X19_7_19 (fun _ _ => rfl) dX19_of_43 e (fun v4 e => ?_)
      refine ax_icmp_eq (tgt := 62) B dX19_of_46 (by decide) e (fun e => ?_) (fun e => ?_)
      · refine ax_iinc (L' := [(4, .inl (x4 + 1)), (6, .inl q2.1), (5, .inr (.inr v1)), (0, .inr (.inr x0)), (1, .inr (.inr x1)), (2, .inr (.inr x2)), (3, .inl x3)]) B dX19_of_62 hl 6 rfl (by decide) rfl (fun ls hl => ?_)
        refine ax_goto (tgt := 11) B dX19_of_65 (by decide) ?_
        cases e
        exact hp _ (hl.sub [3, 4, 5, 6, 0] rfl)
      · obtain ⟨w, e9_1, rfl⟩ := Option.map_eq_some_iff.mp e
        have e := e9_1
        refine ax_aload_n B dX19_of_49 rfl hl 2 rfl ?_
        refine ax_getI B ff_X19_7_19 (fun _ _ => rfl) dX19_of_50 e (fun v5 e => ?_)
        refine ax_if_ne (tgt := 60) B dX19_of_53 (by decide) e (fun e => ?_) (fun e => ?_)
        · refine ax_iconst B dX19_of_56 ?_
          refine ax_goto (tgt := 61) B dX19_of_57 (by decide) ?_
          have e8 := e
          have hp : Q = _ := hp
          subst hp
          exact ax_zreturnL (by decide) B Z dX19_of_61 e8
        · refine ax_iconst B dX19_of_60 ?_
          have e8 := e
          have hp : Q = _ := hp
          subst hp
          exact ax_zreturnL (by decide) B Z dX19_of_61 e8
    · obtain ⟨w, e9_2, rfl⟩ := Option.map_eq_some_iff.mp e
      have e := e9_2
      refine ax_iconst B dX19_of_38 ?_
      have e8 := e
      have hp : Q = _ := hp
      subst hp
      exact ax_zreturnL (by decide) B Z dX19_of_39 e8
  · obtain ⟨w, e9_3, rfl⟩ := Option.map_eq_some_iff.mp e
    have e := e9_3
    refine ax_aload_n B dX19_of_68 rfl hl 0 rfl ?_
    refine ax_getI B ff_X19_7_19 (fun _ _ => rfl) dX19_of_69 e (fun v6 e => ?_)
    have e8 := e
    have hp : Q = _ := hp
    subst hp
    exact ax_zreturn B Z dX19_of_72 e8
theorem w_X19_of_11 {l : Launch} {G : ax_G} {X : ax_X} {Q : State → Prop} {h0 h : ax_H} {ls : Array Slot} {g0 : Option Nat → Option Nat → ax_H → Option (Int × ax_H)} {g1 : Option Nat → Option Nat → ax_H → Option (Int × ax_H)} {fr lo fr1 lo1 : Nat} (hF : fr1 + 1 ≤ fr ∧ 71 ≤ fr ∧ lo1 + 26 ≤ lo ∧ 1779 ≤ lo) (hg0 : ∀ (x0 : Option Nat) (x1 : Option Nat) (h : ax_H) (w : Int × ax_H), g0 x0 x1 h = some w → ax_Met l G yX19_of cX19_of 7 ((some FieldType.boolean)) fr1 lo1 [va_rf x0, va_rf x1] h w.2 (some (.int (Int32.ofInt w.1)))) (hg1 : ∀ (x0 : Option Nat) (x1 : Option Nat) (h : ax_H) (w : Int × ax_H), g1 x0 x1 h = some w → ax_Met l G yX18_of cX18_of 2 ((some FieldType.boolean)) fr1 lo1 [va_rf x0, va_rf x1] h w.2 (some (.int (Int32.ofInt w.1)))) (hSF : ax_SF G) (B : ax_BL l G X cX19_of 7 RX19 fr lo) (Z : ax_Z X h0 ((some FieldType.boolean))) (hn : X.2.2.2.2.2.2.2.2.1.name = yX19_of.name) (x0 : Option Nat) (x1 : Option Nat) (x2 : Option Nat) (x3 : Int) (x4 : Int) {w : Int × ax_H} (hl : ax_hl ls 7 [(0, .inr (.inr x0)), (1, .inr (.inr x1)), (2, .inr (.inr x2)), (3, .inl x3), (4, .inl x4)]) (e : f_X19_of_11 G.2.2 g0 g1 x0 x1 x2 x3 x4 h = some w) (hp : (fun w : Int × ax_H => Q = ax_Q G X h0 w.2 (some (.int (Int32.ofInt w.1)))) w) : ax_W G X Q h 11 ls [] :=
  ax_iter_W (Pin := pi_X19_of_11 G X Q x0 x1 x2 x3) (Pout := (fun w : Int × ax_H => Q = ax_Q G X h0 w.2 (some (.int (Int32.ofInt w.1))))) (fun s w e hp ls hl => wb_X19_of_11 hF hg0 hg1 hSF B Z hn x0 x1 x2 x3 s.1 hl e hp) _ _ e hp ls hl
set_option maxHeartbeats 4000000 in
theorem we_X19_of {l : Launch} {G : ax_G} {X : ax_X} {Q : State → Prop} {h0 h : ax_H} {ls : Array Slot} {g0 : Option Nat → Option Nat → ax_H → Option (Int × ax_H)} {g1 : Option Nat → Option Nat → ax_H → Option (Int × ax_H)} {fr lo fr1 lo1 : Nat} (hF : fr1 + 1 ≤ fr ∧ 71 ≤ fr ∧ lo1 + 26 ≤ lo ∧ 1779 ≤ lo) (hg0 : ∀ (x0 : Option Nat) (x1 : Option Nat) (h : ax_H) (w : Int × ax_H), g0 x0 x1 h = some w → ax_Met l G yX19_of cX19_of 7 ((some FieldType.boolean)) fr1 lo1 [va_rf x0, va_rf x1] h w.2 (some (.int (Int32.ofInt w.1)))) (hg1 : ∀ (x0 : Option Nat) (x1 : Option Nat) (h : ax_H) (w : Int × ax_H), g1 x0 x1 h = some w → ax_Met l G yX18_of cX18_of 2 ((some FieldType.boolean)) fr1 lo1 [va_rf x0, va_rf x1] h w.2 (some (.int (Int32.ofInt w.1)))) (hSF : ax_SF G) (B : ax_BL l G X cX19_of 7 RX19 fr lo) (Z : ax_Z X h0 ((some FieldType.boolean))) (hn : X.2.2.2.2.2.2.2.2.1.name = yX19_of.name) (x0 : Option Nat) (x1 : Option Nat) {w : Int × ax_H} (hl : ax_hl ls 7 [(0, .inr (.inr x0)), (1, .inr (.inr x1))]) (e : f_X19_of G.2.2 g0 g1 x0 x1 h = some w) (hp : (fun w : Int × ax_H => Q = ax_Q G X h0 w.2 (some (.int (Int32.ofInt w.1)))) w) : ax_W G X Q h 0 ls [] := by
  unfold f_X19_of at e
  refine ax_aload_n B dX19_of_0 rfl hl 0 rfl ?_
  refine ax_getR B ff_X19_13_19 (fun _ _ => rfl) dX19_of_1 e (fun v1 e => ?_)
  refine ax_astore_n (L' := [(2, .inr (.inr v1)), (0, .inr (.inr x0)), (1, .inr (.inr x1))]) B dX19_of_4 rfl hl (by decide) rfl (fun ls hl => ?_)
  refine ax_aload_n B dX19_of_5 rfl hl 0 rfl ?_
  refine ax_alen B kd109 dX19_of_6 e (fun v2 e => ?_)
  refine ax_istore_n (L' := [(3, .inl v2), (2, .inr (.inr v1)), (0, .inr (.inr x0)), (1, .inr (.inr x1))]) B dX19_of_7 rfl hl (by decide) rfl (fun ls hl => ?_)
  refine ax_iconst B dX19_of_8 ?_
  refine ax_istore (L' := [(4, .inl 0), (3, .inl v2), (2, .inr (.inr v1)), (0, .inr (.inr x0)), (1, .inr (.inr x1))]) B dX19_of_9 hl (by decide) rfl (fun ls hl => ?_)
  exact w_X19_of_11 hF hg0 hg1 hSF B Z hn x0 x1 v1 v2 0 (hl.sub [3, 4, 2, 1, 0] rfl) e hp
theorem mt_X19_of (l : Launch) (G : ax_G) (hSF : ax_SF G) {g0 : Option Nat → Option Nat → ax_H → Option (Int × ax_H)} {g1 : Option Nat → Option Nat → ax_H → Option (Int × ax_H)} {fr lo fr1 lo1 : Nat} (hF : fr1 + 1 ≤ fr ∧ 71 ≤ fr ∧ lo1 + 26 ≤ lo ∧ 1779 ≤ lo) (hg0 : ∀ (x0 : Option Nat) (x1 : Option Nat) (h : ax_H) (w : Int × ax_H), g0 x0 x1 h = some w → ax_Met l G yX19_of cX19_of 7 ((some FieldType.boolean)) fr1 lo1 [va_rf x0, va_rf x1] h w.2 (some (.int (Int32.ofInt w.1)))) (hg1 : ∀ (x0 : Option Nat) (x1 : Option Nat) (h : ax_H) (w : Int × ax_H), g1 x0 x1 h = some w → ax_Met l G yX18_of cX18_of 2 ((some FieldType.boolean)) fr1 lo1 [va_rf x0, va_rf x1] h w.2 (some (.int (Int32.ofInt w.1)))) (x0 : Option Nat) (x1 : Option Nat) (h : ax_H) (w : Int × ax_H) (e : f_X19_of G.2.2 g0 g1 x0 x1 h = some w) : ax_Met l G yX19_of cX19_of 7 ((some FieldType.boolean)) fr lo [va_rf x0, va_rf x1] h w.2 (some (.int (Int32.ofInt w.1))) :=
  ax_enter [.inr (.inr x0), .inr (.inr x1)] (y := yX19_of) hSF (plainFor_of_name (by decide +kernel)) (Nat.le_of_ble_eq_true rfl) (fun X ls B Z hn hl => we_X19_of hF hg0 hg1 hSF B Z hn x0 x1 hl e rfl)
set_option maxHeartbeats 4000000 in
theorem w_X18_of_22 {l : Launch} {G : ax_G} {X : ax_X} {Q : State → Prop} {h0 h : ax_H} {ls : Array Slot} {g0 : Option Nat → Option Nat → ax_H → Option (Int × ax_H)} {g1 : Option Nat → Option Nat → ax_H → Option (Int × ax_H)} {fr lo fr1 lo1 : Nat} (hF : fr1 + 1 ≤ fr ∧ 71 ≤ fr ∧ lo1 + 26 ≤ lo ∧ 1779 ≤ lo) (hg0 : ∀ (x0 : Option Nat) (x1 : Option Nat) (h : ax_H) (w : Int × ax_H), g0 x0 x1 h = some w → ax_Met l G yX19_of cX19_of 7 ((some FieldType.boolean)) fr1 lo1 [va_rf x0, va_rf x1] h w.2 (some (.int (Int32.ofInt w.1)))) (hg1 : ∀ (x0 : Option Nat) (x1 : Option Nat) (h : ax_H) (w : Int × ax_H), g1 x0 x1 h = some w → ax_Met l G yX18_of cX18_of 2 ((some FieldType.boolean)) fr1 lo1 [va_rf x0, va_rf x1] h w.2 (some (.int (Int32.ofInt w.1)))) (hSF : ax_SF G) (B : ax_BL l G X cX18_of 2 RX18 fr lo) (Z : ax_Z X h0 ((some FieldType.boolean))) (hn : X.2.2.2.2.2.2.2.2.1.name = yX18_of.name) {w : Int × ax_H} (hl : ax_hl ls 2 []) (e : f_X18_of_22 G.2.2 g0 g1 h = some w) (hp : (fun w : Int × ax_H => Q = ax_Q G X h0 w.2 (some (.int (Int32.ofInt w.1)))) w) : ax_W G X Q h 22 ls [] := by
  unfold f_X18_of_22 at e
  refine ax_iconst B dX18_of_22 ?_
  have e8 := e
  have hp : Q = _ := hp
  subst hp
  exact ax_zreturnL (by decide) B Z dX18_of_23 e8
set_option maxHeartbeats 4000000 in
theorem we_X18_of {l : Launch} {G : ax_G} {X : ax_X} {Q : State → Prop} {h0 h : ax_H} {ls : Array Slot} {g0 : Option Nat → Option Nat → ax_H → Option (Int × ax_H)} {g1 : Option Nat → Option Nat → ax_H → Option (Int × ax_H)} {fr lo fr1 lo1 : Nat} (hF : fr1 + 1 ≤ fr ∧ 71 ≤ fr ∧ lo1 + 26 ≤ lo ∧ 1779 ≤ lo) (hg0 : ∀ (x0 : Option Nat) (x1 : Option Nat) (h : ax_H) (w : Int × ax_H), g0 x0 x1 h = some w → ax_Met l G yX19_of cX19_of 7 ((some FieldType.boolean)) fr1 lo1 [va_rf x0, va_rf x1] h w.2 (some (.int (Int32.ofInt w.1)))) (hg1 : ∀ (x0 : Option Nat) (x1 : Option Nat) (h : ax_H) (w : Int × ax_H), g1 x0 x1 h = some w → ax_Met l G yX18_of cX18_of 2 ((some FieldType.boolean)) fr1 lo1 [va_rf x0, va_rf x1] h w.2 (some (.int (Int32.ofInt w.1)))) (hSF : ax_SF G) (B : ax_BL l G X cX18_of 2 RX18 fr lo) (Z : ax_Z X h0 ((some FieldType.boolean))) (hn : X.2.2.2.2.2.2.2.2.1.name = yX18_of.name) (x0 : Option Nat) (x1 : Option Nat) {w : Int × ax_H} (hl : ax_hl ls 2 [(0, .inr (.inr x0)), (1, .inr (.inr x1))]) (e : f_X18_of G.2.2 g0 g1 x0 x1 h = some w) (hp : (fun w : Int × ax_H => Q = ax_Q G X h0 w.2 (some (.int (Int32.ofInt w.1)))) w) : ax_W G X Q h 0 ls [] := by
  unfold f_X18_of at e
  refine ax_aload_n B dX18_of_0 rfl hl 0 rfl ?_
  refine ax_getR B ff_X18_7_18 (fun _ _ => rfl) dX18_of_1 e (fun v1 e => ?_)
  refine ax_aload_n B dX18_of_4 rfl hl 1 rfl ?_
  refine ax_iwI (x := ⟨"DebtDoors$Test", "of", "(LDebtDoors$Asked;)Z"⟩) (n := 1) (As := [va_rf x1]) B (fun w1 e1 => ?_) rfl hl.size (by decide) dX18_of_5 e (fun q2 e => ?_)
  · obtain ⟨t, c, e2, e1⟩ := ax_dp_spec e1
    rcases ax_ite e1 with ⟨hk, e1⟩ | ⟨-, e1⟩
    · subst hk
      exact ax_cal B kd17 e2 q589 q548 (ax_dcD B q547) (B.2.1.2.2.2.2 _ q549) q550 q157 q551 (by decide +kernel) (by omega) (mt_X17_of l G hSF v1 x1 _ w1 e1)
    rcases ax_ite e1 with ⟨hk, e1⟩ | ⟨-, e1⟩
    · subst hk
      exact ax_cal B kd18 e2 q589 q548 (ax_dcD B q547) (B.2.1.2.2.2.2 _ q586) q587 q158 q588 (by decide +kernel) (by omega) (hg1 v1 x1 _ w1 e1)
    rcases ax_ite e1 with ⟨hk, e1⟩ | ⟨-, e1⟩
    · subst hk
      exact ax_cal B kd19 e2 q589 q548 (ax_dcD B q547) (B.2.1.2.2.2.2 _ q593) q590 q159 q591 (by decide +kernel) (by omega) (hg0 v1 x1 _ w1 e1)
    cases e1
  refine ax_if_ne (tgt := 22) B dX18_of_8 (by decide) e (fun e => ?_) (fun e => ?_)
  · refine ax_aload_n B dX18_of_11 rfl hl 1 rfl ?_
    refine ax_getI B ff_X18_17_3 (fun _ _ => rfl) dX18_of_12 e (fun v3 e => ?_)
    refine ax_if_ne (tgt := 22) B dX18_of_15 (by decide) e (fun e => ?_) (fun e => ?_)
    · refine ax_iconst B dX18_of_18 ?_
      refine ax_goto (tgt := 23) B dX18_of_19 (by decide) ?_
      have e8 := e
      have hp : Q = _ := hp
      subst hp
      exact ax_zreturnL (by decide) B Z dX18_of_23 e8
    · exact w_X18_of_22 hF hg0 hg1 hSF B Z hn (hl.sub [] rfl) e hp
  · exact w_X18_of_22 hF hg0 hg1 hSF B Z hn (hl.sub [] rfl) e hp
theorem mt_X18_of (l : Launch) (G : ax_G) (hSF : ax_SF G) {g0 : Option Nat → Option Nat → ax_H → Option (Int × ax_H)} {g1 : Option Nat → Option Nat → ax_H → Option (Int × ax_H)} {fr lo fr1 lo1 : Nat} (hF : fr1 + 1 ≤ fr ∧ 71 ≤ fr ∧ lo1 + 26 ≤ lo ∧ 1779 ≤ lo) (hg0 : ∀ (x0 : Option Nat) (x1 : Option Nat) (h : ax_H) (w : Int × ax_H), g0 x0 x1 h = some w → ax_Met l G yX19_of cX19_of 7 ((some FieldType.boolean)) fr1 lo1 [va_rf x0, va_rf x1] h w.2 (some (.int (Int32.ofInt w.1)))) (hg1 : ∀ (x0 : Option Nat) (x1 : Option Nat) (h : ax_H) (w : Int × ax_H), g1 x0 x1 h = some w → ax_Met l G yX18_of cX18_of 2 ((some FieldType.boolean)) fr1 lo1 [va_rf x0, va_rf x1] h w.2 (some (.int (Int32.ofInt w.1)))) (x0 : Option Nat) (x1 : Option Nat) (h : ax_H) (w : Int × ax_H) (e : f_X18_of G.2.2 g0 g1 x0 x1 h = some w) : ax_Met l G yX18_of cX18_of 2 ((some FieldType.boolean)) fr lo [va_rf x0, va_rf x1] h w.2 (some (.int (Int32.ofInt w.1))) :=
  ax_enter [.inr (.inr x0), .inr (.inr x1)] (y := yX18_of) hSF (plainFor_of_name (by decide +kernel)) (Nat.le_of_ble_eq_true rfl) (fun X ls B Z hn hl => we_X18_of hF hg0 hg1 hSF B Z hn x0 x1 hl e rfl)
theorem mg_X19_of (l : Launch) (G : ax_G) (hSF : ax_SF G) : ∀ n : Nat, (∀ (x0 : Option Nat) (x1 : Option Nat) (h : ax_H) (w : Int × ax_H), (rg_X19_of G.2.2 n).1 x0 x1 h = some w → ax_Met l G yX19_of cX19_of 7 ((some FieldType.boolean)) (71 + n) (1779 + n * 26) [va_rf x0, va_rf x1] h w.2 (some (.int (Int32.ofInt w.1)))) ∧ (∀ (x0 : Option Nat) (x1 : Option Nat) (h : ax_H) (w : Int × ax_H), (rg_X19_of G.2.2 n).2 x0 x1 h = some w → ax_Met l G yX18_of cX18_of 2 ((some FieldType.boolean)) (71 + n) (1779 + n * 26) [va_rf x0, va_rf x1] h w.2 (some (.int (Int32.ofInt w.1))))
  | 0 => ⟨fun _ _ _ _ e => (by cases e), fun _ _ _ _ e => (by cases e)⟩
  | n + 1 => by
    have ih := mg_X19_of l G hSF n
    exact ⟨fun x0 x1 h w e => mt_X19_of l G hSF (fr1 := 71 + n) (lo1 := 1779 + n * 26) (by omega) (ih.1) (ih.2) x0 x1 h w e, fun x0 x1 h w e => mt_X18_of l G hSF (fr1 := 71 + n) (lo1 := 1779 + n * 26) (by omega) (ih.1) (ih.2) x0 x1 h w e⟩
theorem mf_X19_of (l : Launch) (G : ax_G) (hSF : ax_SF G) (n : Nat) (x0 : Option Nat) (x1 : Option Nat) (h : ax_H) (w : Int × ax_H) (e : fn_X19_of G.2.2 n x0 x1 h = some w) : ax_Met l G yX19_of cX19_of 7 ((some FieldType.boolean)) (71 + n) (1779 + n * 26) [va_rf x0, va_rf x1] h w.2 (some (.int (Int32.ofInt w.1))) := (mg_X19_of l G hSF n).1 x0 x1 h w e
theorem mf_X18_of (l : Launch) (G : ax_G) (hSF : ax_SF G) (n : Nat) (x0 : Option Nat) (x1 : Option Nat) (h : ax_H) (w : Int × ax_H) (e : fn_X18_of G.2.2 n x0 x1 h = some w) : ax_Met l G yX18_of cX18_of 2 ((some FieldType.boolean)) (71 + n) (1779 + n * 26) [va_rf x0, va_rf x1] h w.2 (some (.int (Int32.ofInt w.1))) := (mg_X19_of l G hSF n).2 x0 x1 h w e
def dkwX15_holds_2 : List UInt8 := [43, 182, 0, 33, 181, 0, 38, 43, 180, 0, 21, 154, 0, 7, 4, 167, 0, 4, 3, 172]
abbrev dktX15_holds_2 : List UInt8 := dkwX15_holds_2 ++ []
def dkwX15_holds_1 : List UInt8 := [180, 0, 21, 153, 0, 5, 3, 172, 42, 42, 180, 0, 13, 199, 0, 7, 9, 167, 0, 11, 42, 180, 0, 13]
abbrev dktX15_holds_1 : List UInt8 := dkwX15_holds_1 ++ dktX15_holds_2
def dkwX15_holds_0 : List UInt8 := [43, 3, 181, 0, 21, 42, 180, 0, 17, 198, 0, 14, 42, 180, 0, 17, 43, 182, 0, 27, 153, 0, 10, 43]
abbrev dktX15_holds_0 : List UInt8 := dkwX15_holds_0 ++ dktX15_holds_1
theorem dksX15_holds_0 : cX15_holds.data.toList.drop 0 = dktX15_holds_0 := by decide +kernel
theorem dksX15_holds_1 : cX15_holds.data.toList.drop 24 = dktX15_holds_1 := dk_seg dksX15_holds_0 24 rfl rfl
theorem dksX15_holds_2 : cX15_holds.data.toList.drop 48 = dktX15_holds_2 := dk_seg dksX15_holds_1 24 rfl rfl
theorem dX15_holds_0 : decode cX15_holds 0 = .ok (.aload_n 1, 1) := dk_43 (dk_at dksX15_holds_0 0 rfl rfl)
theorem dX15_holds_1 : decode cX15_holds 1 = .ok (.iconst 0, 1) := dk_3 (dk_at dksX15_holds_0 1 rfl rfl)
theorem dX15_holds_2 : decode cX15_holds 2 = .ok (.putfield 21, 3) := dk_181 0 21 (dk_at dksX15_holds_0 2 rfl rfl)
theorem dX15_holds_5 : decode cX15_holds 5 = .ok (.aload_n 0, 1) := dk_42 (dk_at dksX15_holds_0 5 rfl rfl)
theorem dX15_holds_6 : decode cX15_holds 6 = .ok (.getfield 17, 3) := dk_180 0 17 (dk_at dksX15_holds_0 6 rfl rfl)
theorem dX15_holds_9 : decode cX15_holds 9 = .ok (.ifnull 14, 3) := dk_198 0 14 (dk_at dksX15_holds_0 9 rfl rfl)
theorem dX15_holds_12 : decode cX15_holds 12 = .ok (.aload_n 0, 1) := dk_42 (dk_at dksX15_holds_0 12 rfl rfl)
theorem dX15_holds_13 : decode cX15_holds 13 = .ok (.getfield 17, 3) := dk_180 0 17 (dk_at dksX15_holds_0 13 rfl rfl)
theorem dX15_holds_16 : decode cX15_holds 16 = .ok (.aload_n 1, 1) := dk_43 (dk_at dksX15_holds_0 16 rfl rfl)
theorem dX15_holds_17 : decode cX15_holds 17 = .ok (.invokevirtual 27, 3) := dk_182 0 27 (dk_at dksX15_holds_0 17 rfl rfl)
theorem dX15_holds_20 : decode cX15_holds 20 = .ok (.ifCond .eq 10, 3) := dk_153 0 10 (dk_at dksX15_holds_0 20 rfl rfl)
theorem dX15_holds_23 : decode cX15_holds 23 = .ok (.aload_n 1, 1) := dk_43 (dk_at dksX15_holds_0 23 rfl rfl)
theorem dX15_holds_24 : decode cX15_holds 24 = .ok (.getfield 21, 3) := dk_180 0 21 (dk_at dksX15_holds_1 0 rfl rfl)
theorem dX15_holds_27 : decode cX15_holds 27 = .ok (.ifCond .eq 5, 3) := dk_153 0 5 (dk_at dksX15_holds_1 3 rfl rfl)
theorem dX15_holds_30 : decode cX15_holds 30 = .ok (.iconst 0, 1) := dk_3 (dk_at dksX15_holds_1 6 rfl rfl)
theorem dX15_holds_31 : decode cX15_holds 31 = .ok (.ireturn, 1) := dk_172 (dk_at dksX15_holds_1 7 rfl rfl)
theorem dX15_holds_32 : decode cX15_holds 32 = .ok (.aload_n 0, 1) := dk_42 (dk_at dksX15_holds_1 8 rfl rfl)
theorem dX15_holds_33 : decode cX15_holds 33 = .ok (.aload_n 0, 1) := dk_42 (dk_at dksX15_holds_1 9 rfl rfl)
theorem dX15_holds_34 : decode cX15_holds 34 = .ok (.getfield 13, 3) := dk_180 0 13 (dk_at dksX15_holds_1 10 rfl rfl)
theorem dX15_holds_37 : decode cX15_holds 37 = .ok (.ifnonnull 7, 3) := dk_199 0 7 (dk_at dksX15_holds_1 13 rfl rfl)
theorem dX15_holds_40 : decode cX15_holds 40 = .ok (.lconst 0, 1) := dk_9 (dk_at dksX15_holds_1 16 rfl rfl)
theorem dX15_holds_41 : decode cX15_holds 41 = .ok (.goto 11, 3) := dk_167 0 11 (dk_at dksX15_holds_1 17 rfl rfl)
theorem dX15_holds_44 : decode cX15_holds 44 = .ok (.aload_n 0, 1) := dk_42 (dk_at dksX15_holds_1 20 rfl rfl)
theorem dX15_holds_45 : decode cX15_holds 45 = .ok (.getfield 13, 3) := dk_180 0 13 (dk_at dksX15_holds_1 21 rfl rfl)
theorem dX15_holds_48 : decode cX15_holds 48 = .ok (.aload_n 1, 1) := dk_43 (dk_at dksX15_holds_2 0 rfl rfl)
theorem dX15_holds_49 : decode cX15_holds 49 = .ok (.invokevirtual 33, 3) := dk_182 0 33 (dk_at dksX15_holds_2 1 rfl rfl)
theorem dX15_holds_52 : decode cX15_holds 52 = .ok (.putfield 38, 3) := dk_181 0 38 (dk_at dksX15_holds_2 4 rfl rfl)
theorem dX15_holds_55 : decode cX15_holds 55 = .ok (.aload_n 1, 1) := dk_43 (dk_at dksX15_holds_2 7 rfl rfl)
theorem dX15_holds_56 : decode cX15_holds 56 = .ok (.getfield 21, 3) := dk_180 0 21 (dk_at dksX15_holds_2 8 rfl rfl)
theorem dX15_holds_59 : decode cX15_holds 59 = .ok (.ifCond .ne 7, 3) := dk_154 0 7 (dk_at dksX15_holds_2 11 rfl rfl)
theorem dX15_holds_62 : decode cX15_holds 62 = .ok (.iconst 1, 1) := dk_4 (dk_at dksX15_holds_2 14 rfl rfl)
theorem dX15_holds_63 : decode cX15_holds 63 = .ok (.goto 4, 3) := dk_167 0 4 (dk_at dksX15_holds_2 15 rfl rfl)
theorem dX15_holds_66 : decode cX15_holds 66 = .ok (.iconst 0, 1) := dk_3 (dk_at dksX15_holds_2 18 rfl rfl)
theorem dX15_holds_67 : decode cX15_holds 67 = .ok (.ireturn, 1) := dk_172 (dk_at dksX15_holds_2 19 rfl rfl)
noncomputable def f_X15_holds_30 (E : ax_E) (h : ax_H) : Option (Int × ax_H) :=
  some (0, h)
noncomputable def f_X15_holds_52 (E : ax_E) (x1 : Option Nat) (s0 : Option Nat) (s1 : Int) (h : ax_H) : Option (Int × ax_H) :=
  (ax_pI h s0 15 3 s1).bind fun h1 =>
  (ax_gI E h1 x1 3 1).bind fun v2 =>
  if i2 v2 = 0 then
    some (1, h1)
  else
    some (0, h1)
noncomputable def f_X15_holds_23 (E : ax_E) (x0 : Option Nat) (x1 : Option Nat) (h : ax_H) : Option (Int × ax_H) :=
  (ax_gI E h x1 3 1).bind fun v1 =>
  if i2 v1 = 0 then
    (ax_gR E h x0 15 1).bind fun v2 =>
    if v2 = none then
      f_X15_holds_52 E x1 x0 0 h
    else
      (ax_gR E h x0 15 1).bind fun v3 =>
      (ax_dp E h v3 fun t => if t = 10 then f_X10_of E v3 x1 h else if t = 11 then f_X11_of E v3 x1 h else if t = 12 then f_X12_of E v3 x1 h else if t = 13 then f_X13_of E v3 x1 h else if t = 14 then fn_X14_of E 64 v3 x1 h else none).bind fun q4 =>
      f_X15_holds_52 E x1 x0 q4.1 q4.2
  else
    f_X15_holds_30 E h
noncomputable def f_X15_holds (E : ax_E) (x0 : Option Nat) (x1 : Option Nat) (h : ax_H) : Option (Int × ax_H) :=
  if 0 = 0 ∨ 0 = 1 then (ax_pI h x1 3 1 0).bind fun h1 =>
    (ax_gR E h1 x0 15 2).bind fun v2 =>
    if v2 = none then
      f_X15_holds_23 E x0 x1 h1
    else
      (ax_gR E h1 x0 15 2).bind fun v3 =>
      (ax_dp E h1 v3 fun t => if t = 17 then f_X17_of E v3 x1 h1 else if t = 18 then fn_X18_of E 64 v3 x1 h1 else if t = 19 then fn_X19_of E 64 v3 x1 h1 else none).bind fun q4 =>
      if i2 q4.1 = 0 then
        f_X15_holds_30 E q4.2
      else
        f_X15_holds_23 E x0 x1 q4.2
  else none
set_option maxHeartbeats 4000000 in
theorem w_X15_holds_30 {l : Launch} {G : ax_G} {X : ax_X} {Q : State → Prop} {h0 h : ax_H} {ls : Array Slot} (hSF : ax_SF G) (B : ax_BL l G X cX15_holds 2 RX15 136 3469) (Z : ax_Z X h0 ((some FieldType.boolean))) (hn : X.2.2.2.2.2.2.2.2.1.name = yX15_holds.name) {w : Int × ax_H} (hl : ax_hl ls 2 []) (e : f_X15_holds_30 G.2.2 h = some w) (hp : (fun w : Int × ax_H => Q = ax_Q G X h0 w.2 (some (.int (Int32.ofInt w.1)))) w) : ax_W G X Q h 30 ls [] := by
  unfold f_X15_holds_30 at e
  refine ax_iconst B dX15_holds_30 ?_
  have e8 := e
  have hp : Q = _ := hp
  subst hp
  exact ax_zreturnL (by decide) B Z dX15_holds_31 e8
set_option maxHeartbeats 4000000 in
theorem w_X15_holds_52 {l : Launch} {G : ax_G} {X : ax_X} {Q : State → Prop} {h0 h : ax_H} {ls : Array Slot} (hSF : ax_SF G) (B : ax_BL l G X cX15_holds 2 RX15 136 3469) (Z : ax_Z X h0 ((some FieldType.boolean))) (hn : X.2.2.2.2.2.2.2.2.1.name = yX15_holds.name) (x1 : Option Nat) (s0 : Option Nat) (s1 : Int) {w : Int × ax_H} (hl : ax_hl ls 2 [(1, .inr (.inr x1))]) (e : f_X15_holds_52 G.2.2 x1 s0 s1 h = some w) (hp : (fun w : Int × ax_H => Q = ax_Q G X h0 w.2 (some (.int (Int32.ofInt w.1)))) w) : ax_W G X Q h 52 ls [.long (Int64.ofInt s1), va_rf s0] := by
  unfold f_X15_holds_52 at e
  refine ax_putL B ff_X15_38_15 (Or.inl rfl) rfl dX15_holds_52 e (fun h1 e => ?_)
  refine ax_aload_n B dX15_holds_55 rfl hl 0 rfl ?_
  refine ax_getI B ff_X15_21_3 (fun _ _ => rfl) dX15_holds_56 e (fun v2 e => ?_)
  refine ax_if_ne (tgt := 66) B dX15_holds_59 (by decide) e (fun e => ?_) (fun e => ?_)
  · refine ax_iconst B dX15_holds_62 ?_
    refine ax_goto (tgt := 67) B dX15_holds_63 (by decide) ?_
    have e8 := e
    have hp : Q = _ := hp
    subst hp
    exact ax_zreturnL (by decide) B Z dX15_holds_67 e8
  · refine ax_iconst B dX15_holds_66 ?_
    have e8 := e
    have hp : Q = _ := hp
    subst hp
    exact ax_zreturnL (by decide) B Z dX15_holds_67 e8
set_option maxHeartbeats 4000000 in
theorem w_X15_holds_23 {l : Launch} {G : ax_G} {X : ax_X} {Q : State → Prop} {h0 h : ax_H} {ls : Array Slot} (hSF : ax_SF G) (B : ax_BL l G X cX15_holds 2 RX15 136 3469) (Z : ax_Z X h0 ((some FieldType.boolean))) (hn : X.2.2.2.2.2.2.2.2.1.name = yX15_holds.name) (x0 : Option Nat) (x1 : Option Nat) {w : Int × ax_H} (hl : ax_hl ls 2 [(0, .inr (.inr x0)), (1, .inr (.inr x1))]) (e : f_X15_holds_23 G.2.2 x0 x1 h = some w) (hp : (fun w : Int × ax_H => Q = ax_Q G X h0 w.2 (some (.int (Int32.ofInt w.1)))) w) : ax_W G X Q h 23 ls [] := by
  unfold f_X15_holds_23 at e
  refine ax_aload_n B dX15_holds_23 rfl hl 1 rfl ?_
  refine ax_getI B ff_X15_21_3 (fun _ _ => rfl) dX15_holds_24 e (fun v1 e => ?_)
  refine ax_if_eq (tgt := 32) B dX15_holds_27 (by decide) e (fun e => ?_) (fun e => ?_)
  · refine ax_aload_n B dX15_holds_32 rfl hl 0 rfl ?_
    refine ax_aload_n B dX15_holds_33 rfl hl 0 rfl ?_
    refine ax_getR B ff_X15_13_15 (fun _ _ => rfl) dX15_holds_34 e (fun v2 e => ?_)
    refine ax_ifnonnull (tgt := 44) B dX15_holds_37 (by decide) e (fun e => ?_) (fun e => ?_)
    · refine ax_lconst (v := 0) B dX15_holds_40 rfl ?_
      refine ax_goto (tgt := 52) B dX15_holds_41 (by decide) ?_
      exact w_X15_holds_52 hSF B Z hn x1 x0 0 (hl.sub [1] rfl) e hp
    · refine ax_aload_n B dX15_holds_44 rfl hl 0 rfl ?_
      refine ax_getR B ff_X15_13_15 (fun _ _ => rfl) dX15_holds_45 e (fun v3 e => ?_)
      refine ax_aload_n B dX15_holds_48 rfl hl 1 rfl ?_
      refine ax_iwL (x := ⟨"DebtDoors$Sum", "of", "(LDebtDoors$Asked;)J"⟩) (n := 1) (As := [va_rf x1]) B (fun w1 e1 => ?_) rfl hl.size (by simp only [List.map_cons, List.map_nil, List.sum_cons, List.sum_nil, va_rf_cat, ax_catI, ax_catL]; decide) dX15_holds_49 e (fun q4 e => ?_)
      · obtain ⟨t, c, e2, e1⟩ := ax_dp_spec e1
        rcases ax_ite e1 with ⟨hk, e1⟩ | ⟨-, e1⟩
        · subst hk
          exact ax_cal B kd10 e2 q594 q554 (ax_dcD B q553) (B.2.1.2.2.2.2 _ q555) q556 q150 q557 (by decide +kernel) ⟨Nat.le_of_ble_eq_true rfl, Nat.le_of_ble_eq_true rfl⟩ (mt_X10_of l G hSF v3 x1 _ w1 e1)
        rcases ax_ite e1 with ⟨hk, e1⟩ | ⟨-, e1⟩
        · subst hk
          exact ax_cal B kd11 e2 q594 q554 (ax_dcD B q553) (B.2.1.2.2.2.2 _ q584) q570 q151 q571 (by decide +kernel) ⟨Nat.le_of_ble_eq_true rfl, Nat.le_of_ble_eq_true rfl⟩ (mt_X11_of l G hSF v3 x1 _ w1 e1)
        rcases ax_ite e1 with ⟨hk, e1⟩ | ⟨-, e1⟩
        · subst hk
          exact ax_cal B kd12 e2 q594 q554 (ax_dcD B q553) (B.2.1.2.2.2.2 _ q585) q572 q152 q573 (by decide +kernel) ⟨Nat.le_of_ble_eq_true rfl, Nat.le_of_ble_eq_true rfl⟩ (mt_X12_of l G hSF v3 x1 _ w1 e1)
        rcases ax_ite e1 with ⟨hk, e1⟩ | ⟨-, e1⟩
        · subst hk
          exact ax_cal B kd13 e2 q594 q554 (ax_dcD B q553) (B.2.1.2.2.2.2 _ q583) q562 q153 q563 (by decide +kernel) ⟨Nat.le_of_ble_eq_true rfl, Nat.le_of_ble_eq_true rfl⟩ (mt_X13_of l G hSF v3 x1 _ w1 e1)
        rcases ax_ite e1 with ⟨hk, e1⟩ | ⟨-, e1⟩
        · subst hk
          exact ax_cal B kd14 e2 q594 q554 (ax_dcD B q553) (B.2.1.2.2.2.2 _ q558) q559 q154 q560 (by decide +kernel) ⟨Nat.le_of_ble_eq_true rfl, Nat.le_of_ble_eq_true rfl⟩ (mf_X14_of l G hSF 64 v3 x1 _ w1 e1)
        cases e1
      exact w_X15_holds_52 hSF B Z hn x1 x0 q4.1 (hl.sub [1] rfl) e hp
  · exact w_X15_holds_30 hSF B Z hn (hl.sub [] rfl) e hp
set_option maxHeartbeats 4000000 in
theorem we_X15_holds {l : Launch} {G : ax_G} {X : ax_X} {Q : State → Prop} {h0 h : ax_H} {ls : Array Slot} (hSF : ax_SF G) (B : ax_BL l G X cX15_holds 2 RX15 136 3469) (Z : ax_Z X h0 ((some FieldType.boolean))) (hn : X.2.2.2.2.2.2.2.2.1.name = yX15_holds.name) (x0 : Option Nat) (x1 : Option Nat) {w : Int × ax_H} (hl : ax_hl ls 2 [(0, .inr (.inr x0)), (1, .inr (.inr x1))]) (e : f_X15_holds G.2.2 x0 x1 h = some w) (hp : (fun w : Int × ax_H => Q = ax_Q G X h0 w.2 (some (.int (Int32.ofInt w.1)))) w) : ax_W G X Q h 0 ls [] := by
  unfold f_X15_holds at e
  refine ax_aload_n B dX15_holds_0 rfl hl 1 rfl ?_
  refine ax_iconst B dX15_holds_1 ?_
  refine ax_putZ B ff_X15_21_3 (Or.inl rfl) dX15_holds_2 e (fun h1 e => ?_)
  refine ax_aload_n B dX15_holds_5 rfl hl 0 rfl ?_
  refine ax_getR B ff_X15_17_15 (fun _ _ => rfl) dX15_holds_6 e (fun v2 e => ?_)
  refine ax_ifnull (tgt := 23) B dX15_holds_9 (by decide) e (fun e => ?_) (fun e => ?_)
  · exact w_X15_holds_23 hSF B Z hn x0 x1 (hl.sub [0, 1] rfl) e hp
  · refine ax_aload_n B dX15_holds_12 rfl hl 0 rfl ?_
    refine ax_getR B ff_X15_17_15 (fun _ _ => rfl) dX15_holds_13 e (fun v3 e => ?_)
    refine ax_aload_n B dX15_holds_16 rfl hl 1 rfl ?_
    refine ax_iwI (x := ⟨"DebtDoors$Test", "of", "(LDebtDoors$Asked;)Z"⟩) (n := 1) (As := [va_rf x1]) B (fun w1 e1 => ?_) rfl hl.size (by decide) dX15_holds_17 e (fun q4 e => ?_)
    · obtain ⟨t, c, e2, e1⟩ := ax_dp_spec e1
      rcases ax_ite e1 with ⟨hk, e1⟩ | ⟨-, e1⟩
      · subst hk
        exact ax_cal B kd17 e2 q546 q548 (ax_dcD B q547) (B.2.1.2.2.2.2 _ q549) q550 q157 q551 (by decide +kernel) ⟨Nat.le_of_ble_eq_true rfl, Nat.le_of_ble_eq_true rfl⟩ (mt_X17_of l G hSF v3 x1 _ w1 e1)
      rcases ax_ite e1 with ⟨hk, e1⟩ | ⟨-, e1⟩
      · subst hk
        exact ax_cal B kd18 e2 q546 q548 (ax_dcD B q547) (B.2.1.2.2.2.2 _ q586) q587 q158 q588 (by decide +kernel) ⟨Nat.le_of_ble_eq_true rfl, Nat.le_of_ble_eq_true rfl⟩ (mf_X18_of l G hSF 64 v3 x1 _ w1 e1)
      rcases ax_ite e1 with ⟨hk, e1⟩ | ⟨-, e1⟩
      · subst hk
        exact ax_cal B kd19 e2 q546 q548 (ax_dcD B q547) (B.2.1.2.2.2.2 _ q593) q590 q159 q591 (by decide +kernel) ⟨Nat.le_of_ble_eq_true rfl, Nat.le_of_ble_eq_true rfl⟩ (mf_X19_of l G hSF 64 v3 x1 _ w1 e1)
      cases e1
    refine ax_if_eq (tgt := 30) B dX15_holds_20 (by decide) e (fun e => ?_) (fun e => ?_)
    · exact w_X15_holds_30 hSF B Z hn (hl.sub [] rfl) e hp
    · exact w_X15_holds_23 hSF B Z hn x0 x1 (hl.sub [0, 1] rfl) e hp
theorem mt_X15_holds (l : Launch) (G : ax_G) (hSF : ax_SF G) (x0 : Option Nat) (x1 : Option Nat) (h : ax_H) (w : Int × ax_H) (e : f_X15_holds G.2.2 x0 x1 h = some w) : ax_Met l G yX15_holds cX15_holds 2 ((some FieldType.boolean)) 136 3469 [va_rf x0, va_rf x1] h w.2 (some (.int (Int32.ofInt w.1))) :=
  ax_enter [.inr (.inr x0), .inr (.inr x1)] (y := yX15_holds) hSF (plainFor_of_name (by decide +kernel)) (Nat.le_of_ble_eq_true rfl) (fun X ls B Z hn hl => we_X15_holds hSF B Z hn x0 x1 hl e rfl)
def dkwX4_tells_2 : List UInt8 := [180, 0, 7, 21, 7, 50, 180, 0, 23, 55, 5, 132, 7, 1, 167, 255, 203, 22, 5, 173]
abbrev dktX4_tells_2 : List UInt8 := dkwX4_tells_2 ++ []
def dkwX4_tells_1 : List UInt8 := [180, 0, 13, 27, 160, 0, 29, 42, 180, 0, 7, 21, 7, 50, 44, 182, 0, 19, 153, 0, 15, 42]
abbrev dktX4_tells_1 : List UInt8 := dkwX4_tells_1 ++ dktX4_tells_2
def dkwX4_tells_0 : List UInt8 := [33, 55, 5, 3, 54, 7, 21, 7, 42, 180, 0, 7, 190, 162, 0, 49, 42, 180, 0, 7, 21, 7, 50]
abbrev dktX4_tells_0 : List UInt8 := dkwX4_tells_0 ++ dktX4_tells_1
theorem dksX4_tells_0 : cX4_tells.data.toList.drop 0 = dktX4_tells_0 := by decide +kernel
theorem dksX4_tells_1 : cX4_tells.data.toList.drop 23 = dktX4_tells_1 := dk_seg dksX4_tells_0 23 rfl rfl
theorem dksX4_tells_2 : cX4_tells.data.toList.drop 45 = dktX4_tells_2 := dk_seg dksX4_tells_1 22 rfl rfl
theorem dX4_tells_0 : decode cX4_tells 0 = .ok (.lload_n 3, 1) := dk_33 (dk_at dksX4_tells_0 0 rfl rfl)
theorem dX4_tells_1 : decode cX4_tells 1 = .ok (.lstore 5, 2) := dk_55 5 (dk_at dksX4_tells_0 1 rfl rfl)
theorem dX4_tells_3 : decode cX4_tells 3 = .ok (.iconst 0, 1) := dk_3 (dk_at dksX4_tells_0 3 rfl rfl)
theorem dX4_tells_4 : decode cX4_tells 4 = .ok (.istore 7, 2) := dk_54 7 (dk_at dksX4_tells_0 4 rfl rfl)
theorem dX4_tells_6 : decode cX4_tells 6 = .ok (.iload 7, 2) := dk_21 7 (dk_at dksX4_tells_0 6 rfl rfl)
theorem dX4_tells_8 : decode cX4_tells 8 = .ok (.aload_n 0, 1) := dk_42 (dk_at dksX4_tells_0 8 rfl rfl)
theorem dX4_tells_9 : decode cX4_tells 9 = .ok (.getfield 7, 3) := dk_180 0 7 (dk_at dksX4_tells_0 9 rfl rfl)
theorem dX4_tells_12 : decode cX4_tells 12 = .ok (.arraylength, 1) := dk_190 (dk_at dksX4_tells_0 12 rfl rfl)
theorem dX4_tells_13 : decode cX4_tells 13 = .ok (.if_icmp .ge 49, 3) := dk_162 0 49 (dk_at dksX4_tells_0 13 rfl rfl)
theorem dX4_tells_16 : decode cX4_tells 16 = .ok (.aload_n 0, 1) := dk_42 (dk_at dksX4_tells_0 16 rfl rfl)
theorem dX4_tells_17 : decode cX4_tells 17 = .ok (.getfield 7, 3) := dk_180 0 7 (dk_at dksX4_tells_0 17 rfl rfl)
theorem dX4_tells_20 : decode cX4_tells 20 = .ok (.iload 7, 2) := dk_21 7 (dk_at dksX4_tells_0 20 rfl rfl)
theorem dX4_tells_22 : decode cX4_tells 22 = .ok (.aaload, 1) := dk_50 (dk_at dksX4_tells_0 22 rfl rfl)
theorem dX4_tells_23 : decode cX4_tells 23 = .ok (.getfield 13, 3) := dk_180 0 13 (dk_at dksX4_tells_1 0 rfl rfl)
theorem dX4_tells_26 : decode cX4_tells 26 = .ok (.iload_n 1, 1) := dk_27 (dk_at dksX4_tells_1 3 rfl rfl)
theorem dX4_tells_27 : decode cX4_tells 27 = .ok (.if_icmp .ne 29, 3) := dk_160 0 29 (dk_at dksX4_tells_1 4 rfl rfl)
theorem dX4_tells_30 : decode cX4_tells 30 = .ok (.aload_n 0, 1) := dk_42 (dk_at dksX4_tells_1 7 rfl rfl)
theorem dX4_tells_31 : decode cX4_tells 31 = .ok (.getfield 7, 3) := dk_180 0 7 (dk_at dksX4_tells_1 8 rfl rfl)
theorem dX4_tells_34 : decode cX4_tells 34 = .ok (.iload 7, 2) := dk_21 7 (dk_at dksX4_tells_1 11 rfl rfl)
theorem dX4_tells_36 : decode cX4_tells 36 = .ok (.aaload, 1) := dk_50 (dk_at dksX4_tells_1 13 rfl rfl)
theorem dX4_tells_37 : decode cX4_tells 37 = .ok (.aload_n 2, 1) := dk_44 (dk_at dksX4_tells_1 14 rfl rfl)
theorem dX4_tells_38 : decode cX4_tells 38 = .ok (.invokevirtual 19, 3) := dk_182 0 19 (dk_at dksX4_tells_1 15 rfl rfl)
theorem dX4_tells_41 : decode cX4_tells 41 = .ok (.ifCond .eq 15, 3) := dk_153 0 15 (dk_at dksX4_tells_1 18 rfl rfl)
theorem dX4_tells_44 : decode cX4_tells 44 = .ok (.aload_n 0, 1) := dk_42 (dk_at dksX4_tells_1 21 rfl rfl)
theorem dX4_tells_45 : decode cX4_tells 45 = .ok (.getfield 7, 3) := dk_180 0 7 (dk_at dksX4_tells_2 0 rfl rfl)
theorem dX4_tells_48 : decode cX4_tells 48 = .ok (.iload 7, 2) := dk_21 7 (dk_at dksX4_tells_2 3 rfl rfl)
theorem dX4_tells_50 : decode cX4_tells 50 = .ok (.aaload, 1) := dk_50 (dk_at dksX4_tells_2 5 rfl rfl)
theorem dX4_tells_51 : decode cX4_tells 51 = .ok (.getfield 23, 3) := dk_180 0 23 (dk_at dksX4_tells_2 6 rfl rfl)
theorem dX4_tells_54 : decode cX4_tells 54 = .ok (.lstore 5, 2) := dk_55 5 (dk_at dksX4_tells_2 9 rfl rfl)
theorem dX4_tells_56 : decode cX4_tells 56 = .ok (.iinc 7 1, 3) := dk_132 7 1 (dk_at dksX4_tells_2 11 rfl rfl)
theorem dX4_tells_59 : decode cX4_tells 59 = .ok (.goto (-53), 3) := dk_167 255 203 (dk_at dksX4_tells_2 14 rfl rfl)
theorem dX4_tells_62 : decode cX4_tells 62 = .ok (.lload 5, 2) := dk_22 5 (dk_at dksX4_tells_2 17 rfl rfl)
theorem dX4_tells_64 : decode cX4_tells 64 = .ok (.lreturn, 1) := dk_173 (dk_at dksX4_tells_2 19 rfl rfl)
noncomputable def f_X4_tells_56 (E : ax_E) (x0 : Option Nat) (x1 : Int) (x2 : Option Nat) (x5 : Int) (x7 : Int) (h : ax_H) : Option ((Int × Int × ax_H) ⊕ (Int × ax_H)) :=
  some (.inl (x5, (x7 + 1), h))
noncomputable def lb_X4_tells_6 (E : ax_E) (x0 : Option Nat) (x1 : Int) (x2 : Option Nat) (x5 : Int) (x7 : Int) (h : ax_H) : Option ((Int × Int × ax_H) ⊕ (Int × ax_H)) :=
  (ax_gR E h x0 4 0).bind fun v1 =>
  (ax_len E h v1 106).bind fun v2 =>
  if i2 x7 < i2 v2 then
    (ax_gR E h x0 4 0).bind fun v3 =>
    (ax_ldR E h v3 106 x7).bind fun v4 =>
    (ax_gI E h v4 15 0).bind fun v5 =>
    if i2 v5 = i2 x1 then
      (ax_gR E h x0 4 0).bind fun v6 =>
      (ax_ldR E h v6 106 x7).bind fun v7 =>
      (ax_ce E h v7 15).bind fun _ => (f_X15_holds E v7 x2 h).bind fun q8 =>
      if i2 q8.1 = 0 then
        f_X4_tells_56 E x0 x1 x2 x5 x7 q8.2
      else
        (ax_gR E q8.2 x0 4 0).bind fun v9 =>
        (ax_ldR E q8.2 v9 106 x7).bind fun v10 =>
        (ax_gI E q8.2 v10 15 3).bind fun v11 =>
        f_X4_tells_56 E x0 x1 x2 v11 x7 q8.2
    else
      f_X4_tells_56 E x0 x1 x2 x5 x7 h
  else
    (some (x5, h)).map Sum.inr
noncomputable def f_X4_tells_6 (E : ax_E) (x0 : Option Nat) (x1 : Int) (x2 : Option Nat) (x5 : Int) (x7 : Int) (h : ax_H) : Option (Int × ax_H) :=
  ax_iter (fun s : Int × Int × ax_H => lb_X4_tells_6 E x0 x1 x2 s.1 s.2.1 s.2.2) (x5, x7, h)
noncomputable def f_X4_tells (E : ax_E) (x0 : Option Nat) (x1 : Int) (x2 : Option Nat) (x3 : Int) (h : ax_H) : Option (Int × ax_H) :=
  f_X4_tells_6 E x0 x1 x2 x3 0 h
def pi_X4_tells_6 (G : ax_G) (X : ax_X) (Q : State → Prop) (x0 : Option Nat) (x1 : Int) (x2 : Option Nat) : Int × Int × ax_H → Prop := fun s => ∀ ls : Array Slot, ax_hl ls 8 [(0, .inr (.inr x0)), (1, .inl x1), (2, .inr (.inr x2)), (5, .inr (.inl s.1)), (7, .inl s.2.1)] → ax_W G X Q s.2.2 6 ls []
set_option maxHeartbeats 4000000 in
theorem w_X4_tells_56 {l : Launch} {G : ax_G} {X : ax_X} {Q : State → Prop} {h0 h : ax_H} {ls : Array Slot} (hSF : ax_SF G) (B : ax_BL l G X cX4_tells 8 RX4 137 3490) (Z : ax_Z X h0 ((some FieldType.long))) (hn : X.2.2.2.2.2.2.2.2.1.name = yX4_tells.name) (x0 : Option Nat) (x1 : Int) (x2 : Option Nat) (x5 : Int) (x7 : Int) {w : (Int × Int × ax_H) ⊕ (Int × ax_H)} (hl : ax_hl ls 8 [(0, .inr (.inr x0)), (1, .inl x1), (2, .inr (.inr x2)), (5, .inr (.inl x5)), (7, .inl x7)]) (e : f_X4_tells_56 G.2.2 x0 x1 x2 x5 x7 h = some w) (hp : (ax_PL (pi_X4_tells_6 G X Q x0 x1 x2) (fun w : Int × ax_H => Q = ax_Q G X h0 w.2 (some (.long (Int64.ofInt w.1))))) w) : ax_W G X Q h 56 ls [] := by
  unfold f_X4_tells_56 at e
  refine ax_iinc (L' := [(7, .inl (x7 + 1)), (0, .inr (.inr x0)), (1, .inl x1), (2, .inr (.inr x2)), (5, .inr (.inl x5))]) B dX4_tells_56 hl 4 rfl (by decide) rfl (fun ls hl => ?_)
  refine ax_goto (tgt := 6) B dX4_tells_59 (by decide) ?_
  cases e
  exact hp _ (hl.sub [1, 2, 3, 4, 0] rfl)
set_option maxHeartbeats 4000000 in
theorem wb_X4_tells_6 {l : Launch} {G : ax_G} {X : ax_X} {Q : State → Prop} {h0 h : ax_H} {ls : Array Slot} (hSF : ax_SF G) (B : ax_BL l G X cX4_tells 8 RX4 137 3490) (Z : ax_Z X h0 ((some FieldType.long))) (hn : X.2.2.2.2.2.2.2.2.1.name = yX4_tells.name) (x0 : Option Nat) (x1 : Int) (x2 : Option Nat) (x5 : Int) (x7 : Int) {w : (Int × Int × ax_H) ⊕ (Int × ax_H)} (hl : ax_hl ls 8 [(0, .inr (.inr x0)), (1, .inl x1), (2, .inr (.inr x2)), (5, .inr (.inl x5)), (7, .inl x7)]) (e : lb_X4_tells_6 G.2.2 x0 x1 x2 x5 x7 h = some w) (hp : (ax_PL (pi_X4_tells_6 G X Q x0 x1 x2) (fun w : Int × ax_H => Q = ax_Q G X h0 w.2 (some (.long (Int64.ofInt w.1))))) w) : ax_W G X Q h 6 ls [] := by
  unfold lb_X4_tells_6 at e
  refine ax_iload B dX4_tells_6 hl 4 rfl ?_
  refine ax_aload_n B dX4_tells_8 rfl hl 0 rfl ?_
  refine ax_getR B ff_X4_7_4 (fun _ _ => rfl) dX4_tells_9 e (fun v1 e => ?_)
  refine ax_alen B kd106 dX4_tells_12 e (fun v2 e => ?_)
  refine ax_icmp_ge (tgt := 62) B dX4_tells_13 (by decide) e (fun e => ?_) (fun e => ?_)
  · refine ax_aload_n B dX4_tells_16 rfl hl 0 rfl ?_
    refine ax_getR B ff_X4_7_4 (fun _ _ => rfl) dX4_tells_17 e (fun v3 e => ?_)
    refine ax_iload B dX4_tells_20 hl 4 rfl ?_
    refine ax_aald rfl B kd106 dX4_tells_22 e (fun v4 e => ?_)
    refine ax_getI B ff_X4_13_15 (fun _ _ => rfl) dX4_tells_23 e (fun v5 e => ?_)
    refine ax_iload_n B dX4_tells_26 rfl hl 1 rfl ?_
    refine ax_icmp_ne (tgt := 56) B dX4_tells_27 (by decide) e (fun e => ?_) (fun e => ?_)
    · refine ax_aload_n B dX4_tells_30 rfl hl 0 rfl ?_
      refine ax_getR B ff_X4_7_4 (fun _ _ => rfl) dX4_tells_31 e (fun v6 e => ?_)
      refine ax_iload B dX4_tells_34 hl 4 rfl ?_
      refine ax_aald rfl B kd106 dX4_tells_36 e (fun v7 e => ?_)
      refine ax_aload_n B dX4_tells_37 rfl hl 2 rfl ?_
      refine ax_ivI (y := yX15_holds) (n := 1) (As := [va_rf x2]) B kd15 (lw_V q542 q543 q544 q155 q545) (by decide +kernel) ⟨Nat.le_of_ble_eq_true rfl, Nat.le_of_ble_eq_true rfl⟩ (fun w1 e1 => mt_X15_holds l G hSF v7 x2 _ w1 e1) rfl hl.size (by decide) dX4_tells_38 e (fun q8 e => ?_)
      refine ax_if_eq (tgt := 56) B dX4_tells_41 (by decide) e (fun e => ?_) (fun e => ?_)
      · exact w_X4_tells_56 hSF B Z hn x0 x1 x2 x5 x7 (hl.sub [0, 1, 2, 3, 4] rfl) e hp
      · refine ax_aload_n B dX4_tells_44 rfl hl 0 rfl ?_
        refine ax_getR B ff_X4_7_4 (fun _ _ => rfl) dX4_tells_45 e (fun v9 e => ?_)
        refine ax_iload B dX4_tells_48 hl 4 rfl ?_
        refine ax_aald rfl B kd106 dX4_tells_50 e (fun v10 e => ?_)
        refine ax_getL B ff_X4_23_15 (fun _ _ => rfl) dX4_tells_51 e (fun v11 e => ?_)
        refine ax_lstore (L' := [(5, .inr (.inl v11)), (0, .inr (.inr x0)), (1, .inl x1), (2, .inr (.inr x2)), (7, .inl x7)]) B dX4_tells_54 hl (by decide) rfl (fun ls hl => ?_)
        exact w_X4_tells_56 hSF B Z hn x0 x1 x2 v11 x7 (hl.sub [1, 2, 3, 0, 4] rfl) e hp
    · exact w_X4_tells_56 hSF B Z hn x0 x1 x2 x5 x7 (hl.sub [0, 1, 2, 3, 4] rfl) e hp
  · obtain ⟨w, e9_1, rfl⟩ := Option.map_eq_some_iff.mp e
    have e := e9_1
    refine ax_lload B dX4_tells_62 hl 3 rfl ?_
    have e8 := e
    have hp : Q = _ := hp
    subst hp
    exact ax_lreturn B Z dX4_tells_64 e8
theorem w_X4_tells_6 {l : Launch} {G : ax_G} {X : ax_X} {Q : State → Prop} {h0 h : ax_H} {ls : Array Slot} (hSF : ax_SF G) (B : ax_BL l G X cX4_tells 8 RX4 137 3490) (Z : ax_Z X h0 ((some FieldType.long))) (hn : X.2.2.2.2.2.2.2.2.1.name = yX4_tells.name) (x0 : Option Nat) (x1 : Int) (x2 : Option Nat) (x5 : Int) (x7 : Int) {w : Int × ax_H} (hl : ax_hl ls 8 [(0, .inr (.inr x0)), (1, .inl x1), (2, .inr (.inr x2)), (5, .inr (.inl x5)), (7, .inl x7)]) (e : f_X4_tells_6 G.2.2 x0 x1 x2 x5 x7 h = some w) (hp : (fun w : Int × ax_H => Q = ax_Q G X h0 w.2 (some (.long (Int64.ofInt w.1)))) w) : ax_W G X Q h 6 ls [] :=
  ax_iter_W (Pin := pi_X4_tells_6 G X Q x0 x1 x2) (Pout := (fun w : Int × ax_H => Q = ax_Q G X h0 w.2 (some (.long (Int64.ofInt w.1))))) (fun s w e hp ls hl => wb_X4_tells_6 hSF B Z hn x0 x1 x2 s.1 s.2.1 hl e hp) _ _ e hp ls hl
set_option maxHeartbeats 4000000 in
theorem we_X4_tells {l : Launch} {G : ax_G} {X : ax_X} {Q : State → Prop} {h0 h : ax_H} {ls : Array Slot} (hSF : ax_SF G) (B : ax_BL l G X cX4_tells 8 RX4 137 3490) (Z : ax_Z X h0 ((some FieldType.long))) (hn : X.2.2.2.2.2.2.2.2.1.name = yX4_tells.name) (x0 : Option Nat) (x1 : Int) (x2 : Option Nat) (x3 : Int) {w : Int × ax_H} (hl : ax_hl ls 8 [(0, .inr (.inr x0)), (1, .inl x1), (2, .inr (.inr x2)), (3, .inr (.inl x3))]) (e : f_X4_tells G.2.2 x0 x1 x2 x3 h = some w) (hp : (fun w : Int × ax_H => Q = ax_Q G X h0 w.2 (some (.long (Int64.ofInt w.1)))) w) : ax_W G X Q h 0 ls [] := by
  unfold f_X4_tells at e
  refine ax_lload_n B dX4_tells_0 rfl hl 3 rfl ?_
  refine ax_lstore (L' := [(5, .inr (.inl x3)), (0, .inr (.inr x0)), (1, .inl x1), (2, .inr (.inr x2)), (3, .inr (.inl x3))]) B dX4_tells_1 hl (by decide) rfl (fun ls hl => ?_)
  refine ax_iconst B dX4_tells_3 ?_
  refine ax_istore (L' := [(7, .inl 0), (5, .inr (.inl x3)), (0, .inr (.inr x0)), (1, .inl x1), (2, .inr (.inr x2)), (3, .inr (.inl x3))]) B dX4_tells_4 hl (by decide) rfl (fun ls hl => ?_)
  exact w_X4_tells_6 hSF B Z hn x0 x1 x2 x3 0 (hl.sub [2, 3, 4, 1, 0] rfl) e hp
theorem mt_X4_tells (l : Launch) (G : ax_G) (hSF : ax_SF G) (x0 : Option Nat) (x1 : Int) (x2 : Option Nat) (x3 : Int) (h : ax_H) (w : Int × ax_H) (e : f_X4_tells G.2.2 x0 x1 x2 x3 h = some w) : ax_Met l G yX4_tells cX4_tells 8 ((some FieldType.long)) 137 3490 [va_rf x0, .int (Int32.ofInt x1), va_rf x2, .long (Int64.ofInt x3)] h w.2 (some (.long (Int64.ofInt w.1))) :=
  ax_enter [.inr (.inr x0), .inl x1, .inr (.inr x2), .inr (.inl x3)] (y := yX4_tells) hSF (plainFor_of_name (by decide +kernel)) (Nat.le_of_ble_eq_true rfl) (fun X ls B Z hn hl => we_X4_tells hSF B Z hn x0 x1 x2 x3 hl e rfl)
def dkwJ3_min_2_0 : List UInt8 := [30, 32, 148, 157, 0, 7, 30, 167, 0, 4, 32, 173]
abbrev dktJ3_min_2_0 : List UInt8 := dkwJ3_min_2_0 ++ []
theorem dksJ3_min_2_0 : cJ3_min_2.data.toList.drop 0 = dktJ3_min_2_0 := by decide +kernel
theorem dJ3_min_2_0 : decode cJ3_min_2 0 = .ok (.lload_n 0, 1) := dk_30 (dk_at dksJ3_min_2_0 0 rfl rfl)
theorem dJ3_min_2_1 : decode cJ3_min_2 1 = .ok (.lload_n 2, 1) := dk_32 (dk_at dksJ3_min_2_0 1 rfl rfl)
theorem dJ3_min_2_2 : decode cJ3_min_2 2 = .ok (.lcmp, 1) := dk_148 (dk_at dksJ3_min_2_0 2 rfl rfl)
theorem dJ3_min_2_3 : decode cJ3_min_2 3 = .ok (.ifCond .gt 7, 3) := dk_157 0 7 (dk_at dksJ3_min_2_0 3 rfl rfl)
theorem dJ3_min_2_6 : decode cJ3_min_2 6 = .ok (.lload_n 0, 1) := dk_30 (dk_at dksJ3_min_2_0 6 rfl rfl)
theorem dJ3_min_2_7 : decode cJ3_min_2 7 = .ok (.goto 4, 3) := dk_167 0 4 (dk_at dksJ3_min_2_0 7 rfl rfl)
theorem dJ3_min_2_10 : decode cJ3_min_2 10 = .ok (.lload_n 2, 1) := dk_32 (dk_at dksJ3_min_2_0 10 rfl rfl)
theorem dJ3_min_2_11 : decode cJ3_min_2 11 = .ok (.lreturn, 1) := dk_173 (dk_at dksJ3_min_2_0 11 rfl rfl)
noncomputable def f_J3_min_2 (E : ax_E) (x0 : Int) (x2 : Int) (h : ax_H) : Option (Int × ax_H) :=
  if 0 < i2 (ax_cmp x0 x2) then
    some (x2, h)
  else
    some (x0, h)
set_option maxHeartbeats 4000000 in
theorem we_J3_min_2 {l : Launch} {G : ax_G} {X : ax_X} {Q : State → Prop} {h0 h : ax_H} {ls : Array Slot} (hSF : ax_SF G) (B : ax_BL l G X cJ3_min_2 4 RJ3 1 40) (Z : ax_Z X h0 ((some FieldType.long))) (hn : X.2.2.2.2.2.2.2.2.1.name = yJ3_min_2.name) (x0 : Int) (x2 : Int) {w : Int × ax_H} (hl : ax_hl ls 4 [(0, .inr (.inl x0)), (2, .inr (.inl x2))]) (e : f_J3_min_2 G.2.2 x0 x2 h = some w) (hp : (fun w : Int × ax_H => Q = ax_Q G X h0 w.2 (some (.long (Int64.ofInt w.1)))) w) : ax_W G X Q h 0 ls [] := by
  unfold f_J3_min_2 at e
  refine ax_lload_n B dJ3_min_2_0 rfl hl 0 rfl ?_
  refine ax_lload_n B dJ3_min_2_1 rfl hl 1 rfl ?_
  refine ax_lcmp' B dJ3_min_2_2 ?_
  refine ax_if_gt (tgt := 10) B dJ3_min_2_3 (by decide) e (fun e => ?_) (fun e => ?_)
  · refine ax_lload_n B dJ3_min_2_10 rfl hl 1 rfl ?_
    have e8 := e
    have hp : Q = _ := hp
    subst hp
    exact ax_lreturn B Z dJ3_min_2_11 e8
  · refine ax_lload_n B dJ3_min_2_6 rfl hl 0 rfl ?_
    refine ax_goto (tgt := 11) B dJ3_min_2_7 (by decide) ?_
    have e8 := e
    have hp : Q = _ := hp
    subst hp
    exact ax_lreturn B Z dJ3_min_2_11 e8
theorem mt_J3_min_2 (l : Launch) (G : ax_G) (hSF : ax_SF G) (x0 : Int) (x2 : Int) (h : ax_H) (w : Int × ax_H) (e : f_J3_min_2 G.2.2 x0 x2 h = some w) : ax_Met l G yJ3_min_2 cJ3_min_2 4 ((some FieldType.long)) 1 40 [.long (Int64.ofInt x0), .long (Int64.ofInt x2)] h w.2 (some (.long (Int64.ofInt w.1))) :=
  ax_enter [.inr (.inl x0), .inr (.inl x2)] (y := yJ3_min_2) hSF (by decide +kernel) (Nat.le_of_ble_eq_true rfl) (fun X ls B Z hn hl => we_J3_min_2 hSF B Z hn x0 x2 hl e rfl)
def dkwJ3_max_0 : List UInt8 := [30, 32, 148, 155, 0, 7, 30, 167, 0, 4, 32, 173]
abbrev dktJ3_max_0 : List UInt8 := dkwJ3_max_0 ++ []
theorem dksJ3_max_0 : cJ3_max.data.toList.drop 0 = dktJ3_max_0 := by decide +kernel
theorem dJ3_max_0 : decode cJ3_max 0 = .ok (.lload_n 0, 1) := dk_30 (dk_at dksJ3_max_0 0 rfl rfl)
theorem dJ3_max_1 : decode cJ3_max 1 = .ok (.lload_n 2, 1) := dk_32 (dk_at dksJ3_max_0 1 rfl rfl)
theorem dJ3_max_2 : decode cJ3_max 2 = .ok (.lcmp, 1) := dk_148 (dk_at dksJ3_max_0 2 rfl rfl)
theorem dJ3_max_3 : decode cJ3_max 3 = .ok (.ifCond .lt 7, 3) := dk_155 0 7 (dk_at dksJ3_max_0 3 rfl rfl)
theorem dJ3_max_6 : decode cJ3_max 6 = .ok (.lload_n 0, 1) := dk_30 (dk_at dksJ3_max_0 6 rfl rfl)
theorem dJ3_max_7 : decode cJ3_max 7 = .ok (.goto 4, 3) := dk_167 0 4 (dk_at dksJ3_max_0 7 rfl rfl)
theorem dJ3_max_10 : decode cJ3_max 10 = .ok (.lload_n 2, 1) := dk_32 (dk_at dksJ3_max_0 10 rfl rfl)
theorem dJ3_max_11 : decode cJ3_max 11 = .ok (.lreturn, 1) := dk_173 (dk_at dksJ3_max_0 11 rfl rfl)
noncomputable def f_J3_max (E : ax_E) (x0 : Int) (x2 : Int) (h : ax_H) : Option (Int × ax_H) :=
  if i2 (ax_cmp x0 x2) < 0 then
    some (x2, h)
  else
    some (x0, h)
set_option maxHeartbeats 4000000 in
theorem we_J3_max {l : Launch} {G : ax_G} {X : ax_X} {Q : State → Prop} {h0 h : ax_H} {ls : Array Slot} (hSF : ax_SF G) (B : ax_BL l G X cJ3_max 4 RJ3 1 40) (Z : ax_Z X h0 ((some FieldType.long))) (hn : X.2.2.2.2.2.2.2.2.1.name = yJ3_max.name) (x0 : Int) (x2 : Int) {w : Int × ax_H} (hl : ax_hl ls 4 [(0, .inr (.inl x0)), (2, .inr (.inl x2))]) (e : f_J3_max G.2.2 x0 x2 h = some w) (hp : (fun w : Int × ax_H => Q = ax_Q G X h0 w.2 (some (.long (Int64.ofInt w.1)))) w) : ax_W G X Q h 0 ls [] := by
  unfold f_J3_max at e
  refine ax_lload_n B dJ3_max_0 rfl hl 0 rfl ?_
  refine ax_lload_n B dJ3_max_1 rfl hl 1 rfl ?_
  refine ax_lcmp' B dJ3_max_2 ?_
  refine ax_if_lt (tgt := 10) B dJ3_max_3 (by decide) e (fun e => ?_) (fun e => ?_)
  · refine ax_lload_n B dJ3_max_10 rfl hl 1 rfl ?_
    have e8 := e
    have hp : Q = _ := hp
    subst hp
    exact ax_lreturn B Z dJ3_max_11 e8
  · refine ax_lload_n B dJ3_max_6 rfl hl 0 rfl ?_
    refine ax_goto (tgt := 11) B dJ3_max_7 (by decide) ?_
    have e8 := e
    have hp : Q = _ := hp
    subst hp
    exact ax_lreturn B Z dJ3_max_11 e8
theorem mt_J3_max (l : Launch) (G : ax_G) (hSF : ax_SF G) (x0 : Int) (x2 : Int) (h : ax_H) (w : Int × ax_H) (e : f_J3_max G.2.2 x0 x2 h = some w) : ax_Met l G yJ3_max cJ3_max 4 ((some FieldType.long)) 1 40 [.long (Int64.ofInt x0), .long (Int64.ofInt x2)] h w.2 (some (.long (Int64.ofInt w.1))) :=
  ax_enter [.inr (.inl x0), .inr (.inl x2)] (y := yJ3_max) hSF (by decide +kernel) (Nat.le_of_ble_eq_true rfl) (fun X ls B Z hn hl => we_J3_max hSF B Z hn x0 x2 hl e rfl)
def dkwX0_tells_4 : List UInt8 := [180, 0, 38, 22, 4, 182, 1, 7, 184, 1, 11, 184, 1, 14, 136, 172]
abbrev dktX0_tells_4 : List UInt8 := dkwX0_tells_4 ++ []
def dkwX0_tells_3 : List UInt8 := [180, 0, 194, 44, 180, 0, 174, 29, 46, 100, 133, 80, 9, 21, 6, 133, 42, 182, 1, 0, 27, 42]
abbrev dktX0_tells_3 : List UInt8 := dkwX0_tells_3 ++ dktX0_tells_4
def dkwX0_tells_2 : List UInt8 := [180, 0, 246, 16, 6, 44, 180, 0, 171, 29, 46, 133, 80, 42, 180, 0, 38, 180, 0, 246, 16, 7, 44]
abbrev dktX0_tells_2 : List UInt8 := dkwX0_tells_2 ++ dktX0_tells_3
def dkwX0_tells_1 : List UInt8 := [21, 8, 182, 0, 187, 44, 21, 8, 21, 7, 182, 0, 187, 44, 180, 0, 194, 182, 0, 252, 42, 180, 0, 38]
abbrev dktX0_tells_1 : List UInt8 := dkwX0_tells_1 ++ dktX0_tells_2
def dkwX0_tells_0 : List UInt8 := [44, 180, 0, 165, 29, 46, 54, 7, 44, 180, 0, 168, 29, 46, 54, 8, 42, 21, 7, 21, 8, 44, 21, 7]
abbrev dktX0_tells_0 : List UInt8 := dkwX0_tells_0 ++ dktX0_tells_1
theorem dksX0_tells_0 : cX0_tells.data.toList.drop 0 = dktX0_tells_0 := by decide +kernel
theorem dksX0_tells_1 : cX0_tells.data.toList.drop 24 = dktX0_tells_1 := dk_seg dksX0_tells_0 24 rfl rfl
theorem dksX0_tells_2 : cX0_tells.data.toList.drop 48 = dktX0_tells_2 := dk_seg dksX0_tells_1 24 rfl rfl
theorem dksX0_tells_3 : cX0_tells.data.toList.drop 71 = dktX0_tells_3 := dk_seg dksX0_tells_2 23 rfl rfl
theorem dksX0_tells_4 : cX0_tells.data.toList.drop 93 = dktX0_tells_4 := dk_seg dksX0_tells_3 22 rfl rfl
theorem dX0_tells_0 : decode cX0_tells 0 = .ok (.aload_n 2, 1) := dk_44 (dk_at dksX0_tells_0 0 rfl rfl)
theorem dX0_tells_1 : decode cX0_tells 1 = .ok (.getfield 165, 3) := dk_180 0 165 (dk_at dksX0_tells_0 1 rfl rfl)
theorem dX0_tells_4 : decode cX0_tells 4 = .ok (.iload_n 3, 1) := dk_29 (dk_at dksX0_tells_0 4 rfl rfl)
theorem dX0_tells_5 : decode cX0_tells 5 = .ok (.iaload, 1) := dk_46 (dk_at dksX0_tells_0 5 rfl rfl)
theorem dX0_tells_6 : decode cX0_tells 6 = .ok (.istore 7, 2) := dk_54 7 (dk_at dksX0_tells_0 6 rfl rfl)
theorem dX0_tells_8 : decode cX0_tells 8 = .ok (.aload_n 2, 1) := dk_44 (dk_at dksX0_tells_0 8 rfl rfl)
theorem dX0_tells_9 : decode cX0_tells 9 = .ok (.getfield 168, 3) := dk_180 0 168 (dk_at dksX0_tells_0 9 rfl rfl)
theorem dX0_tells_12 : decode cX0_tells 12 = .ok (.iload_n 3, 1) := dk_29 (dk_at dksX0_tells_0 12 rfl rfl)
theorem dX0_tells_13 : decode cX0_tells 13 = .ok (.iaload, 1) := dk_46 (dk_at dksX0_tells_0 13 rfl rfl)
theorem dX0_tells_14 : decode cX0_tells 14 = .ok (.istore 8, 2) := dk_54 8 (dk_at dksX0_tells_0 14 rfl rfl)
theorem dX0_tells_16 : decode cX0_tells 16 = .ok (.aload_n 0, 1) := dk_42 (dk_at dksX0_tells_0 16 rfl rfl)
theorem dX0_tells_17 : decode cX0_tells 17 = .ok (.iload 7, 2) := dk_21 7 (dk_at dksX0_tells_0 17 rfl rfl)
theorem dX0_tells_19 : decode cX0_tells 19 = .ok (.iload 8, 2) := dk_21 8 (dk_at dksX0_tells_0 19 rfl rfl)
theorem dX0_tells_21 : decode cX0_tells 21 = .ok (.aload_n 2, 1) := dk_44 (dk_at dksX0_tells_0 21 rfl rfl)
theorem dX0_tells_22 : decode cX0_tells 22 = .ok (.iload 7, 2) := dk_21 7 (dk_at dksX0_tells_0 22 rfl rfl)
theorem dX0_tells_24 : decode cX0_tells 24 = .ok (.iload 8, 2) := dk_21 8 (dk_at dksX0_tells_1 0 rfl rfl)
theorem dX0_tells_26 : decode cX0_tells 26 = .ok (.invokevirtual 187, 3) := dk_182 0 187 (dk_at dksX0_tells_1 2 rfl rfl)
theorem dX0_tells_29 : decode cX0_tells 29 = .ok (.aload_n 2, 1) := dk_44 (dk_at dksX0_tells_1 5 rfl rfl)
theorem dX0_tells_30 : decode cX0_tells 30 = .ok (.iload 8, 2) := dk_21 8 (dk_at dksX0_tells_1 6 rfl rfl)
theorem dX0_tells_32 : decode cX0_tells 32 = .ok (.iload 7, 2) := dk_21 7 (dk_at dksX0_tells_1 8 rfl rfl)
theorem dX0_tells_34 : decode cX0_tells 34 = .ok (.invokevirtual 187, 3) := dk_182 0 187 (dk_at dksX0_tells_1 10 rfl rfl)
theorem dX0_tells_37 : decode cX0_tells 37 = .ok (.aload_n 2, 1) := dk_44 (dk_at dksX0_tells_1 13 rfl rfl)
theorem dX0_tells_38 : decode cX0_tells 38 = .ok (.getfield 194, 3) := dk_180 0 194 (dk_at dksX0_tells_1 14 rfl rfl)
theorem dX0_tells_41 : decode cX0_tells 41 = .ok (.invokevirtual 252, 3) := dk_182 0 252 (dk_at dksX0_tells_1 17 rfl rfl)
theorem dX0_tells_44 : decode cX0_tells 44 = .ok (.aload_n 0, 1) := dk_42 (dk_at dksX0_tells_1 20 rfl rfl)
theorem dX0_tells_45 : decode cX0_tells 45 = .ok (.getfield 38, 3) := dk_180 0 38 (dk_at dksX0_tells_1 21 rfl rfl)
theorem dX0_tells_48 : decode cX0_tells 48 = .ok (.getfield 246, 3) := dk_180 0 246 (dk_at dksX0_tells_2 0 rfl rfl)
theorem dX0_tells_51 : decode cX0_tells 51 = .ok (.bipush 6, 2) := dk_16 6 (dk_at dksX0_tells_2 3 rfl rfl)
theorem dX0_tells_53 : decode cX0_tells 53 = .ok (.aload_n 2, 1) := dk_44 (dk_at dksX0_tells_2 5 rfl rfl)
theorem dX0_tells_54 : decode cX0_tells 54 = .ok (.getfield 171, 3) := dk_180 0 171 (dk_at dksX0_tells_2 6 rfl rfl)
theorem dX0_tells_57 : decode cX0_tells 57 = .ok (.iload_n 3, 1) := dk_29 (dk_at dksX0_tells_2 9 rfl rfl)
theorem dX0_tells_58 : decode cX0_tells 58 = .ok (.iaload, 1) := dk_46 (dk_at dksX0_tells_2 10 rfl rfl)
theorem dX0_tells_59 : decode cX0_tells 59 = .ok (.i2l, 1) := dk_133 (dk_at dksX0_tells_2 11 rfl rfl)
theorem dX0_tells_60 : decode cX0_tells 60 = .ok (.lastore, 1) := dk_80 (dk_at dksX0_tells_2 12 rfl rfl)
theorem dX0_tells_61 : decode cX0_tells 61 = .ok (.aload_n 0, 1) := dk_42 (dk_at dksX0_tells_2 13 rfl rfl)
theorem dX0_tells_62 : decode cX0_tells 62 = .ok (.getfield 38, 3) := dk_180 0 38 (dk_at dksX0_tells_2 14 rfl rfl)
theorem dX0_tells_65 : decode cX0_tells 65 = .ok (.getfield 246, 3) := dk_180 0 246 (dk_at dksX0_tells_2 17 rfl rfl)
theorem dX0_tells_68 : decode cX0_tells 68 = .ok (.bipush 7, 2) := dk_16 7 (dk_at dksX0_tells_2 20 rfl rfl)
theorem dX0_tells_70 : decode cX0_tells 70 = .ok (.aload_n 2, 1) := dk_44 (dk_at dksX0_tells_2 22 rfl rfl)
theorem dX0_tells_71 : decode cX0_tells 71 = .ok (.getfield 194, 3) := dk_180 0 194 (dk_at dksX0_tells_3 0 rfl rfl)
theorem dX0_tells_74 : decode cX0_tells 74 = .ok (.aload_n 2, 1) := dk_44 (dk_at dksX0_tells_3 3 rfl rfl)
theorem dX0_tells_75 : decode cX0_tells 75 = .ok (.getfield 174, 3) := dk_180 0 174 (dk_at dksX0_tells_3 4 rfl rfl)
theorem dX0_tells_78 : decode cX0_tells 78 = .ok (.iload_n 3, 1) := dk_29 (dk_at dksX0_tells_3 7 rfl rfl)
theorem dX0_tells_79 : decode cX0_tells 79 = .ok (.iaload, 1) := dk_46 (dk_at dksX0_tells_3 8 rfl rfl)
theorem dX0_tells_80 : decode cX0_tells 80 = .ok (.isub, 1) := dk_100 (dk_at dksX0_tells_3 9 rfl rfl)
theorem dX0_tells_81 : decode cX0_tells 81 = .ok (.i2l, 1) := dk_133 (dk_at dksX0_tells_3 10 rfl rfl)
theorem dX0_tells_82 : decode cX0_tells 82 = .ok (.lastore, 1) := dk_80 (dk_at dksX0_tells_3 11 rfl rfl)
theorem dX0_tells_83 : decode cX0_tells 83 = .ok (.lconst 0, 1) := dk_9 (dk_at dksX0_tells_3 12 rfl rfl)
theorem dX0_tells_84 : decode cX0_tells 84 = .ok (.iload 6, 2) := dk_21 6 (dk_at dksX0_tells_3 13 rfl rfl)
theorem dX0_tells_86 : decode cX0_tells 86 = .ok (.i2l, 1) := dk_133 (dk_at dksX0_tells_3 15 rfl rfl)
theorem dX0_tells_87 : decode cX0_tells 87 = .ok (.aload_n 0, 1) := dk_42 (dk_at dksX0_tells_3 16 rfl rfl)
theorem dX0_tells_88 : decode cX0_tells 88 = .ok (.invokevirtual 256, 3) := dk_182 1 0 (dk_at dksX0_tells_3 17 rfl rfl)
theorem dX0_tells_91 : decode cX0_tells 91 = .ok (.iload_n 1, 1) := dk_27 (dk_at dksX0_tells_3 20 rfl rfl)
theorem dX0_tells_92 : decode cX0_tells 92 = .ok (.aload_n 0, 1) := dk_42 (dk_at dksX0_tells_3 21 rfl rfl)
theorem dX0_tells_93 : decode cX0_tells 93 = .ok (.getfield 38, 3) := dk_180 0 38 (dk_at dksX0_tells_4 0 rfl rfl)
theorem dX0_tells_96 : decode cX0_tells 96 = .ok (.lload 4, 2) := dk_22 4 (dk_at dksX0_tells_4 3 rfl rfl)
theorem dX0_tells_98 : decode cX0_tells 98 = .ok (.invokevirtual 263, 3) := dk_182 1 7 (dk_at dksX0_tells_4 5 rfl rfl)
theorem dX0_tells_101 : decode cX0_tells 101 = .ok (.invokestatic 267, 3) := dk_184 1 11 (dk_at dksX0_tells_4 8 rfl rfl)
theorem dX0_tells_104 : decode cX0_tells 104 = .ok (.invokestatic 270, 3) := dk_184 1 14 (dk_at dksX0_tells_4 11 rfl rfl)
theorem dX0_tells_107 : decode cX0_tells 107 = .ok (.l2i, 1) := dk_136 (dk_at dksX0_tells_4 14 rfl rfl)
theorem dX0_tells_108 : decode cX0_tells 108 = .ok (.ireturn, 1) := dk_172 (dk_at dksX0_tells_4 15 rfl rfl)
noncomputable def f_X0_tells (E : ax_E) (x0 : Option Nat) (x1 : Int) (x2 : Option Nat) (x3 : Int) (x4 : Int) (x6 : Int) (h : ax_H) : Option (Int × ax_H) :=
  (ax_gR E h x2 2 1).bind fun v1 =>
  (ax_ld E h v1 100 x3).bind fun v2 =>
  (ax_gR E h x2 2 2).bind fun v3 =>
  (ax_ld E h v3 100 x3).bind fun v4 =>
  (ax_ce E h x2 2).bind fun _ => (f_X2_owes E x2 v2 v4 h).bind fun q5 =>
  (ax_ce E q5.2 x2 2).bind fun _ => (f_X2_owes E x2 v4 v2 q5.2).bind fun q6 =>
  (ax_gI E q6.2 x2 2 6).bind fun v7 =>
  (ax_ce E q6.2 x0 0).bind fun _ => (f_X0_ask E x0 v2 v4 q5.1 q6.1 v7 q6.2).bind fun h8 =>
  (ax_gR E h8 x0 0 3).bind fun v9 =>
  (ax_gR E h8 v9 3 0).bind fun v10 =>
  (ax_gR E h8 x2 2 3).bind fun v11 =>
  (ax_ld E h8 v11 100 x3).bind fun v12 =>
  (ax_sto h8 v10 103 6 (i2 v12)).bind fun h13 =>
  (ax_gR E h13 x0 0 3).bind fun v14 =>
  (ax_gR E h13 v14 3 0).bind fun v15 =>
  (ax_gI E h13 x2 2 6).bind fun v16 =>
  (ax_gR E h13 x2 2 4).bind fun v17 =>
  (ax_ld E h13 v17 100 x3).bind fun v18 =>
  (ax_sto h13 v15 103 7 (i2 (v16 - v18))).bind fun h19 =>
  (ax_ce E h19 x0 0).bind fun _ => (f_X0_law1 E x0 h19).bind fun q20 =>
  (ax_gR E q20.2 x0 0 3).bind fun v21 =>
  (ax_ce E q20.2 q20.1 4).bind fun _ => (f_X4_tells E q20.1 x1 v21 x4 q20.2).bind fun q22 =>
  (f_J3_min_2 E (i2 x6) q22.1 q22.2).bind fun q23 =>
  (f_J3_max E 0 q23.1 q23.2).bind fun q24 =>
  some (q24.1, q24.2)
set_option maxHeartbeats 4000000 in
theorem we_X0_tells {l : Launch} {G : ax_G} {X : ax_X} {Q : State → Prop} {h0 h : ax_H} {ls : Array Slot} (hSF : ax_SF G) (B : ax_BL l G X cX0_tells 9 RX0 138 3517) (Z : ax_Z X h0 ((some FieldType.int))) (hn : X.2.2.2.2.2.2.2.2.1.name = yX0_tells.name) (x0 : Option Nat) (x1 : Int) (x2 : Option Nat) (x3 : Int) (x4 : Int) (x6 : Int) {w : Int × ax_H} (hl : ax_hl ls 9 [(0, .inr (.inr x0)), (1, .inl x1), (2, .inr (.inr x2)), (3, .inl x3), (4, .inr (.inl x4)), (6, .inl x6)]) (e : f_X0_tells G.2.2 x0 x1 x2 x3 x4 x6 h = some w) (hp : (fun w : Int × ax_H => Q = ax_Q G X h0 w.2 (some (.int (Int32.ofInt w.1)))) w) : ax_W G X Q h 0 ls [] := by
  unfold f_X0_tells at e
  refine ax_aload_n B dX0_tells_0 rfl hl 2 rfl ?_
  refine ax_getR B ff_X0_165_2 (fun _ _ => rfl) dX0_tells_1 e (fun v1 e => ?_)
  refine ax_iload_n B dX0_tells_4 rfl hl 3 rfl ?_
  refine ax_iald B kd100 dX0_tells_5 e (fun v2 e => ?_)
  refine ax_istore (L' := [(7, .inl v2), (0, .inr (.inr x0)), (1, .inl x1), (2, .inr (.inr x2)), (3, .inl x3), (4, .inr (.inl x4)), (6, .inl x6)]) B dX0_tells_6 hl (by decide) rfl (fun ls hl => ?_)
  refine ax_aload_n B dX0_tells_8 rfl hl 3 rfl ?_
  refine ax_getR B ff_X0_168_2 (fun _ _ => rfl) dX0_tells_9 e (fun v3 e => ?_)
  refine ax_iload_n B dX0_tells_12 rfl hl 4 rfl ?_
  refine ax_iald B kd100 dX0_tells_13 e (fun v4 e => ?_)
  refine ax_istore (L' := [(8, .inl v4), (7, .inl v2), (0, .inr (.inr x0)), (1, .inl x1), (2, .inr (.inr x2)), (3, .inl x3), (4, .inr (.inl x4)), (6, .inl x6)]) B dX0_tells_14 hl (by decide) rfl (fun ls hl => ?_)
  refine ax_aload_n B dX0_tells_16 rfl hl 2 rfl ?_
  refine ax_iload B dX0_tells_17 hl 1 rfl ?_
  refine ax_iload B dX0_tells_19 hl 0 rfl ?_
  refine ax_aload_n B dX0_tells_21 rfl hl 4 rfl ?_
  refine ax_iload B dX0_tells_22 hl 1 rfl ?_
  refine ax_iload B dX0_tells_24 hl 0 rfl ?_
  refine ax_ivI (y := yX2_owes) (n := 2) (As := [.int (Int32.ofInt v2), .int (Int32.ofInt v4)]) B kd2 (lw_V q507 q508 q509 q130 q510) (by decide +kernel) ⟨Nat.le_of_ble_eq_true rfl, Nat.le_of_ble_eq_true rfl⟩ (fun w1 e1 => mt_X2_owes l G hSF x2 v2 v4 _ w1 e1) rfl hl.size (by simp only [List.map_cons, List.map_nil, List.sum_cons, List.sum_nil, va_rf_cat, ax_catI, ax_catL]; decide) dX0_tells_26 e (fun q5 e => ?_)
  refine ax_aload_n B dX0_tells_29 rfl hl 4 rfl ?_
  refine ax_iload B dX0_tells_30 hl 0 rfl ?_
  refine ax_iload B dX0_tells_32 hl 1 rfl ?_
  refine ax_ivI (y := yX2_owes) (n := 2) (As := [.int (Int32.ofInt v4), .int (Int32.ofInt v2)]) B kd2 (lw_V q507 q508 q509 q130 q510) (by decide +kernel) ⟨Nat.le_of_ble_eq_true rfl, Nat.le_of_ble_eq_true rfl⟩ (fun w1 e1 => mt_X2_owes l G hSF x2 v4 v2 _ w1 e1) rfl hl.size (by simp only [List.map_cons, List.map_nil, List.sum_cons, List.sum_nil, va_rf_cat, ax_catI, ax_catL]; decide) dX0_tells_34 e (fun q6 e => ?_)
  refine ax_aload_n B dX0_tells_37 rfl hl 4 rfl ?_
  refine ax_getI B ff_X0_194_2 (fun _ _ => rfl) dX0_tells_38 e (fun v7 e => ?_)
  refine ax_ivV (y := yX0_ask) (n := 5) (As := [.int (Int32.ofInt v2), .int (Int32.ofInt v4), .int (Int32.ofInt q5.1), .int (Int32.ofInt q6.1), .int (Int32.ofInt v7)]) B kd0 (lw_V q515 q517 qs11 q125 q518) (by decide +kernel) ⟨Nat.le_of_ble_eq_true rfl, Nat.le_of_ble_eq_true rfl⟩ (fun w1 e1 => mt_X0_ask l G hSF x0 v2 v4 q5.1 q6.1 v7 _ w1 e1) rfl hl.size (by decide) dX0_tells_41 e (fun h8 e => ?_)
  refine ax_aload_n B dX0_tells_44 rfl hl 2 rfl ?_
  refine ax_getR B ff_X0_38_0 (fun _ _ => rfl) dX0_tells_45 e (fun v9 e => ?_)
  refine ax_getR B ff_X0_246_3 (fun _ _ => rfl) dX0_tells_48 e (fun v10 e => ?_)
  refine ax_bipush B dX0_tells_51 (by decide) ?_
  refine ax_aload_n B dX0_tells_53 rfl hl 4 rfl ?_
  refine ax_getR B ff_X0_171_2 (fun _ _ => rfl) dX0_tells_54 e (fun v11 e => ?_)
  refine ax_iload_n B dX0_tells_57 rfl hl 5 rfl ?_
  refine ax_iald B kd100 dX0_tells_58 e (fun v12 e => ?_)
  refine ax_i2l' B dX0_tells_59 ?_
  refine ax_last B kd103 dX0_tells_60 e (fun h13 e => ?_)
  refine ax_aload_n B dX0_tells_61 rfl hl 2 rfl ?_
  refine ax_getR B ff_X0_38_0 (fun _ _ => rfl) dX0_tells_62 e (fun v14 e => ?_)
  refine ax_getR B ff_X0_246_3 (fun _ _ => rfl) dX0_tells_65 e (fun v15 e => ?_)
  refine ax_bipush B dX0_tells_68 (by decide) ?_
  refine ax_aload_n B dX0_tells_70 rfl hl 4 rfl ?_
  refine ax_getI B ff_X0_194_2 (fun _ _ => rfl) dX0_tells_71 e (fun v16 e => ?_)
  refine ax_aload_n B dX0_tells_74 rfl hl 4 rfl ?_
  refine ax_getR B ff_X0_174_2 (fun _ _ => rfl) dX0_tells_75 e (fun v17 e => ?_)
  refine ax_iload_n B dX0_tells_78 rfl hl 5 rfl ?_
  refine ax_iald B kd100 dX0_tells_79 e (fun v18 e => ?_)
  refine ax_isub' B dX0_tells_80 ?_
  refine ax_i2l' B dX0_tells_81 ?_
  refine ax_last B kd103 dX0_tells_82 e (fun h19 e => ?_)
  refine ax_lconst (v := 0) B dX0_tells_83 rfl ?_
  refine ax_iload B dX0_tells_84 hl 7 rfl ?_
  refine ax_i2l' B dX0_tells_86 ?_
  refine ax_aload_n B dX0_tells_87 rfl hl 2 rfl ?_
  refine ax_ivR (y := yX0_law1) (n := 0) (As := []) B kd0 (lw_V q520 q522 qs12 q125 q523) (by decide +kernel) ⟨Nat.le_of_ble_eq_true rfl, Nat.le_of_ble_eq_true rfl⟩ (fun w1 e1 => mt_X0_law1 l G hSF x0 _ w1 e1) rfl hl.size (by simp only [List.map_cons, List.map_nil, List.sum_cons, List.sum_nil, va_rf_cat, ax_catI, ax_catL]; decide) dX0_tells_88 e (fun q20 e => ?_)
  refine ax_iload_n B dX0_tells_91 rfl hl 3 rfl ?_
  refine ax_aload_n B dX0_tells_92 rfl hl 2 rfl ?_
  refine ax_getR B ff_X0_38_0 (fun _ _ => rfl) dX0_tells_93 e (fun v21 e => ?_)
  refine ax_lload B dX0_tells_96 hl 6 rfl ?_
  refine ax_ivL (y := yX4_tells) (n := 3) (As := [.int (Int32.ofInt x1), va_rf v21, .long (Int64.ofInt x4)]) B kd4 (lw_V q538 q539 q540 q132 q541) (by decide +kernel) ⟨Nat.le_of_ble_eq_true rfl, Nat.le_of_ble_eq_true rfl⟩ (fun w1 e1 => mt_X4_tells l G hSF q20.1 x1 v21 x4 _ w1 e1) rfl hl.size (by simp only [List.map_cons, List.map_nil, List.sum_cons, List.sum_nil, va_rf_cat, ax_catI, ax_catL]; decide) dX0_tells_98 e (fun q22 e => ?_)
  refine ax_isL (y := yJ3_min_2) (n := 2) (As := [.long (Int64.ofInt (i2 x6)), .long (Int64.ofInt q22.1)]) B (lw_S q595 q596 q134 q597) (by decide +kernel) ⟨Nat.le_of_ble_eq_true rfl, Nat.le_of_ble_eq_true rfl⟩ (fun w1 e1 => mt_J3_min_2 l G hSF (i2 x6) q22.1 _ w1 e1) rfl hl.size (by simp only [List.map_cons, List.map_nil, List.sum_cons, List.sum_nil, va_rf_cat, ax_catI, ax_catL]; decide) dX0_tells_101 e (fun q23 e => ?_)
  refine ax_isL (y := yJ3_max) (n := 2) (As := [.long (Int64.ofInt 0), .long (Int64.ofInt q23.1)]) B (lw_S q598 q599 q134 q600) (by decide +kernel) ⟨Nat.le_of_ble_eq_true rfl, Nat.le_of_ble_eq_true rfl⟩ (fun w1 e1 => mt_J3_max l G hSF 0 q23.1 _ w1 e1) rfl hl.size (by decide) dX0_tells_104 e (fun q24 e => ?_)
  refine ax_l2i' B dX0_tells_107 ?_
  have e8 := e
  have hp : Q = _ := hp
  subst hp
  exact ax_ireturn B Z dX0_tells_108 e8
theorem mt_X0_tells (l : Launch) (G : ax_G) (hSF : ax_SF G) (x0 : Option Nat) (x1 : Int) (x2 : Option Nat) (x3 : Int) (x4 : Int) (x6 : Int) (h : ax_H) (w : Int × ax_H) (e : f_X0_tells G.2.2 x0 x1 x2 x3 x4 x6 h = some w) : ax_Met l G yX0_tells cX0_tells 9 ((some FieldType.int)) 138 3517 [va_rf x0, .int (Int32.ofInt x1), va_rf x2, .int (Int32.ofInt x3), .long (Int64.ofInt x4), .int (Int32.ofInt x6)] h w.2 (some (.int (Int32.ofInt w.1))) :=
  ax_enter [.inr (.inr x0), .inl x1, .inr (.inr x2), .inl x3, .inr (.inl x4), .inl x6] (y := yX0_tells) hSF (plainFor_of_name (by decide +kernel)) (Nat.le_of_ble_eq_true rfl) (fun X ls B Z hn hl => we_X0_tells hSF B Z hn x0 x1 x2 x3 x4 x6 hl e rfl)
def dkwX0_soldFor_0 : List UInt8 := [42, 5, 43, 28, 43, 180, 0, 171, 28, 46, 133, 17, 39, 15, 182, 1, 21, 172]
abbrev dktX0_soldFor_0 : List UInt8 := dkwX0_soldFor_0 ++ []
theorem dksX0_soldFor_0 : cX0_soldFor.data.toList.drop 0 = dktX0_soldFor_0 := by decide +kernel
theorem dX0_soldFor_0 : decode cX0_soldFor 0 = .ok (.aload_n 0, 1) := dk_42 (dk_at dksX0_soldFor_0 0 rfl rfl)
theorem dX0_soldFor_1 : decode cX0_soldFor 1 = .ok (.iconst 2, 1) := dk_5 (dk_at dksX0_soldFor_0 1 rfl rfl)
theorem dX0_soldFor_2 : decode cX0_soldFor 2 = .ok (.aload_n 1, 1) := dk_43 (dk_at dksX0_soldFor_0 2 rfl rfl)
theorem dX0_soldFor_3 : decode cX0_soldFor 3 = .ok (.iload_n 2, 1) := dk_28 (dk_at dksX0_soldFor_0 3 rfl rfl)
theorem dX0_soldFor_4 : decode cX0_soldFor 4 = .ok (.aload_n 1, 1) := dk_43 (dk_at dksX0_soldFor_0 4 rfl rfl)
theorem dX0_soldFor_5 : decode cX0_soldFor 5 = .ok (.getfield 171, 3) := dk_180 0 171 (dk_at dksX0_soldFor_0 5 rfl rfl)
theorem dX0_soldFor_8 : decode cX0_soldFor 8 = .ok (.iload_n 2, 1) := dk_28 (dk_at dksX0_soldFor_0 8 rfl rfl)
theorem dX0_soldFor_9 : decode cX0_soldFor 9 = .ok (.iaload, 1) := dk_46 (dk_at dksX0_soldFor_0 9 rfl rfl)
theorem dX0_soldFor_10 : decode cX0_soldFor 10 = .ok (.i2l, 1) := dk_133 (dk_at dksX0_soldFor_0 10 rfl rfl)
theorem dX0_soldFor_11 : decode cX0_soldFor 11 = .ok (.sipush 9999, 3) := dk_17 39 15 (dk_at dksX0_soldFor_0 11 rfl rfl)
theorem dX0_soldFor_14 : decode cX0_soldFor 14 = .ok (.invokevirtual 277, 3) := dk_182 1 21 (dk_at dksX0_soldFor_0 14 rfl rfl)
theorem dX0_soldFor_17 : decode cX0_soldFor 17 = .ok (.ireturn, 1) := dk_172 (dk_at dksX0_soldFor_0 17 rfl rfl)
noncomputable def f_X0_soldFor (E : ax_E) (x0 : Option Nat) (x1 : Option Nat) (x2 : Int) (h : ax_H) : Option (Int × ax_H) :=
  (ax_gR E h x1 2 3).bind fun v1 =>
  (ax_ld E h v1 100 x2).bind fun v2 =>
  (ax_ce E h x0 0).bind fun _ => (f_X0_tells E x0 2 x1 x2 (i2 v2) 9999 h).bind fun q3 =>
  some (q3.1, q3.2)
set_option maxHeartbeats 4000000 in
theorem we_X0_soldFor {l : Launch} {G : ax_G} {X : ax_X} {Q : State → Prop} {h0 h : ax_H} {ls : Array Slot} (hSF : ax_SF G) (B : ax_BL l G X cX0_soldFor 3 RX0 139 3545) (Z : ax_Z X h0 ((some FieldType.int))) (hn : X.2.2.2.2.2.2.2.2.1.name = yX0_soldFor.name) (x0 : Option Nat) (x1 : Option Nat) (x2 : Int) {w : Int × ax_H} (hl : ax_hl ls 3 [(0, .inr (.inr x0)), (1, .inr (.inr x1)), (2, .inl x2)]) (e : f_X0_soldFor G.2.2 x0 x1 x2 h = some w) (hp : (fun w : Int × ax_H => Q = ax_Q G X h0 w.2 (some (.int (Int32.ofInt w.1)))) w) : ax_W G X Q h 0 ls [] := by
  unfold f_X0_soldFor at e
  refine ax_aload_n B dX0_soldFor_0 rfl hl 0 rfl ?_
  refine ax_iconst B dX0_soldFor_1 ?_
  refine ax_aload_n B dX0_soldFor_2 rfl hl 1 rfl ?_
  refine ax_iload_n B dX0_soldFor_3 rfl hl 2 rfl ?_
  refine ax_aload_n B dX0_soldFor_4 rfl hl 1 rfl ?_
  refine ax_getR B ff_X0_171_2 (fun _ _ => rfl) dX0_soldFor_5 e (fun v1 e => ?_)
  refine ax_iload_n B dX0_soldFor_8 rfl hl 2 rfl ?_
  refine ax_iald B kd100 dX0_soldFor_9 e (fun v2 e => ?_)
  refine ax_i2l' B dX0_soldFor_10 ?_
  refine ax_sipush B dX0_soldFor_11 (by decide) ?_
  refine ax_ivI (y := yX0_tells) (n := 5) (As := [.int (Int32.ofInt 2), va_rf x1, .int (Int32.ofInt x2), .long (Int64.ofInt (i2 v2)), .int (Int32.ofInt 9999)]) B kd0 (lw_V q503 q505 qs10 q125 q506) (by decide +kernel) ⟨Nat.le_of_ble_eq_true rfl, Nat.le_of_ble_eq_true rfl⟩ (fun w1 e1 => mt_X0_tells l G hSF x0 2 x1 x2 (i2 v2) 9999 _ w1 e1) rfl hl.size (by decide) dX0_soldFor_14 e (fun q3 e => ?_)
  have e8 := e
  have hp : Q = _ := hp
  subst hp
  exact ax_ireturn B Z dX0_soldFor_17 e8
theorem mt_X0_soldFor (l : Launch) (G : ax_G) (hSF : ax_SF G) (x0 : Option Nat) (x1 : Option Nat) (x2 : Int) (h : ax_H) (w : Int × ax_H) (e : f_X0_soldFor G.2.2 x0 x1 x2 h = some w) : ax_Met l G yX0_soldFor cX0_soldFor 3 ((some FieldType.int)) 139 3545 [va_rf x0, va_rf x1, .int (Int32.ofInt x2)] h w.2 (some (.int (Int32.ofInt w.1))) :=
  ax_enter [.inr (.inr x0), .inr (.inr x1), .inl x2] (y := yX0_soldFor) hSF (plainFor_of_name (by decide +kernel)) (Nat.le_of_ble_eq_true rfl) (fun X ls B Z hn hl => we_X0_soldFor hSF B Z hn x0 x1 x2 hl e rfl)
def dkwX0_growsBy_0 : List UInt8 := [42, 4, 43, 28, 9, 16, 99, 182, 1, 21, 172]
abbrev dktX0_growsBy_0 : List UInt8 := dkwX0_growsBy_0 ++ []
theorem dksX0_growsBy_0 : cX0_growsBy.data.toList.drop 0 = dktX0_growsBy_0 := by decide +kernel
theorem dX0_growsBy_0 : decode cX0_growsBy 0 = .ok (.aload_n 0, 1) := dk_42 (dk_at dksX0_growsBy_0 0 rfl rfl)
theorem dX0_growsBy_1 : decode cX0_growsBy 1 = .ok (.iconst 1, 1) := dk_4 (dk_at dksX0_growsBy_0 1 rfl rfl)
theorem dX0_growsBy_2 : decode cX0_growsBy 2 = .ok (.aload_n 1, 1) := dk_43 (dk_at dksX0_growsBy_0 2 rfl rfl)
theorem dX0_growsBy_3 : decode cX0_growsBy 3 = .ok (.iload_n 2, 1) := dk_28 (dk_at dksX0_growsBy_0 3 rfl rfl)
theorem dX0_growsBy_4 : decode cX0_growsBy 4 = .ok (.lconst 0, 1) := dk_9 (dk_at dksX0_growsBy_0 4 rfl rfl)
theorem dX0_growsBy_5 : decode cX0_growsBy 5 = .ok (.bipush 99, 2) := dk_16 99 (dk_at dksX0_growsBy_0 5 rfl rfl)
theorem dX0_growsBy_7 : decode cX0_growsBy 7 = .ok (.invokevirtual 277, 3) := dk_182 1 21 (dk_at dksX0_growsBy_0 7 rfl rfl)
theorem dX0_growsBy_10 : decode cX0_growsBy 10 = .ok (.ireturn, 1) := dk_172 (dk_at dksX0_growsBy_0 10 rfl rfl)
noncomputable def f_X0_growsBy (E : ax_E) (x0 : Option Nat) (x1 : Option Nat) (x2 : Int) (h : ax_H) : Option (Int × ax_H) :=
  (ax_ce E h x0 0).bind fun _ => (f_X0_tells E x0 1 x1 x2 0 99 h).bind fun q1 =>
  some (q1.1, q1.2)
set_option maxHeartbeats 4000000 in
theorem we_X0_growsBy {l : Launch} {G : ax_G} {X : ax_X} {Q : State → Prop} {h0 h : ax_H} {ls : Array Slot} (hSF : ax_SF G) (B : ax_BL l G X cX0_growsBy 3 RX0 139 3545) (Z : ax_Z X h0 ((some FieldType.int))) (hn : X.2.2.2.2.2.2.2.2.1.name = yX0_growsBy.name) (x0 : Option Nat) (x1 : Option Nat) (x2 : Int) {w : Int × ax_H} (hl : ax_hl ls 3 [(0, .inr (.inr x0)), (1, .inr (.inr x1)), (2, .inl x2)]) (e : f_X0_growsBy G.2.2 x0 x1 x2 h = some w) (hp : (fun w : Int × ax_H => Q = ax_Q G X h0 w.2 (some (.int (Int32.ofInt w.1)))) w) : ax_W G X Q h 0 ls [] := by
  unfold f_X0_growsBy at e
  refine ax_aload_n B dX0_growsBy_0 rfl hl 0 rfl ?_
  refine ax_iconst B dX0_growsBy_1 ?_
  refine ax_aload_n B dX0_growsBy_2 rfl hl 1 rfl ?_
  refine ax_iload_n B dX0_growsBy_3 rfl hl 2 rfl ?_
  refine ax_lconst (v := 0) B dX0_growsBy_4 rfl ?_
  refine ax_bipush B dX0_growsBy_5 (by decide) ?_
  refine ax_ivI (y := yX0_tells) (n := 5) (As := [.int (Int32.ofInt 1), va_rf x1, .int (Int32.ofInt x2), .long (Int64.ofInt 0), .int (Int32.ofInt 99)]) B kd0 (lw_V q503 q505 qs10 q125 q506) (by decide +kernel) ⟨Nat.le_of_ble_eq_true rfl, Nat.le_of_ble_eq_true rfl⟩ (fun w1 e1 => mt_X0_tells l G hSF x0 1 x1 x2 0 99 _ w1 e1) rfl hl.size (by decide) dX0_growsBy_7 e (fun q1 e => ?_)
  have e8 := e
  have hp : Q = _ := hp
  subst hp
  exact ax_ireturn B Z dX0_growsBy_10 e8
theorem mt_X0_growsBy (l : Launch) (G : ax_G) (hSF : ax_SF G) (x0 : Option Nat) (x1 : Option Nat) (x2 : Int) (h : ax_H) (w : Int × ax_H) (e : f_X0_growsBy G.2.2 x0 x1 x2 h = some w) : ax_Met l G yX0_growsBy cX0_growsBy 3 ((some FieldType.int)) 139 3545 [va_rf x0, va_rf x1, .int (Int32.ofInt x2)] h w.2 (some (.int (Int32.ofInt w.1))) :=
  ax_enter [.inr (.inr x0), .inr (.inr x1), .inl x2] (y := yX0_growsBy) hSF (plainFor_of_name (by decide +kernel)) (Nat.le_of_ble_eq_true rfl) (fun X ls B Z hn hl => we_X0_growsBy hSF B Z hn x0 x1 x2 hl e rfl)
def dkwX0_at_3 : List UInt8 := [180, 0, 174, 27, 46, 172, 42, 45, 27, 182, 0, 177, 172, 42, 45, 27, 182, 0, 181, 172, 2, 172]
abbrev dktX0_at_3 : List UInt8 := dkwX0_at_3 ++ []
def dkwX0_at_2 : List UInt8 := [45, 180, 0, 165, 27, 46, 172, 45, 180, 0, 168, 27, 46, 172, 45, 180, 0, 171, 27, 46, 172, 45]
abbrev dktX0_at_2 : List UInt8 := dkwX0_at_2 ++ dktX0_at_3
def dkwX0_at_1 : List UInt8 := [170, 0, 0, 0, 0, 0, 0, 82, 0, 0, 0, 0, 0, 0, 0, 5, 0, 0, 0, 40, 0, 0, 0, 47, 0, 0, 0, 54, 0, 0, 0, 61, 0, 0, 0, 68, 0, 0, 0, 75]
abbrev dktX0_at_1 : List UInt8 := dkwX0_at_1 ++ dktX0_at_2
def dkwX0_at_0 : List UInt8 := [42, 27, 182, 0, 162, 154, 0, 5, 2, 172, 42, 182, 0, 104, 78, 28]
abbrev dktX0_at_0 : List UInt8 := dkwX0_at_0 ++ dktX0_at_1
theorem dksX0_at_0 : cX0_at.data.toList.drop 0 = dktX0_at_0 := by decide +kernel
theorem dksX0_at_1 : cX0_at.data.toList.drop 16 = dktX0_at_1 := dk_seg dksX0_at_0 16 rfl rfl
theorem dksX0_at_2 : cX0_at.data.toList.drop 56 = dktX0_at_2 := dk_seg dksX0_at_1 40 rfl rfl
theorem dksX0_at_3 : cX0_at.data.toList.drop 78 = dktX0_at_3 := dk_seg dksX0_at_2 22 rfl rfl
theorem dX0_at_0 : decode cX0_at 0 = .ok (.aload_n 0, 1) := dk_42 (dk_at dksX0_at_0 0 rfl rfl)
theorem dX0_at_1 : decode cX0_at 1 = .ok (.iload_n 1, 1) := dk_27 (dk_at dksX0_at_0 1 rfl rfl)
theorem dX0_at_2 : decode cX0_at 2 = .ok (.invokevirtual 162, 3) := dk_182 0 162 (dk_at dksX0_at_0 2 rfl rfl)
theorem dX0_at_5 : decode cX0_at 5 = .ok (.ifCond .ne 5, 3) := dk_154 0 5 (dk_at dksX0_at_0 5 rfl rfl)
theorem dX0_at_8 : decode cX0_at 8 = .ok (.iconst (-1), 1) := dk_2 (dk_at dksX0_at_0 8 rfl rfl)
theorem dX0_at_9 : decode cX0_at 9 = .ok (.ireturn, 1) := dk_172 (dk_at dksX0_at_0 9 rfl rfl)
theorem dX0_at_10 : decode cX0_at 10 = .ok (.aload_n 0, 1) := dk_42 (dk_at dksX0_at_0 10 rfl rfl)
theorem dX0_at_11 : decode cX0_at 11 = .ok (.invokevirtual 104, 3) := dk_182 0 104 (dk_at dksX0_at_0 11 rfl rfl)
theorem dX0_at_14 : decode cX0_at 14 = .ok (.astore_n 3, 1) := dk_78 (dk_at dksX0_at_0 14 rfl rfl)
theorem dX0_at_15 : decode cX0_at 15 = .ok (.iload_n 2, 1) := dk_28 (dk_at dksX0_at_0 15 rfl rfl)
theorem dX0_at_16 : decode cX0_at 16 = .ok (.tableswitch 82 0 5 #[40, 47, 54, 61, 68, 75], 40) := by decide +kernel
theorem dX0_at_56 : decode cX0_at 56 = .ok (.aload_n 3, 1) := dk_45 (dk_at dksX0_at_2 0 rfl rfl)
theorem dX0_at_57 : decode cX0_at 57 = .ok (.getfield 165, 3) := dk_180 0 165 (dk_at dksX0_at_2 1 rfl rfl)
theorem dX0_at_60 : decode cX0_at 60 = .ok (.iload_n 1, 1) := dk_27 (dk_at dksX0_at_2 4 rfl rfl)
theorem dX0_at_61 : decode cX0_at 61 = .ok (.iaload, 1) := dk_46 (dk_at dksX0_at_2 5 rfl rfl)
theorem dX0_at_62 : decode cX0_at 62 = .ok (.ireturn, 1) := dk_172 (dk_at dksX0_at_2 6 rfl rfl)
theorem dX0_at_63 : decode cX0_at 63 = .ok (.aload_n 3, 1) := dk_45 (dk_at dksX0_at_2 7 rfl rfl)
theorem dX0_at_64 : decode cX0_at 64 = .ok (.getfield 168, 3) := dk_180 0 168 (dk_at dksX0_at_2 8 rfl rfl)
theorem dX0_at_67 : decode cX0_at 67 = .ok (.iload_n 1, 1) := dk_27 (dk_at dksX0_at_2 11 rfl rfl)
theorem dX0_at_68 : decode cX0_at 68 = .ok (.iaload, 1) := dk_46 (dk_at dksX0_at_2 12 rfl rfl)
theorem dX0_at_69 : decode cX0_at 69 = .ok (.ireturn, 1) := dk_172 (dk_at dksX0_at_2 13 rfl rfl)
theorem dX0_at_70 : decode cX0_at 70 = .ok (.aload_n 3, 1) := dk_45 (dk_at dksX0_at_2 14 rfl rfl)
theorem dX0_at_71 : decode cX0_at 71 = .ok (.getfield 171, 3) := dk_180 0 171 (dk_at dksX0_at_2 15 rfl rfl)
theorem dX0_at_74 : decode cX0_at 74 = .ok (.iload_n 1, 1) := dk_27 (dk_at dksX0_at_2 18 rfl rfl)
theorem dX0_at_75 : decode cX0_at 75 = .ok (.iaload, 1) := dk_46 (dk_at dksX0_at_2 19 rfl rfl)
theorem dX0_at_76 : decode cX0_at 76 = .ok (.ireturn, 1) := dk_172 (dk_at dksX0_at_2 20 rfl rfl)
theorem dX0_at_77 : decode cX0_at 77 = .ok (.aload_n 3, 1) := dk_45 (dk_at dksX0_at_2 21 rfl rfl)
theorem dX0_at_78 : decode cX0_at 78 = .ok (.getfield 174, 3) := dk_180 0 174 (dk_at dksX0_at_3 0 rfl rfl)
theorem dX0_at_81 : decode cX0_at 81 = .ok (.iload_n 1, 1) := dk_27 (dk_at dksX0_at_3 3 rfl rfl)
theorem dX0_at_82 : decode cX0_at 82 = .ok (.iaload, 1) := dk_46 (dk_at dksX0_at_3 4 rfl rfl)
theorem dX0_at_83 : decode cX0_at 83 = .ok (.ireturn, 1) := dk_172 (dk_at dksX0_at_3 5 rfl rfl)
theorem dX0_at_84 : decode cX0_at 84 = .ok (.aload_n 0, 1) := dk_42 (dk_at dksX0_at_3 6 rfl rfl)
theorem dX0_at_85 : decode cX0_at 85 = .ok (.aload_n 3, 1) := dk_45 (dk_at dksX0_at_3 7 rfl rfl)
theorem dX0_at_86 : decode cX0_at 86 = .ok (.iload_n 1, 1) := dk_27 (dk_at dksX0_at_3 8 rfl rfl)
theorem dX0_at_87 : decode cX0_at 87 = .ok (.invokevirtual 177, 3) := dk_182 0 177 (dk_at dksX0_at_3 9 rfl rfl)
theorem dX0_at_90 : decode cX0_at 90 = .ok (.ireturn, 1) := dk_172 (dk_at dksX0_at_3 12 rfl rfl)
theorem dX0_at_91 : decode cX0_at 91 = .ok (.aload_n 0, 1) := dk_42 (dk_at dksX0_at_3 13 rfl rfl)
theorem dX0_at_92 : decode cX0_at 92 = .ok (.aload_n 3, 1) := dk_45 (dk_at dksX0_at_3 14 rfl rfl)
theorem dX0_at_93 : decode cX0_at 93 = .ok (.iload_n 1, 1) := dk_27 (dk_at dksX0_at_3 15 rfl rfl)
theorem dX0_at_94 : decode cX0_at 94 = .ok (.invokevirtual 181, 3) := dk_182 0 181 (dk_at dksX0_at_3 16 rfl rfl)
theorem dX0_at_97 : decode cX0_at 97 = .ok (.ireturn, 1) := dk_172 (dk_at dksX0_at_3 19 rfl rfl)
theorem dX0_at_98 : decode cX0_at 98 = .ok (.iconst (-1), 1) := dk_2 (dk_at dksX0_at_3 20 rfl rfl)
theorem dX0_at_99 : decode cX0_at 99 = .ok (.ireturn, 1) := dk_172 (dk_at dksX0_at_3 21 rfl rfl)
noncomputable def f_X0_at (E : ax_E) (x0 : Option Nat) (x1 : Int) (x2 : Int) (h : ax_H) : Option (Int × ax_H) :=
  (ax_ce E h x0 0).bind fun _ => (f_X0_isDebt E x0 x1 h).bind fun q1 =>
  if i2 q1.1 = 0 then
    some ((-1), q1.2)
  else
    (ax_ce E q1.2 x0 0).bind fun _ => (f_X0_books E x0 q1.2).bind fun q2 =>
    if i2 x2 = 0 then
      (ax_gR E q2.2 q2.1 2 1).bind fun v3 =>
      (ax_ld E q2.2 v3 100 x1).bind fun v4 =>
      some (v4, q2.2)
    else if i2 x2 = 1 then
      (ax_gR E q2.2 q2.1 2 2).bind fun v5 =>
      (ax_ld E q2.2 v5 100 x1).bind fun v6 =>
      some (v6, q2.2)
    else if i2 x2 = 2 then
      (ax_gR E q2.2 q2.1 2 3).bind fun v7 =>
      (ax_ld E q2.2 v7 100 x1).bind fun v8 =>
      some (v8, q2.2)
    else if i2 x2 = 3 then
      (ax_gR E q2.2 q2.1 2 4).bind fun v9 =>
      (ax_ld E q2.2 v9 100 x1).bind fun v10 =>
      some (v10, q2.2)
    else if i2 x2 = 4 then
      (ax_ce E q2.2 x0 0).bind fun _ => (f_X0_soldFor E x0 q2.1 x1 q2.2).bind fun q11 =>
      some (q11.1, q11.2)
    else if i2 x2 = 5 then
      (ax_ce E q2.2 x0 0).bind fun _ => (f_X0_growsBy E x0 q2.1 x1 q2.2).bind fun q12 =>
      some (q12.1, q12.2)
    else 
      some ((-1), q2.2)
set_option maxHeartbeats 4000000 in
theorem we_X0_at {l : Launch} {G : ax_G} {X : ax_X} {Q : State → Prop} {h0 h : ax_H} {ls : Array Slot} (hSF : ax_SF G) (B : ax_BL l G X cX0_at 4 RX0 140 3567) (Z : ax_Z X h0 ((some FieldType.int))) (hn : X.2.2.2.2.2.2.2.2.1.name = yX0_at.name) (x0 : Option Nat) (x1 : Int) (x2 : Int) {w : Int × ax_H} (hl : ax_hl ls 4 [(0, .inr (.inr x0)), (1, .inl x1), (2, .inl x2)]) (e : f_X0_at G.2.2 x0 x1 x2 h = some w) (hp : (fun w : Int × ax_H => Q = ax_Q G X h0 w.2 (some (.int (Int32.ofInt w.1)))) w) : ax_W G X Q h 0 ls [] := by
  unfold f_X0_at at e
  refine ax_aload_n B dX0_at_0 rfl hl 0 rfl ?_
  refine ax_iload_n B dX0_at_1 rfl hl 1 rfl ?_
  refine ax_ivI (y := yX0_isDebt) (n := 1) (As := [.int (Int32.ofInt x1)]) B kd0 (lw_V q495 q497 qs8 q125 q498) (by decide +kernel) ⟨Nat.le_of_ble_eq_true rfl, Nat.le_of_ble_eq_true rfl⟩ (fun w1 e1 => mt_X0_isDebt l G hSF x0 x1 _ w1 e1) rfl hl.size (by decide) dX0_at_2 e (fun q1 e => ?_)
  refine ax_if_ne (tgt := 10) B dX0_at_5 (by decide) e (fun e => ?_) (fun e => ?_)
  · refine ax_iconst B dX0_at_8 ?_
    have e8 := e
    have hp : Q = _ := hp
    subst hp
    exact ax_ireturn B Z dX0_at_9 e8
  · refine ax_aload_n B dX0_at_10 rfl hl 0 rfl ?_
    refine ax_ivR (y := yX0_books) (n := 0) (As := []) B kd0 (lw_V q443 q445 qs2 q125 q446) (by decide +kernel) ⟨Nat.le_of_ble_eq_true rfl, Nat.le_of_ble_eq_true rfl⟩ (fun w1 e1 => mt_X0_books l G hSF x0 _ w1 e1) rfl hl.size (by decide) dX0_at_11 e (fun q2 e => ?_)
    refine ax_astore_n (L' := [(3, .inr (.inr q2.1)), (0, .inr (.inr x0)), (1, .inl x1), (2, .inl x2)]) B dX0_at_14 rfl hl (by decide) rfl (fun ls hl => ?_)
    refine ax_iload_n B dX0_at_15 rfl hl 3 rfl ?_
    rcases ax_ite e with ⟨hk0, e⟩ | ⟨hk0, e⟩
    · refine ax_tswIn (tgt := 56) (off := 40) B dX0_at_16 (by omega) (by omega) (by rw [hk0]; rfl) (by decide) ?_
      refine ax_aload_n B dX0_at_56 rfl hl 0 rfl ?_
      refine ax_getR B ff_X0_165_2 (fun _ _ => rfl) dX0_at_57 e (fun v3 e => ?_)
      refine ax_iload_n B dX0_at_60 rfl hl 2 rfl ?_
      refine ax_iald B kd100 dX0_at_61 e (fun v4 e => ?_)
      have e8 := e
      have hp : Q = _ := hp
      subst hp
      exact ax_ireturn B Z dX0_at_62 e8
    rcases ax_ite e with ⟨hk1, e⟩ | ⟨hk1, e⟩
    · refine ax_tswIn (tgt := 63) (off := 47) B dX0_at_16 (by omega) (by omega) (by rw [hk1]; rfl) (by decide) ?_
      refine ax_aload_n B dX0_at_63 rfl hl 0 rfl ?_
      refine ax_getR B ff_X0_168_2 (fun _ _ => rfl) dX0_at_64 e (fun v5 e => ?_)
      refine ax_iload_n B dX0_at_67 rfl hl 2 rfl ?_
      refine ax_iald B kd100 dX0_at_68 e (fun v6 e => ?_)
      have e8 := e
      have hp : Q = _ := hp
      subst hp
      exact ax_ireturn B Z dX0_at_69 e8
    rcases ax_ite e with ⟨hk2, e⟩ | ⟨hk2, e⟩
    · refine ax_tswIn (tgt := 70) (off := 54) B dX0_at_16 (by omega) (by omega) (by rw [hk2]; rfl) (by decide) ?_
      refine ax_aload_n B dX0_at_70 rfl hl 0 rfl ?_
      refine ax_getR B ff_X0_171_2 (fun _ _ => rfl) dX0_at_71 e (fun v7 e => ?_)
      refine ax_iload_n B dX0_at_74 rfl hl 2 rfl ?_
      refine ax_iald B kd100 dX0_at_75 e (fun v8 e => ?_)
      have e8 := e
      have hp : Q = _ := hp
      subst hp
      exact ax_ireturn B Z dX0_at_76 e8
    rcases ax_ite e with ⟨hk3, e⟩ | ⟨hk3, e⟩
    · refine ax_tswIn (tgt := 77) (off := 61) B dX0_at_16 (by omega) (by omega) (by rw [hk3]; rfl) (by decide) ?_
      refine ax_aload_n B dX0_at_77 rfl hl 0 rfl ?_
      refine ax_getR B ff_X0_174_2 (fun _ _ => rfl) dX0_at_78 e (fun v9 e => ?_)
      refine ax_iload_n B dX0_at_81 rfl hl 2 rfl ?_
      refine ax_iald B kd100 dX0_at_82 e (fun v10 e => ?_)
      have e8 := e
      have hp : Q = _ := hp
      subst hp
      exact ax_ireturn B Z dX0_at_83 e8
    rcases ax_ite e with ⟨hk4, e⟩ | ⟨hk4, e⟩
    · refine ax_tswIn (tgt := 84) (off := 68) B dX0_at_16 (by omega) (by omega) (by rw [hk4]; rfl) (by decide) ?_
      refine ax_aload_n B dX0_at_84 rfl hl 1 rfl ?_
      refine ax_aload_n B dX0_at_85 rfl hl 0 rfl ?_
      refine ax_iload_n B dX0_at_86 rfl hl 2 rfl ?_
      refine ax_ivI (y := yX0_soldFor) (n := 2) (As := [va_rf q2.1, .int (Int32.ofInt x1)]) B kd0 (lw_V q499 q501 qs9 q125 q502) (by decide +kernel) ⟨Nat.le_of_ble_eq_true rfl, Nat.le_of_ble_eq_true rfl⟩ (fun w1 e1 => mt_X0_soldFor l G hSF x0 q2.1 x1 _ w1 e1) rfl hl.size (by decide) dX0_at_87 e (fun q11 e => ?_)
      have e8 := e
      have hp : Q = _ := hp
      subst hp
      exact ax_ireturn B Z dX0_at_90 e8
    rcases ax_ite e with ⟨hk5, e⟩ | ⟨hk5, e⟩
    · refine ax_tswIn (tgt := 91) (off := 75) B dX0_at_16 (by omega) (by omega) (by rw [hk5]; rfl) (by decide) ?_
      refine ax_aload_n B dX0_at_91 rfl hl 1 rfl ?_
      refine ax_aload_n B dX0_at_92 rfl hl 0 rfl ?_
      refine ax_iload_n B dX0_at_93 rfl hl 2 rfl ?_
      refine ax_ivI (y := yX0_growsBy) (n := 2) (As := [va_rf q2.1, .int (Int32.ofInt x1)]) B kd0 (lw_V q601 q603 qs14 q125 q604) (by decide +kernel) ⟨Nat.le_of_ble_eq_true rfl, Nat.le_of_ble_eq_true rfl⟩ (fun w1 e1 => mt_X0_growsBy l G hSF x0 q2.1 x1 _ w1 e1) rfl hl.size (by decide) dX0_at_94 e (fun q12 e => ?_)
      have e8 := e
      have hp : Q = _ := hp
      subst hp
      exact ax_ireturn B Z dX0_at_97 e8
    refine ax_tswOut (tgt := 98) B dX0_at_16 (by omega) (by decide) ?_
    refine ax_iconst B dX0_at_98 ?_
    have e8 := e
    have hp : Q = _ := hp
    subst hp
    exact ax_ireturn B Z dX0_at_99 e8
theorem mt_X0_at (l : Launch) (G : ax_G) (hSF : ax_SF G) (x0 : Option Nat) (x1 : Int) (x2 : Int) (h : ax_H) (w : Int × ax_H) (e : f_X0_at G.2.2 x0 x1 x2 h = some w) : ax_Met l G yX0_at cX0_at 4 ((some FieldType.int)) 140 3567 [va_rf x0, .int (Int32.ofInt x1), .int (Int32.ofInt x2)] h w.2 (some (.int (Int32.ofInt w.1))) :=
  ax_enter [.inr (.inr x0), .inl x1, .inl x2] (y := yX0_at) hSF (plainFor_of_name (by decide +kernel)) (Nat.le_of_ble_eq_true rfl) (fun X ls B Z hn hl => we_X0_at hSF B Z hn x0 x1 x2 hl e rfl)
def dkwX0_owes_0 : List UInt8 := [42, 27, 28, 182, 0, 184, 153, 0, 15, 42, 182, 0, 104, 27, 28, 182, 0, 187, 167, 0, 4, 2, 172]
abbrev dktX0_owes_0 : List UInt8 := dkwX0_owes_0 ++ []
theorem dksX0_owes_0 : cX0_owes.data.toList.drop 0 = dktX0_owes_0 := by decide +kernel
theorem dX0_owes_0 : decode cX0_owes 0 = .ok (.aload_n 0, 1) := dk_42 (dk_at dksX0_owes_0 0 rfl rfl)
theorem dX0_owes_1 : decode cX0_owes 1 = .ok (.iload_n 1, 1) := dk_27 (dk_at dksX0_owes_0 1 rfl rfl)
theorem dX0_owes_2 : decode cX0_owes 2 = .ok (.iload_n 2, 1) := dk_28 (dk_at dksX0_owes_0 2 rfl rfl)
theorem dX0_owes_3 : decode cX0_owes 3 = .ok (.invokevirtual 184, 3) := dk_182 0 184 (dk_at dksX0_owes_0 3 rfl rfl)
theorem dX0_owes_6 : decode cX0_owes 6 = .ok (.ifCond .eq 15, 3) := dk_153 0 15 (dk_at dksX0_owes_0 6 rfl rfl)
theorem dX0_owes_9 : decode cX0_owes 9 = .ok (.aload_n 0, 1) := dk_42 (dk_at dksX0_owes_0 9 rfl rfl)
theorem dX0_owes_10 : decode cX0_owes 10 = .ok (.invokevirtual 104, 3) := dk_182 0 104 (dk_at dksX0_owes_0 10 rfl rfl)
theorem dX0_owes_13 : decode cX0_owes 13 = .ok (.iload_n 1, 1) := dk_27 (dk_at dksX0_owes_0 13 rfl rfl)
theorem dX0_owes_14 : decode cX0_owes 14 = .ok (.iload_n 2, 1) := dk_28 (dk_at dksX0_owes_0 14 rfl rfl)
theorem dX0_owes_15 : decode cX0_owes 15 = .ok (.invokevirtual 187, 3) := dk_182 0 187 (dk_at dksX0_owes_0 15 rfl rfl)
theorem dX0_owes_18 : decode cX0_owes 18 = .ok (.goto 4, 3) := dk_167 0 4 (dk_at dksX0_owes_0 18 rfl rfl)
theorem dX0_owes_21 : decode cX0_owes 21 = .ok (.iconst (-1), 1) := dk_2 (dk_at dksX0_owes_0 21 rfl rfl)
theorem dX0_owes_22 : decode cX0_owes 22 = .ok (.ireturn, 1) := dk_172 (dk_at dksX0_owes_0 22 rfl rfl)
noncomputable def f_X0_owes (E : ax_E) (x0 : Option Nat) (x1 : Int) (x2 : Int) (h : ax_H) : Option (Int × ax_H) :=
  (ax_ce E h x0 0).bind fun _ => (f_X0_areTwo E x0 x1 x2 h).bind fun q1 =>
  if i2 q1.1 = 0 then
    some ((-1), q1.2)
  else
    (ax_ce E q1.2 x0 0).bind fun _ => (f_X0_books E x0 q1.2).bind fun q2 =>
    (ax_ce E q2.2 q2.1 2).bind fun _ => (f_X2_owes E q2.1 x1 x2 q2.2).bind fun q3 =>
    some (q3.1, q3.2)
set_option maxHeartbeats 4000000 in
theorem we_X0_owes {l : Launch} {G : ax_G} {X : ax_X} {Q : State → Prop} {h0 h : ax_H} {ls : Array Slot} (hSF : ax_SF G) (B : ax_BL l G X cX0_owes 3 RX0 4 108) (Z : ax_Z X h0 ((some FieldType.int))) (hn : X.2.2.2.2.2.2.2.2.1.name = yX0_owes.name) (x0 : Option Nat) (x1 : Int) (x2 : Int) {w : Int × ax_H} (hl : ax_hl ls 3 [(0, .inr (.inr x0)), (1, .inl x1), (2, .inl x2)]) (e : f_X0_owes G.2.2 x0 x1 x2 h = some w) (hp : (fun w : Int × ax_H => Q = ax_Q G X h0 w.2 (some (.int (Int32.ofInt w.1)))) w) : ax_W G X Q h 0 ls [] := by
  unfold f_X0_owes at e
  refine ax_aload_n B dX0_owes_0 rfl hl 0 rfl ?_
  refine ax_iload_n B dX0_owes_1 rfl hl 1 rfl ?_
  refine ax_iload_n B dX0_owes_2 rfl hl 2 rfl ?_
  refine ax_ivI (y := yX0_areTwo) (n := 2) (As := [.int (Int32.ofInt x1), .int (Int32.ofInt x2)]) B kd0 (lw_V q609 q566 qs13 q125 q567) (by decide +kernel) ⟨Nat.le_of_ble_eq_true rfl, Nat.le_of_ble_eq_true rfl⟩ (fun w1 e1 => mt_X0_areTwo l G hSF x0 x1 x2 _ w1 e1) rfl hl.size (by decide) dX0_owes_3 e (fun q1 e => ?_)
  refine ax_if_eq (tgt := 21) B dX0_owes_6 (by decide) e (fun e => ?_) (fun e => ?_)
  · refine ax_iconst B dX0_owes_21 ?_
    have e8 := e
    have hp : Q = _ := hp
    subst hp
    exact ax_ireturn B Z dX0_owes_22 e8
  · refine ax_aload_n B dX0_owes_9 rfl hl 0 rfl ?_
    refine ax_ivR (y := yX0_books) (n := 0) (As := []) B kd0 (lw_V q443 q445 qs2 q125 q446) (by decide +kernel) ⟨Nat.le_of_ble_eq_true rfl, Nat.le_of_ble_eq_true rfl⟩ (fun w1 e1 => mt_X0_books l G hSF x0 _ w1 e1) rfl hl.size (by decide) dX0_owes_10 e (fun q2 e => ?_)
    refine ax_iload_n B dX0_owes_13 rfl hl 1 rfl ?_
    refine ax_iload_n B dX0_owes_14 rfl hl 2 rfl ?_
    refine ax_ivI (y := yX2_owes) (n := 2) (As := [.int (Int32.ofInt x1), .int (Int32.ofInt x2)]) B kd2 (lw_V q507 q508 q509 q130 q510) (by decide +kernel) ⟨Nat.le_of_ble_eq_true rfl, Nat.le_of_ble_eq_true rfl⟩ (fun w1 e1 => mt_X2_owes l G hSF q2.1 x1 x2 _ w1 e1) rfl hl.size (by decide) dX0_owes_15 e (fun q3 e => ?_)
    refine ax_goto (tgt := 22) B dX0_owes_18 (by decide) ?_
    have e8 := e
    have hp : Q = _ := hp
    subst hp
    exact ax_ireturn B Z dX0_owes_22 e8
theorem mt_X0_owes (l : Launch) (G : ax_G) (hSF : ax_SF G) (x0 : Option Nat) (x1 : Int) (x2 : Int) (h : ax_H) (w : Int × ax_H) (e : f_X0_owes G.2.2 x0 x1 x2 h = some w) : ax_Met l G yX0_owes cX0_owes 3 ((some FieldType.int)) 4 108 [va_rf x0, .int (Int32.ofInt x1), .int (Int32.ofInt x2)] h w.2 (some (.int (Int32.ofInt w.1))) :=
  ax_enter [.inr (.inr x0), .inl x1, .inl x2] (y := yX0_owes) hSF (plainFor_of_name (by decide +kernel)) (Nat.le_of_ble_eq_true rfl) (fun X ls B Z hn hl => we_X0_owes hSF B Z hn x0 x1 x2 hl e rfl)
def dkwX0_terms_3 : List UInt8 := [182, 0, 104, 28, 181, 0, 194, 167, 0, 11, 42, 180, 0, 20, 28, 181, 0, 197, 42, 29, 182, 0, 146, 172]
abbrev dktX0_terms_3 : List UInt8 := dkwX0_terms_3 ++ []
def dkwX0_terms_2 : List UInt8 := [182, 0, 104, 180, 0, 194, 167, 0, 10, 42, 180, 0, 20, 180, 0, 197, 62, 27, 154, 0, 14, 42]
abbrev dktX0_terms_2 : List UInt8 := dkwX0_terms_2 ++ dktX0_terms_3
def dkwX0_terms_1 : List UInt8 := [28, 133, 9, 20, 0, 192, 184, 0, 5, 154, 0, 9, 42, 2, 182, 0, 94, 172, 27, 154, 0, 13, 42]
abbrev dktX0_terms_1 : List UInt8 := dkwX0_terms_1 ++ dktX0_terms_2
def dkwX0_terms_0 : List UInt8 := [27, 154, 0, 18, 28, 133, 9, 20, 0, 190, 184, 0, 5, 154, 0, 29, 167, 0, 20, 27, 4, 160, 0, 15]
abbrev dktX0_terms_0 : List UInt8 := dkwX0_terms_0 ++ dktX0_terms_1
theorem dksX0_terms_0 : cX0_terms.data.toList.drop 0 = dktX0_terms_0 := by decide +kernel
theorem dksX0_terms_1 : cX0_terms.data.toList.drop 24 = dktX0_terms_1 := dk_seg dksX0_terms_0 24 rfl rfl
theorem dksX0_terms_2 : cX0_terms.data.toList.drop 47 = dktX0_terms_2 := dk_seg dksX0_terms_1 23 rfl rfl
theorem dksX0_terms_3 : cX0_terms.data.toList.drop 69 = dktX0_terms_3 := dk_seg dksX0_terms_2 22 rfl rfl
theorem dX0_terms_0 : decode cX0_terms 0 = .ok (.iload_n 1, 1) := dk_27 (dk_at dksX0_terms_0 0 rfl rfl)
theorem dX0_terms_1 : decode cX0_terms 1 = .ok (.ifCond .ne 18, 3) := dk_154 0 18 (dk_at dksX0_terms_0 1 rfl rfl)
theorem dX0_terms_4 : decode cX0_terms 4 = .ok (.iload_n 2, 1) := dk_28 (dk_at dksX0_terms_0 4 rfl rfl)
theorem dX0_terms_5 : decode cX0_terms 5 = .ok (.i2l, 1) := dk_133 (dk_at dksX0_terms_0 5 rfl rfl)
theorem dX0_terms_6 : decode cX0_terms 6 = .ok (.lconst 0, 1) := dk_9 (dk_at dksX0_terms_0 6 rfl rfl)
theorem dX0_terms_7 : decode cX0_terms 7 = .ok (.ldc2_w 190, 3) := dk_20 0 190 (dk_at dksX0_terms_0 7 rfl rfl)
theorem dX0_terms_10 : decode cX0_terms 10 = .ok (.invokestatic 5, 3) := dk_184 0 5 (dk_at dksX0_terms_0 10 rfl rfl)
theorem dX0_terms_13 : decode cX0_terms 13 = .ok (.ifCond .ne 29, 3) := dk_154 0 29 (dk_at dksX0_terms_0 13 rfl rfl)
theorem dX0_terms_16 : decode cX0_terms 16 = .ok (.goto 20, 3) := dk_167 0 20 (dk_at dksX0_terms_0 16 rfl rfl)
theorem dX0_terms_19 : decode cX0_terms 19 = .ok (.iload_n 1, 1) := dk_27 (dk_at dksX0_terms_0 19 rfl rfl)
theorem dX0_terms_20 : decode cX0_terms 20 = .ok (.iconst 1, 1) := dk_4 (dk_at dksX0_terms_0 20 rfl rfl)
theorem dX0_terms_21 : decode cX0_terms 21 = .ok (.if_icmp .ne 15, 3) := dk_160 0 15 (dk_at dksX0_terms_0 21 rfl rfl)
theorem dX0_terms_24 : decode cX0_terms 24 = .ok (.iload_n 2, 1) := dk_28 (dk_at dksX0_terms_1 0 rfl rfl)
theorem dX0_terms_25 : decode cX0_terms 25 = .ok (.i2l, 1) := dk_133 (dk_at dksX0_terms_1 1 rfl rfl)
theorem dX0_terms_26 : decode cX0_terms 26 = .ok (.lconst 0, 1) := dk_9 (dk_at dksX0_terms_1 2 rfl rfl)
theorem dX0_terms_27 : decode cX0_terms 27 = .ok (.ldc2_w 192, 3) := dk_20 0 192 (dk_at dksX0_terms_1 3 rfl rfl)
theorem dX0_terms_30 : decode cX0_terms 30 = .ok (.invokestatic 5, 3) := dk_184 0 5 (dk_at dksX0_terms_1 6 rfl rfl)
theorem dX0_terms_33 : decode cX0_terms 33 = .ok (.ifCond .ne 9, 3) := dk_154 0 9 (dk_at dksX0_terms_1 9 rfl rfl)
theorem dX0_terms_36 : decode cX0_terms 36 = .ok (.aload_n 0, 1) := dk_42 (dk_at dksX0_terms_1 12 rfl rfl)
theorem dX0_terms_37 : decode cX0_terms 37 = .ok (.iconst (-1), 1) := dk_2 (dk_at dksX0_terms_1 13 rfl rfl)
theorem dX0_terms_38 : decode cX0_terms 38 = .ok (.invokevirtual 94, 3) := dk_182 0 94 (dk_at dksX0_terms_1 14 rfl rfl)
theorem dX0_terms_41 : decode cX0_terms 41 = .ok (.ireturn, 1) := dk_172 (dk_at dksX0_terms_1 17 rfl rfl)
theorem dX0_terms_42 : decode cX0_terms 42 = .ok (.iload_n 1, 1) := dk_27 (dk_at dksX0_terms_1 18 rfl rfl)
theorem dX0_terms_43 : decode cX0_terms 43 = .ok (.ifCond .ne 13, 3) := dk_154 0 13 (dk_at dksX0_terms_1 19 rfl rfl)
theorem dX0_terms_46 : decode cX0_terms 46 = .ok (.aload_n 0, 1) := dk_42 (dk_at dksX0_terms_1 22 rfl rfl)
theorem dX0_terms_47 : decode cX0_terms 47 = .ok (.invokevirtual 104, 3) := dk_182 0 104 (dk_at dksX0_terms_2 0 rfl rfl)
theorem dX0_terms_50 : decode cX0_terms 50 = .ok (.getfield 194, 3) := dk_180 0 194 (dk_at dksX0_terms_2 3 rfl rfl)
theorem dX0_terms_53 : decode cX0_terms 53 = .ok (.goto 10, 3) := dk_167 0 10 (dk_at dksX0_terms_2 6 rfl rfl)
theorem dX0_terms_56 : decode cX0_terms 56 = .ok (.aload_n 0, 1) := dk_42 (dk_at dksX0_terms_2 9 rfl rfl)
theorem dX0_terms_57 : decode cX0_terms 57 = .ok (.getfield 20, 3) := dk_180 0 20 (dk_at dksX0_terms_2 10 rfl rfl)
theorem dX0_terms_60 : decode cX0_terms 60 = .ok (.getfield 197, 3) := dk_180 0 197 (dk_at dksX0_terms_2 13 rfl rfl)
theorem dX0_terms_63 : decode cX0_terms 63 = .ok (.istore_n 3, 1) := dk_62 (dk_at dksX0_terms_2 16 rfl rfl)
theorem dX0_terms_64 : decode cX0_terms 64 = .ok (.iload_n 1, 1) := dk_27 (dk_at dksX0_terms_2 17 rfl rfl)
theorem dX0_terms_65 : decode cX0_terms 65 = .ok (.ifCond .ne 14, 3) := dk_154 0 14 (dk_at dksX0_terms_2 18 rfl rfl)
theorem dX0_terms_68 : decode cX0_terms 68 = .ok (.aload_n 0, 1) := dk_42 (dk_at dksX0_terms_2 21 rfl rfl)
theorem dX0_terms_69 : decode cX0_terms 69 = .ok (.invokevirtual 104, 3) := dk_182 0 104 (dk_at dksX0_terms_3 0 rfl rfl)
theorem dX0_terms_72 : decode cX0_terms 72 = .ok (.iload_n 2, 1) := dk_28 (dk_at dksX0_terms_3 3 rfl rfl)
theorem dX0_terms_73 : decode cX0_terms 73 = .ok (.putfield 194, 3) := dk_181 0 194 (dk_at dksX0_terms_3 4 rfl rfl)
theorem dX0_terms_76 : decode cX0_terms 76 = .ok (.goto 11, 3) := dk_167 0 11 (dk_at dksX0_terms_3 7 rfl rfl)
theorem dX0_terms_79 : decode cX0_terms 79 = .ok (.aload_n 0, 1) := dk_42 (dk_at dksX0_terms_3 10 rfl rfl)
theorem dX0_terms_80 : decode cX0_terms 80 = .ok (.getfield 20, 3) := dk_180 0 20 (dk_at dksX0_terms_3 11 rfl rfl)
theorem dX0_terms_83 : decode cX0_terms 83 = .ok (.iload_n 2, 1) := dk_28 (dk_at dksX0_terms_3 14 rfl rfl)
theorem dX0_terms_84 : decode cX0_terms 84 = .ok (.putfield 197, 3) := dk_181 0 197 (dk_at dksX0_terms_3 15 rfl rfl)
theorem dX0_terms_87 : decode cX0_terms 87 = .ok (.aload_n 0, 1) := dk_42 (dk_at dksX0_terms_3 18 rfl rfl)
theorem dX0_terms_88 : decode cX0_terms 88 = .ok (.iload_n 3, 1) := dk_29 (dk_at dksX0_terms_3 19 rfl rfl)
theorem dX0_terms_89 : decode cX0_terms 89 = .ok (.invokevirtual 146, 3) := dk_182 0 146 (dk_at dksX0_terms_3 20 rfl rfl)
theorem dX0_terms_92 : decode cX0_terms 92 = .ok (.ireturn, 1) := dk_172 (dk_at dksX0_terms_3 23 rfl rfl)
noncomputable def f_X0_terms_36 (E : ax_E) (x0 : Option Nat) (h : ax_H) : Option (Int × ax_H) :=
  (ax_ce E h x0 0).bind fun _ => (f_X0_tell E x0 (-1) h).bind fun q1 =>
  some (q1.1, q1.2)
noncomputable def f_X0_terms_87 (E : ax_E) (x0 : Option Nat) (x3 : Int) (h : ax_H) : Option (Int × ax_H) :=
  (ax_ce E h x0 0).bind fun _ => (f_X0_was E x0 x3 h).bind fun q1 =>
  some (q1.1, q1.2)
noncomputable def f_X0_terms_63 (E : ax_E) (x0 : Option Nat) (x1 : Int) (x2 : Int) (s0 : Int) (h : ax_H) : Option (Int × ax_H) :=
  if i2 x1 = 0 then
    (ax_ce E h x0 0).bind fun _ => (f_X0_books E x0 h).bind fun q1 =>
    (ax_pI q1.2 q1.1 2 6 x2).bind fun h2 =>
    f_X0_terms_87 E x0 s0 h2
  else
    (ax_gR E h x0 0 0).bind fun v3 =>
    (ax_pI h v3 1 7 x2).bind fun h4 =>
    f_X0_terms_87 E x0 s0 h4
noncomputable def f_X0_terms_42 (E : ax_E) (x0 : Option Nat) (x1 : Int) (x2 : Int) (h : ax_H) : Option (Int × ax_H) :=
  if i2 x1 = 0 then
    (ax_ce E h x0 0).bind fun _ => (f_X0_books E x0 h).bind fun q1 =>
    (ax_gI E q1.2 q1.1 2 6).bind fun v2 =>
    f_X0_terms_63 E x0 x1 x2 v2 q1.2
  else
    (ax_gR E h x0 0 0).bind fun v3 =>
    (ax_gI E h v3 1 7).bind fun v4 =>
    f_X0_terms_63 E x0 x1 x2 v4 h
noncomputable def f_X0_terms (E : ax_E) (x0 : Option Nat) (x1 : Int) (x2 : Int) (h : ax_H) : Option (Int × ax_H) :=
  if i2 x1 = 0 then
    (f_X0_in E (i2 x2) 0 999 h).bind fun q1 =>
    if i2 q1.1 = 0 then
      f_X0_terms_36 E x0 q1.2
    else
      f_X0_terms_42 E x0 x1 x2 q1.2
  else
    if i2 x1 = i2 1 then
      (f_X0_in E (i2 x2) 0 9 h).bind fun q2 =>
      if i2 q2.1 = 0 then
        f_X0_terms_36 E x0 q2.2
      else
        f_X0_terms_42 E x0 x1 x2 q2.2
    else
      f_X0_terms_36 E x0 h
set_option maxHeartbeats 4000000 in
theorem w_X0_terms_36 {l : Launch} {G : ax_G} {X : ax_X} {Q : State → Prop} {h0 h : ax_H} {ls : Array Slot} (hSF : ax_SF G) (B : ax_BL l G X cX0_terms 4 RX0 3 84) (Z : ax_Z X h0 ((some FieldType.int))) (hn : X.2.2.2.2.2.2.2.2.1.name = yX0_terms.name) (x0 : Option Nat) {w : Int × ax_H} (hl : ax_hl ls 4 [(0, .inr (.inr x0))]) (e : f_X0_terms_36 G.2.2 x0 h = some w) (hp : (fun w : Int × ax_H => Q = ax_Q G X h0 w.2 (some (.int (Int32.ofInt w.1)))) w) : ax_W G X Q h 36 ls [] := by
  unfold f_X0_terms_36 at e
  refine ax_aload_n B dX0_terms_36 rfl hl 0 rfl ?_
  refine ax_iconst B dX0_terms_37 ?_
  refine ax_ivI (y := yX0_tell) (n := 1) (As := [.int (Int32.ofInt (-1))]) B kd0 (lw_V q436 q438 qs1 q125 q439) (by decide +kernel) ⟨Nat.le_of_ble_eq_true rfl, Nat.le_of_ble_eq_true rfl⟩ (fun w1 e1 => mt_X0_tell l G hSF x0 (-1) _ w1 e1) rfl hl.size (by decide) dX0_terms_38 e (fun q1 e => ?_)
  have e8 := e
  have hp : Q = _ := hp
  subst hp
  exact ax_ireturn B Z dX0_terms_41 e8
set_option maxHeartbeats 4000000 in
theorem w_X0_terms_87 {l : Launch} {G : ax_G} {X : ax_X} {Q : State → Prop} {h0 h : ax_H} {ls : Array Slot} (hSF : ax_SF G) (B : ax_BL l G X cX0_terms 4 RX0 3 84) (Z : ax_Z X h0 ((some FieldType.int))) (hn : X.2.2.2.2.2.2.2.2.1.name = yX0_terms.name) (x0 : Option Nat) (x3 : Int) {w : Int × ax_H} (hl : ax_hl ls 4 [(0, .inr (.inr x0)), (3, .inl x3)]) (e : f_X0_terms_87 G.2.2 x0 x3 h = some w) (hp : (fun w : Int × ax_H => Q = ax_Q G X h0 w.2 (some (.int (Int32.ofInt w.1)))) w) : ax_W G X Q h 87 ls [] := by
  unfold f_X0_terms_87 at e
  refine ax_aload_n B dX0_terms_87 rfl hl 0 rfl ?_
  refine ax_iload_n B dX0_terms_88 rfl hl 1 rfl ?_
  refine ax_ivI (y := yX0_was) (n := 1) (As := [.int (Int32.ofInt x3)]) B kd0 (lw_V q467 q469 qs6 q125 q470) (by decide +kernel) ⟨Nat.le_of_ble_eq_true rfl, Nat.le_of_ble_eq_true rfl⟩ (fun w1 e1 => mt_X0_was l G hSF x0 x3 _ w1 e1) rfl hl.size (by decide) dX0_terms_89 e (fun q1 e => ?_)
  have e8 := e
  have hp : Q = _ := hp
  subst hp
  exact ax_ireturn B Z dX0_terms_92 e8
set_option maxHeartbeats 4000000 in
theorem w_X0_terms_63 {l : Launch} {G : ax_G} {X : ax_X} {Q : State → Prop} {h0 h : ax_H} {ls : Array Slot} (hSF : ax_SF G) (B : ax_BL l G X cX0_terms 4 RX0 3 84) (Z : ax_Z X h0 ((some FieldType.int))) (hn : X.2.2.2.2.2.2.2.2.1.name = yX0_terms.name) (x0 : Option Nat) (x1 : Int) (x2 : Int) (s0 : Int) {w : Int × ax_H} (hl : ax_hl ls 4 [(0, .inr (.inr x0)), (1, .inl x1), (2, .inl x2)]) (e : f_X0_terms_63 G.2.2 x0 x1 x2 s0 h = some w) (hp : (fun w : Int × ax_H => Q = ax_Q G X h0 w.2 (some (.int (Int32.ofInt w.1)))) w) : ax_W G X Q h 63 ls [.int (Int32.ofInt s0)] := by
  unfold f_X0_terms_63 at e
  refine ax_istore_n (L' := [(3, .inl s0), (0, .inr (.inr x0)), (1, .inl x1), (2, .inl x2)]) B dX0_terms_63 rfl hl (by decide) rfl (fun ls hl => ?_)
  refine ax_iload_n B dX0_terms_64 rfl hl 2 rfl ?_
  refine ax_if_ne (tgt := 79) B dX0_terms_65 (by decide) e (fun e => ?_) (fun e => ?_)
  · refine ax_aload_n B dX0_terms_68 rfl hl 1 rfl ?_
    refine ax_ivR (y := yX0_books) (n := 0) (As := []) B kd0 (lw_V q443 q445 qs2 q125 q446) (by decide +kernel) ⟨Nat.le_of_ble_eq_true rfl, Nat.le_of_ble_eq_true rfl⟩ (fun w1 e1 => mt_X0_books l G hSF x0 _ w1 e1) rfl hl.size (by decide) dX0_terms_69 e (fun q1 e => ?_)
    refine ax_iload_n B dX0_terms_72 rfl hl 3 rfl ?_
    refine ax_putI B ff_X0_194_2 (Or.inl rfl) rfl dX0_terms_73 e (fun h2 e => ?_)
    refine ax_goto (tgt := 87) B dX0_terms_76 (by decide) ?_
    exact w_X0_terms_87 hSF B Z hn x0 s0 (hl.sub [1, 0] rfl) e hp
  · refine ax_aload_n B dX0_terms_79 rfl hl 1 rfl ?_
    refine ax_getR B ff_X0_20_0 (fun _ _ => rfl) dX0_terms_80 e (fun v3 e => ?_)
    refine ax_iload_n B dX0_terms_83 rfl hl 3 rfl ?_
    refine ax_putI B ff_X0_197_1 (Or.inl rfl) rfl dX0_terms_84 e (fun h4 e => ?_)
    exact w_X0_terms_87 hSF B Z hn x0 s0 (hl.sub [1, 0] rfl) e hp
set_option maxHeartbeats 4000000 in
theorem w_X0_terms_42 {l : Launch} {G : ax_G} {X : ax_X} {Q : State → Prop} {h0 h : ax_H} {ls : Array Slot} (hSF : ax_SF G) (B : ax_BL l G X cX0_terms 4 RX0 3 84) (Z : ax_Z X h0 ((some FieldType.int))) (hn : X.2.2.2.2.2.2.2.2.1.name = yX0_terms.name) (x0 : Option Nat) (x1 : Int) (x2 : Int) {w : Int × ax_H} (hl : ax_hl ls 4 [(0, .inr (.inr x0)), (1, .inl x1), (2, .inl x2)]) (e : f_X0_terms_42 G.2.2 x0 x1 x2 h = some w) (hp : (fun w : Int × ax_H => Q = ax_Q G X h0 w.2 (some (.int (Int32.ofInt w.1)))) w) : ax_W G X Q h 42 ls [] := by
  unfold f_X0_terms_42 at e
  refine ax_iload_n B dX0_terms_42 rfl hl 1 rfl ?_
  refine ax_if_ne (tgt := 56) B dX0_terms_43 (by decide) e (fun e => ?_) (fun e => ?_)
  · refine ax_aload_n B dX0_terms_46 rfl hl 0 rfl ?_
    refine ax_ivR (y := yX0_books) (n := 0) (As := []) B kd0 (lw_V q443 q445 qs2 q125 q446) (by decide +kernel) ⟨Nat.le_of_ble_eq_true rfl, Nat.le_of_ble_eq_true rfl⟩ (fun w1 e1 => mt_X0_books l G hSF x0 _ w1 e1) rfl hl.size (by decide) dX0_terms_47 e (fun q1 e => ?_)
    refine ax_getI B ff_X0_194_2 (fun _ _ => rfl) dX0_terms_50 e (fun v2 e => ?_)
    refine ax_goto (tgt := 63) B dX0_terms_53 (by decide) ?_
    exact w_X0_terms_63 hSF B Z hn x0 x1 x2 v2 (hl.sub [0, 1, 2] rfl) e hp
  · refine ax_aload_n B dX0_terms_56 rfl hl 0 rfl ?_
    refine ax_getR B ff_X0_20_0 (fun _ _ => rfl) dX0_terms_57 e (fun v3 e => ?_)
    refine ax_getI B ff_X0_197_1 (fun _ _ => rfl) dX0_terms_60 e (fun v4 e => ?_)
    exact w_X0_terms_63 hSF B Z hn x0 x1 x2 v4 (hl.sub [0, 1, 2] rfl) e hp
set_option maxHeartbeats 4000000 in
theorem we_X0_terms {l : Launch} {G : ax_G} {X : ax_X} {Q : State → Prop} {h0 h : ax_H} {ls : Array Slot} (hSF : ax_SF G) (B : ax_BL l G X cX0_terms 4 RX0 3 84) (Z : ax_Z X h0 ((some FieldType.int))) (hn : X.2.2.2.2.2.2.2.2.1.name = yX0_terms.name) (x0 : Option Nat) (x1 : Int) (x2 : Int) {w : Int × ax_H} (hl : ax_hl ls 4 [(0, .inr (.inr x0)), (1, .inl x1), (2, .inl x2)]) (e : f_X0_terms G.2.2 x0 x1 x2 h = some w) (hp : (fun w : Int × ax_H => Q = ax_Q G X h0 w.2 (some (.int (Int32.ofInt w.1)))) w) : ax_W G X Q h 0 ls [] := by
  unfold f_X0_terms at e
  refine ax_iload_n B dX0_terms_0 rfl hl 1 rfl ?_
  refine ax_if_ne (tgt := 19) B dX0_terms_1 (by decide) e (fun e => ?_) (fun e => ?_)
  · refine ax_iload_n B dX0_terms_4 rfl hl 2 rfl ?_
    refine ax_i2l' B dX0_terms_5 ?_
    refine ax_lconst (v := 0) B dX0_terms_6 rfl ?_
    refine ax_ldc2 B cn_X0_190 dX0_terms_7 ?_
    refine ax_isI (y := yX0_in) (n := 3) (As := [.long (Int64.ofInt (i2 x2)), .long (Int64.ofInt 0), .long (Int64.ofInt 999)]) B (lw_S q420 q421 q125 q422) (by decide +kernel) ⟨Nat.le_of_ble_eq_true rfl, Nat.le_of_ble_eq_true rfl⟩ (fun w1 e1 => mt_X0_in l G hSF (i2 x2) 0 999 _ w1 e1) rfl hl.size (by decide) dX0_terms_10 e (fun q1 e => ?_)
    refine ax_if_ne (tgt := 42) B dX0_terms_13 (by decide) e (fun e => ?_) (fun e => ?_)
    · refine ax_goto (tgt := 36) B dX0_terms_16 (by decide) ?_
      exact w_X0_terms_36 hSF B Z hn x0 (hl.sub [0] rfl) e hp
    · exact w_X0_terms_42 hSF B Z hn x0 x1 x2 (hl.sub [0, 1, 2] rfl) e hp
  · refine ax_iload_n B dX0_terms_19 rfl hl 1 rfl ?_
    refine ax_iconst B dX0_terms_20 ?_
    refine ax_icmp_ne (tgt := 36) B dX0_terms_21 (by decide) e (fun e => ?_) (fun e => ?_)
    · refine ax_iload_n B dX0_terms_24 rfl hl 2 rfl ?_
      refine ax_i2l' B dX0_terms_25 ?_
      refine ax_lconst (v := 0) B dX0_terms_26 rfl ?_
      refine ax_ldc2 B cn_X0_192 dX0_terms_27 ?_
      refine ax_isI (y := yX0_in) (n := 3) (As := [.long (Int64.ofInt (i2 x2)), .long (Int64.ofInt 0), .long (Int64.ofInt 9)]) B (lw_S q420 q421 q125 q422) (by decide +kernel) ⟨Nat.le_of_ble_eq_true rfl, Nat.le_of_ble_eq_true rfl⟩ (fun w1 e1 => mt_X0_in l G hSF (i2 x2) 0 9 _ w1 e1) rfl hl.size (by decide) dX0_terms_30 e (fun q2 e => ?_)
      refine ax_if_ne (tgt := 42) B dX0_terms_33 (by decide) e (fun e => ?_) (fun e => ?_)
      · exact w_X0_terms_36 hSF B Z hn x0 (hl.sub [0] rfl) e hp
      · exact w_X0_terms_42 hSF B Z hn x0 x1 x2 (hl.sub [0, 1, 2] rfl) e hp
    · exact w_X0_terms_36 hSF B Z hn x0 (hl.sub [0] rfl) e hp
theorem mt_X0_terms (l : Launch) (G : ax_G) (hSF : ax_SF G) (x0 : Option Nat) (x1 : Int) (x2 : Int) (h : ax_H) (w : Int × ax_H) (e : f_X0_terms G.2.2 x0 x1 x2 h = some w) : ax_Met l G yX0_terms cX0_terms 4 ((some FieldType.int)) 3 84 [va_rf x0, .int (Int32.ofInt x1), .int (Int32.ofInt x2)] h w.2 (some (.int (Int32.ofInt w.1))) :=
  ax_enter [.inr (.inr x0), .inl x1, .inl x2] (y := yX0_terms) hSF (plainFor_of_name (by decide +kernel)) (Nat.le_of_ble_eq_true rfl) (fun X ls B Z hn hl => we_X0_terms hSF B Z hn x0 x1 x2 hl e rfl)
def dkwX0_byteAt_0 : List UInt8 := [42, 27, 51, 17, 0, 255, 126, 172]
abbrev dktX0_byteAt_0 : List UInt8 := dkwX0_byteAt_0 ++ []
theorem dksX0_byteAt_0 : cX0_byteAt.data.toList.drop 0 = dktX0_byteAt_0 := by decide +kernel
theorem dX0_byteAt_0 : decode cX0_byteAt 0 = .ok (.aload_n 0, 1) := dk_42 (dk_at dksX0_byteAt_0 0 rfl rfl)
theorem dX0_byteAt_1 : decode cX0_byteAt 1 = .ok (.iload_n 1, 1) := dk_27 (dk_at dksX0_byteAt_0 1 rfl rfl)
theorem dX0_byteAt_2 : decode cX0_byteAt 2 = .ok (.baload, 1) := dk_51 (dk_at dksX0_byteAt_0 2 rfl rfl)
theorem dX0_byteAt_3 : decode cX0_byteAt 3 = .ok (.sipush 255, 3) := dk_17 0 255 (dk_at dksX0_byteAt_0 3 rfl rfl)
theorem dX0_byteAt_6 : decode cX0_byteAt 6 = .ok (.iand, 1) := dk_126 (dk_at dksX0_byteAt_0 6 rfl rfl)
theorem dX0_byteAt_7 : decode cX0_byteAt 7 = .ok (.ireturn, 1) := dk_172 (dk_at dksX0_byteAt_0 7 rfl rfl)
noncomputable def f_X0_byteAt (E : ax_E) (x0 : Option Nat) (x1 : Int) (h : ax_H) : Option (Int × ax_H) :=
  (ax_ld E h x0 101 x1).bind fun v1 =>
  some ((ax_and v1 255), h)
set_option maxHeartbeats 4000000 in
theorem we_X0_byteAt {l : Launch} {G : ax_G} {X : ax_X} {Q : State → Prop} {h0 h : ax_H} {ls : Array Slot} (hSF : ax_SF G) (B : ax_BL l G X cX0_byteAt 2 RX0 1 40) (Z : ax_Z X h0 ((some FieldType.int))) (hn : X.2.2.2.2.2.2.2.2.1.name = yX0_byteAt.name) (x0 : Option Nat) (x1 : Int) {w : Int × ax_H} (hl : ax_hl ls 2 [(0, .inr (.inr x0)), (1, .inl x1)]) (e : f_X0_byteAt G.2.2 x0 x1 h = some w) (hp : (fun w : Int × ax_H => Q = ax_Q G X h0 w.2 (some (.int (Int32.ofInt w.1)))) w) : ax_W G X Q h 0 ls [] := by
  unfold f_X0_byteAt at e
  refine ax_aload_n B dX0_byteAt_0 rfl hl 0 rfl ?_
  refine ax_iload_n B dX0_byteAt_1 rfl hl 1 rfl ?_
  refine ax_bald B kd101 dX0_byteAt_2 e (fun v1 e => ?_)
  refine ax_sipush B dX0_byteAt_3 (by decide) ?_
  refine ax_iand' B dX0_byteAt_6 ?_
  have e8 := e
  have hp : Q = _ := hp
  subst hp
  exact ax_ireturn B Z dX0_byteAt_7 e8
theorem mt_X0_byteAt (l : Launch) (G : ax_G) (hSF : ax_SF G) (x0 : Option Nat) (x1 : Int) (h : ax_H) (w : Int × ax_H) (e : f_X0_byteAt G.2.2 x0 x1 h = some w) : ax_Met l G yX0_byteAt cX0_byteAt 2 ((some FieldType.int)) 1 40 [va_rf x0, .int (Int32.ofInt x1)] h w.2 (some (.int (Int32.ofInt w.1))) :=
  ax_enter [.inr (.inr x0), .inl x1] (y := yX0_byteAt) hSF (plainFor_of_name (by decide +kernel)) (Nat.le_of_ble_eq_true rfl) (fun X ls B Z hn hl => we_X0_byteAt hSF B Z hn x0 x1 hl e rfl)
theorem dX0_blots_0 : decode cX0_blots 0 = .ok (.aload_n 0, 1) := by decide +kernel
theorem dX0_blots_1 : decode cX0_blots 1 = .ok (.getfield 206, 3) := by decide +kernel
theorem dX0_blots_4 : decode cX0_blots 4 = .ok (.ireturn, 1) := by decide +kernel
noncomputable def f_X0_blots (E : ax_E) (x0 : Option Nat) (h : ax_H) : Option (Int × ax_H) :=
  (ax_gI E h x0 0 9).bind fun v1 =>
  some (v1, h)
set_option maxHeartbeats 4000000 in
theorem we_X0_blots {l : Launch} {G : ax_G} {X : ax_X} {Q : State → Prop} {h0 h : ax_H} {ls : Array Slot} (hSF : ax_SF G) (B : ax_BL l G X cX0_blots 1 RX0 1 40) (Z : ax_Z X h0 ((some FieldType.int))) (hn : X.2.2.2.2.2.2.2.2.1.name = yX0_blots.name) (x0 : Option Nat) {w : Int × ax_H} (hl : ax_hl ls 1 [(0, .inr (.inr x0))]) (e : f_X0_blots G.2.2 x0 h = some w) (hp : (fun w : Int × ax_H => Q = ax_Q G X h0 w.2 (some (.int (Int32.ofInt w.1)))) w) : ax_W G X Q h 0 ls [] := by
  unfold f_X0_blots at e
  refine ax_aload_n B dX0_blots_0 rfl hl 0 rfl ?_
  refine ax_getI B ff_X0_206_0 (fun _ _ => rfl) dX0_blots_1 e (fun v1 e => ?_)
  have e8 := e
  have hp : Q = _ := hp
  subst hp
  exact ax_ireturn B Z dX0_blots_4 e8
theorem mt_X0_blots (l : Launch) (G : ax_G) (hSF : ax_SF G) (x0 : Option Nat) (h : ax_H) (w : Int × ax_H) (e : f_X0_blots G.2.2 x0 h = some w) : ax_Met l G yX0_blots cX0_blots 1 ((some FieldType.int)) 1 40 [va_rf x0] h w.2 (some (.int (Int32.ofInt w.1))) :=
  ax_enter [.inr (.inr x0)] (y := yX0_blots) hSF (plainFor_of_name (by decide +kernel)) (Nat.le_of_ble_eq_true rfl) (fun X ls B Z hn hl => we_X0_blots hSF B Z hn x0 hl e rfl)
theorem dJ2_size_0 : decode cJ2_size 0 = .ok (.aload_n 0, 1) := by decide +kernel
theorem dJ2_size_1 : decode cJ2_size 1 = .ok (.getfield 48, 3) := by decide +kernel
theorem dJ2_size_4 : decode cJ2_size 4 = .ok (.ireturn, 1) := by decide +kernel
noncomputable def f_J2_size (E : ax_E) (x0 : Option Nat) (h : ax_H) : Option (Int × ax_H) :=
  (ax_gI E h x0 42 2).bind fun v1 =>
  some (v1, h)
set_option maxHeartbeats 4000000 in
theorem we_J2_size {l : Launch} {G : ax_G} {X : ax_X} {Q : State → Prop} {h0 h : ax_H} {ls : Array Slot} (hSF : ax_SF G) (B : ax_BL l G X cJ2_size 1 RJ2 1 40) (Z : ax_Z X h0 ((some FieldType.int))) (hn : X.2.2.2.2.2.2.2.2.1.name = yJ2_size.name) (x0 : Option Nat) {w : Int × ax_H} (hl : ax_hl ls 1 [(0, .inr (.inr x0))]) (e : f_J2_size G.2.2 x0 h = some w) (hp : (fun w : Int × ax_H => Q = ax_Q G X h0 w.2 (some (.int (Int32.ofInt w.1)))) w) : ax_W G X Q h 0 ls [] := by
  unfold f_J2_size at e
  refine ax_aload_n B dJ2_size_0 rfl hl 0 rfl ?_
  refine ax_getI B ff_J2_48_42 (fun _ _ => rfl) dJ2_size_1 e (fun v1 e => ?_)
  have e8 := e
  have hp : Q = _ := hp
  subst hp
  exact ax_ireturn B Z dJ2_size_4 e8
theorem mt_J2_size (l : Launch) (G : ax_G) (hSF : ax_SF G) (x0 : Option Nat) (h : ax_H) (w : Int × ax_H) (e : f_J2_size G.2.2 x0 h = some w) : ax_Met l G yJ2_size cJ2_size 1 ((some FieldType.int)) 1 40 [va_rf x0] h w.2 (some (.int (Int32.ofInt w.1))) :=
  ax_enter [.inr (.inr x0)] (y := yJ2_size) hSF (plainFor_of_name (by decide +kernel)) (Nat.le_of_ble_eq_true rfl) (fun X ls B Z hn hl => we_J2_size hSF B Z hn x0 hl e rfl)
def dkwX6_init_0 : List UInt8 := [42, 43, 181, 0, 3, 42, 183, 0, 9, 42, 16, 50, 189, 0, 15, 181, 0, 17, 42, 44, 181, 0, 21, 177]
abbrev dktX6_init_0 : List UInt8 := dkwX6_init_0 ++ []
theorem dksX6_init_0 : cX6_init.data.toList.drop 0 = dktX6_init_0 := by decide +kernel
theorem dX6_init_0 : decode cX6_init 0 = .ok (.aload_n 0, 1) := dk_42 (dk_at dksX6_init_0 0 rfl rfl)
theorem dX6_init_1 : decode cX6_init 1 = .ok (.aload_n 1, 1) := dk_43 (dk_at dksX6_init_0 1 rfl rfl)
theorem dX6_init_2 : decode cX6_init 2 = .ok (.putfield 3, 3) := dk_181 0 3 (dk_at dksX6_init_0 2 rfl rfl)
theorem dX6_init_5 : decode cX6_init 5 = .ok (.aload_n 0, 1) := dk_42 (dk_at dksX6_init_0 5 rfl rfl)
theorem dX6_init_6 : decode cX6_init 6 = .ok (.invokespecial 9, 3) := dk_183 0 9 (dk_at dksX6_init_0 6 rfl rfl)
theorem dX6_init_9 : decode cX6_init 9 = .ok (.aload_n 0, 1) := dk_42 (dk_at dksX6_init_0 9 rfl rfl)
theorem dX6_init_10 : decode cX6_init 10 = .ok (.bipush 50, 2) := dk_16 50 (dk_at dksX6_init_0 10 rfl rfl)
theorem dX6_init_12 : decode cX6_init 12 = .ok (.anewarray 15, 3) := dk_189 0 15 (dk_at dksX6_init_0 12 rfl rfl)
theorem dX6_init_15 : decode cX6_init 15 = .ok (.putfield 17, 3) := dk_181 0 17 (dk_at dksX6_init_0 15 rfl rfl)
theorem dX6_init_18 : decode cX6_init 18 = .ok (.aload_n 0, 1) := dk_42 (dk_at dksX6_init_0 18 rfl rfl)
theorem dX6_init_19 : decode cX6_init 19 = .ok (.aload_n 2, 1) := dk_44 (dk_at dksX6_init_0 19 rfl rfl)
theorem dX6_init_20 : decode cX6_init 20 = .ok (.putfield 21, 3) := dk_181 0 21 (dk_at dksX6_init_0 20 rfl rfl)
theorem dX6_init_23 : decode cX6_init 23 = .ok (.return_, 1) := dk_177 (dk_at dksX6_init_0 23 rfl rfl)
noncomputable def f_X6_init (E : ax_E) (x0 : Option Nat) (x1 : Option Nat) (x2 : Option Nat) (h : ax_H) : Option (ax_H) :=
  (ax_pRs h x0 [(25, 7), (7, 7)] x1).bind fun h1 =>
  x0.bind fun _ =>
  (ax_na E h1 109 50).bind fun q2 =>
  (ax_pRs q2.2 x0 [(25, 5), (7, 5)] (some q2.1)).bind fun h3 =>
  (ax_pRs h3 x0 [(25, 6), (7, 6)] x2).bind fun h4 =>
  some h4
set_option maxHeartbeats 4000000 in
theorem we_X6_init {l : Launch} {G : ax_G} {X : ax_X} {Q : State → Prop} {h0 h : ax_H} {ls : Array Slot} (hSF : ax_SF G) (B : ax_BL l G X cX6_init 3 RX6 1 40) (Z : ax_Z X h0 none) (hn : X.2.2.2.2.2.2.2.2.1.name = yX6_init.name) (x0 : Option Nat) (x1 : Option Nat) (x2 : Option Nat) {w : ax_H} (hl : ax_hl ls 3 [(0, .inr (.inr x0)), (1, .inr (.inr x1)), (2, .inr (.inr x2))]) (e : f_X6_init G.2.2 x0 x1 x2 h = some w) (hp : (fun w : ax_H => Q = ax_Q G X h0 w none) w) : ax_W G X Q h 0 ls [] := by
  unfold f_X6_init at e
  refine ax_aload_n B dX6_init_0 rfl hl 0 rfl ?_
  refine ax_aload_n B dX6_init_1 rfl hl 1 rfl ?_
  refine ax_putRs B fs_X6_3 (Or.inr ⟨rfl, rfl, hn⟩) rfl dX6_init_2 e (fun h1 e => ?_)
  refine ax_aload_n B dX6_init_5 rfl hl 0 rfl ?_
  refine ax_oiR B q733 q183 q184 hl.size (by decide) (by decide) dX6_init_6 e (fun e => ?_)
  refine ax_aload_n B dX6_init_9 rfl hl 0 rfl ?_
  refine ax_bipush B dX6_init_10 (by decide) ?_
  refine ax_anew B kd109 q734 q735 dX6_init_12 e (fun q2 e => ?_)
  refine ax_putRs B fs_X6_17 (Or.inr ⟨rfl, rfl, hn⟩) rfl dX6_init_15 e (fun h3 e => ?_)
  refine ax_aload_n B dX6_init_18 rfl hl 0 rfl ?_
  refine ax_aload_n B dX6_init_19 rfl hl 2 rfl ?_
  refine ax_putRs B fs_X6_21 (Or.inr ⟨rfl, rfl, hn⟩) rfl dX6_init_20 e (fun h4 e => ?_)
  have e8 := e
  have hp : Q = _ := hp
  subst hp
  exact ax_return B Z dX6_init_23 e8
theorem mt_X6_init (l : Launch) (G : ax_G) (hSF : ax_SF G) (x0 : Option Nat) (x1 : Option Nat) (x2 : Option Nat) (h : ax_H) (w : ax_H) (e : f_X6_init G.2.2 x0 x1 x2 h = some w) : ax_Met l G yX6_init cX6_init 3 none 1 40 [va_rf x0, va_rf x1, va_rf x2] h w none :=
  ax_enter [.inr (.inr x0), .inr (.inr x1), .inr (.inr x2)] (y := yX6_init) hSF (plainFor_of_name (by decide +kernel)) (Nat.le_of_ble_eq_true rfl) (fun X ls B Z hn hl => we_X6_init hSF B Z hn x0 x1 x2 hl e rfl)
def dkwX7_init_4 : List UInt8 := [18, 47, 83, 89, 6, 18, 49, 83, 181, 0, 51, 177]
abbrev dktX7_init_4 : List UInt8 := dkwX7_init_4 ++ []
def dkwX7_init_3 : List UInt8 := [189, 0, 37, 181, 0, 39, 42, 7, 189, 0, 9, 89, 3, 18, 43, 83, 89, 4, 18, 45, 83, 89, 5]
abbrev dktX7_init_3 : List UInt8 := dkwX7_init_3 ++ dktX7_init_4
def dkwX7_init_2 : List UInt8 := [89, 16, 7, 18, 25, 83, 89, 16, 8, 18, 27, 83, 89, 16, 9, 18, 29, 83, 183, 0, 31, 42, 16, 12]
abbrev dktX7_init_2 : List UInt8 := dkwX7_init_2 ++ dktX7_init_3
def dkwX7_init_1 : List UInt8 := [18, 15, 83, 89, 6, 18, 17, 83, 89, 7, 18, 19, 83, 89, 8, 18, 21, 83, 89, 16, 6, 18, 23, 83]
abbrev dktX7_init_1 : List UInt8 := dkwX7_init_1 ++ dktX7_init_2
def dkwX7_init_0 : List UInt8 := [42, 43, 181, 0, 3, 42, 43, 16, 10, 189, 0, 9, 89, 3, 18, 11, 83, 89, 4, 18, 13, 83, 89, 5]
abbrev dktX7_init_0 : List UInt8 := dkwX7_init_0 ++ dktX7_init_1
theorem dksX7_init_0 : cX7_init.data.toList.drop 0 = dktX7_init_0 := by decide +kernel
theorem dksX7_init_1 : cX7_init.data.toList.drop 24 = dktX7_init_1 := dk_seg dksX7_init_0 24 rfl rfl
theorem dksX7_init_2 : cX7_init.data.toList.drop 48 = dktX7_init_2 := dk_seg dksX7_init_1 24 rfl rfl
theorem dksX7_init_3 : cX7_init.data.toList.drop 72 = dktX7_init_3 := dk_seg dksX7_init_2 24 rfl rfl
theorem dksX7_init_4 : cX7_init.data.toList.drop 95 = dktX7_init_4 := dk_seg dksX7_init_3 23 rfl rfl
theorem dX7_init_0 : decode cX7_init 0 = .ok (.aload_n 0, 1) := dk_42 (dk_at dksX7_init_0 0 rfl rfl)
theorem dX7_init_1 : decode cX7_init 1 = .ok (.aload_n 1, 1) := dk_43 (dk_at dksX7_init_0 1 rfl rfl)
theorem dX7_init_2 : decode cX7_init 2 = .ok (.putfield 3, 3) := dk_181 0 3 (dk_at dksX7_init_0 2 rfl rfl)
theorem dX7_init_5 : decode cX7_init 5 = .ok (.aload_n 0, 1) := dk_42 (dk_at dksX7_init_0 5 rfl rfl)
theorem dX7_init_6 : decode cX7_init 6 = .ok (.aload_n 1, 1) := dk_43 (dk_at dksX7_init_0 6 rfl rfl)
theorem dX7_init_7 : decode cX7_init 7 = .ok (.bipush 10, 2) := dk_16 10 (dk_at dksX7_init_0 7 rfl rfl)
theorem dX7_init_9 : decode cX7_init 9 = .ok (.anewarray 9, 3) := dk_189 0 9 (dk_at dksX7_init_0 9 rfl rfl)
theorem dX7_init_12 : decode cX7_init 12 = .ok (.dup, 1) := dk_89 (dk_at dksX7_init_0 12 rfl rfl)
theorem dX7_init_13 : decode cX7_init 13 = .ok (.iconst 0, 1) := dk_3 (dk_at dksX7_init_0 13 rfl rfl)
theorem dX7_init_14 : decode cX7_init 14 = .ok (.ldc 11, 2) := dk_18 11 (dk_at dksX7_init_0 14 rfl rfl)
theorem dX7_init_16 : decode cX7_init 16 = .ok (.aastore, 1) := dk_83 (dk_at dksX7_init_0 16 rfl rfl)
theorem dX7_init_17 : decode cX7_init 17 = .ok (.dup, 1) := dk_89 (dk_at dksX7_init_0 17 rfl rfl)
theorem dX7_init_18 : decode cX7_init 18 = .ok (.iconst 1, 1) := dk_4 (dk_at dksX7_init_0 18 rfl rfl)
theorem dX7_init_19 : decode cX7_init 19 = .ok (.ldc 13, 2) := dk_18 13 (dk_at dksX7_init_0 19 rfl rfl)
theorem dX7_init_21 : decode cX7_init 21 = .ok (.aastore, 1) := dk_83 (dk_at dksX7_init_0 21 rfl rfl)
theorem dX7_init_22 : decode cX7_init 22 = .ok (.dup, 1) := dk_89 (dk_at dksX7_init_0 22 rfl rfl)
theorem dX7_init_23 : decode cX7_init 23 = .ok (.iconst 2, 1) := dk_5 (dk_at dksX7_init_0 23 rfl rfl)
theorem dX7_init_24 : decode cX7_init 24 = .ok (.ldc 15, 2) := dk_18 15 (dk_at dksX7_init_1 0 rfl rfl)
theorem dX7_init_26 : decode cX7_init 26 = .ok (.aastore, 1) := dk_83 (dk_at dksX7_init_1 2 rfl rfl)
theorem dX7_init_27 : decode cX7_init 27 = .ok (.dup, 1) := dk_89 (dk_at dksX7_init_1 3 rfl rfl)
theorem dX7_init_28 : decode cX7_init 28 = .ok (.iconst 3, 1) := dk_6 (dk_at dksX7_init_1 4 rfl rfl)
theorem dX7_init_29 : decode cX7_init 29 = .ok (.ldc 17, 2) := dk_18 17 (dk_at dksX7_init_1 5 rfl rfl)
theorem dX7_init_31 : decode cX7_init 31 = .ok (.aastore, 1) := dk_83 (dk_at dksX7_init_1 7 rfl rfl)
theorem dX7_init_32 : decode cX7_init 32 = .ok (.dup, 1) := dk_89 (dk_at dksX7_init_1 8 rfl rfl)
theorem dX7_init_33 : decode cX7_init 33 = .ok (.iconst 4, 1) := dk_7 (dk_at dksX7_init_1 9 rfl rfl)
theorem dX7_init_34 : decode cX7_init 34 = .ok (.ldc 19, 2) := dk_18 19 (dk_at dksX7_init_1 10 rfl rfl)
theorem dX7_init_36 : decode cX7_init 36 = .ok (.aastore, 1) := dk_83 (dk_at dksX7_init_1 12 rfl rfl)
theorem dX7_init_37 : decode cX7_init 37 = .ok (.dup, 1) := dk_89 (dk_at dksX7_init_1 13 rfl rfl)
theorem dX7_init_38 : decode cX7_init 38 = .ok (.iconst 5, 1) := dk_8 (dk_at dksX7_init_1 14 rfl rfl)
theorem dX7_init_39 : decode cX7_init 39 = .ok (.ldc 21, 2) := dk_18 21 (dk_at dksX7_init_1 15 rfl rfl)
theorem dX7_init_41 : decode cX7_init 41 = .ok (.aastore, 1) := dk_83 (dk_at dksX7_init_1 17 rfl rfl)
theorem dX7_init_42 : decode cX7_init 42 = .ok (.dup, 1) := dk_89 (dk_at dksX7_init_1 18 rfl rfl)
theorem dX7_init_43 : decode cX7_init 43 = .ok (.bipush 6, 2) := dk_16 6 (dk_at dksX7_init_1 19 rfl rfl)
theorem dX7_init_45 : decode cX7_init 45 = .ok (.ldc 23, 2) := dk_18 23 (dk_at dksX7_init_1 21 rfl rfl)
theorem dX7_init_47 : decode cX7_init 47 = .ok (.aastore, 1) := dk_83 (dk_at dksX7_init_1 23 rfl rfl)
theorem dX7_init_48 : decode cX7_init 48 = .ok (.dup, 1) := dk_89 (dk_at dksX7_init_2 0 rfl rfl)
theorem dX7_init_49 : decode cX7_init 49 = .ok (.bipush 7, 2) := dk_16 7 (dk_at dksX7_init_2 1 rfl rfl)
theorem dX7_init_51 : decode cX7_init 51 = .ok (.ldc 25, 2) := dk_18 25 (dk_at dksX7_init_2 3 rfl rfl)
theorem dX7_init_53 : decode cX7_init 53 = .ok (.aastore, 1) := dk_83 (dk_at dksX7_init_2 5 rfl rfl)
theorem dX7_init_54 : decode cX7_init 54 = .ok (.dup, 1) := dk_89 (dk_at dksX7_init_2 6 rfl rfl)
theorem dX7_init_55 : decode cX7_init 55 = .ok (.bipush 8, 2) := dk_16 8 (dk_at dksX7_init_2 7 rfl rfl)
theorem dX7_init_57 : decode cX7_init 57 = .ok (.ldc 27, 2) := dk_18 27 (dk_at dksX7_init_2 9 rfl rfl)
theorem dX7_init_59 : decode cX7_init 59 = .ok (.aastore, 1) := dk_83 (dk_at dksX7_init_2 11 rfl rfl)
theorem dX7_init_60 : decode cX7_init 60 = .ok (.dup, 1) := dk_89 (dk_at dksX7_init_2 12 rfl rfl)
theorem dX7_init_61 : decode cX7_init 61 = .ok (.bipush 9, 2) := dk_16 9 (dk_at dksX7_init_2 13 rfl rfl)
theorem dX7_init_63 : decode cX7_init 63 = .ok (.ldc 29, 2) := dk_18 29 (dk_at dksX7_init_2 15 rfl rfl)
theorem dX7_init_65 : decode cX7_init 65 = .ok (.aastore, 1) := dk_83 (dk_at dksX7_init_2 17 rfl rfl)
theorem dX7_init_66 : decode cX7_init 66 = .ok (.invokespecial 31, 3) := dk_183 0 31 (dk_at dksX7_init_2 18 rfl rfl)
theorem dX7_init_69 : decode cX7_init 69 = .ok (.aload_n 0, 1) := dk_42 (dk_at dksX7_init_2 21 rfl rfl)
theorem dX7_init_70 : decode cX7_init 70 = .ok (.bipush 12, 2) := dk_16 12 (dk_at dksX7_init_2 22 rfl rfl)
theorem dX7_init_72 : decode cX7_init 72 = .ok (.anewarray 37, 3) := dk_189 0 37 (dk_at dksX7_init_3 0 rfl rfl)
theorem dX7_init_75 : decode cX7_init 75 = .ok (.putfield 39, 3) := dk_181 0 39 (dk_at dksX7_init_3 3 rfl rfl)
theorem dX7_init_78 : decode cX7_init 78 = .ok (.aload_n 0, 1) := dk_42 (dk_at dksX7_init_3 6 rfl rfl)
theorem dX7_init_79 : decode cX7_init 79 = .ok (.iconst 4, 1) := dk_7 (dk_at dksX7_init_3 7 rfl rfl)
theorem dX7_init_80 : decode cX7_init 80 = .ok (.anewarray 9, 3) := dk_189 0 9 (dk_at dksX7_init_3 8 rfl rfl)
theorem dX7_init_83 : decode cX7_init 83 = .ok (.dup, 1) := dk_89 (dk_at dksX7_init_3 11 rfl rfl)
theorem dX7_init_84 : decode cX7_init 84 = .ok (.iconst 0, 1) := dk_3 (dk_at dksX7_init_3 12 rfl rfl)
theorem dX7_init_85 : decode cX7_init 85 = .ok (.ldc 43, 2) := dk_18 43 (dk_at dksX7_init_3 13 rfl rfl)
theorem dX7_init_87 : decode cX7_init 87 = .ok (.aastore, 1) := dk_83 (dk_at dksX7_init_3 15 rfl rfl)
theorem dX7_init_88 : decode cX7_init 88 = .ok (.dup, 1) := dk_89 (dk_at dksX7_init_3 16 rfl rfl)
theorem dX7_init_89 : decode cX7_init 89 = .ok (.iconst 1, 1) := dk_4 (dk_at dksX7_init_3 17 rfl rfl)
theorem dX7_init_90 : decode cX7_init 90 = .ok (.ldc 45, 2) := dk_18 45 (dk_at dksX7_init_3 18 rfl rfl)
theorem dX7_init_92 : decode cX7_init 92 = .ok (.aastore, 1) := dk_83 (dk_at dksX7_init_3 20 rfl rfl)
theorem dX7_init_93 : decode cX7_init 93 = .ok (.dup, 1) := dk_89 (dk_at dksX7_init_3 21 rfl rfl)
theorem dX7_init_94 : decode cX7_init 94 = .ok (.iconst 2, 1) := dk_5 (dk_at dksX7_init_3 22 rfl rfl)
theorem dX7_init_95 : decode cX7_init 95 = .ok (.ldc 47, 2) := dk_18 47 (dk_at dksX7_init_4 0 rfl rfl)
theorem dX7_init_97 : decode cX7_init 97 = .ok (.aastore, 1) := dk_83 (dk_at dksX7_init_4 2 rfl rfl)
theorem dX7_init_98 : decode cX7_init 98 = .ok (.dup, 1) := dk_89 (dk_at dksX7_init_4 3 rfl rfl)
theorem dX7_init_99 : decode cX7_init 99 = .ok (.iconst 3, 1) := dk_6 (dk_at dksX7_init_4 4 rfl rfl)
theorem dX7_init_100 : decode cX7_init 100 = .ok (.ldc 49, 2) := dk_18 49 (dk_at dksX7_init_4 5 rfl rfl)
theorem dX7_init_102 : decode cX7_init 102 = .ok (.aastore, 1) := dk_83 (dk_at dksX7_init_4 7 rfl rfl)
theorem dX7_init_103 : decode cX7_init 103 = .ok (.putfield 51, 3) := dk_181 0 51 (dk_at dksX7_init_4 8 rfl rfl)
theorem dX7_init_106 : decode cX7_init 106 = .ok (.return_, 1) := dk_177 (dk_at dksX7_init_4 11 rfl rfl)
noncomputable def f_X7_init (E : ax_E) (x0 : Option Nat) (x1 : Option Nat) (h : ax_H) : Option (ax_H) :=
  (ax_pR h x0 7 10 x1).bind fun h1 =>
  (ax_na E h1 108 10).bind fun q2 =>
  (ax_cst E 10).bind fun v3 =>
  (ax_stR E oj_108 q2.2 (some q2.1) 108 0 v3).bind fun h4 =>
  (ax_cst E 11).bind fun v5 =>
  (ax_stR E oj_108 h4 (some q2.1) 108 1 v5).bind fun h6 =>
  (ax_cst E 12).bind fun v7 =>
  (ax_stR E oj_108 h6 (some q2.1) 108 2 v7).bind fun h8 =>
  (ax_cst E 13).bind fun v9 =>
  (ax_stR E oj_108 h8 (some q2.1) 108 3 v9).bind fun h10 =>
  (ax_cst E 14).bind fun v11 =>
  (ax_stR E oj_108 h10 (some q2.1) 108 4 v11).bind fun h12 =>
  (ax_cst E 15).bind fun v13 =>
  (ax_stR E oj_108 h12 (some q2.1) 108 5 v13).bind fun h14 =>
  (ax_cst E 16).bind fun v15 =>
  (ax_stR E oj_108 h14 (some q2.1) 108 6 v15).bind fun h16 =>
  (ax_cst E 17).bind fun v17 =>
  (ax_stR E oj_108 h16 (some q2.1) 108 7 v17).bind fun h18 =>
  (ax_cst E 18).bind fun v19 =>
  (ax_stR E oj_108 h18 (some q2.1) 108 8 v19).bind fun h20 =>
  (ax_cst E 19).bind fun v21 =>
  (ax_stR E oj_108 h20 (some q2.1) 108 9 v21).bind fun h22 =>
  x0.bind fun _ => (f_X6_init E x0 x1 (some q2.1) h22).bind fun h23 =>
  (ax_na E h23 106 12).bind fun q24 =>
  (ax_pR q24.2 x0 7 8 (some q24.1)).bind fun h25 =>
  (ax_na E h25 108 4).bind fun q26 =>
  (ax_cst E 20).bind fun v27 =>
  (ax_stR E oj_108 q26.2 (some q26.1) 108 0 v27).bind fun h28 =>
  (ax_cst E 21).bind fun v29 =>
  (ax_stR E oj_108 h28 (some q26.1) 108 1 v29).bind fun h30 =>
  (ax_cst E 22).bind fun v31 =>
  (ax_stR E oj_108 h30 (some q26.1) 108 2 v31).bind fun h32 =>
  (ax_cst E 23).bind fun v33 =>
  (ax_stR E oj_108 h32 (some q26.1) 108 3 v33).bind fun h34 =>
  (ax_pR h34 x0 7 9 (some q26.1)).bind fun h35 =>
  some h35
set_option maxHeartbeats 4000000 in
theorem we_X7_init {l : Launch} {G : ax_G} {X : ax_X} {Q : State → Prop} {h0 h : ax_H} {ls : Array Slot} (hSF : ax_SF G) (B : ax_BL l G X cX7_init 2 RX7 2 62) (Z : ax_Z X h0 none) (hn : X.2.2.2.2.2.2.2.2.1.name = yX7_init.name) (x0 : Option Nat) (x1 : Option Nat) {w : ax_H} (hl : ax_hl ls 2 [(0, .inr (.inr x0)), (1, .inr (.inr x1))]) (e : f_X7_init G.2.2 x0 x1 h = some w) (hp : (fun w : ax_H => Q = ax_Q G X h0 w none) w) : ax_W G X Q h 0 ls [] := by
  unfold f_X7_init at e
  refine ax_aload_n B dX7_init_0 rfl hl 0 rfl ?_
  refine ax_aload_n B dX7_init_1 rfl hl 1 rfl ?_
  refine ax_putR B ff_X7_3_7 (Or.inr ⟨rfl, rfl, hn⟩) rfl dX7_init_2 e (fun h1 e => ?_)
  refine ax_aload_n B dX7_init_5 rfl hl 0 rfl ?_
  refine ax_aload_n B dX7_init_6 rfl hl 1 rfl ?_
  refine ax_bipush B dX7_init_7 (by decide) ?_
  refine ax_anew B kd108 q718 q719 dX7_init_9 e (fun q2 e => ?_)
  refine ax_dup B dX7_init_12 (va_rf_cat _) ?_
  refine ax_iconst B dX7_init_13 ?_
  refine ax_ldcS (j := 0) B (List.mem_of_getElem? (i := 0) rfl) dX7_init_14 e (fun v3 e => ?_)
  refine ax_aast B kd108 (ok_108 B) dX7_init_16 e (fun h4 e => ?_)
  refine ax_dup B dX7_init_17 (va_rf_cat _) ?_
  refine ax_iconst B dX7_init_18 ?_
  refine ax_ldcS (j := 1) B (List.mem_of_getElem? (i := 1) rfl) dX7_init_19 e (fun v5 e => ?_)
  refine ax_aast B kd108 (ok_108 B) dX7_init_21 e (fun h6 e => ?_)
  refine ax_dup B dX7_init_22 (va_rf_cat _) ?_
  refine ax_iconst B dX7_init_23 ?_
  refine ax_ldcS (j := 2) B (List.mem_of_getElem? (i := 2) rfl) dX7_init_24 e (fun v7 e => ?_)
  refine ax_aast B kd108 (ok_108 B) dX7_init_26 e (fun h8 e => ?_)
  refine ax_dup B dX7_init_27 (va_rf_cat _) ?_
  refine ax_iconst B dX7_init_28 ?_
  refine ax_ldcS (j := 3) B (List.mem_of_getElem? (i := 3) rfl) dX7_init_29 e (fun v9 e => ?_)
  refine ax_aast B kd108 (ok_108 B) dX7_init_31 e (fun h10 e => ?_)
  refine ax_dup B dX7_init_32 (va_rf_cat _) ?_
  refine ax_iconst B dX7_init_33 ?_
  refine ax_ldcS (j := 4) B (List.mem_of_getElem? (i := 4) rfl) dX7_init_34 e (fun v11 e => ?_)
  refine ax_aast B kd108 (ok_108 B) dX7_init_36 e (fun h12 e => ?_)
  refine ax_dup B dX7_init_37 (va_rf_cat _) ?_
  refine ax_iconst B dX7_init_38 ?_
  refine ax_ldcS (j := 5) B (List.mem_of_getElem? (i := 5) rfl) dX7_init_39 e (fun v13 e => ?_)
  refine ax_aast B kd108 (ok_108 B) dX7_init_41 e (fun h14 e => ?_)
  refine ax_dup B dX7_init_42 (va_rf_cat _) ?_
  refine ax_bipush B dX7_init_43 (by decide) ?_
  refine ax_ldcS (j := 6) B (List.mem_of_getElem? (i := 6) rfl) dX7_init_45 e (fun v15 e => ?_)
  refine ax_aast B kd108 (ok_108 B) dX7_init_47 e (fun h16 e => ?_)
  refine ax_dup B dX7_init_48 (va_rf_cat _) ?_
  refine ax_bipush B dX7_init_49 (by decide) ?_
  refine ax_ldcS (j := 7) B (List.mem_of_getElem? (i := 7) rfl) dX7_init_51 e (fun v17 e => ?_)
  refine ax_aast B kd108 (ok_108 B) dX7_init_53 e (fun h18 e => ?_)
  refine ax_dup B dX7_init_54 (va_rf_cat _) ?_
  refine ax_bipush B dX7_init_55 (by decide) ?_
  refine ax_ldcS (j := 8) B (List.mem_of_getElem? (i := 8) rfl) dX7_init_57 e (fun v19 e => ?_)
  refine ax_aast B kd108 (ok_108 B) dX7_init_59 e (fun h20 e => ?_)
  refine ax_dup B dX7_init_60 (va_rf_cat _) ?_
  refine ax_bipush B dX7_init_61 (by decide) ?_
  refine ax_ldcS (j := 9) B (List.mem_of_getElem? (i := 9) rfl) dX7_init_63 e (fun v21 e => ?_)
  refine ax_aast B kd108 (ok_108 B) dX7_init_65 e (fun h22 e => ?_)
  refine ax_iiR (y := yX6_init) (n := 2) (As := [va_rf x1, va_rf (some q2.1)]) B q730 q731 q144 q732 rfl (by decide +kernel) ⟨Nat.le_of_ble_eq_true rfl, Nat.le_of_ble_eq_true rfl⟩ (fun w1 e1 => mt_X6_init l G hSF x0 x1 (some q2.1) _ w1 e1) rfl hl.size (by decide) dX7_init_66 e (fun h23 e => ?_)
  refine ax_aload_n B dX7_init_69 rfl hl 0 rfl ?_
  refine ax_bipush B dX7_init_70 (by decide) ?_
  refine ax_anew B kd106 q736 q329 dX7_init_72 e (fun q24 e => ?_)
  refine ax_putR B ff_X7_39_7 (Or.inr ⟨rfl, rfl, hn⟩) rfl dX7_init_75 e (fun h25 e => ?_)
  refine ax_aload_n B dX7_init_78 rfl hl 0 rfl ?_
  refine ax_iconst B dX7_init_79 ?_
  refine ax_anew B kd108 q718 q719 dX7_init_80 e (fun q26 e => ?_)
  refine ax_dup B dX7_init_83 (va_rf_cat _) ?_
  refine ax_iconst B dX7_init_84 ?_
  refine ax_ldcS (j := 10) B (List.mem_of_getElem? (i := 10) rfl) dX7_init_85 e (fun v27 e => ?_)
  refine ax_aast B kd108 (ok_108 B) dX7_init_87 e (fun h28 e => ?_)
  refine ax_dup B dX7_init_88 (va_rf_cat _) ?_
  refine ax_iconst B dX7_init_89 ?_
  refine ax_ldcS (j := 11) B (List.mem_of_getElem? (i := 11) rfl) dX7_init_90 e (fun v29 e => ?_)
  refine ax_aast B kd108 (ok_108 B) dX7_init_92 e (fun h30 e => ?_)
  refine ax_dup B dX7_init_93 (va_rf_cat _) ?_
  refine ax_iconst B dX7_init_94 ?_
  refine ax_ldcS (j := 12) B (List.mem_of_getElem? (i := 12) rfl) dX7_init_95 e (fun v31 e => ?_)
  refine ax_aast B kd108 (ok_108 B) dX7_init_97 e (fun h32 e => ?_)
  refine ax_dup B dX7_init_98 (va_rf_cat _) ?_
  refine ax_iconst B dX7_init_99 ?_
  refine ax_ldcS (j := 13) B (List.mem_of_getElem? (i := 13) rfl) dX7_init_100 e (fun v33 e => ?_)
  refine ax_aast B kd108 (ok_108 B) dX7_init_102 e (fun h34 e => ?_)
  refine ax_putR B ff_X7_51_7 (Or.inr ⟨rfl, rfl, hn⟩) rfl dX7_init_103 e (fun h35 e => ?_)
  have e8 := e
  have hp : Q = _ := hp
  subst hp
  exact ax_return B Z dX7_init_106 e8
theorem mt_X7_init (l : Launch) (G : ax_G) (hSF : ax_SF G) (x0 : Option Nat) (x1 : Option Nat) (h : ax_H) (w : ax_H) (e : f_X7_init G.2.2 x0 x1 h = some w) : ax_Met l G yX7_init cX7_init 2 none 2 62 [va_rf x0, va_rf x1] h w none :=
  ax_enter [.inr (.inr x0), .inr (.inr x1)] (y := yX7_init) hSF (plainFor_of_name (by decide +kernel)) (Nat.le_of_ble_eq_true rfl) (fun X ls B Z hn hl => we_X7_init hSF B Z hn x0 x1 hl e rfl)
