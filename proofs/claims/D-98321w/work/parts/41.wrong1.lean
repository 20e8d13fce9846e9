set_option maxRecDepth 100000
def dkwX6_must_0 : List UInt8 := [27, 154, 0, 15, 187, 0, 76, 89, 42, 180, 0, 42, 183, 0, 78, 191, 177]
abbrev dktX6_must_0 : List UInt8 := dkwX6_must_0 ++ []
theorem dksX6_must_0 : cX6_must.data.toList.drop 0 = dktX6_must_0 := by decide +kernel
theorem dX6_must_0 : decode cX6_must 0 = .ok (.iload_n 1, 1) := dk_27 (dk_at dksX6_must_0 0 rfl rfl)
theorem dX6_must_1 : decode cX6_must 1 = .ok (.ifCond .ne 15, 3) := dk_154 0 15 (dk_at dksX6_must_0 1 rfl rfl)
theorem dX6_must_4 : decode cX6_must 4 = .ok (.new 76, 3) := dk_187 0 76 (dk_at dksX6_must_0 4 rfl rfl)
theorem dX6_must_7 : decode cX6_must 7 = .ok (.dup, 1) := dk_89 (dk_at dksX6_must_0 7 rfl rfl)
theorem dX6_must_8 : decode cX6_must 8 = .ok (.aload_n 0, 1) := dk_42 (dk_at dksX6_must_0 8 rfl rfl)
theorem dX6_must_9 : decode cX6_must 9 = .ok (.getfield 42, 3) := dk_180 0 42 (dk_at dksX6_must_0 9 rfl rfl)
theorem dX6_must_12 : decode cX6_must 12 = .ok (.invokespecial 78, 3) := dk_183 0 78 (dk_at dksX6_must_0 12 rfl rfl)
theorem dX6_must_15 : decode cX6_must 15 = .ok (.athrow, 1) := dk_191 (dk_at dksX6_must_0 15 rfl rfl)
theorem dX6_must_16 : decode cX6_must 16 = .ok (.return_, 1) := dk_177 (dk_at dksX6_must_0 16 rfl rfl)
noncomputable def f_X6_must (E : ax_E) (x0 : Option Nat) (x1 : Int) (h : ax_H) : Option ((Nat × ax_H) ⊕ (ax_H)) :=
  if i2 x1 = 0 then
    (ax_nw E h 8 0 7).bind fun q1 =>
    (ax_gIs E q1.2 x0 [(25, 0), (7, 0)]).bind fun v2 =>
    (some q1.1).bind fun _ => (f_X8_init E (some q1.1) v2 q1.2).bind fun h3 =>
    (some q1.1).bind fun a4 => (ax_ce E h3 (some a4) 8).bind fun _ =>
    some (.inl (a4, h3))
  else
    some (.inr h)
set_option maxHeartbeats 4000000 in
theorem we_X6_must {l : Launch} {G : ax_G} {X : ax_X} {Q : State → Prop} {h0 h : ax_H} {ls : Array Slot} (hSF : ax_SF G) (B : ax_BL l G X cX6_must 2 RX6 4 109) (Z : ax_Z X h0 none) (hn : X.2.2.2.2.2.2.2.2.1.name = yX6_must.name) (hT : ∀ x ∈ ax_tb X, False) (x0 : Option Nat) (x1 : Int) {w : (Nat × ax_H) ⊕ (ax_H)} (hl : ax_hl ls 2 [(0, .inr (.inr x0)), (1, .inl x1)]) (e : f_X6_must G.2.2 x0 x1 h = some w) (hp : (fun w : (Nat × ax_H) ⊕ (ax_H) => Q = ax_QX G X "DebtDoors$Wrong" h0 (ax_zV w)) w) : ax_W G X Q h 0 ls [] := by
  unfold f_X6_must at e
  refine ax_iload_n B dX6_must_0 rfl hl 1 rfl ?_
  refine ax_if_ne (tgt := 16) B dX6_must_1 (by decide) e (fun e => ?_) (fun e => ?_)
  · refine ax_new B kd8 in_X8 tyX8_ok (fun k hk => ax_dv _ (dfX8 k hk)) q807 q808 q146 dX6_must_4 e (fun q1 e => ?_)
    refine ax_dup B dX6_must_7 (va_rf_cat _) ?_
    refine ax_aload_n B dX6_must_8 rfl hl 0 rfl ?_
    refine ax_getIs B fs_X6_42 (fun _ _ => rfl) dX6_must_9 e (fun v2 e => ?_)
    refine ax_iiR (y := yX8_init) (n := 1) (As := [.int (Int32.ofInt v2)]) B q816 q817 q146 q818 rfl (by decide +kernel) ⟨Nat.le_of_ble_eq_true rfl, Nat.le_of_ble_eq_true rfl⟩ (fun w1 e1 => mt_X8_init l G hSF (some q1.1) v2 _ w1 e1) rfl hl.size (by simp only [List.map_cons, List.map_nil, List.sum_cons, List.sum_nil, va_rf_cat, ax_catI, ax_catL]; decide) dX6_must_12 e (fun h3 e => ?_)
    refine ax_athrow B Z (fun z hz => (hT z hz).elim) dX6_must_15 e (fun a4 e => ?_)
    cases e
    exact hp
  · cases e
    have hp : Q = _ := hp
    subst hp
    exact ax_retX (ax_return B Z dX6_must_16 rfl)
theorem mt_X6_must (l : Launch) (G : ax_G) (hSF : ax_SF G) (x0 : Option Nat) (x1 : Int) (h : ax_H) (w : (Nat × ax_H) ⊕ (ax_H)) (e : f_X6_must G.2.2 x0 x1 h = some w) : ax_MetX l G "DebtDoors$Wrong" yX6_must cX6_must 2 none 4 109 [va_rf x0, .int (Int32.ofInt x1)] h (ax_zV w) :=
  ax_enterX [.inr (.inr x0), .inl x1] (y := yX6_must) hSF (plainFor_of_name (by decide +kernel)) (Nat.le_of_ble_eq_true rfl) (fun X ls B Z hn hT hl => we_X6_must hSF B Z hn hT x0 x1 hl e rfl)
def dkwX6_open_1 : List UInt8 := [96, 181, 0, 113, 42, 182, 0, 25, 177]
abbrev dktX6_open_1 : List UInt8 := dkwX6_open_1 ++ []
def dkwX6_open_0 : List UInt8 := [42, 42, 180, 0, 113, 16, 8, 162, 0, 7, 4, 167, 0, 4, 3, 182, 0, 28, 42, 89, 180, 0, 113, 4]
abbrev dktX6_open_0 : List UInt8 := dkwX6_open_0 ++ dktX6_open_1
theorem dksX6_open_0 : cX6_open.data.toList.drop 0 = dktX6_open_0 := by decide +kernel
theorem dksX6_open_1 : cX6_open.data.toList.drop 24 = dktX6_open_1 := dk_seg dksX6_open_0 24 rfl rfl
theorem dX6_open_0 : decode cX6_open 0 = .ok (.aload_n 0, 1) := dk_42 (dk_at dksX6_open_0 0 rfl rfl)
theorem dX6_open_1 : decode cX6_open 1 = .ok (.aload_n 0, 1) := dk_42 (dk_at dksX6_open_0 1 rfl rfl)
theorem dX6_open_2 : decode cX6_open 2 = .ok (.getfield 113, 3) := dk_180 0 113 (dk_at dksX6_open_0 2 rfl rfl)
theorem dX6_open_5 : decode cX6_open 5 = .ok (.bipush 8, 2) := dk_16 8 (dk_at dksX6_open_0 5 rfl rfl)
theorem dX6_open_7 : decode cX6_open 7 = .ok (.if_icmp .ge 7, 3) := dk_162 0 7 (dk_at dksX6_open_0 7 rfl rfl)
theorem dX6_open_10 : decode cX6_open 10 = .ok (.iconst 1, 1) := dk_4 (dk_at dksX6_open_0 10 rfl rfl)
theorem dX6_open_11 : decode cX6_open 11 = .ok (.goto 4, 3) := dk_167 0 4 (dk_at dksX6_open_0 11 rfl rfl)
theorem dX6_open_14 : decode cX6_open 14 = .ok (.iconst 0, 1) := dk_3 (dk_at dksX6_open_0 14 rfl rfl)
theorem dX6_open_15 : decode cX6_open 15 = .ok (.invokevirtual 28, 3) := dk_182 0 28 (dk_at dksX6_open_0 15 rfl rfl)
theorem dX6_open_18 : decode cX6_open 18 = .ok (.aload_n 0, 1) := dk_42 (dk_at dksX6_open_0 18 rfl rfl)
theorem dX6_open_19 : decode cX6_open 19 = .ok (.dup, 1) := dk_89 (dk_at dksX6_open_0 19 rfl rfl)
theorem dX6_open_20 : decode cX6_open 20 = .ok (.getfield 113, 3) := dk_180 0 113 (dk_at dksX6_open_0 20 rfl rfl)
theorem dX6_open_23 : decode cX6_open 23 = .ok (.iconst 1, 1) := dk_4 (dk_at dksX6_open_0 23 rfl rfl)
theorem dX6_open_24 : decode cX6_open 24 = .ok (.iadd, 1) := dk_96 (dk_at dksX6_open_1 0 rfl rfl)
theorem dX6_open_25 : decode cX6_open 25 = .ok (.putfield 113, 3) := dk_181 0 113 (dk_at dksX6_open_1 1 rfl rfl)
theorem dX6_open_28 : decode cX6_open 28 = .ok (.aload_n 0, 1) := dk_42 (dk_at dksX6_open_1 4 rfl rfl)
theorem dX6_open_29 : decode cX6_open 29 = .ok (.invokevirtual 25, 3) := dk_182 0 25 (dk_at dksX6_open_1 5 rfl rfl)
theorem dX6_open_32 : decode cX6_open 32 = .ok (.return_, 1) := dk_177 (dk_at dksX6_open_1 8 rfl rfl)
noncomputable def f_X6_open_15 (E : ax_E) (x0 : Option Nat) (s0 : Option Nat) (s1 : Int) (h : ax_H) : Option ((Nat × ax_H) ⊕ (ax_H)) :=
  ax_tc (fun z2 => some (.inl z2)) (ax_dp E h s0 fun t => if t = 25 ∨ t = 7 then f_X6_must E s0 s1 h else none) fun h1 =>
  (ax_gIs E h1 x0 [(25, 3), (7, 3)]).bind fun v3 =>
  (ax_pIs h1 x0 [(25, 3), (7, 3)] (v3 + 1)).bind fun h4 =>
  (ax_dp E h4 x0 fun t => if t = 25 ∨ t = 7 then f_X6_next E x0 h4 else none).bind fun h5 =>
  some (.inr h5)
noncomputable def f_X6_open (E : ax_E) (x0 : Option Nat) (h : ax_H) : Option ((Nat × ax_H) ⊕ (ax_H)) :=
  (ax_gIs E h x0 [(25, 3), (7, 3)]).bind fun v1 =>
  if i2 v1 < i2 8 then
    f_X6_open_15 E x0 x0 1 h
  else
    f_X6_open_15 E x0 x0 0 h
set_option maxHeartbeats 4000000 in
theorem w_X6_open_15 {l : Launch} {G : ax_G} {X : ax_X} {Q : State → Prop} {h0 h : ax_H} {ls : Array Slot} (hSF : ax_SF G) (B : ax_BL l G X cX6_open 1 RX6 5 130) (Z : ax_Z X h0 none) (hn : X.2.2.2.2.2.2.2.2.1.name = yX6_open.name) (hT : ∀ x ∈ ax_tb X, False) (x0 : Option Nat) (s0 : Option Nat) (s1 : Int) {w : (Nat × ax_H) ⊕ (ax_H)} (hl : ax_hl ls 1 [(0, .inr (.inr x0))]) (e : f_X6_open_15 G.2.2 x0 s0 s1 h = some w) (hp : (fun w : (Nat × ax_H) ⊕ (ax_H) => Q = ax_QX G X "DebtDoors$Wrong" h0 (ax_zV w)) w) : ax_W G X Q h 15 ls [.int (Int32.ofInt s1), va_rf s0] := by
  unfold f_X6_open_15 at e
  refine ax_xwV (Ex := "DebtDoors$Wrong") (x := ⟨"DebtDoors$Reader", "must", "(Z)V"⟩) (n := 1) (As := [.int (Int32.ofInt s1)]) B (fun w1 e1 => ?_) rfl hl.size (by decide) dX6_open_15 e (fun z2 e => ?_) (fun h1 e => ?_)
  · obtain ⟨t, c, e2, e1⟩ := ax_dp_spec e1
    rcases ax_ite e1 with ⟨hk, e1⟩ | ⟨-, e1⟩
    · rcases hk with rfl | rfl
      · exact ax_calX B kd25 e2 q801 (B.2.1.2.2.2.2 _ q803) (ax_dcD B q897) (B.2.1.2.2.2.2 _ q805) q802 q144 q806 (by decide +kernel) ⟨Nat.le_of_ble_eq_true rfl, Nat.le_of_ble_eq_true rfl⟩ (mt_X6_must l G hSF s0 s1 _ w1 e1)
      · exact ax_calX B kd7 e2 q801 (B.2.1.2.2.2.2 _ q803) (ax_dcD B q897) (B.2.1.2.2.2.2 _ q804) q802 q144 q806 (by decide +kernel) ⟨Nat.le_of_ble_eq_true rfl, Nat.le_of_ble_eq_true rfl⟩ (mt_X6_must l G hSF s0 s1 _ w1 e1)
    cases e1
  · cases e
    have hp : Q = ax_QX G X "DebtDoors$Wrong" h0 (.inl z2) := hp
    subst hp
    exact ax_outX B Z (fun z hz => (hT z hz).elim)
  refine ax_aload_n B dX6_open_18 rfl hl 0 rfl ?_
  refine ax_dup B dX6_open_19 (va_rf_cat _) ?_
  refine ax_getIs B fs_X6_113 (fun _ _ => rfl) dX6_open_20 e (fun v3 e => ?_)
  refine ax_iconst B dX6_open_23 ?_
  refine ax_iadd' B dX6_open_24 ?_
  refine ax_putIs B fs_X6_113 (Or.inl rfl) rfl dX6_open_25 e (fun h4 e => ?_)
  refine ax_aload_n B dX6_open_28 rfl hl 0 rfl ?_
  refine ax_iwV (x := ⟨"DebtDoors$Reader", "next", "()V"⟩) (n := 0) (As := []) B (fun w1 e1 => ?_) rfl hl.size (by decide) dX6_open_29 e (fun h5 e => ?_)
  · obtain ⟨t, c, e2, e1⟩ := ax_dp_spec e1
    rcases ax_ite e1 with ⟨hk, e1⟩ | ⟨-, e1⟩
    · rcases hk with rfl | rfl
      · exact ax_cal B kd25 e2 q789 q791 (ax_dcD B q901) (B.2.1.2.2.2.2 _ q793) q790 q144 q794 (by decide +kernel) ⟨Nat.le_of_ble_eq_true rfl, Nat.le_of_ble_eq_true rfl⟩ (mt_X6_next l G hSF x0 _ w1 e1)
      · exact ax_cal B kd7 e2 q789 q791 (ax_dcD B q901) (B.2.1.2.2.2.2 _ q792) q790 q144 q794 (by decide +kernel) ⟨Nat.le_of_ble_eq_true rfl, Nat.le_of_ble_eq_true rfl⟩ (mt_X6_next l G hSF x0 _ w1 e1)
    cases e1
  cases e
  have hp : Q = _ := hp
  subst hp
  exact ax_retX (ax_return B Z dX6_open_32 rfl)
set_option maxHeartbeats 4000000 in
theorem we_X6_open {l : Launch} {G : ax_G} {X : ax_X} {Q : State → Prop} {h0 h : ax_H} {ls : Array Slot} (hSF : ax_SF G) (B : ax_BL l G X cX6_open 1 RX6 5 130) (Z : ax_Z X h0 none) (hn : X.2.2.2.2.2.2.2.2.1.name = yX6_open.name) (hT : ∀ x ∈ ax_tb X, False) (x0 : Option Nat) {w : (Nat × ax_H) ⊕ (ax_H)} (hl : ax_hl ls 1 [(0, .inr (.inr x0))]) (e : f_X6_open G.2.2 x0 h = some w) (hp : (fun w : (Nat × ax_H) ⊕ (ax_H) => Q = ax_QX G X "DebtDoors$Wrong" h0 (ax_zV w)) w) : ax_W G X Q h 0 ls [] := by
  unfold f_X6_open at e
  refine ax_aload_n B dX6_open_0 rfl hl 0 rfl ?_
  refine ax_aload_n B dX6_open_1 rfl hl 0 rfl ?_
  refine ax_getIs B fs_X6_113 (fun _ _ => rfl) dX6_open_2 e (fun v1 e => ?_)
  refine ax_bipush B dX6_open_5 (by decide) ?_
  refine ax_icmp_ge (tgt := 14) B dX6_open_7 (by decide) e (fun e => ?_) (fun e => ?_)
  · refine ax_iconst B dX6_open_10 ?_
    refine ax_goto (tgt := 15) B dX6_open_11 (by decide) ?_
    exact w_X6_open_15 hSF B Z hn hT x0 x0 1 (hl.sub [0] rfl) e hp
  · refine ax_iconst B dX6_open_14 ?_
    exact w_X6_open_15 hSF B Z hn hT x0 x0 0 (hl.sub [0] rfl) e hp
theorem mt_X6_open (l : Launch) (G : ax_G) (hSF : ax_SF G) (x0 : Option Nat) (h : ax_H) (w : (Nat × ax_H) ⊕ (ax_H)) (e : f_X6_open G.2.2 x0 h = some w) : ax_MetX l G "DebtDoors$Wrong" yX6_open cX6_open 1 none 5 130 [va_rf x0] h (ax_zV w) :=
  ax_enterX [.inr (.inr x0)] (y := yX6_open) hSF (plainFor_of_name (by decide +kernel)) (Nat.le_of_ble_eq_true rfl) (fun X ls B Z hn hT hl => we_X6_open hSF B Z hn hT x0 hl e rfl)
def dkwX6_close_0 : List UInt8 := [42, 42, 43, 182, 0, 38, 182, 0, 28, 42, 89, 180, 0, 113, 4, 100, 181, 0, 113, 177]
abbrev dktX6_close_0 : List UInt8 := dkwX6_close_0 ++ []
theorem dksX6_close_0 : cX6_close.data.toList.drop 0 = dktX6_close_0 := by decide +kernel
theorem dX6_close_0 : decode cX6_close 0 = .ok (.aload_n 0, 1) := dk_42 (dk_at dksX6_close_0 0 rfl rfl)
theorem dX6_close_1 : decode cX6_close 1 = .ok (.aload_n 0, 1) := dk_42 (dk_at dksX6_close_0 1 rfl rfl)
theorem dX6_close_2 : decode cX6_close 2 = .ok (.aload_n 1, 1) := dk_43 (dk_at dksX6_close_0 2 rfl rfl)
theorem dX6_close_3 : decode cX6_close 3 = .ok (.invokevirtual 38, 3) := dk_182 0 38 (dk_at dksX6_close_0 3 rfl rfl)
theorem dX6_close_6 : decode cX6_close 6 = .ok (.invokevirtual 28, 3) := dk_182 0 28 (dk_at dksX6_close_0 6 rfl rfl)
theorem dX6_close_9 : decode cX6_close 9 = .ok (.aload_n 0, 1) := dk_42 (dk_at dksX6_close_0 9 rfl rfl)
theorem dX6_close_10 : decode cX6_close 10 = .ok (.dup, 1) := dk_89 (dk_at dksX6_close_0 10 rfl rfl)
theorem dX6_close_11 : decode cX6_close 11 = .ok (.getfield 113, 3) := dk_180 0 113 (dk_at dksX6_close_0 11 rfl rfl)
theorem dX6_close_14 : decode cX6_close 14 = .ok (.iconst 1, 1) := dk_4 (dk_at dksX6_close_0 14 rfl rfl)
theorem dX6_close_15 : decode cX6_close 15 = .ok (.isub, 1) := dk_100 (dk_at dksX6_close_0 15 rfl rfl)
theorem dX6_close_16 : decode cX6_close 16 = .ok (.putfield 113, 3) := dk_181 0 113 (dk_at dksX6_close_0 16 rfl rfl)
theorem dX6_close_19 : decode cX6_close 19 = .ok (.return_, 1) := dk_177 (dk_at dksX6_close_0 19 rfl rfl)
noncomputable def f_X6_close (E : ax_E) (x0 : Option Nat) (x1 : Option Nat) (h : ax_H) : Option ((Nat × ax_H) ⊕ (ax_H)) :=
  (ax_dp E h x0 fun t => if t = 25 ∨ t = 7 then f_X6_accept E x0 x1 h else none).bind fun q1 =>
  ax_tc (fun z3 => some (.inl z3)) (ax_dp E q1.2 x0 fun t => if t = 25 ∨ t = 7 then f_X6_must E x0 q1.1 q1.2 else none) fun h2 =>
  (ax_gIs E h2 x0 [(25, 3), (7, 3)]).bind fun v4 =>
  (ax_pIs h2 x0 [(25, 3), (7, 3)] (v4 - 1)).bind fun h5 =>
  some (.inr h5)
set_option maxHeartbeats 4000000 in
theorem we_X6_close {l : Launch} {G : ax_G} {X : ax_X} {Q : State → Prop} {h0 h : ax_H} {ls : Array Slot} (hSF : ax_SF G) (B : ax_BL l G X cX6_close 2 RX6 7 169) (Z : ax_Z X h0 none) (hn : X.2.2.2.2.2.2.2.2.1.name = yX6_close.name) (hT : ∀ x ∈ ax_tb X, False) (x0 : Option Nat) (x1 : Option Nat) {w : (Nat × ax_H) ⊕ (ax_H)} (hl : ax_hl ls 2 [(0, .inr (.inr x0)), (1, .inr (.inr x1))]) (e : f_X6_close G.2.2 x0 x1 h = some w) (hp : (fun w : (Nat × ax_H) ⊕ (ax_H) => Q = ax_QX G X "DebtDoors$Wrong" h0 (ax_zV w)) w) : ax_W G X Q h 0 ls [] := by
  unfold f_X6_close at e
  refine ax_aload_n B dX6_close_0 rfl hl 0 rfl ?_
  refine ax_aload_n B dX6_close_1 rfl hl 0 rfl ?_
  refine ax_aload_n B dX6_close_2 rfl hl 1 rfl ?_
  refine ax_iwI (x := ⟨"DebtDoors$Reader", "accept", "(Ljava/lang/String;)Z"⟩) (n := 1) (As := [va_rf x1]) B (fun w1 e1 => ?_) rfl hl.size (by simp only [List.map_cons, List.map_nil, List.sum_cons, List.sum_nil, va_rf_cat, ax_catI, ax_catL]; decide) dX6_close_3 e (fun q1 e => ?_)
  · obtain ⟨t, c, e2, e1⟩ := ax_dp_spec e1
    rcases ax_ite e1 with ⟨hk, e1⟩ | ⟨-, e1⟩
    · rcases hk with rfl | rfl
      · exact ax_cal B kd25 e2 q928 q930 (ax_dcD B q1036) (B.2.1.2.2.2.2 _ q932) q929 q144 q933 (by decide +kernel) ⟨Nat.le_of_ble_eq_true rfl, Nat.le_of_ble_eq_true rfl⟩ (mt_X6_accept l G hSF x0 x1 _ w1 e1)
      · exact ax_cal B kd7 e2 q928 q930 (ax_dcD B q1036) (B.2.1.2.2.2.2 _ q931) q929 q144 q933 (by decide +kernel) ⟨Nat.le_of_ble_eq_true rfl, Nat.le_of_ble_eq_true rfl⟩ (mt_X6_accept l G hSF x0 x1 _ w1 e1)
    cases e1
  refine ax_xwV (Ex := "DebtDoors$Wrong") (x := ⟨"DebtDoors$Reader", "must", "(Z)V"⟩) (n := 1) (As := [.int (Int32.ofInt q1.1)]) B (fun w1 e1 => ?_) rfl hl.size (by decide) dX6_close_6 e (fun z3 e => ?_) (fun h2 e => ?_)
  · obtain ⟨t, c, e2, e1⟩ := ax_dp_spec e1
    rcases ax_ite e1 with ⟨hk, e1⟩ | ⟨-, e1⟩
    · rcases hk with rfl | rfl
      · exact ax_calX B kd25 e2 q801 (B.2.1.2.2.2.2 _ q803) (ax_dcD B q897) (B.2.1.2.2.2.2 _ q805) q802 q144 q806 (by decide +kernel) ⟨Nat.le_of_ble_eq_true rfl, Nat.le_of_ble_eq_true rfl⟩ (mt_X6_must l G hSF x0 q1.1 _ w1 e1)
      · exact ax_calX B kd7 e2 q801 (B.2.1.2.2.2.2 _ q803) (ax_dcD B q897) (B.2.1.2.2.2.2 _ q804) q802 q144 q806 (by decide +kernel) ⟨Nat.le_of_ble_eq_true rfl, Nat.le_of_ble_eq_true rfl⟩ (mt_X6_must l G hSF x0 q1.1 _ w1 e1)
    cases e1
  · cases e
    have hp : Q = ax_QX G X "DebtDoors$Wrong" h0 (.inl z3) := hp
    subst hp
    exact ax_outX B Z (fun z hz => (hT z hz).elim)
  refine ax_aload_n B dX6_close_9 rfl hl 0 rfl ?_
  refine ax_dup B dX6_close_10 (va_rf_cat _) ?_
  refine ax_getIs B fs_X6_113 (fun _ _ => rfl) dX6_close_11 e (fun v4 e => ?_)
  refine ax_iconst B dX6_close_14 ?_
  refine ax_isub' B dX6_close_15 ?_
  refine ax_putIs B fs_X6_113 (Or.inl rfl) rfl dX6_close_16 e (fun h5 e => ?_)
  cases e
  have hp : Q = _ := hp
  subst hp
  exact ax_retX (ax_return B Z dX6_close_19 rfl)
theorem mt_X6_close (l : Launch) (G : ax_G) (hSF : ax_SF G) (x0 : Option Nat) (x1 : Option Nat) (h : ax_H) (w : (Nat × ax_H) ⊕ (ax_H)) (e : f_X6_close G.2.2 x0 x1 h = some w) : ax_MetX l G "DebtDoors$Wrong" yX6_close cX6_close 2 none 7 169 [va_rf x0, va_rf x1] h (ax_zV w) :=
  ax_enterX [.inr (.inr x0), .inr (.inr x1)] (y := yX6_close) hSF (plainFor_of_name (by decide +kernel)) (Nat.le_of_ble_eq_true rfl) (fun X ls B Z hn hT hl => we_X6_close hSF B Z hn hT x0 x1 hl e rfl)
def dkwX6_leaf_1 : List UInt8 := [96, 181, 0, 116, 177]
abbrev dktX6_leaf_1 : List UInt8 := dkwX6_leaf_1 ++ []
def dkwX6_leaf_0 : List UInt8 := [42, 42, 180, 0, 116, 16, 50, 162, 0, 7, 4, 167, 0, 4, 3, 182, 0, 28, 42, 89, 180, 0, 116, 4]
abbrev dktX6_leaf_0 : List UInt8 := dkwX6_leaf_0 ++ dktX6_leaf_1
theorem dksX6_leaf_0 : cX6_leaf.data.toList.drop 0 = dktX6_leaf_0 := by decide +kernel
theorem dksX6_leaf_1 : cX6_leaf.data.toList.drop 24 = dktX6_leaf_1 := dk_seg dksX6_leaf_0 24 rfl rfl
theorem dX6_leaf_0 : decode cX6_leaf 0 = .ok (.aload_n 0, 1) := dk_42 (dk_at dksX6_leaf_0 0 rfl rfl)
theorem dX6_leaf_1 : decode cX6_leaf 1 = .ok (.aload_n 0, 1) := dk_42 (dk_at dksX6_leaf_0 1 rfl rfl)
theorem dX6_leaf_2 : decode cX6_leaf 2 = .ok (.getfield 116, 3) := dk_180 0 116 (dk_at dksX6_leaf_0 2 rfl rfl)
theorem dX6_leaf_5 : decode cX6_leaf 5 = .ok (.bipush 50, 2) := dk_16 50 (dk_at dksX6_leaf_0 5 rfl rfl)
theorem dX6_leaf_7 : decode cX6_leaf 7 = .ok (.if_icmp .ge 7, 3) := dk_162 0 7 (dk_at dksX6_leaf_0 7 rfl rfl)
theorem dX6_leaf_10 : decode cX6_leaf 10 = .ok (.iconst 1, 1) := dk_4 (dk_at dksX6_leaf_0 10 rfl rfl)
theorem dX6_leaf_11 : decode cX6_leaf 11 = .ok (.goto 4, 3) := dk_167 0 4 (dk_at dksX6_leaf_0 11 rfl rfl)
theorem dX6_leaf_14 : decode cX6_leaf 14 = .ok (.iconst 0, 1) := dk_3 (dk_at dksX6_leaf_0 14 rfl rfl)
theorem dX6_leaf_15 : decode cX6_leaf 15 = .ok (.invokevirtual 28, 3) := dk_182 0 28 (dk_at dksX6_leaf_0 15 rfl rfl)
theorem dX6_leaf_18 : decode cX6_leaf 18 = .ok (.aload_n 0, 1) := dk_42 (dk_at dksX6_leaf_0 18 rfl rfl)
theorem dX6_leaf_19 : decode cX6_leaf 19 = .ok (.dup, 1) := dk_89 (dk_at dksX6_leaf_0 19 rfl rfl)
theorem dX6_leaf_20 : decode cX6_leaf 20 = .ok (.getfield 116, 3) := dk_180 0 116 (dk_at dksX6_leaf_0 20 rfl rfl)
theorem dX6_leaf_23 : decode cX6_leaf 23 = .ok (.iconst 1, 1) := dk_4 (dk_at dksX6_leaf_0 23 rfl rfl)
theorem dX6_leaf_24 : decode cX6_leaf 24 = .ok (.iadd, 1) := dk_96 (dk_at dksX6_leaf_1 0 rfl rfl)
theorem dX6_leaf_25 : decode cX6_leaf 25 = .ok (.putfield 116, 3) := dk_181 0 116 (dk_at dksX6_leaf_1 1 rfl rfl)
theorem dX6_leaf_28 : decode cX6_leaf 28 = .ok (.return_, 1) := dk_177 (dk_at dksX6_leaf_1 4 rfl rfl)
noncomputable def f_X6_leaf_15 (E : ax_E) (x0 : Option Nat) (s0 : Option Nat) (s1 : Int) (h : ax_H) : Option ((Nat × ax_H) ⊕ (ax_H)) :=
  ax_tc (fun z2 => some (.inl z2)) (ax_dp E h s0 fun t => if t = 25 ∨ t = 7 then f_X6_must E s0 s1 h else none) fun h1 =>
  (ax_gIs E h1 x0 [(25, 2), (7, 2)]).bind fun v3 =>
  (ax_pIs h1 x0 [(25, 2), (7, 2)] (v3 + 1)).bind fun h4 =>
  some (.inr h4)
noncomputable def f_X6_leaf (E : ax_E) (x0 : Option Nat) (h : ax_H) : Option ((Nat × ax_H) ⊕ (ax_H)) :=
  (ax_gIs E h x0 [(25, 2), (7, 2)]).bind fun v1 =>
  if i2 v1 < i2 50 then
    f_X6_leaf_15 E x0 x0 1 h
  else
    f_X6_leaf_15 E x0 x0 0 h
set_option maxHeartbeats 4000000 in
theorem w_X6_leaf_15 {l : Launch} {G : ax_G} {X : ax_X} {Q : State → Prop} {h0 h : ax_H} {ls : Array Slot} (hSF : ax_SF G) (B : ax_BL l G X cX6_leaf 1 RX6 5 130) (Z : ax_Z X h0 none) (hn : X.2.2.2.2.2.2.2.2.1.name = yX6_leaf.name) (hT : ∀ x ∈ ax_tb X, False) (x0 : Option Nat) (s0 : Option Nat) (s1 : Int) {w : (Nat × ax_H) ⊕ (ax_H)} (hl : ax_hl ls 1 [(0, .inr (.inr x0))]) (e : f_X6_leaf_15 G.2.2 x0 s0 s1 h = some w) (hp : (fun w : (Nat × ax_H) ⊕ (ax_H) => Q = ax_QX G X "DebtDoors$Wrong" h0 (ax_zV w)) w) : ax_W G X Q h 15 ls [.int (Int32.ofInt s1), va_rf s0] := by
  unfold f_X6_leaf_15 at e
  refine ax_xwV (Ex := "DebtDoors$Wrong") (x := ⟨"DebtDoors$Reader", "must", "(Z)V"⟩) (n := 1) (As := [.int (Int32.ofInt s1)]) B (fun w1 e1 => ?_) rfl hl.size (by decide) dX6_leaf_15 e (fun z2 e => ?_) (fun h1 e => ?_)
  · obtain ⟨t, c, e2, e1⟩ := ax_dp_spec e1
    rcases ax_ite e1 with ⟨hk, e1⟩ | ⟨-, e1⟩
    · rcases hk with rfl | rfl
      · exact ax_calX B kd25 e2 q801 (B.2.1.2.2.2.2 _ q803) (ax_dcD B q897) (B.2.1.2.2.2.2 _ q805) q802 q144 q806 (by decide +kernel) ⟨Nat.le_of_ble_eq_true rfl, Nat.le_of_ble_eq_true rfl⟩ (mt_X6_must l G hSF s0 s1 _ w1 e1)
      · exact ax_calX B kd7 e2 q801 (B.2.1.2.2.2.2 _ q803) (ax_dcD B q897) (B.2.1.2.2.2.2 _ q804) q802 q144 q806 (by decide +kernel) ⟨Nat.le_of_ble_eq_true rfl, Nat.le_of_ble_eq_true rfl⟩ (mt_X6_must l G hSF s0 s1 _ w1 e1)
    cases e1
  · cases e
    have hp : Q = ax_QX G X "DebtDoors$Wrong" h0 (.inl z2) := hp
    subst hp
    exact ax_outX B Z (fun z hz => (hT z hz).elim)
  refine ax_aload_n B dX6_leaf_18 rfl hl 0 rfl ?_
  refine ax_dup B dX6_leaf_19 (va_rf_cat _) ?_
  refine ax_getIs B fs_X6_116 (fun _ _ => rfl) dX6_leaf_20 e (fun v3 e => ?_)
  refine ax_iconst B dX6_leaf_23 ?_
  refine ax_iadd' B dX6_leaf_24 ?_
  refine ax_putIs B fs_X6_116 (Or.inl rfl) rfl dX6_leaf_25 e (fun h4 e => ?_)
  cases e
  have hp : Q = _ := hp
  subst hp
  exact ax_retX (ax_return B Z dX6_leaf_28 rfl)
set_option maxHeartbeats 4000000 in
theorem we_X6_leaf {l : Launch} {G : ax_G} {X : ax_X} {Q : State → Prop} {h0 h : ax_H} {ls : Array Slot} (hSF : ax_SF G) (B : ax_BL l G X cX6_leaf 1 RX6 5 130) (Z : ax_Z X h0 none) (hn : X.2.2.2.2.2.2.2.2.1.name = yX6_leaf.name) (hT : ∀ x ∈ ax_tb X, False) (x0 : Option Nat) {w : (Nat × ax_H) ⊕ (ax_H)} (hl : ax_hl ls 1 [(0, .inr (.inr x0))]) (e : f_X6_leaf G.2.2 x0 h = some w) (hp : (fun w : (Nat × ax_H) ⊕ (ax_H) => Q = ax_QX G X "DebtDoors$Wrong" h0 (ax_zV w)) w) : ax_W G X Q h 0 ls [] := by
  unfold f_X6_leaf at e
  refine ax_aload_n B dX6_leaf_0 rfl hl 0 rfl ?_
  refine ax_aload_n B dX6_leaf_1 rfl hl 0 rfl ?_
  refine ax_getIs B fs_X6_116 (fun _ _ => rfl) dX6_leaf_2 e (fun v1 e => ?_)
  refine ax_bipush B dX6_leaf_5 (by decide) ?_
  refine ax_icmp_ge (tgt := 14) B dX6_leaf_7 (by decide) e (fun e => ?_) (fun e => ?_)
  · refine ax_iconst B dX6_leaf_10 ?_
    refine ax_goto (tgt := 15) B dX6_leaf_11 (by decide) ?_
    exact w_X6_leaf_15 hSF B Z hn hT x0 x0 1 (hl.sub [0] rfl) e hp
  · refine ax_iconst B dX6_leaf_14 ?_
    exact w_X6_leaf_15 hSF B Z hn hT x0 x0 0 (hl.sub [0] rfl) e hp
theorem mt_X6_leaf (l : Launch) (G : ax_G) (hSF : ax_SF G) (x0 : Option Nat) (h : ax_H) (w : (Nat × ax_H) ⊕ (ax_H)) (e : f_X6_leaf G.2.2 x0 h = some w) : ax_MetX l G "DebtDoors$Wrong" yX6_leaf cX6_leaf 1 none 5 130 [va_rf x0] h (ax_zV w) :=
  ax_enterX [.inr (.inr x0)] (y := yX6_leaf) hSF (plainFor_of_name (by decide +kernel)) (Nat.le_of_ble_eq_true rfl) (fun X ls B Z hn hT hl => we_X6_leaf hSF B Z hn hT x0 hl e rfl)
def dkwX6_number_4 : List UInt8 := [167, 0, 4, 3, 182, 0, 28, 42, 182, 0, 25, 28, 172]
abbrev dktX6_number_4 : List UInt8 := dkwX6_number_4 ++ []
def dkwX6_number_3 : List UInt8 := [180, 0, 52, 29, 51, 96, 16, 48, 100, 61, 132, 3, 1, 167, 255, 222, 42, 28, 27, 163, 0, 7, 4]
abbrev dktX6_number_3 : List UInt8 := dkwX6_number_3 ++ dktX6_number_4
def dkwX6_number_2 : List UInt8 := [62, 29, 42, 180, 0, 49, 162, 0, 32, 28, 27, 163, 0, 27, 16, 10, 28, 104, 42, 180, 0, 3]
abbrev dktX6_number_2 : List UInt8 := dkwX6_number_2 ++ dktX6_number_3
def dkwX6_number_1 : List UInt8 := [180, 0, 42, 51, 184, 0, 60, 153, 0, 7, 4, 167, 0, 4, 3, 182, 0, 28, 3, 61, 42, 180, 0, 42]
abbrev dktX6_number_1 : List UInt8 := dkwX6_number_1 ++ dktX6_number_2
def dkwX6_number_0 : List UInt8 := [42, 42, 180, 0, 42, 42, 180, 0, 3, 180, 0, 46, 162, 0, 25, 42, 180, 0, 3, 180, 0, 52, 42]
abbrev dktX6_number_0 : List UInt8 := dkwX6_number_0 ++ dktX6_number_1
theorem dksX6_number_0 : cX6_number.data.toList.drop 0 = dktX6_number_0 := by decide +kernel
theorem dksX6_number_1 : cX6_number.data.toList.drop 23 = dktX6_number_1 := dk_seg dksX6_number_0 23 rfl rfl
theorem dksX6_number_2 : cX6_number.data.toList.drop 47 = dktX6_number_2 := dk_seg dksX6_number_1 24 rfl rfl
theorem dksX6_number_3 : cX6_number.data.toList.drop 69 = dktX6_number_3 := dk_seg dksX6_number_2 22 rfl rfl
theorem dksX6_number_4 : cX6_number.data.toList.drop 92 = dktX6_number_4 := dk_seg dksX6_number_3 23 rfl rfl
theorem dX6_number_0 : decode cX6_number 0 = .ok (.aload_n 0, 1) := dk_42 (dk_at dksX6_number_0 0 rfl rfl)
theorem dX6_number_1 : decode cX6_number 1 = .ok (.aload_n 0, 1) := dk_42 (dk_at dksX6_number_0 1 rfl rfl)
theorem dX6_number_2 : decode cX6_number 2 = .ok (.getfield 42, 3) := dk_180 0 42 (dk_at dksX6_number_0 2 rfl rfl)
theorem dX6_number_5 : decode cX6_number 5 = .ok (.aload_n 0, 1) := dk_42 (dk_at dksX6_number_0 5 rfl rfl)
theorem dX6_number_6 : decode cX6_number 6 = .ok (.getfield 3, 3) := dk_180 0 3 (dk_at dksX6_number_0 6 rfl rfl)
theorem dX6_number_9 : decode cX6_number 9 = .ok (.getfield 46, 3) := dk_180 0 46 (dk_at dksX6_number_0 9 rfl rfl)
theorem dX6_number_12 : decode cX6_number 12 = .ok (.if_icmp .ge 25, 3) := dk_162 0 25 (dk_at dksX6_number_0 12 rfl rfl)
theorem dX6_number_15 : decode cX6_number 15 = .ok (.aload_n 0, 1) := dk_42 (dk_at dksX6_number_0 15 rfl rfl)
theorem dX6_number_16 : decode cX6_number 16 = .ok (.getfield 3, 3) := dk_180 0 3 (dk_at dksX6_number_0 16 rfl rfl)
theorem dX6_number_19 : decode cX6_number 19 = .ok (.getfield 52, 3) := dk_180 0 52 (dk_at dksX6_number_0 19 rfl rfl)
theorem dX6_number_22 : decode cX6_number 22 = .ok (.aload_n 0, 1) := dk_42 (dk_at dksX6_number_0 22 rfl rfl)
theorem dX6_number_23 : decode cX6_number 23 = .ok (.getfield 42, 3) := dk_180 0 42 (dk_at dksX6_number_1 0 rfl rfl)
theorem dX6_number_26 : decode cX6_number 26 = .ok (.baload, 1) := dk_51 (dk_at dksX6_number_1 3 rfl rfl)
theorem dX6_number_27 : decode cX6_number 27 = .ok (.invokestatic 60, 3) := dk_184 0 60 (dk_at dksX6_number_1 4 rfl rfl)
theorem dX6_number_30 : decode cX6_number 30 = .ok (.ifCond .eq 7, 3) := dk_153 0 7 (dk_at dksX6_number_1 7 rfl rfl)
theorem dX6_number_33 : decode cX6_number 33 = .ok (.iconst 1, 1) := dk_4 (dk_at dksX6_number_1 10 rfl rfl)
theorem dX6_number_34 : decode cX6_number 34 = .ok (.goto 4, 3) := dk_167 0 4 (dk_at dksX6_number_1 11 rfl rfl)
theorem dX6_number_37 : decode cX6_number 37 = .ok (.iconst 0, 1) := dk_3 (dk_at dksX6_number_1 14 rfl rfl)
theorem dX6_number_38 : decode cX6_number 38 = .ok (.invokevirtual 28, 3) := dk_182 0 28 (dk_at dksX6_number_1 15 rfl rfl)
theorem dX6_number_41 : decode cX6_number 41 = .ok (.iconst 0, 1) := dk_3 (dk_at dksX6_number_1 18 rfl rfl)
theorem dX6_number_42 : decode cX6_number 42 = .ok (.istore_n 2, 1) := dk_61 (dk_at dksX6_number_1 19 rfl rfl)
theorem dX6_number_43 : decode cX6_number 43 = .ok (.aload_n 0, 1) := dk_42 (dk_at dksX6_number_1 20 rfl rfl)
theorem dX6_number_44 : decode cX6_number 44 = .ok (.getfield 42, 3) := dk_180 0 42 (dk_at dksX6_number_1 21 rfl rfl)
theorem dX6_number_47 : decode cX6_number 47 = .ok (.istore_n 3, 1) := dk_62 (dk_at dksX6_number_2 0 rfl rfl)
theorem dX6_number_48 : decode cX6_number 48 = .ok (.iload_n 3, 1) := dk_29 (dk_at dksX6_number_2 1 rfl rfl)
theorem dX6_number_49 : decode cX6_number 49 = .ok (.aload_n 0, 1) := dk_42 (dk_at dksX6_number_2 2 rfl rfl)
theorem dX6_number_50 : decode cX6_number 50 = .ok (.getfield 49, 3) := dk_180 0 49 (dk_at dksX6_number_2 3 rfl rfl)
theorem dX6_number_53 : decode cX6_number 53 = .ok (.if_icmp .ge 32, 3) := dk_162 0 32 (dk_at dksX6_number_2 6 rfl rfl)
theorem dX6_number_56 : decode cX6_number 56 = .ok (.iload_n 2, 1) := dk_28 (dk_at dksX6_number_2 9 rfl rfl)
theorem dX6_number_57 : decode cX6_number 57 = .ok (.iload_n 1, 1) := dk_27 (dk_at dksX6_number_2 10 rfl rfl)
theorem dX6_number_58 : decode cX6_number 58 = .ok (.if_icmp .gt 27, 3) := dk_163 0 27 (dk_at dksX6_number_2 11 rfl rfl)
theorem dX6_number_61 : decode cX6_number 61 = .ok (.bipush 10, 2) := dk_16 10 (dk_at dksX6_number_2 14 rfl rfl)
theorem dX6_number_63 : decode cX6_number 63 = .ok (.iload_n 2, 1) := dk_28 (dk_at dksX6_number_2 16 rfl rfl)
theorem dX6_number_64 : decode cX6_number 64 = .ok (.imul, 1) := dk_104 (dk_at dksX6_number_2 17 rfl rfl)
theorem dX6_number_65 : decode cX6_number 65 = .ok (.aload_n 0, 1) := dk_42 (dk_at dksX6_number_2 18 rfl rfl)
theorem dX6_number_66 : decode cX6_number 66 = .ok (.getfield 3, 3) := dk_180 0 3 (dk_at dksX6_number_2 19 rfl rfl)
theorem dX6_number_69 : decode cX6_number 69 = .ok (.getfield 52, 3) := dk_180 0 52 (dk_at dksX6_number_3 0 rfl rfl)
theorem dX6_number_72 : decode cX6_number 72 = .ok (.iload_n 3, 1) := dk_29 (dk_at dksX6_number_3 3 rfl rfl)
theorem dX6_number_73 : decode cX6_number 73 = .ok (.baload, 1) := dk_51 (dk_at dksX6_number_3 4 rfl rfl)
theorem dX6_number_74 : decode cX6_number 74 = .ok (.iadd, 1) := dk_96 (dk_at dksX6_number_3 5 rfl rfl)
theorem dX6_number_75 : decode cX6_number 75 = .ok (.bipush 48, 2) := dk_16 48 (dk_at dksX6_number_3 6 rfl rfl)
theorem dX6_number_77 : decode cX6_number 77 = .ok (.isub, 1) := dk_100 (dk_at dksX6_number_3 8 rfl rfl)
theorem dX6_number_78 : decode cX6_number 78 = .ok (.istore_n 2, 1) := dk_61 (dk_at dksX6_number_3 9 rfl rfl)
theorem dX6_number_79 : decode cX6_number 79 = .ok (.iinc 3 1, 3) := dk_132 3 1 (dk_at dksX6_number_3 10 rfl rfl)
theorem dX6_number_82 : decode cX6_number 82 = .ok (.goto (-34), 3) := dk_167 255 222 (dk_at dksX6_number_3 13 rfl rfl)
theorem dX6_number_85 : decode cX6_number 85 = .ok (.aload_n 0, 1) := dk_42 (dk_at dksX6_number_3 16 rfl rfl)
theorem dX6_number_86 : decode cX6_number 86 = .ok (.iload_n 2, 1) := dk_28 (dk_at dksX6_number_3 17 rfl rfl)
theorem dX6_number_87 : decode cX6_number 87 = .ok (.iload_n 1, 1) := dk_27 (dk_at dksX6_number_3 18 rfl rfl)
theorem dX6_number_88 : decode cX6_number 88 = .ok (.if_icmp .gt 7, 3) := dk_163 0 7 (dk_at dksX6_number_3 19 rfl rfl)
theorem dX6_number_91 : decode cX6_number 91 = .ok (.iconst 1, 1) := dk_4 (dk_at dksX6_number_3 22 rfl rfl)
theorem dX6_number_92 : decode cX6_number 92 = .ok (.goto 4, 3) := dk_167 0 4 (dk_at dksX6_number_4 0 rfl rfl)
theorem dX6_number_95 : decode cX6_number 95 = .ok (.iconst 0, 1) := dk_3 (dk_at dksX6_number_4 3 rfl rfl)
theorem dX6_number_96 : decode cX6_number 96 = .ok (.invokevirtual 28, 3) := dk_182 0 28 (dk_at dksX6_number_4 4 rfl rfl)
theorem dX6_number_99 : decode cX6_number 99 = .ok (.aload_n 0, 1) := dk_42 (dk_at dksX6_number_4 7 rfl rfl)
theorem dX6_number_100 : decode cX6_number 100 = .ok (.invokevirtual 25, 3) := dk_182 0 25 (dk_at dksX6_number_4 8 rfl rfl)
theorem dX6_number_103 : decode cX6_number 103 = .ok (.iload_n 2, 1) := dk_28 (dk_at dksX6_number_4 11 rfl rfl)
theorem dX6_number_104 : decode cX6_number 104 = .ok (.ireturn, 1) := dk_172 (dk_at dksX6_number_4 12 rfl rfl)
noncomputable def f_X6_number_96 (E : ax_E) (x0 : Option Nat) (x2 : Int) (s0 : Option Nat) (s1 : Int) (h : ax_H) : Option ((Nat × ax_H) ⊕ (Int × ax_H)) :=
  ax_tc (fun z2 => some (.inl z2)) (ax_dp E h s0 fun t => if t = 25 ∨ t = 7 then f_X6_must E s0 s1 h else none) fun h1 =>
  (ax_dp E h1 x0 fun t => if t = 25 ∨ t = 7 then f_X6_next E x0 h1 else none).bind fun h3 =>
  some (.inr (x2, h3))
noncomputable def f_X6_number_85 (E : ax_E) (x0 : Option Nat) (x1 : Int) (x2 : Int) (h : ax_H) : Option ((Nat × ax_H) ⊕ (Int × ax_H)) :=
  if i2 x1 < i2 x2 then
    f_X6_number_96 E x0 x2 x0 0 h
  else
    f_X6_number_96 E x0 x2 x0 1 h
noncomputable def lb_X6_number_48 (E : ax_E) (x0 : Option Nat) (x1 : Int) (x2 : Int) (x3 : Int) (h : ax_H) : Option ((Int × Int × ax_H) ⊕ ((Nat × ax_H) ⊕ (Int × ax_H))) :=
  (ax_gIs E h x0 [(25, 1), (7, 1)]).bind fun v1 =>
  if i2 x3 < i2 v1 then
    if i2 x1 < i2 x2 then
      (f_X6_number_85 E x0 x1 x2 h).map Sum.inr
    else
      (ax_gRs E h x0 [(25, 7), (7, 7)]).bind fun v2 =>
      (ax_gR E h v2 0 11).bind fun v3 =>
      (ax_ld E h v3 101 x3).bind fun v4 =>
      some (.inl ((((10 * x2) + v4) - 48), (x3 + 1), h))
  else
    (f_X6_number_85 E x0 x1 x2 h).map Sum.inr
noncomputable def f_X6_number_48 (E : ax_E) (x0 : Option Nat) (x1 : Int) (x2 : Int) (x3 : Int) (h : ax_H) : Option ((Nat × ax_H) ⊕ (Int × ax_H)) :=
  ax_iter (fun s : Int × Int × ax_H => lb_X6_number_48 E x0 x1 s.1 s.2.1 s.2.2) (x2, x3, h)
noncomputable def f_X6_number_38 (E : ax_E) (x0 : Option Nat) (x1 : Int) (s0 : Option Nat) (s1 : Int) (h : ax_H) : Option ((Nat × ax_H) ⊕ (Int × ax_H)) :=
  ax_tc (fun z2 => some (.inl z2)) (ax_dp E h s0 fun t => if t = 25 ∨ t = 7 then f_X6_must E s0 s1 h else none) fun h1 =>
  (ax_gIs E h1 x0 [(25, 0), (7, 0)]).bind fun v3 =>
  f_X6_number_48 E x0 x1 0 v3 h1
noncomputable def f_X6_number_37 (E : ax_E) (x0 : Option Nat) (x1 : Int) (s0 : Option Nat) (h : ax_H) : Option ((Nat × ax_H) ⊕ (Int × ax_H)) :=
  f_X6_number_38 E x0 x1 s0 0 h
noncomputable def f_X6_number (E : ax_E) (x0 : Option Nat) (x1 : Int) (h : ax_H) : Option ((Nat × ax_H) ⊕ (Int × ax_H)) :=
  (ax_gIs E h x0 [(25, 0), (7, 0)]).bind fun v1 =>
  (ax_gRs E h x0 [(25, 7), (7, 7)]).bind fun v2 =>
  (ax_gI E h v2 0 12).bind fun v3 =>
  if i2 v1 < i2 v3 then
    (ax_gRs E h x0 [(25, 7), (7, 7)]).bind fun v4 =>
    (ax_gR E h v4 0 11).bind fun v5 =>
    (ax_gIs E h x0 [(25, 0), (7, 0)]).bind fun v6 =>
    (ax_ld E h v5 101 v6).bind fun v7 =>
    (f_X0_isDigit E v7 h).bind fun q8 =>
    if i2 q8.1 = 0 then
      f_X6_number_37 E x0 x1 x0 q8.2
    else
      f_X6_number_38 E x0 x1 x0 1 q8.2
  else
    f_X6_number_37 E x0 x1 x0 h
def pi_X6_number_48 (G : ax_G) (X : ax_X) (Q : State → Prop) (x0 : Option Nat) (x1 : Int) : Int × Int × ax_H → Prop := fun s => ∀ ls : Array Slot, ax_hl ls 4 [(0, .inr (.inr x0)), (1, .inl x1), (2, .inl s.1), (3, .inl s.2.1)] → ax_W G X Q s.2.2 48 ls []
set_option maxHeartbeats 4000000 in
theorem w_X6_number_96 {l : Launch} {G : ax_G} {X : ax_X} {Q : State → Prop} {h0 h : ax_H} {ls : Array Slot} (hSF : ax_SF G) (B : ax_BL l G X cX6_number 4 RX6 5 130) (Z : ax_Z X h0 ((some FieldType.int))) (hn : X.2.2.2.2.2.2.2.2.1.name = yX6_number.name) (hT : ∀ x ∈ ax_tb X, False) (x0 : Option Nat) (x2 : Int) (s0 : Option Nat) (s1 : Int) {w : (Nat × ax_H) ⊕ (Int × ax_H)} (hl : ax_hl ls 4 [(0, .inr (.inr x0)), (2, .inl x2)]) (e : f_X6_number_96 G.2.2 x0 x2 s0 s1 h = some w) (hp : (fun w : (Nat × ax_H) ⊕ (Int × ax_H) => Q = ax_QX G X "DebtDoors$Wrong" h0 (ax_zI w)) w) : ax_W G X Q h 96 ls [.int (Int32.ofInt s1), va_rf s0] := by
  unfold f_X6_number_96 at e
  refine ax_xwV (Ex := "DebtDoors$Wrong") (x := ⟨"DebtDoors$Reader", "must", "(Z)V"⟩) (n := 1) (As := [.int (Int32.ofInt s1)]) B (fun w1 e1 => ?_) rfl hl.size (by decide) dX6_number_96 e (fun z2 e => ?_) (fun h1 e => ?_)
  · obtain ⟨t, c, e2, e1⟩ := ax_dp_spec e1
    rcases ax_ite e1 with ⟨hk, e1⟩ | ⟨-, e1⟩
    · rcases hk with rfl | rfl
      · exact ax_calX B kd25 e2 q801 (B.2.1.2.2.2.2 _ q803) (ax_dcD B q897) (B.2.1.2.2.2.2 _ q805) q802 q144 q806 (by decide +kernel) ⟨Nat.le_of_ble_eq_true rfl, Nat.le_of_ble_eq_true rfl⟩ (mt_X6_must l G hSF s0 s1 _ w1 e1)
      · exact ax_calX B kd7 e2 q801 (B.2.1.2.2.2.2 _ q803) (ax_dcD B q897) (B.2.1.2.2.2.2 _ q804) q802 q144 q806 (by decide +kernel) ⟨Nat.le_of_ble_eq_true rfl, Nat.le_of_ble_eq_true rfl⟩ (mt_X6_must l G hSF s0 s1 _ w1 e1)
    cases e1
  · cases e
    have hp : Q = ax_QX G X "DebtDoors$Wrong" h0 (.inl z2) := hp
    subst hp
    exact ax_outX B Z (fun z hz => (hT z hz).elim)
  refine ax_aload_n B dX6_number_99 rfl hl 0 rfl ?_
  refine ax_iwV (x := ⟨"DebtDoors$Reader", "next", "()V"⟩) (n := 0) (As := []) B (fun w1 e1 => ?_) rfl hl.size (by decide) dX6_number_100 e (fun h3 e => ?_)
  · obtain ⟨t, c, e2, e1⟩ := ax_dp_spec e1
    rcases ax_ite e1 with ⟨hk, e1⟩ | ⟨-, e1⟩
    · rcases hk with rfl | rfl
      · exact ax_cal B kd25 e2 q789 q791 (ax_dcD B q901) (B.2.1.2.2.2.2 _ q793) q790 q144 q794 (by decide +kernel) ⟨Nat.le_of_ble_eq_true rfl, Nat.le_of_ble_eq_true rfl⟩ (mt_X6_next l G hSF x0 _ w1 e1)
      · exact ax_cal B kd7 e2 q789 q791 (ax_dcD B q901) (B.2.1.2.2.2.2 _ q792) q790 q144 q794 (by decide +kernel) ⟨Nat.le_of_ble_eq_true rfl, Nat.le_of_ble_eq_true rfl⟩ (mt_X6_next l G hSF x0 _ w1 e1)
    cases e1
  refine ax_iload_n B dX6_number_103 rfl hl 1 rfl ?_
  cases e
  have hp : Q = _ := hp
  subst hp
  exact ax_retX (ax_ireturn B Z dX6_number_104 rfl)
set_option maxHeartbeats 4000000 in
theorem w_X6_number_85 {l : Launch} {G : ax_G} {X : ax_X} {Q : State → Prop} {h0 h : ax_H} {ls : Array Slot} (hSF : ax_SF G) (B : ax_BL l G X cX6_number 4 RX6 5 130) (Z : ax_Z X h0 ((some FieldType.int))) (hn : X.2.2.2.2.2.2.2.2.1.name = yX6_number.name) (hT : ∀ x ∈ ax_tb X, False) (x0 : Option Nat) (x1 : Int) (x2 : Int) {w : (Nat × ax_H) ⊕ (Int × ax_H)} (hl : ax_hl ls 4 [(0, .inr (.inr x0)), (1, .inl x1), (2, .inl x2)]) (e : f_X6_number_85 G.2.2 x0 x1 x2 h = some w) (hp : (fun w : (Nat × ax_H) ⊕ (Int × ax_H) => Q = ax_QX G X "DebtDoors$Wrong" h0 (ax_zI w)) w) : ax_W G X Q h 85 ls [] := by
  unfold f_X6_number_85 at e
  refine ax_aload_n B dX6_number_85 rfl hl 0 rfl ?_
  refine ax_iload_n B dX6_number_86 rfl hl 2 rfl ?_
  refine ax_iload_n B dX6_number_87 rfl hl 1 rfl ?_
  refine ax_icmp_gt (tgt := 95) B dX6_number_88 (by decide) e (fun e => ?_) (fun e => ?_)
  · refine ax_iconst B dX6_number_95 ?_
    exact w_X6_number_96 hSF B Z hn hT x0 x2 x0 0 (hl.sub [0, 2] rfl) e hp
  · refine ax_iconst B dX6_number_91 ?_
    refine ax_goto (tgt := 96) B dX6_number_92 (by decide) ?_
    exact w_X6_number_96 hSF B Z hn hT x0 x2 x0 1 (hl.sub [0, 2] rfl) e hp
set_option maxHeartbeats 4000000 in
theorem wb_X6_number_48 {l : Launch} {G : ax_G} {X : ax_X} {Q : State → Prop} {h0 h : ax_H} {ls : Array Slot} (hSF : ax_SF G) (B : ax_BL l G X cX6_number 4 RX6 5 130) (Z : ax_Z X h0 ((some FieldType.int))) (hn : X.2.2.2.2.2.2.2.2.1.name = yX6_number.name) (hT : ∀ x ∈ ax_tb X, False) (x0 : Option Nat) (x1 : Int) (x2 : Int) (x3 : Int) {w : (Int × Int × ax_H) ⊕ ((Nat × ax_H) ⊕ (Int × ax_H))} (hl : ax_hl ls 4 [(0, .inr (.inr x0)), (1, .inl x1), (2, .inl x2), (3, .inl x3)]) (e : lb_X6_number_48 G.2.2 x0 x1 x2 x3 h = some w) (hp : (ax_PL (pi_X6_number_48 G X Q x0 x1) (fun w : (Nat × ax_H) ⊕ (Int × ax_H) => Q = ax_QX G X "DebtDoors$Wrong" h0 (ax_zI w))) w) : ax_W G X Q h 48 ls [] := by
  unfold lb_X6_number_48 at e
  refine ax_iload_n B dX6_number_48 rfl hl 3 rfl ?_
  refine ax_aload_n B dX6_number_49 rfl hl 0 rfl ?_
  refine ax_getIs B fs_X6_49 (fun _ _ => rfl) dX6_number_50 e (fun v1 e => ?_)
  refine ax_icmp_ge (tgt := 85) B dX6_number_53 (by decide) e (fun e => ?_) (fun e => ?_)
  · refine ax_iload_n B dX6_number_56 rfl hl 2 rfl ?_
    refine ax_iload_n B dX6_number_57 rfl hl 1 rfl ?_
    refine ax_icmp_gt (tgt := 85) B dX6_number_58 (by decide) e (fun e => ?_) (fun e => ?_)
    · obtain ⟨w, e9_1, rfl⟩ := Option.map_eq_some_iff.mp e
      have e := e9_1
      exact w_X6_number_85 hSF B Z hn hT x0 x1 x2 (hl.sub [0, 1, 2] rfl) e hp
    · refine ax_bipush B dX6_number_61 (by decide) ?_
      refine ax_iload_n B dX6_number_63 rfl hl 2 rfl ?_
      refine ax_imul' B dX6_number_64 ?_
      refine ax_aload_n B dX6_number_65 rfl hl 0 rfl ?_
      refine ax_getRs B fs_X6_3 (fun _ _ => rfl) dX6_number_66 e (fun v2 e => ?_)
      refine ax_getR B ff_X6_52_0 (fun _ _ => rfl) dX6_number_69 e (fun v3 e => ?_)
      refine ax_iload_n B dX6_number_72 rfl hl 3 rfl ?_
      refine ax_bald B kd101 dX6_number_73 e (fun v4 e => ?_)
      refine ax_iadd' B dX6_number_74 ?_
      refine ax_bipush B dX6_number_75 (by decide) ?_
      refine ax_isub' B dX6_number_77 ?_
      refine ax_istore_n (L' := [(2, .inl (((10 * x2) + v4) - 48)), (0, .inr (.inr x0)), (1, .inl x1), (3, .inl x3)]) B dX6_number_78 rfl hl (by decide) rfl (fun ls hl => ?_)
      refine ax_iinc (L' := [(3, .inl (x3 + 1)), (2, .inl (((10 * x2) + v4) - 48)), (0, .inr (.inr x0)), (1, .inl x1)]) B dX6_number_79 hl 3 rfl (by decide) rfl (fun ls hl => ?_)
      refine ax_goto (tgt := 48) B dX6_number_82 (by decide) ?_
      cases e
      exact hp _ (hl.sub [2, 3, 1, 0] rfl)
  · obtain ⟨w, e9_2, rfl⟩ := Option.map_eq_some_iff.mp e
    have e := e9_2
    exact w_X6_number_85 hSF B Z hn hT x0 x1 x2 (hl.sub [0, 1, 2] rfl) e hp
theorem w_X6_number_48 {l : Launch} {G : ax_G} {X : ax_X} {Q : State → Prop} {h0 h : ax_H} {ls : Array Slot} (hSF : ax_SF G) (B : ax_BL l G X cX6_number 4 RX6 5 130) (Z : ax_Z X h0 ((some FieldType.int))) (hn : X.2.2.2.2.2.2.2.2.1.name = yX6_number.name) (hT : ∀ x ∈ ax_tb X, False) (x0 : Option Nat) (x1 : Int) (x2 : Int) (x3 : Int) {w : (Nat × ax_H) ⊕ (Int × ax_H)} (hl : ax_hl ls 4 [(0, .inr (.inr x0)), (1, .inl x1), (2, .inl x2), (3, .inl x3)]) (e : f_X6_number_48 G.2.2 x0 x1 x2 x3 h = some w) (hp : (fun w : (Nat × ax_H) ⊕ (Int × ax_H) => Q = ax_QX G X "DebtDoors$Wrong" h0 (ax_zI w)) w) : ax_W G X Q h 48 ls [] :=
  ax_iter_W (Pin := pi_X6_number_48 G X Q x0 x1) (Pout := (fun w : (Nat × ax_H) ⊕ (Int × ax_H) => Q = ax_QX G X "DebtDoors$Wrong" h0 (ax_zI w))) (fun s w e hp ls hl => wb_X6_number_48 hSF B Z hn hT x0 x1 s.1 s.2.1 hl e hp) _ _ e hp ls hl
set_option maxHeartbeats 4000000 in
theorem w_X6_number_38 {l : Launch} {G : ax_G} {X : ax_X} {Q : State → Prop} {h0 h : ax_H} {ls : Array Slot} (hSF : ax_SF G) (B : ax_BL l G X cX6_number 4 RX6 5 130) (Z : ax_Z X h0 ((some FieldType.int))) (hn : X.2.2.2.2.2.2.2.2.1.name = yX6_number.name) (hT : ∀ x ∈ ax_tb X, False) (x0 : Option Nat) (x1 : Int) (s0 : Option Nat) (s1 : Int) {w : (Nat × ax_H) ⊕ (Int × ax_H)} (hl : ax_hl ls 4 [(0, .inr (.inr x0)), (1, .inl x1)]) (e : f_X6_number_38 G.2.2 x0 x1 s0 s1 h = some w) (hp : (fun w : (Nat × ax_H) ⊕ (Int × ax_H) => Q = ax_QX G X "DebtDoors$Wrong" h0 (ax_zI w)) w) : ax_W G X Q h 38 ls [.int (Int32.ofInt s1), va_rf s0] := by
  unfold f_X6_number_38 at e
  refine ax_xwV (Ex := "DebtDoors$Wrong") (x := ⟨"DebtDoors$Reader", "must", "(Z)V"⟩) (n := 1) (As := [.int (Int32.ofInt s1)]) B (fun w1 e1 => ?_) rfl hl.size (by decide) dX6_number_38 e (fun z2 e => ?_) (fun h1 e => ?_)
  · obtain ⟨t, c, e2, e1⟩ := ax_dp_spec e1
    rcases ax_ite e1 with ⟨hk, e1⟩ | ⟨-, e1⟩
    · rcases hk with rfl | rfl
      · exact ax_calX B kd25 e2 q801 (B.2.1.2.2.2.2 _ q803) (ax_dcD B q897) (B.2.1.2.2.2.2 _ q805) q802 q144 q806 (by decide +kernel) ⟨Nat.le_of_ble_eq_true rfl, Nat.le_of_ble_eq_true rfl⟩ (mt_X6_must l G hSF s0 s1 _ w1 e1)
      · exact ax_calX B kd7 e2 q801 (B.2.1.2.2.2.2 _ q803) (ax_dcD B q897) (B.2.1.2.2.2.2 _ q804) q802 q144 q806 (by decide +kernel) ⟨Nat.le_of_ble_eq_true rfl, Nat.le_of_ble_eq_true rfl⟩ (mt_X6_must l G hSF s0 s1 _ w1 e1)
    cases e1
  · cases e
    have hp : Q = ax_QX G X "DebtDoors$Wrong" h0 (.inl z2) := hp
    subst hp
    exact ax_outX B Z (fun z hz => (hT z hz).elim)
  refine ax_iconst B dX6_number_41 ?_
  refine ax_istore_n (L' := [(2, .inl 0), (0, .inr (.inr x0)), (1, .inl x1)]) B dX6_number_42 rfl hl (by decide) rfl (fun ls hl => ?_)
  refine ax_aload_n B dX6_number_43 rfl hl 1 rfl ?_
  refine ax_getIs B fs_X6_42 (fun _ _ => rfl) dX6_number_44 e (fun v3 e => ?_)
  refine ax_istore_n (L' := [(3, .inl v3), (2, .inl 0), (0, .inr (.inr x0)), (1, .inl x1)]) B dX6_number_47 rfl hl (by decide) rfl (fun ls hl => ?_)
  exact w_X6_number_48 hSF B Z hn hT x0 x1 0 v3 (hl.sub [2, 3, 1, 0] rfl) e hp
set_option maxHeartbeats 4000000 in
theorem w_X6_number_37 {l : Launch} {G : ax_G} {X : ax_X} {Q : State → Prop} {h0 h : ax_H} {ls : Array Slot} (hSF : ax_SF G) (B : ax_BL l G X cX6_number 4 RX6 5 130) (Z : ax_Z X h0 ((some FieldType.int))) (hn : X.2.2.2.2.2.2.2.2.1.name = yX6_number.name) (hT : ∀ x ∈ ax_tb X, False) (x0 : Option Nat) (x1 : Int) (s0 : Option Nat) {w : (Nat × ax_H) ⊕ (Int × ax_H)} (hl : ax_hl ls 4 [(0, .inr (.inr x0)), (1, .inl x1)]) (e : f_X6_number_37 G.2.2 x0 x1 s0 h = some w) (hp : (fun w : (Nat × ax_H) ⊕ (Int × ax_H) => Q = ax_QX G X "DebtDoors$Wrong" h0 (ax_zI w)) w) : ax_W G X Q h 37 ls [va_rf s0] := by
  unfold f_X6_number_37 at e
  refine ax_iconst B dX6_number_37 ?_
  exact w_X6_number_38 hSF B Z hn hT x0 x1 s0 0 (hl.sub [0, 1] rfl) e hp
set_option maxHeartbeats 4000000 in
theorem we_X6_number {l : Launch} {G : ax_G} {X : ax_X} {Q : State → Prop} {h0 h : ax_H} {ls : Array Slot} (hSF : ax_SF G) (B : ax_BL l G X cX6_number 4 RX6 5 130) (Z : ax_Z X h0 ((some FieldType.int))) (hn : X.2.2.2.2.2.2.2.2.1.name = yX6_number.name) (hT : ∀ x ∈ ax_tb X, False) (x0 : Option Nat) (x1 : Int) {w : (Nat × ax_H) ⊕ (Int × ax_H)} (hl : ax_hl ls 4 [(0, .inr (.inr x0)), (1, .inl x1)]) (e : f_X6_number G.2.2 x0 x1 h = some w) (hp : (fun w : (Nat × ax_H) ⊕ (Int × ax_H) => Q = ax_QX G X "DebtDoors$Wrong" h0 (ax_zI w)) w) : ax_W G X Q h 0 ls [] := by
  unfold f_X6_number at e
  refine ax_aload_n B dX6_number_0 rfl hl 0 rfl ?_
  refine ax_aload_n B dX6_number_1 rfl hl 0 rfl ?_
  refine ax_getIs B fs_X6_42 (fun _ _ => rfl) dX6_number_2 e (fun v1 e => ?_)
  refine ax_aload_n B dX6_number_5 rfl hl 0 rfl ?_
  refine ax_getRs B fs_X6_3 (fun _ _ => rfl) dX6_number_6 e (fun v2 e => ?_)
  refine ax_getI B ff_X6_46_0 (fun _ _ => rfl) dX6_number_9 e (fun v3 e => ?_)
  refine ax_icmp_ge (tgt := 37) B dX6_number_12 (by decide) e (fun e => ?_) (fun e => ?_)
  · refine ax_aload_n B dX6_number_15 rfl hl 0 rfl ?_
    refine ax_getRs B fs_X6_3 (fun _ _ => rfl) dX6_number_16 e (fun v4 e => ?_)
    refine ax_getR B ff_X6_52_0 (fun _ _ => rfl) dX6_number_19 e (fun v5 e => ?_)
    refine ax_aload_n B dX6_number_22 rfl hl 0 rfl ?_
    refine ax_getIs B fs_X6_42 (fun _ _ => rfl) dX6_number_23 e (fun v6 e => ?_)
    refine ax_bald B kd101 dX6_number_26 e (fun v7 e => ?_)
    refine ax_isNI (y := yX0_isDigit) (n := 1) (As := [.int (Int32.ofInt v7)]) B q798 q799 q125 q800 (by decide +kernel) ⟨Nat.le_of_ble_eq_true rfl, Nat.le_of_ble_eq_true rfl⟩ (fun w1 e1 => mt_X0_isDigit l G hSF v7 _ w1 e1) rfl hl.size (by simp only [List.map_cons, List.map_nil, List.sum_cons, List.sum_nil, va_rf_cat, ax_catI, ax_catL]; decide) dX6_number_27 e (fun q8 e => ?_)
    refine ax_if_eq (tgt := 37) B dX6_number_30 (by decide) e (fun e => ?_) (fun e => ?_)
    · exact w_X6_number_37 hSF B Z hn hT x0 x1 x0 (hl.sub [0, 1] rfl) e hp
    · refine ax_iconst B dX6_number_33 ?_
      refine ax_goto (tgt := 38) B dX6_number_34 (by decide) ?_
      exact w_X6_number_38 hSF B Z hn hT x0 x1 x0 1 (hl.sub [0, 1] rfl) e hp
  · exact w_X6_number_37 hSF B Z hn hT x0 x1 x0 (hl.sub [0, 1] rfl) e hp
theorem mt_X6_number (l : Launch) (G : ax_G) (hSF : ax_SF G) (x0 : Option Nat) (x1 : Int) (h : ax_H) (w : (Nat × ax_H) ⊕ (Int × ax_H)) (e : f_X6_number G.2.2 x0 x1 h = some w) : ax_MetX l G "DebtDoors$Wrong" yX6_number cX6_number 4 ((some FieldType.int)) 5 130 [va_rf x0, .int (Int32.ofInt x1)] h (ax_zI w) :=
  ax_enterX [.inr (.inr x0), .inl x1] (y := yX6_number) hSF (plainFor_of_name (by decide +kernel)) (Nat.le_of_ble_eq_true rfl) (fun X ls B Z hn hT hl => we_X6_number hSF B Z hn hT x0 x1 hl e rfl)
def dkwX25_behindWord_2 : List UInt8 := [42, 180, 0, 3, 28, 42, 16, 6, 182, 0, 72, 183, 0, 86, 176]
abbrev dktX25_behindWord_2 : List UInt8 := dkwX25_behindWord_2 ++ []
def dkwX25_behindWord_1 : List UInt8 := [8, 159, 0, 12, 187, 0, 79, 89, 27, 183, 0, 81, 176, 42, 16, 6, 182, 0, 72, 61, 187, 0, 84, 89]
abbrev dktX25_behindWord_1 : List UInt8 := dkwX25_behindWord_1 ++ dktX25_behindWord_2
def dkwX25_behindWord_0 : List UInt8 := [27, 7, 160, 0, 21, 187, 0, 70, 89, 42, 180, 0, 3, 42, 16, 6, 182, 0, 72, 183, 0, 76, 176, 27]
abbrev dktX25_behindWord_0 : List UInt8 := dkwX25_behindWord_0 ++ dktX25_behindWord_1
theorem dksX25_behindWord_0 : cX25_behindWord.data.toList.drop 0 = dktX25_behindWord_0 := by decide +kernel
theorem dksX25_behindWord_1 : cX25_behindWord.data.toList.drop 24 = dktX25_behindWord_1 := dk_seg dksX25_behindWord_0 24 rfl rfl
theorem dksX25_behindWord_2 : cX25_behindWord.data.toList.drop 48 = dktX25_behindWord_2 := dk_seg dksX25_behindWord_1 24 rfl rfl
theorem dX25_behindWord_0 : decode cX25_behindWord 0 = .ok (.iload_n 1, 1) := dk_27 (dk_at dksX25_behindWord_0 0 rfl rfl)
theorem dX25_behindWord_1 : decode cX25_behindWord 1 = .ok (.iconst 4, 1) := dk_7 (dk_at dksX25_behindWord_0 1 rfl rfl)
theorem dX25_behindWord_2 : decode cX25_behindWord 2 = .ok (.if_icmp .ne 21, 3) := dk_160 0 21 (dk_at dksX25_behindWord_0 2 rfl rfl)
theorem dX25_behindWord_5 : decode cX25_behindWord 5 = .ok (.new 70, 3) := dk_187 0 70 (dk_at dksX25_behindWord_0 5 rfl rfl)
theorem dX25_behindWord_8 : decode cX25_behindWord 8 = .ok (.dup, 1) := dk_89 (dk_at dksX25_behindWord_0 8 rfl rfl)
theorem dX25_behindWord_9 : decode cX25_behindWord 9 = .ok (.aload_n 0, 1) := dk_42 (dk_at dksX25_behindWord_0 9 rfl rfl)
theorem dX25_behindWord_10 : decode cX25_behindWord 10 = .ok (.getfield 3, 3) := dk_180 0 3 (dk_at dksX25_behindWord_0 10 rfl rfl)
theorem dX25_behindWord_13 : decode cX25_behindWord 13 = .ok (.aload_n 0, 1) := dk_42 (dk_at dksX25_behindWord_0 13 rfl rfl)
theorem dX25_behindWord_14 : decode cX25_behindWord 14 = .ok (.bipush 6, 2) := dk_16 6 (dk_at dksX25_behindWord_0 14 rfl rfl)
theorem dX25_behindWord_16 : decode cX25_behindWord 16 = .ok (.invokevirtual 72, 3) := dk_182 0 72 (dk_at dksX25_behindWord_0 16 rfl rfl)
theorem dX25_behindWord_19 : decode cX25_behindWord 19 = .ok (.invokespecial 76, 3) := dk_183 0 76 (dk_at dksX25_behindWord_0 19 rfl rfl)
theorem dX25_behindWord_22 : decode cX25_behindWord 22 = .ok (.areturn, 1) := dk_176 (dk_at dksX25_behindWord_0 22 rfl rfl)
theorem dX25_behindWord_23 : decode cX25_behindWord 23 = .ok (.iload_n 1, 1) := dk_27 (dk_at dksX25_behindWord_0 23 rfl rfl)
theorem dX25_behindWord_24 : decode cX25_behindWord 24 = .ok (.iconst 5, 1) := dk_8 (dk_at dksX25_behindWord_1 0 rfl rfl)
theorem dX25_behindWord_25 : decode cX25_behindWord 25 = .ok (.if_icmp .eq 12, 3) := dk_159 0 12 (dk_at dksX25_behindWord_1 1 rfl rfl)
theorem dX25_behindWord_28 : decode cX25_behindWord 28 = .ok (.new 79, 3) := dk_187 0 79 (dk_at dksX25_behindWord_1 4 rfl rfl)
theorem dX25_behindWord_31 : decode cX25_behindWord 31 = .ok (.dup, 1) := dk_89 (dk_at dksX25_behindWord_1 7 rfl rfl)
theorem dX25_behindWord_32 : decode cX25_behindWord 32 = .ok (.iload_n 1, 1) := dk_27 (dk_at dksX25_behindWord_1 8 rfl rfl)
theorem dX25_behindWord_33 : decode cX25_behindWord 33 = .ok (.invokespecial 81, 3) := dk_183 0 81 (dk_at dksX25_behindWord_1 9 rfl rfl)
theorem dX25_behindWord_36 : decode cX25_behindWord 36 = .ok (.areturn, 1) := dk_176 (dk_at dksX25_behindWord_1 12 rfl rfl)
theorem dX25_behindWord_37 : decode cX25_behindWord 37 = .ok (.aload_n 0, 1) := dk_42 (dk_at dksX25_behindWord_1 13 rfl rfl)
theorem dX25_behindWord_38 : decode cX25_behindWord 38 = .ok (.bipush 6, 2) := dk_16 6 (dk_at dksX25_behindWord_1 14 rfl rfl)
theorem dX25_behindWord_40 : decode cX25_behindWord 40 = .ok (.invokevirtual 72, 3) := dk_182 0 72 (dk_at dksX25_behindWord_1 16 rfl rfl)
theorem dX25_behindWord_43 : decode cX25_behindWord 43 = .ok (.istore_n 2, 1) := dk_61 (dk_at dksX25_behindWord_1 19 rfl rfl)
theorem dX25_behindWord_44 : decode cX25_behindWord 44 = .ok (.new 84, 3) := dk_187 0 84 (dk_at dksX25_behindWord_1 20 rfl rfl)
theorem dX25_behindWord_47 : decode cX25_behindWord 47 = .ok (.dup, 1) := dk_89 (dk_at dksX25_behindWord_1 23 rfl rfl)
theorem dX25_behindWord_48 : decode cX25_behindWord 48 = .ok (.aload_n 0, 1) := dk_42 (dk_at dksX25_behindWord_2 0 rfl rfl)
theorem dX25_behindWord_49 : decode cX25_behindWord 49 = .ok (.getfield 3, 3) := dk_180 0 3 (dk_at dksX25_behindWord_2 1 rfl rfl)
theorem dX25_behindWord_52 : decode cX25_behindWord 52 = .ok (.iload_n 2, 1) := dk_28 (dk_at dksX25_behindWord_2 4 rfl rfl)
theorem dX25_behindWord_53 : decode cX25_behindWord 53 = .ok (.aload_n 0, 1) := dk_42 (dk_at dksX25_behindWord_2 5 rfl rfl)
theorem dX25_behindWord_54 : decode cX25_behindWord 54 = .ok (.bipush 6, 2) := dk_16 6 (dk_at dksX25_behindWord_2 6 rfl rfl)
theorem dX25_behindWord_56 : decode cX25_behindWord 56 = .ok (.invokevirtual 72, 3) := dk_182 0 72 (dk_at dksX25_behindWord_2 8 rfl rfl)
theorem dX25_behindWord_59 : decode cX25_behindWord 59 = .ok (.invokespecial 86, 3) := dk_183 0 86 (dk_at dksX25_behindWord_2 11 rfl rfl)
theorem dX25_behindWord_62 : decode cX25_behindWord 62 = .ok (.areturn, 1) := dk_176 (dk_at dksX25_behindWord_2 14 rfl rfl)
noncomputable def f_X25_behindWord (E : ax_E) (x0 : Option Nat) (x1 : Int) (h : ax_H) : Option ((Nat × ax_H) ⊕ (Option Nat × ax_H)) :=
  if i2 x1 = i2 4 then
    (ax_nw E h 12 0 2).bind fun q1 =>
    (ax_gR E q1.2 x0 25 9).bind fun v2 =>
    ax_tc (fun z4 => some (.inl z4)) (ax_dp E q1.2 x0 fun t => if t = 25 then f_X6_number E x0 6 q1.2 else none) fun q3 =>
    (some q1.1).bind fun _ => (f_X12_init E (some q1.1) v2 q3.1 q3.2).bind fun h5 =>
    some (.inr ((some q1.1), h5))
  else
    if i2 x1 = i2 5 then
      ax_tc (fun z7 => some (.inl z7)) (ax_dp E h x0 fun t => if t = 25 then f_X6_number E x0 6 h else none) fun q6 =>
      (ax_nw E q6.2 13 0 3).bind fun q8 =>
      (ax_gR E q8.2 x0 25 9).bind fun v9 =>
      ax_tc (fun z11 => some (.inl z11)) (ax_dp E q8.2 x0 fun t => if t = 25 then f_X6_number E x0 6 q8.2 else none) fun q10 =>
      (some q8.1).bind fun _ => (f_X13_init E (some q8.1) v9 q6.1 q10.1 q10.2).bind fun h12 =>
      some (.inr ((some q8.1), h12))
    else
      (ax_nw E h 11 0 1).bind fun q13 =>
      (some q13.1).bind fun _ => (f_X11_init E (some q13.1) x1 q13.2).bind fun h14 =>
      some (.inr ((some q13.1), h14))
set_option maxHeartbeats 4000000 in
theorem we_X25_behindWord {l : Launch} {G : ax_G} {X : ax_X} {Q : State → Prop} {h0 h : ax_H} {ls : Array Slot} (hSF : ax_SF G) (B : ax_BL l G X cX25_behindWord 3 RX25 6 153) (Z : ax_Z X h0 ((some (FieldType.object "DebtDoors$Sum")))) (hn : X.2.2.2.2.2.2.2.2.1.name = yX25_behindWord.name) (hT : ∀ x ∈ ax_tb X, False) (x0 : Option Nat) (x1 : Int) {w : (Nat × ax_H) ⊕ (Option Nat × ax_H)} (hl : ax_hl ls 3 [(0, .inr (.inr x0)), (1, .inl x1)]) (e : f_X25_behindWord G.2.2 x0 x1 h = some w) (hp : (fun w : (Nat × ax_H) ⊕ (Option Nat × ax_H) => Q = ax_QX G X "DebtDoors$Wrong" h0 (ax_zR w)) w) : ax_W G X Q h 0 ls [] := by
  unfold f_X25_behindWord at e
  refine ax_iload_n B dX25_behindWord_0 rfl hl 1 rfl ?_
  refine ax_iconst B dX25_behindWord_1 ?_
  refine ax_icmp_ne (tgt := 23) B dX25_behindWord_2 (by decide) e (fun e => ?_) (fun e => ?_)
  · refine ax_new B kd12 in_X12 tyX12_ok (fun k hk => ax_dv _ (dfX12 k hk)) q965 q966 q152 dX25_behindWord_5 e (fun q1 e => ?_)
    refine ax_dup B dX25_behindWord_8 (va_rf_cat _) ?_
    refine ax_aload_n B dX25_behindWord_9 rfl hl 0 rfl ?_
    refine ax_getR B ff_X25_3_25 (fun _ _ => rfl) dX25_behindWord_10 e (fun v2 e => ?_)
    refine ax_aload_n B dX25_behindWord_13 rfl hl 0 rfl ?_
    refine ax_bipush B dX25_behindWord_14 (by decide) ?_
    refine ax_xwI (Ex := "DebtDoors$Wrong") (x := ⟨"DebtDoors$OrderReader", "number", "(I)I"⟩) (n := 1) (As := [.int (Int32.ofInt 6)]) B (fun w1 e1 => ?_) rfl hl.size (by simp only [List.map_cons, List.map_nil, List.sum_cons, List.sum_nil, va_rf_cat, ax_catI, ax_catL]; decide) dX25_behindWord_16 e (fun z4 e => ?_) (fun q3 e => ?_)
    · obtain ⟨t, c, e2, e1⟩ := ax_dp_spec e1
      rcases ax_ite e1 with ⟨hk, e1⟩ | ⟨-, e1⟩
      · subst hk
        exact ax_calX B kd25 e2 q967 (B.2.1.2.2.2.2 _ q968) (ax_dcD B q969) (B.2.1.2.2.2.2 _ q970) q942 q144 q946 (by decide +kernel) ⟨Nat.le_of_ble_eq_true rfl, Nat.le_of_ble_eq_true rfl⟩ (mt_X6_number l G hSF x0 6 _ w1 e1)
      cases e1
    · cases e
      have hp : Q = ax_QX G X "DebtDoors$Wrong" h0 (.inl z4) := hp
      subst hp
      exact ax_outX B Z (fun z hz => (hT z hz).elim)
    refine ax_iiR (y := yX12_init) (n := 2) (As := [va_rf v2, .int (Int32.ofInt q3.1)]) B q971 q972 q152 q973 rfl (by decide +kernel) ⟨Nat.le_of_ble_eq_true rfl, Nat.le_of_ble_eq_true rfl⟩ (fun w1 e1 => mt_X12_init l G hSF (some q1.1) v2 q3.1 _ w1 e1) rfl hl.size (by simp only [List.map_cons, List.map_nil, List.sum_cons, List.sum_nil, va_rf_cat, ax_catI, ax_catL]; decide) dX25_behindWord_19 e (fun h5 e => ?_)
    cases e
    have hp : Q = _ := hp
    subst hp
    exact ax_retX (ax_areturn B Z (Or.inl ⟨_, rfl⟩) dX25_behindWord_22 rfl)
  · refine ax_iload_n B dX25_behindWord_23 rfl hl 1 rfl ?_
    refine ax_iconst B dX25_behindWord_24 ?_
    refine ax_icmp_eq (tgt := 37) B dX25_behindWord_25 (by decide) e (fun e => ?_) (fun e => ?_)
    · refine ax_aload_n B dX25_behindWord_37 rfl hl 0 rfl ?_
      refine ax_bipush B dX25_behindWord_38 (by decide) ?_
      refine ax_xwI (Ex := "DebtDoors$Wrong") (x := ⟨"DebtDoors$OrderReader", "number", "(I)I"⟩) (n := 1) (As := [.int (Int32.ofInt 6)]) B (fun w1 e1 => ?_) rfl hl.size (by decide) dX25_behindWord_40 e (fun z7 e => ?_) (fun q6 e => ?_)
      · obtain ⟨t, c, e2, e1⟩ := ax_dp_spec e1
        rcases ax_ite e1 with ⟨hk, e1⟩ | ⟨-, e1⟩
        · subst hk
          exact ax_calX B kd25 e2 q967 (B.2.1.2.2.2.2 _ q968) (ax_dcD B q969) (B.2.1.2.2.2.2 _ q970) q942 q144 q946 (by decide +kernel) ⟨Nat.le_of_ble_eq_true rfl, Nat.le_of_ble_eq_true rfl⟩ (mt_X6_number l G hSF x0 6 _ w1 e1)
        cases e1
      · cases e
        have hp : Q = ax_QX G X "DebtDoors$Wrong" h0 (.inl z7) := hp
        subst hp
        exact ax_outX B Z (fun z hz => (hT z hz).elim)
      refine ax_istore_n (L' := [(2, .inl q6.1), (0, .inr (.inr x0)), (1, .inl x1)]) B dX25_behindWord_43 rfl hl (by decide) rfl (fun ls hl => ?_)
      refine ax_new B kd13 in_X13 tyX13_ok (fun k hk => ax_dv _ (dfX13 k hk)) q992 q993 q153 dX25_behindWord_44 e (fun q8 e => ?_)
      refine ax_dup B dX25_behindWord_47 (va_rf_cat _) ?_
      refine ax_aload_n B dX25_behindWord_48 rfl hl 1 rfl ?_
      refine ax_getR B ff_X25_3_25 (fun _ _ => rfl) dX25_behindWord_49 e (fun v9 e => ?_)
      refine ax_iload_n B dX25_behindWord_52 rfl hl 0 rfl ?_
      refine ax_aload_n B dX25_behindWord_53 rfl hl 1 rfl ?_
      refine ax_bipush B dX25_behindWord_54 (by decide) ?_
      refine ax_xwI (Ex := "DebtDoors$Wrong") (x := ⟨"DebtDoors$OrderReader", "number", "(I)I"⟩) (n := 1) (As := [.int (Int32.ofInt 6)]) B (fun w1 e1 => ?_) rfl hl.size (by simp only [List.map_cons, List.map_nil, List.sum_cons, List.sum_nil, va_rf_cat, ax_catI, ax_catL]; decide) dX25_behindWord_56 e (fun z11 e => ?_) (fun q10 e => ?_)
      · obtain ⟨t, c, e2, e1⟩ := ax_dp_spec e1
        rcases ax_ite e1 with ⟨hk, e1⟩ | ⟨-, e1⟩
        · subst hk
          exact ax_calX B kd25 e2 q967 (B.2.1.2.2.2.2 _ q968) (ax_dcD B q969) (B.2.1.2.2.2.2 _ q970) q942 q144 q946 (by decide +kernel) ⟨Nat.le_of_ble_eq_true rfl, Nat.le_of_ble_eq_true rfl⟩ (mt_X6_number l G hSF x0 6 _ w1 e1)
        cases e1
      · cases e
        have hp : Q = ax_QX G X "DebtDoors$Wrong" h0 (.inl z11) := hp
        subst hp
        exact ax_outX B Z (fun z hz => (hT z hz).elim)
      refine ax_iiR (y := yX13_init) (n := 3) (As := [va_rf v9, .int (Int32.ofInt q6.1), .int (Int32.ofInt q10.1)]) B q994 q995 q153 q996 rfl (by decide +kernel) ⟨Nat.le_of_ble_eq_true rfl, Nat.le_of_ble_eq_true rfl⟩ (fun w1 e1 => mt_X13_init l G hSF (some q8.1) v9 q6.1 q10.1 _ w1 e1) rfl hl.size (by simp only [List.map_cons, List.map_nil, List.sum_cons, List.sum_nil, va_rf_cat, ax_catI, ax_catL]; decide) dX25_behindWord_59 e (fun h12 e => ?_)
      cases e
      have hp : Q = _ := hp
      subst hp
      exact ax_retX (ax_areturn B Z (Or.inl ⟨_, rfl⟩) dX25_behindWord_62 rfl)
    · refine ax_new B kd11 in_X11 tyX11_ok (fun k hk => ax_dv _ (dfX11 k hk)) q982 q983 q151 dX25_behindWord_28 e (fun q13 e => ?_)
      refine ax_dup B dX25_behindWord_31 (va_rf_cat _) ?_
      refine ax_iload_n B dX25_behindWord_32 rfl hl 1 rfl ?_
      refine ax_iiR (y := yX11_init) (n := 1) (As := [.int (Int32.ofInt x1)]) B q984 q985 q151 q986 rfl (by decide +kernel) ⟨Nat.le_of_ble_eq_true rfl, Nat.le_of_ble_eq_true rfl⟩ (fun w1 e1 => mt_X11_init l G hSF (some q13.1) x1 _ w1 e1) rfl hl.size (by simp only [List.map_cons, List.map_nil, List.sum_cons, List.sum_nil, va_rf_cat, ax_catI, ax_catL]; decide) dX25_behindWord_33 e (fun h14 e => ?_)
      cases e
      have hp : Q = _ := hp
      subst hp
      exact ax_retX (ax_areturn B Z (Or.inl ⟨_, rfl⟩) dX25_behindWord_36 rfl)
theorem mt_X25_behindWord (l : Launch) (G : ax_G) (hSF : ax_SF G) (x0 : Option Nat) (x1 : Int) (h : ax_H) (w : (Nat × ax_H) ⊕ (Option Nat × ax_H)) (e : f_X25_behindWord G.2.2 x0 x1 h = some w) : ax_MetX l G "DebtDoors$Wrong" yX25_behindWord cX25_behindWord 3 ((some (FieldType.object "DebtDoors$Sum"))) 6 153 [va_rf x0, .int (Int32.ofInt x1)] h (ax_zR w) :=
  ax_enterX [.inr (.inr x0), .inl x1] (y := yX25_behindWord) hSF (plainFor_of_name (by decide +kernel)) (Nat.le_of_ble_eq_true rfl) (fun X ls B Z hn hT hl => we_X25_behindWord hSF B Z hn hT x0 x1 hl e rfl)
def dkwX6_behindWord_0 : List UInt8 := [187, 0, 195, 89, 27, 183, 0, 197, 176]
abbrev dktX6_behindWord_0 : List UInt8 := dkwX6_behindWord_0 ++ []
theorem dksX6_behindWord_0 : cX6_behindWord.data.toList.drop 0 = dktX6_behindWord_0 := by decide +kernel
theorem dX6_behindWord_0 : decode cX6_behindWord 0 = .ok (.new 195, 3) := dk_187 0 195 (dk_at dksX6_behindWord_0 0 rfl rfl)
theorem dX6_behindWord_3 : decode cX6_behindWord 3 = .ok (.dup, 1) := dk_89 (dk_at dksX6_behindWord_0 3 rfl rfl)
theorem dX6_behindWord_4 : decode cX6_behindWord 4 = .ok (.iload_n 1, 1) := dk_27 (dk_at dksX6_behindWord_0 4 rfl rfl)
theorem dX6_behindWord_5 : decode cX6_behindWord 5 = .ok (.invokespecial 197, 3) := dk_183 0 197 (dk_at dksX6_behindWord_0 5 rfl rfl)
theorem dX6_behindWord_8 : decode cX6_behindWord 8 = .ok (.areturn, 1) := dk_176 (dk_at dksX6_behindWord_0 8 rfl rfl)
noncomputable def f_X6_behindWord (E : ax_E) (x0 : Option Nat) (x1 : Int) (h : ax_H) : Option ((Nat × ax_H) ⊕ (Option Nat × ax_H)) :=
  (ax_nw E h 11 0 1).bind fun q1 =>
  (some q1.1).bind fun _ => (f_X11_init E (some q1.1) x1 q1.2).bind fun h2 =>
  some (.inr ((some q1.1), h2))
set_option maxHeartbeats 4000000 in
theorem we_X6_behindWord {l : Launch} {G : ax_G} {X : ax_X} {Q : State → Prop} {h0 h : ax_H} {ls : Array Slot} (hSF : ax_SF G) (B : ax_BL l G X cX6_behindWord 2 RX6 3 81) (Z : ax_Z X h0 ((some (FieldType.object "DebtDoors$Sum")))) (hn : X.2.2.2.2.2.2.2.2.1.name = yX6_behindWord.name) (hT : ∀ x ∈ ax_tb X, False) (x0 : Option Nat) (x1 : Int) {w : (Nat × ax_H) ⊕ (Option Nat × ax_H)} (hl : ax_hl ls 2 [(0, .inr (.inr x0)), (1, .inl x1)]) (e : f_X6_behindWord G.2.2 x0 x1 h = some w) (hp : (fun w : (Nat × ax_H) ⊕ (Option Nat × ax_H) => Q = ax_QX G X "DebtDoors$Wrong" h0 (ax_zR w)) w) : ax_W G X Q h 0 ls [] := by
  unfold f_X6_behindWord at e
  refine ax_new B kd11 in_X11 tyX11_ok (fun k hk => ax_dv _ (dfX11 k hk)) q1009 q983 q151 dX6_behindWord_0 e (fun q1 e => ?_)
  refine ax_dup B dX6_behindWord_3 (va_rf_cat _) ?_
  refine ax_iload_n B dX6_behindWord_4 rfl hl 1 rfl ?_
  refine ax_iiR (y := yX11_init) (n := 1) (As := [.int (Int32.ofInt x1)]) B q1010 q985 q151 q986 rfl (by decide +kernel) ⟨Nat.le_of_ble_eq_true rfl, Nat.le_of_ble_eq_true rfl⟩ (fun w1 e1 => mt_X11_init l G hSF (some q1.1) x1 _ w1 e1) rfl hl.size (by simp only [List.map_cons, List.map_nil, List.sum_cons, List.sum_nil, va_rf_cat, ax_catI, ax_catL]; decide) dX6_behindWord_5 e (fun h2 e => ?_)
  cases e
  have hp : Q = _ := hp
  subst hp
  exact ax_retX (ax_areturn B Z (Or.inl ⟨_, rfl⟩) dX6_behindWord_8 rfl)
theorem mt_X6_behindWord (l : Launch) (G : ax_G) (hSF : ax_SF G) (x0 : Option Nat) (x1 : Int) (h : ax_H) (w : (Nat × ax_H) ⊕ (Option Nat × ax_H)) (e : f_X6_behindWord G.2.2 x0 x1 h = some w) : ax_MetX l G "DebtDoors$Wrong" yX6_behindWord cX6_behindWord 2 ((some (FieldType.object "DebtDoors$Sum"))) 3 81 [va_rf x0, .int (Int32.ofInt x1)] h (ax_zR w) :=
  ax_enterX [.inr (.inr x0), .inl x1] (y := yX6_behindWord) hSF (plainFor_of_name (by decide +kernel)) (Nat.le_of_ble_eq_true rfl) (fun X ls B Z hn hT hl => we_X6_behindWord hSF B Z hn hT x0 x1 hl e rfl)
def dkwX6_part_5 : List UInt8 := [176]
abbrev dktX6_part_5 : List UInt8 := dkwX6_part_5 ++ []
def dkwX6_part_4 : List UInt8 := [42, 17, 3, 232, 182, 0, 186, 183, 0, 190, 176, 42, 182, 0, 181, 42, 182, 0, 25, 42, 27, 182, 0, 191]
abbrev dktX6_part_4 : List UInt8 := dkwX6_part_4 ++ dktX6_part_5
def dkwX6_part_3 : List UInt8 := [153, 0, 7, 4, 167, 0, 4, 3, 182, 0, 28, 27, 2, 160, 0, 22, 42, 182, 0, 181, 187, 0, 184, 89]
abbrev dktX6_part_3 : List UInt8 := dkwX6_part_3 ++ dktX6_part_4
def dkwX6_part_2 : List UInt8 := [180, 0, 3, 180, 0, 46, 162, 0, 25, 42, 180, 0, 3, 180, 0, 52, 42, 180, 0, 42, 51, 184, 0, 60]
abbrev dktX6_part_2 : List UInt8 := dkwX6_part_2 ++ dktX6_part_3
def dkwX6_part_1 : List UInt8 := [43, 176, 42, 42, 180, 0, 21, 182, 0, 177, 60, 42, 27, 2, 160, 0, 35, 42, 180, 0, 42, 42]
abbrev dktX6_part_1 : List UInt8 := dkwX6_part_1 ++ dktX6_part_2
def dkwX6_part_0 : List UInt8 := [42, 18, 173, 182, 0, 73, 153, 0, 20, 42, 182, 0, 123, 42, 182, 0, 135, 76, 42, 18, 175, 182, 0, 131]
abbrev dktX6_part_0 : List UInt8 := dkwX6_part_0 ++ dktX6_part_1
theorem dksX6_part_0 : cX6_part.data.toList.drop 0 = dktX6_part_0 := by decide +kernel
theorem dksX6_part_1 : cX6_part.data.toList.drop 24 = dktX6_part_1 := dk_seg dksX6_part_0 24 rfl rfl
theorem dksX6_part_2 : cX6_part.data.toList.drop 46 = dktX6_part_2 := dk_seg dksX6_part_1 22 rfl rfl
theorem dksX6_part_3 : cX6_part.data.toList.drop 70 = dktX6_part_3 := dk_seg dksX6_part_2 24 rfl rfl
theorem dksX6_part_4 : cX6_part.data.toList.drop 94 = dktX6_part_4 := dk_seg dksX6_part_3 24 rfl rfl
theorem dksX6_part_5 : cX6_part.data.toList.drop 118 = dktX6_part_5 := dk_seg dksX6_part_4 24 rfl rfl
theorem dX6_part_0 : decode cX6_part 0 = .ok (.aload_n 0, 1) := dk_42 (dk_at dksX6_part_0 0 rfl rfl)
theorem dX6_part_1 : decode cX6_part 1 = .ok (.ldc 173, 2) := dk_18 173 (dk_at dksX6_part_0 1 rfl rfl)
theorem dX6_part_3 : decode cX6_part 3 = .ok (.invokevirtual 73, 3) := dk_182 0 73 (dk_at dksX6_part_0 3 rfl rfl)
theorem dX6_part_6 : decode cX6_part 6 = .ok (.ifCond .eq 20, 3) := dk_153 0 20 (dk_at dksX6_part_0 6 rfl rfl)
theorem dX6_part_9 : decode cX6_part 9 = .ok (.aload_n 0, 1) := dk_42 (dk_at dksX6_part_0 9 rfl rfl)
theorem dX6_part_10 : decode cX6_part 10 = .ok (.invokevirtual 123, 3) := dk_182 0 123 (dk_at dksX6_part_0 10 rfl rfl)
theorem dX6_part_13 : decode cX6_part 13 = .ok (.aload_n 0, 1) := dk_42 (dk_at dksX6_part_0 13 rfl rfl)
theorem dX6_part_14 : decode cX6_part 14 = .ok (.invokevirtual 135, 3) := dk_182 0 135 (dk_at dksX6_part_0 14 rfl rfl)
theorem dX6_part_17 : decode cX6_part 17 = .ok (.astore_n 1, 1) := dk_76 (dk_at dksX6_part_0 17 rfl rfl)
theorem dX6_part_18 : decode cX6_part 18 = .ok (.aload_n 0, 1) := dk_42 (dk_at dksX6_part_0 18 rfl rfl)
theorem dX6_part_19 : decode cX6_part 19 = .ok (.ldc 175, 2) := dk_18 175 (dk_at dksX6_part_0 19 rfl rfl)
theorem dX6_part_21 : decode cX6_part 21 = .ok (.invokevirtual 131, 3) := dk_182 0 131 (dk_at dksX6_part_0 21 rfl rfl)
theorem dX6_part_24 : decode cX6_part 24 = .ok (.aload_n 1, 1) := dk_43 (dk_at dksX6_part_1 0 rfl rfl)
theorem dX6_part_25 : decode cX6_part 25 = .ok (.areturn, 1) := dk_176 (dk_at dksX6_part_1 1 rfl rfl)
theorem dX6_part_26 : decode cX6_part 26 = .ok (.aload_n 0, 1) := dk_42 (dk_at dksX6_part_1 2 rfl rfl)
theorem dX6_part_27 : decode cX6_part 27 = .ok (.aload_n 0, 1) := dk_42 (dk_at dksX6_part_1 3 rfl rfl)
theorem dX6_part_28 : decode cX6_part 28 = .ok (.getfield 21, 3) := dk_180 0 21 (dk_at dksX6_part_1 4 rfl rfl)
theorem dX6_part_31 : decode cX6_part 31 = .ok (.invokevirtual 177, 3) := dk_182 0 177 (dk_at dksX6_part_1 7 rfl rfl)
theorem dX6_part_34 : decode cX6_part 34 = .ok (.istore_n 1, 1) := dk_60 (dk_at dksX6_part_1 10 rfl rfl)
theorem dX6_part_35 : decode cX6_part 35 = .ok (.aload_n 0, 1) := dk_42 (dk_at dksX6_part_1 11 rfl rfl)
theorem dX6_part_36 : decode cX6_part 36 = .ok (.iload_n 1, 1) := dk_27 (dk_at dksX6_part_1 12 rfl rfl)
theorem dX6_part_37 : decode cX6_part 37 = .ok (.iconst (-1), 1) := dk_2 (dk_at dksX6_part_1 13 rfl rfl)
theorem dX6_part_38 : decode cX6_part 38 = .ok (.if_icmp .ne 35, 3) := dk_160 0 35 (dk_at dksX6_part_1 14 rfl rfl)
theorem dX6_part_41 : decode cX6_part 41 = .ok (.aload_n 0, 1) := dk_42 (dk_at dksX6_part_1 17 rfl rfl)
theorem dX6_part_42 : decode cX6_part 42 = .ok (.getfield 42, 3) := dk_180 0 42 (dk_at dksX6_part_1 18 rfl rfl)
theorem dX6_part_45 : decode cX6_part 45 = .ok (.aload_n 0, 1) := dk_42 (dk_at dksX6_part_1 21 rfl rfl)
theorem dX6_part_46 : decode cX6_part 46 = .ok (.getfield 3, 3) := dk_180 0 3 (dk_at dksX6_part_2 0 rfl rfl)
theorem dX6_part_49 : decode cX6_part 49 = .ok (.getfield 46, 3) := dk_180 0 46 (dk_at dksX6_part_2 3 rfl rfl)
theorem dX6_part_52 : decode cX6_part 52 = .ok (.if_icmp .ge 25, 3) := dk_162 0 25 (dk_at dksX6_part_2 6 rfl rfl)
theorem dX6_part_55 : decode cX6_part 55 = .ok (.aload_n 0, 1) := dk_42 (dk_at dksX6_part_2 9 rfl rfl)
theorem dX6_part_56 : decode cX6_part 56 = .ok (.getfield 3, 3) := dk_180 0 3 (dk_at dksX6_part_2 10 rfl rfl)
theorem dX6_part_59 : decode cX6_part 59 = .ok (.getfield 52, 3) := dk_180 0 52 (dk_at dksX6_part_2 13 rfl rfl)
theorem dX6_part_62 : decode cX6_part 62 = .ok (.aload_n 0, 1) := dk_42 (dk_at dksX6_part_2 16 rfl rfl)
theorem dX6_part_63 : decode cX6_part 63 = .ok (.getfield 42, 3) := dk_180 0 42 (dk_at dksX6_part_2 17 rfl rfl)
theorem dX6_part_66 : decode cX6_part 66 = .ok (.baload, 1) := dk_51 (dk_at dksX6_part_2 20 rfl rfl)
theorem dX6_part_67 : decode cX6_part 67 = .ok (.invokestatic 60, 3) := dk_184 0 60 (dk_at dksX6_part_2 21 rfl rfl)
theorem dX6_part_70 : decode cX6_part 70 = .ok (.ifCond .eq 7, 3) := dk_153 0 7 (dk_at dksX6_part_3 0 rfl rfl)
theorem dX6_part_73 : decode cX6_part 73 = .ok (.iconst 1, 1) := dk_4 (dk_at dksX6_part_3 3 rfl rfl)
theorem dX6_part_74 : decode cX6_part 74 = .ok (.goto 4, 3) := dk_167 0 4 (dk_at dksX6_part_3 4 rfl rfl)
theorem dX6_part_77 : decode cX6_part 77 = .ok (.iconst 0, 1) := dk_3 (dk_at dksX6_part_3 7 rfl rfl)
theorem dX6_part_78 : decode cX6_part 78 = .ok (.invokevirtual 28, 3) := dk_182 0 28 (dk_at dksX6_part_3 8 rfl rfl)
theorem dX6_part_81 : decode cX6_part 81 = .ok (.iload_n 1, 1) := dk_27 (dk_at dksX6_part_3 11 rfl rfl)
theorem dX6_part_82 : decode cX6_part 82 = .ok (.iconst (-1), 1) := dk_2 (dk_at dksX6_part_3 12 rfl rfl)
theorem dX6_part_83 : decode cX6_part 83 = .ok (.if_icmp .ne 22, 3) := dk_160 0 22 (dk_at dksX6_part_3 13 rfl rfl)
theorem dX6_part_86 : decode cX6_part 86 = .ok (.aload_n 0, 1) := dk_42 (dk_at dksX6_part_3 16 rfl rfl)
theorem dX6_part_87 : decode cX6_part 87 = .ok (.invokevirtual 181, 3) := dk_182 0 181 (dk_at dksX6_part_3 17 rfl rfl)
theorem dX6_part_90 : decode cX6_part 90 = .ok (.new 184, 3) := dk_187 0 184 (dk_at dksX6_part_3 20 rfl rfl)
theorem dX6_part_93 : decode cX6_part 93 = .ok (.dup, 1) := dk_89 (dk_at dksX6_part_3 23 rfl rfl)
theorem dX6_part_94 : decode cX6_part 94 = .ok (.aload_n 0, 1) := dk_42 (dk_at dksX6_part_4 0 rfl rfl)
theorem dX6_part_95 : decode cX6_part 95 = .ok (.sipush 1000, 3) := dk_17 3 232 (dk_at dksX6_part_4 1 rfl rfl)
theorem dX6_part_98 : decode cX6_part 98 = .ok (.invokevirtual 186, 3) := dk_182 0 186 (dk_at dksX6_part_4 4 rfl rfl)
theorem dX6_part_101 : decode cX6_part 101 = .ok (.invokespecial 190, 3) := dk_183 0 190 (dk_at dksX6_part_4 7 rfl rfl)
theorem dX6_part_104 : decode cX6_part 104 = .ok (.areturn, 1) := dk_176 (dk_at dksX6_part_4 10 rfl rfl)
theorem dX6_part_105 : decode cX6_part 105 = .ok (.aload_n 0, 1) := dk_42 (dk_at dksX6_part_4 11 rfl rfl)
theorem dX6_part_106 : decode cX6_part 106 = .ok (.invokevirtual 181, 3) := dk_182 0 181 (dk_at dksX6_part_4 12 rfl rfl)
theorem dX6_part_109 : decode cX6_part 109 = .ok (.aload_n 0, 1) := dk_42 (dk_at dksX6_part_4 15 rfl rfl)
theorem dX6_part_110 : decode cX6_part 110 = .ok (.invokevirtual 25, 3) := dk_182 0 25 (dk_at dksX6_part_4 16 rfl rfl)
theorem dX6_part_113 : decode cX6_part 113 = .ok (.aload_n 0, 1) := dk_42 (dk_at dksX6_part_4 19 rfl rfl)
theorem dX6_part_114 : decode cX6_part 114 = .ok (.iload_n 1, 1) := dk_27 (dk_at dksX6_part_4 20 rfl rfl)
theorem dX6_part_115 : decode cX6_part 115 = .ok (.invokevirtual 191, 3) := dk_182 0 191 (dk_at dksX6_part_4 21 rfl rfl)
theorem dX6_part_118 : decode cX6_part 118 = .ok (.areturn, 1) := dk_176 (dk_at dksX6_part_5 0 rfl rfl)
def dkwX6_term_2 : List UInt8 := [182, 0, 25, 187, 0, 161, 89, 43, 28, 42, 182, 0, 164, 183, 0, 163, 76, 167, 255, 198, 43, 176]
abbrev dktX6_term_2 : List UInt8 := dkwX6_term_2 ++ []
def dkwX6_term_1 : List UInt8 := [18, 171, 182, 0, 73, 153, 0, 37, 42, 180, 0, 3, 180, 0, 52, 42, 180, 0, 42, 51, 61, 42]
abbrev dktX6_term_1 : List UInt8 := dkwX6_term_1 ++ dktX6_term_2
def dkwX6_term_0 : List UInt8 := [42, 182, 0, 164, 76, 42, 18, 167, 182, 0, 73, 154, 0, 21, 42, 18, 169, 182, 0, 73, 154, 0, 12, 42]
abbrev dktX6_term_0 : List UInt8 := dkwX6_term_0 ++ dktX6_term_1
theorem dksX6_term_0 : cX6_term.data.toList.drop 0 = dktX6_term_0 := by decide +kernel
theorem dksX6_term_1 : cX6_term.data.toList.drop 24 = dktX6_term_1 := dk_seg dksX6_term_0 24 rfl rfl
theorem dksX6_term_2 : cX6_term.data.toList.drop 46 = dktX6_term_2 := dk_seg dksX6_term_1 22 rfl rfl
theorem dX6_term_0 : decode cX6_term 0 = .ok (.aload_n 0, 1) := dk_42 (dk_at dksX6_term_0 0 rfl rfl)
theorem dX6_term_1 : decode cX6_term 1 = .ok (.invokevirtual 164, 3) := dk_182 0 164 (dk_at dksX6_term_0 1 rfl rfl)
theorem dX6_term_4 : decode cX6_term 4 = .ok (.astore_n 1, 1) := dk_76 (dk_at dksX6_term_0 4 rfl rfl)
theorem dX6_term_5 : decode cX6_term 5 = .ok (.aload_n 0, 1) := dk_42 (dk_at dksX6_term_0 5 rfl rfl)
theorem dX6_term_6 : decode cX6_term 6 = .ok (.ldc 167, 2) := dk_18 167 (dk_at dksX6_term_0 6 rfl rfl)
theorem dX6_term_8 : decode cX6_term 8 = .ok (.invokevirtual 73, 3) := dk_182 0 73 (dk_at dksX6_term_0 8 rfl rfl)
theorem dX6_term_11 : decode cX6_term 11 = .ok (.ifCond .ne 21, 3) := dk_154 0 21 (dk_at dksX6_term_0 11 rfl rfl)
theorem dX6_term_14 : decode cX6_term 14 = .ok (.aload_n 0, 1) := dk_42 (dk_at dksX6_term_0 14 rfl rfl)
theorem dX6_term_15 : decode cX6_term 15 = .ok (.ldc 169, 2) := dk_18 169 (dk_at dksX6_term_0 15 rfl rfl)
theorem dX6_term_17 : decode cX6_term 17 = .ok (.invokevirtual 73, 3) := dk_182 0 73 (dk_at dksX6_term_0 17 rfl rfl)
theorem dX6_term_20 : decode cX6_term 20 = .ok (.ifCond .ne 12, 3) := dk_154 0 12 (dk_at dksX6_term_0 20 rfl rfl)
theorem dX6_term_23 : decode cX6_term 23 = .ok (.aload_n 0, 1) := dk_42 (dk_at dksX6_term_0 23 rfl rfl)
theorem dX6_term_24 : decode cX6_term 24 = .ok (.ldc 171, 2) := dk_18 171 (dk_at dksX6_term_1 0 rfl rfl)
theorem dX6_term_26 : decode cX6_term 26 = .ok (.invokevirtual 73, 3) := dk_182 0 73 (dk_at dksX6_term_1 2 rfl rfl)
theorem dX6_term_29 : decode cX6_term 29 = .ok (.ifCond .eq 37, 3) := dk_153 0 37 (dk_at dksX6_term_1 5 rfl rfl)
theorem dX6_term_32 : decode cX6_term 32 = .ok (.aload_n 0, 1) := dk_42 (dk_at dksX6_term_1 8 rfl rfl)
theorem dX6_term_33 : decode cX6_term 33 = .ok (.getfield 3, 3) := dk_180 0 3 (dk_at dksX6_term_1 9 rfl rfl)
theorem dX6_term_36 : decode cX6_term 36 = .ok (.getfield 52, 3) := dk_180 0 52 (dk_at dksX6_term_1 12 rfl rfl)
theorem dX6_term_39 : decode cX6_term 39 = .ok (.aload_n 0, 1) := dk_42 (dk_at dksX6_term_1 15 rfl rfl)
theorem dX6_term_40 : decode cX6_term 40 = .ok (.getfield 42, 3) := dk_180 0 42 (dk_at dksX6_term_1 16 rfl rfl)
theorem dX6_term_43 : decode cX6_term 43 = .ok (.baload, 1) := dk_51 (dk_at dksX6_term_1 19 rfl rfl)
theorem dX6_term_44 : decode cX6_term 44 = .ok (.istore_n 2, 1) := dk_61 (dk_at dksX6_term_1 20 rfl rfl)
theorem dX6_term_45 : decode cX6_term 45 = .ok (.aload_n 0, 1) := dk_42 (dk_at dksX6_term_1 21 rfl rfl)
theorem dX6_term_46 : decode cX6_term 46 = .ok (.invokevirtual 25, 3) := dk_182 0 25 (dk_at dksX6_term_2 0 rfl rfl)
theorem dX6_term_49 : decode cX6_term 49 = .ok (.new 161, 3) := dk_187 0 161 (dk_at dksX6_term_2 3 rfl rfl)
theorem dX6_term_52 : decode cX6_term 52 = .ok (.dup, 1) := dk_89 (dk_at dksX6_term_2 6 rfl rfl)
theorem dX6_term_53 : decode cX6_term 53 = .ok (.aload_n 1, 1) := dk_43 (dk_at dksX6_term_2 7 rfl rfl)
theorem dX6_term_54 : decode cX6_term 54 = .ok (.iload_n 2, 1) := dk_28 (dk_at dksX6_term_2 8 rfl rfl)
theorem dX6_term_55 : decode cX6_term 55 = .ok (.aload_n 0, 1) := dk_42 (dk_at dksX6_term_2 9 rfl rfl)
theorem dX6_term_56 : decode cX6_term 56 = .ok (.invokevirtual 164, 3) := dk_182 0 164 (dk_at dksX6_term_2 10 rfl rfl)
theorem dX6_term_59 : decode cX6_term 59 = .ok (.invokespecial 163, 3) := dk_183 0 163 (dk_at dksX6_term_2 13 rfl rfl)
theorem dX6_term_62 : decode cX6_term 62 = .ok (.astore_n 1, 1) := dk_76 (dk_at dksX6_term_2 16 rfl rfl)
theorem dX6_term_63 : decode cX6_term 63 = .ok (.goto (-58), 3) := dk_167 255 198 (dk_at dksX6_term_2 17 rfl rfl)
theorem dX6_term_66 : decode cX6_term 66 = .ok (.aload_n 1, 1) := dk_43 (dk_at dksX6_term_2 20 rfl rfl)
theorem dX6_term_67 : decode cX6_term 67 = .ok (.areturn, 1) := dk_176 (dk_at dksX6_term_2 21 rfl rfl)
def dkwX6_sum_2 : List UInt8 := [182, 0, 154, 183, 0, 163, 76, 167, 255, 207, 43, 176]
abbrev dktX6_sum_2 : List UInt8 := dkwX6_sum_2 ++ []
def dkwX6_sum_1 : List UInt8 := [180, 0, 3, 180, 0, 52, 42, 180, 0, 42, 51, 61, 42, 182, 0, 25, 187, 0, 161, 89, 43, 28, 42]
abbrev dktX6_sum_1 : List UInt8 := dkwX6_sum_1 ++ dktX6_sum_2
def dkwX6_sum_0 : List UInt8 := [42, 182, 0, 154, 76, 42, 18, 157, 182, 0, 73, 154, 0, 12, 42, 18, 159, 182, 0, 73, 153, 0, 37, 42]
abbrev dktX6_sum_0 : List UInt8 := dkwX6_sum_0 ++ dktX6_sum_1
theorem dksX6_sum_0 : cX6_sum.data.toList.drop 0 = dktX6_sum_0 := by decide +kernel
theorem dksX6_sum_1 : cX6_sum.data.toList.drop 24 = dktX6_sum_1 := dk_seg dksX6_sum_0 24 rfl rfl
theorem dksX6_sum_2 : cX6_sum.data.toList.drop 47 = dktX6_sum_2 := dk_seg dksX6_sum_1 23 rfl rfl
theorem dX6_sum_0 : decode cX6_sum 0 = .ok (.aload_n 0, 1) := dk_42 (dk_at dksX6_sum_0 0 rfl rfl)
theorem dX6_sum_1 : decode cX6_sum 1 = .ok (.invokevirtual 154, 3) := dk_182 0 154 (dk_at dksX6_sum_0 1 rfl rfl)
theorem dX6_sum_4 : decode cX6_sum 4 = .ok (.astore_n 1, 1) := dk_76 (dk_at dksX6_sum_0 4 rfl rfl)
theorem dX6_sum_5 : decode cX6_sum 5 = .ok (.aload_n 0, 1) := dk_42 (dk_at dksX6_sum_0 5 rfl rfl)
theorem dX6_sum_6 : decode cX6_sum 6 = .ok (.ldc 157, 2) := dk_18 157 (dk_at dksX6_sum_0 6 rfl rfl)
theorem dX6_sum_8 : decode cX6_sum 8 = .ok (.invokevirtual 73, 3) := dk_182 0 73 (dk_at dksX6_sum_0 8 rfl rfl)
theorem dX6_sum_11 : decode cX6_sum 11 = .ok (.ifCond .ne 12, 3) := dk_154 0 12 (dk_at dksX6_sum_0 11 rfl rfl)
theorem dX6_sum_14 : decode cX6_sum 14 = .ok (.aload_n 0, 1) := dk_42 (dk_at dksX6_sum_0 14 rfl rfl)
theorem dX6_sum_15 : decode cX6_sum 15 = .ok (.ldc 159, 2) := dk_18 159 (dk_at dksX6_sum_0 15 rfl rfl)
theorem dX6_sum_17 : decode cX6_sum 17 = .ok (.invokevirtual 73, 3) := dk_182 0 73 (dk_at dksX6_sum_0 17 rfl rfl)
theorem dX6_sum_20 : decode cX6_sum 20 = .ok (.ifCond .eq 37, 3) := dk_153 0 37 (dk_at dksX6_sum_0 20 rfl rfl)
theorem dX6_sum_23 : decode cX6_sum 23 = .ok (.aload_n 0, 1) := dk_42 (dk_at dksX6_sum_0 23 rfl rfl)
theorem dX6_sum_24 : decode cX6_sum 24 = .ok (.getfield 3, 3) := dk_180 0 3 (dk_at dksX6_sum_1 0 rfl rfl)
theorem dX6_sum_27 : decode cX6_sum 27 = .ok (.getfield 52, 3) := dk_180 0 52 (dk_at dksX6_sum_1 3 rfl rfl)
theorem dX6_sum_30 : decode cX6_sum 30 = .ok (.aload_n 0, 1) := dk_42 (dk_at dksX6_sum_1 6 rfl rfl)
theorem dX6_sum_31 : decode cX6_sum 31 = .ok (.getfield 42, 3) := dk_180 0 42 (dk_at dksX6_sum_1 7 rfl rfl)
theorem dX6_sum_34 : decode cX6_sum 34 = .ok (.baload, 1) := dk_51 (dk_at dksX6_sum_1 10 rfl rfl)
theorem dX6_sum_35 : decode cX6_sum 35 = .ok (.istore_n 2, 1) := dk_61 (dk_at dksX6_sum_1 11 rfl rfl)
theorem dX6_sum_36 : decode cX6_sum 36 = .ok (.aload_n 0, 1) := dk_42 (dk_at dksX6_sum_1 12 rfl rfl)
theorem dX6_sum_37 : decode cX6_sum 37 = .ok (.invokevirtual 25, 3) := dk_182 0 25 (dk_at dksX6_sum_1 13 rfl rfl)
theorem dX6_sum_40 : decode cX6_sum 40 = .ok (.new 161, 3) := dk_187 0 161 (dk_at dksX6_sum_1 16 rfl rfl)
theorem dX6_sum_43 : decode cX6_sum 43 = .ok (.dup, 1) := dk_89 (dk_at dksX6_sum_1 19 rfl rfl)
theorem dX6_sum_44 : decode cX6_sum 44 = .ok (.aload_n 1, 1) := dk_43 (dk_at dksX6_sum_1 20 rfl rfl)
theorem dX6_sum_45 : decode cX6_sum 45 = .ok (.iload_n 2, 1) := dk_28 (dk_at dksX6_sum_1 21 rfl rfl)
theorem dX6_sum_46 : decode cX6_sum 46 = .ok (.aload_n 0, 1) := dk_42 (dk_at dksX6_sum_1 22 rfl rfl)
theorem dX6_sum_47 : decode cX6_sum 47 = .ok (.invokevirtual 154, 3) := dk_182 0 154 (dk_at dksX6_sum_2 0 rfl rfl)
theorem dX6_sum_50 : decode cX6_sum 50 = .ok (.invokespecial 163, 3) := dk_183 0 163 (dk_at dksX6_sum_2 3 rfl rfl)
theorem dX6_sum_53 : decode cX6_sum 53 = .ok (.astore_n 1, 1) := dk_76 (dk_at dksX6_sum_2 6 rfl rfl)
theorem dX6_sum_54 : decode cX6_sum 54 = .ok (.goto (-49), 3) := dk_167 255 207 (dk_at dksX6_sum_2 7 rfl rfl)
theorem dX6_sum_57 : decode cX6_sum 57 = .ok (.aload_n 1, 1) := dk_43 (dk_at dksX6_sum_2 10 rfl rfl)
theorem dX6_sum_58 : decode cX6_sum 58 = .ok (.areturn, 1) := dk_176 (dk_at dksX6_sum_2 11 rfl rfl)
noncomputable def f_X6_part_78 (E : ax_E) (g0 : Option Nat → ax_H → Option ((Nat × ax_H) ⊕ (Option Nat × ax_H))) (g1 : Option Nat → ax_H → Option ((Nat × ax_H) ⊕ (Option Nat × ax_H))) (g2 : Option Nat → ax_H → Option ((Nat × ax_H) ⊕ (Option Nat × ax_H))) (x0 : Option Nat) (x1 : Int) (s0 : Option Nat) (s1 : Int) (h : ax_H) : Option ((Nat × ax_H) ⊕ (Option Nat × ax_H)) :=
  ax_tc (fun z2 => some (.inl z2)) (ax_dp E h s0 fun t => if t = 25 ∨ t = 7 then f_X6_must E s0 s1 h else none) fun h1 =>
  if i2 x1 = i2 (-1) then
    ax_tc (fun z4 => some (.inl z4)) (ax_dp E h1 x0 fun t => if t = 25 ∨ t = 7 then f_X6_leaf E x0 h1 else none) fun h3 =>
    (ax_nw E h3 10 0 1).bind fun q5 =>
    ax_tc (fun z7 => some (.inl z7)) (ax_dp E q5.2 x0 fun t => if t = 25 ∨ t = 7 then f_X6_number E x0 1000 q5.2 else none) fun q6 =>
    (some q5.1).bind fun _ => (f_X10_init E (some q5.1) q6.1 q6.2).bind fun h8 =>
    some (.inr ((some q5.1), h8))
  else
    ax_tc (fun z10 => some (.inl z10)) (ax_dp E h1 x0 fun t => if t = 25 ∨ t = 7 then f_X6_leaf E x0 h1 else none) fun h9 =>
    (ax_dp E h9 x0 fun t => if t = 25 ∨ t = 7 then f_X6_next E x0 h9 else none).bind fun h11 =>
    ax_tc (fun z13 => some (.inl z13)) (ax_dp E h11 x0 fun t => if t = 25 then f_X25_behindWord E x0 x1 h11 else if t = 7 then f_X6_behindWord E x0 x1 h11 else none) fun q12 =>
    some (.inr (q12.1, q12.2))
noncomputable def f_X6_part_73 (E : ax_E) (g0 : Option Nat → ax_H → Option ((Nat × ax_H) ⊕ (Option Nat × ax_H))) (g1 : Option Nat → ax_H → Option ((Nat × ax_H) ⊕ (Option Nat × ax_H))) (g2 : Option Nat → ax_H → Option ((Nat × ax_H) ⊕ (Option Nat × ax_H))) (x0 : Option Nat) (x1 : Int) (s0 : Option Nat) (h : ax_H) : Option ((Nat × ax_H) ⊕ (Option Nat × ax_H)) :=
  f_X6_part_78 E g0 g1 g2 x0 x1 s0 1 h
noncomputable def f_X6_part_77 (E : ax_E) (g0 : Option Nat → ax_H → Option ((Nat × ax_H) ⊕ (Option Nat × ax_H))) (g1 : Option Nat → ax_H → Option ((Nat × ax_H) ⊕ (Option Nat × ax_H))) (g2 : Option Nat → ax_H → Option ((Nat × ax_H) ⊕ (Option Nat × ax_H))) (x0 : Option Nat) (x1 : Int) (s0 : Option Nat) (h : ax_H) : Option ((Nat × ax_H) ⊕ (Option Nat × ax_H)) :=
  f_X6_part_78 E g0 g1 g2 x0 x1 s0 0 h
noncomputable def f_X6_part (E : ax_E) (g0 : Option Nat → ax_H → Option ((Nat × ax_H) ⊕ (Option Nat × ax_H))) (g1 : Option Nat → ax_H → Option ((Nat × ax_H) ⊕ (Option Nat × ax_H))) (g2 : Option Nat → ax_H → Option ((Nat × ax_H) ⊕ (Option Nat × ax_H))) (x0 : Option Nat) (h : ax_H) : Option ((Nat × ax_H) ⊕ (Option Nat × ax_H)) :=
  (ax_cst E 52).bind fun v1 =>
  (ax_dp E h x0 fun t => if t = 25 ∨ t = 7 then f_X6_isWord E x0 v1 h else none).bind fun q2 =>
  if i2 q2.1 = 0 then
    (ax_gRs E q2.2 x0 [(25, 6), (7, 6)]).bind fun v3 =>
    (ax_dp E q2.2 x0 fun t => if t = 25 ∨ t = 7 then f_X6_which E x0 v3 q2.2 else none).bind fun q4 =>
    if i2 q4.1 = i2 (-1) then
      (ax_gIs E q4.2 x0 [(25, 0), (7, 0)]).bind fun v5 =>
      (ax_gRs E q4.2 x0 [(25, 7), (7, 7)]).bind fun v6 =>
      (ax_gI E q4.2 v6 0 12).bind fun v7 =>
      if i2 v5 < i2 v7 then
        (ax_gRs E q4.2 x0 [(25, 7), (7, 7)]).bind fun v8 =>
        (ax_gR E q4.2 v8 0 11).bind fun v9 =>
        (ax_gIs E q4.2 x0 [(25, 0), (7, 0)]).bind fun v10 =>
        (ax_ld E q4.2 v9 101 v10).bind fun v11 =>
        (f_X0_isDigit E v11 q4.2).bind fun q12 =>
        if i2 q12.1 = 0 then
          f_X6_part_77 E g0 g1 g2 x0 q4.1 x0 q12.2
        else
          f_X6_part_73 E g0 g1 g2 x0 q4.1 x0 q12.2
      else
        f_X6_part_77 E g0 g1 g2 x0 q4.1 x0 q4.2
    else
      f_X6_part_73 E g0 g1 g2 x0 q4.1 x0 q4.2
  else
    ax_tc (fun z14 => some (.inl z14)) (ax_dp E q2.2 x0 fun t => if t = 25 ∨ t = 7 then f_X6_open E x0 q2.2 else none) fun h13 =>
    ax_tc (fun z16 => some (.inl z16)) (ax_dp E h13 x0 fun t => if t = 25 ∨ t = 7 then g2 x0 h13 else none) fun q15 =>
    (ax_cst E 53).bind fun v17 =>
    ax_tc (fun z19 => some (.inl z19)) (ax_dp E q15.2 x0 fun t => if t = 25 ∨ t = 7 then f_X6_close E x0 v17 q15.2 else none) fun h18 =>
    some (.inr (q15.1, h18))
noncomputable def f_X6_term_32 (E : ax_E) (g0 : Option Nat → ax_H → Option ((Nat × ax_H) ⊕ (Option Nat × ax_H))) (g1 : Option Nat → ax_H → Option ((Nat × ax_H) ⊕ (Option Nat × ax_H))) (g2 : Option Nat → ax_H → Option ((Nat × ax_H) ⊕ (Option Nat × ax_H))) (x0 : Option Nat) (x1 : Option Nat) (h : ax_H) : Option ((Option Nat × ax_H) ⊕ ((Nat × ax_H) ⊕ (Option Nat × ax_H))) :=
  (ax_gRs E h x0 [(25, 7), (7, 7)]).bind fun v1 =>
  (ax_gR E h v1 0 11).bind fun v2 =>
  (ax_gIs E h x0 [(25, 0), (7, 0)]).bind fun v3 =>
  (ax_ld E h v2 101 v3).bind fun v4 =>
  (ax_dp E h x0 fun t => if t = 25 ∨ t = 7 then f_X6_next E x0 h else none).bind fun h5 =>
  (ax_nw E h5 14 0 3).bind fun q6 =>
  ax_tc (fun z8 => some (.inr (.inl z8))) (ax_dp E q6.2 x0 fun t => if t = 25 ∨ t = 7 then g0 x0 q6.2 else none) fun q7 =>
  (some q6.1).bind fun _ => (f_X14_init E (some q6.1) x1 v4 q7.1 q7.2).bind fun h9 =>
  some (.inl ((some q6.1), h9))
noncomputable def lb_X6_term_5 (E : ax_E) (g0 : Option Nat → ax_H → Option ((Nat × ax_H) ⊕ (Option Nat × ax_H))) (g1 : Option Nat → ax_H → Option ((Nat × ax_H) ⊕ (Option Nat × ax_H))) (g2 : Option Nat → ax_H → Option ((Nat × ax_H) ⊕ (Option Nat × ax_H))) (x0 : Option Nat) (x1 : Option Nat) (h : ax_H) : Option ((Option Nat × ax_H) ⊕ ((Nat × ax_H) ⊕ (Option Nat × ax_H))) :=
  (ax_cst E 49).bind fun v1 =>
  (ax_dp E h x0 fun t => if t = 25 ∨ t = 7 then f_X6_isWord E x0 v1 h else none).bind fun q2 =>
  if i2 q2.1 = 0 then
    (ax_cst E 50).bind fun v3 =>
    (ax_dp E q2.2 x0 fun t => if t = 25 ∨ t = 7 then f_X6_isWord E x0 v3 q2.2 else none).bind fun q4 =>
    if i2 q4.1 = 0 then
      (ax_cst E 51).bind fun v5 =>
      (ax_dp E q4.2 x0 fun t => if t = 25 ∨ t = 7 then f_X6_isWord E x0 v5 q4.2 else none).bind fun q6 =>
      if i2 q6.1 = 0 then
        (some (.inr (x1, q6.2))).map Sum.inr
      else
        f_X6_term_32 E g0 g1 g2 x0 x1 q6.2
    else
      f_X6_term_32 E g0 g1 g2 x0 x1 q4.2
  else
    f_X6_term_32 E g0 g1 g2 x0 x1 q2.2
noncomputable def f_X6_term_5 (E : ax_E) (g0 : Option Nat → ax_H → Option ((Nat × ax_H) ⊕ (Option Nat × ax_H))) (g1 : Option Nat → ax_H → Option ((Nat × ax_H) ⊕ (Option Nat × ax_H))) (g2 : Option Nat → ax_H → Option ((Nat × ax_H) ⊕ (Option Nat × ax_H))) (x0 : Option Nat) (x1 : Option Nat) (h : ax_H) : Option ((Nat × ax_H) ⊕ (Option Nat × ax_H)) :=
  ax_iter (fun s : Option Nat × ax_H => lb_X6_term_5 E g0 g1 g2 x0 s.1 s.2) (x1, h)
noncomputable def f_X6_term (E : ax_E) (g0 : Option Nat → ax_H → Option ((Nat × ax_H) ⊕ (Option Nat × ax_H))) (g1 : Option Nat → ax_H → Option ((Nat × ax_H) ⊕ (Option Nat × ax_H))) (g2 : Option Nat → ax_H → Option ((Nat × ax_H) ⊕ (Option Nat × ax_H))) (x0 : Option Nat) (h : ax_H) : Option ((Nat × ax_H) ⊕ (Option Nat × ax_H)) :=
  ax_tc (fun z2 => some (.inl z2)) (ax_dp E h x0 fun t => if t = 25 ∨ t = 7 then g0 x0 h else none) fun q1 =>
  f_X6_term_5 E g0 g1 g2 x0 q1.1 q1.2
noncomputable def f_X6_sum_23 (E : ax_E) (g0 : Option Nat → ax_H → Option ((Nat × ax_H) ⊕ (Option Nat × ax_H))) (g1 : Option Nat → ax_H → Option ((Nat × ax_H) ⊕ (Option Nat × ax_H))) (g2 : Option Nat → ax_H → Option ((Nat × ax_H) ⊕ (Option Nat × ax_H))) (x0 : Option Nat) (x1 : Option Nat) (h : ax_H) : Option ((Option Nat × ax_H) ⊕ ((Nat × ax_H) ⊕ (Option Nat × ax_H))) :=
  (ax_gRs E h x0 [(25, 7), (7, 7)]).bind fun v1 =>
  (ax_gR E h v1 0 11).bind fun v2 =>
  (ax_gIs E h x0 [(25, 0), (7, 0)]).bind fun v3 =>
  (ax_ld E h v2 101 v3).bind fun v4 =>
  (ax_dp E h x0 fun t => if t = 25 ∨ t = 7 then f_X6_next E x0 h else none).bind fun h5 =>
  (ax_nw E h5 14 0 3).bind fun q6 =>
  ax_tc (fun z8 => some (.inr (.inl z8))) (ax_dp E q6.2 x0 fun t => if t = 25 ∨ t = 7 then g1 x0 q6.2 else none) fun q7 =>
  (some q6.1).bind fun _ => (f_X14_init E (some q6.1) x1 v4 q7.1 q7.2).bind fun h9 =>
  some (.inl ((some q6.1), h9))
noncomputable def lb_X6_sum_5 (E : ax_E) (g0 : Option Nat → ax_H → Option ((Nat × ax_H) ⊕ (Option Nat × ax_H))) (g1 : Option Nat → ax_H → Option ((Nat × ax_H) ⊕ (Option Nat × ax_H))) (g2 : Option Nat → ax_H → Option ((Nat × ax_H) ⊕ (Option Nat × ax_H))) (x0 : Option Nat) (x1 : Option Nat) (h : ax_H) : Option ((Option Nat × ax_H) ⊕ ((Nat × ax_H) ⊕ (Option Nat × ax_H))) :=
  (ax_cst E 47).bind fun v1 =>
  (ax_dp E h x0 fun t => if t = 25 ∨ t = 7 then f_X6_isWord E x0 v1 h else none).bind fun q2 =>
  if i2 q2.1 = 0 then
    (ax_cst E 48).bind fun v3 =>
    (ax_dp E q2.2 x0 fun t => if t = 25 ∨ t = 7 then f_X6_isWord E x0 v3 q2.2 else none).bind fun q4 =>
    if i2 q4.1 = 0 then
      (some (.inr (x1, q4.2))).map Sum.inr
    else
      f_X6_sum_23 E g0 g1 g2 x0 x1 q4.2
  else
    f_X6_sum_23 E g0 g1 g2 x0 x1 q2.2
noncomputable def f_X6_sum_5 (E : ax_E) (g0 : Option Nat → ax_H → Option ((Nat × ax_H) ⊕ (Option Nat × ax_H))) (g1 : Option Nat → ax_H → Option ((Nat × ax_H) ⊕ (Option Nat × ax_H))) (g2 : Option Nat → ax_H → Option ((Nat × ax_H) ⊕ (Option Nat × ax_H))) (x0 : Option Nat) (x1 : Option Nat) (h : ax_H) : Option ((Nat × ax_H) ⊕ (Option Nat × ax_H)) :=
  ax_iter (fun s : Option Nat × ax_H => lb_X6_sum_5 E g0 g1 g2 x0 s.1 s.2) (x1, h)
noncomputable def f_X6_sum (E : ax_E) (g0 : Option Nat → ax_H → Option ((Nat × ax_H) ⊕ (Option Nat × ax_H))) (g1 : Option Nat → ax_H → Option ((Nat × ax_H) ⊕ (Option Nat × ax_H))) (g2 : Option Nat → ax_H → Option ((Nat × ax_H) ⊕ (Option Nat × ax_H))) (x0 : Option Nat) (h : ax_H) : Option ((Nat × ax_H) ⊕ (Option Nat × ax_H)) :=
  ax_tc (fun z2 => some (.inl z2)) (ax_dp E h x0 fun t => if t = 25 ∨ t = 7 then g1 x0 h else none) fun q1 =>
  f_X6_sum_5 E g0 g1 g2 x0 q1.1 q1.2
noncomputable def rg_X6_part (E : ax_E) : Nat → (Option Nat → ax_H → Option ((Nat × ax_H) ⊕ (Option Nat × ax_H))) × (Option Nat → ax_H → Option ((Nat × ax_H) ⊕ (Option Nat × ax_H))) × (Option Nat → ax_H → Option ((Nat × ax_H) ⊕ (Option Nat × ax_H)))
  | 0 => ((fun x0 h => none), (fun x0 h => none), (fun x0 h => none))
  | n + 1 => ((fun x0 h => f_X6_part E (rg_X6_part E n).1 (rg_X6_part E n).2.1 (rg_X6_part E n).2.2 x0 h), (fun x0 h => f_X6_term E (rg_X6_part E n).1 (rg_X6_part E n).2.1 (rg_X6_part E n).2.2 x0 h), (fun x0 h => f_X6_sum E (rg_X6_part E n).1 (rg_X6_part E n).2.1 (rg_X6_part E n).2.2 x0 h))
noncomputable def fn_X6_part (E : ax_E) (n : Nat) (x0 : Option Nat) (h : ax_H) : Option ((Nat × ax_H) ⊕ (Option Nat × ax_H)) := (rg_X6_part E n).1 x0 h
noncomputable def fn_X6_term (E : ax_E) (n : Nat) (x0 : Option Nat) (h : ax_H) : Option ((Nat × ax_H) ⊕ (Option Nat × ax_H)) := (rg_X6_part E n).2.1 x0 h
noncomputable def fn_X6_sum (E : ax_E) (n : Nat) (x0 : Option Nat) (h : ax_H) : Option ((Nat × ax_H) ⊕ (Option Nat × ax_H)) := (rg_X6_part E n).2.2 x0 h
set_option maxHeartbeats 4000000 in
theorem w_X6_part_78 {l : Launch} {G : ax_G} {X : ax_X} {Q : State → Prop} {h0 h : ax_H} {ls : Array Slot} {g0 : Option Nat → ax_H → Option ((Nat × ax_H) ⊕ (Option Nat × ax_H))} {g1 : Option Nat → ax_H → Option ((Nat × ax_H) ⊕ (Option Nat × ax_H))} {g2 : Option Nat → ax_H → Option ((Nat × ax_H) ⊕ (Option Nat × ax_H))} {fr lo fr1 lo1 : Nat} (hF : fr1 + 1 ≤ fr ∧ 8 ≤ fr ∧ lo1 + 22 ≤ lo ∧ 190 ≤ lo) (hg0 : ∀ (x0 : Option Nat) (h : ax_H) (w : (Nat × ax_H) ⊕ (Option Nat × ax_H)), g0 x0 h = some w → ax_MetX l G "DebtDoors$Wrong" yX6_part cX6_part 2 ((some (FieldType.object "DebtDoors$Sum"))) fr1 lo1 [va_rf x0] h (ax_zR w)) (hg1 : ∀ (x0 : Option Nat) (h : ax_H) (w : (Nat × ax_H) ⊕ (Option Nat × ax_H)), g1 x0 h = some w → ax_MetX l G "DebtDoors$Wrong" yX6_term cX6_term 3 ((some (FieldType.object "DebtDoors$Sum"))) fr1 lo1 [va_rf x0] h (ax_zR w)) (hg2 : ∀ (x0 : Option Nat) (h : ax_H) (w : (Nat × ax_H) ⊕ (Option Nat × ax_H)), g2 x0 h = some w → ax_MetX l G "DebtDoors$Wrong" yX6_sum cX6_sum 3 ((some (FieldType.object "DebtDoors$Sum"))) fr1 lo1 [va_rf x0] h (ax_zR w)) (hSF : ax_SF G) (B : ax_BL l G X cX6_part 2 RX6 fr lo) (Z : ax_Z X h0 ((some (FieldType.object "DebtDoors$Sum")))) (hn : X.2.2.2.2.2.2.2.2.1.name = yX6_part.name) (hT : ∀ x ∈ ax_tb X, False) (x0 : Option Nat) (x1 : Int) (s0 : Option Nat) (s1 : Int) {w : (Nat × ax_H) ⊕ (Option Nat × ax_H)} (hl : ax_hl ls 2 [(0, .inr (.inr x0)), (1, .inl x1)]) (e : f_X6_part_78 G.2.2 g0 g1 g2 x0 x1 s0 s1 h = some w) (hp : (fun w : (Nat × ax_H) ⊕ (Option Nat × ax_H) => Q = ax_QX G X "DebtDoors$Wrong" h0 (ax_zR w)) w) : ax_W G X Q h 78 ls [.int (Int32.ofInt s1), va_rf s0] := by
  unfold f_X6_part_78 at e
  refine ax_xwV (Ex := "DebtDoors$Wrong") (x := ⟨"DebtDoors$Reader", "must", "(Z)V"⟩) (n := 1) (As := [.int (Int32.ofInt s1)]) B (fun w1 e1 => ?_) rfl hl.size (by decide) dX6_part_78 e (fun z2 e => ?_) (fun h1 e => ?_)
  · obtain ⟨t, c, e2, e1⟩ := ax_dp_spec e1
    rcases ax_ite e1 with ⟨hk, e1⟩ | ⟨-, e1⟩
    · rcases hk with rfl | rfl
      · exact ax_calX B kd25 e2 q801 (B.2.1.2.2.2.2 _ q803) (ax_dcD B q897) (B.2.1.2.2.2.2 _ q805) q802 q144 q806 (by decide +kernel) (by omega) (mt_X6_must l G hSF s0 s1 _ w1 e1)
      · exact ax_calX B kd7 e2 q801 (B.2.1.2.2.2.2 _ q803) (ax_dcD B q897) (B.2.1.2.2.2.2 _ q804) q802 q144 q806 (by decide +kernel) (by omega) (mt_X6_must l G hSF s0 s1 _ w1 e1)
    cases e1
  · cases e
    have hp : Q = ax_QX G X "DebtDoors$Wrong" h0 (.inl z2) := hp
    subst hp
    exact ax_outX B Z (fun z hz => (hT z hz).elim)
  refine ax_iload_n B dX6_part_81 rfl hl 1 rfl ?_
  refine ax_iconst B dX6_part_82 ?_
  refine ax_icmp_ne (tgt := 105) B dX6_part_83 (by decide) e (fun e => ?_) (fun e => ?_)
  · refine ax_aload_n B dX6_part_86 rfl hl 0 rfl ?_
    refine ax_xwV (Ex := "DebtDoors$Wrong") (x := ⟨"DebtDoors$Reader", "leaf", "()V"⟩) (n := 0) (As := []) B (fun w1 e1 => ?_) rfl hl.size (by decide) dX6_part_87 e (fun z4 e => ?_) (fun h3 e => ?_)
    · obtain ⟨t, c, e2, e1⟩ := ax_dp_spec e1
      rcases ax_ite e1 with ⟨hk, e1⟩ | ⟨-, e1⟩
      · rcases hk with rfl | rfl
        · exact ax_calX B kd25 e2 q935 (B.2.1.2.2.2.2 _ q2728) (ax_dcC B q937 q938) (ax_selP B kd25 q2728 q936 q937 (by decide +kernel)) q937 q144 q938 (by decide +kernel) (by omega) (mt_X6_leaf l G hSF x0 _ w1 e1)
        · exact ax_calX B kd7 e2 q935 (B.2.1.2.2.2.2 _ q2728) (ax_dcC B q937 q938) (ax_selP B kd7 q2728 q936 q937 (by decide +kernel)) q937 q144 q938 (by decide +kernel) (by omega) (mt_X6_leaf l G hSF x0 _ w1 e1)
      cases e1
    · cases e
      have hp : Q = ax_QX G X "DebtDoors$Wrong" h0 (.inl z4) := hp
      subst hp
      exact ax_outX B Z (fun z hz => (hT z hz).elim)
    refine ax_new B kd10 in_X10 tyX10_ok (fun k hk => ax_dv _ (dfX10 k hk)) q939 q940 q150 dX6_part_90 e (fun q5 e => ?_)
    refine ax_dup B dX6_part_93 (va_rf_cat _) ?_
    refine ax_aload_n B dX6_part_94 rfl hl 0 rfl ?_
    refine ax_sipush B dX6_part_95 (by decide) ?_
    refine ax_xwI (Ex := "DebtDoors$Wrong") (x := ⟨"DebtDoors$Reader", "number", "(I)I"⟩) (n := 1) (As := [.int (Int32.ofInt 1000)]) B (fun w1 e1 => ?_) rfl hl.size (by simp only [List.map_cons, List.map_nil, List.sum_cons, List.sum_nil, va_rf_cat, ax_catI, ax_catL]; decide) dX6_part_98 e (fun z7 e => ?_) (fun q6 e => ?_)
    · obtain ⟨t, c, e2, e1⟩ := ax_dp_spec e1
      rcases ax_ite e1 with ⟨hk, e1⟩ | ⟨-, e1⟩
      · rcases hk with rfl | rfl
        · exact ax_calX B kd25 e2 q941 (B.2.1.2.2.2.2 _ q943) (ax_dcD B q969) (B.2.1.2.2.2.2 _ q945) q942 q144 q946 (by decide +kernel) (by omega) (mt_X6_number l G hSF x0 1000 _ w1 e1)
        · exact ax_calX B kd7 e2 q941 (B.2.1.2.2.2.2 _ q943) (ax_dcD B q969) (B.2.1.2.2.2.2 _ q944) q942 q144 q946 (by decide +kernel) (by omega) (mt_X6_number l G hSF x0 1000 _ w1 e1)
      cases e1
    · cases e
      have hp : Q = ax_QX G X "DebtDoors$Wrong" h0 (.inl z7) := hp
      subst hp
      exact ax_outX B Z (fun z hz => (hT z hz).elim)
    refine ax_iiR (y := yX10_init) (n := 1) (As := [.int (Int32.ofInt q6.1)]) B q947 q948 q150 q949 rfl (by decide +kernel) (by omega) (fun w1 e1 => mt_X10_init l G hSF (some q5.1) q6.1 _ w1 e1) rfl hl.size (by simp only [List.map_cons, List.map_nil, List.sum_cons, List.sum_nil, va_rf_cat, ax_catI, ax_catL]; decide) dX6_part_101 e (fun h8 e => ?_)
    cases e
    have hp : Q = _ := hp
    subst hp
    exact ax_retX (ax_areturn B Z (Or.inl ⟨_, rfl⟩) dX6_part_104 rfl)
  · refine ax_aload_n B dX6_part_105 rfl hl 0 rfl ?_
    refine ax_xwV (Ex := "DebtDoors$Wrong") (x := ⟨"DebtDoors$Reader", "leaf", "()V"⟩) (n := 0) (As := []) B (fun w1 e1 => ?_) rfl hl.size (by decide) dX6_part_106 e (fun z10 e => ?_) (fun h9 e => ?_)
    · obtain ⟨t, c, e2, e1⟩ := ax_dp_spec e1
      rcases ax_ite e1 with ⟨hk, e1⟩ | ⟨-, e1⟩
      · rcases hk with rfl | rfl
        · exact ax_calX B kd25 e2 q935 (B.2.1.2.2.2.2 _ q2728) (ax_dcC B q937 q938) (ax_selP B kd25 q2728 q936 q937 (by decide +kernel)) q937 q144 q938 (by decide +kernel) (by omega) (mt_X6_leaf l G hSF x0 _ w1 e1)
        · exact ax_calX B kd7 e2 q935 (B.2.1.2.2.2.2 _ q2728) (ax_dcC B q937 q938) (ax_selP B kd7 q2728 q936 q937 (by decide +kernel)) q937 q144 q938 (by decide +kernel) (by omega) (mt_X6_leaf l G hSF x0 _ w1 e1)
      cases e1
    · cases e
      have hp : Q = ax_QX G X "DebtDoors$Wrong" h0 (.inl z10) := hp
      subst hp
      exact ax_outX B Z (fun z hz => (hT z hz).elim)
    refine ax_aload_n B dX6_part_109 rfl hl 0 rfl ?_
    refine ax_iwV (x := ⟨"DebtDoors$Reader", "next", "()V"⟩) (n := 0) (As := []) B (fun w1 e1 => ?_) rfl hl.size (by decide) dX6_part_110 e (fun h11 e => ?_)
    · obtain ⟨t, c, e2, e1⟩ := ax_dp_spec e1
      rcases ax_ite e1 with ⟨hk, e1⟩ | ⟨-, e1⟩
      · rcases hk with rfl | rfl
        · exact ax_cal B kd25 e2 q789 q791 (ax_dcD B q901) (B.2.1.2.2.2.2 _ q793) q790 q144 q794 (by decide +kernel) (by omega) (mt_X6_next l G hSF x0 _ w1 e1)
        · exact ax_cal B kd7 e2 q789 q791 (ax_dcD B q901) (B.2.1.2.2.2.2 _ q792) q790 q144 q794 (by decide +kernel) (by omega) (mt_X6_next l G hSF x0 _ w1 e1)
      cases e1
    refine ax_aload_n B dX6_part_113 rfl hl 0 rfl ?_
    refine ax_iload_n B dX6_part_114 rfl hl 1 rfl ?_
    refine ax_xwR (Ex := "DebtDoors$Wrong") (x := ⟨"DebtDoors$Reader", "behindWord", "(I)LDebtDoors$Sum;"⟩) (n := 1) (As := [.int (Int32.ofInt x1)]) B (fun w1 e1 => ?_) rfl hl.size (by decide) dX6_part_115 e (fun z13 e => ?_) (fun q12 e => ?_)
    · obtain ⟨t, c, e2, e1⟩ := ax_dp_spec e1
      rcases ax_ite e1 with ⟨hk, e1⟩ | ⟨-, e1⟩
      · subst hk
        exact ax_calX B kd25 e2 q958 (B.2.1.2.2.2.2 _ q960) (ax_dcC B q959 q1008) (B.2.1.2.2.2.2 _ q962) q963 q167 q964 (by decide +kernel) (by omega) (mt_X25_behindWord l G hSF x0 x1 _ w1 e1)
      rcases ax_ite e1 with ⟨hk, e1⟩ | ⟨-, e1⟩
      · subst hk
        exact ax_calX B kd7 e2 q958 (B.2.1.2.2.2.2 _ q960) (ax_dcC B q959 q1008) (B.2.1.2.2.2.2 _ q961) q959 q144 q1008 (by decide +kernel) (by omega) (mt_X6_behindWord l G hSF x0 x1 _ w1 e1)
      cases e1
    · cases e
      have hp : Q = ax_QX G X "DebtDoors$Wrong" h0 (.inl z13) := hp
      subst hp
      exact ax_outX B Z (fun z hz => (hT z hz).elim)
    cases e
    have hp : Q = _ := hp
    subst hp
    exact ax_retX (ax_areturn B Z (Or.inl ⟨_, rfl⟩) dX6_part_118 rfl)
set_option maxHeartbeats 4000000 in
theorem w_X6_part_73 {l : Launch} {G : ax_G} {X : ax_X} {Q : State → Prop} {h0 h : ax_H} {ls : Array Slot} {g0 : Option Nat → ax_H → Option ((Nat × ax_H) ⊕ (Option Nat × ax_H))} {g1 : Option Nat → ax_H → Option ((Nat × ax_H) ⊕ (Option Nat × ax_H))} {g2 : Option Nat → ax_H → Option ((Nat × ax_H) ⊕ (Option Nat × ax_H))} {fr lo fr1 lo1 : Nat} (hF : fr1 + 1 ≤ fr ∧ 8 ≤ fr ∧ lo1 + 22 ≤ lo ∧ 190 ≤ lo) (hg0 : ∀ (x0 : Option Nat) (h : ax_H) (w : (Nat × ax_H) ⊕ (Option Nat × ax_H)), g0 x0 h = some w → ax_MetX l G "DebtDoors$Wrong" yX6_part cX6_part 2 ((some (FieldType.object "DebtDoors$Sum"))) fr1 lo1 [va_rf x0] h (ax_zR w)) (hg1 : ∀ (x0 : Option Nat) (h : ax_H) (w : (Nat × ax_H) ⊕ (Option Nat × ax_H)), g1 x0 h = some w → ax_MetX l G "DebtDoors$Wrong" yX6_term cX6_term 3 ((some (FieldType.object "DebtDoors$Sum"))) fr1 lo1 [va_rf x0] h (ax_zR w)) (hg2 : ∀ (x0 : Option Nat) (h : ax_H) (w : (Nat × ax_H) ⊕ (Option Nat × ax_H)), g2 x0 h = some w → ax_MetX l G "DebtDoors$Wrong" yX6_sum cX6_sum 3 ((some (FieldType.object "DebtDoors$Sum"))) fr1 lo1 [va_rf x0] h (ax_zR w)) (hSF : ax_SF G) (B : ax_BL l G X cX6_part 2 RX6 fr lo) (Z : ax_Z X h0 ((some (FieldType.object "DebtDoors$Sum")))) (hn : X.2.2.2.2.2.2.2.2.1.name = yX6_part.name) (hT : ∀ x ∈ ax_tb X, False) (x0 : Option Nat) (x1 : Int) (s0 : Option Nat) {w : (Nat × ax_H) ⊕ (Option Nat × ax_H)} (hl : ax_hl ls 2 [(0, .inr (.inr x0)), (1, .inl x1)]) (e : f_X6_part_73 G.2.2 g0 g1 g2 x0 x1 s0 h = some w) (hp : (fun w : (Nat × ax_H) ⊕ (Option Nat × ax_H) => Q = ax_QX G X "DebtDoors$Wrong" h0 (ax_zR w)) w) : ax_W G X Q h 73 ls [va_rf s0] := by
  unfold f_X6_part_73 at e
  refine ax_iconst B dX6_part_73 ?_
  refine ax_goto (tgt := 78) B dX6_part_74 (by decide) ?_
  exact w_X6_part_78 hF hg0 hg1 hg2 hSF B Z hn hT x0 x1 s0 1 (hl.sub [0, 1] rfl) e hp
set_option maxHeartbeats 4000000 in
theorem w_X6_part_77 {l : Launch} {G : ax_G} {X : ax_X} {Q : State → Prop} {h0 h : ax_H} {ls : Array Slot} {g0 : Option Nat → ax_H → Option ((Nat × ax_H) ⊕ (Option Nat × ax_H))} {g1 : Option Nat → ax_H → Option ((Nat × ax_H) ⊕ (Option Nat × ax_H))} {g2 : Option Nat → ax_H → Option ((Nat × ax_H) ⊕ (Option Nat × ax_H))} {fr lo fr1 lo1 : Nat} (hF : fr1 + 1 ≤ fr ∧ 8 ≤ fr ∧ lo1 + 22 ≤ lo ∧ 190 ≤ lo) (hg0 : ∀ (x0 : Option Nat) (h : ax_H) (w : (Nat × ax_H) ⊕ (Option Nat × ax_H)), g0 x0 h = some w → ax_MetX l G "DebtDoors$Wrong" yX6_part cX6_part 2 ((some (FieldType.object "DebtDoors$Sum"))) fr1 lo1 [va_rf x0] h (ax_zR w)) (hg1 : ∀ (x0 : Option Nat) (h : ax_H) (w : (Nat × ax_H) ⊕ (Option Nat × ax_H)), g1 x0 h = some w → ax_MetX l G "DebtDoors$Wrong" yX6_term cX6_term 3 ((some (FieldType.object "DebtDoors$Sum"))) fr1 lo1 [va_rf x0] h (ax_zR w)) (hg2 : ∀ (x0 : Option Nat) (h : ax_H) (w : (Nat × ax_H) ⊕ (Option Nat × ax_H)), g2 x0 h = some w → ax_MetX l G "DebtDoors$Wrong" yX6_sum cX6_sum 3 ((some (FieldType.object "DebtDoors$Sum"))) fr1 lo1 [va_rf x0] h (ax_zR w)) (hSF : ax_SF G) (B : ax_BL l G X cX6_part 2 RX6 fr lo) (Z : ax_Z X h0 ((some (FieldType.object "DebtDoors$Sum")))) (hn : X.2.2.2.2.2.2.2.2.1.name = yX6_part.name) (hT : ∀ x ∈ ax_tb X, False) (x0 : Option Nat) (x1 : Int) (s0 : Option Nat) {w : (Nat × ax_H) ⊕ (Option Nat × ax_H)} (hl : ax_hl ls 2 [(0, .inr (.inr x0)), (1, .inl x1)]) (e : f_X6_part_77 G.2.2 g0 g1 g2 x0 x1 s0 h = some w) (hp : (fun w : (Nat × ax_H) ⊕ (Option Nat × ax_H) => Q = ax_QX G X "DebtDoors$Wrong" h0 (ax_zR w)) w) : ax_W G X Q h 77 ls [va_rf s0] := by
  unfold f_X6_part_77 at e
  refine ax_iconst B dX6_part_77 ?_
  exact w_X6_part_78 hF hg0 hg1 hg2 hSF B Z hn hT x0 x1 s0 0 (hl.sub [0, 1] rfl) e hp
set_option maxHeartbeats 4000000 in
theorem we_X6_part {l : Launch} {G : ax_G} {X : ax_X} {Q : State → Prop} {h0 h : ax_H} {ls : Array Slot} {g0 : Option Nat → ax_H → Option ((Nat × ax_H) ⊕ (Option Nat × ax_H))} {g1 : Option Nat → ax_H → Option ((Nat × ax_H) ⊕ (Option Nat × ax_H))} {g2 : Option Nat → ax_H → Option ((Nat × ax_H) ⊕ (Option Nat × ax_H))} {fr lo fr1 lo1 : Nat} (hF : fr1 + 1 ≤ fr ∧ 8 ≤ fr ∧ lo1 + 22 ≤ lo ∧ 190 ≤ lo) (hg0 : ∀ (x0 : Option Nat) (h : ax_H) (w : (Nat × ax_H) ⊕ (Option Nat × ax_H)), g0 x0 h = some w → ax_MetX l G "DebtDoors$Wrong" yX6_part cX6_part 2 ((some (FieldType.object "DebtDoors$Sum"))) fr1 lo1 [va_rf x0] h (ax_zR w)) (hg1 : ∀ (x0 : Option Nat) (h : ax_H) (w : (Nat × ax_H) ⊕ (Option Nat × ax_H)), g1 x0 h = some w → ax_MetX l G "DebtDoors$Wrong" yX6_term cX6_term 3 ((some (FieldType.object "DebtDoors$Sum"))) fr1 lo1 [va_rf x0] h (ax_zR w)) (hg2 : ∀ (x0 : Option Nat) (h : ax_H) (w : (Nat × ax_H) ⊕ (Option Nat × ax_H)), g2 x0 h = some w → ax_MetX l G "DebtDoors$Wrong" yX6_sum cX6_sum 3 ((some (FieldType.object "DebtDoors$Sum"))) fr1 lo1 [va_rf x0] h (ax_zR w)) (hSF : ax_SF G) (B : ax_BL l G X cX6_part 2 RX6 fr lo) (Z : ax_Z X h0 ((some (FieldType.object "DebtDoors$Sum")))) (hn : X.2.2.2.2.2.2.2.2.1.name = yX6_part.name) (hT : ∀ x ∈ ax_tb X, False) (x0 : Option Nat) {w : (Nat × ax_H) ⊕ (Option Nat × ax_H)} (hl : ax_hl ls 2 [(0, .inr (.inr x0))]) (e : f_X6_part G.2.2 g0 g1 g2 x0 h = some w) (hp : (fun w : (Nat × ax_H) ⊕ (Option Nat × ax_H) => Q = ax_QX G X "DebtDoors$Wrong" h0 (ax_zR w)) w) : ax_W G X Q h 0 ls [] := by
  unfold f_X6_part at e
  refine ax_aload_n B dX6_part_0 rfl hl 0 rfl ?_
  refine ax_ldcS (j := 42) B (List.mem_of_getElem? (i := 42) rfl) dX6_part_1 e (fun v1 e => ?_)
  refine ax_iwI (x := ⟨"DebtDoors$Reader", "isWord", "(Ljava/lang/String;)Z"⟩) (n := 1) (As := [va_rf v1]) B (fun w1 e1 => ?_) rfl hl.size (by decide) dX6_part_3 e (fun q2 e => ?_)
  · obtain ⟨t, c, e2, e1⟩ := ax_dp_spec e1
    rcases ax_ite e1 with ⟨hk, e1⟩ | ⟨-, e1⟩
    · rcases hk with rfl | rfl
      · exact ax_cal B kd25 e2 q843 q845 (ax_dcC B q844 q848) (B.2.1.2.2.2.2 _ q847) q844 q144 q848 (by decide +kernel) (by omega) (mt_X6_isWord l G hSF x0 v1 _ w1 e1)
      · exact ax_cal B kd7 e2 q843 q845 (ax_dcC B q844 q848) (B.2.1.2.2.2.2 _ q846) q844 q144 q848 (by decide +kernel) (by omega) (mt_X6_isWord l G hSF x0 v1 _ w1 e1)
    cases e1
  refine ax_if_eq (tgt := 26) B dX6_part_6 (by decide) e (fun e => ?_) (fun e => ?_)
  · refine ax_aload_n B dX6_part_26 rfl hl 0 rfl ?_
    refine ax_aload_n B dX6_part_27 rfl hl 0 rfl ?_
    refine ax_getRs B fs_X6_21 (fun _ _ => rfl) dX6_part_28 e (fun v3 e => ?_)
    refine ax_iwI (x := ⟨"DebtDoors$Reader", "which", "([Ljava/lang/String;)I"⟩) (n := 1) (As := [va_rf v3]) B (fun w1 e1 => ?_) rfl hl.size (by decide) dX6_part_31 e (fun q4 e => ?_)
    · obtain ⟨t, c, e2, e1⟩ := ax_dp_spec e1
      rcases ax_ite e1 with ⟨hk, e1⟩ | ⟨-, e1⟩
      · rcases hk with rfl | rfl
        · exact ax_cal B kd25 e2 q934 q2725 (ax_dcD B q839) (B.2.1.2.2.2.2 _ q2727) q841 q144 q842 (by decide +kernel) (by omega) (mt_X6_which l G hSF x0 v3 _ w1 e1)
        · exact ax_cal B kd7 e2 q934 q2725 (ax_dcD B q839) (B.2.1.2.2.2.2 _ q2726) q841 q144 q842 (by decide +kernel) (by omega) (mt_X6_which l G hSF x0 v3 _ w1 e1)
      cases e1
    refine ax_istore_n (L' := [(1, .inl q4.1), (0, .inr (.inr x0))]) B dX6_part_34 rfl hl (by decide) rfl (fun ls hl => ?_)
    refine ax_aload_n B dX6_part_35 rfl hl 1 rfl ?_
    refine ax_iload_n B dX6_part_36 rfl hl 0 rfl ?_
    refine ax_iconst B dX6_part_37 ?_
    refine ax_icmp_ne (tgt := 73) B dX6_part_38 (by decide) e (fun e => ?_) (fun e => ?_)
    · refine ax_aload_n B dX6_part_41 rfl hl 1 rfl ?_
      refine ax_getIs B fs_X6_42 (fun _ _ => rfl) dX6_part_42 e (fun v5 e => ?_)
      refine ax_aload_n B dX6_part_45 rfl hl 1 rfl ?_
      refine ax_getRs B fs_X6_3 (fun _ _ => rfl) dX6_part_46 e (fun v6 e => ?_)
      refine ax_getI B ff_X6_46_0 (fun _ _ => rfl) dX6_part_49 e (fun v7 e => ?_)
      refine ax_icmp_ge (tgt := 77) B dX6_part_52 (by decide) e (fun e => ?_) (fun e => ?_)
      · refine ax_aload_n B dX6_part_55 rfl hl 1 rfl ?_
        refine ax_getRs B fs_X6_3 (fun _ _ => rfl) dX6_part_56 e (fun v8 e => ?_)
        refine ax_getR B ff_X6_52_0 (fun _ _ => rfl) dX6_part_59 e (fun v9 e => ?_)
        refine ax_aload_n B dX6_part_62 rfl hl 1 rfl ?_
        refine ax_getIs B fs_X6_42 (fun _ _ => rfl) dX6_part_63 e (fun v10 e => ?_)
        refine ax_bald B kd101 dX6_part_66 e (fun v11 e => ?_)
        refine ax_isNI (y := yX0_isDigit) (n := 1) (As := [.int (Int32.ofInt v11)]) B q798 q799 q125 q800 (by decide +kernel) (by omega) (fun w1 e1 => mt_X0_isDigit l G hSF v11 _ w1 e1) rfl hl.size (by simp only [List.map_cons, List.map_nil, List.sum_cons, List.sum_nil, va_rf_cat, ax_catI, ax_catL]; decide) dX6_part_67 e (fun q12 e => ?_)
        refine ax_if_eq (tgt := 77) B dX6_part_70 (by decide) e (fun e => ?_) (fun e => ?_)
        · exact w_X6_part_77 hF hg0 hg1 hg2 hSF B Z hn hT x0 q4.1 x0 (hl.sub [1, 0] rfl) e hp
        · exact w_X6_part_73 hF hg0 hg1 hg2 hSF B Z hn hT x0 q4.1 x0 (hl.sub [1, 0] rfl) e hp
      · exact w_X6_part_77 hF hg0 hg1 hg2 hSF B Z hn hT x0 q4.1 x0 (hl.sub [1, 0] rfl) e hp
    · exact w_X6_part_73 hF hg0 hg1 hg2 hSF B Z hn hT x0 q4.1 x0 (hl.sub [1, 0] rfl) e hp
  · refine ax_aload_n B dX6_part_9 rfl hl 0 rfl ?_
    refine ax_xwV (Ex := "DebtDoors$Wrong") (x := ⟨"DebtDoors$Reader", "open", "()V"⟩) (n := 0) (As := []) B (fun w1 e1 => ?_) rfl hl.size (by decide) dX6_part_10 e (fun z14 e => ?_) (fun h13 e => ?_)
    · obtain ⟨t, c, e2, e1⟩ := ax_dp_spec e1
      rcases ax_ite e1 with ⟨hk, e1⟩ | ⟨-, e1⟩
      · rcases hk with rfl | rfl
        · exact ax_calX B kd25 e2 q918 (B.2.1.2.2.2.2 _ q2720) (ax_dcC B q920 q921) (ax_selP B kd25 q2720 q919 q920 (by decide +kernel)) q920 q144 q921 (by decide +kernel) (by omega) (mt_X6_open l G hSF x0 _ w1 e1)
        · exact ax_calX B kd7 e2 q918 (B.2.1.2.2.2.2 _ q2720) (ax_dcC B q920 q921) (ax_selP B kd7 q2720 q919 q920 (by decide +kernel)) q920 q144 q921 (by decide +kernel) (by omega) (mt_X6_open l G hSF x0 _ w1 e1)
      cases e1
    · cases e
      have hp : Q = ax_QX G X "DebtDoors$Wrong" h0 (.inl z14) := hp
      subst hp
      exact ax_outX B Z (fun z hz => (hT z hz).elim)
    refine ax_aload_n B dX6_part_13 rfl hl 0 rfl ?_
    refine ax_xwR (Ex := "DebtDoors$Wrong") (x := ⟨"DebtDoors$Reader", "sum", "()LDebtDoors$Sum;"⟩) (n := 0) (As := []) B (fun w1 e1 => ?_) rfl hl.size (by decide) dX6_part_14 e (fun z16 e => ?_) (fun q15 e => ?_)
    · obtain ⟨t, c, e2, e1⟩ := ax_dp_spec e1
      rcases ax_ite e1 with ⟨hk, e1⟩ | ⟨-, e1⟩
      · rcases hk with rfl | rfl
        · exact ax_calX B kd25 e2 q922 (B.2.1.2.2.2.2 _ q2721) (ax_dcD B q905) (B.2.1.2.2.2.2 _ q2723) q907 q144 q908 (by decide +kernel) (by omega) (hg2 x0 _ w1 e1)
        · exact ax_calX B kd7 e2 q922 (B.2.1.2.2.2.2 _ q2721) (ax_dcD B q905) (B.2.1.2.2.2.2 _ q2722) q907 q144 q908 (by decide +kernel) (by omega) (hg2 x0 _ w1 e1)
      cases e1
    · cases e
      have hp : Q = ax_QX G X "DebtDoors$Wrong" h0 (.inl z16) := hp
      subst hp
      exact ax_outX B Z (fun z hz => (hT z hz).elim)
    refine ax_astore_n (L' := [(1, .inr (.inr q15.1)), (0, .inr (.inr x0))]) B dX6_part_17 rfl hl (by decide) rfl (fun ls hl => ?_)
    refine ax_aload_n B dX6_part_18 rfl hl 1 rfl ?_
    refine ax_ldcS (j := 43) B (List.mem_of_getElem? (i := 43) rfl) dX6_part_19 e (fun v17 e => ?_)
    refine ax_xwV (Ex := "DebtDoors$Wrong") (x := ⟨"DebtDoors$Reader", "close", "(Ljava/lang/String;)V"⟩) (n := 1) (As := [va_rf v17]) B (fun w1 e1 => ?_) rfl hl.size (by decide) dX6_part_21 e (fun z19 e => ?_) (fun h18 e => ?_)
    · obtain ⟨t, c, e2, e1⟩ := ax_dp_spec e1
      rcases ax_ite e1 with ⟨hk, e1⟩ | ⟨-, e1⟩
      · rcases hk with rfl | rfl
        · exact ax_calX B kd25 e2 q924 (B.2.1.2.2.2.2 _ q2724) (ax_dcC B q926 q927) (ax_selP B kd25 q2724 q925 q926 (by decide +kernel)) q926 q144 q927 (by decide +kernel) (by omega) (mt_X6_close l G hSF x0 v17 _ w1 e1)
        · exact ax_calX B kd7 e2 q924 (B.2.1.2.2.2.2 _ q2724) (ax_dcC B q926 q927) (ax_selP B kd7 q2724 q925 q926 (by decide +kernel)) q926 q144 q927 (by decide +kernel) (by omega) (mt_X6_close l G hSF x0 v17 _ w1 e1)
      cases e1
    · cases e
      have hp : Q = ax_QX G X "DebtDoors$Wrong" h0 (.inl z19) := hp
      subst hp
      exact ax_outX B Z (fun z hz => (hT z hz).elim)
    refine ax_aload_n B dX6_part_24 rfl hl 0 rfl ?_
    cases e
    have hp : Q = _ := hp
    subst hp
    exact ax_retX (ax_areturn B Z (Or.inl ⟨_, rfl⟩) dX6_part_25 rfl)
theorem mt_X6_part (l : Launch) (G : ax_G) (hSF : ax_SF G) {g0 : Option Nat → ax_H → Option ((Nat × ax_H) ⊕ (Option Nat × ax_H))} {g1 : Option Nat → ax_H → Option ((Nat × ax_H) ⊕ (Option Nat × ax_H))} {g2 : Option Nat → ax_H → Option ((Nat × ax_H) ⊕ (Option Nat × ax_H))} {fr lo fr1 lo1 : Nat} (hF : fr1 + 1 ≤ fr ∧ 8 ≤ fr ∧ lo1 + 22 ≤ lo ∧ 190 ≤ lo) (hg0 : ∀ (x0 : Option Nat) (h : ax_H) (w : (Nat × ax_H) ⊕ (Option Nat × ax_H)), g0 x0 h = some w → ax_MetX l G "DebtDoors$Wrong" yX6_part cX6_part 2 ((some (FieldType.object "DebtDoors$Sum"))) fr1 lo1 [va_rf x0] h (ax_zR w)) (hg1 : ∀ (x0 : Option Nat) (h : ax_H) (w : (Nat × ax_H) ⊕ (Option Nat × ax_H)), g1 x0 h = some w → ax_MetX l G "DebtDoors$Wrong" yX6_term cX6_term 3 ((some (FieldType.object "DebtDoors$Sum"))) fr1 lo1 [va_rf x0] h (ax_zR w)) (hg2 : ∀ (x0 : Option Nat) (h : ax_H) (w : (Nat × ax_H) ⊕ (Option Nat × ax_H)), g2 x0 h = some w → ax_MetX l G "DebtDoors$Wrong" yX6_sum cX6_sum 3 ((some (FieldType.object "DebtDoors$Sum"))) fr1 lo1 [va_rf x0] h (ax_zR w)) (x0 : Option Nat) (h : ax_H) (w : (Nat × ax_H) ⊕ (Option Nat × ax_H)) (e : f_X6_part G.2.2 g0 g1 g2 x0 h = some w) : ax_MetX l G "DebtDoors$Wrong" yX6_part cX6_part 2 ((some (FieldType.object "DebtDoors$Sum"))) fr lo [va_rf x0] h (ax_zR w) :=
  ax_enterX [.inr (.inr x0)] (y := yX6_part) hSF (plainFor_of_name (by decide +kernel)) (Nat.le_of_ble_eq_true rfl) (fun X ls B Z hn hT hl => we_X6_part hF hg0 hg1 hg2 hSF B Z hn hT x0 hl e rfl)
def pi_X6_term_5 (G : ax_G) (X : ax_X) (Q : State → Prop) (x0 : Option Nat) : Option Nat × ax_H → Prop := fun s => ∀ ls : Array Slot, ax_hl ls 3 [(0, .inr (.inr x0)), (1, .inr (.inr s.1))] → ax_W G X Q s.2 5 ls []
set_option maxHeartbeats 4000000 in
theorem w_X6_term_32 {l : Launch} {G : ax_G} {X : ax_X} {Q : State → Prop} {h0 h : ax_H} {ls : Array Slot} {g0 : Option Nat → ax_H → Option ((Nat × ax_H) ⊕ (Option Nat × ax_H))} {g1 : Option Nat → ax_H → Option ((Nat × ax_H) ⊕ (Option Nat × ax_H))} {g2 : Option Nat → ax_H → Option ((Nat × ax_H) ⊕ (Option Nat × ax_H))} {fr lo fr1 lo1 : Nat} (hF : fr1 + 1 ≤ fr ∧ 8 ≤ fr ∧ lo1 + 22 ≤ lo ∧ 190 ≤ lo) (hg0 : ∀ (x0 : Option Nat) (h : ax_H) (w : (Nat × ax_H) ⊕ (Option Nat × ax_H)), g0 x0 h = some w → ax_MetX l G "DebtDoors$Wrong" yX6_part cX6_part 2 ((some (FieldType.object "DebtDoors$Sum"))) fr1 lo1 [va_rf x0] h (ax_zR w)) (hg1 : ∀ (x0 : Option Nat) (h : ax_H) (w : (Nat × ax_H) ⊕ (Option Nat × ax_H)), g1 x0 h = some w → ax_MetX l G "DebtDoors$Wrong" yX6_term cX6_term 3 ((some (FieldType.object "DebtDoors$Sum"))) fr1 lo1 [va_rf x0] h (ax_zR w)) (hg2 : ∀ (x0 : Option Nat) (h : ax_H) (w : (Nat × ax_H) ⊕ (Option Nat × ax_H)), g2 x0 h = some w → ax_MetX l G "DebtDoors$Wrong" yX6_sum cX6_sum 3 ((some (FieldType.object "DebtDoors$Sum"))) fr1 lo1 [va_rf x0] h (ax_zR w)) (hSF : ax_SF G) (B : ax_BL l G X cX6_term 3 RX6 fr lo) (Z : ax_Z X h0 ((some (FieldType.object "DebtDoors$Sum")))) (hn : X.2.2.2.2.2.2.2.2.1.name = yX6_term.name) (hT : ∀ x ∈ ax_tb X, False) (x0 : Option Nat) (x1 : Option Nat) {w : (Option Nat × ax_H) ⊕ ((Nat × ax_H) ⊕ (Option Nat × ax_H))} (hl : ax_hl ls 3 [(0, .inr (.inr x0)), (1, .inr (.inr x1))]) (e : f_X6_term_32 G.2.2 g0 g1 g2 x0 x1 h = some w) (hp : (ax_PL (pi_X6_term_5 G X Q x0) (fun w : (Nat × ax_H) ⊕ (Option Nat × ax_H) => Q = ax_QX G X "DebtDoors$Wrong" h0 (ax_zR w))) w) : ax_W G X Q h 32 ls [] := by
  unfold f_X6_term_32 at e
  refine ax_aload_n B dX6_term_32 rfl hl 0 rfl ?_
  refine ax_getRs B fs_X6_3 (fun _ _ => rfl) dX6_term_33 e (fun v1 e => ?_)
  refine ax_getR B ff_X6_52_0 (fun _ _ => rfl) dX6_term_36 e (fun v2 e => ?_)
  refine ax_aload_n B dX6_term_39 rfl hl 0 rfl ?_
  refine ax_getIs B fs_X6_42 (fun _ _ => rfl) dX6_term_40 e (fun v3 e => ?_)
  refine ax_bald B kd101 dX6_term_43 e (fun v4 e => ?_)
  refine ax_istore_n (L' := [(2, .inl v4), (0, .inr (.inr x0)), (1, .inr (.inr x1))]) B dX6_term_44 rfl hl (by decide) rfl (fun ls hl => ?_)
  refine ax_aload_n B dX6_term_45 rfl hl 1 rfl ?_
  refine ax_iwV (x := ⟨"DebtDoors$Reader", "next", "()V"⟩) (n := 0) (As := []) B (fun w1 e1 => ?_) rfl hl.size (by decide) dX6_term_46 e (fun h5 e => ?_)
  · obtain ⟨t, c, e2, e1⟩ := ax_dp_spec e1
    rcases ax_ite e1 with ⟨hk, e1⟩ | ⟨-, e1⟩
    · rcases hk with rfl | rfl
      · exact ax_cal B kd25 e2 q789 q791 (ax_dcD B q901) (B.2.1.2.2.2.2 _ q793) q790 q144 q794 (by decide +kernel) (by omega) (mt_X6_next l G hSF x0 _ w1 e1)
      · exact ax_cal B kd7 e2 q789 q791 (ax_dcD B q901) (B.2.1.2.2.2.2 _ q792) q790 q144 q794 (by decide +kernel) (by omega) (mt_X6_next l G hSF x0 _ w1 e1)
    cases e1
  refine ax_new B kd14 in_X14 tyX14_ok (fun k hk => ax_dv _ (dfX14 k hk)) q1014 q1015 q154 dX6_term_49 e (fun q6 e => ?_)
  refine ax_dup B dX6_term_52 (va_rf_cat _) ?_
  refine ax_aload_n B dX6_term_53 rfl hl 2 rfl ?_
  refine ax_iload_n B dX6_term_54 rfl hl 0 rfl ?_
  refine ax_aload_n B dX6_term_55 rfl hl 1 rfl ?_
  refine ax_xwR (Ex := "DebtDoors$Wrong") (x := ⟨"DebtDoors$Reader", "part", "()LDebtDoors$Sum;"⟩) (n := 0) (As := []) B (fun w1 e1 => ?_) rfl hl.size (by simp only [List.map_cons, List.map_nil, List.sum_cons, List.sum_nil, va_rf_cat, ax_catI, ax_catL]; decide) dX6_term_56 e (fun z8 e => ?_) (fun q7 e => ?_)
  · obtain ⟨t, c, e2, e1⟩ := ax_dp_spec e1
    rcases ax_ite e1 with ⟨hk, e1⟩ | ⟨-, e1⟩
    · rcases hk with rfl | rfl
      · exact ax_calX B kd25 e2 q913 (B.2.1.2.2.2.2 _ q2719) (ax_dcC B q915 q916) (ax_selP B kd25 q2719 q914 q915 (by decide +kernel)) q915 q144 q916 (by decide +kernel) (by omega) (hg0 x0 _ w1 e1)
      · exact ax_calX B kd7 e2 q913 (B.2.1.2.2.2.2 _ q2719) (ax_dcC B q915 q916) (ax_selP B kd7 q2719 q914 q915 (by decide +kernel)) q915 q144 q916 (by decide +kernel) (by omega) (hg0 x0 _ w1 e1)
    cases e1
  · cases e
    have hp : Q = ax_QX G X "DebtDoors$Wrong" h0 (.inl z8) := hp
    subst hp
    exact ax_outX B Z (fun z hz => (hT z hz).elim)
  refine ax_iiR (y := yX14_init) (n := 3) (As := [va_rf x1, .int (Int32.ofInt v4), va_rf q7.1]) B q1016 q1017 q154 q1018 rfl (by decide +kernel) (by omega) (fun w1 e1 => mt_X14_init l G hSF (some q6.1) x1 v4 q7.1 _ w1 e1) rfl hl.size (by simp only [List.map_cons, List.map_nil, List.sum_cons, List.sum_nil, va_rf_cat, ax_catI, ax_catL]; decide) dX6_term_59 e (fun h9 e => ?_)
  refine ax_astore_n (L' := [(1, .inr (.inr (some q6.1))), (2, .inl v4), (0, .inr (.inr x0))]) B dX6_term_62 rfl hl (by decide) rfl (fun ls hl => ?_)
  refine ax_goto (tgt := 5) B dX6_term_63 (by decide) ?_
  cases e
  exact hp _ (hl.sub [2, 0] rfl)
set_option maxHeartbeats 4000000 in
theorem wb_X6_term_5 {l : Launch} {G : ax_G} {X : ax_X} {Q : State → Prop} {h0 h : ax_H} {ls : Array Slot} {g0 : Option Nat → ax_H → Option ((Nat × ax_H) ⊕ (Option Nat × ax_H))} {g1 : Option Nat → ax_H → Option ((Nat × ax_H) ⊕ (Option Nat × ax_H))} {g2 : Option Nat → ax_H → Option ((Nat × ax_H) ⊕ (Option Nat × ax_H))} {fr lo fr1 lo1 : Nat} (hF : fr1 + 1 ≤ fr ∧ 8 ≤ fr ∧ lo1 + 22 ≤ lo ∧ 190 ≤ lo) (hg0 : ∀ (x0 : Option Nat) (h : ax_H) (w : (Nat × ax_H) ⊕ (Option Nat × ax_H)), g0 x0 h = some w → ax_MetX l G "DebtDoors$Wrong" yX6_part cX6_part 2 ((some (FieldType.object "DebtDoors$Sum"))) fr1 lo1 [va_rf x0] h (ax_zR w)) (hg1 : ∀ (x0 : Option Nat) (h : ax_H) (w : (Nat × ax_H) ⊕ (Option Nat × ax_H)), g1 x0 h = some w → ax_MetX l G "DebtDoors$Wrong" yX6_term cX6_term 3 ((some (FieldType.object "DebtDoors$Sum"))) fr1 lo1 [va_rf x0] h (ax_zR w)) (hg2 : ∀ (x0 : Option Nat) (h : ax_H) (w : (Nat × ax_H) ⊕ (Option Nat × ax_H)), g2 x0 h = some w → ax_MetX l G "DebtDoors$Wrong" yX6_sum cX6_sum 3 ((some (FieldType.object "DebtDoors$Sum"))) fr1 lo1 [va_rf x0] h (ax_zR w)) (hSF : ax_SF G) (B : ax_BL l G X cX6_term 3 RX6 fr lo) (Z : ax_Z X h0 ((some (FieldType.object "DebtDoors$Sum")))) (hn : X.2.2.2.2.2.2.2.2.1.name = yX6_term.name) (hT : ∀ x ∈ ax_tb X, False) (x0 : Option Nat) (x1 : Option Nat) {w : (Option Nat × ax_H) ⊕ ((Nat × ax_H) ⊕ (Option Nat × ax_H))} (hl : ax_hl ls 3 [(0, .inr (.inr x0)), (1, .inr (.inr x1))]) (e : lb_X6_term_5 G.2.2 g0 g1 g2 x0 x1 h = some w) (hp : (ax_PL (pi_X6_term_5 G X Q x0) (fun w : (Nat × ax_H) ⊕ (Option Nat × ax_H) => Q = ax_QX G X "DebtDoors$Wrong" h0 (ax_zR w))) w) : ax_W G X Q h 5 ls [] := by
  unfold lb_X6_term_5 at e
  refine ax_aload_n B dX6_term_5 rfl hl 0 rfl ?_
  refine ax_ldcS (j := 39) B (List.mem_of_getElem? (i := 39) rfl) dX6_term_6 e (fun v1 e => ?_)
  refine ax_iwI (x := ⟨"DebtDoors$Reader", "isWord", "(Ljava/lang/String;)Z"⟩) (n := 1) (As := [va_rf v1]) B (fun w1 e1 => ?_) rfl hl.size (by decide) dX6_term_8 e (fun q2 e => ?_)
  · obtain ⟨t, c, e2, e1⟩ := ax_dp_spec e1
    rcases ax_ite e1 with ⟨hk, e1⟩ | ⟨-, e1⟩
    · rcases hk with rfl | rfl
      · exact ax_cal B kd25 e2 q843 q845 (ax_dcC B q844 q848) (B.2.1.2.2.2.2 _ q847) q844 q144 q848 (by decide +kernel) (by omega) (mt_X6_isWord l G hSF x0 v1 _ w1 e1)
      · exact ax_cal B kd7 e2 q843 q845 (ax_dcC B q844 q848) (B.2.1.2.2.2.2 _ q846) q844 q144 q848 (by decide +kernel) (by omega) (mt_X6_isWord l G hSF x0 v1 _ w1 e1)
    cases e1
  refine ax_if_ne (tgt := 32) B dX6_term_11 (by decide) e (fun e => ?_) (fun e => ?_)
  · refine ax_aload_n B dX6_term_14 rfl hl 0 rfl ?_
    refine ax_ldcS (j := 40) B (List.mem_of_getElem? (i := 40) rfl) dX6_term_15 e (fun v3 e => ?_)
    refine ax_iwI (x := ⟨"DebtDoors$Reader", "isWord", "(Ljava/lang/String;)Z"⟩) (n := 1) (As := [va_rf v3]) B (fun w1 e1 => ?_) rfl hl.size (by decide) dX6_term_17 e (fun q4 e => ?_)
    · obtain ⟨t, c, e2, e1⟩ := ax_dp_spec e1
      rcases ax_ite e1 with ⟨hk, e1⟩ | ⟨-, e1⟩
      · rcases hk with rfl | rfl
        · exact ax_cal B kd25 e2 q843 q845 (ax_dcC B q844 q848) (B.2.1.2.2.2.2 _ q847) q844 q144 q848 (by decide +kernel) (by omega) (mt_X6_isWord l G hSF x0 v3 _ w1 e1)
        · exact ax_cal B kd7 e2 q843 q845 (ax_dcC B q844 q848) (B.2.1.2.2.2.2 _ q846) q844 q144 q848 (by decide +kernel) (by omega) (mt_X6_isWord l G hSF x0 v3 _ w1 e1)
      cases e1
    refine ax_if_ne (tgt := 32) B dX6_term_20 (by decide) e (fun e => ?_) (fun e => ?_)
    · refine ax_aload_n B dX6_term_23 rfl hl 0 rfl ?_
      refine ax_ldcS (j := 41) B (List.mem_of_getElem? (i := 41) rfl) dX6_term_24 e (fun v5 e => ?_)
      refine ax_iwI (x := ⟨"DebtDoors$Reader", "isWord", "(Ljava/lang/String;)Z"⟩) (n := 1) (As := [va_rf v5]) B (fun w1 e1 => ?_) rfl hl.size (by decide) dX6_term_26 e (fun q6 e => ?_)
      · obtain ⟨t, c, e2, e1⟩ := ax_dp_spec e1
        rcases ax_ite e1 with ⟨hk, e1⟩ | ⟨-, e1⟩
        · rcases hk with rfl | rfl
          · exact ax_cal B kd25 e2 q843 q845 (ax_dcC B q844 q848) (B.2.1.2.2.2.2 _ q847) q844 q144 q848 (by decide +kernel) (by omega) (mt_X6_isWord l G hSF x0 v5 _ w1 e1)
          · exact ax_cal B kd7 e2 q843 q845 (ax_dcC B q844 q848) (B.2.1.2.2.2.2 _ q846) q844 q144 q848 (by decide +kernel) (by omega) (mt_X6_isWord l G hSF x0 v5 _ w1 e1)
        cases e1
      refine ax_if_eq (tgt := 66) B dX6_term_29 (by decide) e (fun e => ?_) (fun e => ?_)
      · obtain ⟨w, e9_1, rfl⟩ := Option.map_eq_some_iff.mp e
        have e := e9_1
        refine ax_aload_n B dX6_term_66 rfl hl 1 rfl ?_
        cases e
        have hp : Q = _ := hp
        subst hp
        exact ax_retX (ax_areturn B Z (Or.inl ⟨_, rfl⟩) dX6_term_67 rfl)
      · exact w_X6_term_32 hF hg0 hg1 hg2 hSF B Z hn hT x0 x1 (hl.sub [0, 1] rfl) e hp
    · exact w_X6_term_32 hF hg0 hg1 hg2 hSF B Z hn hT x0 x1 (hl.sub [0, 1] rfl) e hp
  · exact w_X6_term_32 hF hg0 hg1 hg2 hSF B Z hn hT x0 x1 (hl.sub [0, 1] rfl) e hp
theorem w_X6_term_5 {l : Launch} {G : ax_G} {X : ax_X} {Q : State → Prop} {h0 h : ax_H} {ls : Array Slot} {g0 : Option Nat → ax_H → Option ((Nat × ax_H) ⊕ (Option Nat × ax_H))} {g1 : Option Nat → ax_H → Option ((Nat × ax_H) ⊕ (Option Nat × ax_H))} {g2 : Option Nat → ax_H → Option ((Nat × ax_H) ⊕ (Option Nat × ax_H))} {fr lo fr1 lo1 : Nat} (hF : fr1 + 1 ≤ fr ∧ 8 ≤ fr ∧ lo1 + 22 ≤ lo ∧ 190 ≤ lo) (hg0 : ∀ (x0 : Option Nat) (h : ax_H) (w : (Nat × ax_H) ⊕ (Option Nat × ax_H)), g0 x0 h = some w → ax_MetX l G "DebtDoors$Wrong" yX6_part cX6_part 2 ((some (FieldType.object "DebtDoors$Sum"))) fr1 lo1 [va_rf x0] h (ax_zR w)) (hg1 : ∀ (x0 : Option Nat) (h : ax_H) (w : (Nat × ax_H) ⊕ (Option Nat × ax_H)), g1 x0 h = some w → ax_MetX l G "DebtDoors$Wrong" yX6_term cX6_term 3 ((some (FieldType.object "DebtDoors$Sum"))) fr1 lo1 [va_rf x0] h (ax_zR w)) (hg2 : ∀ (x0 : Option Nat) (h : ax_H) (w : (Nat × ax_H) ⊕ (Option Nat × ax_H)), g2 x0 h = some w → ax_MetX l G "DebtDoors$Wrong" yX6_sum cX6_sum 3 ((some (FieldType.object "DebtDoors$Sum"))) fr1 lo1 [va_rf x0] h (ax_zR w)) (hSF : ax_SF G) (B : ax_BL l G X cX6_term 3 RX6 fr lo) (Z : ax_Z X h0 ((some (FieldType.object "DebtDoors$Sum")))) (hn : X.2.2.2.2.2.2.2.2.1.name = yX6_term.name) (hT : ∀ x ∈ ax_tb X, False) (x0 : Option Nat) (x1 : Option Nat) {w : (Nat × ax_H) ⊕ (Option Nat × ax_H)} (hl : ax_hl ls 3 [(0, .inr (.inr x0)), (1, .inr (.inr x1))]) (e : f_X6_term_5 G.2.2 g0 g1 g2 x0 x1 h = some w) (hp : (fun w : (Nat × ax_H) ⊕ (Option Nat × ax_H) => Q = ax_QX G X "DebtDoors$Wrong" h0 (ax_zR w)) w) : ax_W G X Q h 5 ls [] :=
  ax_iter_W (Pin := pi_X6_term_5 G X Q x0) (Pout := (fun w : (Nat × ax_H) ⊕ (Option Nat × ax_H) => Q = ax_QX G X "DebtDoors$Wrong" h0 (ax_zR w))) (fun s w e hp ls hl => wb_X6_term_5 hF hg0 hg1 hg2 hSF B Z hn hT x0 s.1 hl e hp) _ _ e hp ls hl
set_option maxHeartbeats 4000000 in
theorem we_X6_term {l : Launch} {G : ax_G} {X : ax_X} {Q : State → Prop} {h0 h : ax_H} {ls : Array Slot} {g0 : Option Nat → ax_H → Option ((Nat × ax_H) ⊕ (Option Nat × ax_H))} {g1 : Option Nat → ax_H → Option ((Nat × ax_H) ⊕ (Option Nat × ax_H))} {g2 : Option Nat → ax_H → Option ((Nat × ax_H) ⊕ (Option Nat × ax_H))} {fr lo fr1 lo1 : Nat} (hF : fr1 + 1 ≤ fr ∧ 8 ≤ fr ∧ lo1 + 22 ≤ lo ∧ 190 ≤ lo) (hg0 : ∀ (x0 : Option Nat) (h : ax_H) (w : (Nat × ax_H) ⊕ (Option Nat × ax_H)), g0 x0 h = some w → ax_MetX l G "DebtDoors$Wrong" yX6_part cX6_part 2 ((some (FieldType.object "DebtDoors$Sum"))) fr1 lo1 [va_rf x0] h (ax_zR w)) (hg1 : ∀ (x0 : Option Nat) (h : ax_H) (w : (Nat × ax_H) ⊕ (Option Nat × ax_H)), g1 x0 h = some w → ax_MetX l G "DebtDoors$Wrong" yX6_term cX6_term 3 ((some (FieldType.object "DebtDoors$Sum"))) fr1 lo1 [va_rf x0] h (ax_zR w)) (hg2 : ∀ (x0 : Option Nat) (h : ax_H) (w : (Nat × ax_H) ⊕ (Option Nat × ax_H)), g2 x0 h = some w → ax_MetX l G "DebtDoors$Wrong" yX6_sum cX6_sum 3 ((some (FieldType.object "DebtDoors$Sum"))) fr1 lo1 [va_rf x0] h (ax_zR w)) (hSF : ax_SF G) (B : ax_BL l G X cX6_term 3 RX6 fr lo) (Z : ax_Z X h0 ((some (FieldType.object "DebtDoors$Sum")))) (hn : X.2.2.2.2.2.2.2.2.1.name = yX6_term.name) (hT : ∀ x ∈ ax_tb X, False) (x0 : Option Nat) {w : (Nat × ax_H) ⊕ (Option Nat × ax_H)} (hl : ax_hl ls 3 [(0, .inr (.inr x0))]) (e : f_X6_term G.2.2 g0 g1 g2 x0 h = some w) (hp : (fun w : (Nat × ax_H) ⊕ (Option Nat × ax_H) => Q = ax_QX G X "DebtDoors$Wrong" h0 (ax_zR w)) w) : ax_W G X Q h 0 ls [] := by
  unfold f_X6_term at e
  refine ax_aload_n B dX6_term_0 rfl hl 0 rfl ?_
  refine ax_xwR (Ex := "DebtDoors$Wrong") (x := ⟨"DebtDoors$Reader", "part", "()LDebtDoors$Sum;"⟩) (n := 0) (As := []) B (fun w1 e1 => ?_) rfl hl.size (by decide) dX6_term_1 e (fun z2 e => ?_) (fun q1 e => ?_)
  · obtain ⟨t, c, e2, e1⟩ := ax_dp_spec e1
    rcases ax_ite e1 with ⟨hk, e1⟩ | ⟨-, e1⟩
    · rcases hk with rfl | rfl
      · exact ax_calX B kd25 e2 q913 (B.2.1.2.2.2.2 _ q2719) (ax_dcC B q915 q916) (ax_selP B kd25 q2719 q914 q915 (by decide +kernel)) q915 q144 q916 (by decide +kernel) (by omega) (hg0 x0 _ w1 e1)
      · exact ax_calX B kd7 e2 q913 (B.2.1.2.2.2.2 _ q2719) (ax_dcC B q915 q916) (ax_selP B kd7 q2719 q914 q915 (by decide +kernel)) q915 q144 q916 (by decide +kernel) (by omega) (hg0 x0 _ w1 e1)
    cases e1
  · cases e
    have hp : Q = ax_QX G X "DebtDoors$Wrong" h0 (.inl z2) := hp
    subst hp
    exact ax_outX B Z (fun z hz => (hT z hz).elim)
  refine ax_astore_n (L' := [(1, .inr (.inr q1.1)), (0, .inr (.inr x0))]) B dX6_term_4 rfl hl (by decide) rfl (fun ls hl => ?_)
  exact w_X6_term_5 hF hg0 hg1 hg2 hSF B Z hn hT x0 q1.1 (hl.sub [1, 0] rfl) e hp
theorem mt_X6_term (l : Launch) (G : ax_G) (hSF : ax_SF G) {g0 : Option Nat → ax_H → Option ((Nat × ax_H) ⊕ (Option Nat × ax_H))} {g1 : Option Nat → ax_H → Option ((Nat × ax_H) ⊕ (Option Nat × ax_H))} {g2 : Option Nat → ax_H → Option ((Nat × ax_H) ⊕ (Option Nat × ax_H))} {fr lo fr1 lo1 : Nat} (hF : fr1 + 1 ≤ fr ∧ 8 ≤ fr ∧ lo1 + 22 ≤ lo ∧ 190 ≤ lo) (hg0 : ∀ (x0 : Option Nat) (h : ax_H) (w : (Nat × ax_H) ⊕ (Option Nat × ax_H)), g0 x0 h = some w → ax_MetX l G "DebtDoors$Wrong" yX6_part cX6_part 2 ((some (FieldType.object "DebtDoors$Sum"))) fr1 lo1 [va_rf x0] h (ax_zR w)) (hg1 : ∀ (x0 : Option Nat) (h : ax_H) (w : (Nat × ax_H) ⊕ (Option Nat × ax_H)), g1 x0 h = some w → ax_MetX l G "DebtDoors$Wrong" yX6_term cX6_term 3 ((some (FieldType.object "DebtDoors$Sum"))) fr1 lo1 [va_rf x0] h (ax_zR w)) (hg2 : ∀ (x0 : Option Nat) (h : ax_H) (w : (Nat × ax_H) ⊕ (Option Nat × ax_H)), g2 x0 h = some w → ax_MetX l G "DebtDoors$Wrong" yX6_sum cX6_sum 3 ((some (FieldType.object "DebtDoors$Sum"))) fr1 lo1 [va_rf x0] h (ax_zR w)) (x0 : Option Nat) (h : ax_H) (w : (Nat × ax_H) ⊕ (Option Nat × ax_H)) (e : f_X6_term G.2.2 g0 g1 g2 x0 h = some w) : ax_MetX l G "DebtDoors$Wrong" yX6_term cX6_term 3 ((some (FieldType.object "DebtDoors$Sum"))) fr lo [va_rf x0] h (ax_zR w) :=
  ax_enterX [.inr (.inr x0)] (y := yX6_term) hSF (plainFor_of_name (by decide +kernel)) (Nat.le_of_ble_eq_true rfl) (fun X ls B Z hn hT hl => we_X6_term hF hg0 hg1 hg2 hSF B Z hn hT x0 hl e rfl)
def pi_X6_sum_5 (G : ax_G) (X : ax_X) (Q : State → Prop) (x0 : Option Nat) : Option Nat × ax_H → Prop := fun s => ∀ ls : Array Slot, ax_hl ls 3 [(0, .inr (.inr x0)), (1, .inr (.inr s.1))] → ax_W G X Q s.2 5 ls []
set_option maxHeartbeats 4000000 in
theorem w_X6_sum_23 {l : Launch} {G : ax_G} {X : ax_X} {Q : State → Prop} {h0 h : ax_H} {ls : Array Slot} {g0 : Option Nat → ax_H → Option ((Nat × ax_H) ⊕ (Option Nat × ax_H))} {g1 : Option Nat → ax_H → Option ((Nat × ax_H) ⊕ (Option Nat × ax_H))} {g2 : Option Nat → ax_H → Option ((Nat × ax_H) ⊕ (Option Nat × ax_H))} {fr lo fr1 lo1 : Nat} (hF : fr1 + 1 ≤ fr ∧ 8 ≤ fr ∧ lo1 + 22 ≤ lo ∧ 190 ≤ lo) (hg0 : ∀ (x0 : Option Nat) (h : ax_H) (w : (Nat × ax_H) ⊕ (Option Nat × ax_H)), g0 x0 h = some w → ax_MetX l G "DebtDoors$Wrong" yX6_part cX6_part 2 ((some (FieldType.object "DebtDoors$Sum"))) fr1 lo1 [va_rf x0] h (ax_zR w)) (hg1 : ∀ (x0 : Option Nat) (h : ax_H) (w : (Nat × ax_H) ⊕ (Option Nat × ax_H)), g1 x0 h = some w → ax_MetX l G "DebtDoors$Wrong" yX6_term cX6_term 3 ((some (FieldType.object "DebtDoors$Sum"))) fr1 lo1 [va_rf x0] h (ax_zR w)) (hg2 : ∀ (x0 : Option Nat) (h : ax_H) (w : (Nat × ax_H) ⊕ (Option Nat × ax_H)), g2 x0 h = some w → ax_MetX l G "DebtDoors$Wrong" yX6_sum cX6_sum 3 ((some (FieldType.object "DebtDoors$Sum"))) fr1 lo1 [va_rf x0] h (ax_zR w)) (hSF : ax_SF G) (B : ax_BL l G X cX6_sum 3 RX6 fr lo) (Z : ax_Z X h0 ((some (FieldType.object "DebtDoors$Sum")))) (hn : X.2.2.2.2.2.2.2.2.1.name = yX6_sum.name) (hT : ∀ x ∈ ax_tb X, False) (x0 : Option Nat) (x1 : Option Nat) {w : (Option Nat × ax_H) ⊕ ((Nat × ax_H) ⊕ (Option Nat × ax_H))} (hl : ax_hl ls 3 [(0, .inr (.inr x0)), (1, .inr (.inr x1))]) (e : f_X6_sum_23 G.2.2 g0 g1 g2 x0 x1 h = some w) (hp : (ax_PL (pi_X6_sum_5 G X Q x0) (fun w : (Nat × ax_H) ⊕ (Option Nat × ax_H) => Q = ax_QX G X "DebtDoors$Wrong" h0 (ax_zR w))) w) : ax_W G X Q h 23 ls [] := by
  unfold f_X6_sum_23 at e
  refine ax_aload_n B dX6_sum_23 rfl hl 0 rfl ?_
  refine ax_getRs B fs_X6_3 (fun _ _ => rfl) dX6_sum_24 e (fun v1 e => ?_)
  refine ax_getR B ff_X6_52_0 (fun _ _ => rfl) dX6_sum_27 e (fun v2 e => ?_)
  refine ax_aload_n B dX6_sum_30 rfl hl 0 rfl ?_
  refine ax_getIs B fs_X6_42 (fun _ _ => rfl) dX6_sum_31 e (fun v3 e => ?_)
  refine ax_bald B kd101 dX6_sum_34 e (fun v4 e => ?_)
  refine ax_istore_n (L' := [(2, .inl v4), (0, .inr (.inr x0)), (1, .inr (.inr x1))]) B dX6_sum_35 rfl hl (by decide) rfl (fun ls hl => ?_)
  refine ax_aload_n B dX6_sum_36 rfl hl 1 rfl ?_
  refine ax_iwV (x := ⟨"DebtDoors$Reader", "next", "()V"⟩) (n := 0) (As := []) B (fun w1 e1 => ?_) rfl hl.size (by decide) dX6_sum_37 e (fun h5 e => ?_)
  · obtain ⟨t, c, e2, e1⟩ := ax_dp_spec e1
    rcases ax_ite e1 with ⟨hk, e1⟩ | ⟨-, e1⟩
    · rcases hk with rfl | rfl
      · exact ax_cal B kd25 e2 q789 q791 (ax_dcD B q901) (B.2.1.2.2.2.2 _ q793) q790 q144 q794 (by decide +kernel) (by omega) (mt_X6_next l G hSF x0 _ w1 e1)
      · exact ax_cal B kd7 e2 q789 q791 (ax_dcD B q901) (B.2.1.2.2.2.2 _ q792) q790 q144 q794 (by decide +kernel) (by omega) (mt_X6_next l G hSF x0 _ w1 e1)
    cases e1
  refine ax_new B kd14 in_X14 tyX14_ok (fun k hk => ax_dv _ (dfX14 k hk)) q1014 q1015 q154 dX6_sum_40 e (fun q6 e => ?_)
  refine ax_dup B dX6_sum_43 (va_rf_cat _) ?_
  refine ax_aload_n B dX6_sum_44 rfl hl 2 rfl ?_
  refine ax_iload_n B dX6_sum_45 rfl hl 0 rfl ?_
  refine ax_aload_n B dX6_sum_46 rfl hl 1 rfl ?_
  refine ax_xwR (Ex := "DebtDoors$Wrong") (x := ⟨"DebtDoors$Reader", "term", "()LDebtDoors$Sum;"⟩) (n := 0) (As := []) B (fun w1 e1 => ?_) rfl hl.size (by simp only [List.map_cons, List.map_nil, List.sum_cons, List.sum_nil, va_rf_cat, ax_catI, ax_catL]; decide) dX6_sum_47 e (fun z8 e => ?_) (fun q7 e => ?_)
  · obtain ⟨t, c, e2, e1⟩ := ax_dp_spec e1
    rcases ax_ite e1 with ⟨hk, e1⟩ | ⟨-, e1⟩
    · rcases hk with rfl | rfl
      · exact ax_calX B kd25 e2 q909 (B.2.1.2.2.2.2 _ q2718) (ax_dcC B q911 q912) (ax_selP B kd25 q2718 q910 q911 (by decide +kernel)) q911 q144 q912 (by decide +kernel) (by omega) (hg1 x0 _ w1 e1)
      · exact ax_calX B kd7 e2 q909 (B.2.1.2.2.2.2 _ q2718) (ax_dcC B q911 q912) (ax_selP B kd7 q2718 q910 q911 (by decide +kernel)) q911 q144 q912 (by decide +kernel) (by omega) (hg1 x0 _ w1 e1)
    cases e1
  · cases e
    have hp : Q = ax_QX G X "DebtDoors$Wrong" h0 (.inl z8) := hp
    subst hp
    exact ax_outX B Z (fun z hz => (hT z hz).elim)
  refine ax_iiR (y := yX14_init) (n := 3) (As := [va_rf x1, .int (Int32.ofInt v4), va_rf q7.1]) B q1016 q1017 q154 q1018 rfl (by decide +kernel) (by omega) (fun w1 e1 => mt_X14_init l G hSF (some q6.1) x1 v4 q7.1 _ w1 e1) rfl hl.size (by simp only [List.map_cons, List.map_nil, List.sum_cons, List.sum_nil, va_rf_cat, ax_catI, ax_catL]; decide) dX6_sum_50 e (fun h9 e => ?_)
  refine ax_astore_n (L' := [(1, .inr (.inr (some q6.1))), (2, .inl v4), (0, .inr (.inr x0))]) B dX6_sum_53 rfl hl (by decide) rfl (fun ls hl => ?_)
  refine ax_goto (tgt := 5) B dX6_sum_54 (by decide) ?_
  cases e
  exact hp _ (hl.sub [2, 0] rfl)
set_option maxHeartbeats 4000000 in
theorem wb_X6_sum_5 {l : Launch} {G : ax_G} {X : ax_X} {Q : State → Prop} {h0 h : ax_H} {ls : Array Slot} {g0 : Option Nat → ax_H → Option ((Nat × ax_H) ⊕ (Option Nat × ax_H))} {g1 : Option Nat → ax_H → Option ((Nat × ax_H) ⊕ (Option Nat × ax_H))} {g2 : Option Nat → ax_H → Option ((Nat × ax_H) ⊕ (Option Nat × ax_H))} {fr lo fr1 lo1 : Nat} (hF : fr1 + 1 ≤ fr ∧ 8 ≤ fr ∧ lo1 + 22 ≤ lo ∧ 190 ≤ lo) (hg0 : ∀ (x0 : Option Nat) (h : ax_H) (w : (Nat × ax_H) ⊕ (Option Nat × ax_H)), g0 x0 h = some w → ax_MetX l G "DebtDoors$Wrong" yX6_part cX6_part 2 ((some (FieldType.object "DebtDoors$Sum"))) fr1 lo1 [va_rf x0] h (ax_zR w)) (hg1 : ∀ (x0 : Option Nat) (h : ax_H) (w : (Nat × ax_H) ⊕ (Option Nat × ax_H)), g1 x0 h = some w → ax_MetX l G "DebtDoors$Wrong" yX6_term cX6_term 3 ((some (FieldType.object "DebtDoors$Sum"))) fr1 lo1 [va_rf x0] h (ax_zR w)) (hg2 : ∀ (x0 : Option Nat) (h : ax_H) (w : (Nat × ax_H) ⊕ (Option Nat × ax_H)), g2 x0 h = some w → ax_MetX l G "DebtDoors$Wrong" yX6_sum cX6_sum 3 ((some (FieldType.object "DebtDoors$Sum"))) fr1 lo1 [va_rf x0] h (ax_zR w)) (hSF : ax_SF G) (B : ax_BL l G X cX6_sum 3 RX6 fr lo) (Z : ax_Z X h0 ((some (FieldType.object "DebtDoors$Sum")))) (hn : X.2.2.2.2.2.2.2.2.1.name = yX6_sum.name) (hT : ∀ x ∈ ax_tb X, False) (x0 : Option Nat) (x1 : Option Nat) {w : (Option Nat × ax_H) ⊕ ((Nat × ax_H) ⊕ (Option Nat × ax_H))} (hl : ax_hl ls 3 [(0, .inr (.inr x0)), (1, .inr (.inr x1))]) (e : lb_X6_sum_5 G.2.2 g0 g1 g2 x0 x1 h = some w) (hp : (ax_PL (pi_X6_sum_5 G X Q x0) (fun w : (Nat × ax_H) ⊕ (Option Nat × ax_H) => Q = ax_QX G X "DebtDoors$Wrong" h0 (ax_zR w))) w) : ax_W G X Q h 5 ls [] := by
  unfold lb_X6_sum_5 at e
  refine ax_aload_n B dX6_sum_5 rfl hl 0 rfl ?_
  refine ax_ldcS (j := 37) B (List.mem_of_getElem? (i := 37) rfl) dX6_sum_6 e (fun v1 e => ?_)
  refine ax_iwI (x := ⟨"DebtDoors$Reader", "isWord", "(Ljava/lang/String;)Z"⟩) (n := 1) (As := [va_rf v1]) B (fun w1 e1 => ?_) rfl hl.size (by decide) dX6_sum_8 e (fun q2 e => ?_)
  · obtain ⟨t, c, e2, e1⟩ := ax_dp_spec e1
    rcases ax_ite e1 with ⟨hk, e1⟩ | ⟨-, e1⟩
    · rcases hk with rfl | rfl
      · exact ax_cal B kd25 e2 q843 q845 (ax_dcC B q844 q848) (B.2.1.2.2.2.2 _ q847) q844 q144 q848 (by decide +kernel) (by omega) (mt_X6_isWord l G hSF x0 v1 _ w1 e1)
      · exact ax_cal B kd7 e2 q843 q845 (ax_dcC B q844 q848) (B.2.1.2.2.2.2 _ q846) q844 q144 q848 (by decide +kernel) (by omega) (mt_X6_isWord l G hSF x0 v1 _ w1 e1)
    cases e1
  refine ax_if_ne (tgt := 23) B dX6_sum_11 (by decide) e (fun e => ?_) (fun e => ?_)
  · refine ax_aload_n B dX6_sum_14 rfl hl 0 rfl ?_
    refine ax_ldcS (j := 38) B (List.mem_of_getElem? (i := 38) rfl) dX6_sum_15 e (fun v3 e => ?_)
    refine ax_iwI (x := ⟨"DebtDoors$Reader", "isWord", "(Ljava/lang/String;)Z"⟩) (n := 1) (As := [va_rf v3]) B (fun w1 e1 => ?_) rfl hl.size (by decide) dX6_sum_17 e (fun q4 e => ?_)
    · obtain ⟨t, c, e2, e1⟩ := ax_dp_spec e1
      rcases ax_ite e1 with ⟨hk, e1⟩ | ⟨-, e1⟩
      · rcases hk with rfl | rfl
        · exact ax_cal B kd25 e2 q843 q845 (ax_dcC B q844 q848) (B.2.1.2.2.2.2 _ q847) q844 q144 q848 (by decide +kernel) (by omega) (mt_X6_isWord l G hSF x0 v3 _ w1 e1)
        · exact ax_cal B kd7 e2 q843 q845 (ax_dcC B q844 q848) (B.2.1.2.2.2.2 _ q846) q844 q144 q848 (by decide +kernel) (by omega) (mt_X6_isWord l G hSF x0 v3 _ w1 e1)
      cases e1
    refine ax_if_eq (tgt := 57) B dX6_sum_20 (by decide) e (fun e => ?_) (fun e => ?_)
    · obtain ⟨w, e9_1, rfl⟩ := Option.map_eq_some_iff.mp e
      have e := e9_1
      refine ax_aload_n B dX6_sum_57 rfl hl 1 rfl ?_
      cases e
      have hp : Q = _ := hp
      subst hp
      exact ax_retX (ax_areturn B Z (Or.inl ⟨_, rfl⟩) dX6_sum_58 rfl)
    · exact w_X6_sum_23 hF hg0 hg1 hg2 hSF B Z hn hT x0 x1 (hl.sub [0, 1] rfl) e hp
  · exact w_X6_sum_23 hF hg0 hg1 hg2 hSF B Z hn hT x0 x1 (hl.sub [0, 1] rfl) e hp
theorem w_X6_sum_5 {l : Launch} {G : ax_G} {X : ax_X} {Q : State → Prop} {h0 h : ax_H} {ls : Array Slot} {g0 : Option Nat → ax_H → Option ((Nat × ax_H) ⊕ (Option Nat × ax_H))} {g1 : Option Nat → ax_H → Option ((Nat × ax_H) ⊕ (Option Nat × ax_H))} {g2 : Option Nat → ax_H → Option ((Nat × ax_H) ⊕ (Option Nat × ax_H))} {fr lo fr1 lo1 : Nat} (hF : fr1 + 1 ≤ fr ∧ 8 ≤ fr ∧ lo1 + 22 ≤ lo ∧ 190 ≤ lo) (hg0 : ∀ (x0 : Option Nat) (h : ax_H) (w : (Nat × ax_H) ⊕ (Option Nat × ax_H)), g0 x0 h = some w → ax_MetX l G "DebtDoors$Wrong" yX6_part cX6_part 2 ((some (FieldType.object "DebtDoors$Sum"))) fr1 lo1 [va_rf x0] h (ax_zR w)) (hg1 : ∀ (x0 : Option Nat) (h : ax_H) (w : (Nat × ax_H) ⊕ (Option Nat × ax_H)), g1 x0 h = some w → ax_MetX l G "DebtDoors$Wrong" yX6_term cX6_term 3 ((some (FieldType.object "DebtDoors$Sum"))) fr1 lo1 [va_rf x0] h (ax_zR w)) (hg2 : ∀ (x0 : Option Nat) (h : ax_H) (w : (Nat × ax_H) ⊕ (Option Nat × ax_H)), g2 x0 h = some w → ax_MetX l G "DebtDoors$Wrong" yX6_sum cX6_sum 3 ((some (FieldType.object "DebtDoors$Sum"))) fr1 lo1 [va_rf x0] h (ax_zR w)) (hSF : ax_SF G) (B : ax_BL l G X cX6_sum 3 RX6 fr lo) (Z : ax_Z X h0 ((some (FieldType.object "DebtDoors$Sum")))) (hn : X.2.2.2.2.2.2.2.2.1.name = yX6_sum.name) (hT : ∀ x ∈ ax_tb X, False) (x0 : Option Nat) (x1 : Option Nat) {w : (Nat × ax_H) ⊕ (Option Nat × ax_H)} (hl : ax_hl ls 3 [(0, .inr (.inr x0)), (1, .inr (.inr x1))]) (e : f_X6_sum_5 G.2.2 g0 g1 g2 x0 x1 h = some w) (hp : (fun w : (Nat × ax_H) ⊕ (Option Nat × ax_H) => Q = ax_QX G X "DebtDoors$Wrong" h0 (ax_zR w)) w) : ax_W G X Q h 5 ls [] :=
  ax_iter_W (Pin := pi_X6_sum_5 G X Q x0) (Pout := (fun w : (Nat × ax_H) ⊕ (Option Nat × ax_H) => Q = ax_QX G X "DebtDoors$Wrong" h0 (ax_zR w))) (fun s w e hp ls hl => wb_X6_sum_5 hF hg0 hg1 hg2 hSF B Z hn hT x0 s.1 hl e hp) _ _ e hp ls hl
set_option maxHeartbeats 4000000 in
theorem we_X6_sum {l : Launch} {G : ax_G} {X : ax_X} {Q : State → Prop} {h0 h : ax_H} {ls : Array Slot} {g0 : Option Nat → ax_H → Option ((Nat × ax_H) ⊕ (Option Nat × ax_H))} {g1 : Option Nat → ax_H → Option ((Nat × ax_H) ⊕ (Option Nat × ax_H))} {g2 : Option Nat → ax_H → Option ((Nat × ax_H) ⊕ (Option Nat × ax_H))} {fr lo fr1 lo1 : Nat} (hF : fr1 + 1 ≤ fr ∧ 8 ≤ fr ∧ lo1 + 22 ≤ lo ∧ 190 ≤ lo) (hg0 : ∀ (x0 : Option Nat) (h : ax_H) (w : (Nat × ax_H) ⊕ (Option Nat × ax_H)), g0 x0 h = some w → ax_MetX l G "DebtDoors$Wrong" yX6_part cX6_part 2 ((some (FieldType.object "DebtDoors$Sum"))) fr1 lo1 [va_rf x0] h (ax_zR w)) (hg1 : ∀ (x0 : Option Nat) (h : ax_H) (w : (Nat × ax_H) ⊕ (Option Nat × ax_H)), g1 x0 h = some w → ax_MetX l G "DebtDoors$Wrong" yX6_term cX6_term 3 ((some (FieldType.object "DebtDoors$Sum"))) fr1 lo1 [va_rf x0] h (ax_zR w)) (hg2 : ∀ (x0 : Option Nat) (h : ax_H) (w : (Nat × ax_H) ⊕ (Option Nat × ax_H)), g2 x0 h = some w → ax_MetX l G "DebtDoors$Wrong" yX6_sum cX6_sum 3 ((some (FieldType.object "DebtDoors$Sum"))) fr1 lo1 [va_rf x0] h (ax_zR w)) (hSF : ax_SF G) (B : ax_BL l G X cX6_sum 3 RX6 fr lo) (Z : ax_Z X h0 ((some (FieldType.object "DebtDoors$Sum")))) (hn : X.2.2.2.2.2.2.2.2.1.name = yX6_sum.name) (hT : ∀ x ∈ ax_tb X, False) (x0 : Option Nat) {w : (Nat × ax_H) ⊕ (Option Nat × ax_H)} (hl : ax_hl ls 3 [(0, .inr (.inr x0))]) (e : f_X6_sum G.2.2 g0 g1 g2 x0 h = some w) (hp : (fun w : (Nat × ax_H) ⊕ (Option Nat × ax_H) => Q = ax_QX G X "DebtDoors$Wrong" h0 (ax_zR w)) w) : ax_W G X Q h 0 ls [] := by
  unfold f_X6_sum at e
  refine ax_aload_n B dX6_sum_0 rfl hl 0 rfl ?_
  refine ax_xwR (Ex := "DebtDoors$Wrong") (x := ⟨"DebtDoors$Reader", "term", "()LDebtDoors$Sum;"⟩) (n := 0) (As := []) B (fun w1 e1 => ?_) rfl hl.size (by decide) dX6_sum_1 e (fun z2 e => ?_) (fun q1 e => ?_)
  · obtain ⟨t, c, e2, e1⟩ := ax_dp_spec e1
    rcases ax_ite e1 with ⟨hk, e1⟩ | ⟨-, e1⟩
    · rcases hk with rfl | rfl
      · exact ax_calX B kd25 e2 q909 (B.2.1.2.2.2.2 _ q2718) (ax_dcC B q911 q912) (ax_selP B kd25 q2718 q910 q911 (by decide +kernel)) q911 q144 q912 (by decide +kernel) (by omega) (hg1 x0 _ w1 e1)
      · exact ax_calX B kd7 e2 q909 (B.2.1.2.2.2.2 _ q2718) (ax_dcC B q911 q912) (ax_selP B kd7 q2718 q910 q911 (by decide +kernel)) q911 q144 q912 (by decide +kernel) (by omega) (hg1 x0 _ w1 e1)
    cases e1
  · cases e
    have hp : Q = ax_QX G X "DebtDoors$Wrong" h0 (.inl z2) := hp
    subst hp
    exact ax_outX B Z (fun z hz => (hT z hz).elim)
  refine ax_astore_n (L' := [(1, .inr (.inr q1.1)), (0, .inr (.inr x0))]) B dX6_sum_4 rfl hl (by decide) rfl (fun ls hl => ?_)
  exact w_X6_sum_5 hF hg0 hg1 hg2 hSF B Z hn hT x0 q1.1 (hl.sub [1, 0] rfl) e hp
theorem mt_X6_sum (l : Launch) (G : ax_G) (hSF : ax_SF G) {g0 : Option Nat → ax_H → Option ((Nat × ax_H) ⊕ (Option Nat × ax_H))} {g1 : Option Nat → ax_H → Option ((Nat × ax_H) ⊕ (Option Nat × ax_H))} {g2 : Option Nat → ax_H → Option ((Nat × ax_H) ⊕ (Option Nat × ax_H))} {fr lo fr1 lo1 : Nat} (hF : fr1 + 1 ≤ fr ∧ 8 ≤ fr ∧ lo1 + 22 ≤ lo ∧ 190 ≤ lo) (hg0 : ∀ (x0 : Option Nat) (h : ax_H) (w : (Nat × ax_H) ⊕ (Option Nat × ax_H)), g0 x0 h = some w → ax_MetX l G "DebtDoors$Wrong" yX6_part cX6_part 2 ((some (FieldType.object "DebtDoors$Sum"))) fr1 lo1 [va_rf x0] h (ax_zR w)) (hg1 : ∀ (x0 : Option Nat) (h : ax_H) (w : (Nat × ax_H) ⊕ (Option Nat × ax_H)), g1 x0 h = some w → ax_MetX l G "DebtDoors$Wrong" yX6_term cX6_term 3 ((some (FieldType.object "DebtDoors$Sum"))) fr1 lo1 [va_rf x0] h (ax_zR w)) (hg2 : ∀ (x0 : Option Nat) (h : ax_H) (w : (Nat × ax_H) ⊕ (Option Nat × ax_H)), g2 x0 h = some w → ax_MetX l G "DebtDoors$Wrong" yX6_sum cX6_sum 3 ((some (FieldType.object "DebtDoors$Sum"))) fr1 lo1 [va_rf x0] h (ax_zR w)) (x0 : Option Nat) (h : ax_H) (w : (Nat × ax_H) ⊕ (Option Nat × ax_H)) (e : f_X6_sum G.2.2 g0 g1 g2 x0 h = some w) : ax_MetX l G "DebtDoors$Wrong" yX6_sum cX6_sum 3 ((some (FieldType.object "DebtDoors$Sum"))) fr lo [va_rf x0] h (ax_zR w) :=
  ax_enterX [.inr (.inr x0)] (y := yX6_sum) hSF (plainFor_of_name (by decide +kernel)) (Nat.le_of_ble_eq_true rfl) (fun X ls B Z hn hT hl => we_X6_sum hF hg0 hg1 hg2 hSF B Z hn hT x0 hl e rfl)
theorem mg_X6_part (l : Launch) (G : ax_G) (hSF : ax_SF G) : ∀ n : Nat, (∀ (x0 : Option Nat) (h : ax_H) (w : (Nat × ax_H) ⊕ (Option Nat × ax_H)), (rg_X6_part G.2.2 n).1 x0 h = some w → ax_MetX l G "DebtDoors$Wrong" yX6_part cX6_part 2 ((some (FieldType.object "DebtDoors$Sum"))) (8 + n) (190 + n * 22) [va_rf x0] h (ax_zR w)) ∧ (∀ (x0 : Option Nat) (h : ax_H) (w : (Nat × ax_H) ⊕ (Option Nat × ax_H)), (rg_X6_part G.2.2 n).2.1 x0 h = some w → ax_MetX l G "DebtDoors$Wrong" yX6_term cX6_term 3 ((some (FieldType.object "DebtDoors$Sum"))) (8 + n) (190 + n * 22) [va_rf x0] h (ax_zR w)) ∧ (∀ (x0 : Option Nat) (h : ax_H) (w : (Nat × ax_H) ⊕ (Option Nat × ax_H)), (rg_X6_part G.2.2 n).2.2 x0 h = some w → ax_MetX l G "DebtDoors$Wrong" yX6_sum cX6_sum 3 ((some (FieldType.object "DebtDoors$Sum"))) (8 + n) (190 + n * 22) [va_rf x0] h (ax_zR w))
  | 0 => ⟨fun _ _ _ e => (by cases e), fun _ _ _ e => (by cases e), fun _ _ _ e => (by cases e)⟩
  | n + 1 => by
    have ih := mg_X6_part l G hSF n
    exact ⟨fun x0 h w e => mt_X6_part l G hSF (fr1 := 8 + n) (lo1 := 190 + n * 22) (by omega) (ih.1) (ih.2.1) (ih.2.2) x0 h w e, fun x0 h w e => mt_X6_term l G hSF (fr1 := 8 + n) (lo1 := 190 + n * 22) (by omega) (ih.1) (ih.2.1) (ih.2.2) x0 h w e, fun x0 h w e => mt_X6_sum l G hSF (fr1 := 8 + n) (lo1 := 190 + n * 22) (by omega) (ih.1) (ih.2.1) (ih.2.2) x0 h w e⟩
theorem mf_X6_part (l : Launch) (G : ax_G) (hSF : ax_SF G) (n : Nat) (x0 : Option Nat) (h : ax_H) (w : (Nat × ax_H) ⊕ (Option Nat × ax_H)) (e : fn_X6_part G.2.2 n x0 h = some w) : ax_MetX l G "DebtDoors$Wrong" yX6_part cX6_part 2 ((some (FieldType.object "DebtDoors$Sum"))) (8 + n) (190 + n * 22) [va_rf x0] h (ax_zR w) := (mg_X6_part l G hSF n).1 x0 h w e
theorem mf_X6_term (l : Launch) (G : ax_G) (hSF : ax_SF G) (n : Nat) (x0 : Option Nat) (h : ax_H) (w : (Nat × ax_H) ⊕ (Option Nat × ax_H)) (e : fn_X6_term G.2.2 n x0 h = some w) : ax_MetX l G "DebtDoors$Wrong" yX6_term cX6_term 3 ((some (FieldType.object "DebtDoors$Sum"))) (8 + n) (190 + n * 22) [va_rf x0] h (ax_zR w) := (mg_X6_part l G hSF n).2.1 x0 h w e
theorem mf_X6_sum (l : Launch) (G : ax_G) (hSF : ax_SF G) (n : Nat) (x0 : Option Nat) (h : ax_H) (w : (Nat × ax_H) ⊕ (Option Nat × ax_H)) (e : fn_X6_sum G.2.2 n x0 h = some w) : ax_MetX l G "DebtDoors$Wrong" yX6_sum cX6_sum 3 ((some (FieldType.object "DebtDoors$Sum"))) (8 + n) (190 + n * 22) [va_rf x0] h (ax_zR w) := (mg_X6_part l G hSF n).2.2 x0 h w e
def dkwX25_behind_0 : List UInt8 := [42, 42, 43, 182, 0, 45, 182, 0, 49, 42, 182, 0, 53, 176]
abbrev dktX25_behind_0 : List UInt8 := dkwX25_behind_0 ++ []
theorem dksX25_behind_0 : cX25_behind.data.toList.drop 0 = dktX25_behind_0 := by decide +kernel
theorem dX25_behind_0 : decode cX25_behind 0 = .ok (.aload_n 0, 1) := dk_42 (dk_at dksX25_behind_0 0 rfl rfl)
theorem dX25_behind_1 : decode cX25_behind 1 = .ok (.aload_n 0, 1) := dk_42 (dk_at dksX25_behind_0 1 rfl rfl)
theorem dX25_behind_2 : decode cX25_behind 2 = .ok (.aload_n 1, 1) := dk_43 (dk_at dksX25_behind_0 2 rfl rfl)
theorem dX25_behind_3 : decode cX25_behind 3 = .ok (.invokevirtual 45, 3) := dk_182 0 45 (dk_at dksX25_behind_0 3 rfl rfl)
theorem dX25_behind_6 : decode cX25_behind 6 = .ok (.invokevirtual 49, 3) := dk_182 0 49 (dk_at dksX25_behind_0 6 rfl rfl)
theorem dX25_behind_9 : decode cX25_behind 9 = .ok (.aload_n 0, 1) := dk_42 (dk_at dksX25_behind_0 9 rfl rfl)
theorem dX25_behind_10 : decode cX25_behind 10 = .ok (.invokevirtual 53, 3) := dk_182 0 53 (dk_at dksX25_behind_0 10 rfl rfl)
theorem dX25_behind_13 : decode cX25_behind 13 = .ok (.areturn, 1) := dk_176 (dk_at dksX25_behind_0 13 rfl rfl)
noncomputable def f_X25_behind (E : ax_E) (x0 : Option Nat) (x1 : Option Nat) (h : ax_H) : Option ((Nat × ax_H) ⊕ (Option Nat × ax_H)) :=
  (ax_dp E h x0 fun t => if t = 25 then f_X6_accept E x0 x1 h else none).bind fun q1 =>
  ax_tc (fun z3 => some (.inl z3)) (ax_dp E q1.2 x0 fun t => if t = 25 then f_X6_must E x0 q1.1 q1.2 else none) fun h2 =>
  ax_tc (fun z5 => some (.inl z5)) (ax_dp E h2 x0 fun t => if t = 25 then fn_X6_sum E 64 x0 h2 else none) fun q4 =>
  some (.inr (q4.1, q4.2))
set_option maxHeartbeats 4000000 in
theorem we_X25_behind {l : Launch} {G : ax_G} {X : ax_X} {Q : State → Prop} {h0 h : ax_H} {ls : Array Slot} (hSF : ax_SF G) (B : ax_BL l G X cX25_behind 2 RX25 73 1620) (Z : ax_Z X h0 ((some (FieldType.object "DebtDoors$Sum")))) (hn : X.2.2.2.2.2.2.2.2.1.name = yX25_behind.name) (hT : ∀ x ∈ ax_tb X, False) (x0 : Option Nat) (x1 : Option Nat) {w : (Nat × ax_H) ⊕ (Option Nat × ax_H)} (hl : ax_hl ls 2 [(0, .inr (.inr x0)), (1, .inr (.inr x1))]) (e : f_X25_behind G.2.2 x0 x1 h = some w) (hp : (fun w : (Nat × ax_H) ⊕ (Option Nat × ax_H) => Q = ax_QX G X "DebtDoors$Wrong" h0 (ax_zR w)) w) : ax_W G X Q h 0 ls [] := by
  unfold f_X25_behind at e
  refine ax_aload_n B dX25_behind_0 rfl hl 0 rfl ?_
  refine ax_aload_n B dX25_behind_1 rfl hl 0 rfl ?_
  refine ax_aload_n B dX25_behind_2 rfl hl 1 rfl ?_
  refine ax_iwI (x := ⟨"DebtDoors$OrderReader", "accept", "(Ljava/lang/String;)Z"⟩) (n := 1) (As := [va_rf x1]) B (fun w1 e1 => ?_) rfl hl.size (by simp only [List.map_cons, List.map_nil, List.sum_cons, List.sum_nil, va_rf_cat, ax_catI, ax_catL]; decide) dX25_behind_3 e (fun q1 e => ?_)
  · obtain ⟨t, c, e2, e1⟩ := ax_dp_spec e1
    rcases ax_ite e1 with ⟨hk, e1⟩ | ⟨-, e1⟩
    · subst hk
      exact ax_cal B kd25 e2 q1140 q1141 (ax_dcD B q1036) (B.2.1.2.2.2.2 _ q1142) q929 q144 q933 (by decide +kernel) ⟨Nat.le_of_ble_eq_true rfl, Nat.le_of_ble_eq_true rfl⟩ (mt_X6_accept l G hSF x0 x1 _ w1 e1)
    cases e1
  refine ax_xwV (Ex := "DebtDoors$Wrong") (x := ⟨"DebtDoors$OrderReader", "must", "(Z)V"⟩) (n := 1) (As := [.int (Int32.ofInt q1.1)]) B (fun w1 e1 => ?_) rfl hl.size (by decide) dX25_behind_6 e (fun z3 e => ?_) (fun h2 e => ?_)
  · obtain ⟨t, c, e2, e1⟩ := ax_dp_spec e1
    rcases ax_ite e1 with ⟨hk, e1⟩ | ⟨-, e1⟩
    · subst hk
      exact ax_calX B kd25 e2 q1173 (B.2.1.2.2.2.2 _ q1174) (ax_dcD B q897) (B.2.1.2.2.2.2 _ q1175) q802 q144 q806 (by decide +kernel) ⟨Nat.le_of_ble_eq_true rfl, Nat.le_of_ble_eq_true rfl⟩ (mt_X6_must l G hSF x0 q1.1 _ w1 e1)
    cases e1
  · cases e
    have hp : Q = ax_QX G X "DebtDoors$Wrong" h0 (.inl z3) := hp
    subst hp
    exact ax_outX B Z (fun z hz => (hT z hz).elim)
  refine ax_aload_n B dX25_behind_9 rfl hl 0 rfl ?_
  refine ax_xwR (Ex := "DebtDoors$Wrong") (x := ⟨"DebtDoors$OrderReader", "sum", "()LDebtDoors$Sum;"⟩) (n := 0) (As := []) B (fun w1 e1 => ?_) rfl hl.size (by decide) dX25_behind_10 e (fun z5 e => ?_) (fun q4 e => ?_)
  · obtain ⟨t, c, e2, e1⟩ := ax_dp_spec e1
    rcases ax_ite e1 with ⟨hk, e1⟩ | ⟨-, e1⟩
    · subst hk
      exact ax_calX B kd25 e2 q1176 (B.2.1.2.2.2.2 _ q1177) (ax_dcD B q905) (B.2.1.2.2.2.2 _ q1178) q907 q144 q908 (by decide +kernel) ⟨Nat.le_of_ble_eq_true rfl, Nat.le_of_ble_eq_true rfl⟩ (mf_X6_sum l G hSF 64 x0 _ w1 e1)
    cases e1
  · cases e
    have hp : Q = ax_QX G X "DebtDoors$Wrong" h0 (.inl z5) := hp
    subst hp
    exact ax_outX B Z (fun z hz => (hT z hz).elim)
  cases e
  have hp : Q = _ := hp
  subst hp
  exact ax_retX (ax_areturn B Z (Or.inl ⟨_, rfl⟩) dX25_behind_13 rfl)
theorem mt_X25_behind (l : Launch) (G : ax_G) (hSF : ax_SF G) (x0 : Option Nat) (x1 : Option Nat) (h : ax_H) (w : (Nat × ax_H) ⊕ (Option Nat × ax_H)) (e : f_X25_behind G.2.2 x0 x1 h = some w) : ax_MetX l G "DebtDoors$Wrong" yX25_behind cX25_behind 2 ((some (FieldType.object "DebtDoors$Sum"))) 73 1620 [va_rf x0, va_rf x1] h (ax_zR w) :=
  ax_enterX [.inr (.inr x0), .inr (.inr x1)] (y := yX25_behind) hSF (plainFor_of_name (by decide +kernel)) (Nat.le_of_ble_eq_true rfl) (fun X ls B Z hn hT hl => we_X25_behind hSF B Z hn hT x0 x1 hl e rfl)
def dkwX25_act_4 : List UInt8 := [89, 42, 180, 0, 3, 44, 45, 25, 4, 183, 0, 114, 176]
abbrev dktX25_act_4 : List UInt8 := dkwX25_act_4 ++ []
def dkwX25_act_3 : List UInt8 := [153, 0, 21, 187, 0, 107, 89, 42, 180, 0, 3, 44, 45, 25, 4, 183, 0, 109, 167, 0, 18, 187, 0, 112]
abbrev dktX25_act_3 : List UInt8 := dkwX25_act_3 ++ dktX25_act_4
def dkwX25_act_2 : List UInt8 := [182, 0, 49, 42, 182, 0, 53, 77, 42, 18, 100, 182, 0, 101, 78, 42, 18, 105, 182, 0, 101, 58, 4, 27]
abbrev dktX25_act_2 : List UInt8 := dkwX25_act_2 ++ dktX25_act_3
def dkwX25_act_1 : List UInt8 := [182, 0, 45, 60, 42, 27, 154, 0, 12, 42, 18, 98, 182, 0, 45, 153, 0, 7, 4, 167, 0, 4, 3]
abbrev dktX25_act_1 : List UInt8 := dkwX25_act_1 ++ dktX25_act_2
def dkwX25_act_0 : List UInt8 := [42, 18, 89, 182, 0, 45, 153, 0, 15, 187, 0, 91, 89, 42, 180, 0, 3, 183, 0, 93, 176, 42, 18, 96]
abbrev dktX25_act_0 : List UInt8 := dkwX25_act_0 ++ dktX25_act_1
theorem dksX25_act_0 : cX25_act.data.toList.drop 0 = dktX25_act_0 := by decide +kernel
theorem dksX25_act_1 : cX25_act.data.toList.drop 24 = dktX25_act_1 := dk_seg dksX25_act_0 24 rfl rfl
theorem dksX25_act_2 : cX25_act.data.toList.drop 47 = dktX25_act_2 := dk_seg dksX25_act_1 23 rfl rfl
theorem dksX25_act_3 : cX25_act.data.toList.drop 71 = dktX25_act_3 := dk_seg dksX25_act_2 24 rfl rfl
theorem dksX25_act_4 : cX25_act.data.toList.drop 95 = dktX25_act_4 := dk_seg dksX25_act_3 24 rfl rfl
theorem dX25_act_0 : decode cX25_act 0 = .ok (.aload_n 0, 1) := dk_42 (dk_at dksX25_act_0 0 rfl rfl)
theorem dX25_act_1 : decode cX25_act 1 = .ok (.ldc 89, 2) := dk_18 89 (dk_at dksX25_act_0 1 rfl rfl)
theorem dX25_act_3 : decode cX25_act 3 = .ok (.invokevirtual 45, 3) := dk_182 0 45 (dk_at dksX25_act_0 3 rfl rfl)
theorem dX25_act_6 : decode cX25_act 6 = .ok (.ifCond .eq 15, 3) := dk_153 0 15 (dk_at dksX25_act_0 6 rfl rfl)
theorem dX25_act_9 : decode cX25_act 9 = .ok (.new 91, 3) := dk_187 0 91 (dk_at dksX25_act_0 9 rfl rfl)
theorem dX25_act_12 : decode cX25_act 12 = .ok (.dup, 1) := dk_89 (dk_at dksX25_act_0 12 rfl rfl)
theorem dX25_act_13 : decode cX25_act 13 = .ok (.aload_n 0, 1) := dk_42 (dk_at dksX25_act_0 13 rfl rfl)
theorem dX25_act_14 : decode cX25_act 14 = .ok (.getfield 3, 3) := dk_180 0 3 (dk_at dksX25_act_0 14 rfl rfl)
theorem dX25_act_17 : decode cX25_act 17 = .ok (.invokespecial 93, 3) := dk_183 0 93 (dk_at dksX25_act_0 17 rfl rfl)
theorem dX25_act_20 : decode cX25_act 20 = .ok (.areturn, 1) := dk_176 (dk_at dksX25_act_0 20 rfl rfl)
theorem dX25_act_21 : decode cX25_act 21 = .ok (.aload_n 0, 1) := dk_42 (dk_at dksX25_act_0 21 rfl rfl)
theorem dX25_act_22 : decode cX25_act 22 = .ok (.ldc 96, 2) := dk_18 96 (dk_at dksX25_act_0 22 rfl rfl)
theorem dX25_act_24 : decode cX25_act 24 = .ok (.invokevirtual 45, 3) := dk_182 0 45 (dk_at dksX25_act_1 0 rfl rfl)
theorem dX25_act_27 : decode cX25_act 27 = .ok (.istore_n 1, 1) := dk_60 (dk_at dksX25_act_1 3 rfl rfl)
theorem dX25_act_28 : decode cX25_act 28 = .ok (.aload_n 0, 1) := dk_42 (dk_at dksX25_act_1 4 rfl rfl)
theorem dX25_act_29 : decode cX25_act 29 = .ok (.iload_n 1, 1) := dk_27 (dk_at dksX25_act_1 5 rfl rfl)
theorem dX25_act_30 : decode cX25_act 30 = .ok (.ifCond .ne 12, 3) := dk_154 0 12 (dk_at dksX25_act_1 6 rfl rfl)
theorem dX25_act_33 : decode cX25_act 33 = .ok (.aload_n 0, 1) := dk_42 (dk_at dksX25_act_1 9 rfl rfl)
theorem dX25_act_34 : decode cX25_act 34 = .ok (.ldc 98, 2) := dk_18 98 (dk_at dksX25_act_1 10 rfl rfl)
theorem dX25_act_36 : decode cX25_act 36 = .ok (.invokevirtual 45, 3) := dk_182 0 45 (dk_at dksX25_act_1 12 rfl rfl)
theorem dX25_act_39 : decode cX25_act 39 = .ok (.ifCond .eq 7, 3) := dk_153 0 7 (dk_at dksX25_act_1 15 rfl rfl)
theorem dX25_act_42 : decode cX25_act 42 = .ok (.iconst 1, 1) := dk_4 (dk_at dksX25_act_1 18 rfl rfl)
theorem dX25_act_43 : decode cX25_act 43 = .ok (.goto 4, 3) := dk_167 0 4 (dk_at dksX25_act_1 19 rfl rfl)
theorem dX25_act_46 : decode cX25_act 46 = .ok (.iconst 0, 1) := dk_3 (dk_at dksX25_act_1 22 rfl rfl)
theorem dX25_act_47 : decode cX25_act 47 = .ok (.invokevirtual 49, 3) := dk_182 0 49 (dk_at dksX25_act_2 0 rfl rfl)
theorem dX25_act_50 : decode cX25_act 50 = .ok (.aload_n 0, 1) := dk_42 (dk_at dksX25_act_2 3 rfl rfl)
theorem dX25_act_51 : decode cX25_act 51 = .ok (.invokevirtual 53, 3) := dk_182 0 53 (dk_at dksX25_act_2 4 rfl rfl)
theorem dX25_act_54 : decode cX25_act 54 = .ok (.astore_n 2, 1) := dk_77 (dk_at dksX25_act_2 7 rfl rfl)
theorem dX25_act_55 : decode cX25_act 55 = .ok (.aload_n 0, 1) := dk_42 (dk_at dksX25_act_2 8 rfl rfl)
theorem dX25_act_56 : decode cX25_act 56 = .ok (.ldc 100, 2) := dk_18 100 (dk_at dksX25_act_2 9 rfl rfl)
theorem dX25_act_58 : decode cX25_act 58 = .ok (.invokevirtual 101, 3) := dk_182 0 101 (dk_at dksX25_act_2 11 rfl rfl)
theorem dX25_act_61 : decode cX25_act 61 = .ok (.astore_n 3, 1) := dk_78 (dk_at dksX25_act_2 14 rfl rfl)
theorem dX25_act_62 : decode cX25_act 62 = .ok (.aload_n 0, 1) := dk_42 (dk_at dksX25_act_2 15 rfl rfl)
theorem dX25_act_63 : decode cX25_act 63 = .ok (.ldc 105, 2) := dk_18 105 (dk_at dksX25_act_2 16 rfl rfl)
theorem dX25_act_65 : decode cX25_act 65 = .ok (.invokevirtual 101, 3) := dk_182 0 101 (dk_at dksX25_act_2 18 rfl rfl)
theorem dX25_act_68 : decode cX25_act 68 = .ok (.astore 4, 2) := dk_58 4 (dk_at dksX25_act_2 21 rfl rfl)
theorem dX25_act_70 : decode cX25_act 70 = .ok (.iload_n 1, 1) := dk_27 (dk_at dksX25_act_2 23 rfl rfl)
theorem dX25_act_71 : decode cX25_act 71 = .ok (.ifCond .eq 21, 3) := dk_153 0 21 (dk_at dksX25_act_3 0 rfl rfl)
theorem dX25_act_74 : decode cX25_act 74 = .ok (.new 107, 3) := dk_187 0 107 (dk_at dksX25_act_3 3 rfl rfl)
theorem dX25_act_77 : decode cX25_act 77 = .ok (.dup, 1) := dk_89 (dk_at dksX25_act_3 6 rfl rfl)
theorem dX25_act_78 : decode cX25_act 78 = .ok (.aload_n 0, 1) := dk_42 (dk_at dksX25_act_3 7 rfl rfl)
theorem dX25_act_79 : decode cX25_act 79 = .ok (.getfield 3, 3) := dk_180 0 3 (dk_at dksX25_act_3 8 rfl rfl)
theorem dX25_act_82 : decode cX25_act 82 = .ok (.aload_n 2, 1) := dk_44 (dk_at dksX25_act_3 11 rfl rfl)
theorem dX25_act_83 : decode cX25_act 83 = .ok (.aload_n 3, 1) := dk_45 (dk_at dksX25_act_3 12 rfl rfl)
theorem dX25_act_84 : decode cX25_act 84 = .ok (.aload 4, 2) := dk_25 4 (dk_at dksX25_act_3 13 rfl rfl)
theorem dX25_act_86 : decode cX25_act 86 = .ok (.invokespecial 109, 3) := dk_183 0 109 (dk_at dksX25_act_3 15 rfl rfl)
theorem dX25_act_89 : decode cX25_act 89 = .ok (.goto 18, 3) := dk_167 0 18 (dk_at dksX25_act_3 18 rfl rfl)
theorem dX25_act_92 : decode cX25_act 92 = .ok (.new 112, 3) := dk_187 0 112 (dk_at dksX25_act_3 21 rfl rfl)
theorem dX25_act_95 : decode cX25_act 95 = .ok (.dup, 1) := dk_89 (dk_at dksX25_act_4 0 rfl rfl)
theorem dX25_act_96 : decode cX25_act 96 = .ok (.aload_n 0, 1) := dk_42 (dk_at dksX25_act_4 1 rfl rfl)
theorem dX25_act_97 : decode cX25_act 97 = .ok (.getfield 3, 3) := dk_180 0 3 (dk_at dksX25_act_4 2 rfl rfl)
theorem dX25_act_100 : decode cX25_act 100 = .ok (.aload_n 2, 1) := dk_44 (dk_at dksX25_act_4 5 rfl rfl)
theorem dX25_act_101 : decode cX25_act 101 = .ok (.aload_n 3, 1) := dk_45 (dk_at dksX25_act_4 6 rfl rfl)
theorem dX25_act_102 : decode cX25_act 102 = .ok (.aload 4, 2) := dk_25 4 (dk_at dksX25_act_4 7 rfl rfl)
theorem dX25_act_104 : decode cX25_act 104 = .ok (.invokespecial 114, 3) := dk_183 0 114 (dk_at dksX25_act_4 9 rfl rfl)
theorem dX25_act_107 : decode cX25_act 107 = .ok (.areturn, 1) := dk_176 (dk_at dksX25_act_4 12 rfl rfl)
noncomputable def f_X25_act_47 (E : ax_E) (x0 : Option Nat) (x1 : Int) (s0 : Option Nat) (s1 : Int) (h : ax_H) : Option ((Nat × ax_H) ⊕ (Option Nat × ax_H)) :=
  ax_tc (fun z2 => some (.inl z2)) (ax_dp E h s0 fun t => if t = 25 then f_X6_must E s0 s1 h else none) fun h1 =>
  ax_tc (fun z4 => some (.inl z4)) (ax_dp E h1 x0 fun t => if t = 25 then fn_X6_sum E 64 x0 h1 else none) fun q3 =>
  (ax_cst E 34).bind fun v5 =>
  ax_tc (fun z7 => some (.inl z7)) (ax_dp E q3.2 x0 fun t => if t = 25 then f_X25_behind E x0 v5 q3.2 else none) fun q6 =>
  (ax_cst E 35).bind fun v8 =>
  ax_tc (fun z10 => some (.inl z10)) (ax_dp E q6.2 x0 fun t => if t = 25 then f_X25_behind E x0 v8 q6.2 else none) fun q9 =>
  if i2 x1 = 0 then
    (ax_nw E q9.2 24 0 9).bind fun q11 =>
    (ax_gR E q11.2 x0 25 9).bind fun v12 =>
    (some q11.1).bind fun _ => (f_X24_init E (some q11.1) v12 q3.1 q6.1 q9.1 q11.2).bind fun h13 =>
    some (.inr ((some q11.1), h13))
  else
    (ax_nw E q9.2 23 0 9).bind fun q14 =>
    (ax_gR E q14.2 x0 25 9).bind fun v15 =>
    (some q14.1).bind fun _ => (f_X23_init E (some q14.1) v15 q3.1 q6.1 q9.1 q14.2).bind fun h16 =>
    some (.inr ((some q14.1), h16))
noncomputable def f_X25_act_42 (E : ax_E) (x0 : Option Nat) (x1 : Int) (s0 : Option Nat) (h : ax_H) : Option ((Nat × ax_H) ⊕ (Option Nat × ax_H)) :=
  f_X25_act_47 E x0 x1 s0 1 h
noncomputable def f_X25_act (E : ax_E) (x0 : Option Nat) (h : ax_H) : Option ((Nat × ax_H) ⊕ (Option Nat × ax_H)) :=
  (ax_cst E 31).bind fun v1 =>
  (ax_dp E h x0 fun t => if t = 25 then f_X6_accept E x0 v1 h else none).bind fun q2 =>
  if i2 q2.1 = 0 then
    (ax_cst E 32).bind fun v3 =>
    (ax_dp E q2.2 x0 fun t => if t = 25 then f_X6_accept E x0 v3 q2.2 else none).bind fun q4 =>
    if i2 q4.1 = 0 then
      (ax_cst E 33).bind fun v5 =>
      (ax_dp E q4.2 x0 fun t => if t = 25 then f_X6_accept E x0 v5 q4.2 else none).bind fun q6 =>
      if i2 q6.1 = 0 then
        f_X25_act_47 E x0 q4.1 x0 0 q6.2
      else
        f_X25_act_42 E x0 q4.1 x0 q6.2
    else
      f_X25_act_42 E x0 q4.1 x0 q4.2
  else
    (ax_nw E q2.2 21 0 5).bind fun q7 =>
    (ax_gR E q7.2 x0 25 9).bind fun v8 =>
    (some q7.1).bind fun _ => (f_X21_init E (some q7.1) v8 q7.2).bind fun h9 =>
    some (.inr ((some q7.1), h9))
set_option maxHeartbeats 4000000 in
theorem w_X25_act_47 {l : Launch} {G : ax_G} {X : ax_X} {Q : State → Prop} {h0 h : ax_H} {ls : Array Slot} (hSF : ax_SF G) (B : ax_BL l G X cX25_act 5 RX25 74 1641) (Z : ax_Z X h0 ((some (FieldType.object "DebtDoors$Order")))) (hn : X.2.2.2.2.2.2.2.2.1.name = yX25_act.name) (hT : ∀ x ∈ ax_tb X, False) (x0 : Option Nat) (x1 : Int) (s0 : Option Nat) (s1 : Int) {w : (Nat × ax_H) ⊕ (Option Nat × ax_H)} (hl : ax_hl ls 5 [(0, .inr (.inr x0)), (1, .inl x1)]) (e : f_X25_act_47 G.2.2 x0 x1 s0 s1 h = some w) (hp : (fun w : (Nat × ax_H) ⊕ (Option Nat × ax_H) => Q = ax_QX G X "DebtDoors$Wrong" h0 (ax_zR w)) w) : ax_W G X Q h 47 ls [.int (Int32.ofInt s1), va_rf s0] := by
  unfold f_X25_act_47 at e
  refine ax_xwV (Ex := "DebtDoors$Wrong") (x := ⟨"DebtDoors$OrderReader", "must", "(Z)V"⟩) (n := 1) (As := [.int (Int32.ofInt s1)]) B (fun w1 e1 => ?_) rfl hl.size (by decide) dX25_act_47 e (fun z2 e => ?_) (fun h1 e => ?_)
  · obtain ⟨t, c, e2, e1⟩ := ax_dp_spec e1
    rcases ax_ite e1 with ⟨hk, e1⟩ | ⟨-, e1⟩
    · subst hk
      exact ax_calX B kd25 e2 q1173 (B.2.1.2.2.2.2 _ q1174) (ax_dcD B q897) (B.2.1.2.2.2.2 _ q1175) q802 q144 q806 (by decide +kernel) ⟨Nat.le_of_ble_eq_true rfl, Nat.le_of_ble_eq_true rfl⟩ (mt_X6_must l G hSF s0 s1 _ w1 e1)
    cases e1
  · cases e
    have hp : Q = ax_QX G X "DebtDoors$Wrong" h0 (.inl z2) := hp
    subst hp
    exact ax_outX B Z (fun z hz => (hT z hz).elim)
  refine ax_aload_n B dX25_act_50 rfl hl 0 rfl ?_
  refine ax_xwR (Ex := "DebtDoors$Wrong") (x := ⟨"DebtDoors$OrderReader", "sum", "()LDebtDoors$Sum;"⟩) (n := 0) (As := []) B (fun w1 e1 => ?_) rfl hl.size (by decide) dX25_act_51 e (fun z4 e => ?_) (fun q3 e => ?_)
  · obtain ⟨t, c, e2, e1⟩ := ax_dp_spec e1
    rcases ax_ite e1 with ⟨hk, e1⟩ | ⟨-, e1⟩
    · subst hk
      exact ax_calX B kd25 e2 q1176 (B.2.1.2.2.2.2 _ q1177) (ax_dcD B q905) (B.2.1.2.2.2.2 _ q1178) q907 q144 q908 (by decide +kernel) ⟨Nat.le_of_ble_eq_true rfl, Nat.le_of_ble_eq_true rfl⟩ (mf_X6_sum l G hSF 64 x0 _ w1 e1)
    cases e1
  · cases e
    have hp : Q = ax_QX G X "DebtDoors$Wrong" h0 (.inl z4) := hp
    subst hp
    exact ax_outX B Z (fun z hz => (hT z hz).elim)
  refine ax_astore_n (L' := [(2, .inr (.inr q3.1)), (0, .inr (.inr x0)), (1, .inl x1)]) B dX25_act_54 rfl hl (by decide) rfl (fun ls hl => ?_)
  refine ax_aload_n B dX25_act_55 rfl hl 1 rfl ?_
  refine ax_ldcS (j := 24) B (List.mem_of_getElem? (i := 24) rfl) dX25_act_56 e (fun v5 e => ?_)
  refine ax_xwR (Ex := "DebtDoors$Wrong") (x := ⟨"DebtDoors$OrderReader", "behind", "(Ljava/lang/String;)LDebtDoors$Sum;"⟩) (n := 1) (As := [va_rf v5]) B (fun w1 e1 => ?_) rfl hl.size (by decide) dX25_act_58 e (fun z7 e => ?_) (fun q6 e => ?_)
  · obtain ⟨t, c, e2, e1⟩ := ax_dp_spec e1
    rcases ax_ite e1 with ⟨hk, e1⟩ | ⟨-, e1⟩
    · subst hk
      exact ax_calX B kd25 e2 q1180 (ax_smO B q1182 q1137 (by decide +kernel)) (ax_dcC B q1182 q1183) (B.2.1.2.2.2.2 _ qs17) q1182 q167 q1183 (by decide +kernel) ⟨Nat.le_of_ble_eq_true rfl, Nat.le_of_ble_eq_true rfl⟩ (mt_X25_behind l G hSF x0 v5 _ w1 e1)
    cases e1
  · cases e
    have hp : Q = ax_QX G X "DebtDoors$Wrong" h0 (.inl z7) := hp
    subst hp
    exact ax_outX B Z (fun z hz => (hT z hz).elim)
  refine ax_astore_n (L' := [(3, .inr (.inr q6.1)), (2, .inr (.inr q3.1)), (0, .inr (.inr x0)), (1, .inl x1)]) B dX25_act_61 rfl hl (by decide) rfl (fun ls hl => ?_)
  refine ax_aload_n B dX25_act_62 rfl hl 2 rfl ?_
  refine ax_ldcS (j := 25) B (List.mem_of_getElem? (i := 25) rfl) dX25_act_63 e (fun v8 e => ?_)
  refine ax_xwR (Ex := "DebtDoors$Wrong") (x := ⟨"DebtDoors$OrderReader", "behind", "(Ljava/lang/String;)LDebtDoors$Sum;"⟩) (n := 1) (As := [va_rf v8]) B (fun w1 e1 => ?_) rfl hl.size (by decide) dX25_act_65 e (fun z10 e => ?_) (fun q9 e => ?_)
  · obtain ⟨t, c, e2, e1⟩ := ax_dp_spec e1
    rcases ax_ite e1 with ⟨hk, e1⟩ | ⟨-, e1⟩
    · subst hk
      exact ax_calX B kd25 e2 q1180 (ax_smO B q1182 q1137 (by decide +kernel)) (ax_dcC B q1182 q1183) (B.2.1.2.2.2.2 _ qs17) q1182 q167 q1183 (by decide +kernel) ⟨Nat.le_of_ble_eq_true rfl, Nat.le_of_ble_eq_true rfl⟩ (mt_X25_behind l G hSF x0 v8 _ w1 e1)
    cases e1
  · cases e
    have hp : Q = ax_QX G X "DebtDoors$Wrong" h0 (.inl z10) := hp
    subst hp
    exact ax_outX B Z (fun z hz => (hT z hz).elim)
  refine ax_astore (L' := [(4, .inr (.inr q9.1)), (3, .inr (.inr q6.1)), (2, .inr (.inr q3.1)), (0, .inr (.inr x0)), (1, .inl x1)]) B dX25_act_68 hl (by decide) rfl (fun ls hl => ?_)
  refine ax_iload_n B dX25_act_70 rfl hl 4 rfl ?_
  refine ax_if_eq (tgt := 92) B dX25_act_71 (by decide) e (fun e => ?_) (fun e => ?_)
  · refine ax_new B kd24 in_X24 tyX24_ok (fun k hk => ax_dv _ (dfX24 k hk)) q1214 q1215 q164 dX25_act_92 e (fun q11 e => ?_)
    refine ax_dup B dX25_act_95 (va_rf_cat _) ?_
    refine ax_aload_n B dX25_act_96 rfl hl 3 rfl ?_
    refine ax_getR B ff_X25_3_25 (fun _ _ => rfl) dX25_act_97 e (fun v12 e => ?_)
    refine ax_aload_n B dX25_act_100 rfl hl 2 rfl ?_
    refine ax_aload_n B dX25_act_101 rfl hl 1 rfl ?_
    refine ax_aload B dX25_act_102 hl 0 rfl ?_
    refine ax_iiR (y := yX24_init) (n := 4) (As := [va_rf v12, va_rf q3.1, va_rf q6.1, va_rf q9.1]) B q1216 q1217 q164 q1218 rfl (by decide +kernel) ⟨Nat.le_of_ble_eq_true rfl, Nat.le_of_ble_eq_true rfl⟩ (fun w1 e1 => mt_X24_init l G hSF (some q11.1) v12 q3.1 q6.1 q9.1 _ w1 e1) rfl hl.size (by simp only [List.map_cons, List.map_nil, List.sum_cons, List.sum_nil, va_rf_cat, ax_catI, ax_catL]; decide) dX25_act_104 e (fun h13 e => ?_)
    cases e
    have hp : Q = _ := hp
    subst hp
    exact ax_retX (ax_areturn B Z (Or.inl ⟨_, rfl⟩) dX25_act_107 rfl)
  · refine ax_new B kd23 in_X23 tyX23_ok (fun k hk => ax_dv _ (dfX23 k hk)) q1185 q1186 q163 dX25_act_74 e (fun q14 e => ?_)
    refine ax_dup B dX25_act_77 (va_rf_cat _) ?_
    refine ax_aload_n B dX25_act_78 rfl hl 3 rfl ?_
    refine ax_getR B ff_X25_3_25 (fun _ _ => rfl) dX25_act_79 e (fun v15 e => ?_)
    refine ax_aload_n B dX25_act_82 rfl hl 2 rfl ?_
    refine ax_aload_n B dX25_act_83 rfl hl 1 rfl ?_
    refine ax_aload B dX25_act_84 hl 0 rfl ?_
    refine ax_iiR (y := yX23_init) (n := 4) (As := [va_rf v15, va_rf q3.1, va_rf q6.1, va_rf q9.1]) B q1187 q1188 q163 q1189 rfl (by decide +kernel) ⟨Nat.le_of_ble_eq_true rfl, Nat.le_of_ble_eq_true rfl⟩ (fun w1 e1 => mt_X23_init l G hSF (some q14.1) v15 q3.1 q6.1 q9.1 _ w1 e1) rfl hl.size (by simp only [List.map_cons, List.map_nil, List.sum_cons, List.sum_nil, va_rf_cat, ax_catI, ax_catL]; decide) dX25_act_86 e (fun h16 e => ?_)
    refine ax_goto (tgt := 107) B dX25_act_89 (by decide) ?_
    cases e
    have hp : Q = _ := hp
    subst hp
    exact ax_retX (ax_areturn B Z (Or.inl ⟨_, rfl⟩) dX25_act_107 rfl)
set_option maxHeartbeats 4000000 in
theorem w_X25_act_42 {l : Launch} {G : ax_G} {X : ax_X} {Q : State → Prop} {h0 h : ax_H} {ls : Array Slot} (hSF : ax_SF G) (B : ax_BL l G X cX25_act 5 RX25 74 1641) (Z : ax_Z X h0 ((some (FieldType.object "DebtDoors$Order")))) (hn : X.2.2.2.2.2.2.2.2.1.name = yX25_act.name) (hT : ∀ x ∈ ax_tb X, False) (x0 : Option Nat) (x1 : Int) (s0 : Option Nat) {w : (Nat × ax_H) ⊕ (Option Nat × ax_H)} (hl : ax_hl ls 5 [(0, .inr (.inr x0)), (1, .inl x1)]) (e : f_X25_act_42 G.2.2 x0 x1 s0 h = some w) (hp : (fun w : (Nat × ax_H) ⊕ (Option Nat × ax_H) => Q = ax_QX G X "DebtDoors$Wrong" h0 (ax_zR w)) w) : ax_W G X Q h 42 ls [va_rf s0] := by
  unfold f_X25_act_42 at e
  refine ax_iconst B dX25_act_42 ?_
  refine ax_goto (tgt := 47) B dX25_act_43 (by decide) ?_
  exact w_X25_act_47 hSF B Z hn hT x0 x1 s0 1 (hl.sub [0, 1] rfl) e hp
set_option maxHeartbeats 4000000 in
theorem we_X25_act {l : Launch} {G : ax_G} {X : ax_X} {Q : State → Prop} {h0 h : ax_H} {ls : Array Slot} (hSF : ax_SF G) (B : ax_BL l G X cX25_act 5 RX25 74 1641) (Z : ax_Z X h0 ((some (FieldType.object "DebtDoors$Order")))) (hn : X.2.2.2.2.2.2.2.2.1.name = yX25_act.name) (hT : ∀ x ∈ ax_tb X, False) (x0 : Option Nat) {w : (Nat × ax_H) ⊕ (Option Nat × ax_H)} (hl : ax_hl ls 5 [(0, .inr (.inr x0))]) (e : f_X25_act G.2.2 x0 h = some w) (hp : (fun w : (Nat × ax_H) ⊕ (Option Nat × ax_H) => Q = ax_QX G X "DebtDoors$Wrong" h0 (ax_zR w)) w) : ax_W G X Q h 0 ls [] := by
  unfold f_X25_act at e
  refine ax_aload_n B dX25_act_0 rfl hl 0 rfl ?_
  refine ax_ldcS (j := 21) B (List.mem_of_getElem? (i := 21) rfl) dX25_act_1 e (fun v1 e => ?_)
  refine ax_iwI (x := ⟨"DebtDoors$OrderReader", "accept", "(Ljava/lang/String;)Z"⟩) (n := 1) (As := [va_rf v1]) B (fun w1 e1 => ?_) rfl hl.size (by decide) dX25_act_3 e (fun q2 e => ?_)
  · obtain ⟨t, c, e2, e1⟩ := ax_dp_spec e1
    rcases ax_ite e1 with ⟨hk, e1⟩ | ⟨-, e1⟩
    · subst hk
      exact ax_cal B kd25 e2 q1140 q1141 (ax_dcD B q1036) (B.2.1.2.2.2.2 _ q1142) q929 q144 q933 (by decide +kernel) ⟨Nat.le_of_ble_eq_true rfl, Nat.le_of_ble_eq_true rfl⟩ (mt_X6_accept l G hSF x0 v1 _ w1 e1)
    cases e1
  refine ax_if_eq (tgt := 21) B dX25_act_6 (by decide) e (fun e => ?_) (fun e => ?_)
  · refine ax_aload_n B dX25_act_21 rfl hl 0 rfl ?_
    refine ax_ldcS (j := 22) B (List.mem_of_getElem? (i := 22) rfl) dX25_act_22 e (fun v3 e => ?_)
    refine ax_iwI (x := ⟨"DebtDoors$OrderReader", "accept", "(Ljava/lang/String;)Z"⟩) (n := 1) (As := [va_rf v3]) B (fun w1 e1 => ?_) rfl hl.size (by decide) dX25_act_24 e (fun q4 e => ?_)
    · obtain ⟨t, c, e2, e1⟩ := ax_dp_spec e1
      rcases ax_ite e1 with ⟨hk, e1⟩ | ⟨-, e1⟩
      · subst hk
        exact ax_cal B kd25 e2 q1140 q1141 (ax_dcD B q1036) (B.2.1.2.2.2.2 _ q1142) q929 q144 q933 (by decide +kernel) ⟨Nat.le_of_ble_eq_true rfl, Nat.le_of_ble_eq_true rfl⟩ (mt_X6_accept l G hSF x0 v3 _ w1 e1)
      cases e1
    refine ax_istore_n (L' := [(1, .inl q4.1), (0, .inr (.inr x0))]) B dX25_act_27 rfl hl (by decide) rfl (fun ls hl => ?_)
    refine ax_aload_n B dX25_act_28 rfl hl 1 rfl ?_
    refine ax_iload_n B dX25_act_29 rfl hl 0 rfl ?_
    refine ax_if_ne (tgt := 42) B dX25_act_30 (by decide) e (fun e => ?_) (fun e => ?_)
    · refine ax_aload_n B dX25_act_33 rfl hl 1 rfl ?_
      refine ax_ldcS (j := 23) B (List.mem_of_getElem? (i := 23) rfl) dX25_act_34 e (fun v5 e => ?_)
      refine ax_iwI (x := ⟨"DebtDoors$OrderReader", "accept", "(Ljava/lang/String;)Z"⟩) (n := 1) (As := [va_rf v5]) B (fun w1 e1 => ?_) rfl hl.size (by simp only [List.map_cons, List.map_nil, List.sum_cons, List.sum_nil, va_rf_cat, ax_catI, ax_catL]; decide) dX25_act_36 e (fun q6 e => ?_)
      · obtain ⟨t, c, e2, e1⟩ := ax_dp_spec e1
        rcases ax_ite e1 with ⟨hk, e1⟩ | ⟨-, e1⟩
        · subst hk
          exact ax_cal B kd25 e2 q1140 q1141 (ax_dcD B q1036) (B.2.1.2.2.2.2 _ q1142) q929 q144 q933 (by decide +kernel) ⟨Nat.le_of_ble_eq_true rfl, Nat.le_of_ble_eq_true rfl⟩ (mt_X6_accept l G hSF x0 v5 _ w1 e1)
        cases e1
      refine ax_if_eq (tgt := 46) B dX25_act_39 (by decide) e (fun e => ?_) (fun e => ?_)
      · refine ax_iconst B dX25_act_46 ?_
        exact w_X25_act_47 hSF B Z hn hT x0 q4.1 x0 0 (hl.sub [1, 0] rfl) e hp
      · exact w_X25_act_42 hSF B Z hn hT x0 q4.1 x0 (hl.sub [1, 0] rfl) e hp
    · exact w_X25_act_42 hSF B Z hn hT x0 q4.1 x0 (hl.sub [1, 0] rfl) e hp
  · refine ax_new B kd21 in_X21 tyX21_ok (fun k hk => ax_dv _ (dfX21 k hk)) q1143 q1144 q161 dX25_act_9 e (fun q7 e => ?_)
    refine ax_dup B dX25_act_12 (va_rf_cat _) ?_
    refine ax_aload_n B dX25_act_13 rfl hl 0 rfl ?_
    refine ax_getR B ff_X25_3_25 (fun _ _ => rfl) dX25_act_14 e (fun v8 e => ?_)
    refine ax_iiNR (y := yX21_init) (n := 1) (As := [va_rf v8]) B q1145 q1146 q161 q1147 rfl (by decide +kernel) ⟨Nat.le_of_ble_eq_true rfl, Nat.le_of_ble_eq_true rfl⟩ (fun w1 e1 => mt_X21_init l G hSF (some q7.1) v8 _ w1 e1) rfl hl.size (by simp only [List.map_cons, List.map_nil, List.sum_cons, List.sum_nil, va_rf_cat, ax_catI, ax_catL]; decide) dX25_act_17 e (fun h9 e => ?_)
    cases e
    have hp : Q = _ := hp
    subst hp
    exact ax_retX (ax_areturn B Z (Or.inl ⟨_, rfl⟩) dX25_act_20 rfl)
theorem mt_X25_act (l : Launch) (G : ax_G) (hSF : ax_SF G) (x0 : Option Nat) (h : ax_H) (w : (Nat × ax_H) ⊕ (Option Nat × ax_H)) (e : f_X25_act G.2.2 x0 h = some w) : ax_MetX l G "DebtDoors$Wrong" yX25_act cX25_act 5 ((some (FieldType.object "DebtDoors$Order"))) 74 1641 [va_rf x0] h (ax_zR w) :=
  ax_enterX [.inr (.inr x0)] (y := yX25_act) hSF (plainFor_of_name (by decide +kernel)) (Nat.le_of_ble_eq_true rfl) (fun X ls B Z hn hT hl => we_X25_act hSF B Z hn hT x0 hl e rfl)
def dkwX6_plain_5 : List UInt8 := [182, 0, 135, 183, 0, 147, 77, 27, 153, 0, 14, 187, 0, 150, 89, 44, 183, 0, 152, 167, 0, 4, 44, 176]
abbrev dktX6_plain_5 : List UInt8 := dkwX6_plain_5 ++ []
def dkwX6_plain_4 : List UInt8 := [180, 0, 52, 42, 180, 0, 42, 51, 54, 4, 42, 182, 0, 25, 187, 0, 145, 89, 45, 21, 4, 42]
abbrev dktX6_plain_4 : List UInt8 := dkwX6_plain_4 ++ dktX6_plain_5
def dkwX6_plain_3 : List UInt8 := [154, 0, 12, 42, 18, 143, 182, 0, 73, 153, 0, 7, 4, 167, 0, 4, 3, 182, 0, 28, 42, 180, 0, 3]
abbrev dktX6_plain_3 : List UInt8 := dkwX6_plain_3 ++ dktX6_plain_4
def dkwX6_plain_2 : List UInt8 := [167, 0, 77, 42, 182, 0, 135, 78, 42, 42, 18, 139, 182, 0, 73, 154, 0, 21, 42, 18, 141, 182, 0, 73]
abbrev dktX6_plain_2 : List UInt8 := dkwX6_plain_2 ++ dktX6_plain_3
def dkwX6_plain_1 : List UInt8 := [42, 18, 121, 182, 0, 73, 153, 0, 21, 42, 182, 0, 123, 42, 182, 0, 126, 77, 42, 18, 129, 182, 0, 131]
abbrev dktX6_plain_1 : List UInt8 := dkwX6_plain_1 ++ dktX6_plain_2
def dkwX6_plain_0 : List UInt8 := [3, 60, 42, 18, 119, 182, 0, 38, 153, 0, 16, 27, 154, 0, 7, 4, 167, 0, 4, 3, 60, 167, 255, 237]
abbrev dktX6_plain_0 : List UInt8 := dkwX6_plain_0 ++ dktX6_plain_1
theorem dksX6_plain_0 : cX6_plain.data.toList.drop 0 = dktX6_plain_0 := by decide +kernel
theorem dksX6_plain_1 : cX6_plain.data.toList.drop 24 = dktX6_plain_1 := dk_seg dksX6_plain_0 24 rfl rfl
theorem dksX6_plain_2 : cX6_plain.data.toList.drop 48 = dktX6_plain_2 := dk_seg dksX6_plain_1 24 rfl rfl
theorem dksX6_plain_3 : cX6_plain.data.toList.drop 72 = dktX6_plain_3 := dk_seg dksX6_plain_2 24 rfl rfl
theorem dksX6_plain_4 : cX6_plain.data.toList.drop 96 = dktX6_plain_4 := dk_seg dksX6_plain_3 24 rfl rfl
theorem dksX6_plain_5 : cX6_plain.data.toList.drop 118 = dktX6_plain_5 := dk_seg dksX6_plain_4 22 rfl rfl
theorem dX6_plain_0 : decode cX6_plain 0 = .ok (.iconst 0, 1) := dk_3 (dk_at dksX6_plain_0 0 rfl rfl)
theorem dX6_plain_1 : decode cX6_plain 1 = .ok (.istore_n 1, 1) := dk_60 (dk_at dksX6_plain_0 1 rfl rfl)
theorem dX6_plain_2 : decode cX6_plain 2 = .ok (.aload_n 0, 1) := dk_42 (dk_at dksX6_plain_0 2 rfl rfl)
theorem dX6_plain_3 : decode cX6_plain 3 = .ok (.ldc 119, 2) := dk_18 119 (dk_at dksX6_plain_0 3 rfl rfl)
theorem dX6_plain_5 : decode cX6_plain 5 = .ok (.invokevirtual 38, 3) := dk_182 0 38 (dk_at dksX6_plain_0 5 rfl rfl)
theorem dX6_plain_8 : decode cX6_plain 8 = .ok (.ifCond .eq 16, 3) := dk_153 0 16 (dk_at dksX6_plain_0 8 rfl rfl)
theorem dX6_plain_11 : decode cX6_plain 11 = .ok (.iload_n 1, 1) := dk_27 (dk_at dksX6_plain_0 11 rfl rfl)
theorem dX6_plain_12 : decode cX6_plain 12 = .ok (.ifCond .ne 7, 3) := dk_154 0 7 (dk_at dksX6_plain_0 12 rfl rfl)
theorem dX6_plain_15 : decode cX6_plain 15 = .ok (.iconst 1, 1) := dk_4 (dk_at dksX6_plain_0 15 rfl rfl)
theorem dX6_plain_16 : decode cX6_plain 16 = .ok (.goto 4, 3) := dk_167 0 4 (dk_at dksX6_plain_0 16 rfl rfl)
theorem dX6_plain_19 : decode cX6_plain 19 = .ok (.iconst 0, 1) := dk_3 (dk_at dksX6_plain_0 19 rfl rfl)
theorem dX6_plain_20 : decode cX6_plain 20 = .ok (.istore_n 1, 1) := dk_60 (dk_at dksX6_plain_0 20 rfl rfl)
theorem dX6_plain_21 : decode cX6_plain 21 = .ok (.goto (-19), 3) := dk_167 255 237 (dk_at dksX6_plain_0 21 rfl rfl)
theorem dX6_plain_24 : decode cX6_plain 24 = .ok (.aload_n 0, 1) := dk_42 (dk_at dksX6_plain_1 0 rfl rfl)
theorem dX6_plain_25 : decode cX6_plain 25 = .ok (.ldc 121, 2) := dk_18 121 (dk_at dksX6_plain_1 1 rfl rfl)
theorem dX6_plain_27 : decode cX6_plain 27 = .ok (.invokevirtual 73, 3) := dk_182 0 73 (dk_at dksX6_plain_1 3 rfl rfl)
theorem dX6_plain_30 : decode cX6_plain 30 = .ok (.ifCond .eq 21, 3) := dk_153 0 21 (dk_at dksX6_plain_1 6 rfl rfl)
theorem dX6_plain_33 : decode cX6_plain 33 = .ok (.aload_n 0, 1) := dk_42 (dk_at dksX6_plain_1 9 rfl rfl)
theorem dX6_plain_34 : decode cX6_plain 34 = .ok (.invokevirtual 123, 3) := dk_182 0 123 (dk_at dksX6_plain_1 10 rfl rfl)
theorem dX6_plain_37 : decode cX6_plain 37 = .ok (.aload_n 0, 1) := dk_42 (dk_at dksX6_plain_1 13 rfl rfl)
theorem dX6_plain_38 : decode cX6_plain 38 = .ok (.invokevirtual 126, 3) := dk_182 0 126 (dk_at dksX6_plain_1 14 rfl rfl)
theorem dX6_plain_41 : decode cX6_plain 41 = .ok (.astore_n 2, 1) := dk_77 (dk_at dksX6_plain_1 17 rfl rfl)
theorem dX6_plain_42 : decode cX6_plain 42 = .ok (.aload_n 0, 1) := dk_42 (dk_at dksX6_plain_1 18 rfl rfl)
theorem dX6_plain_43 : decode cX6_plain 43 = .ok (.ldc 129, 2) := dk_18 129 (dk_at dksX6_plain_1 19 rfl rfl)
theorem dX6_plain_45 : decode cX6_plain 45 = .ok (.invokevirtual 131, 3) := dk_182 0 131 (dk_at dksX6_plain_1 21 rfl rfl)
theorem dX6_plain_48 : decode cX6_plain 48 = .ok (.goto 77, 3) := dk_167 0 77 (dk_at dksX6_plain_2 0 rfl rfl)
theorem dX6_plain_51 : decode cX6_plain 51 = .ok (.aload_n 0, 1) := dk_42 (dk_at dksX6_plain_2 3 rfl rfl)
theorem dX6_plain_52 : decode cX6_plain 52 = .ok (.invokevirtual 135, 3) := dk_182 0 135 (dk_at dksX6_plain_2 4 rfl rfl)
theorem dX6_plain_55 : decode cX6_plain 55 = .ok (.astore_n 3, 1) := dk_78 (dk_at dksX6_plain_2 7 rfl rfl)
theorem dX6_plain_56 : decode cX6_plain 56 = .ok (.aload_n 0, 1) := dk_42 (dk_at dksX6_plain_2 8 rfl rfl)
theorem dX6_plain_57 : decode cX6_plain 57 = .ok (.aload_n 0, 1) := dk_42 (dk_at dksX6_plain_2 9 rfl rfl)
theorem dX6_plain_58 : decode cX6_plain 58 = .ok (.ldc 139, 2) := dk_18 139 (dk_at dksX6_plain_2 10 rfl rfl)
theorem dX6_plain_60 : decode cX6_plain 60 = .ok (.invokevirtual 73, 3) := dk_182 0 73 (dk_at dksX6_plain_2 12 rfl rfl)
theorem dX6_plain_63 : decode cX6_plain 63 = .ok (.ifCond .ne 21, 3) := dk_154 0 21 (dk_at dksX6_plain_2 15 rfl rfl)
theorem dX6_plain_66 : decode cX6_plain 66 = .ok (.aload_n 0, 1) := dk_42 (dk_at dksX6_plain_2 18 rfl rfl)
theorem dX6_plain_67 : decode cX6_plain 67 = .ok (.ldc 141, 2) := dk_18 141 (dk_at dksX6_plain_2 19 rfl rfl)
theorem dX6_plain_69 : decode cX6_plain 69 = .ok (.invokevirtual 73, 3) := dk_182 0 73 (dk_at dksX6_plain_2 21 rfl rfl)
theorem dX6_plain_72 : decode cX6_plain 72 = .ok (.ifCond .ne 12, 3) := dk_154 0 12 (dk_at dksX6_plain_3 0 rfl rfl)
theorem dX6_plain_75 : decode cX6_plain 75 = .ok (.aload_n 0, 1) := dk_42 (dk_at dksX6_plain_3 3 rfl rfl)
theorem dX6_plain_76 : decode cX6_plain 76 = .ok (.ldc 143, 2) := dk_18 143 (dk_at dksX6_plain_3 4 rfl rfl)
theorem dX6_plain_78 : decode cX6_plain 78 = .ok (.invokevirtual 73, 3) := dk_182 0 73 (dk_at dksX6_plain_3 6 rfl rfl)
theorem dX6_plain_81 : decode cX6_plain 81 = .ok (.ifCond .eq 7, 3) := dk_153 0 7 (dk_at dksX6_plain_3 9 rfl rfl)
theorem dX6_plain_84 : decode cX6_plain 84 = .ok (.iconst 1, 1) := dk_4 (dk_at dksX6_plain_3 12 rfl rfl)
theorem dX6_plain_85 : decode cX6_plain 85 = .ok (.goto 4, 3) := dk_167 0 4 (dk_at dksX6_plain_3 13 rfl rfl)
theorem dX6_plain_88 : decode cX6_plain 88 = .ok (.iconst 0, 1) := dk_3 (dk_at dksX6_plain_3 16 rfl rfl)
theorem dX6_plain_89 : decode cX6_plain 89 = .ok (.invokevirtual 28, 3) := dk_182 0 28 (dk_at dksX6_plain_3 17 rfl rfl)
theorem dX6_plain_92 : decode cX6_plain 92 = .ok (.aload_n 0, 1) := dk_42 (dk_at dksX6_plain_3 20 rfl rfl)
theorem dX6_plain_93 : decode cX6_plain 93 = .ok (.getfield 3, 3) := dk_180 0 3 (dk_at dksX6_plain_3 21 rfl rfl)
theorem dX6_plain_96 : decode cX6_plain 96 = .ok (.getfield 52, 3) := dk_180 0 52 (dk_at dksX6_plain_4 0 rfl rfl)
theorem dX6_plain_99 : decode cX6_plain 99 = .ok (.aload_n 0, 1) := dk_42 (dk_at dksX6_plain_4 3 rfl rfl)
theorem dX6_plain_100 : decode cX6_plain 100 = .ok (.getfield 42, 3) := dk_180 0 42 (dk_at dksX6_plain_4 4 rfl rfl)
theorem dX6_plain_103 : decode cX6_plain 103 = .ok (.baload, 1) := dk_51 (dk_at dksX6_plain_4 7 rfl rfl)
theorem dX6_plain_104 : decode cX6_plain 104 = .ok (.istore 4, 2) := dk_54 4 (dk_at dksX6_plain_4 8 rfl rfl)
theorem dX6_plain_106 : decode cX6_plain 106 = .ok (.aload_n 0, 1) := dk_42 (dk_at dksX6_plain_4 10 rfl rfl)
theorem dX6_plain_107 : decode cX6_plain 107 = .ok (.invokevirtual 25, 3) := dk_182 0 25 (dk_at dksX6_plain_4 11 rfl rfl)
theorem dX6_plain_110 : decode cX6_plain 110 = .ok (.new 145, 3) := dk_187 0 145 (dk_at dksX6_plain_4 14 rfl rfl)
theorem dX6_plain_113 : decode cX6_plain 113 = .ok (.dup, 1) := dk_89 (dk_at dksX6_plain_4 17 rfl rfl)
theorem dX6_plain_114 : decode cX6_plain 114 = .ok (.aload_n 3, 1) := dk_45 (dk_at dksX6_plain_4 18 rfl rfl)
theorem dX6_plain_115 : decode cX6_plain 115 = .ok (.iload 4, 2) := dk_21 4 (dk_at dksX6_plain_4 19 rfl rfl)
theorem dX6_plain_117 : decode cX6_plain 117 = .ok (.aload_n 0, 1) := dk_42 (dk_at dksX6_plain_4 21 rfl rfl)
theorem dX6_plain_118 : decode cX6_plain 118 = .ok (.invokevirtual 135, 3) := dk_182 0 135 (dk_at dksX6_plain_5 0 rfl rfl)
theorem dX6_plain_121 : decode cX6_plain 121 = .ok (.invokespecial 147, 3) := dk_183 0 147 (dk_at dksX6_plain_5 3 rfl rfl)
theorem dX6_plain_124 : decode cX6_plain 124 = .ok (.astore_n 2, 1) := dk_77 (dk_at dksX6_plain_5 6 rfl rfl)
theorem dX6_plain_125 : decode cX6_plain 125 = .ok (.iload_n 1, 1) := dk_27 (dk_at dksX6_plain_5 7 rfl rfl)
theorem dX6_plain_126 : decode cX6_plain 126 = .ok (.ifCond .eq 14, 3) := dk_153 0 14 (dk_at dksX6_plain_5 8 rfl rfl)
theorem dX6_plain_129 : decode cX6_plain 129 = .ok (.new 150, 3) := dk_187 0 150 (dk_at dksX6_plain_5 11 rfl rfl)
theorem dX6_plain_132 : decode cX6_plain 132 = .ok (.dup, 1) := dk_89 (dk_at dksX6_plain_5 14 rfl rfl)
theorem dX6_plain_133 : decode cX6_plain 133 = .ok (.aload_n 2, 1) := dk_44 (dk_at dksX6_plain_5 15 rfl rfl)
theorem dX6_plain_134 : decode cX6_plain 134 = .ok (.invokespecial 152, 3) := dk_183 0 152 (dk_at dksX6_plain_5 16 rfl rfl)
theorem dX6_plain_137 : decode cX6_plain 137 = .ok (.goto 4, 3) := dk_167 0 4 (dk_at dksX6_plain_5 19 rfl rfl)
theorem dX6_plain_140 : decode cX6_plain 140 = .ok (.aload_n 2, 1) := dk_44 (dk_at dksX6_plain_5 22 rfl rfl)
theorem dX6_plain_141 : decode cX6_plain 141 = .ok (.areturn, 1) := dk_176 (dk_at dksX6_plain_5 23 rfl rfl)
def dkwX6_both_1 : List UInt8 := [182, 0, 97, 182, 0, 87, 167, 255, 239, 42, 4, 27, 182, 0, 93, 176]
abbrev dktX6_both_1 : List UInt8 := dkwX6_both_1 ++ []
def dkwX6_both_0 : List UInt8 := [42, 180, 0, 80, 60, 42, 42, 182, 0, 97, 182, 0, 87, 42, 18, 100, 182, 0, 38, 153, 0, 14, 42, 42]
abbrev dktX6_both_0 : List UInt8 := dkwX6_both_0 ++ dktX6_both_1
theorem dksX6_both_0 : cX6_both.data.toList.drop 0 = dktX6_both_0 := by decide +kernel
theorem dksX6_both_1 : cX6_both.data.toList.drop 24 = dktX6_both_1 := dk_seg dksX6_both_0 24 rfl rfl
theorem dX6_both_0 : decode cX6_both 0 = .ok (.aload_n 0, 1) := dk_42 (dk_at dksX6_both_0 0 rfl rfl)
theorem dX6_both_1 : decode cX6_both 1 = .ok (.getfield 80, 3) := dk_180 0 80 (dk_at dksX6_both_0 1 rfl rfl)
theorem dX6_both_4 : decode cX6_both 4 = .ok (.istore_n 1, 1) := dk_60 (dk_at dksX6_both_0 4 rfl rfl)
theorem dX6_both_5 : decode cX6_both 5 = .ok (.aload_n 0, 1) := dk_42 (dk_at dksX6_both_0 5 rfl rfl)
theorem dX6_both_6 : decode cX6_both 6 = .ok (.aload_n 0, 1) := dk_42 (dk_at dksX6_both_0 6 rfl rfl)
theorem dX6_both_7 : decode cX6_both 7 = .ok (.invokevirtual 97, 3) := dk_182 0 97 (dk_at dksX6_both_0 7 rfl rfl)
theorem dX6_both_10 : decode cX6_both 10 = .ok (.invokevirtual 87, 3) := dk_182 0 87 (dk_at dksX6_both_0 10 rfl rfl)
theorem dX6_both_13 : decode cX6_both 13 = .ok (.aload_n 0, 1) := dk_42 (dk_at dksX6_both_0 13 rfl rfl)
theorem dX6_both_14 : decode cX6_both 14 = .ok (.ldc 100, 2) := dk_18 100 (dk_at dksX6_both_0 14 rfl rfl)
theorem dX6_both_16 : decode cX6_both 16 = .ok (.invokevirtual 38, 3) := dk_182 0 38 (dk_at dksX6_both_0 16 rfl rfl)
theorem dX6_both_19 : decode cX6_both 19 = .ok (.ifCond .eq 14, 3) := dk_153 0 14 (dk_at dksX6_both_0 19 rfl rfl)
theorem dX6_both_22 : decode cX6_both 22 = .ok (.aload_n 0, 1) := dk_42 (dk_at dksX6_both_0 22 rfl rfl)
theorem dX6_both_23 : decode cX6_both 23 = .ok (.aload_n 0, 1) := dk_42 (dk_at dksX6_both_0 23 rfl rfl)
theorem dX6_both_24 : decode cX6_both 24 = .ok (.invokevirtual 97, 3) := dk_182 0 97 (dk_at dksX6_both_1 0 rfl rfl)
theorem dX6_both_27 : decode cX6_both 27 = .ok (.invokevirtual 87, 3) := dk_182 0 87 (dk_at dksX6_both_1 3 rfl rfl)
theorem dX6_both_30 : decode cX6_both 30 = .ok (.goto (-17), 3) := dk_167 255 239 (dk_at dksX6_both_1 6 rfl rfl)
theorem dX6_both_33 : decode cX6_both 33 = .ok (.aload_n 0, 1) := dk_42 (dk_at dksX6_both_1 9 rfl rfl)
theorem dX6_both_34 : decode cX6_both 34 = .ok (.iconst 1, 1) := dk_4 (dk_at dksX6_both_1 10 rfl rfl)
theorem dX6_both_35 : decode cX6_both 35 = .ok (.iload_n 1, 1) := dk_27 (dk_at dksX6_both_1 11 rfl rfl)
theorem dX6_both_36 : decode cX6_both 36 = .ok (.invokevirtual 93, 3) := dk_182 0 93 (dk_at dksX6_both_1 12 rfl rfl)
theorem dX6_both_39 : decode cX6_both 39 = .ok (.areturn, 1) := dk_176 (dk_at dksX6_both_1 15 rfl rfl)
def dkwX6_test_1 : List UInt8 := [182, 0, 83, 182, 0, 87, 167, 255, 239, 42, 3, 27, 182, 0, 93, 176]
abbrev dktX6_test_1 : List UInt8 := dkwX6_test_1 ++ []
def dkwX6_test_0 : List UInt8 := [42, 180, 0, 80, 60, 42, 42, 182, 0, 83, 182, 0, 87, 42, 18, 91, 182, 0, 38, 153, 0, 14, 42, 42]
abbrev dktX6_test_0 : List UInt8 := dkwX6_test_0 ++ dktX6_test_1
theorem dksX6_test_0 : cX6_test.data.toList.drop 0 = dktX6_test_0 := by decide +kernel
theorem dksX6_test_1 : cX6_test.data.toList.drop 24 = dktX6_test_1 := dk_seg dksX6_test_0 24 rfl rfl
theorem dX6_test_0 : decode cX6_test 0 = .ok (.aload_n 0, 1) := dk_42 (dk_at dksX6_test_0 0 rfl rfl)
theorem dX6_test_1 : decode cX6_test 1 = .ok (.getfield 80, 3) := dk_180 0 80 (dk_at dksX6_test_0 1 rfl rfl)
theorem dX6_test_4 : decode cX6_test 4 = .ok (.istore_n 1, 1) := dk_60 (dk_at dksX6_test_0 4 rfl rfl)
theorem dX6_test_5 : decode cX6_test 5 = .ok (.aload_n 0, 1) := dk_42 (dk_at dksX6_test_0 5 rfl rfl)
theorem dX6_test_6 : decode cX6_test 6 = .ok (.aload_n 0, 1) := dk_42 (dk_at dksX6_test_0 6 rfl rfl)
theorem dX6_test_7 : decode cX6_test 7 = .ok (.invokevirtual 83, 3) := dk_182 0 83 (dk_at dksX6_test_0 7 rfl rfl)
theorem dX6_test_10 : decode cX6_test 10 = .ok (.invokevirtual 87, 3) := dk_182 0 87 (dk_at dksX6_test_0 10 rfl rfl)
theorem dX6_test_13 : decode cX6_test 13 = .ok (.aload_n 0, 1) := dk_42 (dk_at dksX6_test_0 13 rfl rfl)
theorem dX6_test_14 : decode cX6_test 14 = .ok (.ldc 91, 2) := dk_18 91 (dk_at dksX6_test_0 14 rfl rfl)
theorem dX6_test_16 : decode cX6_test 16 = .ok (.invokevirtual 38, 3) := dk_182 0 38 (dk_at dksX6_test_0 16 rfl rfl)
theorem dX6_test_19 : decode cX6_test 19 = .ok (.ifCond .eq 14, 3) := dk_153 0 14 (dk_at dksX6_test_0 19 rfl rfl)
theorem dX6_test_22 : decode cX6_test 22 = .ok (.aload_n 0, 1) := dk_42 (dk_at dksX6_test_0 22 rfl rfl)
theorem dX6_test_23 : decode cX6_test 23 = .ok (.aload_n 0, 1) := dk_42 (dk_at dksX6_test_0 23 rfl rfl)
theorem dX6_test_24 : decode cX6_test 24 = .ok (.invokevirtual 83, 3) := dk_182 0 83 (dk_at dksX6_test_1 0 rfl rfl)
theorem dX6_test_27 : decode cX6_test 27 = .ok (.invokevirtual 87, 3) := dk_182 0 87 (dk_at dksX6_test_1 3 rfl rfl)
theorem dX6_test_30 : decode cX6_test 30 = .ok (.goto (-17), 3) := dk_167 255 239 (dk_at dksX6_test_1 6 rfl rfl)
theorem dX6_test_33 : decode cX6_test 33 = .ok (.aload_n 0, 1) := dk_42 (dk_at dksX6_test_1 9 rfl rfl)
theorem dX6_test_34 : decode cX6_test 34 = .ok (.iconst 0, 1) := dk_3 (dk_at dksX6_test_1 10 rfl rfl)
theorem dX6_test_35 : decode cX6_test 35 = .ok (.iload_n 1, 1) := dk_27 (dk_at dksX6_test_1 11 rfl rfl)
theorem dX6_test_36 : decode cX6_test 36 = .ok (.invokevirtual 93, 3) := dk_182 0 93 (dk_at dksX6_test_1 12 rfl rfl)
theorem dX6_test_39 : decode cX6_test 39 = .ok (.areturn, 1) := dk_176 (dk_at dksX6_test_1 15 rfl rfl)
noncomputable def f_X6_plain_20 (E : ax_E) (g0 : Option Nat → ax_H → Option ((Nat × ax_H) ⊕ (Option Nat × ax_H))) (g1 : Option Nat → ax_H → Option ((Nat × ax_H) ⊕ (Option Nat × ax_H))) (g2 : Option Nat → ax_H → Option ((Nat × ax_H) ⊕ (Option Nat × ax_H))) (x0 : Option Nat) (s0 : Int) (h : ax_H) : Option ((Int × ax_H) ⊕ ((Nat × ax_H) ⊕ (Option Nat × ax_H))) :=
  some (.inl (s0, h))
noncomputable def f_X6_plain_125 (E : ax_E) (g0 : Option Nat → ax_H → Option ((Nat × ax_H) ⊕ (Option Nat × ax_H))) (g1 : Option Nat → ax_H → Option ((Nat × ax_H) ⊕ (Option Nat × ax_H))) (g2 : Option Nat → ax_H → Option ((Nat × ax_H) ⊕ (Option Nat × ax_H))) (x1 : Int) (x2 : Option Nat) (h : ax_H) : Option ((Nat × ax_H) ⊕ (Option Nat × ax_H)) :=
  if i2 x1 = 0 then
    some (.inr (x2, h))
  else
    (ax_nw E h 18 0 1).bind fun q1 =>
    (some q1.1).bind fun _ => (f_X18_init E (some q1.1) x2 q1.2).bind fun h2 =>
    some (.inr ((some q1.1), h2))
noncomputable def f_X6_plain_89 (E : ax_E) (g0 : Option Nat → ax_H → Option ((Nat × ax_H) ⊕ (Option Nat × ax_H))) (g1 : Option Nat → ax_H → Option ((Nat × ax_H) ⊕ (Option Nat × ax_H))) (g2 : Option Nat → ax_H → Option ((Nat × ax_H) ⊕ (Option Nat × ax_H))) (x0 : Option Nat) (x1 : Int) (x3 : Option Nat) (s0 : Option Nat) (s1 : Int) (h : ax_H) : Option ((Nat × ax_H) ⊕ (Option Nat × ax_H)) :=
  ax_tc (fun z2 => some (.inl z2)) (ax_dp E h s0 fun t => if t = 25 ∨ t = 7 then f_X6_must E s0 s1 h else none) fun h1 =>
  (ax_gRs E h1 x0 [(25, 7), (7, 7)]).bind fun v3 =>
  (ax_gR E h1 v3 0 11).bind fun v4 =>
  (ax_gIs E h1 x0 [(25, 0), (7, 0)]).bind fun v5 =>
  (ax_ld E h1 v4 101 v5).bind fun v6 =>
  (ax_dp E h1 x0 fun t => if t = 25 ∨ t = 7 then f_X6_next E x0 h1 else none).bind fun h7 =>
  (ax_nw E h7 17 0 3).bind fun q8 =>
  ax_tc (fun z10 => some (.inl z10)) (ax_dp E q8.2 x0 fun t => if t = 25 ∨ t = 7 then fn_X6_sum E 64 x0 q8.2 else none) fun q9 =>
  (some q8.1).bind fun _ => (f_X17_init E (some q8.1) x3 v6 q9.1 q9.2).bind fun h11 =>
  f_X6_plain_125 E g0 g1 g2 x1 (some q8.1) h11
noncomputable def f_X6_plain_84 (E : ax_E) (g0 : Option Nat → ax_H → Option ((Nat × ax_H) ⊕ (Option Nat × ax_H))) (g1 : Option Nat → ax_H → Option ((Nat × ax_H) ⊕ (Option Nat × ax_H))) (g2 : Option Nat → ax_H → Option ((Nat × ax_H) ⊕ (Option Nat × ax_H))) (x0 : Option Nat) (x1 : Int) (x3 : Option Nat) (s0 : Option Nat) (h : ax_H) : Option ((Nat × ax_H) ⊕ (Option Nat × ax_H)) :=
  f_X6_plain_89 E g0 g1 g2 x0 x1 x3 s0 1 h
noncomputable def lb_X6_plain_2 (E : ax_E) (g0 : Option Nat → ax_H → Option ((Nat × ax_H) ⊕ (Option Nat × ax_H))) (g1 : Option Nat → ax_H → Option ((Nat × ax_H) ⊕ (Option Nat × ax_H))) (g2 : Option Nat → ax_H → Option ((Nat × ax_H) ⊕ (Option Nat × ax_H))) (x0 : Option Nat) (x1 : Int) (h : ax_H) : Option ((Int × ax_H) ⊕ ((Nat × ax_H) ⊕ (Option Nat × ax_H))) :=
  (ax_cst E 41).bind fun v1 =>
  (ax_dp E h x0 fun t => if t = 25 ∨ t = 7 then f_X6_accept E x0 v1 h else none).bind fun q2 =>
  if i2 q2.1 = 0 then
    ((ax_cst E 42).bind fun v3 =>
    (ax_dp E q2.2 x0 fun t => if t = 25 ∨ t = 7 then f_X6_isWord E x0 v3 q2.2 else none).bind fun q4 =>
    if i2 q4.1 = 0 then
      ax_tc (fun z6 => some (.inl z6)) (ax_dp E q4.2 x0 fun t => if t = 25 ∨ t = 7 then fn_X6_sum E 64 x0 q4.2 else none) fun q5 =>
      (ax_cst E 44).bind fun v7 =>
      (ax_dp E q5.2 x0 fun t => if t = 25 ∨ t = 7 then f_X6_isWord E x0 v7 q5.2 else none).bind fun q8 =>
      if i2 q8.1 = 0 then
        (ax_cst E 45).bind fun v9 =>
        (ax_dp E q8.2 x0 fun t => if t = 25 ∨ t = 7 then f_X6_isWord E x0 v9 q8.2 else none).bind fun q10 =>
        if i2 q10.1 = 0 then
          (ax_cst E 46).bind fun v11 =>
          (ax_dp E q10.2 x0 fun t => if t = 25 ∨ t = 7 then f_X6_isWord E x0 v11 q10.2 else none).bind fun q12 =>
          if i2 q12.1 = 0 then
            f_X6_plain_89 E g0 g1 g2 x0 x1 q5.1 x0 0 q12.2
          else
            f_X6_plain_84 E g0 g1 g2 x0 x1 q5.1 x0 q12.2
        else
          f_X6_plain_84 E g0 g1 g2 x0 x1 q5.1 x0 q10.2
      else
        f_X6_plain_84 E g0 g1 g2 x0 x1 q5.1 x0 q8.2
    else
      ax_tc (fun z14 => some (.inl z14)) (ax_dp E q4.2 x0 fun t => if t = 25 ∨ t = 7 then f_X6_open E x0 q4.2 else none) fun h13 =>
      ax_tc (fun z16 => some (.inl z16)) (ax_dp E h13 x0 fun t => if t = 25 ∨ t = 7 then g2 x0 h13 else none) fun q15 =>
      (ax_cst E 43).bind fun v17 =>
      ax_tc (fun z19 => some (.inl z19)) (ax_dp E q15.2 x0 fun t => if t = 25 ∨ t = 7 then f_X6_close E x0 v17 q15.2 else none) fun h18 =>
      f_X6_plain_125 E g0 g1 g2 x1 q15.1 h18).map Sum.inr
  else
    if i2 x1 = 0 then
      f_X6_plain_20 E g0 g1 g2 x0 1 q2.2
    else
      f_X6_plain_20 E g0 g1 g2 x0 0 q2.2
noncomputable def f_X6_plain_2 (E : ax_E) (g0 : Option Nat → ax_H → Option ((Nat × ax_H) ⊕ (Option Nat × ax_H))) (g1 : Option Nat → ax_H → Option ((Nat × ax_H) ⊕ (Option Nat × ax_H))) (g2 : Option Nat → ax_H → Option ((Nat × ax_H) ⊕ (Option Nat × ax_H))) (x0 : Option Nat) (x1 : Int) (h : ax_H) : Option ((Nat × ax_H) ⊕ (Option Nat × ax_H)) :=
  ax_iter (fun s : Int × ax_H => lb_X6_plain_2 E g0 g1 g2 x0 s.1 s.2) (x1, h)
noncomputable def f_X6_plain (E : ax_E) (g0 : Option Nat → ax_H → Option ((Nat × ax_H) ⊕ (Option Nat × ax_H))) (g1 : Option Nat → ax_H → Option ((Nat × ax_H) ⊕ (Option Nat × ax_H))) (g2 : Option Nat → ax_H → Option ((Nat × ax_H) ⊕ (Option Nat × ax_H))) (x0 : Option Nat) (h : ax_H) : Option ((Nat × ax_H) ⊕ (Option Nat × ax_H)) :=
  f_X6_plain_2 E g0 g1 g2 x0 0 h
noncomputable def lb_X6_both_13 (E : ax_E) (g0 : Option Nat → ax_H → Option ((Nat × ax_H) ⊕ (Option Nat × ax_H))) (g1 : Option Nat → ax_H → Option ((Nat × ax_H) ⊕ (Option Nat × ax_H))) (g2 : Option Nat → ax_H → Option ((Nat × ax_H) ⊕ (Option Nat × ax_H))) (x0 : Option Nat) (x1 : Int) (h : ax_H) : Option ((ax_H) ⊕ ((Nat × ax_H) ⊕ (Option Nat × ax_H))) :=
  (ax_cst E 40).bind fun v1 =>
  (ax_dp E h x0 fun t => if t = 25 ∨ t = 7 then f_X6_accept E x0 v1 h else none).bind fun q2 =>
  if i2 q2.1 = 0 then
    ((ax_dp E q2.2 x0 fun t => if t = 25 ∨ t = 7 then f_X6_row E x0 1 x1 q2.2 else none).bind fun q3 =>
    some (.inr (q3.1, q3.2))).map Sum.inr
  else
    ax_tc (fun z5 => some (.inr (.inl z5))) (ax_dp E q2.2 x0 fun t => if t = 25 ∨ t = 7 then g0 x0 q2.2 else none) fun q4 =>
    (ax_dp E q4.2 x0 fun t => if t = 25 ∨ t = 7 then f_X6_add E x0 q4.1 q4.2 else none).bind fun h6 =>
    some (.inl h6)
noncomputable def f_X6_both_13 (E : ax_E) (g0 : Option Nat → ax_H → Option ((Nat × ax_H) ⊕ (Option Nat × ax_H))) (g1 : Option Nat → ax_H → Option ((Nat × ax_H) ⊕ (Option Nat × ax_H))) (g2 : Option Nat → ax_H → Option ((Nat × ax_H) ⊕ (Option Nat × ax_H))) (x0 : Option Nat) (x1 : Int) (h : ax_H) : Option ((Nat × ax_H) ⊕ (Option Nat × ax_H)) :=
  ax_iter (fun s : ax_H => lb_X6_both_13 E g0 g1 g2 x0 x1 s) h
noncomputable def f_X6_both (E : ax_E) (g0 : Option Nat → ax_H → Option ((Nat × ax_H) ⊕ (Option Nat × ax_H))) (g1 : Option Nat → ax_H → Option ((Nat × ax_H) ⊕ (Option Nat × ax_H))) (g2 : Option Nat → ax_H → Option ((Nat × ax_H) ⊕ (Option Nat × ax_H))) (x0 : Option Nat) (h : ax_H) : Option ((Nat × ax_H) ⊕ (Option Nat × ax_H)) :=
  (ax_gIs E h x0 [(25, 4), (7, 4)]).bind fun v1 =>
  ax_tc (fun z3 => some (.inl z3)) (ax_dp E h x0 fun t => if t = 25 ∨ t = 7 then g0 x0 h else none) fun q2 =>
  (ax_dp E q2.2 x0 fun t => if t = 25 ∨ t = 7 then f_X6_add E x0 q2.1 q2.2 else none).bind fun h4 =>
  f_X6_both_13 E g0 g1 g2 x0 v1 h4
noncomputable def lb_X6_test_13 (E : ax_E) (g0 : Option Nat → ax_H → Option ((Nat × ax_H) ⊕ (Option Nat × ax_H))) (g1 : Option Nat → ax_H → Option ((Nat × ax_H) ⊕ (Option Nat × ax_H))) (g2 : Option Nat → ax_H → Option ((Nat × ax_H) ⊕ (Option Nat × ax_H))) (x0 : Option Nat) (x1 : Int) (h : ax_H) : Option ((ax_H) ⊕ ((Nat × ax_H) ⊕ (Option Nat × ax_H))) :=
  (ax_cst E 39).bind fun v1 =>
  (ax_dp E h x0 fun t => if t = 25 ∨ t = 7 then f_X6_accept E x0 v1 h else none).bind fun q2 =>
  if i2 q2.1 = 0 then
    ((ax_dp E q2.2 x0 fun t => if t = 25 ∨ t = 7 then f_X6_row E x0 0 x1 q2.2 else none).bind fun q3 =>
    some (.inr (q3.1, q3.2))).map Sum.inr
  else
    ax_tc (fun z5 => some (.inr (.inl z5))) (ax_dp E q2.2 x0 fun t => if t = 25 ∨ t = 7 then g1 x0 q2.2 else none) fun q4 =>
    (ax_dp E q4.2 x0 fun t => if t = 25 ∨ t = 7 then f_X6_add E x0 q4.1 q4.2 else none).bind fun h6 =>
    some (.inl h6)
noncomputable def f_X6_test_13 (E : ax_E) (g0 : Option Nat → ax_H → Option ((Nat × ax_H) ⊕ (Option Nat × ax_H))) (g1 : Option Nat → ax_H → Option ((Nat × ax_H) ⊕ (Option Nat × ax_H))) (g2 : Option Nat → ax_H → Option ((Nat × ax_H) ⊕ (Option Nat × ax_H))) (x0 : Option Nat) (x1 : Int) (h : ax_H) : Option ((Nat × ax_H) ⊕ (Option Nat × ax_H)) :=
  ax_iter (fun s : ax_H => lb_X6_test_13 E g0 g1 g2 x0 x1 s) h
noncomputable def f_X6_test (E : ax_E) (g0 : Option Nat → ax_H → Option ((Nat × ax_H) ⊕ (Option Nat × ax_H))) (g1 : Option Nat → ax_H → Option ((Nat × ax_H) ⊕ (Option Nat × ax_H))) (g2 : Option Nat → ax_H → Option ((Nat × ax_H) ⊕ (Option Nat × ax_H))) (x0 : Option Nat) (h : ax_H) : Option ((Nat × ax_H) ⊕ (Option Nat × ax_H)) :=
  (ax_gIs E h x0 [(25, 4), (7, 4)]).bind fun v1 =>
  ax_tc (fun z3 => some (.inl z3)) (ax_dp E h x0 fun t => if t = 25 ∨ t = 7 then g1 x0 h else none) fun q2 =>
  (ax_dp E q2.2 x0 fun t => if t = 25 ∨ t = 7 then f_X6_add E x0 q2.1 q2.2 else none).bind fun h4 =>
  f_X6_test_13 E g0 g1 g2 x0 v1 h4
noncomputable def rg_X6_plain (E : ax_E) : Nat → (Option Nat → ax_H → Option ((Nat × ax_H) ⊕ (Option Nat × ax_H))) × (Option Nat → ax_H → Option ((Nat × ax_H) ⊕ (Option Nat × ax_H))) × (Option Nat → ax_H → Option ((Nat × ax_H) ⊕ (Option Nat × ax_H)))
  | 0 => ((fun x0 h => none), (fun x0 h => none), (fun x0 h => none))
  | n + 1 => ((fun x0 h => f_X6_plain E (rg_X6_plain E n).1 (rg_X6_plain E n).2.1 (rg_X6_plain E n).2.2 x0 h), (fun x0 h => f_X6_both E (rg_X6_plain E n).1 (rg_X6_plain E n).2.1 (rg_X6_plain E n).2.2 x0 h), (fun x0 h => f_X6_test E (rg_X6_plain E n).1 (rg_X6_plain E n).2.1 (rg_X6_plain E n).2.2 x0 h))
noncomputable def fn_X6_plain (E : ax_E) (n : Nat) (x0 : Option Nat) (h : ax_H) : Option ((Nat × ax_H) ⊕ (Option Nat × ax_H)) := (rg_X6_plain E n).1 x0 h
noncomputable def fn_X6_both (E : ax_E) (n : Nat) (x0 : Option Nat) (h : ax_H) : Option ((Nat × ax_H) ⊕ (Option Nat × ax_H)) := (rg_X6_plain E n).2.1 x0 h
noncomputable def fn_X6_test (E : ax_E) (n : Nat) (x0 : Option Nat) (h : ax_H) : Option ((Nat × ax_H) ⊕ (Option Nat × ax_H)) := (rg_X6_plain E n).2.2 x0 h
def pi_X6_plain_2 (G : ax_G) (X : ax_X) (Q : State → Prop) (x0 : Option Nat) : Int × ax_H → Prop := fun s => ∀ ls : Array Slot, ax_hl ls 5 [(0, .inr (.inr x0)), (1, .inl s.1)] → ax_W G X Q s.2 2 ls []
set_option maxHeartbeats 4000000 in
theorem w_X6_plain_20 {l : Launch} {G : ax_G} {X : ax_X} {Q : State → Prop} {h0 h : ax_H} {ls : Array Slot} {g0 : Option Nat → ax_H → Option ((Nat × ax_H) ⊕ (Option Nat × ax_H))} {g1 : Option Nat → ax_H → Option ((Nat × ax_H) ⊕ (Option Nat × ax_H))} {g2 : Option Nat → ax_H → Option ((Nat × ax_H) ⊕ (Option Nat × ax_H))} {fr lo fr1 lo1 : Nat} (hF : fr1 + 1 ≤ fr ∧ 73 ≤ fr ∧ lo1 + 24 ≤ lo ∧ 1620 ≤ lo) (hg0 : ∀ (x0 : Option Nat) (h : ax_H) (w : (Nat × ax_H) ⊕ (Option Nat × ax_H)), g0 x0 h = some w → ax_MetX l G "DebtDoors$Wrong" yX6_plain cX6_plain 5 ((some (FieldType.object "DebtDoors$Test"))) fr1 lo1 [va_rf x0] h (ax_zR w)) (hg1 : ∀ (x0 : Option Nat) (h : ax_H) (w : (Nat × ax_H) ⊕ (Option Nat × ax_H)), g1 x0 h = some w → ax_MetX l G "DebtDoors$Wrong" yX6_both cX6_both 2 ((some (FieldType.object "DebtDoors$Test"))) fr1 lo1 [va_rf x0] h (ax_zR w)) (hg2 : ∀ (x0 : Option Nat) (h : ax_H) (w : (Nat × ax_H) ⊕ (Option Nat × ax_H)), g2 x0 h = some w → ax_MetX l G "DebtDoors$Wrong" yX6_test cX6_test 2 ((some (FieldType.object "DebtDoors$Test"))) fr1 lo1 [va_rf x0] h (ax_zR w)) (hSF : ax_SF G) (B : ax_BL l G X cX6_plain 5 RX6 fr lo) (Z : ax_Z X h0 ((some (FieldType.object "DebtDoors$Test")))) (hn : X.2.2.2.2.2.2.2.2.1.name = yX6_plain.name) (hT : ∀ x ∈ ax_tb X, False) (x0 : Option Nat) (s0 : Int) {w : (Int × ax_H) ⊕ ((Nat × ax_H) ⊕ (Option Nat × ax_H))} (hl : ax_hl ls 5 [(0, .inr (.inr x0))]) (e : f_X6_plain_20 G.2.2 g0 g1 g2 x0 s0 h = some w) (hp : (ax_PL (pi_X6_plain_2 G X Q x0) (fun w : (Nat × ax_H) ⊕ (Option Nat × ax_H) => Q = ax_QX G X "DebtDoors$Wrong" h0 (ax_zR w))) w) : ax_W G X Q h 20 ls [.int (Int32.ofInt s0)] := by
  unfold f_X6_plain_20 at e
  refine ax_istore_n (L' := [(1, .inl s0), (0, .inr (.inr x0))]) B dX6_plain_20 rfl hl (by decide) rfl (fun ls hl => ?_)
  refine ax_goto (tgt := 2) B dX6_plain_21 (by decide) ?_
  cases e
  exact hp _ (hl.sub [1, 0] rfl)
set_option maxHeartbeats 4000000 in
theorem w_X6_plain_125 {l : Launch} {G : ax_G} {X : ax_X} {Q : State → Prop} {h0 h : ax_H} {ls : Array Slot} {g0 : Option Nat → ax_H → Option ((Nat × ax_H) ⊕ (Option Nat × ax_H))} {g1 : Option Nat → ax_H → Option ((Nat × ax_H) ⊕ (Option Nat × ax_H))} {g2 : Option Nat → ax_H → Option ((Nat × ax_H) ⊕ (Option Nat × ax_H))} {fr lo fr1 lo1 : Nat} (hF : fr1 + 1 ≤ fr ∧ 73 ≤ fr ∧ lo1 + 24 ≤ lo ∧ 1620 ≤ lo) (hg0 : ∀ (x0 : Option Nat) (h : ax_H) (w : (Nat × ax_H) ⊕ (Option Nat × ax_H)), g0 x0 h = some w → ax_MetX l G "DebtDoors$Wrong" yX6_plain cX6_plain 5 ((some (FieldType.object "DebtDoors$Test"))) fr1 lo1 [va_rf x0] h (ax_zR w)) (hg1 : ∀ (x0 : Option Nat) (h : ax_H) (w : (Nat × ax_H) ⊕ (Option Nat × ax_H)), g1 x0 h = some w → ax_MetX l G "DebtDoors$Wrong" yX6_both cX6_both 2 ((some (FieldType.object "DebtDoors$Test"))) fr1 lo1 [va_rf x0] h (ax_zR w)) (hg2 : ∀ (x0 : Option Nat) (h : ax_H) (w : (Nat × ax_H) ⊕ (Option Nat × ax_H)), g2 x0 h = some w → ax_MetX l G "DebtDoors$Wrong" yX6_test cX6_test 2 ((some (FieldType.object "DebtDoors$Test"))) fr1 lo1 [va_rf x0] h (ax_zR w)) (hSF : ax_SF G) (B : ax_BL l G X cX6_plain 5 RX6 fr lo) (Z : ax_Z X h0 ((some (FieldType.object "DebtDoors$Test")))) (hn : X.2.2.2.2.2.2.2.2.1.name = yX6_plain.name) (hT : ∀ x ∈ ax_tb X, False) (x1 : Int) (x2 : Option Nat) {w : (Nat × ax_H) ⊕ (Option Nat × ax_H)} (hl : ax_hl ls 5 [(1, .inl x1), (2, .inr (.inr x2))]) (e : f_X6_plain_125 G.2.2 g0 g1 g2 x1 x2 h = some w) (hp : (fun w : (Nat × ax_H) ⊕ (Option Nat × ax_H) => Q = ax_QX G X "DebtDoors$Wrong" h0 (ax_zR w)) w) : ax_W G X Q h 125 ls [] := by
  unfold f_X6_plain_125 at e
  refine ax_iload_n B dX6_plain_125 rfl hl 0 rfl ?_
  refine ax_if_eq (tgt := 140) B dX6_plain_126 (by decide) e (fun e => ?_) (fun e => ?_)
  · refine ax_aload_n B dX6_plain_140 rfl hl 1 rfl ?_
    cases e
    have hp : Q = _ := hp
    subst hp
    exact ax_retX (ax_areturn B Z (Or.inl ⟨_, rfl⟩) dX6_plain_141 rfl)
  · refine ax_new B kd18 in_X18 tyX18_ok (fun k hk => ax_dv _ (dfX18 k hk)) q1078 q1079 q158 dX6_plain_129 e (fun q1 e => ?_)
    refine ax_dup B dX6_plain_132 (va_rf_cat _) ?_
    refine ax_aload_n B dX6_plain_133 rfl hl 1 rfl ?_
    refine ax_iiR (y := yX18_init) (n := 1) (As := [va_rf x2]) B q1080 q1081 q158 q1082 rfl (by decide +kernel) (by omega) (fun w1 e1 => mt_X18_init l G hSF (some q1.1) x2 _ w1 e1) rfl hl.size (by simp only [List.map_cons, List.map_nil, List.sum_cons, List.sum_nil, va_rf_cat, ax_catI, ax_catL]; decide) dX6_plain_134 e (fun h2 e => ?_)
    refine ax_goto (tgt := 141) B dX6_plain_137 (by decide) ?_
    cases e
    have hp : Q = _ := hp
    subst hp
    exact ax_retX (ax_areturn B Z (Or.inl ⟨_, rfl⟩) dX6_plain_141 rfl)
set_option maxHeartbeats 4000000 in
theorem w_X6_plain_89 {l : Launch} {G : ax_G} {X : ax_X} {Q : State → Prop} {h0 h : ax_H} {ls : Array Slot} {g0 : Option Nat → ax_H → Option ((Nat × ax_H) ⊕ (Option Nat × ax_H))} {g1 : Option Nat → ax_H → Option ((Nat × ax_H) ⊕ (Option Nat × ax_H))} {g2 : Option Nat → ax_H → Option ((Nat × ax_H) ⊕ (Option Nat × ax_H))} {fr lo fr1 lo1 : Nat} (hF : fr1 + 1 ≤ fr ∧ 73 ≤ fr ∧ lo1 + 24 ≤ lo ∧ 1620 ≤ lo) (hg0 : ∀ (x0 : Option Nat) (h : ax_H) (w : (Nat × ax_H) ⊕ (Option Nat × ax_H)), g0 x0 h = some w → ax_MetX l G "DebtDoors$Wrong" yX6_plain cX6_plain 5 ((some (FieldType.object "DebtDoors$Test"))) fr1 lo1 [va_rf x0] h (ax_zR w)) (hg1 : ∀ (x0 : Option Nat) (h : ax_H) (w : (Nat × ax_H) ⊕ (Option Nat × ax_H)), g1 x0 h = some w → ax_MetX l G "DebtDoors$Wrong" yX6_both cX6_both 2 ((some (FieldType.object "DebtDoors$Test"))) fr1 lo1 [va_rf x0] h (ax_zR w)) (hg2 : ∀ (x0 : Option Nat) (h : ax_H) (w : (Nat × ax_H) ⊕ (Option Nat × ax_H)), g2 x0 h = some w → ax_MetX l G "DebtDoors$Wrong" yX6_test cX6_test 2 ((some (FieldType.object "DebtDoors$Test"))) fr1 lo1 [va_rf x0] h (ax_zR w)) (hSF : ax_SF G) (B : ax_BL l G X cX6_plain 5 RX6 fr lo) (Z : ax_Z X h0 ((some (FieldType.object "DebtDoors$Test")))) (hn : X.2.2.2.2.2.2.2.2.1.name = yX6_plain.name) (hT : ∀ x ∈ ax_tb X, False) (x0 : Option Nat) (x1 : Int) (x3 : Option Nat) (s0 : Option Nat) (s1 : Int) {w : (Nat × ax_H) ⊕ (Option Nat × ax_H)} (hl : ax_hl ls 5 [(0, .inr (.inr x0)), (1, .inl x1), (3, .inr (.inr x3))]) (e : f_X6_plain_89 G.2.2 g0 g1 g2 x0 x1 x3 s0 s1 h = some w) (hp : (fun w : (Nat × ax_H) ⊕ (Option Nat × ax_H) => Q = ax_QX G X "DebtDoors$Wrong" h0 (ax_zR w)) w) : ax_W G X Q h 89 ls [.int (Int32.ofInt s1), va_rf s0] := by
  unfold f_X6_plain_89 at e
  refine ax_xwV (Ex := "DebtDoors$Wrong") (x := ⟨"DebtDoors$Reader", "must", "(Z)V"⟩) (n := 1) (As := [.int (Int32.ofInt s1)]) B (fun w1 e1 => ?_) rfl hl.size (by decide) dX6_plain_89 e (fun z2 e => ?_) (fun h1 e => ?_)
  · obtain ⟨t, c, e2, e1⟩ := ax_dp_spec e1
    rcases ax_ite e1 with ⟨hk, e1⟩ | ⟨-, e1⟩
    · rcases hk with rfl | rfl
      · exact ax_calX B kd25 e2 q801 (B.2.1.2.2.2.2 _ q803) (ax_dcD B q897) (B.2.1.2.2.2.2 _ q805) q802 q144 q806 (by decide +kernel) (by omega) (mt_X6_must l G hSF s0 s1 _ w1 e1)
      · exact ax_calX B kd7 e2 q801 (B.2.1.2.2.2.2 _ q803) (ax_dcD B q897) (B.2.1.2.2.2.2 _ q804) q802 q144 q806 (by decide +kernel) (by omega) (mt_X6_must l G hSF s0 s1 _ w1 e1)
    cases e1
  · cases e
    have hp : Q = ax_QX G X "DebtDoors$Wrong" h0 (.inl z2) := hp
    subst hp
    exact ax_outX B Z (fun z hz => (hT z hz).elim)
  refine ax_aload_n B dX6_plain_92 rfl hl 0 rfl ?_
  refine ax_getRs B fs_X6_3 (fun _ _ => rfl) dX6_plain_93 e (fun v3 e => ?_)
  refine ax_getR B ff_X6_52_0 (fun _ _ => rfl) dX6_plain_96 e (fun v4 e => ?_)
  refine ax_aload_n B dX6_plain_99 rfl hl 0 rfl ?_
  refine ax_getIs B fs_X6_42 (fun _ _ => rfl) dX6_plain_100 e (fun v5 e => ?_)
  refine ax_bald B kd101 dX6_plain_103 e (fun v6 e => ?_)
  refine ax_istore (L' := [(4, .inl v6), (0, .inr (.inr x0)), (1, .inl x1), (3, .inr (.inr x3))]) B dX6_plain_104 hl (by decide) rfl (fun ls hl => ?_)
  refine ax_aload_n B dX6_plain_106 rfl hl 1 rfl ?_
  refine ax_iwV (x := ⟨"DebtDoors$Reader", "next", "()V"⟩) (n := 0) (As := []) B (fun w1 e1 => ?_) rfl hl.size (by decide) dX6_plain_107 e (fun h7 e => ?_)
  · obtain ⟨t, c, e2, e1⟩ := ax_dp_spec e1
    rcases ax_ite e1 with ⟨hk, e1⟩ | ⟨-, e1⟩
    · rcases hk with rfl | rfl
      · exact ax_cal B kd25 e2 q789 q791 (ax_dcD B q901) (B.2.1.2.2.2.2 _ q793) q790 q144 q794 (by decide +kernel) (by omega) (mt_X6_next l G hSF x0 _ w1 e1)
      · exact ax_cal B kd7 e2 q789 q791 (ax_dcD B q901) (B.2.1.2.2.2.2 _ q792) q790 q144 q794 (by decide +kernel) (by omega) (mt_X6_next l G hSF x0 _ w1 e1)
    cases e1
  refine ax_new B kd17 in_X17 tyX17_ok (fun k hk => ax_dv _ (dfX17 k hk)) q1059 q1060 q157 dX6_plain_110 e (fun q8 e => ?_)
  refine ax_dup B dX6_plain_113 (va_rf_cat _) ?_
  refine ax_aload_n B dX6_plain_114 rfl hl 3 rfl ?_
  refine ax_iload B dX6_plain_115 hl 0 rfl ?_
  refine ax_aload_n B dX6_plain_117 rfl hl 1 rfl ?_
  refine ax_xwR (Ex := "DebtDoors$Wrong") (x := ⟨"DebtDoors$Reader", "sum", "()LDebtDoors$Sum;"⟩) (n := 0) (As := []) B (fun w1 e1 => ?_) rfl hl.size (by simp only [List.map_cons, List.map_nil, List.sum_cons, List.sum_nil, va_rf_cat, ax_catI, ax_catL]; decide) dX6_plain_118 e (fun z10 e => ?_) (fun q9 e => ?_)
  · obtain ⟨t, c, e2, e1⟩ := ax_dp_spec e1
    rcases ax_ite e1 with ⟨hk, e1⟩ | ⟨-, e1⟩
    · rcases hk with rfl | rfl
      · exact ax_calX B kd25 e2 q922 (B.2.1.2.2.2.2 _ q2721) (ax_dcD B q905) (B.2.1.2.2.2.2 _ q2723) q907 q144 q908 (by decide +kernel) (by omega) (mf_X6_sum l G hSF 64 x0 _ w1 e1)
      · exact ax_calX B kd7 e2 q922 (B.2.1.2.2.2.2 _ q2721) (ax_dcD B q905) (B.2.1.2.2.2.2 _ q2722) q907 q144 q908 (by decide +kernel) (by omega) (mf_X6_sum l G hSF 64 x0 _ w1 e1)
    cases e1
  · cases e
    have hp : Q = ax_QX G X "DebtDoors$Wrong" h0 (.inl z10) := hp
    subst hp
    exact ax_outX B Z (fun z hz => (hT z hz).elim)
  refine ax_iiR (y := yX17_init) (n := 3) (As := [va_rf x3, .int (Int32.ofInt v6), va_rf q9.1]) B q1061 q1062 q157 q1063 rfl (by decide +kernel) (by omega) (fun w1 e1 => mt_X17_init l G hSF (some q8.1) x3 v6 q9.1 _ w1 e1) rfl hl.size (by simp only [List.map_cons, List.map_nil, List.sum_cons, List.sum_nil, va_rf_cat, ax_catI, ax_catL]; decide) dX6_plain_121 e (fun h11 e => ?_)
  refine ax_astore_n (L' := [(2, .inr (.inr (some q8.1))), (4, .inl v6), (0, .inr (.inr x0)), (1, .inl x1), (3, .inr (.inr x3))]) B dX6_plain_124 rfl hl (by decide) rfl (fun ls hl => ?_)
  exact w_X6_plain_125 hF hg0 hg1 hg2 hSF B Z hn hT x1 (some q8.1) (hl.sub [3, 0] rfl) e hp
set_option maxHeartbeats 4000000 in
theorem w_X6_plain_84 {l : Launch} {G : ax_G} {X : ax_X} {Q : State → Prop} {h0 h : ax_H} {ls : Array Slot} {g0 : Option Nat → ax_H → Option ((Nat × ax_H) ⊕ (Option Nat × ax_H))} {g1 : Option Nat → ax_H → Option ((Nat × ax_H) ⊕ (Option Nat × ax_H))} {g2 : Option Nat → ax_H → Option ((Nat × ax_H) ⊕ (Option Nat × ax_H))} {fr lo fr1 lo1 : Nat} (hF : fr1 + 1 ≤ fr ∧ 73 ≤ fr ∧ lo1 + 24 ≤ lo ∧ 1620 ≤ lo) (hg0 : ∀ (x0 : Option Nat) (h : ax_H) (w : (Nat × ax_H) ⊕ (Option Nat × ax_H)), g0 x0 h = some w → ax_MetX l G "DebtDoors$Wrong" yX6_plain cX6_plain 5 ((some (FieldType.object "DebtDoors$Test"))) fr1 lo1 [va_rf x0] h (ax_zR w)) (hg1 : ∀ (x0 : Option Nat) (h : ax_H) (w : (Nat × ax_H) ⊕ (Option Nat × ax_H)), g1 x0 h = some w → ax_MetX l G "DebtDoors$Wrong" yX6_both cX6_both 2 ((some (FieldType.object "DebtDoors$Test"))) fr1 lo1 [va_rf x0] h (ax_zR w)) (hg2 : ∀ (x0 : Option Nat) (h : ax_H) (w : (Nat × ax_H) ⊕ (Option Nat × ax_H)), g2 x0 h = some w → ax_MetX l G "DebtDoors$Wrong" yX6_test cX6_test 2 ((some (FieldType.object "DebtDoors$Test"))) fr1 lo1 [va_rf x0] h (ax_zR w)) (hSF : ax_SF G) (B : ax_BL l G X cX6_plain 5 RX6 fr lo) (Z : ax_Z X h0 ((some (FieldType.object "DebtDoors$Test")))) (hn : X.2.2.2.2.2.2.2.2.1.name = yX6_plain.name) (hT : ∀ x ∈ ax_tb X, False) (x0 : Option Nat) (x1 : Int) (x3 : Option Nat) (s0 : Option Nat) {w : (Nat × ax_H) ⊕ (Option Nat × ax_H)} (hl : ax_hl ls 5 [(0, .inr (.inr x0)), (1, .inl x1), (3, .inr (.inr x3))]) (e : f_X6_plain_84 G.2.2 g0 g1 g2 x0 x1 x3 s0 h = some w) (hp : (fun w : (Nat × ax_H) ⊕ (Option Nat × ax_H) => Q = ax_QX G X "DebtDoors$Wrong" h0 (ax_zR w)) w) : ax_W G X Q h 84 ls [va_rf s0] := by
  unfold f_X6_plain_84 at e
  refine ax_iconst B dX6_plain_84 ?_
  refine ax_goto (tgt := 89) B dX6_plain_85 (by decide) ?_
  exact w_X6_plain_89 hF hg0 hg1 hg2 hSF B Z hn hT x0 x1 x3 s0 1 (hl.sub [0, 1, 2] rfl) e hp
set_option maxHeartbeats 4000000 in
theorem wb_X6_plain_2 {l : Launch} {G : ax_G} {X : ax_X} {Q : State → Prop} {h0 h : ax_H} {ls : Array Slot} {g0 : Option Nat → ax_H → Option ((Nat × ax_H) ⊕ (Option Nat × ax_H))} {g1 : Option Nat → ax_H → Option ((Nat × ax_H) ⊕ (Option Nat × ax_H))} {g2 : Option Nat → ax_H → Option ((Nat × ax_H) ⊕ (Option Nat × ax_H))} {fr lo fr1 lo1 : Nat} (hF : fr1 + 1 ≤ fr ∧ 73 ≤ fr ∧ lo1 + 24 ≤ lo ∧ 1620 ≤ lo) (hg0 : ∀ (x0 : Option Nat) (h : ax_H) (w : (Nat × ax_H) ⊕ (Option Nat × ax_H)), g0 x0 h = some w → ax_MetX l G "DebtDoors$Wrong" yX6_plain cX6_plain 5 ((some (FieldType.object "DebtDoors$Test"))) fr1 lo1 [va_rf x0] h (ax_zR w)) (hg1 : ∀ (x0 : Option Nat) (h : ax_H) (w : (Nat × ax_H) ⊕ (Option Nat × ax_H)), g1 x0 h = some w → ax_MetX l G "DebtDoors$Wrong" yX6_both cX6_both 2 ((some (FieldType.object "DebtDoors$Test"))) fr1 lo1 [va_rf x0] h (ax_zR w)) (hg2 : ∀ (x0 : Option Nat) (h : ax_H) (w : (Nat × ax_H) ⊕ (Option Nat × ax_H)), g2 x0 h = some w → ax_MetX l G "DebtDoors$Wrong" yX6_test cX6_test 2 ((some (FieldType.object "DebtDoors$Test"))) fr1 lo1 [va_rf x0] h (ax_zR w)) (hSF : ax_SF G) (B : ax_BL l G X cX6_plain 5 RX6 fr lo) (Z : ax_Z X h0 ((some (FieldType.object "DebtDoors$Test")))) (hn : X.2.2.2.2.2.2.2.2.1.name = yX6_plain.name) (hT : ∀ x ∈ ax_tb X, False) (x0 : Option Nat) (x1 : Int) {w : (Int × ax_H) ⊕ ((Nat × ax_H) ⊕ (Option Nat × ax_H))} (hl : ax_hl ls 5 [(0, .inr (.inr x0)), (1, .inl x1)]) (e : lb_X6_plain_2 G.2.2 g0 g1 g2 x0 x1 h = some w) (hp : (ax_PL (pi_X6_plain_2 G X Q x0) (fun w : (Nat × ax_H) ⊕ (Option Nat × ax_H) => Q = ax_QX G X "DebtDoors$Wrong" h0 (ax_zR w))) w) : ax_W G X Q h 2 ls [] := by
  unfold lb_X6_plain_2 at e
  refine ax_aload_n B dX6_plain_2 rfl hl 0 rfl ?_
  refine ax_ldcS (j := 31) B (List.mem_of_getElem? (i := 31) rfl) dX6_plain_3 e (fun v1 e => ?_)
  refine ax_iwI (x := ⟨"DebtDoors$Reader", "accept", "(Ljava/lang/String;)Z"⟩) (n := 1) (As := [va_rf v1]) B (fun w1 e1 => ?_) rfl hl.size (by decide) dX6_plain_5 e (fun q2 e => ?_)
  · obtain ⟨t, c, e2, e1⟩ := ax_dp_spec e1
    rcases ax_ite e1 with ⟨hk, e1⟩ | ⟨-, e1⟩
    · rcases hk with rfl | rfl
      · exact ax_cal B kd25 e2 q928 q930 (ax_dcD B q1036) (B.2.1.2.2.2.2 _ q932) q929 q144 q933 (by decide +kernel) (by omega) (mt_X6_accept l G hSF x0 v1 _ w1 e1)
      · exact ax_cal B kd7 e2 q928 q930 (ax_dcD B q1036) (B.2.1.2.2.2.2 _ q931) q929 q144 q933 (by decide +kernel) (by omega) (mt_X6_accept l G hSF x0 v1 _ w1 e1)
    cases e1
  refine ax_if_eq (tgt := 24) B dX6_plain_8 (by decide) e (fun e => ?_) (fun e => ?_)
  · obtain ⟨w, e9_1, rfl⟩ := Option.map_eq_some_iff.mp e
    have e := e9_1
    refine ax_aload_n B dX6_plain_24 rfl hl 0 rfl ?_
    refine ax_ldcS (j := 32) B (List.mem_of_getElem? (i := 32) rfl) dX6_plain_25 e (fun v3 e => ?_)
    refine ax_iwI (x := ⟨"DebtDoors$Reader", "isWord", "(Ljava/lang/String;)Z"⟩) (n := 1) (As := [va_rf v3]) B (fun w1 e1 => ?_) rfl hl.size (by decide) dX6_plain_27 e (fun q4 e => ?_)
    · obtain ⟨t, c, e2, e1⟩ := ax_dp_spec e1
      rcases ax_ite e1 with ⟨hk, e1⟩ | ⟨-, e1⟩
      · rcases hk with rfl | rfl
        · exact ax_cal B kd25 e2 q843 q845 (ax_dcC B q844 q848) (B.2.1.2.2.2.2 _ q847) q844 q144 q848 (by decide +kernel) (by omega) (mt_X6_isWord l G hSF x0 v3 _ w1 e1)
        · exact ax_cal B kd7 e2 q843 q845 (ax_dcC B q844 q848) (B.2.1.2.2.2.2 _ q846) q844 q144 q848 (by decide +kernel) (by omega) (mt_X6_isWord l G hSF x0 v3 _ w1 e1)
      cases e1
    refine ax_if_eq (tgt := 51) B dX6_plain_30 (by decide) e (fun e => ?_) (fun e => ?_)
    · refine ax_aload_n B dX6_plain_51 rfl hl 0 rfl ?_
      refine ax_xwR (Ex := "DebtDoors$Wrong") (x := ⟨"DebtDoors$Reader", "sum", "()LDebtDoors$Sum;"⟩) (n := 0) (As := []) B (fun w1 e1 => ?_) rfl hl.size (by decide) dX6_plain_52 e (fun z6 e => ?_) (fun q5 e => ?_)
      · obtain ⟨t, c, e2, e1⟩ := ax_dp_spec e1
        rcases ax_ite e1 with ⟨hk, e1⟩ | ⟨-, e1⟩
        · rcases hk with rfl | rfl
          · exact ax_calX B kd25 e2 q922 (B.2.1.2.2.2.2 _ q2721) (ax_dcD B q905) (B.2.1.2.2.2.2 _ q2723) q907 q144 q908 (by decide +kernel) (by omega) (mf_X6_sum l G hSF 64 x0 _ w1 e1)
          · exact ax_calX B kd7 e2 q922 (B.2.1.2.2.2.2 _ q2721) (ax_dcD B q905) (B.2.1.2.2.2.2 _ q2722) q907 q144 q908 (by decide +kernel) (by omega) (mf_X6_sum l G hSF 64 x0 _ w1 e1)
        cases e1
      · cases e
        have hp : Q = ax_QX G X "DebtDoors$Wrong" h0 (.inl z6) := hp
        subst hp
        exact ax_outX B Z (fun z hz => (hT z hz).elim)
      refine ax_astore_n (L' := [(3, .inr (.inr q5.1)), (0, .inr (.inr x0)), (1, .inl x1)]) B dX6_plain_55 rfl hl (by decide) rfl (fun ls hl => ?_)
      refine ax_aload_n B dX6_plain_56 rfl hl 1 rfl ?_
      refine ax_aload_n B dX6_plain_57 rfl hl 1 rfl ?_
      refine ax_ldcS (j := 34) B (List.mem_of_getElem? (i := 34) rfl) dX6_plain_58 e (fun v7 e => ?_)
      refine ax_iwI (x := ⟨"DebtDoors$Reader", "isWord", "(Ljava/lang/String;)Z"⟩) (n := 1) (As := [va_rf v7]) B (fun w1 e1 => ?_) rfl hl.size (by simp only [List.map_cons, List.map_nil, List.sum_cons, List.sum_nil, va_rf_cat, ax_catI, ax_catL]; decide) dX6_plain_60 e (fun q8 e => ?_)
      · obtain ⟨t, c, e2, e1⟩ := ax_dp_spec e1
        rcases ax_ite e1 with ⟨hk, e1⟩ | ⟨-, e1⟩
        · rcases hk with rfl | rfl
          · exact ax_cal B kd25 e2 q843 q845 (ax_dcC B q844 q848) (B.2.1.2.2.2.2 _ q847) q844 q144 q848 (by decide +kernel) (by omega) (mt_X6_isWord l G hSF x0 v7 _ w1 e1)
          · exact ax_cal B kd7 e2 q843 q845 (ax_dcC B q844 q848) (B.2.1.2.2.2.2 _ q846) q844 q144 q848 (by decide +kernel) (by omega) (mt_X6_isWord l G hSF x0 v7 _ w1 e1)
        cases e1
      refine ax_if_ne (tgt := 84) B dX6_plain_63 (by decide) e (fun e => ?_) (fun e => ?_)
      · refine ax_aload_n B dX6_plain_66 rfl hl 1 rfl ?_
        refine ax_ldcS (j := 35) B (List.mem_of_getElem? (i := 35) rfl) dX6_plain_67 e (fun v9 e => ?_)
        refine ax_iwI (x := ⟨"DebtDoors$Reader", "isWord", "(Ljava/lang/String;)Z"⟩) (n := 1) (As := [va_rf v9]) B (fun w1 e1 => ?_) rfl hl.size (by simp only [List.map_cons, List.map_nil, List.sum_cons, List.sum_nil, va_rf_cat, ax_catI, ax_catL]; decide) dX6_plain_69 e (fun q10 e => ?_)
        · obtain ⟨t, c, e2, e1⟩ := ax_dp_spec e1
          rcases ax_ite e1 with ⟨hk, e1⟩ | ⟨-, e1⟩
          · rcases hk with rfl | rfl
            · exact ax_cal B kd25 e2 q843 q845 (ax_dcC B q844 q848) (B.2.1.2.2.2.2 _ q847) q844 q144 q848 (by decide +kernel) (by omega) (mt_X6_isWord l G hSF x0 v9 _ w1 e1)
            · exact ax_cal B kd7 e2 q843 q845 (ax_dcC B q844 q848) (B.2.1.2.2.2.2 _ q846) q844 q144 q848 (by decide +kernel) (by omega) (mt_X6_isWord l G hSF x0 v9 _ w1 e1)
          cases e1
        refine ax_if_ne (tgt := 84) B dX6_plain_72 (by decide) e (fun e => ?_) (fun e => ?_)
        · refine ax_aload_n B dX6_plain_75 rfl hl 1 rfl ?_
          refine ax_ldcS (j := 36) B (List.mem_of_getElem? (i := 36) rfl) dX6_plain_76 e (fun v11 e => ?_)
          refine ax_iwI (x := ⟨"DebtDoors$Reader", "isWord", "(Ljava/lang/String;)Z"⟩) (n := 1) (As := [va_rf v11]) B (fun w1 e1 => ?_) rfl hl.size (by simp only [List.map_cons, List.map_nil, List.sum_cons, List.sum_nil, va_rf_cat, ax_catI, ax_catL]; decide) dX6_plain_78 e (fun q12 e => ?_)
          · obtain ⟨t, c, e2, e1⟩ := ax_dp_spec e1
            rcases ax_ite e1 with ⟨hk, e1⟩ | ⟨-, e1⟩
            · rcases hk with rfl | rfl
              · exact ax_cal B kd25 e2 q843 q845 (ax_dcC B q844 q848) (B.2.1.2.2.2.2 _ q847) q844 q144 q848 (by decide +kernel) (by omega) (mt_X6_isWord l G hSF x0 v11 _ w1 e1)
              · exact ax_cal B kd7 e2 q843 q845 (ax_dcC B q844 q848) (B.2.1.2.2.2.2 _ q846) q844 q144 q848 (by decide +kernel) (by omega) (mt_X6_isWord l G hSF x0 v11 _ w1 e1)
            cases e1
          refine ax_if_eq (tgt := 88) B dX6_plain_81 (by decide) e (fun e => ?_) (fun e => ?_)
          · refine ax_iconst B dX6_plain_88 ?_
            exact w_X6_plain_89 hF hg0 hg1 hg2 hSF B Z hn hT x0 x1 q5.1 x0 0 (hl.sub [1, 2, 0] rfl) e hp
          · exact w_X6_plain_84 hF hg0 hg1 hg2 hSF B Z hn hT x0 x1 q5.1 x0 (hl.sub [1, 2, 0] rfl) e hp
        · exact w_X6_plain_84 hF hg0 hg1 hg2 hSF B Z hn hT x0 x1 q5.1 x0 (hl.sub [1, 2, 0] rfl) e hp
      · exact w_X6_plain_84 hF hg0 hg1 hg2 hSF B Z hn hT x0 x1 q5.1 x0 (hl.sub [1, 2, 0] rfl) e hp
    · refine ax_aload_n B dX6_plain_33 rfl hl 0 rfl ?_
      refine ax_xwV (Ex := "DebtDoors$Wrong") (x := ⟨"DebtDoors$Reader", "open", "()V"⟩) (n := 0) (As := []) B (fun w1 e1 => ?_) rfl hl.size (by decide) dX6_plain_34 e (fun z14 e => ?_) (fun h13 e => ?_)
      · obtain ⟨t, c, e2, e1⟩ := ax_dp_spec e1
        rcases ax_ite e1 with ⟨hk, e1⟩ | ⟨-, e1⟩
        · rcases hk with rfl | rfl
          · exact ax_calX B kd25 e2 q918 (B.2.1.2.2.2.2 _ q2720) (ax_dcC B q920 q921) (ax_selP B kd25 q2720 q919 q920 (by decide +kernel)) q920 q144 q921 (by decide +kernel) (by omega) (mt_X6_open l G hSF x0 _ w1 e1)
          · exact ax_calX B kd7 e2 q918 (B.2.1.2.2.2.2 _ q2720) (ax_dcC B q920 q921) (ax_selP B kd7 q2720 q919 q920 (by decide +kernel)) q920 q144 q921 (by decide +kernel) (by omega) (mt_X6_open l G hSF x0 _ w1 e1)
        cases e1
      · cases e
        have hp : Q = ax_QX G X "DebtDoors$Wrong" h0 (.inl z14) := hp
        subst hp
        exact ax_outX B Z (fun z hz => (hT z hz).elim)
      refine ax_aload_n B dX6_plain_37 rfl hl 0 rfl ?_
      refine ax_xwR (Ex := "DebtDoors$Wrong") (x := ⟨"DebtDoors$Reader", "test", "()LDebtDoors$Test;"⟩) (n := 0) (As := []) B (fun w1 e1 => ?_) rfl hl.size (by decide) dX6_plain_38 e (fun z16 e => ?_) (fun q15 e => ?_)
      · obtain ⟨t, c, e2, e1⟩ := ax_dp_spec e1
        rcases ax_ite e1 with ⟨hk, e1⟩ | ⟨-, e1⟩
        · rcases hk with rfl | rfl
          · exact ax_calX B kd25 e2 q1054 (B.2.1.2.2.2.2 _ q2731) (ax_dcD B q1040) (B.2.1.2.2.2.2 _ q2733) q1042 q144 q1043 (by decide +kernel) (by omega) (hg2 x0 _ w1 e1)
          · exact ax_calX B kd7 e2 q1054 (B.2.1.2.2.2.2 _ q2731) (ax_dcD B q1040) (B.2.1.2.2.2.2 _ q2732) q1042 q144 q1043 (by decide +kernel) (by omega) (hg2 x0 _ w1 e1)
        cases e1
      · cases e
        have hp : Q = ax_QX G X "DebtDoors$Wrong" h0 (.inl z16) := hp
        subst hp
        exact ax_outX B Z (fun z hz => (hT z hz).elim)
      refine ax_astore_n (L' := [(2, .inr (.inr q15.1)), (0, .inr (.inr x0)), (1, .inl x1)]) B dX6_plain_41 rfl hl (by decide) rfl (fun ls hl => ?_)
      refine ax_aload_n B dX6_plain_42 rfl hl 1 rfl ?_
      refine ax_ldcS (j := 33) B (List.mem_of_getElem? (i := 33) rfl) dX6_plain_43 e (fun v17 e => ?_)
      refine ax_xwV (Ex := "DebtDoors$Wrong") (x := ⟨"DebtDoors$Reader", "close", "(Ljava/lang/String;)V"⟩) (n := 1) (As := [va_rf v17]) B (fun w1 e1 => ?_) rfl hl.size (by decide) dX6_plain_45 e (fun z19 e => ?_) (fun h18 e => ?_)
      · obtain ⟨t, c, e2, e1⟩ := ax_dp_spec e1
        rcases ax_ite e1 with ⟨hk, e1⟩ | ⟨-, e1⟩
        · rcases hk with rfl | rfl
          · exact ax_calX B kd25 e2 q924 (B.2.1.2.2.2.2 _ q2724) (ax_dcC B q926 q927) (ax_selP B kd25 q2724 q925 q926 (by decide +kernel)) q926 q144 q927 (by decide +kernel) (by omega) (mt_X6_close l G hSF x0 v17 _ w1 e1)
          · exact ax_calX B kd7 e2 q924 (B.2.1.2.2.2.2 _ q2724) (ax_dcC B q926 q927) (ax_selP B kd7 q2724 q925 q926 (by decide +kernel)) q926 q144 q927 (by decide +kernel) (by omega) (mt_X6_close l G hSF x0 v17 _ w1 e1)
        cases e1
      · cases e
        have hp : Q = ax_QX G X "DebtDoors$Wrong" h0 (.inl z19) := hp
        subst hp
        exact ax_outX B Z (fun z hz => (hT z hz).elim)
      refine ax_goto (tgt := 125) B dX6_plain_48 (by decide) ?_
      exact w_X6_plain_125 hF hg0 hg1 hg2 hSF B Z hn hT x1 q15.1 (hl.sub [2, 0] rfl) e hp
  · refine ax_iload_n B dX6_plain_11 rfl hl 1 rfl ?_
    refine ax_if_ne (tgt := 19) B dX6_plain_12 (by decide) e (fun e => ?_) (fun e => ?_)
    · refine ax_iconst B dX6_plain_15 ?_
      refine ax_goto (tgt := 20) B dX6_plain_16 (by decide) ?_
      exact w_X6_plain_20 hF hg0 hg1 hg2 hSF B Z hn hT x0 1 (hl.sub [0] rfl) e hp
    · refine ax_iconst B dX6_plain_19 ?_
      exact w_X6_plain_20 hF hg0 hg1 hg2 hSF B Z hn hT x0 0 (hl.sub [0] rfl) e hp
theorem w_X6_plain_2 {l : Launch} {G : ax_G} {X : ax_X} {Q : State → Prop} {h0 h : ax_H} {ls : Array Slot} {g0 : Option Nat → ax_H → Option ((Nat × ax_H) ⊕ (Option Nat × ax_H))} {g1 : Option Nat → ax_H → Option ((Nat × ax_H) ⊕ (Option Nat × ax_H))} {g2 : Option Nat → ax_H → Option ((Nat × ax_H) ⊕ (Option Nat × ax_H))} {fr lo fr1 lo1 : Nat} (hF : fr1 + 1 ≤ fr ∧ 73 ≤ fr ∧ lo1 + 24 ≤ lo ∧ 1620 ≤ lo) (hg0 : ∀ (x0 : Option Nat) (h : ax_H) (w : (Nat × ax_H) ⊕ (Option Nat × ax_H)), g0 x0 h = some w → ax_MetX l G "DebtDoors$Wrong" yX6_plain cX6_plain 5 ((some (FieldType.object "DebtDoors$Test"))) fr1 lo1 [va_rf x0] h (ax_zR w)) (hg1 : ∀ (x0 : Option Nat) (h : ax_H) (w : (Nat × ax_H) ⊕ (Option Nat × ax_H)), g1 x0 h = some w → ax_MetX l G "DebtDoors$Wrong" yX6_both cX6_both 2 ((some (FieldType.object "DebtDoors$Test"))) fr1 lo1 [va_rf x0] h (ax_zR w)) (hg2 : ∀ (x0 : Option Nat) (h : ax_H) (w : (Nat × ax_H) ⊕ (Option Nat × ax_H)), g2 x0 h = some w → ax_MetX l G "DebtDoors$Wrong" yX6_test cX6_test 2 ((some (FieldType.object "DebtDoors$Test"))) fr1 lo1 [va_rf x0] h (ax_zR w)) (hSF : ax_SF G) (B : ax_BL l G X cX6_plain 5 RX6 fr lo) (Z : ax_Z X h0 ((some (FieldType.object "DebtDoors$Test")))) (hn : X.2.2.2.2.2.2.2.2.1.name = yX6_plain.name) (hT : ∀ x ∈ ax_tb X, False) (x0 : Option Nat) (x1 : Int) {w : (Nat × ax_H) ⊕ (Option Nat × ax_H)} (hl : ax_hl ls 5 [(0, .inr (.inr x0)), (1, .inl x1)]) (e : f_X6_plain_2 G.2.2 g0 g1 g2 x0 x1 h = some w) (hp : (fun w : (Nat × ax_H) ⊕ (Option Nat × ax_H) => Q = ax_QX G X "DebtDoors$Wrong" h0 (ax_zR w)) w) : ax_W G X Q h 2 ls [] :=
  ax_iter_W (Pin := pi_X6_plain_2 G X Q x0) (Pout := (fun w : (Nat × ax_H) ⊕ (Option Nat × ax_H) => Q = ax_QX G X "DebtDoors$Wrong" h0 (ax_zR w))) (fun s w e hp ls hl => wb_X6_plain_2 hF hg0 hg1 hg2 hSF B Z hn hT x0 s.1 hl e hp) _ _ e hp ls hl
set_option maxHeartbeats 4000000 in
theorem we_X6_plain {l : Launch} {G : ax_G} {X : ax_X} {Q : State → Prop} {h0 h : ax_H} {ls : Array Slot} {g0 : Option Nat → ax_H → Option ((Nat × ax_H) ⊕ (Option Nat × ax_H))} {g1 : Option Nat → ax_H → Option ((Nat × ax_H) ⊕ (Option Nat × ax_H))} {g2 : Option Nat → ax_H → Option ((Nat × ax_H) ⊕ (Option Nat × ax_H))} {fr lo fr1 lo1 : Nat} (hF : fr1 + 1 ≤ fr ∧ 73 ≤ fr ∧ lo1 + 24 ≤ lo ∧ 1620 ≤ lo) (hg0 : ∀ (x0 : Option Nat) (h : ax_H) (w : (Nat × ax_H) ⊕ (Option Nat × ax_H)), g0 x0 h = some w → ax_MetX l G "DebtDoors$Wrong" yX6_plain cX6_plain 5 ((some (FieldType.object "DebtDoors$Test"))) fr1 lo1 [va_rf x0] h (ax_zR w)) (hg1 : ∀ (x0 : Option Nat) (h : ax_H) (w : (Nat × ax_H) ⊕ (Option Nat × ax_H)), g1 x0 h = some w → ax_MetX l G "DebtDoors$Wrong" yX6_both cX6_both 2 ((some (FieldType.object "DebtDoors$Test"))) fr1 lo1 [va_rf x0] h (ax_zR w)) (hg2 : ∀ (x0 : Option Nat) (h : ax_H) (w : (Nat × ax_H) ⊕ (Option Nat × ax_H)), g2 x0 h = some w → ax_MetX l G "DebtDoors$Wrong" yX6_test cX6_test 2 ((some (FieldType.object "DebtDoors$Test"))) fr1 lo1 [va_rf x0] h (ax_zR w)) (hSF : ax_SF G) (B : ax_BL l G X cX6_plain 5 RX6 fr lo) (Z : ax_Z X h0 ((some (FieldType.object "DebtDoors$Test")))) (hn : X.2.2.2.2.2.2.2.2.1.name = yX6_plain.name) (hT : ∀ x ∈ ax_tb X, False) (x0 : Option Nat) {w : (Nat × ax_H) ⊕ (Option Nat × ax_H)} (hl : ax_hl ls 5 [(0, .inr (.inr x0))]) (e : f_X6_plain G.2.2 g0 g1 g2 x0 h = some w) (hp : (fun w : (Nat × ax_H) ⊕ (Option Nat × ax_H) => Q = ax_QX G X "DebtDoors$Wrong" h0 (ax_zR w)) w) : ax_W G X Q h 0 ls [] := by
  unfold f_X6_plain at e
  refine ax_iconst B dX6_plain_0 ?_
  refine ax_istore_n (L' := [(1, .inl 0), (0, .inr (.inr x0))]) B dX6_plain_1 rfl hl (by decide) rfl (fun ls hl => ?_)
  exact w_X6_plain_2 hF hg0 hg1 hg2 hSF B Z hn hT x0 0 (hl.sub [1, 0] rfl) e hp
theorem mt_X6_plain (l : Launch) (G : ax_G) (hSF : ax_SF G) {g0 : Option Nat → ax_H → Option ((Nat × ax_H) ⊕ (Option Nat × ax_H))} {g1 : Option Nat → ax_H → Option ((Nat × ax_H) ⊕ (Option Nat × ax_H))} {g2 : Option Nat → ax_H → Option ((Nat × ax_H) ⊕ (Option Nat × ax_H))} {fr lo fr1 lo1 : Nat} (hF : fr1 + 1 ≤ fr ∧ 73 ≤ fr ∧ lo1 + 24 ≤ lo ∧ 1620 ≤ lo) (hg0 : ∀ (x0 : Option Nat) (h : ax_H) (w : (Nat × ax_H) ⊕ (Option Nat × ax_H)), g0 x0 h = some w → ax_MetX l G "DebtDoors$Wrong" yX6_plain cX6_plain 5 ((some (FieldType.object "DebtDoors$Test"))) fr1 lo1 [va_rf x0] h (ax_zR w)) (hg1 : ∀ (x0 : Option Nat) (h : ax_H) (w : (Nat × ax_H) ⊕ (Option Nat × ax_H)), g1 x0 h = some w → ax_MetX l G "DebtDoors$Wrong" yX6_both cX6_both 2 ((some (FieldType.object "DebtDoors$Test"))) fr1 lo1 [va_rf x0] h (ax_zR w)) (hg2 : ∀ (x0 : Option Nat) (h : ax_H) (w : (Nat × ax_H) ⊕ (Option Nat × ax_H)), g2 x0 h = some w → ax_MetX l G "DebtDoors$Wrong" yX6_test cX6_test 2 ((some (FieldType.object "DebtDoors$Test"))) fr1 lo1 [va_rf x0] h (ax_zR w)) (x0 : Option Nat) (h : ax_H) (w : (Nat × ax_H) ⊕ (Option Nat × ax_H)) (e : f_X6_plain G.2.2 g0 g1 g2 x0 h = some w) : ax_MetX l G "DebtDoors$Wrong" yX6_plain cX6_plain 5 ((some (FieldType.object "DebtDoors$Test"))) fr lo [va_rf x0] h (ax_zR w) :=
  ax_enterX [.inr (.inr x0)] (y := yX6_plain) hSF (plainFor_of_name (by decide +kernel)) (Nat.le_of_ble_eq_true rfl) (fun X ls B Z hn hT hl => we_X6_plain hF hg0 hg1 hg2 hSF B Z hn hT x0 hl e rfl)
def pi_X6_both_13 (G : ax_G) (X : ax_X) (Q : State → Prop) (x0 : Option Nat) (x1 : Int) : ax_H → Prop := fun s => ∀ ls : Array Slot, ax_hl ls 2 [(0, .inr (.inr x0)), (1, .inl x1)] → ax_W G X Q s 13 ls []
set_option maxHeartbeats 4000000 in
theorem wb_X6_both_13 {l : Launch} {G : ax_G} {X : ax_X} {Q : State → Prop} {h0 h : ax_H} {ls : Array Slot} {g0 : Option Nat → ax_H → Option ((Nat × ax_H) ⊕ (Option Nat × ax_H))} {g1 : Option Nat → ax_H → Option ((Nat × ax_H) ⊕ (Option Nat × ax_H))} {g2 : Option Nat → ax_H → Option ((Nat × ax_H) ⊕ (Option Nat × ax_H))} {fr lo fr1 lo1 : Nat} (hF : fr1 + 1 ≤ fr ∧ 73 ≤ fr ∧ lo1 + 24 ≤ lo ∧ 1620 ≤ lo) (hg0 : ∀ (x0 : Option Nat) (h : ax_H) (w : (Nat × ax_H) ⊕ (Option Nat × ax_H)), g0 x0 h = some w → ax_MetX l G "DebtDoors$Wrong" yX6_plain cX6_plain 5 ((some (FieldType.object "DebtDoors$Test"))) fr1 lo1 [va_rf x0] h (ax_zR w)) (hg1 : ∀ (x0 : Option Nat) (h : ax_H) (w : (Nat × ax_H) ⊕ (Option Nat × ax_H)), g1 x0 h = some w → ax_MetX l G "DebtDoors$Wrong" yX6_both cX6_both 2 ((some (FieldType.object "DebtDoors$Test"))) fr1 lo1 [va_rf x0] h (ax_zR w)) (hg2 : ∀ (x0 : Option Nat) (h : ax_H) (w : (Nat × ax_H) ⊕ (Option Nat × ax_H)), g2 x0 h = some w → ax_MetX l G "DebtDoors$Wrong" yX6_test cX6_test 2 ((some (FieldType.object "DebtDoors$Test"))) fr1 lo1 [va_rf x0] h (ax_zR w)) (hSF : ax_SF G) (B : ax_BL l G X cX6_both 2 RX6 fr lo) (Z : ax_Z X h0 ((some (FieldType.object "DebtDoors$Test")))) (hn : X.2.2.2.2.2.2.2.2.1.name = yX6_both.name) (hT : ∀ x ∈ ax_tb X, False) (x0 : Option Nat) (x1 : Int) {w : (ax_H) ⊕ ((Nat × ax_H) ⊕ (Option Nat × ax_H))} (hl : ax_hl ls 2 [(0, .inr (.inr x0)), (1, .inl x1)]) (e : lb_X6_both_13 G.2.2 g0 g1 g2 x0 x1 h = some w) (hp : (ax_PL (pi_X6_both_13 G X Q x0 x1) (fun w : (Nat × ax_H) ⊕ (Option Nat × ax_H) => Q = ax_QX G X "DebtDoors$Wrong" h0 (ax_zR w))) w) : ax_W G X Q h 13 ls [] := by
  unfold lb_X6_both_13 at e
  refine ax_aload_n B dX6_both_13 rfl hl 0 rfl ?_
  refine ax_ldcS (j := 30) B (List.mem_of_getElem? (i := 30) rfl) dX6_both_14 e (fun v1 e => ?_)
  refine ax_iwI (x := ⟨"DebtDoors$Reader", "accept", "(Ljava/lang/String;)Z"⟩) (n := 1) (As := [va_rf v1]) B (fun w1 e1 => ?_) rfl hl.size (by decide) dX6_both_16 e (fun q2 e => ?_)
  · obtain ⟨t, c, e2, e1⟩ := ax_dp_spec e1
    rcases ax_ite e1 with ⟨hk, e1⟩ | ⟨-, e1⟩
    · rcases hk with rfl | rfl
      · exact ax_cal B kd25 e2 q928 q930 (ax_dcD B q1036) (B.2.1.2.2.2.2 _ q932) q929 q144 q933 (by decide +kernel) (by omega) (mt_X6_accept l G hSF x0 v1 _ w1 e1)
      · exact ax_cal B kd7 e2 q928 q930 (ax_dcD B q1036) (B.2.1.2.2.2.2 _ q931) q929 q144 q933 (by decide +kernel) (by omega) (mt_X6_accept l G hSF x0 v1 _ w1 e1)
    cases e1
  refine ax_if_eq (tgt := 33) B dX6_both_19 (by decide) e (fun e => ?_) (fun e => ?_)
  · obtain ⟨w, e9_1, rfl⟩ := Option.map_eq_some_iff.mp e
    have e := e9_1
    refine ax_aload_n B dX6_both_33 rfl hl 0 rfl ?_
    refine ax_iconst B dX6_both_34 ?_
    refine ax_iload_n B dX6_both_35 rfl hl 1 rfl ?_
    refine ax_iwR (x := ⟨"DebtDoors$Reader", "row", "(ZI)LDebtDoors$Test;"⟩) (n := 2) (As := [.int (Int32.ofInt 1), .int (Int32.ofInt x1)]) B (fun w1 e1 => ?_) rfl hl.size (by decide) dX6_both_36 e (fun q3 e => ?_)
    · obtain ⟨t, c, e2, e1⟩ := ax_dp_spec e1
      rcases ax_ite e1 with ⟨hk, e1⟩ | ⟨-, e1⟩
      · rcases hk with rfl | rfl
        · exact ax_cal B kd25 e2 q1093 q2735 (ax_dcC B q1095 q1096) (ax_selP B kd25 q2735 q1094 q1095 (by decide +kernel)) q1095 q144 q1096 (by decide +kernel) (by omega) (mt_X6_row l G hSF x0 1 x1 _ w1 e1)
        · exact ax_cal B kd7 e2 q1093 q2735 (ax_dcC B q1095 q1096) (ax_selP B kd7 q2735 q1094 q1095 (by decide +kernel)) q1095 q144 q1096 (by decide +kernel) (by omega) (mt_X6_row l G hSF x0 1 x1 _ w1 e1)
      cases e1
    cases e
    have hp : Q = _ := hp
    subst hp
    exact ax_retX (ax_areturn B Z (Or.inl ⟨_, rfl⟩) dX6_both_39 rfl)
  · refine ax_aload_n B dX6_both_22 rfl hl 0 rfl ?_
    refine ax_aload_n B dX6_both_23 rfl hl 0 rfl ?_
    refine ax_xwR (Ex := "DebtDoors$Wrong") (x := ⟨"DebtDoors$Reader", "plain", "()LDebtDoors$Test;"⟩) (n := 0) (As := []) B (fun w1 e1 => ?_) rfl hl.size (by simp only [List.map_cons, List.map_nil, List.sum_cons, List.sum_nil, va_rf_cat, ax_catI, ax_catL]; decide) dX6_both_24 e (fun z5 e => ?_) (fun q4 e => ?_)
    · obtain ⟨t, c, e2, e1⟩ := ax_dp_spec e1
      rcases ax_ite e1 with ⟨hk, e1⟩ | ⟨-, e1⟩
      · rcases hk with rfl | rfl
        · exact ax_calX B kd25 e2 q1048 (B.2.1.2.2.2.2 _ q2730) (ax_dcC B q1050 q1051) (ax_selP B kd25 q2730 q1049 q1050 (by decide +kernel)) q1050 q144 q1051 (by decide +kernel) (by omega) (hg0 x0 _ w1 e1)
        · exact ax_calX B kd7 e2 q1048 (B.2.1.2.2.2.2 _ q2730) (ax_dcC B q1050 q1051) (ax_selP B kd7 q2730 q1049 q1050 (by decide +kernel)) q1050 q144 q1051 (by decide +kernel) (by omega) (hg0 x0 _ w1 e1)
      cases e1
    · cases e
      have hp : Q = ax_QX G X "DebtDoors$Wrong" h0 (.inl z5) := hp
      subst hp
      exact ax_outX B Z (fun z hz => (hT z hz).elim)
    refine ax_iwV (x := ⟨"DebtDoors$Reader", "add", "(LDebtDoors$Test;)V"⟩) (n := 1) (As := [va_rf q4.1]) B (fun w1 e1 => ?_) rfl hl.size (by decide) dX6_both_27 e (fun h6 e => ?_)
    · obtain ⟨t, c, e2, e1⟩ := ax_dp_spec e1
      rcases ax_ite e1 with ⟨hk, e1⟩ | ⟨-, e1⟩
      · rcases hk with rfl | rfl
        · exact ax_cal B kd25 e2 q1088 q2734 (ax_dcC B q1090 q1091) (ax_selP B kd25 q2734 q1089 q1090 (by decide +kernel)) q1090 q144 q1091 (by decide +kernel) (by omega) (mt_X6_add l G hSF x0 q4.1 _ w1 e1)
        · exact ax_cal B kd7 e2 q1088 q2734 (ax_dcC B q1090 q1091) (ax_selP B kd7 q2734 q1089 q1090 (by decide +kernel)) q1090 q144 q1091 (by decide +kernel) (by omega) (mt_X6_add l G hSF x0 q4.1 _ w1 e1)
      cases e1
    refine ax_goto (tgt := 13) B dX6_both_30 (by decide) ?_
    cases e
    exact hp _ (hl.sub [0, 1] rfl)
theorem w_X6_both_13 {l : Launch} {G : ax_G} {X : ax_X} {Q : State → Prop} {h0 h : ax_H} {ls : Array Slot} {g0 : Option Nat → ax_H → Option ((Nat × ax_H) ⊕ (Option Nat × ax_H))} {g1 : Option Nat → ax_H → Option ((Nat × ax_H) ⊕ (Option Nat × ax_H))} {g2 : Option Nat → ax_H → Option ((Nat × ax_H) ⊕ (Option Nat × ax_H))} {fr lo fr1 lo1 : Nat} (hF : fr1 + 1 ≤ fr ∧ 73 ≤ fr ∧ lo1 + 24 ≤ lo ∧ 1620 ≤ lo) (hg0 : ∀ (x0 : Option Nat) (h : ax_H) (w : (Nat × ax_H) ⊕ (Option Nat × ax_H)), g0 x0 h = some w → ax_MetX l G "DebtDoors$Wrong" yX6_plain cX6_plain 5 ((some (FieldType.object "DebtDoors$Test"))) fr1 lo1 [va_rf x0] h (ax_zR w)) (hg1 : ∀ (x0 : Option Nat) (h : ax_H) (w : (Nat × ax_H) ⊕ (Option Nat × ax_H)), g1 x0 h = some w → ax_MetX l G "DebtDoors$Wrong" yX6_both cX6_both 2 ((some (FieldType.object "DebtDoors$Test"))) fr1 lo1 [va_rf x0] h (ax_zR w)) (hg2 : ∀ (x0 : Option Nat) (h : ax_H) (w : (Nat × ax_H) ⊕ (Option Nat × ax_H)), g2 x0 h = some w → ax_MetX l G "DebtDoors$Wrong" yX6_test cX6_test 2 ((some (FieldType.object "DebtDoors$Test"))) fr1 lo1 [va_rf x0] h (ax_zR w)) (hSF : ax_SF G) (B : ax_BL l G X cX6_both 2 RX6 fr lo) (Z : ax_Z X h0 ((some (FieldType.object "DebtDoors$Test")))) (hn : X.2.2.2.2.2.2.2.2.1.name = yX6_both.name) (hT : ∀ x ∈ ax_tb X, False) (x0 : Option Nat) (x1 : Int) {w : (Nat × ax_H) ⊕ (Option Nat × ax_H)} (hl : ax_hl ls 2 [(0, .inr (.inr x0)), (1, .inl x1)]) (e : f_X6_both_13 G.2.2 g0 g1 g2 x0 x1 h = some w) (hp : (fun w : (Nat × ax_H) ⊕ (Option Nat × ax_H) => Q = ax_QX G X "DebtDoors$Wrong" h0 (ax_zR w)) w) : ax_W G X Q h 13 ls [] :=
  ax_iter_W (Pin := pi_X6_both_13 G X Q x0 x1) (Pout := (fun w : (Nat × ax_H) ⊕ (Option Nat × ax_H) => Q = ax_QX G X "DebtDoors$Wrong" h0 (ax_zR w))) (fun s w e hp ls hl => wb_X6_both_13 hF hg0 hg1 hg2 hSF B Z hn hT x0 x1 hl e hp) _ _ e hp ls hl
set_option maxHeartbeats 4000000 in
theorem we_X6_both {l : Launch} {G : ax_G} {X : ax_X} {Q : State → Prop} {h0 h : ax_H} {ls : Array Slot} {g0 : Option Nat → ax_H → Option ((Nat × ax_H) ⊕ (Option Nat × ax_H))} {g1 : Option Nat → ax_H → Option ((Nat × ax_H) ⊕ (Option Nat × ax_H))} {g2 : Option Nat → ax_H → Option ((Nat × ax_H) ⊕ (Option Nat × ax_H))} {fr lo fr1 lo1 : Nat} (hF : fr1 + 1 ≤ fr ∧ 73 ≤ fr ∧ lo1 + 24 ≤ lo ∧ 1620 ≤ lo) (hg0 : ∀ (x0 : Option Nat) (h : ax_H) (w : (Nat × ax_H) ⊕ (Option Nat × ax_H)), g0 x0 h = some w → ax_MetX l G "DebtDoors$Wrong" yX6_plain cX6_plain 5 ((some (FieldType.object "DebtDoors$Test"))) fr1 lo1 [va_rf x0] h (ax_zR w)) (hg1 : ∀ (x0 : Option Nat) (h : ax_H) (w : (Nat × ax_H) ⊕ (Option Nat × ax_H)), g1 x0 h = some w → ax_MetX l G "DebtDoors$Wrong" yX6_both cX6_both 2 ((some (FieldType.object "DebtDoors$Test"))) fr1 lo1 [va_rf x0] h (ax_zR w)) (hg2 : ∀ (x0 : Option Nat) (h : ax_H) (w : (Nat × ax_H) ⊕ (Option Nat × ax_H)), g2 x0 h = some w → ax_MetX l G "DebtDoors$Wrong" yX6_test cX6_test 2 ((some (FieldType.object "DebtDoors$Test"))) fr1 lo1 [va_rf x0] h (ax_zR w)) (hSF : ax_SF G) (B : ax_BL l G X cX6_both 2 RX6 fr lo) (Z : ax_Z X h0 ((some (FieldType.object "DebtDoors$Test")))) (hn : X.2.2.2.2.2.2.2.2.1.name = yX6_both.name) (hT : ∀ x ∈ ax_tb X, False) (x0 : Option Nat) {w : (Nat × ax_H) ⊕ (Option Nat × ax_H)} (hl : ax_hl ls 2 [(0, .inr (.inr x0))]) (e : f_X6_both G.2.2 g0 g1 g2 x0 h = some w) (hp : (fun w : (Nat × ax_H) ⊕ (Option Nat × ax_H) => Q = ax_QX G X "DebtDoors$Wrong" h0 (ax_zR w)) w) : ax_W G X Q h 0 ls [] := by
  unfold f_X6_both at e
  refine ax_aload_n B dX6_both_0 rfl hl 0 rfl ?_
  refine ax_getIs B fs_X6_80 (fun _ _ => rfl) dX6_both_1 e (fun v1 e => ?_)
  refine ax_istore_n (L' := [(1, .inl v1), (0, .inr (.inr x0))]) B dX6_both_4 rfl hl (by decide) rfl (fun ls hl => ?_)
  refine ax_aload_n B dX6_both_5 rfl hl 1 rfl ?_
  refine ax_aload_n B dX6_both_6 rfl hl 1 rfl ?_
  refine ax_xwR (Ex := "DebtDoors$Wrong") (x := ⟨"DebtDoors$Reader", "plain", "()LDebtDoors$Test;"⟩) (n := 0) (As := []) B (fun w1 e1 => ?_) rfl hl.size (by simp only [List.map_cons, List.map_nil, List.sum_cons, List.sum_nil, va_rf_cat, ax_catI, ax_catL]; decide) dX6_both_7 e (fun z3 e => ?_) (fun q2 e => ?_)
  · obtain ⟨t, c, e2, e1⟩ := ax_dp_spec e1
    rcases ax_ite e1 with ⟨hk, e1⟩ | ⟨-, e1⟩
    · rcases hk with rfl | rfl
      · exact ax_calX B kd25 e2 q1048 (B.2.1.2.2.2.2 _ q2730) (ax_dcC B q1050 q1051) (ax_selP B kd25 q2730 q1049 q1050 (by decide +kernel)) q1050 q144 q1051 (by decide +kernel) (by omega) (hg0 x0 _ w1 e1)
      · exact ax_calX B kd7 e2 q1048 (B.2.1.2.2.2.2 _ q2730) (ax_dcC B q1050 q1051) (ax_selP B kd7 q2730 q1049 q1050 (by decide +kernel)) q1050 q144 q1051 (by decide +kernel) (by omega) (hg0 x0 _ w1 e1)
    cases e1
  · cases e
    have hp : Q = ax_QX G X "DebtDoors$Wrong" h0 (.inl z3) := hp
    subst hp
    exact ax_outX B Z (fun z hz => (hT z hz).elim)
  refine ax_iwV (x := ⟨"DebtDoors$Reader", "add", "(LDebtDoors$Test;)V"⟩) (n := 1) (As := [va_rf q2.1]) B (fun w1 e1 => ?_) rfl hl.size (by decide) dX6_both_10 e (fun h4 e => ?_)
  · obtain ⟨t, c, e2, e1⟩ := ax_dp_spec e1
    rcases ax_ite e1 with ⟨hk, e1⟩ | ⟨-, e1⟩
    · rcases hk with rfl | rfl
      · exact ax_cal B kd25 e2 q1088 q2734 (ax_dcC B q1090 q1091) (ax_selP B kd25 q2734 q1089 q1090 (by decide +kernel)) q1090 q144 q1091 (by decide +kernel) (by omega) (mt_X6_add l G hSF x0 q2.1 _ w1 e1)
      · exact ax_cal B kd7 e2 q1088 q2734 (ax_dcC B q1090 q1091) (ax_selP B kd7 q2734 q1089 q1090 (by decide +kernel)) q1090 q144 q1091 (by decide +kernel) (by omega) (mt_X6_add l G hSF x0 q2.1 _ w1 e1)
    cases e1
  exact w_X6_both_13 hF hg0 hg1 hg2 hSF B Z hn hT x0 v1 (hl.sub [1, 0] rfl) e hp
theorem mt_X6_both (l : Launch) (G : ax_G) (hSF : ax_SF G) {g0 : Option Nat → ax_H → Option ((Nat × ax_H) ⊕ (Option Nat × ax_H))} {g1 : Option Nat → ax_H → Option ((Nat × ax_H) ⊕ (Option Nat × ax_H))} {g2 : Option Nat → ax_H → Option ((Nat × ax_H) ⊕ (Option Nat × ax_H))} {fr lo fr1 lo1 : Nat} (hF : fr1 + 1 ≤ fr ∧ 73 ≤ fr ∧ lo1 + 24 ≤ lo ∧ 1620 ≤ lo) (hg0 : ∀ (x0 : Option Nat) (h : ax_H) (w : (Nat × ax_H) ⊕ (Option Nat × ax_H)), g0 x0 h = some w → ax_MetX l G "DebtDoors$Wrong" yX6_plain cX6_plain 5 ((some (FieldType.object "DebtDoors$Test"))) fr1 lo1 [va_rf x0] h (ax_zR w)) (hg1 : ∀ (x0 : Option Nat) (h : ax_H) (w : (Nat × ax_H) ⊕ (Option Nat × ax_H)), g1 x0 h = some w → ax_MetX l G "DebtDoors$Wrong" yX6_both cX6_both 2 ((some (FieldType.object "DebtDoors$Test"))) fr1 lo1 [va_rf x0] h (ax_zR w)) (hg2 : ∀ (x0 : Option Nat) (h : ax_H) (w : (Nat × ax_H) ⊕ (Option Nat × ax_H)), g2 x0 h = some w → ax_MetX l G "DebtDoors$Wrong" yX6_test cX6_test 2 ((some (FieldType.object "DebtDoors$Test"))) fr1 lo1 [va_rf x0] h (ax_zR w)) (x0 : Option Nat) (h : ax_H) (w : (Nat × ax_H) ⊕ (Option Nat × ax_H)) (e : f_X6_both G.2.2 g0 g1 g2 x0 h = some w) : ax_MetX l G "DebtDoors$Wrong" yX6_both cX6_both 2 ((some (FieldType.object "DebtDoors$Test"))) fr lo [va_rf x0] h (ax_zR w) :=
  ax_enterX [.inr (.inr x0)] (y := yX6_both) hSF (plainFor_of_name (by decide +kernel)) (Nat.le_of_ble_eq_true rfl) (fun X ls B Z hn hT hl => we_X6_both hF hg0 hg1 hg2 hSF B Z hn hT x0 hl e rfl)
def pi_X6_test_13 (G : ax_G) (X : ax_X) (Q : State → Prop) (x0 : Option Nat) (x1 : Int) : ax_H → Prop := fun s => ∀ ls : Array Slot, ax_hl ls 2 [(0, .inr (.inr x0)), (1, .inl x1)] → ax_W G X Q s 13 ls []
set_option maxHeartbeats 4000000 in
theorem wb_X6_test_13 {l : Launch} {G : ax_G} {X : ax_X} {Q : State → Prop} {h0 h : ax_H} {ls : Array Slot} {g0 : Option Nat → ax_H → Option ((Nat × ax_H) ⊕ (Option Nat × ax_H))} {g1 : Option Nat → ax_H → Option ((Nat × ax_H) ⊕ (Option Nat × ax_H))} {g2 : Option Nat → ax_H → Option ((Nat × ax_H) ⊕ (Option Nat × ax_H))} {fr lo fr1 lo1 : Nat} (hF : fr1 + 1 ≤ fr ∧ 73 ≤ fr ∧ lo1 + 24 ≤ lo ∧ 1620 ≤ lo) (hg0 : ∀ (x0 : Option Nat) (h : ax_H) (w : (Nat × ax_H) ⊕ (Option Nat × ax_H)), g0 x0 h = some w → ax_MetX l G "DebtDoors$Wrong" yX6_plain cX6_plain 5 ((some (FieldType.object "DebtDoors$Test"))) fr1 lo1 [va_rf x0] h (ax_zR w)) (hg1 : ∀ (x0 : Option Nat) (h : ax_H) (w : (Nat × ax_H) ⊕ (Option Nat × ax_H)), g1 x0 h = some w → ax_MetX l G "DebtDoors$Wrong" yX6_both cX6_both 2 ((some (FieldType.object "DebtDoors$Test"))) fr1 lo1 [va_rf x0] h (ax_zR w)) (hg2 : ∀ (x0 : Option Nat) (h : ax_H) (w : (Nat × ax_H) ⊕ (Option Nat × ax_H)), g2 x0 h = some w → ax_MetX l G "DebtDoors$Wrong" yX6_test cX6_test 2 ((some (FieldType.object "DebtDoors$Test"))) fr1 lo1 [va_rf x0] h (ax_zR w)) (hSF : ax_SF G) (B : ax_BL l G X cX6_test 2 RX6 fr lo) (Z : ax_Z X h0 ((some (FieldType.object "DebtDoors$Test")))) (hn : X.2.2.2.2.2.2.2.2.1.name = yX6_test.name) (hT : ∀ x ∈ ax_tb X, False) (x0 : Option Nat) (x1 : Int) {w : (ax_H) ⊕ ((Nat × ax_H) ⊕ (Option Nat × ax_H))} (hl : ax_hl ls 2 [(0, .inr (.inr x0)), (1, .inl x1)]) (e : lb_X6_test_13 G.2.2 g0 g1 g2 x0 x1 h = some w) (hp : (ax_PL (pi_X6_test_13 G X Q x0 x1) (fun w : (Nat × ax_H) ⊕ (Option Nat × ax_H) => Q = ax_QX G X "DebtDoors$Wrong" h0 (ax_zR w))) w) : ax_W G X Q h 13 ls [] := by
  unfold lb_X6_test_13 at e
  refine ax_aload_n B dX6_test_13 rfl hl 0 rfl ?_
  refine ax_ldcS (j := 29) B (List.mem_of_getElem? (i := 29) rfl) dX6_test_14 e (fun v1 e => ?_)
  refine ax_iwI (x := ⟨"DebtDoors$Reader", "accept", "(Ljava/lang/String;)Z"⟩) (n := 1) (As := [va_rf v1]) B (fun w1 e1 => ?_) rfl hl.size (by decide) dX6_test_16 e (fun q2 e => ?_)
  · obtain ⟨t, c, e2, e1⟩ := ax_dp_spec e1
    rcases ax_ite e1 with ⟨hk, e1⟩ | ⟨-, e1⟩
    · rcases hk with rfl | rfl
      · exact ax_cal B kd25 e2 q928 q930 (ax_dcD B q1036) (B.2.1.2.2.2.2 _ q932) q929 q144 q933 (by decide +kernel) (by omega) (mt_X6_accept l G hSF x0 v1 _ w1 e1)
      · exact ax_cal B kd7 e2 q928 q930 (ax_dcD B q1036) (B.2.1.2.2.2.2 _ q931) q929 q144 q933 (by decide +kernel) (by omega) (mt_X6_accept l G hSF x0 v1 _ w1 e1)
    cases e1
  refine ax_if_eq (tgt := 33) B dX6_test_19 (by decide) e (fun e => ?_) (fun e => ?_)
  · obtain ⟨w, e9_1, rfl⟩ := Option.map_eq_some_iff.mp e
    have e := e9_1
    refine ax_aload_n B dX6_test_33 rfl hl 0 rfl ?_
    refine ax_iconst B dX6_test_34 ?_
    refine ax_iload_n B dX6_test_35 rfl hl 1 rfl ?_
    refine ax_iwR (x := ⟨"DebtDoors$Reader", "row", "(ZI)LDebtDoors$Test;"⟩) (n := 2) (As := [.int (Int32.ofInt 0), .int (Int32.ofInt x1)]) B (fun w1 e1 => ?_) rfl hl.size (by decide) dX6_test_36 e (fun q3 e => ?_)
    · obtain ⟨t, c, e2, e1⟩ := ax_dp_spec e1
      rcases ax_ite e1 with ⟨hk, e1⟩ | ⟨-, e1⟩
      · rcases hk with rfl | rfl
        · exact ax_cal B kd25 e2 q1093 q2735 (ax_dcC B q1095 q1096) (ax_selP B kd25 q2735 q1094 q1095 (by decide +kernel)) q1095 q144 q1096 (by decide +kernel) (by omega) (mt_X6_row l G hSF x0 0 x1 _ w1 e1)
        · exact ax_cal B kd7 e2 q1093 q2735 (ax_dcC B q1095 q1096) (ax_selP B kd7 q2735 q1094 q1095 (by decide +kernel)) q1095 q144 q1096 (by decide +kernel) (by omega) (mt_X6_row l G hSF x0 0 x1 _ w1 e1)
      cases e1
    cases e
    have hp : Q = _ := hp
    subst hp
    exact ax_retX (ax_areturn B Z (Or.inl ⟨_, rfl⟩) dX6_test_39 rfl)
  · refine ax_aload_n B dX6_test_22 rfl hl 0 rfl ?_
    refine ax_aload_n B dX6_test_23 rfl hl 0 rfl ?_
    refine ax_xwR (Ex := "DebtDoors$Wrong") (x := ⟨"DebtDoors$Reader", "both", "()LDebtDoors$Test;"⟩) (n := 0) (As := []) B (fun w1 e1 => ?_) rfl hl.size (by simp only [List.map_cons, List.map_nil, List.sum_cons, List.sum_nil, va_rf_cat, ax_catI, ax_catL]; decide) dX6_test_24 e (fun z5 e => ?_) (fun q4 e => ?_)
    · obtain ⟨t, c, e2, e1⟩ := ax_dp_spec e1
      rcases ax_ite e1 with ⟨hk, e1⟩ | ⟨-, e1⟩
      · rcases hk with rfl | rfl
        · exact ax_calX B kd25 e2 q1044 (B.2.1.2.2.2.2 _ q2729) (ax_dcC B q1046 q1047) (ax_selP B kd25 q2729 q1045 q1046 (by decide +kernel)) q1046 q144 q1047 (by decide +kernel) (by omega) (hg1 x0 _ w1 e1)
        · exact ax_calX B kd7 e2 q1044 (B.2.1.2.2.2.2 _ q2729) (ax_dcC B q1046 q1047) (ax_selP B kd7 q2729 q1045 q1046 (by decide +kernel)) q1046 q144 q1047 (by decide +kernel) (by omega) (hg1 x0 _ w1 e1)
      cases e1
    · cases e
      have hp : Q = ax_QX G X "DebtDoors$Wrong" h0 (.inl z5) := hp
      subst hp
      exact ax_outX B Z (fun z hz => (hT z hz).elim)
    refine ax_iwV (x := ⟨"DebtDoors$Reader", "add", "(LDebtDoors$Test;)V"⟩) (n := 1) (As := [va_rf q4.1]) B (fun w1 e1 => ?_) rfl hl.size (by decide) dX6_test_27 e (fun h6 e => ?_)
    · obtain ⟨t, c, e2, e1⟩ := ax_dp_spec e1
      rcases ax_ite e1 with ⟨hk, e1⟩ | ⟨-, e1⟩
      · rcases hk with rfl | rfl
        · exact ax_cal B kd25 e2 q1088 q2734 (ax_dcC B q1090 q1091) (ax_selP B kd25 q2734 q1089 q1090 (by decide +kernel)) q1090 q144 q1091 (by decide +kernel) (by omega) (mt_X6_add l G hSF x0 q4.1 _ w1 e1)
        · exact ax_cal B kd7 e2 q1088 q2734 (ax_dcC B q1090 q1091) (ax_selP B kd7 q2734 q1089 q1090 (by decide +kernel)) q1090 q144 q1091 (by decide +kernel) (by omega) (mt_X6_add l G hSF x0 q4.1 _ w1 e1)
      cases e1
    refine ax_goto (tgt := 13) B dX6_test_30 (by decide) ?_
    cases e
    exact hp _ (hl.sub [0, 1] rfl)
theorem w_X6_test_13 {l : Launch} {G : ax_G} {X : ax_X} {Q : State → Prop} {h0 h : ax_H} {ls : Array Slot} {g0 : Option Nat → ax_H → Option ((Nat × ax_H) ⊕ (Option Nat × ax_H))} {g1 : Option Nat → ax_H → Option ((Nat × ax_H) ⊕ (Option Nat × ax_H))} {g2 : Option Nat → ax_H → Option ((Nat × ax_H) ⊕ (Option Nat × ax_H))} {fr lo fr1 lo1 : Nat} (hF : fr1 + 1 ≤ fr ∧ 73 ≤ fr ∧ lo1 + 24 ≤ lo ∧ 1620 ≤ lo) (hg0 : ∀ (x0 : Option Nat) (h : ax_H) (w : (Nat × ax_H) ⊕ (Option Nat × ax_H)), g0 x0 h = some w → ax_MetX l G "DebtDoors$Wrong" yX6_plain cX6_plain 5 ((some (FieldType.object "DebtDoors$Test"))) fr1 lo1 [va_rf x0] h (ax_zR w)) (hg1 : ∀ (x0 : Option Nat) (h : ax_H) (w : (Nat × ax_H) ⊕ (Option Nat × ax_H)), g1 x0 h = some w → ax_MetX l G "DebtDoors$Wrong" yX6_both cX6_both 2 ((some (FieldType.object "DebtDoors$Test"))) fr1 lo1 [va_rf x0] h (ax_zR w)) (hg2 : ∀ (x0 : Option Nat) (h : ax_H) (w : (Nat × ax_H) ⊕ (Option Nat × ax_H)), g2 x0 h = some w → ax_MetX l G "DebtDoors$Wrong" yX6_test cX6_test 2 ((some (FieldType.object "DebtDoors$Test"))) fr1 lo1 [va_rf x0] h (ax_zR w)) (hSF : ax_SF G) (B : ax_BL l G X cX6_test 2 RX6 fr lo) (Z : ax_Z X h0 ((some (FieldType.object "DebtDoors$Test")))) (hn : X.2.2.2.2.2.2.2.2.1.name = yX6_test.name) (hT : ∀ x ∈ ax_tb X, False) (x0 : Option Nat) (x1 : Int) {w : (Nat × ax_H) ⊕ (Option Nat × ax_H)} (hl : ax_hl ls 2 [(0, .inr (.inr x0)), (1, .inl x1)]) (e : f_X6_test_13 G.2.2 g0 g1 g2 x0 x1 h = some w) (hp : (fun w : (Nat × ax_H) ⊕ (Option Nat × ax_H) => Q = ax_QX G X "DebtDoors$Wrong" h0 (ax_zR w)) w) : ax_W G X Q h 13 ls [] :=
  ax_iter_W (Pin := pi_X6_test_13 G X Q x0 x1) (Pout := (fun w : (Nat × ax_H) ⊕ (Option Nat × ax_H) => Q = ax_QX G X "DebtDoors$Wrong" h0 (ax_zR w))) (fun s w e hp ls hl => wb_X6_test_13 hF hg0 hg1 hg2 hSF B Z hn hT x0 x1 hl e hp) _ _ e hp ls hl
set_option maxHeartbeats 4000000 in
theorem we_X6_test {l : Launch} {G : ax_G} {X : ax_X} {Q : State → Prop} {h0 h : ax_H} {ls : Array Slot} {g0 : Option Nat → ax_H → Option ((Nat × ax_H) ⊕ (Option Nat × ax_H))} {g1 : Option Nat → ax_H → Option ((Nat × ax_H) ⊕ (Option Nat × ax_H))} {g2 : Option Nat → ax_H → Option ((Nat × ax_H) ⊕ (Option Nat × ax_H))} {fr lo fr1 lo1 : Nat} (hF : fr1 + 1 ≤ fr ∧ 73 ≤ fr ∧ lo1 + 24 ≤ lo ∧ 1620 ≤ lo) (hg0 : ∀ (x0 : Option Nat) (h : ax_H) (w : (Nat × ax_H) ⊕ (Option Nat × ax_H)), g0 x0 h = some w → ax_MetX l G "DebtDoors$Wrong" yX6_plain cX6_plain 5 ((some (FieldType.object "DebtDoors$Test"))) fr1 lo1 [va_rf x0] h (ax_zR w)) (hg1 : ∀ (x0 : Option Nat) (h : ax_H) (w : (Nat × ax_H) ⊕ (Option Nat × ax_H)), g1 x0 h = some w → ax_MetX l G "DebtDoors$Wrong" yX6_both cX6_both 2 ((some (FieldType.object "DebtDoors$Test"))) fr1 lo1 [va_rf x0] h (ax_zR w)) (hg2 : ∀ (x0 : Option Nat) (h : ax_H) (w : (Nat × ax_H) ⊕ (Option Nat × ax_H)), g2 x0 h = some w → ax_MetX l G "DebtDoors$Wrong" yX6_test cX6_test 2 ((some (FieldType.object "DebtDoors$Test"))) fr1 lo1 [va_rf x0] h (ax_zR w)) (hSF : ax_SF G) (B : ax_BL l G X cX6_test 2 RX6 fr lo) (Z : ax_Z X h0 ((some (FieldType.object "DebtDoors$Test")))) (hn : X.2.2.2.2.2.2.2.2.1.name = yX6_test.name) (hT : ∀ x ∈ ax_tb X, False) (x0 : Option Nat) {w : (Nat × ax_H) ⊕ (Option Nat × ax_H)} (hl : ax_hl ls 2 [(0, .inr (.inr x0))]) (e : f_X6_test G.2.2 g0 g1 g2 x0 h = some w) (hp : (fun w : (Nat × ax_H) ⊕ (Option Nat × ax_H) => Q = ax_QX G X "DebtDoors$Wrong" h0 (ax_zR w)) w) : ax_W G X Q h 0 ls [] := by
  unfold f_X6_test at e
  refine ax_aload_n B dX6_test_0 rfl hl 0 rfl ?_
  refine ax_getIs B fs_X6_80 (fun _ _ => rfl) dX6_test_1 e (fun v1 e => ?_)
  refine ax_istore_n (L' := [(1, .inl v1), (0, .inr (.inr x0))]) B dX6_test_4 rfl hl (by decide) rfl (fun ls hl => ?_)
  refine ax_aload_n B dX6_test_5 rfl hl 1 rfl ?_
  refine ax_aload_n B dX6_test_6 rfl hl 1 rfl ?_
  refine ax_xwR (Ex := "DebtDoors$Wrong") (x := ⟨"DebtDoors$Reader", "both", "()LDebtDoors$Test;"⟩) (n := 0) (As := []) B (fun w1 e1 => ?_) rfl hl.size (by simp only [List.map_cons, List.map_nil, List.sum_cons, List.sum_nil, va_rf_cat, ax_catI, ax_catL]; decide) dX6_test_7 e (fun z3 e => ?_) (fun q2 e => ?_)
  · obtain ⟨t, c, e2, e1⟩ := ax_dp_spec e1
    rcases ax_ite e1 with ⟨hk, e1⟩ | ⟨-, e1⟩
    · rcases hk with rfl | rfl
      · exact ax_calX B kd25 e2 q1044 (B.2.1.2.2.2.2 _ q2729) (ax_dcC B q1046 q1047) (ax_selP B kd25 q2729 q1045 q1046 (by decide +kernel)) q1046 q144 q1047 (by decide +kernel) (by omega) (hg1 x0 _ w1 e1)
      · exact ax_calX B kd7 e2 q1044 (B.2.1.2.2.2.2 _ q2729) (ax_dcC B q1046 q1047) (ax_selP B kd7 q2729 q1045 q1046 (by decide +kernel)) q1046 q144 q1047 (by decide +kernel) (by omega) (hg1 x0 _ w1 e1)
    cases e1
  · cases e
    have hp : Q = ax_QX G X "DebtDoors$Wrong" h0 (.inl z3) := hp
    subst hp
    exact ax_outX B Z (fun z hz => (hT z hz).elim)
  refine ax_iwV (x := ⟨"DebtDoors$Reader", "add", "(LDebtDoors$Test;)V"⟩) (n := 1) (As := [va_rf q2.1]) B (fun w1 e1 => ?_) rfl hl.size (by decide) dX6_test_10 e (fun h4 e => ?_)
  · obtain ⟨t, c, e2, e1⟩ := ax_dp_spec e1
    rcases ax_ite e1 with ⟨hk, e1⟩ | ⟨-, e1⟩
    · rcases hk with rfl | rfl
      · exact ax_cal B kd25 e2 q1088 q2734 (ax_dcC B q1090 q1091) (ax_selP B kd25 q2734 q1089 q1090 (by decide +kernel)) q1090 q144 q1091 (by decide +kernel) (by omega) (mt_X6_add l G hSF x0 q2.1 _ w1 e1)
      · exact ax_cal B kd7 e2 q1088 q2734 (ax_dcC B q1090 q1091) (ax_selP B kd7 q2734 q1089 q1090 (by decide +kernel)) q1090 q144 q1091 (by decide +kernel) (by omega) (mt_X6_add l G hSF x0 q2.1 _ w1 e1)
    cases e1
  exact w_X6_test_13 hF hg0 hg1 hg2 hSF B Z hn hT x0 v1 (hl.sub [1, 0] rfl) e hp
theorem mt_X6_test (l : Launch) (G : ax_G) (hSF : ax_SF G) {g0 : Option Nat → ax_H → Option ((Nat × ax_H) ⊕ (Option Nat × ax_H))} {g1 : Option Nat → ax_H → Option ((Nat × ax_H) ⊕ (Option Nat × ax_H))} {g2 : Option Nat → ax_H → Option ((Nat × ax_H) ⊕ (Option Nat × ax_H))} {fr lo fr1 lo1 : Nat} (hF : fr1 + 1 ≤ fr ∧ 73 ≤ fr ∧ lo1 + 24 ≤ lo ∧ 1620 ≤ lo) (hg0 : ∀ (x0 : Option Nat) (h : ax_H) (w : (Nat × ax_H) ⊕ (Option Nat × ax_H)), g0 x0 h = some w → ax_MetX l G "DebtDoors$Wrong" yX6_plain cX6_plain 5 ((some (FieldType.object "DebtDoors$Test"))) fr1 lo1 [va_rf x0] h (ax_zR w)) (hg1 : ∀ (x0 : Option Nat) (h : ax_H) (w : (Nat × ax_H) ⊕ (Option Nat × ax_H)), g1 x0 h = some w → ax_MetX l G "DebtDoors$Wrong" yX6_both cX6_both 2 ((some (FieldType.object "DebtDoors$Test"))) fr1 lo1 [va_rf x0] h (ax_zR w)) (hg2 : ∀ (x0 : Option Nat) (h : ax_H) (w : (Nat × ax_H) ⊕ (Option Nat × ax_H)), g2 x0 h = some w → ax_MetX l G "DebtDoors$Wrong" yX6_test cX6_test 2 ((some (FieldType.object "DebtDoors$Test"))) fr1 lo1 [va_rf x0] h (ax_zR w)) (x0 : Option Nat) (h : ax_H) (w : (Nat × ax_H) ⊕ (Option Nat × ax_H)) (e : f_X6_test G.2.2 g0 g1 g2 x0 h = some w) : ax_MetX l G "DebtDoors$Wrong" yX6_test cX6_test 2 ((some (FieldType.object "DebtDoors$Test"))) fr lo [va_rf x0] h (ax_zR w) :=
  ax_enterX [.inr (.inr x0)] (y := yX6_test) hSF (plainFor_of_name (by decide +kernel)) (Nat.le_of_ble_eq_true rfl) (fun X ls B Z hn hT hl => we_X6_test hF hg0 hg1 hg2 hSF B Z hn hT x0 hl e rfl)
theorem mg_X6_plain (l : Launch) (G : ax_G) (hSF : ax_SF G) : ∀ n : Nat, (∀ (x0 : Option Nat) (h : ax_H) (w : (Nat × ax_H) ⊕ (Option Nat × ax_H)), (rg_X6_plain G.2.2 n).1 x0 h = some w → ax_MetX l G "DebtDoors$Wrong" yX6_plain cX6_plain 5 ((some (FieldType.object "DebtDoors$Test"))) (73 + n) (1620 + n * 24) [va_rf x0] h (ax_zR w)) ∧ (∀ (x0 : Option Nat) (h : ax_H) (w : (Nat × ax_H) ⊕ (Option Nat × ax_H)), (rg_X6_plain G.2.2 n).2.1 x0 h = some w → ax_MetX l G "DebtDoors$Wrong" yX6_both cX6_both 2 ((some (FieldType.object "DebtDoors$Test"))) (73 + n) (1620 + n * 24) [va_rf x0] h (ax_zR w)) ∧ (∀ (x0 : Option Nat) (h : ax_H) (w : (Nat × ax_H) ⊕ (Option Nat × ax_H)), (rg_X6_plain G.2.2 n).2.2 x0 h = some w → ax_MetX l G "DebtDoors$Wrong" yX6_test cX6_test 2 ((some (FieldType.object "DebtDoors$Test"))) (73 + n) (1620 + n * 24) [va_rf x0] h (ax_zR w))
  | 0 => ⟨fun _ _ _ e => (by cases e), fun _ _ _ e => (by cases e), fun _ _ _ e => (by cases e)⟩
  | n + 1 => by
    have ih := mg_X6_plain l G hSF n
    exact ⟨fun x0 h w e => mt_X6_plain l G hSF (fr1 := 73 + n) (lo1 := 1620 + n * 24) (by omega) (ih.1) (ih.2.1) (ih.2.2) x0 h w e, fun x0 h w e => mt_X6_both l G hSF (fr1 := 73 + n) (lo1 := 1620 + n * 24) (by omega) (ih.1) (ih.2.1) (ih.2.2) x0 h w e, fun x0 h w e => mt_X6_test l G hSF (fr1 := 73 + n) (lo1 := 1620 + n * 24) (by omega) (ih.1) (ih.2.1) (ih.2.2) x0 h w e⟩
theorem mf_X6_plain (l : Launch) (G : ax_G) (hSF : ax_SF G) (n : Nat) (x0 : Option Nat) (h : ax_H) (w : (Nat × ax_H) ⊕ (Option Nat × ax_H)) (e : fn_X6_plain G.2.2 n x0 h = some w) : ax_MetX l G "DebtDoors$Wrong" yX6_plain cX6_plain 5 ((some (FieldType.object "DebtDoors$Test"))) (73 + n) (1620 + n * 24) [va_rf x0] h (ax_zR w) := (mg_X6_plain l G hSF n).1 x0 h w e
theorem mf_X6_both (l : Launch) (G : ax_G) (hSF : ax_SF G) (n : Nat) (x0 : Option Nat) (h : ax_H) (w : (Nat × ax_H) ⊕ (Option Nat × ax_H)) (e : fn_X6_both G.2.2 n x0 h = some w) : ax_MetX l G "DebtDoors$Wrong" yX6_both cX6_both 2 ((some (FieldType.object "DebtDoors$Test"))) (73 + n) (1620 + n * 24) [va_rf x0] h (ax_zR w) := (mg_X6_plain l G hSF n).2.1 x0 h w e
theorem mf_X6_test (l : Launch) (G : ax_G) (hSF : ax_SF G) (n : Nat) (x0 : Option Nat) (h : ax_H) (w : (Nat × ax_H) ⊕ (Option Nat × ax_H)) (e : fn_X6_test G.2.2 n x0 h = some w) : ax_MetX l G "DebtDoors$Wrong" yX6_test cX6_test 2 ((some (FieldType.object "DebtDoors$Test"))) (73 + n) (1620 + n * 24) [va_rf x0] h (ax_zR w) := (mg_X6_plain l G hSF n).2.2 x0 h w e
def dkwX25_read_2 : List UInt8 := [153, 0, 10, 42, 182, 0, 129, 167, 0, 4, 1, 181, 0, 133, 42, 180, 0, 31, 27, 44, 83, 177]
abbrev dktX25_read_2 : List UInt8 := dkwX25_read_2 ++ []
def dkwX25_read_1 : List UInt8 := [167, 0, 4, 3, 182, 0, 49, 44, 42, 16, 20, 182, 0, 72, 181, 0, 125, 44, 42, 18, 127, 182, 0, 45]
abbrev dktX25_read_1 : List UInt8 := dkwX25_read_1 ++ dktX25_read_2
def dkwX25_read_0 : List UInt8 := [42, 182, 0, 115, 77, 42, 18, 119, 182, 0, 45, 153, 0, 29, 42, 42, 182, 0, 121, 154, 0, 7, 4]
abbrev dktX25_read_0 : List UInt8 := dkwX25_read_0 ++ dktX25_read_1
theorem dksX25_read_0 : cX25_read.data.toList.drop 0 = dktX25_read_0 := by decide +kernel
theorem dksX25_read_1 : cX25_read.data.toList.drop 23 = dktX25_read_1 := dk_seg dksX25_read_0 23 rfl rfl
theorem dksX25_read_2 : cX25_read.data.toList.drop 47 = dktX25_read_2 := dk_seg dksX25_read_1 24 rfl rfl
theorem dX25_read_0 : decode cX25_read 0 = .ok (.aload_n 0, 1) := dk_42 (dk_at dksX25_read_0 0 rfl rfl)
theorem dX25_read_1 : decode cX25_read 1 = .ok (.invokevirtual 115, 3) := dk_182 0 115 (dk_at dksX25_read_0 1 rfl rfl)
theorem dX25_read_4 : decode cX25_read 4 = .ok (.astore_n 2, 1) := dk_77 (dk_at dksX25_read_0 4 rfl rfl)
theorem dX25_read_5 : decode cX25_read 5 = .ok (.aload_n 0, 1) := dk_42 (dk_at dksX25_read_0 5 rfl rfl)
theorem dX25_read_6 : decode cX25_read 6 = .ok (.ldc 119, 2) := dk_18 119 (dk_at dksX25_read_0 6 rfl rfl)
theorem dX25_read_8 : decode cX25_read 8 = .ok (.invokevirtual 45, 3) := dk_182 0 45 (dk_at dksX25_read_0 8 rfl rfl)
theorem dX25_read_11 : decode cX25_read 11 = .ok (.ifCond .eq 29, 3) := dk_153 0 29 (dk_at dksX25_read_0 11 rfl rfl)
theorem dX25_read_14 : decode cX25_read 14 = .ok (.aload_n 0, 1) := dk_42 (dk_at dksX25_read_0 14 rfl rfl)
theorem dX25_read_15 : decode cX25_read 15 = .ok (.aload_n 0, 1) := dk_42 (dk_at dksX25_read_0 15 rfl rfl)
theorem dX25_read_16 : decode cX25_read 16 = .ok (.invokevirtual 121, 3) := dk_182 0 121 (dk_at dksX25_read_0 16 rfl rfl)
theorem dX25_read_19 : decode cX25_read 19 = .ok (.ifCond .ne 7, 3) := dk_154 0 7 (dk_at dksX25_read_0 19 rfl rfl)
theorem dX25_read_22 : decode cX25_read 22 = .ok (.iconst 1, 1) := dk_4 (dk_at dksX25_read_0 22 rfl rfl)
theorem dX25_read_23 : decode cX25_read 23 = .ok (.goto 4, 3) := dk_167 0 4 (dk_at dksX25_read_1 0 rfl rfl)
theorem dX25_read_26 : decode cX25_read 26 = .ok (.iconst 0, 1) := dk_3 (dk_at dksX25_read_1 3 rfl rfl)
theorem dX25_read_27 : decode cX25_read 27 = .ok (.invokevirtual 49, 3) := dk_182 0 49 (dk_at dksX25_read_1 4 rfl rfl)
theorem dX25_read_30 : decode cX25_read 30 = .ok (.aload_n 2, 1) := dk_44 (dk_at dksX25_read_1 7 rfl rfl)
theorem dX25_read_31 : decode cX25_read 31 = .ok (.aload_n 0, 1) := dk_42 (dk_at dksX25_read_1 8 rfl rfl)
theorem dX25_read_32 : decode cX25_read 32 = .ok (.bipush 20, 2) := dk_16 20 (dk_at dksX25_read_1 9 rfl rfl)
theorem dX25_read_34 : decode cX25_read 34 = .ok (.invokevirtual 72, 3) := dk_182 0 72 (dk_at dksX25_read_1 11 rfl rfl)
theorem dX25_read_37 : decode cX25_read 37 = .ok (.putfield 125, 3) := dk_181 0 125 (dk_at dksX25_read_1 14 rfl rfl)
theorem dX25_read_40 : decode cX25_read 40 = .ok (.aload_n 2, 1) := dk_44 (dk_at dksX25_read_1 17 rfl rfl)
theorem dX25_read_41 : decode cX25_read 41 = .ok (.aload_n 0, 1) := dk_42 (dk_at dksX25_read_1 18 rfl rfl)
theorem dX25_read_42 : decode cX25_read 42 = .ok (.ldc 127, 2) := dk_18 127 (dk_at dksX25_read_1 19 rfl rfl)
theorem dX25_read_44 : decode cX25_read 44 = .ok (.invokevirtual 45, 3) := dk_182 0 45 (dk_at dksX25_read_1 21 rfl rfl)
theorem dX25_read_47 : decode cX25_read 47 = .ok (.ifCond .eq 10, 3) := dk_153 0 10 (dk_at dksX25_read_2 0 rfl rfl)
theorem dX25_read_50 : decode cX25_read 50 = .ok (.aload_n 0, 1) := dk_42 (dk_at dksX25_read_2 3 rfl rfl)
theorem dX25_read_51 : decode cX25_read 51 = .ok (.invokevirtual 129, 3) := dk_182 0 129 (dk_at dksX25_read_2 4 rfl rfl)
theorem dX25_read_54 : decode cX25_read 54 = .ok (.goto 4, 3) := dk_167 0 4 (dk_at dksX25_read_2 7 rfl rfl)
theorem dX25_read_57 : decode cX25_read 57 = .ok (.aconst_null, 1) := dk_1 (dk_at dksX25_read_2 10 rfl rfl)
theorem dX25_read_58 : decode cX25_read 58 = .ok (.putfield 133, 3) := dk_181 0 133 (dk_at dksX25_read_2 11 rfl rfl)
theorem dX25_read_61 : decode cX25_read 61 = .ok (.aload_n 0, 1) := dk_42 (dk_at dksX25_read_2 14 rfl rfl)
theorem dX25_read_62 : decode cX25_read 62 = .ok (.getfield 31, 3) := dk_180 0 31 (dk_at dksX25_read_2 15 rfl rfl)
theorem dX25_read_65 : decode cX25_read 65 = .ok (.iload_n 1, 1) := dk_27 (dk_at dksX25_read_2 18 rfl rfl)
theorem dX25_read_66 : decode cX25_read 66 = .ok (.aload_n 2, 1) := dk_44 (dk_at dksX25_read_2 19 rfl rfl)
theorem dX25_read_67 : decode cX25_read 67 = .ok (.aastore, 1) := dk_83 (dk_at dksX25_read_2 20 rfl rfl)
theorem dX25_read_68 : decode cX25_read 68 = .ok (.return_, 1) := dk_177 (dk_at dksX25_read_2 21 rfl rfl)
noncomputable def f_X25_read_58 (E : ax_E) (x0 : Option Nat) (x1 : Int) (x2 : Option Nat) (s0 : Option Nat) (s1 : Option Nat) (h : ax_H) : Option ((Nat × ax_H) ⊕ (ax_H)) :=
  (ax_pRs h s0 [(21, 0), (23, 4), (24, 4)] s1).bind fun h1 =>
  (ax_gR E h1 x0 25 8).bind fun v2 =>
  (ax_stR E oj_110 h1 v2 110 x1 x2).bind fun h3 =>
  some (.inr h3)
noncomputable def f_X25_read_40 (E : ax_E) (x0 : Option Nat) (x1 : Int) (x2 : Option Nat) (h : ax_H) : Option ((Nat × ax_H) ⊕ (ax_H)) :=
  (ax_cst E 37).bind fun v1 =>
  (ax_dp E h x0 fun t => if t = 25 then f_X6_accept E x0 v1 h else none).bind fun q2 =>
  if i2 q2.1 = 0 then
    f_X25_read_58 E x0 x1 x2 x2 none q2.2
  else
    ax_tc (fun z4 => some (.inl z4)) (ax_dp E q2.2 x0 fun t => if t = 25 then fn_X6_test E 64 x0 q2.2 else none) fun q3 =>
    f_X25_read_58 E x0 x1 x2 x2 q3.1 q3.2
noncomputable def f_X25_read_27 (E : ax_E) (x0 : Option Nat) (x1 : Int) (x2 : Option Nat) (s0 : Option Nat) (s1 : Int) (h : ax_H) : Option ((Nat × ax_H) ⊕ (ax_H)) :=
  ax_tc (fun z2 => some (.inl z2)) (ax_dp E h s0 fun t => if t = 25 then f_X6_must E s0 s1 h else none) fun h1 =>
  ax_tc (fun z4 => some (.inl z4)) (ax_dp E h1 x0 fun t => if t = 25 then f_X6_number E x0 20 h1 else none) fun q3 =>
  (ax_pIs q3.2 x2 [(21, 1), (23, 5), (24, 5)] q3.1).bind fun h5 =>
  f_X25_read_40 E x0 x1 x2 h5
noncomputable def f_X25_read (E : ax_E) (x0 : Option Nat) (x1 : Int) (h : ax_H) : Option ((Nat × ax_H) ⊕ (ax_H)) :=
  ax_tc (fun z2 => some (.inl z2)) (ax_dp E h x0 fun t => if t = 25 then f_X25_act E x0 h else none) fun q1 =>
  (ax_cst E 36).bind fun v3 =>
  (ax_dp E q1.2 x0 fun t => if t = 25 then f_X6_accept E x0 v3 q1.2 else none).bind fun q4 =>
  if i2 q4.1 = 0 then
    f_X25_read_40 E x0 x1 q1.1 q4.2
  else
    (ax_ce E q4.2 x0 25).bind fun _ => (f_X25_isNought E x0 q4.2).bind fun q5 =>
    if i2 q5.1 = 0 then
      f_X25_read_27 E x0 x1 q1.1 x0 1 q5.2
    else
      f_X25_read_27 E x0 x1 q1.1 x0 0 q5.2
set_option maxHeartbeats 4000000 in
theorem w_X25_read_58 {l : Launch} {G : ax_G} {X : ax_X} {Q : State → Prop} {h0 h : ax_H} {ls : Array Slot} (hSF : ax_SF G) (B : ax_BL l G X cX25_read 3 RX25 138 3177) (Z : ax_Z X h0 none) (hn : X.2.2.2.2.2.2.2.2.1.name = yX25_read.name) (hT : ∀ x ∈ ax_tb X, False) (x0 : Option Nat) (x1 : Int) (x2 : Option Nat) (s0 : Option Nat) (s1 : Option Nat) {w : (Nat × ax_H) ⊕ (ax_H)} (hl : ax_hl ls 3 [(0, .inr (.inr x0)), (1, .inl x1), (2, .inr (.inr x2))]) (e : f_X25_read_58 G.2.2 x0 x1 x2 s0 s1 h = some w) (hp : (fun w : (Nat × ax_H) ⊕ (ax_H) => Q = ax_QX G X "DebtDoors$Wrong" h0 (ax_zV w)) w) : ax_W G X Q h 58 ls [va_rf s1, va_rf s0] := by
  unfold f_X25_read_58 at e
  refine ax_putRs B fs_X25_133 (Or.inl rfl) rfl dX25_read_58 e (fun h1 e => ?_)
  refine ax_aload_n B dX25_read_61 rfl hl 0 rfl ?_
  refine ax_getR B ff_X25_31_25 (fun _ _ => rfl) dX25_read_62 e (fun v2 e => ?_)
  refine ax_iload_n B dX25_read_65 rfl hl 1 rfl ?_
  refine ax_aload_n B dX25_read_66 rfl hl 2 rfl ?_
  refine ax_aast B kd110 (ok_110 B) dX25_read_67 e (fun h3 e => ?_)
  cases e
  have hp : Q = _ := hp
  subst hp
  exact ax_retX (ax_return B Z dX25_read_68 rfl)
set_option maxHeartbeats 4000000 in
theorem w_X25_read_40 {l : Launch} {G : ax_G} {X : ax_X} {Q : State → Prop} {h0 h : ax_H} {ls : Array Slot} (hSF : ax_SF G) (B : ax_BL l G X cX25_read 3 RX25 138 3177) (Z : ax_Z X h0 none) (hn : X.2.2.2.2.2.2.2.2.1.name = yX25_read.name) (hT : ∀ x ∈ ax_tb X, False) (x0 : Option Nat) (x1 : Int) (x2 : Option Nat) {w : (Nat × ax_H) ⊕ (ax_H)} (hl : ax_hl ls 3 [(0, .inr (.inr x0)), (1, .inl x1), (2, .inr (.inr x2))]) (e : f_X25_read_40 G.2.2 x0 x1 x2 h = some w) (hp : (fun w : (Nat × ax_H) ⊕ (ax_H) => Q = ax_QX G X "DebtDoors$Wrong" h0 (ax_zV w)) w) : ax_W G X Q h 40 ls [] := by
  unfold f_X25_read_40 at e
  refine ax_aload_n B dX25_read_40 rfl hl 2 rfl ?_
  refine ax_aload_n B dX25_read_41 rfl hl 0 rfl ?_
  refine ax_ldcS (j := 27) B (List.mem_of_getElem? (i := 27) rfl) dX25_read_42 e (fun v1 e => ?_)
  refine ax_iwI (x := ⟨"DebtDoors$OrderReader", "accept", "(Ljava/lang/String;)Z"⟩) (n := 1) (As := [va_rf v1]) B (fun w1 e1 => ?_) rfl hl.size (by simp only [List.map_cons, List.map_nil, List.sum_cons, List.sum_nil, va_rf_cat, ax_catI, ax_catL]; decide) dX25_read_44 e (fun q2 e => ?_)
  · obtain ⟨t, c, e2, e1⟩ := ax_dp_spec e1
    rcases ax_ite e1 with ⟨hk, e1⟩ | ⟨-, e1⟩
    · subst hk
      exact ax_cal B kd25 e2 q1140 q1141 (ax_dcD B q1036) (B.2.1.2.2.2.2 _ q1142) q929 q144 q933 (by decide +kernel) ⟨Nat.le_of_ble_eq_true rfl, Nat.le_of_ble_eq_true rfl⟩ (mt_X6_accept l G hSF x0 v1 _ w1 e1)
    cases e1
  refine ax_if_eq (tgt := 57) B dX25_read_47 (by decide) e (fun e => ?_) (fun e => ?_)
  · refine ax_null B dX25_read_57 ?_
    exact w_X25_read_58 hSF B Z hn hT x0 x1 x2 x2 none (hl.sub [0, 1, 2] rfl) e hp
  · refine ax_aload_n B dX25_read_50 rfl hl 0 rfl ?_
    refine ax_xwR (Ex := "DebtDoors$Wrong") (x := ⟨"DebtDoors$OrderReader", "test", "()LDebtDoors$Test;"⟩) (n := 0) (As := []) B (fun w1 e1 => ?_) rfl hl.size (by simp only [List.map_cons, List.map_nil, List.sum_cons, List.sum_nil, va_rf_cat, ax_catI, ax_catL]; decide) dX25_read_51 e (fun z4 e => ?_) (fun q3 e => ?_)
    · obtain ⟨t, c, e2, e1⟩ := ax_dp_spec e1
      rcases ax_ite e1 with ⟨hk, e1⟩ | ⟨-, e1⟩
      · subst hk
        exact ax_calX B kd25 e2 q1238 (B.2.1.2.2.2.2 _ q1239) (ax_dcD B q1040) (B.2.1.2.2.2.2 _ q1240) q1042 q144 q1043 (by decide +kernel) ⟨Nat.le_of_ble_eq_true rfl, Nat.le_of_ble_eq_true rfl⟩ (mf_X6_test l G hSF 64 x0 _ w1 e1)
      cases e1
    · cases e
      have hp : Q = ax_QX G X "DebtDoors$Wrong" h0 (.inl z4) := hp
      subst hp
      exact ax_outX B Z (fun z hz => (hT z hz).elim)
    refine ax_goto (tgt := 58) B dX25_read_54 (by decide) ?_
    exact w_X25_read_58 hSF B Z hn hT x0 x1 x2 x2 q3.1 (hl.sub [0, 1, 2] rfl) e hp
set_option maxHeartbeats 4000000 in
theorem w_X25_read_27 {l : Launch} {G : ax_G} {X : ax_X} {Q : State → Prop} {h0 h : ax_H} {ls : Array Slot} (hSF : ax_SF G) (B : ax_BL l G X cX25_read 3 RX25 138 3177) (Z : ax_Z X h0 none) (hn : X.2.2.2.2.2.2.2.2.1.name = yX25_read.name) (hT : ∀ x ∈ ax_tb X, False) (x0 : Option Nat) (x1 : Int) (x2 : Option Nat) (s0 : Option Nat) (s1 : Int) {w : (Nat × ax_H) ⊕ (ax_H)} (hl : ax_hl ls 3 [(0, .inr (.inr x0)), (1, .inl x1), (2, .inr (.inr x2))]) (e : f_X25_read_27 G.2.2 x0 x1 x2 s0 s1 h = some w) (hp : (fun w : (Nat × ax_H) ⊕ (ax_H) => Q = ax_QX G X "DebtDoors$Wrong" h0 (ax_zV w)) w) : ax_W G X Q h 27 ls [.int (Int32.ofInt s1), va_rf s0] := by
  unfold f_X25_read_27 at e
  refine ax_xwV (Ex := "DebtDoors$Wrong") (x := ⟨"DebtDoors$OrderReader", "must", "(Z)V"⟩) (n := 1) (As := [.int (Int32.ofInt s1)]) B (fun w1 e1 => ?_) rfl hl.size (by decide) dX25_read_27 e (fun z2 e => ?_) (fun h1 e => ?_)
  · obtain ⟨t, c, e2, e1⟩ := ax_dp_spec e1
    rcases ax_ite e1 with ⟨hk, e1⟩ | ⟨-, e1⟩
    · subst hk
      exact ax_calX B kd25 e2 q1173 (B.2.1.2.2.2.2 _ q1174) (ax_dcD B q897) (B.2.1.2.2.2.2 _ q1175) q802 q144 q806 (by decide +kernel) ⟨Nat.le_of_ble_eq_true rfl, Nat.le_of_ble_eq_true rfl⟩ (mt_X6_must l G hSF s0 s1 _ w1 e1)
    cases e1
  · cases e
    have hp : Q = ax_QX G X "DebtDoors$Wrong" h0 (.inl z2) := hp
    subst hp
    exact ax_outX B Z (fun z hz => (hT z hz).elim)
  refine ax_aload_n B dX25_read_30 rfl hl 2 rfl ?_
  refine ax_aload_n B dX25_read_31 rfl hl 0 rfl ?_
  refine ax_bipush B dX25_read_32 (by decide) ?_
  refine ax_xwI (Ex := "DebtDoors$Wrong") (x := ⟨"DebtDoors$OrderReader", "number", "(I)I"⟩) (n := 1) (As := [.int (Int32.ofInt 20)]) B (fun w1 e1 => ?_) rfl hl.size (by simp only [List.map_cons, List.map_nil, List.sum_cons, List.sum_nil, va_rf_cat, ax_catI, ax_catL]; decide) dX25_read_34 e (fun z4 e => ?_) (fun q3 e => ?_)
  · obtain ⟨t, c, e2, e1⟩ := ax_dp_spec e1
    rcases ax_ite e1 with ⟨hk, e1⟩ | ⟨-, e1⟩
    · subst hk
      exact ax_calX B kd25 e2 q967 (B.2.1.2.2.2.2 _ q968) (ax_dcD B q969) (B.2.1.2.2.2.2 _ q970) q942 q144 q946 (by decide +kernel) ⟨Nat.le_of_ble_eq_true rfl, Nat.le_of_ble_eq_true rfl⟩ (mt_X6_number l G hSF x0 20 _ w1 e1)
    cases e1
  · cases e
    have hp : Q = ax_QX G X "DebtDoors$Wrong" h0 (.inl z4) := hp
    subst hp
    exact ax_outX B Z (fun z hz => (hT z hz).elim)
  refine ax_putIs B fs_X25_125 (Or.inl rfl) rfl dX25_read_37 e (fun h5 e => ?_)
  exact w_X25_read_40 hSF B Z hn hT x0 x1 x2 (hl.sub [0, 1, 2] rfl) e hp
set_option maxHeartbeats 4000000 in
theorem we_X25_read {l : Launch} {G : ax_G} {X : ax_X} {Q : State → Prop} {h0 h : ax_H} {ls : Array Slot} (hSF : ax_SF G) (B : ax_BL l G X cX25_read 3 RX25 138 3177) (Z : ax_Z X h0 none) (hn : X.2.2.2.2.2.2.2.2.1.name = yX25_read.name) (hT : ∀ x ∈ ax_tb X, False) (x0 : Option Nat) (x1 : Int) {w : (Nat × ax_H) ⊕ (ax_H)} (hl : ax_hl ls 3 [(0, .inr (.inr x0)), (1, .inl x1)]) (e : f_X25_read G.2.2 x0 x1 h = some w) (hp : (fun w : (Nat × ax_H) ⊕ (ax_H) => Q = ax_QX G X "DebtDoors$Wrong" h0 (ax_zV w)) w) : ax_W G X Q h 0 ls [] := by
  unfold f_X25_read at e
  refine ax_aload_n B dX25_read_0 rfl hl 0 rfl ?_
  refine ax_xwR (Ex := "DebtDoors$Wrong") (x := ⟨"DebtDoors$OrderReader", "act", "()LDebtDoors$Order;"⟩) (n := 0) (As := []) B (fun w1 e1 => ?_) rfl hl.size (by decide) dX25_read_1 e (fun z2 e => ?_) (fun q1 e => ?_)
  · obtain ⟨t, c, e2, e1⟩ := ax_dp_spec e1
    rcases ax_ite e1 with ⟨hk, e1⟩ | ⟨-, e1⟩
    · subst hk
      exact ax_calX B kd25 e2 q1134 (ax_smO B q1136 q1137 (by decide +kernel)) (ax_dcC B q1136 q1138) (B.2.1.2.2.2.2 _ qs16) q1136 q167 q1138 (by decide +kernel) ⟨Nat.le_of_ble_eq_true rfl, Nat.le_of_ble_eq_true rfl⟩ (mt_X25_act l G hSF x0 _ w1 e1)
    cases e1
  · cases e
    have hp : Q = ax_QX G X "DebtDoors$Wrong" h0 (.inl z2) := hp
    subst hp
    exact ax_outX B Z (fun z hz => (hT z hz).elim)
  refine ax_astore_n (L' := [(2, .inr (.inr q1.1)), (0, .inr (.inr x0)), (1, .inl x1)]) B dX25_read_4 rfl hl (by decide) rfl (fun ls hl => ?_)
  refine ax_aload_n B dX25_read_5 rfl hl 1 rfl ?_
  refine ax_ldcS (j := 26) B (List.mem_of_getElem? (i := 26) rfl) dX25_read_6 e (fun v3 e => ?_)
  refine ax_iwI (x := ⟨"DebtDoors$OrderReader", "accept", "(Ljava/lang/String;)Z"⟩) (n := 1) (As := [va_rf v3]) B (fun w1 e1 => ?_) rfl hl.size (by decide) dX25_read_8 e (fun q4 e => ?_)
  · obtain ⟨t, c, e2, e1⟩ := ax_dp_spec e1
    rcases ax_ite e1 with ⟨hk, e1⟩ | ⟨-, e1⟩
    · subst hk
      exact ax_cal B kd25 e2 q1140 q1141 (ax_dcD B q1036) (B.2.1.2.2.2.2 _ q1142) q929 q144 q933 (by decide +kernel) ⟨Nat.le_of_ble_eq_true rfl, Nat.le_of_ble_eq_true rfl⟩ (mt_X6_accept l G hSF x0 v3 _ w1 e1)
    cases e1
  refine ax_if_eq (tgt := 40) B dX25_read_11 (by decide) e (fun e => ?_) (fun e => ?_)
  · exact w_X25_read_40 hSF B Z hn hT x0 x1 q1.1 (hl.sub [1, 2, 0] rfl) e hp
  · refine ax_aload_n B dX25_read_14 rfl hl 1 rfl ?_
    refine ax_aload_n B dX25_read_15 rfl hl 1 rfl ?_
    refine ax_ivI (y := yX25_isNought) (n := 0) (As := []) B kd25 (lw_V q1233 q1235 qs18 q167 q1236) (by decide +kernel) ⟨Nat.le_of_ble_eq_true rfl, Nat.le_of_ble_eq_true rfl⟩ (fun w1 e1 => mt_X25_isNought l G hSF x0 _ w1 e1) rfl hl.size (by simp only [List.map_cons, List.map_nil, List.sum_cons, List.sum_nil, va_rf_cat, ax_catI, ax_catL]; decide) dX25_read_16 e (fun q5 e => ?_)
    refine ax_if_ne (tgt := 26) B dX25_read_19 (by decide) e (fun e => ?_) (fun e => ?_)
    · refine ax_iconst B dX25_read_22 ?_
      refine ax_goto (tgt := 27) B dX25_read_23 (by decide) ?_
      exact w_X25_read_27 hSF B Z hn hT x0 x1 q1.1 x0 1 (hl.sub [1, 2, 0] rfl) e hp
    · refine ax_iconst B dX25_read_26 ?_
      exact w_X25_read_27 hSF B Z hn hT x0 x1 q1.1 x0 0 (hl.sub [1, 2, 0] rfl) e hp
theorem mt_X25_read (l : Launch) (G : ax_G) (hSF : ax_SF G) (x0 : Option Nat) (x1 : Int) (h : ax_H) (w : (Nat × ax_H) ⊕ (ax_H)) (e : f_X25_read G.2.2 x0 x1 h = some w) : ax_MetX l G "DebtDoors$Wrong" yX25_read cX25_read 3 none 138 3177 [va_rf x0, .int (Int32.ofInt x1)] h (ax_zV w) :=
  ax_enterX [.inr (.inr x0), .inl x1] (y := yX25_read) hSF (plainFor_of_name (by decide +kernel)) (Nat.le_of_ble_eq_true rfl) (fun X ls B Z hn hT hl => we_X25_read hSF B Z hn hT x0 x1 hl e rfl)
def dkwX7_read_2_3 : List UInt8 := [183, 0, 96, 83, 177]
abbrev dktX7_read_2_3 : List UInt8 := dkwX7_read_2_3 ++ []
def dkwX7_read_2_2 : List UInt8 := [187, 0, 37, 89, 28, 45, 42, 18, 86, 182, 0, 88, 153, 0, 10, 42, 182, 0, 92, 167, 0, 4, 1]
abbrev dktX7_read_2_2 : List UInt8 := dkwX7_read_2_2 ++ dktX7_read_2_3
def dkwX7_read_2_1 : List UInt8 := [182, 0, 78, 28, 6, 162, 0, 10, 42, 182, 0, 82, 167, 0, 4, 1, 78, 42, 180, 0, 39, 27]
abbrev dktX7_read_2_1 : List UInt8 := dkwX7_read_2_1 ++ dktX7_read_2_2
def dkwX7_read_2_0 : List UInt8 := [42, 42, 180, 0, 51, 182, 0, 70, 61, 42, 28, 2, 159, 0, 7, 4, 167, 0, 4, 3, 182, 0, 74, 42]
abbrev dktX7_read_2_0 : List UInt8 := dkwX7_read_2_0 ++ dktX7_read_2_1
theorem dksX7_read_2_0 : cX7_read_2.data.toList.drop 0 = dktX7_read_2_0 := by decide +kernel
theorem dksX7_read_2_1 : cX7_read_2.data.toList.drop 24 = dktX7_read_2_1 := dk_seg dksX7_read_2_0 24 rfl rfl
theorem dksX7_read_2_2 : cX7_read_2.data.toList.drop 46 = dktX7_read_2_2 := dk_seg dksX7_read_2_1 22 rfl rfl
theorem dksX7_read_2_3 : cX7_read_2.data.toList.drop 69 = dktX7_read_2_3 := dk_seg dksX7_read_2_2 23 rfl rfl
theorem dX7_read_2_0 : decode cX7_read_2 0 = .ok (.aload_n 0, 1) := dk_42 (dk_at dksX7_read_2_0 0 rfl rfl)
theorem dX7_read_2_1 : decode cX7_read_2 1 = .ok (.aload_n 0, 1) := dk_42 (dk_at dksX7_read_2_0 1 rfl rfl)
theorem dX7_read_2_2 : decode cX7_read_2 2 = .ok (.getfield 51, 3) := dk_180 0 51 (dk_at dksX7_read_2_0 2 rfl rfl)
theorem dX7_read_2_5 : decode cX7_read_2 5 = .ok (.invokevirtual 70, 3) := dk_182 0 70 (dk_at dksX7_read_2_0 5 rfl rfl)
theorem dX7_read_2_8 : decode cX7_read_2 8 = .ok (.istore_n 2, 1) := dk_61 (dk_at dksX7_read_2_0 8 rfl rfl)
theorem dX7_read_2_9 : decode cX7_read_2 9 = .ok (.aload_n 0, 1) := dk_42 (dk_at dksX7_read_2_0 9 rfl rfl)
theorem dX7_read_2_10 : decode cX7_read_2 10 = .ok (.iload_n 2, 1) := dk_28 (dk_at dksX7_read_2_0 10 rfl rfl)
theorem dX7_read_2_11 : decode cX7_read_2 11 = .ok (.iconst (-1), 1) := dk_2 (dk_at dksX7_read_2_0 11 rfl rfl)
theorem dX7_read_2_12 : decode cX7_read_2 12 = .ok (.if_icmp .eq 7, 3) := dk_159 0 7 (dk_at dksX7_read_2_0 12 rfl rfl)
theorem dX7_read_2_15 : decode cX7_read_2 15 = .ok (.iconst 1, 1) := dk_4 (dk_at dksX7_read_2_0 15 rfl rfl)
theorem dX7_read_2_16 : decode cX7_read_2 16 = .ok (.goto 4, 3) := dk_167 0 4 (dk_at dksX7_read_2_0 16 rfl rfl)
theorem dX7_read_2_19 : decode cX7_read_2 19 = .ok (.iconst 0, 1) := dk_3 (dk_at dksX7_read_2_0 19 rfl rfl)
theorem dX7_read_2_20 : decode cX7_read_2 20 = .ok (.invokevirtual 74, 3) := dk_182 0 74 (dk_at dksX7_read_2_0 20 rfl rfl)
theorem dX7_read_2_23 : decode cX7_read_2 23 = .ok (.aload_n 0, 1) := dk_42 (dk_at dksX7_read_2_0 23 rfl rfl)
theorem dX7_read_2_24 : decode cX7_read_2 24 = .ok (.invokevirtual 78, 3) := dk_182 0 78 (dk_at dksX7_read_2_1 0 rfl rfl)
theorem dX7_read_2_27 : decode cX7_read_2 27 = .ok (.iload_n 2, 1) := dk_28 (dk_at dksX7_read_2_1 3 rfl rfl)
theorem dX7_read_2_28 : decode cX7_read_2 28 = .ok (.iconst 3, 1) := dk_6 (dk_at dksX7_read_2_1 4 rfl rfl)
theorem dX7_read_2_29 : decode cX7_read_2 29 = .ok (.if_icmp .ge 10, 3) := dk_162 0 10 (dk_at dksX7_read_2_1 5 rfl rfl)
theorem dX7_read_2_32 : decode cX7_read_2 32 = .ok (.aload_n 0, 1) := dk_42 (dk_at dksX7_read_2_1 8 rfl rfl)
theorem dX7_read_2_33 : decode cX7_read_2 33 = .ok (.invokevirtual 82, 3) := dk_182 0 82 (dk_at dksX7_read_2_1 9 rfl rfl)
theorem dX7_read_2_36 : decode cX7_read_2 36 = .ok (.goto 4, 3) := dk_167 0 4 (dk_at dksX7_read_2_1 12 rfl rfl)
theorem dX7_read_2_39 : decode cX7_read_2 39 = .ok (.aconst_null, 1) := dk_1 (dk_at dksX7_read_2_1 15 rfl rfl)
theorem dX7_read_2_40 : decode cX7_read_2 40 = .ok (.astore_n 3, 1) := dk_78 (dk_at dksX7_read_2_1 16 rfl rfl)
theorem dX7_read_2_41 : decode cX7_read_2 41 = .ok (.aload_n 0, 1) := dk_42 (dk_at dksX7_read_2_1 17 rfl rfl)
theorem dX7_read_2_42 : decode cX7_read_2 42 = .ok (.getfield 39, 3) := dk_180 0 39 (dk_at dksX7_read_2_1 18 rfl rfl)
theorem dX7_read_2_45 : decode cX7_read_2 45 = .ok (.iload_n 1, 1) := dk_27 (dk_at dksX7_read_2_1 21 rfl rfl)
theorem dX7_read_2_46 : decode cX7_read_2 46 = .ok (.new 37, 3) := dk_187 0 37 (dk_at dksX7_read_2_2 0 rfl rfl)
theorem dX7_read_2_49 : decode cX7_read_2 49 = .ok (.dup, 1) := dk_89 (dk_at dksX7_read_2_2 3 rfl rfl)
theorem dX7_read_2_50 : decode cX7_read_2 50 = .ok (.iload_n 2, 1) := dk_28 (dk_at dksX7_read_2_2 4 rfl rfl)
theorem dX7_read_2_51 : decode cX7_read_2 51 = .ok (.aload_n 3, 1) := dk_45 (dk_at dksX7_read_2_2 5 rfl rfl)
theorem dX7_read_2_52 : decode cX7_read_2 52 = .ok (.aload_n 0, 1) := dk_42 (dk_at dksX7_read_2_2 6 rfl rfl)
theorem dX7_read_2_53 : decode cX7_read_2 53 = .ok (.ldc 86, 2) := dk_18 86 (dk_at dksX7_read_2_2 7 rfl rfl)
theorem dX7_read_2_55 : decode cX7_read_2 55 = .ok (.invokevirtual 88, 3) := dk_182 0 88 (dk_at dksX7_read_2_2 9 rfl rfl)
theorem dX7_read_2_58 : decode cX7_read_2 58 = .ok (.ifCond .eq 10, 3) := dk_153 0 10 (dk_at dksX7_read_2_2 12 rfl rfl)
theorem dX7_read_2_61 : decode cX7_read_2 61 = .ok (.aload_n 0, 1) := dk_42 (dk_at dksX7_read_2_2 15 rfl rfl)
theorem dX7_read_2_62 : decode cX7_read_2 62 = .ok (.invokevirtual 92, 3) := dk_182 0 92 (dk_at dksX7_read_2_2 16 rfl rfl)
theorem dX7_read_2_65 : decode cX7_read_2 65 = .ok (.goto 4, 3) := dk_167 0 4 (dk_at dksX7_read_2_2 19 rfl rfl)
theorem dX7_read_2_68 : decode cX7_read_2 68 = .ok (.aconst_null, 1) := dk_1 (dk_at dksX7_read_2_2 22 rfl rfl)
theorem dX7_read_2_69 : decode cX7_read_2 69 = .ok (.invokespecial 96, 3) := dk_183 0 96 (dk_at dksX7_read_2_3 0 rfl rfl)
theorem dX7_read_2_72 : decode cX7_read_2 72 = .ok (.aastore, 1) := dk_83 (dk_at dksX7_read_2_3 3 rfl rfl)
theorem dX7_read_2_73 : decode cX7_read_2 73 = .ok (.return_, 1) := dk_177 (dk_at dksX7_read_2_3 4 rfl rfl)
noncomputable def f_X7_read_2_69 (E : ax_E) (s0 : Option Nat) (s1 : Int) (s2 : Option Nat) (s3 : Option Nat) (s4 : Int) (s5 : Option Nat) (s6 : Option Nat) (h : ax_H) : Option ((Nat × ax_H) ⊕ (ax_H)) :=
  s3.bind fun _ => (f_X15_init E s3 s4 s5 s6 h).bind fun h1 =>
  (ax_stR E oj_106 h1 s0 106 s1 s2).bind fun h2 =>
  some (.inr h2)
noncomputable def f_X7_read_2_40 (E : ax_E) (x0 : Option Nat) (x1 : Int) (x2 : Int) (s0 : Option Nat) (h : ax_H) : Option ((Nat × ax_H) ⊕ (ax_H)) :=
  (ax_gR E h x0 7 8).bind fun v1 =>
  (ax_nw E h 15 0 4).bind fun q2 =>
  (ax_cst E 24).bind fun v3 =>
  (ax_dp E q2.2 x0 fun t => if t = 7 then f_X6_accept E x0 v3 q2.2 else none).bind fun q4 =>
  if i2 q4.1 = 0 then
    f_X7_read_2_69 E v1 x1 (some q2.1) (some q2.1) x2 s0 none q4.2
  else
    ax_tc (fun z6 => some (.inl z6)) (ax_dp E q4.2 x0 fun t => if t = 7 then fn_X6_test E 64 x0 q4.2 else none) fun q5 =>
    f_X7_read_2_69 E v1 x1 (some q2.1) (some q2.1) x2 s0 q5.1 q5.2
noncomputable def f_X7_read_2_20 (E : ax_E) (x0 : Option Nat) (x1 : Int) (x2 : Int) (s0 : Option Nat) (s1 : Int) (h : ax_H) : Option ((Nat × ax_H) ⊕ (ax_H)) :=
  ax_tc (fun z2 => some (.inl z2)) (ax_dp E h s0 fun t => if t = 7 then f_X6_must E s0 s1 h else none) fun h1 =>
  (ax_dp E h1 x0 fun t => if t = 7 then f_X6_next E x0 h1 else none).bind fun h3 =>
  if i2 x2 < i2 3 then
    ax_tc (fun z5 => some (.inl z5)) (ax_dp E h3 x0 fun t => if t = 7 then fn_X6_sum E 64 x0 h3 else none) fun q4 =>
    f_X7_read_2_40 E x0 x1 x2 q4.1 q4.2
  else
    f_X7_read_2_40 E x0 x1 x2 none h3
noncomputable def f_X7_read_2 (E : ax_E) (x0 : Option Nat) (x1 : Int) (h : ax_H) : Option ((Nat × ax_H) ⊕ (ax_H)) :=
  (ax_gR E h x0 7 9).bind fun v1 =>
  (ax_dp E h x0 fun t => if t = 7 then f_X6_which E x0 v1 h else none).bind fun q2 =>
  if i2 q2.1 = i2 (-1) then
    f_X7_read_2_20 E x0 x1 q2.1 x0 0 q2.2
  else
    f_X7_read_2_20 E x0 x1 q2.1 x0 1 q2.2
set_option maxHeartbeats 4000000 in
theorem w_X7_read_2_69 {l : Launch} {G : ax_G} {X : ax_X} {Q : State → Prop} {h0 h : ax_H} {ls : Array Slot} (hSF : ax_SF G) (B : ax_BL l G X cX7_read_2 4 RX7 138 3177) (Z : ax_Z X h0 none) (hn : X.2.2.2.2.2.2.2.2.1.name = yX7_read_2.name) (hT : ∀ x ∈ ax_tb X, False) (s0 : Option Nat) (s1 : Int) (s2 : Option Nat) (s3 : Option Nat) (s4 : Int) (s5 : Option Nat) (s6 : Option Nat) {w : (Nat × ax_H) ⊕ (ax_H)} (hl : ax_hl ls 4 []) (e : f_X7_read_2_69 G.2.2 s0 s1 s2 s3 s4 s5 s6 h = some w) (hp : (fun w : (Nat × ax_H) ⊕ (ax_H) => Q = ax_QX G X "DebtDoors$Wrong" h0 (ax_zV w)) w) : ax_W G X Q h 69 ls [va_rf s6, va_rf s5, .int (Int32.ofInt s4), va_rf s3, va_rf s2, .int (Int32.ofInt s1), va_rf s0] := by
  unfold f_X7_read_2_69 at e
  refine ax_iiR (y := yX15_init) (n := 3) (As := [.int (Int32.ofInt s4), va_rf s5, va_rf s6]) B q1112 q1113 q155 q1114 rfl (by decide +kernel) ⟨Nat.le_of_ble_eq_true rfl, Nat.le_of_ble_eq_true rfl⟩ (fun w1 e1 => mt_X15_init l G hSF s3 s4 s5 s6 _ w1 e1) rfl hl.size (by simp only [List.map_cons, List.map_nil, List.sum_cons, List.sum_nil, va_rf_cat, ax_catI, ax_catL]; decide) dX7_read_2_69 e (fun h1 e => ?_)
  refine ax_aast B kd106 (ok_106 B) dX7_read_2_72 e (fun h2 e => ?_)
  cases e
  have hp : Q = _ := hp
  subst hp
  exact ax_retX (ax_return B Z dX7_read_2_73 rfl)
set_option maxHeartbeats 4000000 in
theorem w_X7_read_2_40 {l : Launch} {G : ax_G} {X : ax_X} {Q : State → Prop} {h0 h : ax_H} {ls : Array Slot} (hSF : ax_SF G) (B : ax_BL l G X cX7_read_2 4 RX7 138 3177) (Z : ax_Z X h0 none) (hn : X.2.2.2.2.2.2.2.2.1.name = yX7_read_2.name) (hT : ∀ x ∈ ax_tb X, False) (x0 : Option Nat) (x1 : Int) (x2 : Int) (s0 : Option Nat) {w : (Nat × ax_H) ⊕ (ax_H)} (hl : ax_hl ls 4 [(0, .inr (.inr x0)), (1, .inl x1), (2, .inl x2)]) (e : f_X7_read_2_40 G.2.2 x0 x1 x2 s0 h = some w) (hp : (fun w : (Nat × ax_H) ⊕ (ax_H) => Q = ax_QX G X "DebtDoors$Wrong" h0 (ax_zV w)) w) : ax_W G X Q h 40 ls [va_rf s0] := by
  unfold f_X7_read_2_40 at e
  refine ax_astore_n (L' := [(3, .inr (.inr s0)), (0, .inr (.inr x0)), (1, .inl x1), (2, .inl x2)]) B dX7_read_2_40 rfl hl (by decide) rfl (fun ls hl => ?_)
  refine ax_aload_n B dX7_read_2_41 rfl hl 1 rfl ?_
  refine ax_getR B ff_X7_39_7 (fun _ _ => rfl) dX7_read_2_42 e (fun v1 e => ?_)
  refine ax_iload_n B dX7_read_2_45 rfl hl 2 rfl ?_
  refine ax_new B kd15 in_X15 tyX15_ok (fun k hk => ax_dv _ (dfX15 k hk)) q736 q1032 q155 dX7_read_2_46 e (fun q2 e => ?_)
  refine ax_dup B dX7_read_2_49 (va_rf_cat _) ?_
  refine ax_iload_n B dX7_read_2_50 rfl hl 3 rfl ?_
  refine ax_aload_n B dX7_read_2_51 rfl hl 0 rfl ?_
  refine ax_aload_n B dX7_read_2_52 rfl hl 1 rfl ?_
  refine ax_ldcS (j := 14) B (List.mem_of_getElem? (i := 14) rfl) dX7_read_2_53 e (fun v3 e => ?_)
  refine ax_iwI (x := ⟨"DebtDoors$LawReader", "accept", "(Ljava/lang/String;)Z"⟩) (n := 1) (As := [va_rf v3]) B (fun w1 e1 => ?_) rfl hl.size (by simp only [List.map_cons, List.map_nil, List.sum_cons, List.sum_nil, va_rf_cat, ax_catI, ax_catL]; decide) dX7_read_2_55 e (fun q4 e => ?_)
  · obtain ⟨t, c, e2, e1⟩ := ax_dp_spec e1
    rcases ax_ite e1 with ⟨hk, e1⟩ | ⟨-, e1⟩
    · subst hk
      exact ax_cal B kd7 e2 q1034 q1035 (ax_dcD B q1036) (B.2.1.2.2.2.2 _ q1037) q929 q144 q933 (by decide +kernel) ⟨Nat.le_of_ble_eq_true rfl, Nat.le_of_ble_eq_true rfl⟩ (mt_X6_accept l G hSF x0 v3 _ w1 e1)
    cases e1
  refine ax_if_eq (tgt := 68) B dX7_read_2_58 (by decide) e (fun e => ?_) (fun e => ?_)
  · refine ax_null B dX7_read_2_68 ?_
    exact w_X7_read_2_69 hSF B Z hn hT v1 x1 (some q2.1) (some q2.1) x2 s0 none (hl.sub [] rfl) e hp
  · refine ax_aload_n B dX7_read_2_61 rfl hl 1 rfl ?_
    refine ax_xwR (Ex := "DebtDoors$Wrong") (x := ⟨"DebtDoors$LawReader", "test", "()LDebtDoors$Test;"⟩) (n := 0) (As := []) B (fun w1 e1 => ?_) rfl hl.size (by simp only [List.map_cons, List.map_nil, List.sum_cons, List.sum_nil, va_rf_cat, ax_catI, ax_catL]; decide) dX7_read_2_62 e (fun z6 e => ?_) (fun q5 e => ?_)
    · obtain ⟨t, c, e2, e1⟩ := ax_dp_spec e1
      rcases ax_ite e1 with ⟨hk, e1⟩ | ⟨-, e1⟩
      · subst hk
        exact ax_calX B kd7 e2 q1038 (B.2.1.2.2.2.2 _ q1039) (ax_dcD B q1040) (B.2.1.2.2.2.2 _ q1041) q1042 q144 q1043 (by decide +kernel) ⟨Nat.le_of_ble_eq_true rfl, Nat.le_of_ble_eq_true rfl⟩ (mf_X6_test l G hSF 64 x0 _ w1 e1)
      cases e1
    · cases e
      have hp : Q = ax_QX G X "DebtDoors$Wrong" h0 (.inl z6) := hp
      subst hp
      exact ax_outX B Z (fun z hz => (hT z hz).elim)
    refine ax_goto (tgt := 69) B dX7_read_2_65 (by decide) ?_
    exact w_X7_read_2_69 hSF B Z hn hT v1 x1 (some q2.1) (some q2.1) x2 s0 q5.1 (hl.sub [] rfl) e hp
set_option maxHeartbeats 4000000 in
theorem w_X7_read_2_20 {l : Launch} {G : ax_G} {X : ax_X} {Q : State → Prop} {h0 h : ax_H} {ls : Array Slot} (hSF : ax_SF G) (B : ax_BL l G X cX7_read_2 4 RX7 138 3177) (Z : ax_Z X h0 none) (hn : X.2.2.2.2.2.2.2.2.1.name = yX7_read_2.name) (hT : ∀ x ∈ ax_tb X, False) (x0 : Option Nat) (x1 : Int) (x2 : Int) (s0 : Option Nat) (s1 : Int) {w : (Nat × ax_H) ⊕ (ax_H)} (hl : ax_hl ls 4 [(0, .inr (.inr x0)), (1, .inl x1), (2, .inl x2)]) (e : f_X7_read_2_20 G.2.2 x0 x1 x2 s0 s1 h = some w) (hp : (fun w : (Nat × ax_H) ⊕ (ax_H) => Q = ax_QX G X "DebtDoors$Wrong" h0 (ax_zV w)) w) : ax_W G X Q h 20 ls [.int (Int32.ofInt s1), va_rf s0] := by
  unfold f_X7_read_2_20 at e
  refine ax_xwV (Ex := "DebtDoors$Wrong") (x := ⟨"DebtDoors$LawReader", "must", "(Z)V"⟩) (n := 1) (As := [.int (Int32.ofInt s1)]) B (fun w1 e1 => ?_) rfl hl.size (by decide) dX7_read_2_20 e (fun z2 e => ?_) (fun h1 e => ?_)
  · obtain ⟨t, c, e2, e1⟩ := ax_dp_spec e1
    rcases ax_ite e1 with ⟨hk, e1⟩ | ⟨-, e1⟩
    · subst hk
      exact ax_calX B kd7 e2 q895 (B.2.1.2.2.2.2 _ q896) (ax_dcD B q897) (B.2.1.2.2.2.2 _ q898) q802 q144 q806 (by decide +kernel) ⟨Nat.le_of_ble_eq_true rfl, Nat.le_of_ble_eq_true rfl⟩ (mt_X6_must l G hSF s0 s1 _ w1 e1)
    cases e1
  · cases e
    have hp : Q = ax_QX G X "DebtDoors$Wrong" h0 (.inl z2) := hp
    subst hp
    exact ax_outX B Z (fun z hz => (hT z hz).elim)
  refine ax_aload_n B dX7_read_2_23 rfl hl 0 rfl ?_
  refine ax_iwV (x := ⟨"DebtDoors$LawReader", "next", "()V"⟩) (n := 0) (As := []) B (fun w1 e1 => ?_) rfl hl.size (by decide) dX7_read_2_24 e (fun h3 e => ?_)
  · obtain ⟨t, c, e2, e1⟩ := ax_dp_spec e1
    rcases ax_ite e1 with ⟨hk, e1⟩ | ⟨-, e1⟩
    · subst hk
      exact ax_cal B kd7 e2 q899 q900 (ax_dcD B q901) (B.2.1.2.2.2.2 _ q902) q790 q144 q794 (by decide +kernel) ⟨Nat.le_of_ble_eq_true rfl, Nat.le_of_ble_eq_true rfl⟩ (mt_X6_next l G hSF x0 _ w1 e1)
    cases e1
  refine ax_iload_n B dX7_read_2_27 rfl hl 2 rfl ?_
  refine ax_iconst B dX7_read_2_28 ?_
  refine ax_icmp_ge (tgt := 39) B dX7_read_2_29 (by decide) e (fun e => ?_) (fun e => ?_)
  · refine ax_aload_n B dX7_read_2_32 rfl hl 0 rfl ?_
    refine ax_xwR (Ex := "DebtDoors$Wrong") (x := ⟨"DebtDoors$LawReader", "sum", "()LDebtDoors$Sum;"⟩) (n := 0) (As := []) B (fun w1 e1 => ?_) rfl hl.size (by decide) dX7_read_2_33 e (fun z5 e => ?_) (fun q4 e => ?_)
    · obtain ⟨t, c, e2, e1⟩ := ax_dp_spec e1
      rcases ax_ite e1 with ⟨hk, e1⟩ | ⟨-, e1⟩
      · subst hk
        exact ax_calX B kd7 e2 q903 (B.2.1.2.2.2.2 _ q904) (ax_dcD B q905) (B.2.1.2.2.2.2 _ q906) q907 q144 q908 (by decide +kernel) ⟨Nat.le_of_ble_eq_true rfl, Nat.le_of_ble_eq_true rfl⟩ (mf_X6_sum l G hSF 64 x0 _ w1 e1)
      cases e1
    · cases e
      have hp : Q = ax_QX G X "DebtDoors$Wrong" h0 (.inl z5) := hp
      subst hp
      exact ax_outX B Z (fun z hz => (hT z hz).elim)
    refine ax_goto (tgt := 40) B dX7_read_2_36 (by decide) ?_
    exact w_X7_read_2_40 hSF B Z hn hT x0 x1 x2 q4.1 (hl.sub [0, 1, 2] rfl) e hp
  · refine ax_null B dX7_read_2_39 ?_
    exact w_X7_read_2_40 hSF B Z hn hT x0 x1 x2 none (hl.sub [0, 1, 2] rfl) e hp
set_option maxHeartbeats 4000000 in
theorem we_X7_read_2 {l : Launch} {G : ax_G} {X : ax_X} {Q : State → Prop} {h0 h : ax_H} {ls : Array Slot} (hSF : ax_SF G) (B : ax_BL l G X cX7_read_2 4 RX7 138 3177) (Z : ax_Z X h0 none) (hn : X.2.2.2.2.2.2.2.2.1.name = yX7_read_2.name) (hT : ∀ x ∈ ax_tb X, False) (x0 : Option Nat) (x1 : Int) {w : (Nat × ax_H) ⊕ (ax_H)} (hl : ax_hl ls 4 [(0, .inr (.inr x0)), (1, .inl x1)]) (e : f_X7_read_2 G.2.2 x0 x1 h = some w) (hp : (fun w : (Nat × ax_H) ⊕ (ax_H) => Q = ax_QX G X "DebtDoors$Wrong" h0 (ax_zV w)) w) : ax_W G X Q h 0 ls [] := by
  unfold f_X7_read_2 at e
  refine ax_aload_n B dX7_read_2_0 rfl hl 0 rfl ?_
  refine ax_aload_n B dX7_read_2_1 rfl hl 0 rfl ?_
  refine ax_getR B ff_X7_51_7 (fun _ _ => rfl) dX7_read_2_2 e (fun v1 e => ?_)
  refine ax_iwI (x := ⟨"DebtDoors$LawReader", "which", "([Ljava/lang/String;)I"⟩) (n := 1) (As := [va_rf v1]) B (fun w1 e1 => ?_) rfl hl.size (by decide) dX7_read_2_5 e (fun q2 e => ?_)
  · obtain ⟨t, c, e2, e1⟩ := ax_dp_spec e1
    rcases ax_ite e1 with ⟨hk, e1⟩ | ⟨-, e1⟩
    · subst hk
      exact ax_cal B kd7 e2 q837 q838 (ax_dcD B q839) (B.2.1.2.2.2.2 _ q840) q841 q144 q842 (by decide +kernel) ⟨Nat.le_of_ble_eq_true rfl, Nat.le_of_ble_eq_true rfl⟩ (mt_X6_which l G hSF x0 v1 _ w1 e1)
    cases e1
  refine ax_istore_n (L' := [(2, .inl q2.1), (0, .inr (.inr x0)), (1, .inl x1)]) B dX7_read_2_8 rfl hl (by decide) rfl (fun ls hl => ?_)
  refine ax_aload_n B dX7_read_2_9 rfl hl 1 rfl ?_
  refine ax_iload_n B dX7_read_2_10 rfl hl 0 rfl ?_
  refine ax_iconst B dX7_read_2_11 ?_
  refine ax_icmp_eq (tgt := 19) B dX7_read_2_12 (by decide) e (fun e => ?_) (fun e => ?_)
  · refine ax_iconst B dX7_read_2_19 ?_
    exact w_X7_read_2_20 hSF B Z hn hT x0 x1 q2.1 x0 0 (hl.sub [1, 2, 0] rfl) e hp
  · refine ax_iconst B dX7_read_2_15 ?_
    refine ax_goto (tgt := 20) B dX7_read_2_16 (by decide) ?_
    exact w_X7_read_2_20 hSF B Z hn hT x0 x1 q2.1 x0 1 (hl.sub [1, 2, 0] rfl) e hp
theorem mt_X7_read_2 (l : Launch) (G : ax_G) (hSF : ax_SF G) (x0 : Option Nat) (x1 : Int) (h : ax_H) (w : (Nat × ax_H) ⊕ (ax_H)) (e : f_X7_read_2 G.2.2 x0 x1 h = some w) : ax_MetX l G "DebtDoors$Wrong" yX7_read_2 cX7_read_2 4 none 138 3177 [va_rf x0, .int (Int32.ofInt x1)] h (ax_zV w) :=
  ax_enterX [.inr (.inr x0), .inl x1] (y := yX7_read_2) hSF (plainFor_of_name (by decide +kernel)) (Nat.le_of_ble_eq_true rfl) (fun X ls B Z hn hT hl => we_X7_read_2 hSF B Z hn hT x0 x1 hl e rfl)
def dkwX6_readAll_2 : List UInt8 := [180, 0, 46, 160, 0, 7, 4, 167, 0, 4, 3, 182, 0, 28, 27, 172]
abbrev dktX6_readAll_2 : List UInt8 := dkwX6_readAll_2 ++ []
def dkwX6_readAll_1 : List UInt8 := [182, 0, 32, 132, 1, 1, 42, 18, 36, 182, 0, 38, 154, 255, 227, 42, 42, 180, 0, 42, 42, 180, 0, 3]
abbrev dktX6_readAll_1 : List UInt8 := dkwX6_readAll_1 ++ dktX6_readAll_2
def dkwX6_readAll_0 : List UInt8 := [3, 60, 42, 182, 0, 25, 42, 27, 16, 12, 162, 0, 7, 4, 167, 0, 4, 3, 182, 0, 28, 42, 27]
abbrev dktX6_readAll_0 : List UInt8 := dkwX6_readAll_0 ++ dktX6_readAll_1
theorem dksX6_readAll_0 : cX6_readAll.data.toList.drop 0 = dktX6_readAll_0 := by decide +kernel
theorem dksX6_readAll_1 : cX6_readAll.data.toList.drop 23 = dktX6_readAll_1 := dk_seg dksX6_readAll_0 23 rfl rfl
theorem dksX6_readAll_2 : cX6_readAll.data.toList.drop 47 = dktX6_readAll_2 := dk_seg dksX6_readAll_1 24 rfl rfl
theorem dX6_readAll_0 : decode cX6_readAll 0 = .ok (.iconst 0, 1) := dk_3 (dk_at dksX6_readAll_0 0 rfl rfl)
theorem dX6_readAll_1 : decode cX6_readAll 1 = .ok (.istore_n 1, 1) := dk_60 (dk_at dksX6_readAll_0 1 rfl rfl)
theorem dX6_readAll_2 : decode cX6_readAll 2 = .ok (.aload_n 0, 1) := dk_42 (dk_at dksX6_readAll_0 2 rfl rfl)
theorem dX6_readAll_3 : decode cX6_readAll 3 = .ok (.invokevirtual 25, 3) := dk_182 0 25 (dk_at dksX6_readAll_0 3 rfl rfl)
theorem dX6_readAll_6 : decode cX6_readAll 6 = .ok (.aload_n 0, 1) := dk_42 (dk_at dksX6_readAll_0 6 rfl rfl)
theorem dX6_readAll_7 : decode cX6_readAll 7 = .ok (.iload_n 1, 1) := dk_27 (dk_at dksX6_readAll_0 7 rfl rfl)
theorem dX6_readAll_8 : decode cX6_readAll 8 = .ok (.bipush 12, 2) := dk_16 12 (dk_at dksX6_readAll_0 8 rfl rfl)
theorem dX6_readAll_10 : decode cX6_readAll 10 = .ok (.if_icmp .ge 7, 3) := dk_162 0 7 (dk_at dksX6_readAll_0 10 rfl rfl)
theorem dX6_readAll_13 : decode cX6_readAll 13 = .ok (.iconst 1, 1) := dk_4 (dk_at dksX6_readAll_0 13 rfl rfl)
theorem dX6_readAll_14 : decode cX6_readAll 14 = .ok (.goto 4, 3) := dk_167 0 4 (dk_at dksX6_readAll_0 14 rfl rfl)
theorem dX6_readAll_17 : decode cX6_readAll 17 = .ok (.iconst 0, 1) := dk_3 (dk_at dksX6_readAll_0 17 rfl rfl)
theorem dX6_readAll_18 : decode cX6_readAll 18 = .ok (.invokevirtual 28, 3) := dk_182 0 28 (dk_at dksX6_readAll_0 18 rfl rfl)
theorem dX6_readAll_21 : decode cX6_readAll 21 = .ok (.aload_n 0, 1) := dk_42 (dk_at dksX6_readAll_0 21 rfl rfl)
theorem dX6_readAll_22 : decode cX6_readAll 22 = .ok (.iload_n 1, 1) := dk_27 (dk_at dksX6_readAll_0 22 rfl rfl)
theorem dX6_readAll_23 : decode cX6_readAll 23 = .ok (.invokevirtual 32, 3) := dk_182 0 32 (dk_at dksX6_readAll_1 0 rfl rfl)
theorem dX6_readAll_26 : decode cX6_readAll 26 = .ok (.iinc 1 1, 3) := dk_132 1 1 (dk_at dksX6_readAll_1 3 rfl rfl)
theorem dX6_readAll_29 : decode cX6_readAll 29 = .ok (.aload_n 0, 1) := dk_42 (dk_at dksX6_readAll_1 6 rfl rfl)
theorem dX6_readAll_30 : decode cX6_readAll 30 = .ok (.ldc 36, 2) := dk_18 36 (dk_at dksX6_readAll_1 7 rfl rfl)
theorem dX6_readAll_32 : decode cX6_readAll 32 = .ok (.invokevirtual 38, 3) := dk_182 0 38 (dk_at dksX6_readAll_1 9 rfl rfl)
theorem dX6_readAll_35 : decode cX6_readAll 35 = .ok (.ifCond .ne (-29), 3) := dk_154 255 227 (dk_at dksX6_readAll_1 12 rfl rfl)
theorem dX6_readAll_38 : decode cX6_readAll 38 = .ok (.aload_n 0, 1) := dk_42 (dk_at dksX6_readAll_1 15 rfl rfl)
theorem dX6_readAll_39 : decode cX6_readAll 39 = .ok (.aload_n 0, 1) := dk_42 (dk_at dksX6_readAll_1 16 rfl rfl)
theorem dX6_readAll_40 : decode cX6_readAll 40 = .ok (.getfield 42, 3) := dk_180 0 42 (dk_at dksX6_readAll_1 17 rfl rfl)
theorem dX6_readAll_43 : decode cX6_readAll 43 = .ok (.aload_n 0, 1) := dk_42 (dk_at dksX6_readAll_1 20 rfl rfl)
theorem dX6_readAll_44 : decode cX6_readAll 44 = .ok (.getfield 3, 3) := dk_180 0 3 (dk_at dksX6_readAll_1 21 rfl rfl)
theorem dX6_readAll_47 : decode cX6_readAll 47 = .ok (.getfield 46, 3) := dk_180 0 46 (dk_at dksX6_readAll_2 0 rfl rfl)
theorem dX6_readAll_50 : decode cX6_readAll 50 = .ok (.if_icmp .ne 7, 3) := dk_160 0 7 (dk_at dksX6_readAll_2 3 rfl rfl)
theorem dX6_readAll_53 : decode cX6_readAll 53 = .ok (.iconst 1, 1) := dk_4 (dk_at dksX6_readAll_2 6 rfl rfl)
theorem dX6_readAll_54 : decode cX6_readAll 54 = .ok (.goto 4, 3) := dk_167 0 4 (dk_at dksX6_readAll_2 7 rfl rfl)
theorem dX6_readAll_57 : decode cX6_readAll 57 = .ok (.iconst 0, 1) := dk_3 (dk_at dksX6_readAll_2 10 rfl rfl)
theorem dX6_readAll_58 : decode cX6_readAll 58 = .ok (.invokevirtual 28, 3) := dk_182 0 28 (dk_at dksX6_readAll_2 11 rfl rfl)
theorem dX6_readAll_61 : decode cX6_readAll 61 = .ok (.iload_n 1, 1) := dk_27 (dk_at dksX6_readAll_2 14 rfl rfl)
theorem dX6_readAll_62 : decode cX6_readAll 62 = .ok (.ireturn, 1) := dk_172 (dk_at dksX6_readAll_2 15 rfl rfl)
noncomputable def f_X6_readAll_58 (E : ax_E) (x1 : Int) (s0 : Option Nat) (s1 : Int) (h : ax_H) : Option ((Nat × ax_H) ⊕ (Int × ax_H)) :=
  ax_tc (fun z2 => some (.inl z2)) (ax_dp E h s0 fun t => if t = 25 ∨ t = 7 then f_X6_must E s0 s1 h else none) fun h1 =>
  some (.inr (x1, h1))
noncomputable def f_X6_readAll_18 (E : ax_E) (x0 : Option Nat) (x1 : Int) (s0 : Option Nat) (s1 : Int) (h : ax_H) : Option ((Int × ax_H) ⊕ ((Nat × ax_H) ⊕ (Int × ax_H))) :=
  ax_tc (fun z2 => some (.inr (.inl z2))) (ax_dp E h s0 fun t => if t = 25 ∨ t = 7 then f_X6_must E s0 s1 h else none) fun h1 =>
  ax_tc (fun z4 => some (.inr (.inl z4))) (ax_dp E h1 x0 fun t => if t = 25 then f_X25_read E x0 x1 h1 else if t = 7 then f_X7_read_2 E x0 x1 h1 else none) fun h3 =>
  (ax_cst E 38).bind fun v5 =>
  (ax_dp E h3 x0 fun t => if t = 25 ∨ t = 7 then f_X6_accept E x0 v5 h3 else none).bind fun q6 =>
  if i2 q6.1 = 0 then
    ((ax_gIs E q6.2 x0 [(25, 0), (7, 0)]).bind fun v7 =>
    (ax_gRs E q6.2 x0 [(25, 7), (7, 7)]).bind fun v8 =>
    (ax_gI E q6.2 v8 0 12).bind fun v9 =>
    if i2 v7 = i2 v9 then
      f_X6_readAll_58 E (x1 + 1) x0 1 q6.2
    else
      f_X6_readAll_58 E (x1 + 1) x0 0 q6.2).map Sum.inr
  else
    some (.inl ((x1 + 1), q6.2))
noncomputable def lb_X6_readAll_6 (E : ax_E) (x0 : Option Nat) (x1 : Int) (h : ax_H) : Option ((Int × ax_H) ⊕ ((Nat × ax_H) ⊕ (Int × ax_H))) :=
  if i2 x1 < i2 12 then
    f_X6_readAll_18 E x0 x1 x0 1 h
  else
    f_X6_readAll_18 E x0 x1 x0 0 h
noncomputable def f_X6_readAll_6 (E : ax_E) (x0 : Option Nat) (x1 : Int) (h : ax_H) : Option ((Nat × ax_H) ⊕ (Int × ax_H)) :=
  ax_iter (fun s : Int × ax_H => lb_X6_readAll_6 E x0 s.1 s.2) (x1, h)
noncomputable def f_X6_readAll (E : ax_E) (x0 : Option Nat) (h : ax_H) : Option ((Nat × ax_H) ⊕ (Int × ax_H)) :=
  (ax_dp E h x0 fun t => if t = 25 ∨ t = 7 then f_X6_next E x0 h else none).bind fun h1 =>
  f_X6_readAll_6 E x0 0 h1
def pi_X6_readAll_6 (G : ax_G) (X : ax_X) (Q : State → Prop) (x0 : Option Nat) : Int × ax_H → Prop := fun s => ∀ ls : Array Slot, ax_hl ls 2 [(0, .inr (.inr x0)), (1, .inl s.1)] → ax_W G X Q s.2 6 ls []
set_option maxHeartbeats 4000000 in
theorem w_X6_readAll_58 {l : Launch} {G : ax_G} {X : ax_X} {Q : State → Prop} {h0 h : ax_H} {ls : Array Slot} (hSF : ax_SF G) (B : ax_BL l G X cX6_readAll 2 RX6 139 3200) (Z : ax_Z X h0 ((some FieldType.int))) (hn : X.2.2.2.2.2.2.2.2.1.name = yX6_readAll.name) (hT : ∀ x ∈ ax_tb X, False) (x1 : Int) (s0 : Option Nat) (s1 : Int) {w : (Nat × ax_H) ⊕ (Int × ax_H)} (hl : ax_hl ls 2 [(1, .inl x1)]) (e : f_X6_readAll_58 G.2.2 x1 s0 s1 h = some w) (hp : (fun w : (Nat × ax_H) ⊕ (Int × ax_H) => Q = ax_QX G X "DebtDoors$Wrong" h0 (ax_zI w)) w) : ax_W G X Q h 58 ls [.int (Int32.ofInt s1), va_rf s0] := by
  unfold f_X6_readAll_58 at e
  refine ax_xwV (Ex := "DebtDoors$Wrong") (x := ⟨"DebtDoors$Reader", "must", "(Z)V"⟩) (n := 1) (As := [.int (Int32.ofInt s1)]) B (fun w1 e1 => ?_) rfl hl.size (by decide) dX6_readAll_58 e (fun z2 e => ?_) (fun h1 e => ?_)
  · obtain ⟨t, c, e2, e1⟩ := ax_dp_spec e1
    rcases ax_ite e1 with ⟨hk, e1⟩ | ⟨-, e1⟩
    · rcases hk with rfl | rfl
      · exact ax_calX B kd25 e2 q801 (B.2.1.2.2.2.2 _ q803) (ax_dcD B q897) (B.2.1.2.2.2.2 _ q805) q802 q144 q806 (by decide +kernel) ⟨Nat.le_of_ble_eq_true rfl, Nat.le_of_ble_eq_true rfl⟩ (mt_X6_must l G hSF s0 s1 _ w1 e1)
      · exact ax_calX B kd7 e2 q801 (B.2.1.2.2.2.2 _ q803) (ax_dcD B q897) (B.2.1.2.2.2.2 _ q804) q802 q144 q806 (by decide +kernel) ⟨Nat.le_of_ble_eq_true rfl, Nat.le_of_ble_eq_true rfl⟩ (mt_X6_must l G hSF s0 s1 _ w1 e1)
    cases e1
  · cases e
    have hp : Q = ax_QX G X "DebtDoors$Wrong" h0 (.inl z2) := hp
    subst hp
    exact ax_outX B Z (fun z hz => (hT z hz).elim)
  refine ax_iload_n B dX6_readAll_61 rfl hl 0 rfl ?_
  cases e
  have hp : Q = _ := hp
  subst hp
  exact ax_retX (ax_ireturn B Z dX6_readAll_62 rfl)
set_option maxHeartbeats 4000000 in
theorem w_X6_readAll_18 {l : Launch} {G : ax_G} {X : ax_X} {Q : State → Prop} {h0 h : ax_H} {ls : Array Slot} (hSF : ax_SF G) (B : ax_BL l G X cX6_readAll 2 RX6 139 3200) (Z : ax_Z X h0 ((some FieldType.int))) (hn : X.2.2.2.2.2.2.2.2.1.name = yX6_readAll.name) (hT : ∀ x ∈ ax_tb X, False) (x0 : Option Nat) (x1 : Int) (s0 : Option Nat) (s1 : Int) {w : (Int × ax_H) ⊕ ((Nat × ax_H) ⊕ (Int × ax_H))} (hl : ax_hl ls 2 [(0, .inr (.inr x0)), (1, .inl x1)]) (e : f_X6_readAll_18 G.2.2 x0 x1 s0 s1 h = some w) (hp : (ax_PL (pi_X6_readAll_6 G X Q x0) (fun w : (Nat × ax_H) ⊕ (Int × ax_H) => Q = ax_QX G X "DebtDoors$Wrong" h0 (ax_zI w))) w) : ax_W G X Q h 18 ls [.int (Int32.ofInt s1), va_rf s0] := by
  unfold f_X6_readAll_18 at e
  refine ax_xwV (Ex := "DebtDoors$Wrong") (x := ⟨"DebtDoors$Reader", "must", "(Z)V"⟩) (n := 1) (As := [.int (Int32.ofInt s1)]) B (fun w1 e1 => ?_) rfl hl.size (by decide) dX6_readAll_18 e (fun z2 e => ?_) (fun h1 e => ?_)
  · obtain ⟨t, c, e2, e1⟩ := ax_dp_spec e1
    rcases ax_ite e1 with ⟨hk, e1⟩ | ⟨-, e1⟩
    · rcases hk with rfl | rfl
      · exact ax_calX B kd25 e2 q801 (B.2.1.2.2.2.2 _ q803) (ax_dcD B q897) (B.2.1.2.2.2.2 _ q805) q802 q144 q806 (by decide +kernel) ⟨Nat.le_of_ble_eq_true rfl, Nat.le_of_ble_eq_true rfl⟩ (mt_X6_must l G hSF s0 s1 _ w1 e1)
      · exact ax_calX B kd7 e2 q801 (B.2.1.2.2.2.2 _ q803) (ax_dcD B q897) (B.2.1.2.2.2.2 _ q804) q802 q144 q806 (by decide +kernel) ⟨Nat.le_of_ble_eq_true rfl, Nat.le_of_ble_eq_true rfl⟩ (mt_X6_must l G hSF s0 s1 _ w1 e1)
    cases e1
  · cases e
    have hp : Q = ax_QX G X "DebtDoors$Wrong" h0 (.inl z2) := hp
    subst hp
    exact ax_outX B Z (fun z hz => (hT z hz).elim)
  refine ax_aload_n B dX6_readAll_21 rfl hl 0 rfl ?_
  refine ax_iload_n B dX6_readAll_22 rfl hl 1 rfl ?_
  refine ax_xwV (Ex := "DebtDoors$Wrong") (x := ⟨"DebtDoors$Reader", "read", "(I)V"⟩) (n := 1) (As := [.int (Int32.ofInt x1)]) B (fun w1 e1 => ?_) rfl hl.size (by decide) dX6_readAll_23 e (fun z4 e => ?_) (fun h3 e => ?_)
  · obtain ⟨t, c, e2, e1⟩ := ax_dp_spec e1
    rcases ax_ite e1 with ⟨hk, e1⟩ | ⟨-, e1⟩
    · subst hk
      exact ax_calX B kd25 e2 q831 (B.2.1.2.2.2.2 _ q833) (ax_dcD B q832) (B.2.1.2.2.2.2 _ q1131) q1132 q167 q1133 (by decide +kernel) ⟨Nat.le_of_ble_eq_true rfl, Nat.le_of_ble_eq_true rfl⟩ (mt_X25_read l G hSF x0 x1 _ w1 e1)
    rcases ax_ite e1 with ⟨hk, e1⟩ | ⟨-, e1⟩
    · subst hk
      exact ax_calX B kd7 e2 q831 (B.2.1.2.2.2.2 _ q833) (ax_dcD B q832) (B.2.1.2.2.2.2 _ q834) q835 q145 q836 (by decide +kernel) ⟨Nat.le_of_ble_eq_true rfl, Nat.le_of_ble_eq_true rfl⟩ (mt_X7_read_2 l G hSF x0 x1 _ w1 e1)
    cases e1
  · cases e
    have hp : Q = ax_QX G X "DebtDoors$Wrong" h0 (.inl z4) := hp
    subst hp
    exact ax_outX B Z (fun z hz => (hT z hz).elim)
  refine ax_iinc (L' := [(1, .inl (x1 + 1)), (0, .inr (.inr x0))]) B dX6_readAll_26 hl 1 rfl (by decide) rfl (fun ls hl => ?_)
  refine ax_aload_n B dX6_readAll_29 rfl hl 1 rfl ?_
  refine ax_ldcS (j := 28) B (List.mem_of_getElem? (i := 28) rfl) dX6_readAll_30 e (fun v5 e => ?_)
  refine ax_iwI (x := ⟨"DebtDoors$Reader", "accept", "(Ljava/lang/String;)Z"⟩) (n := 1) (As := [va_rf v5]) B (fun w1 e1 => ?_) rfl hl.size (by decide) dX6_readAll_32 e (fun q6 e => ?_)
  · obtain ⟨t, c, e2, e1⟩ := ax_dp_spec e1
    rcases ax_ite e1 with ⟨hk, e1⟩ | ⟨-, e1⟩
    · rcases hk with rfl | rfl
      · exact ax_cal B kd25 e2 q928 q930 (ax_dcD B q1036) (B.2.1.2.2.2.2 _ q932) q929 q144 q933 (by decide +kernel) ⟨Nat.le_of_ble_eq_true rfl, Nat.le_of_ble_eq_true rfl⟩ (mt_X6_accept l G hSF x0 v5 _ w1 e1)
      · exact ax_cal B kd7 e2 q928 q930 (ax_dcD B q1036) (B.2.1.2.2.2.2 _ q931) q929 q144 q933 (by decide +kernel) ⟨Nat.le_of_ble_eq_true rfl, Nat.le_of_ble_eq_true rfl⟩ (mt_X6_accept l G hSF x0 v5 _ w1 e1)
    cases e1
  refine ax_if_ne (tgt := 6) B dX6_readAll_35 (by decide) e (fun e => ?_) (fun e => ?_)
  · obtain ⟨w, e9_1, rfl⟩ := Option.map_eq_some_iff.mp e
    have e := e9_1
    refine ax_aload_n B dX6_readAll_38 rfl hl 1 rfl ?_
    refine ax_aload_n B dX6_readAll_39 rfl hl 1 rfl ?_
    refine ax_getIs B fs_X6_42 (fun _ _ => rfl) dX6_readAll_40 e (fun v7 e => ?_)
    refine ax_aload_n B dX6_readAll_43 rfl hl 1 rfl ?_
    refine ax_getRs B fs_X6_3 (fun _ _ => rfl) dX6_readAll_44 e (fun v8 e => ?_)
    refine ax_getI B ff_X6_46_0 (fun _ _ => rfl) dX6_readAll_47 e (fun v9 e => ?_)
    refine ax_icmp_ne (tgt := 57) B dX6_readAll_50 (by decide) e (fun e => ?_) (fun e => ?_)
    · refine ax_iconst B dX6_readAll_53 ?_
      refine ax_goto (tgt := 58) B dX6_readAll_54 (by decide) ?_
      exact w_X6_readAll_58 hSF B Z hn hT (x1 + 1) x0 1 (hl.sub [0] rfl) e hp
    · refine ax_iconst B dX6_readAll_57 ?_
      exact w_X6_readAll_58 hSF B Z hn hT (x1 + 1) x0 0 (hl.sub [0] rfl) e hp
  · cases e
    exact hp _ (hl.sub [1, 0] rfl)
set_option maxHeartbeats 4000000 in
theorem wb_X6_readAll_6 {l : Launch} {G : ax_G} {X : ax_X} {Q : State → Prop} {h0 h : ax_H} {ls : Array Slot} (hSF : ax_SF G) (B : ax_BL l G X cX6_readAll 2 RX6 139 3200) (Z : ax_Z X h0 ((some FieldType.int))) (hn : X.2.2.2.2.2.2.2.2.1.name = yX6_readAll.name) (hT : ∀ x ∈ ax_tb X, False) (x0 : Option Nat) (x1 : Int) {w : (Int × ax_H) ⊕ ((Nat × ax_H) ⊕ (Int × ax_H))} (hl : ax_hl ls 2 [(0, .inr (.inr x0)), (1, .inl x1)]) (e : lb_X6_readAll_6 G.2.2 x0 x1 h = some w) (hp : (ax_PL (pi_X6_readAll_6 G X Q x0) (fun w : (Nat × ax_H) ⊕ (Int × ax_H) => Q = ax_QX G X "DebtDoors$Wrong" h0 (ax_zI w))) w) : ax_W G X Q h 6 ls [] := by
  unfold lb_X6_readAll_6 at e
  refine ax_aload_n B dX6_readAll_6 rfl hl 0 rfl ?_
  refine ax_iload_n B dX6_readAll_7 rfl hl 1 rfl ?_
  refine ax_bipush B dX6_readAll_8 (by decide) ?_
  refine ax_icmp_ge (tgt := 17) B dX6_readAll_10 (by decide) e (fun e => ?_) (fun e => ?_)
  · refine ax_iconst B dX6_readAll_13 ?_
    refine ax_goto (tgt := 18) B dX6_readAll_14 (by decide) ?_
    exact w_X6_readAll_18 hSF B Z hn hT x0 x1 x0 1 (hl.sub [0, 1] rfl) e hp
  · refine ax_iconst B dX6_readAll_17 ?_
    exact w_X6_readAll_18 hSF B Z hn hT x0 x1 x0 0 (hl.sub [0, 1] rfl) e hp
theorem w_X6_readAll_6 {l : Launch} {G : ax_G} {X : ax_X} {Q : State → Prop} {h0 h : ax_H} {ls : Array Slot} (hSF : ax_SF G) (B : ax_BL l G X cX6_readAll 2 RX6 139 3200) (Z : ax_Z X h0 ((some FieldType.int))) (hn : X.2.2.2.2.2.2.2.2.1.name = yX6_readAll.name) (hT : ∀ x ∈ ax_tb X, False) (x0 : Option Nat) (x1 : Int) {w : (Nat × ax_H) ⊕ (Int × ax_H)} (hl : ax_hl ls 2 [(0, .inr (.inr x0)), (1, .inl x1)]) (e : f_X6_readAll_6 G.2.2 x0 x1 h = some w) (hp : (fun w : (Nat × ax_H) ⊕ (Int × ax_H) => Q = ax_QX G X "DebtDoors$Wrong" h0 (ax_zI w)) w) : ax_W G X Q h 6 ls [] :=
  ax_iter_W (Pin := pi_X6_readAll_6 G X Q x0) (Pout := (fun w : (Nat × ax_H) ⊕ (Int × ax_H) => Q = ax_QX G X "DebtDoors$Wrong" h0 (ax_zI w))) (fun s w e hp ls hl => wb_X6_readAll_6 hSF B Z hn hT x0 s.1 hl e hp) _ _ e hp ls hl
set_option maxHeartbeats 4000000 in
theorem we_X6_readAll {l : Launch} {G : ax_G} {X : ax_X} {Q : State → Prop} {h0 h : ax_H} {ls : Array Slot} (hSF : ax_SF G) (B : ax_BL l G X cX6_readAll 2 RX6 139 3200) (Z : ax_Z X h0 ((some FieldType.int))) (hn : X.2.2.2.2.2.2.2.2.1.name = yX6_readAll.name) (hT : ∀ x ∈ ax_tb X, False) (x0 : Option Nat) {w : (Nat × ax_H) ⊕ (Int × ax_H)} (hl : ax_hl ls 2 [(0, .inr (.inr x0))]) (e : f_X6_readAll G.2.2 x0 h = some w) (hp : (fun w : (Nat × ax_H) ⊕ (Int × ax_H) => Q = ax_QX G X "DebtDoors$Wrong" h0 (ax_zI w)) w) : ax_W G X Q h 0 ls [] := by
  unfold f_X6_readAll at e
  refine ax_iconst B dX6_readAll_0 ?_
  refine ax_istore_n (L' := [(1, .inl 0), (0, .inr (.inr x0))]) B dX6_readAll_1 rfl hl (by decide) rfl (fun ls hl => ?_)
  refine ax_aload_n B dX6_readAll_2 rfl hl 1 rfl ?_
  refine ax_iwV (x := ⟨"DebtDoors$Reader", "next", "()V"⟩) (n := 0) (As := []) B (fun w1 e1 => ?_) rfl hl.size (by decide) dX6_readAll_3 e (fun h1 e => ?_)
  · obtain ⟨t, c, e2, e1⟩ := ax_dp_spec e1
    rcases ax_ite e1 with ⟨hk, e1⟩ | ⟨-, e1⟩
    · rcases hk with rfl | rfl
      · exact ax_cal B kd25 e2 q789 q791 (ax_dcD B q901) (B.2.1.2.2.2.2 _ q793) q790 q144 q794 (by decide +kernel) ⟨Nat.le_of_ble_eq_true rfl, Nat.le_of_ble_eq_true rfl⟩ (mt_X6_next l G hSF x0 _ w1 e1)
      · exact ax_cal B kd7 e2 q789 q791 (ax_dcD B q901) (B.2.1.2.2.2.2 _ q792) q790 q144 q794 (by decide +kernel) ⟨Nat.le_of_ble_eq_true rfl, Nat.le_of_ble_eq_true rfl⟩ (mt_X6_next l G hSF x0 _ w1 e1)
    cases e1
  exact w_X6_readAll_6 hSF B Z hn hT x0 0 (hl.sub [1, 0] rfl) e hp
theorem mt_X6_readAll (l : Launch) (G : ax_G) (hSF : ax_SF G) (x0 : Option Nat) (h : ax_H) (w : (Nat × ax_H) ⊕ (Int × ax_H)) (e : f_X6_readAll G.2.2 x0 h = some w) : ax_MetX l G "DebtDoors$Wrong" yX6_readAll cX6_readAll 2 ((some FieldType.int)) 139 3200 [va_rf x0] h (ax_zI w) :=
  ax_enterX [.inr (.inr x0)] (y := yX6_readAll) hSF (plainFor_of_name (by decide +kernel)) (Nat.le_of_ble_eq_true rfl) (fun X ls B Z hn hT hl => we_X6_readAll hSF B Z hn hT x0 hl e rfl)
def dkwX7_read_1 : List UInt8 := [43, 183, 0, 67, 176]
abbrev dktX7_read_1 : List UInt8 := dkwX7_read_1 ++ []
def dkwX7_read_0 : List UInt8 := [42, 182, 0, 55, 189, 0, 37, 76, 42, 180, 0, 39, 3, 43, 3, 43, 190, 184, 0, 59, 187, 0, 65, 89]
abbrev dktX7_read_0 : List UInt8 := dkwX7_read_0 ++ dktX7_read_1
theorem dksX7_read_0 : cX7_read.data.toList.drop 0 = dktX7_read_0 := by decide +kernel
theorem dksX7_read_1 : cX7_read.data.toList.drop 24 = dktX7_read_1 := dk_seg dksX7_read_0 24 rfl rfl
theorem dX7_read_0 : decode cX7_read 0 = .ok (.aload_n 0, 1) := dk_42 (dk_at dksX7_read_0 0 rfl rfl)
theorem dX7_read_1 : decode cX7_read 1 = .ok (.invokevirtual 55, 3) := dk_182 0 55 (dk_at dksX7_read_0 1 rfl rfl)
theorem dX7_read_4 : decode cX7_read 4 = .ok (.anewarray 37, 3) := dk_189 0 37 (dk_at dksX7_read_0 4 rfl rfl)
theorem dX7_read_7 : decode cX7_read 7 = .ok (.astore_n 1, 1) := dk_76 (dk_at dksX7_read_0 7 rfl rfl)
theorem dX7_read_8 : decode cX7_read 8 = .ok (.aload_n 0, 1) := dk_42 (dk_at dksX7_read_0 8 rfl rfl)
theorem dX7_read_9 : decode cX7_read 9 = .ok (.getfield 39, 3) := dk_180 0 39 (dk_at dksX7_read_0 9 rfl rfl)
theorem dX7_read_12 : decode cX7_read 12 = .ok (.iconst 0, 1) := dk_3 (dk_at dksX7_read_0 12 rfl rfl)
theorem dX7_read_13 : decode cX7_read 13 = .ok (.aload_n 1, 1) := dk_43 (dk_at dksX7_read_0 13 rfl rfl)
theorem dX7_read_14 : decode cX7_read 14 = .ok (.iconst 0, 1) := dk_3 (dk_at dksX7_read_0 14 rfl rfl)
theorem dX7_read_15 : decode cX7_read 15 = .ok (.aload_n 1, 1) := dk_43 (dk_at dksX7_read_0 15 rfl rfl)
theorem dX7_read_16 : decode cX7_read 16 = .ok (.arraylength, 1) := dk_190 (dk_at dksX7_read_0 16 rfl rfl)
theorem dX7_read_17 : decode cX7_read 17 = .ok (.invokestatic 59, 3) := dk_184 0 59 (dk_at dksX7_read_0 17 rfl rfl)
theorem dX7_read_20 : decode cX7_read 20 = .ok (.new 65, 3) := dk_187 0 65 (dk_at dksX7_read_0 20 rfl rfl)
theorem dX7_read_23 : decode cX7_read 23 = .ok (.dup, 1) := dk_89 (dk_at dksX7_read_0 23 rfl rfl)
theorem dX7_read_24 : decode cX7_read 24 = .ok (.aload_n 1, 1) := dk_43 (dk_at dksX7_read_1 0 rfl rfl)
theorem dX7_read_25 : decode cX7_read 25 = .ok (.invokespecial 67, 3) := dk_183 0 67 (dk_at dksX7_read_1 1 rfl rfl)
theorem dX7_read_28 : decode cX7_read 28 = .ok (.areturn, 1) := dk_176 (dk_at dksX7_read_1 4 rfl rfl)
noncomputable def f_X7_read (E : ax_E) (x0 : Option Nat) (h : ax_H) : Option ((Nat × ax_H) ⊕ (Option Nat × ax_H)) :=
  ax_tc (fun z2 => some (.inl z2)) (ax_dp E h x0 fun t => if t = 7 then f_X6_readAll E x0 h else none) fun q1 =>
  (ax_na E q1.2 106 q1.1).bind fun q3 =>
  (ax_gR E q3.2 x0 7 8).bind fun v4 =>
  (ax_len E q3.2 (some q3.1) 106).bind fun v5 =>
  (ax_cp E q3.2 (ax_refP E q3.2 oj_106) v4 106 0 (some q3.1) 0 v5).bind fun h6 =>
  (ax_nw E h6 4 0 1).bind fun q7 =>
  (some q7.1).bind fun _ => (f_X4_init E (some q7.1) (some q3.1) q7.2).bind fun h8 =>
  some (.inr ((some q7.1), h8))
set_option maxHeartbeats 4000000 in
theorem we_X7_read {l : Launch} {G : ax_G} {X : ax_X} {Q : State → Prop} {h0 h : ax_H} {ls : Array Slot} (hSF : ax_SF G) (B : ax_BL l G X cX7_read 2 RX7 140 3221) (Z : ax_Z X h0 ((some (FieldType.object "DebtDoors$Text")))) (hn : X.2.2.2.2.2.2.2.2.1.name = yX7_read.name) (hT : ∀ x ∈ ax_tb X, False) (x0 : Option Nat) {w : (Nat × ax_H) ⊕ (Option Nat × ax_H)} (hl : ax_hl ls 2 [(0, .inr (.inr x0))]) (e : f_X7_read G.2.2 x0 h = some w) (hp : (fun w : (Nat × ax_H) ⊕ (Option Nat × ax_H) => Q = ax_QX G X "DebtDoors$Wrong" h0 (ax_zR w)) w) : ax_W G X Q h 0 ls [] := by
  unfold f_X7_read at e
  refine ax_aload_n B dX7_read_0 rfl hl 0 rfl ?_
  refine ax_xwI (Ex := "DebtDoors$Wrong") (x := ⟨"DebtDoors$LawReader", "readAll", "()I"⟩) (n := 0) (As := []) B (fun w1 e1 => ?_) rfl hl.size (by decide) dX7_read_1 e (fun z2 e => ?_) (fun q1 e => ?_)
  · obtain ⟨t, c, e2, e1⟩ := ax_dp_spec e1
    rcases ax_ite e1 with ⟨hk, e1⟩ | ⟨-, e1⟩
    · subst hk
      exact ax_calX B kd7 e2 q783 (B.2.1.2.2.2.2 _ q784) (ax_dcD B q785) (B.2.1.2.2.2.2 _ q786) q787 q144 q788 (by decide +kernel) ⟨Nat.le_of_ble_eq_true rfl, Nat.le_of_ble_eq_true rfl⟩ (mt_X6_readAll l G hSF x0 _ w1 e1)
    cases e1
  · cases e
    have hp : Q = ax_QX G X "DebtDoors$Wrong" h0 (.inl z2) := hp
    subst hp
    exact ax_outX B Z (fun z hz => (hT z hz).elim)
  refine ax_anew B kd106 q736 q329 dX7_read_4 e (fun q3 e => ?_)
  refine ax_astore_n (L' := [(1, .inr (.inr (some q3.1))), (0, .inr (.inr x0))]) B dX7_read_7 rfl hl (by decide) rfl (fun ls hl => ?_)
  refine ax_aload_n B dX7_read_8 rfl hl 1 rfl ?_
  refine ax_getR B ff_X7_39_7 (fun _ _ => rfl) dX7_read_9 e (fun v4 e => ?_)
  refine ax_iconst B dX7_read_12 ?_
  refine ax_aload_n B dX7_read_13 rfl hl 0 rfl ?_
  refine ax_iconst B dX7_read_14 ?_
  refine ax_aload_n B dX7_read_15 rfl hl 0 rfl ?_
  refine ax_alen B kd106 dX7_read_16 e (fun v5 e => ?_)
  refine ax_copyR B kd106 (ok_106 B) q1242 q696 q695 q143 hl.size (by decide) (by decide) dX7_read_17 e (fun h6 e => ?_)
  refine ax_new B kd4 in_X4 tyX4_ok (fun k hk => ax_dv _ (dfX4 k hk)) q1243 q327 q132 dX7_read_20 e (fun q7 e => ?_)
  refine ax_dup B dX7_read_23 (va_rf_cat _) ?_
  refine ax_aload_n B dX7_read_24 rfl hl 0 rfl ?_
  refine ax_iiR (y := yX4_init) (n := 1) (As := [va_rf (some q3.1)]) B q1244 q331 q132 q332 rfl (by decide +kernel) ⟨Nat.le_of_ble_eq_true rfl, Nat.le_of_ble_eq_true rfl⟩ (fun w1 e1 => mt_X4_init l G hSF (some q7.1) (some q3.1) _ w1 e1) rfl hl.size (by simp only [List.map_cons, List.map_nil, List.sum_cons, List.sum_nil, va_rf_cat, ax_catI, ax_catL]; decide) dX7_read_25 e (fun h8 e => ?_)
  cases e
  have hp : Q = _ := hp
  subst hp
  exact ax_retX (ax_areturn B Z (Or.inl ⟨_, rfl⟩) dX7_read_28 rfl)
theorem mt_X7_read (l : Launch) (G : ax_G) (hSF : ax_SF G) (x0 : Option Nat) (h : ax_H) (w : (Nat × ax_H) ⊕ (Option Nat × ax_H)) (e : f_X7_read G.2.2 x0 h = some w) : ax_MetX l G "DebtDoors$Wrong" yX7_read cX7_read 2 ((some (FieldType.object "DebtDoors$Text"))) 140 3221 [va_rf x0] h (ax_zR w) :=
  ax_enterX [.inr (.inr x0)] (y := yX7_read) hSF (plainFor_of_name (by decide +kernel)) (Nat.le_of_ble_eq_true rfl) (fun X ls B Z hn hT hl => we_X7_read hSF B Z hn hT x0 hl e rfl)
def dkwX0_law_4 : List UInt8 := [182, 0, 94, 61, 42, 3, 181, 0, 114, 28, 172, 78, 42, 3, 181, 0, 114, 45, 191]
abbrev dktX0_law_4 : List UInt8 := dkwX0_law_4 ++ []
def dkwX0_law_3 : List UInt8 := [182, 0, 94, 60, 42, 3, 181, 0, 114, 27, 172, 76, 42, 43, 180, 0, 236, 181, 0, 60, 42, 16, 250]
abbrev dktX0_law_3 : List UInt8 := dkwX0_law_3 ++ dktX0_law_4
def dkwX0_law_2 : List UInt8 := [182, 0, 231, 87, 42, 2, 181, 0, 60, 42, 42, 180, 0, 20, 180, 0, 215, 182, 0, 218, 4, 100]
abbrev dktX0_law_2 : List UInt8 := dkwX0_law_2 ++ dktX0_law_3
def dkwX0_law_1 : List UInt8 := [182, 0, 94, 172, 42, 180, 0, 20, 180, 0, 215, 187, 0, 222, 89, 42, 183, 0, 224, 182, 0, 227]
abbrev dktX0_law_1 : List UInt8 := dkwX0_law_1 ++ dktX0_law_2
def dkwX0_law_0 : List UInt8 := [42, 180, 0, 20, 180, 0, 215, 182, 0, 218, 16, 6, 160, 0, 15, 42, 3, 181, 0, 114, 42, 16, 251]
abbrev dktX0_law_0 : List UInt8 := dkwX0_law_0 ++ dktX0_law_1
theorem dksX0_law_0 : cX0_law.data.toList.drop 0 = dktX0_law_0 := by decide +kernel
theorem dksX0_law_1 : cX0_law.data.toList.drop 23 = dktX0_law_1 := dk_seg dksX0_law_0 23 rfl rfl
theorem dksX0_law_2 : cX0_law.data.toList.drop 45 = dktX0_law_2 := dk_seg dksX0_law_1 22 rfl rfl
theorem dksX0_law_3 : cX0_law.data.toList.drop 67 = dktX0_law_3 := dk_seg dksX0_law_2 22 rfl rfl
theorem dksX0_law_4 : cX0_law.data.toList.drop 90 = dktX0_law_4 := dk_seg dksX0_law_3 23 rfl rfl
theorem dX0_law_0 : decode cX0_law 0 = .ok (.aload_n 0, 1) := dk_42 (dk_at dksX0_law_0 0 rfl rfl)
theorem dX0_law_1 : decode cX0_law 1 = .ok (.getfield 20, 3) := dk_180 0 20 (dk_at dksX0_law_0 1 rfl rfl)
theorem dX0_law_4 : decode cX0_law 4 = .ok (.getfield 215, 3) := dk_180 0 215 (dk_at dksX0_law_0 4 rfl rfl)
theorem dX0_law_7 : decode cX0_law 7 = .ok (.invokevirtual 218, 3) := dk_182 0 218 (dk_at dksX0_law_0 7 rfl rfl)
theorem dX0_law_10 : decode cX0_law 10 = .ok (.bipush 6, 2) := dk_16 6 (dk_at dksX0_law_0 10 rfl rfl)
theorem dX0_law_12 : decode cX0_law 12 = .ok (.if_icmp .ne 15, 3) := dk_160 0 15 (dk_at dksX0_law_0 12 rfl rfl)
theorem dX0_law_15 : decode cX0_law 15 = .ok (.aload_n 0, 1) := dk_42 (dk_at dksX0_law_0 15 rfl rfl)
theorem dX0_law_16 : decode cX0_law 16 = .ok (.iconst 0, 1) := dk_3 (dk_at dksX0_law_0 16 rfl rfl)
theorem dX0_law_17 : decode cX0_law 17 = .ok (.putfield 114, 3) := dk_181 0 114 (dk_at dksX0_law_0 17 rfl rfl)
theorem dX0_law_20 : decode cX0_law 20 = .ok (.aload_n 0, 1) := dk_42 (dk_at dksX0_law_0 20 rfl rfl)
theorem dX0_law_21 : decode cX0_law 21 = .ok (.bipush (-5), 2) := dk_16 251 (dk_at dksX0_law_0 21 rfl rfl)
theorem dX0_law_23 : decode cX0_law 23 = .ok (.invokevirtual 94, 3) := dk_182 0 94 (dk_at dksX0_law_1 0 rfl rfl)
theorem dX0_law_26 : decode cX0_law 26 = .ok (.ireturn, 1) := dk_172 (dk_at dksX0_law_1 3 rfl rfl)
theorem dX0_law_27 : decode cX0_law 27 = .ok (.aload_n 0, 1) := dk_42 (dk_at dksX0_law_1 4 rfl rfl)
theorem dX0_law_28 : decode cX0_law 28 = .ok (.getfield 20, 3) := dk_180 0 20 (dk_at dksX0_law_1 5 rfl rfl)
theorem dX0_law_31 : decode cX0_law 31 = .ok (.getfield 215, 3) := dk_180 0 215 (dk_at dksX0_law_1 8 rfl rfl)
theorem dX0_law_34 : decode cX0_law 34 = .ok (.new 222, 3) := dk_187 0 222 (dk_at dksX0_law_1 11 rfl rfl)
theorem dX0_law_37 : decode cX0_law 37 = .ok (.dup, 1) := dk_89 (dk_at dksX0_law_1 14 rfl rfl)
theorem dX0_law_38 : decode cX0_law 38 = .ok (.aload_n 0, 1) := dk_42 (dk_at dksX0_law_1 15 rfl rfl)
theorem dX0_law_39 : decode cX0_law 39 = .ok (.invokespecial 224, 3) := dk_183 0 224 (dk_at dksX0_law_1 16 rfl rfl)
theorem dX0_law_42 : decode cX0_law 42 = .ok (.invokevirtual 227, 3) := dk_182 0 227 (dk_at dksX0_law_1 19 rfl rfl)
theorem dX0_law_45 : decode cX0_law 45 = .ok (.invokevirtual 231, 3) := dk_182 0 231 (dk_at dksX0_law_2 0 rfl rfl)
theorem dX0_law_48 : decode cX0_law 48 = .ok (.pop, 1) := dk_87 (dk_at dksX0_law_2 3 rfl rfl)
theorem dX0_law_49 : decode cX0_law 49 = .ok (.aload_n 0, 1) := dk_42 (dk_at dksX0_law_2 4 rfl rfl)
theorem dX0_law_50 : decode cX0_law 50 = .ok (.iconst (-1), 1) := dk_2 (dk_at dksX0_law_2 5 rfl rfl)
theorem dX0_law_51 : decode cX0_law 51 = .ok (.putfield 60, 3) := dk_181 0 60 (dk_at dksX0_law_2 6 rfl rfl)
theorem dX0_law_54 : decode cX0_law 54 = .ok (.aload_n 0, 1) := dk_42 (dk_at dksX0_law_2 9 rfl rfl)
theorem dX0_law_55 : decode cX0_law 55 = .ok (.aload_n 0, 1) := dk_42 (dk_at dksX0_law_2 10 rfl rfl)
theorem dX0_law_56 : decode cX0_law 56 = .ok (.getfield 20, 3) := dk_180 0 20 (dk_at dksX0_law_2 11 rfl rfl)
theorem dX0_law_59 : decode cX0_law 59 = .ok (.getfield 215, 3) := dk_180 0 215 (dk_at dksX0_law_2 14 rfl rfl)
theorem dX0_law_62 : decode cX0_law 62 = .ok (.invokevirtual 218, 3) := dk_182 0 218 (dk_at dksX0_law_2 17 rfl rfl)
theorem dX0_law_65 : decode cX0_law 65 = .ok (.iconst 1, 1) := dk_4 (dk_at dksX0_law_2 20 rfl rfl)
theorem dX0_law_66 : decode cX0_law 66 = .ok (.isub, 1) := dk_100 (dk_at dksX0_law_2 21 rfl rfl)
theorem dX0_law_67 : decode cX0_law 67 = .ok (.invokevirtual 94, 3) := dk_182 0 94 (dk_at dksX0_law_3 0 rfl rfl)
theorem dX0_law_70 : decode cX0_law 70 = .ok (.istore_n 1, 1) := dk_60 (dk_at dksX0_law_3 3 rfl rfl)
theorem dX0_law_71 : decode cX0_law 71 = .ok (.aload_n 0, 1) := dk_42 (dk_at dksX0_law_3 4 rfl rfl)
theorem dX0_law_72 : decode cX0_law 72 = .ok (.iconst 0, 1) := dk_3 (dk_at dksX0_law_3 5 rfl rfl)
theorem dX0_law_73 : decode cX0_law 73 = .ok (.putfield 114, 3) := dk_181 0 114 (dk_at dksX0_law_3 6 rfl rfl)
theorem dX0_law_76 : decode cX0_law 76 = .ok (.iload_n 1, 1) := dk_27 (dk_at dksX0_law_3 9 rfl rfl)
theorem dX0_law_77 : decode cX0_law 77 = .ok (.ireturn, 1) := dk_172 (dk_at dksX0_law_3 10 rfl rfl)
theorem dX0_law_78 : decode cX0_law 78 = .ok (.astore_n 1, 1) := dk_76 (dk_at dksX0_law_3 11 rfl rfl)
theorem dX0_law_79 : decode cX0_law 79 = .ok (.aload_n 0, 1) := dk_42 (dk_at dksX0_law_3 12 rfl rfl)
theorem dX0_law_80 : decode cX0_law 80 = .ok (.aload_n 1, 1) := dk_43 (dk_at dksX0_law_3 13 rfl rfl)
theorem dX0_law_81 : decode cX0_law 81 = .ok (.getfield 236, 3) := dk_180 0 236 (dk_at dksX0_law_3 14 rfl rfl)
theorem dX0_law_84 : decode cX0_law 84 = .ok (.putfield 60, 3) := dk_181 0 60 (dk_at dksX0_law_3 17 rfl rfl)
theorem dX0_law_87 : decode cX0_law 87 = .ok (.aload_n 0, 1) := dk_42 (dk_at dksX0_law_3 20 rfl rfl)
theorem dX0_law_88 : decode cX0_law 88 = .ok (.bipush (-6), 2) := dk_16 250 (dk_at dksX0_law_3 21 rfl rfl)
theorem dX0_law_90 : decode cX0_law 90 = .ok (.invokevirtual 94, 3) := dk_182 0 94 (dk_at dksX0_law_4 0 rfl rfl)
theorem dX0_law_93 : decode cX0_law 93 = .ok (.istore_n 2, 1) := dk_61 (dk_at dksX0_law_4 3 rfl rfl)
theorem dX0_law_94 : decode cX0_law 94 = .ok (.aload_n 0, 1) := dk_42 (dk_at dksX0_law_4 4 rfl rfl)
theorem dX0_law_95 : decode cX0_law 95 = .ok (.iconst 0, 1) := dk_3 (dk_at dksX0_law_4 5 rfl rfl)
theorem dX0_law_96 : decode cX0_law 96 = .ok (.putfield 114, 3) := dk_181 0 114 (dk_at dksX0_law_4 6 rfl rfl)
theorem dX0_law_99 : decode cX0_law 99 = .ok (.iload_n 2, 1) := dk_28 (dk_at dksX0_law_4 9 rfl rfl)
theorem dX0_law_100 : decode cX0_law 100 = .ok (.ireturn, 1) := dk_172 (dk_at dksX0_law_4 10 rfl rfl)
theorem dX0_law_101 : decode cX0_law 101 = .ok (.astore_n 3, 1) := dk_78 (dk_at dksX0_law_4 11 rfl rfl)
theorem dX0_law_102 : decode cX0_law 102 = .ok (.aload_n 0, 1) := dk_42 (dk_at dksX0_law_4 12 rfl rfl)
theorem dX0_law_103 : decode cX0_law 103 = .ok (.iconst 0, 1) := dk_3 (dk_at dksX0_law_4 13 rfl rfl)
theorem dX0_law_104 : decode cX0_law 104 = .ok (.putfield 114, 3) := dk_181 0 114 (dk_at dksX0_law_4 14 rfl rfl)
theorem dX0_law_107 : decode cX0_law 107 = .ok (.aload_n 3, 1) := dk_45 (dk_at dksX0_law_4 17 rfl rfl)
theorem dX0_law_108 : decode cX0_law 108 = .ok (.athrow, 1) := dk_191 (dk_at dksX0_law_4 18 rfl rfl)
noncomputable def f_X0_law (E : ax_E) (x0 : Option Nat) (h : ax_H) : Option (Int × ax_H) :=
  (ax_gR E h x0 0 0).bind fun v1 =>
  (ax_gR E h v1 1 0).bind fun v2 =>
  (ax_ce E h v2 42).bind fun _ => (f_J2_size E v2 h).bind fun q3 =>
  if i2 q3.1 = i2 6 then
    (ax_pI q3.2 x0 0 12 0).bind fun h4 =>
    (ax_ce E h4 x0 0).bind fun _ => (f_X0_tell E x0 (-5) h4).bind fun q5 =>
    some (q5.1, q5.2)
  else
    (ax_gR E q3.2 x0 0 0).bind fun v6 =>
    (ax_gR E q3.2 v6 1 0).bind fun v7 =>
    (ax_nw E q3.2 7 0 11).bind fun q8 =>
    (some q8.1).bind fun _ => (f_X7_init E (some q8.1) x0 q8.2).bind fun h9 =>
    ax_tc (fun z11 =>
        (ax_gI E z11.2 (some z11.1) 8 6).bind fun v12 =>
        (ax_pI z11.2 x0 0 8 v12).bind fun h13 =>
        (ax_ce E h13 x0 0).bind fun _ => (f_X0_tell E x0 (-6) h13).bind fun q14 =>
        (ax_pI q14.2 x0 0 12 0).bind fun h15 =>
        some (q14.1, h15)) (ax_dp E h9 (some q8.1) fun t => if t = 7 then f_X7_read E (some q8.1) h9 else none) fun q10 =>
    (ax_ce E q10.2 v7 42).bind fun _ => (f_J2_add E v7 q10.1 q10.2).bind fun q16 =>
    (ax_pI q16.2 x0 0 8 (-1)).bind fun h17 =>
    (ax_gR E h17 x0 0 0).bind fun v18 =>
    (ax_gR E h17 v18 1 0).bind fun v19 =>
    (ax_ce E h17 v19 42).bind fun _ => (f_J2_size E v19 h17).bind fun q20 =>
    (ax_ce E q20.2 x0 0).bind fun _ => (f_X0_tell E x0 (q20.1 - 1) q20.2).bind fun q21 =>
    (ax_pI q21.2 x0 0 12 0).bind fun h22 =>
    some (q21.1, h22)
set_option maxHeartbeats 4000000 in
theorem we_X0_law {l : Launch} {G : ax_G} {X : ax_X} {Q : State → Prop} {h0 h : ax_H} {ls : Array Slot} (hSF : ax_SF G) (B : ax_BL l G X cX0_law 4 RX0 141 3242) (Z : ax_Z X h0 ((some FieldType.int))) (hn : X.2.2.2.2.2.2.2.2.1.name = yX0_law.name) (hT : ax_tb X = tableOf [(27, 71, 78, 234), (27, 71, 101, 0), (78, 94, 101, 0)]) (x0 : Option Nat) {w : Int × ax_H} (hl : ax_hl ls 4 [(0, .inr (.inr x0))]) (e : f_X0_law G.2.2 x0 h = some w) (hp : (fun w : Int × ax_H => Q = ax_Q G X h0 w.2 (some (.int (Int32.ofInt w.1)))) w) : ax_W G X Q h 0 ls [] := by
  unfold f_X0_law at e
  refine ax_aload_n B dX0_law_0 rfl hl 0 rfl ?_
  refine ax_getR B ff_X0_20_0 (fun _ _ => rfl) dX0_law_1 e (fun v1 e => ?_)
  refine ax_getR B ff_X0_215_1 (fun _ _ => rfl) dX0_law_4 e (fun v2 e => ?_)
  refine ax_ivI (y := yJ2_size) (n := 0) (As := []) B kd42 (lw_V q709 q710 q711 q129 q712) (by decide +kernel) ⟨Nat.le_of_ble_eq_true rfl, Nat.le_of_ble_eq_true rfl⟩ (fun w1 e1 => mt_J2_size l G hSF v2 _ w1 e1) rfl hl.size (by decide) dX0_law_7 e (fun q3 e => ?_)
  refine ax_bipush B dX0_law_10 (by decide) ?_
  refine ax_icmp_ne (tgt := 27) B dX0_law_12 (by decide) e (fun e => ?_) (fun e => ?_)
  · refine ax_aload_n B dX0_law_15 rfl hl 0 rfl ?_
    refine ax_iconst B dX0_law_16 ?_
    refine ax_putI B ff_X0_114_0 (Or.inl rfl) rfl dX0_law_17 e (fun h4 e => ?_)
    refine ax_aload_n B dX0_law_20 rfl hl 0 rfl ?_
    refine ax_bipush B dX0_law_21 (by decide) ?_
    refine ax_ivI (y := yX0_tell) (n := 1) (As := [.int (Int32.ofInt (-5))]) B kd0 (lw_V q436 q438 qs1 q125 q439) (by decide +kernel) ⟨Nat.le_of_ble_eq_true rfl, Nat.le_of_ble_eq_true rfl⟩ (fun w1 e1 => mt_X0_tell l G hSF x0 (-5) _ w1 e1) rfl hl.size (by decide) dX0_law_23 e (fun q5 e => ?_)
    have e8 := e
    have hp : Q = _ := hp
    subst hp
    exact ax_ireturn B Z dX0_law_26 e8
  · refine ax_aload_n B dX0_law_27 rfl hl 0 rfl ?_
    refine ax_getR B ff_X0_20_0 (fun _ _ => rfl) dX0_law_28 e (fun v6 e => ?_)
    refine ax_getR B ff_X0_215_1 (fun _ _ => rfl) dX0_law_31 e (fun v7 e => ?_)
    refine ax_new B kd7 in_X7 tyX7_ok (fun k hk => ax_dv _ (dfX7 k hk)) q713 q714 q145 dX0_law_34 e (fun q8 e => ?_)
    refine ax_dup B dX0_law_37 (va_rf_cat _) ?_
    refine ax_aload_n B dX0_law_38 rfl hl 0 rfl ?_
    refine ax_iiR (y := yX7_init) (n := 1) (As := [va_rf x0]) B q715 q716 q145 q717 rfl (by decide +kernel) ⟨Nat.le_of_ble_eq_true rfl, Nat.le_of_ble_eq_true rfl⟩ (fun w1 e1 => mt_X7_init l G hSF (some q8.1) x0 _ w1 e1) rfl hl.size (by simp only [List.map_cons, List.map_nil, List.sum_cons, List.sum_nil, va_rf_cat, ax_catI, ax_catL]; decide) dX0_law_39 e (fun h9 e => ?_)
    refine ax_xwR (Ex := "DebtDoors$Wrong") (x := ⟨"DebtDoors$LawReader", "read", "()LDebtDoors$Text;"⟩) (n := 0) (As := []) B (fun w1 e1 => ?_) rfl hl.size (by simp only [List.map_cons, List.map_nil, List.sum_cons, List.sum_nil, va_rf_cat, ax_catI, ax_catL]; decide) dX0_law_42 e (fun z11 e => ?_) (fun q10 e => ?_)
    · obtain ⟨t, c, e2, e1⟩ := ax_dp_spec e1
      rcases ax_ite e1 with ⟨hk, e1⟩ | ⟨-, e1⟩
      · subst hk
        exact ax_calX B kd7 e2 q779 (ax_smO B q780 q714 (by decide +kernel)) (ax_dcC B q780 q782) (B.2.1.2.2.2.2 _ q781) q780 q145 q782 (by decide +kernel) ⟨Nat.le_of_ble_eq_true rfl, Nat.le_of_ble_eq_true rfl⟩ (mt_X7_read l G hSF (some q8.1) _ w1 e1)
      cases e1
    · refine ax_caught (handler := 78) B hT (by decide) (by decide) q708 q809 rfl ?_
      refine ax_astore_n (L' := [(1, .inr (.inr (some z11.1))), (0, .inr (.inr x0))]) B dX0_law_78 rfl hl (by decide) rfl (fun ls hl => ?_)
      refine ax_aload_n B dX0_law_79 rfl hl 1 rfl ?_
      refine ax_aload_n B dX0_law_80 rfl hl 0 rfl ?_
      refine ax_getI B ff_X0_236_8 (fun _ _ => rfl) dX0_law_81 e (fun v12 e => ?_)
      refine ax_putI B ff_X0_60_0 (Or.inl rfl) rfl dX0_law_84 e (fun h13 e => ?_)
      refine ax_aload_n B dX0_law_87 rfl hl 1 rfl ?_
      refine ax_bipush B dX0_law_88 (by decide) ?_
      refine ax_ivI (y := yX0_tell) (n := 1) (As := [.int (Int32.ofInt (-6))]) B kd0 (lw_V q436 q438 qs1 q125 q439) (by decide +kernel) ⟨Nat.le_of_ble_eq_true rfl, Nat.le_of_ble_eq_true rfl⟩ (fun w1 e1 => mt_X0_tell l G hSF x0 (-6) _ w1 e1) rfl hl.size (by decide) dX0_law_90 e (fun q14 e => ?_)
      refine ax_istore_n (L' := [(2, .inl q14.1), (1, .inr (.inr (some z11.1))), (0, .inr (.inr x0))]) B dX0_law_93 rfl hl (by decide) rfl (fun ls hl => ?_)
      refine ax_aload_n B dX0_law_94 rfl hl 2 rfl ?_
      refine ax_iconst B dX0_law_95 ?_
      refine ax_putI B ff_X0_114_0 (Or.inl rfl) rfl dX0_law_96 e (fun h15 e => ?_)
      refine ax_iload_n B dX0_law_99 rfl hl 0 rfl ?_
      have e8 := e
      have hp : Q = _ := hp
      subst hp
      exact ax_ireturn B Z dX0_law_100 e8
    refine ax_ivI (y := yJ2_add) (n := 1) (As := [va_rf q10.1]) B kd42 (lw_V q1245 q1246 q1247 q129 q1248) (by decide +kernel) ⟨Nat.le_of_ble_eq_true rfl, Nat.le_of_ble_eq_true rfl⟩ (fun w1 e1 => mt_J2_add l G hSF v7 q10.1 _ w1 e1) rfl hl.size (by decide) dX0_law_45 e (fun q16 e => ?_)
    refine ax_pop B dX0_law_48 (rfl) ?_
    refine ax_aload_n B dX0_law_49 rfl hl 0 rfl ?_
    refine ax_iconst B dX0_law_50 ?_
    refine ax_putI B ff_X0_60_0 (Or.inl rfl) rfl dX0_law_51 e (fun h17 e => ?_)
    refine ax_aload_n B dX0_law_54 rfl hl 0 rfl ?_
    refine ax_aload_n B dX0_law_55 rfl hl 0 rfl ?_
    refine ax_getR B ff_X0_20_0 (fun _ _ => rfl) dX0_law_56 e (fun v18 e => ?_)
    refine ax_getR B ff_X0_215_1 (fun _ _ => rfl) dX0_law_59 e (fun v19 e => ?_)
    refine ax_ivI (y := yJ2_size) (n := 0) (As := []) B kd42 (lw_V q709 q710 q711 q129 q712) (by decide +kernel) ⟨Nat.le_of_ble_eq_true rfl, Nat.le_of_ble_eq_true rfl⟩ (fun w1 e1 => mt_J2_size l G hSF v19 _ w1 e1) rfl hl.size (by simp only [List.map_cons, List.map_nil, List.sum_cons, List.sum_nil, va_rf_cat, ax_catI, ax_catL]; decide) dX0_law_62 e (fun q20 e => ?_)
    refine ax_iconst B dX0_law_65 ?_
    refine ax_isub' B dX0_law_66 ?_
    refine ax_ivI (y := yX0_tell) (n := 1) (As := [.int (Int32.ofInt (q20.1 - 1))]) B kd0 (lw_V q436 q438 qs1 q125 q439) (by decide +kernel) ⟨Nat.le_of_ble_eq_true rfl, Nat.le_of_ble_eq_true rfl⟩ (fun w1 e1 => mt_X0_tell l G hSF x0 (q20.1 - 1) _ w1 e1) rfl hl.size (by decide) dX0_law_67 e (fun q21 e => ?_)
    refine ax_istore_n (L' := [(1, .inl q21.1), (0, .inr (.inr x0))]) B dX0_law_70 rfl hl (by decide) rfl (fun ls hl => ?_)
    refine ax_aload_n B dX0_law_71 rfl hl 1 rfl ?_
    refine ax_iconst B dX0_law_72 ?_
    refine ax_putI B ff_X0_114_0 (Or.inl rfl) rfl dX0_law_73 e (fun h22 e => ?_)
    refine ax_iload_n B dX0_law_76 rfl hl 0 rfl ?_
    have e8 := e
    have hp : Q = _ := hp
    subst hp
    exact ax_ireturn B Z dX0_law_77 e8
theorem mt_X0_law (l : Launch) (G : ax_G) (hSF : ax_SF G) (x0 : Option Nat) (h : ax_H) (w : Int × ax_H) (e : f_X0_law G.2.2 x0 h = some w) : ax_MetW l G yX0_law cX0_law 4 ((some FieldType.int)) [(27, 71, 78, 234), (27, 71, 101, 0), (78, 94, 101, 0)] 141 3242 [va_rf x0] h w.2 (some (.int (Int32.ofInt w.1))) :=
  ax_enterW [.inr (.inr x0)] (y := yX0_law) hSF (by decide +kernel) (Nat.le_of_ble_eq_true rfl) (fun X ls B Z hn hT hl => we_X0_law hSF B Z hn hT x0 hl e rfl)
def dkwX25_read_2_0 : List UInt8 := [42, 182, 0, 35, 189, 0, 29, 76, 42, 180, 0, 31, 3, 43, 3, 43, 190, 184, 0, 39, 43, 176]
abbrev dktX25_read_2_0 : List UInt8 := dkwX25_read_2_0 ++ []
theorem dksX25_read_2_0 : cX25_read_2.data.toList.drop 0 = dktX25_read_2_0 := by decide +kernel
theorem dX25_read_2_0 : decode cX25_read_2 0 = .ok (.aload_n 0, 1) := dk_42 (dk_at dksX25_read_2_0 0 rfl rfl)
theorem dX25_read_2_1 : decode cX25_read_2 1 = .ok (.invokevirtual 35, 3) := dk_182 0 35 (dk_at dksX25_read_2_0 1 rfl rfl)
theorem dX25_read_2_4 : decode cX25_read_2 4 = .ok (.anewarray 29, 3) := dk_189 0 29 (dk_at dksX25_read_2_0 4 rfl rfl)
theorem dX25_read_2_7 : decode cX25_read_2 7 = .ok (.astore_n 1, 1) := dk_76 (dk_at dksX25_read_2_0 7 rfl rfl)
theorem dX25_read_2_8 : decode cX25_read_2 8 = .ok (.aload_n 0, 1) := dk_42 (dk_at dksX25_read_2_0 8 rfl rfl)
theorem dX25_read_2_9 : decode cX25_read_2 9 = .ok (.getfield 31, 3) := dk_180 0 31 (dk_at dksX25_read_2_0 9 rfl rfl)
theorem dX25_read_2_12 : decode cX25_read_2 12 = .ok (.iconst 0, 1) := dk_3 (dk_at dksX25_read_2_0 12 rfl rfl)
theorem dX25_read_2_13 : decode cX25_read_2 13 = .ok (.aload_n 1, 1) := dk_43 (dk_at dksX25_read_2_0 13 rfl rfl)
theorem dX25_read_2_14 : decode cX25_read_2 14 = .ok (.iconst 0, 1) := dk_3 (dk_at dksX25_read_2_0 14 rfl rfl)
theorem dX25_read_2_15 : decode cX25_read_2 15 = .ok (.aload_n 1, 1) := dk_43 (dk_at dksX25_read_2_0 15 rfl rfl)
theorem dX25_read_2_16 : decode cX25_read_2 16 = .ok (.arraylength, 1) := dk_190 (dk_at dksX25_read_2_0 16 rfl rfl)
theorem dX25_read_2_17 : decode cX25_read_2 17 = .ok (.invokestatic 39, 3) := dk_184 0 39 (dk_at dksX25_read_2_0 17 rfl rfl)
theorem dX25_read_2_20 : decode cX25_read_2 20 = .ok (.aload_n 1, 1) := dk_43 (dk_at dksX25_read_2_0 20 rfl rfl)
theorem dX25_read_2_21 : decode cX25_read_2 21 = .ok (.areturn, 1) := dk_176 (dk_at dksX25_read_2_0 21 rfl rfl)
noncomputable def f_X25_read_2 (E : ax_E) (x0 : Option Nat) (h : ax_H) : Option ((Nat × ax_H) ⊕ (Option Nat × ax_H)) :=
  ax_tc (fun z2 => some (.inl z2)) (ax_dp E h x0 fun t => if t = 25 then f_X6_readAll E x0 h else none) fun q1 =>
  (ax_na E q1.2 110 q1.1).bind fun q3 =>
  (ax_gR E q3.2 x0 25 8).bind fun v4 =>
  (ax_len E q3.2 (some q3.1) 110).bind fun v5 =>
  (ax_cp E q3.2 (ax_refP E q3.2 oj_110) v4 110 0 (some q3.1) 0 v5).bind fun h6 =>
  some (.inr ((some q3.1), h6))
set_option maxHeartbeats 4000000 in
theorem we_X25_read_2 {l : Launch} {G : ax_G} {X : ax_X} {Q : State → Prop} {h0 h : ax_H} {ls : Array Slot} (hSF : ax_SF G) (B : ax_BL l G X cX25_read_2 2 RX25 140 3221) (Z : ax_Z X h0 ((some (FieldType.array (FieldType.object "DebtDoors$Order"))))) (hn : X.2.2.2.2.2.2.2.2.1.name = yX25_read_2.name) (hT : ∀ x ∈ ax_tb X, False) (x0 : Option Nat) {w : (Nat × ax_H) ⊕ (Option Nat × ax_H)} (hl : ax_hl ls 2 [(0, .inr (.inr x0))]) (e : f_X25_read_2 G.2.2 x0 h = some w) (hp : (fun w : (Nat × ax_H) ⊕ (Option Nat × ax_H) => Q = ax_QX G X "DebtDoors$Wrong" h0 (ax_zR w)) w) : ax_W G X Q h 0 ls [] := by
  unfold f_X25_read_2 at e
  refine ax_aload_n B dX25_read_2_0 rfl hl 0 rfl ?_
  refine ax_xwI (Ex := "DebtDoors$Wrong") (x := ⟨"DebtDoors$OrderReader", "readAll", "()I"⟩) (n := 0) (As := []) B (fun w1 e1 => ?_) rfl hl.size (by decide) dX25_read_2_1 e (fun z2 e => ?_) (fun q1 e => ?_)
  · obtain ⟨t, c, e2, e1⟩ := ax_dp_spec e1
    rcases ax_ite e1 with ⟨hk, e1⟩ | ⟨-, e1⟩
    · subst hk
      exact ax_calX B kd25 e2 q1813 (B.2.1.2.2.2.2 _ q1814) (ax_dcD B q785) (B.2.1.2.2.2.2 _ q1815) q787 q144 q788 (by decide +kernel) ⟨Nat.le_of_ble_eq_true rfl, Nat.le_of_ble_eq_true rfl⟩ (mt_X6_readAll l G hSF x0 _ w1 e1)
    cases e1
  · cases e
    have hp : Q = ax_QX G X "DebtDoors$Wrong" h0 (.inl z2) := hp
    subst hp
    exact ax_outX B Z (fun z hz => (hT z hz).elim)
  refine ax_anew B kd110 q1792 q1793 dX25_read_2_4 e (fun q3 e => ?_)
  refine ax_astore_n (L' := [(1, .inr (.inr (some q3.1))), (0, .inr (.inr x0))]) B dX25_read_2_7 rfl hl (by decide) rfl (fun ls hl => ?_)
  refine ax_aload_n B dX25_read_2_8 rfl hl 1 rfl ?_
  refine ax_getR B ff_X25_31_25 (fun _ _ => rfl) dX25_read_2_9 e (fun v4 e => ?_)
  refine ax_iconst B dX25_read_2_12 ?_
  refine ax_aload_n B dX25_read_2_13 rfl hl 0 rfl ?_
  refine ax_iconst B dX25_read_2_14 ?_
  refine ax_aload_n B dX25_read_2_15 rfl hl 0 rfl ?_
  refine ax_alen B kd110 dX25_read_2_16 e (fun v5 e => ?_)
  refine ax_copyR B kd110 (ok_110 B) q1816 q696 q695 q143 hl.size (by decide) (by decide) dX25_read_2_17 e (fun h6 e => ?_)
  refine ax_aload_n B dX25_read_2_20 rfl hl 0 rfl ?_
  cases e
  have hp : Q = _ := hp
  subst hp
  exact ax_retX (ax_areturn B Z (Or.inr ⟨_, rfl⟩) dX25_read_2_21 rfl)
theorem mt_X25_read_2 (l : Launch) (G : ax_G) (hSF : ax_SF G) (x0 : Option Nat) (h : ax_H) (w : (Nat × ax_H) ⊕ (Option Nat × ax_H)) (e : f_X25_read_2 G.2.2 x0 h = some w) : ax_MetX l G "DebtDoors$Wrong" yX25_read_2 cX25_read_2 2 ((some (FieldType.array (FieldType.object "DebtDoors$Order")))) 140 3221 [va_rf x0] h (ax_zR w) :=
  ax_enterX [.inr (.inr x0)] (y := yX25_read_2) hSF (plainFor_of_name (by decide +kernel)) (Nat.le_of_ble_eq_true rfl) (fun X ls B Z hn hT hl => we_X25_read_2 hSF B Z hn hT x0 hl e rfl)
def dkwX0_orders_6 : List UInt8 := [182, 0, 94, 172]
abbrev dktX0_orders_6 : List UInt8 := dkwX0_orders_6 ++ []
def dkwX0_orders_5 : List UInt8 := [182, 1, 36, 87, 42, 180, 0, 31, 182, 0, 91, 42, 180, 0, 31, 45, 182, 1, 226, 87, 42, 21, 4]
abbrev dktX0_orders_5 : List UInt8 := dkwX0_orders_5 ++ dktX0_orders_6
def dkwX0_orders_4 : List UInt8 := [42, 2, 181, 1, 219, 42, 43, 182, 1, 222, 54, 4, 21, 4, 156, 0, 28, 42, 182, 0, 104, 44]
abbrev dktX0_orders_4 : List UInt8 := dkwX0_orders_4 ++ dktX0_orders_5
def dkwX0_orders_3 : List UInt8 := [182, 0, 104, 182, 1, 36, 77, 187, 0, 28, 89, 42, 180, 0, 31, 183, 1, 216, 78, 42, 3, 181, 1, 207]
abbrev dktX0_orders_3 : List UInt8 := dkwX0_orders_3 ++ dktX0_orders_4
def dkwX0_orders_2 : List UInt8 := [181, 0, 114, 29, 172, 58, 4, 42, 3, 181, 0, 114, 25, 4, 191, 187, 0, 71, 89, 183, 0, 73, 42]
abbrev dktX0_orders_2 : List UInt8 := dkwX0_orders_2 ++ dktX0_orders_3
def dkwX0_orders_1 : List UInt8 := [181, 0, 114, 167, 0, 36, 77, 42, 44, 180, 0, 236, 181, 0, 60, 42, 16, 250, 182, 0, 94, 62, 42, 3]
abbrev dktX0_orders_1 : List UInt8 := dkwX0_orders_1 ++ dktX0_orders_2
def dkwX0_orders_0 : List UInt8 := [42, 2, 181, 0, 64, 187, 1, 210, 89, 42, 183, 1, 212, 182, 1, 213, 76, 42, 2, 181, 0, 60, 42, 3]
abbrev dktX0_orders_0 : List UInt8 := dkwX0_orders_0 ++ dktX0_orders_1
theorem dksX0_orders_0 : cX0_orders.data.toList.drop 0 = dktX0_orders_0 := by decide +kernel
theorem dksX0_orders_1 : cX0_orders.data.toList.drop 24 = dktX0_orders_1 := dk_seg dksX0_orders_0 24 rfl rfl
theorem dksX0_orders_2 : cX0_orders.data.toList.drop 48 = dktX0_orders_2 := dk_seg dksX0_orders_1 24 rfl rfl
theorem dksX0_orders_3 : cX0_orders.data.toList.drop 71 = dktX0_orders_3 := dk_seg dksX0_orders_2 23 rfl rfl
theorem dksX0_orders_4 : cX0_orders.data.toList.drop 95 = dktX0_orders_4 := dk_seg dksX0_orders_3 24 rfl rfl
theorem dksX0_orders_5 : cX0_orders.data.toList.drop 117 = dktX0_orders_5 := dk_seg dksX0_orders_4 22 rfl rfl
theorem dksX0_orders_6 : cX0_orders.data.toList.drop 140 = dktX0_orders_6 := dk_seg dksX0_orders_5 23 rfl rfl
theorem dX0_orders_0 : decode cX0_orders 0 = .ok (.aload_n 0, 1) := dk_42 (dk_at dksX0_orders_0 0 rfl rfl)
theorem dX0_orders_1 : decode cX0_orders 1 = .ok (.iconst (-1), 1) := dk_2 (dk_at dksX0_orders_0 1 rfl rfl)
theorem dX0_orders_2 : decode cX0_orders 2 = .ok (.putfield 64, 3) := dk_181 0 64 (dk_at dksX0_orders_0 2 rfl rfl)
theorem dX0_orders_5 : decode cX0_orders 5 = .ok (.new 466, 3) := dk_187 1 210 (dk_at dksX0_orders_0 5 rfl rfl)
theorem dX0_orders_8 : decode cX0_orders 8 = .ok (.dup, 1) := dk_89 (dk_at dksX0_orders_0 8 rfl rfl)
theorem dX0_orders_9 : decode cX0_orders 9 = .ok (.aload_n 0, 1) := dk_42 (dk_at dksX0_orders_0 9 rfl rfl)
theorem dX0_orders_10 : decode cX0_orders 10 = .ok (.invokespecial 468, 3) := dk_183 1 212 (dk_at dksX0_orders_0 10 rfl rfl)
theorem dX0_orders_13 : decode cX0_orders 13 = .ok (.invokevirtual 469, 3) := dk_182 1 213 (dk_at dksX0_orders_0 13 rfl rfl)
theorem dX0_orders_16 : decode cX0_orders 16 = .ok (.astore_n 1, 1) := dk_76 (dk_at dksX0_orders_0 16 rfl rfl)
theorem dX0_orders_17 : decode cX0_orders 17 = .ok (.aload_n 0, 1) := dk_42 (dk_at dksX0_orders_0 17 rfl rfl)
theorem dX0_orders_18 : decode cX0_orders 18 = .ok (.iconst (-1), 1) := dk_2 (dk_at dksX0_orders_0 18 rfl rfl)
theorem dX0_orders_19 : decode cX0_orders 19 = .ok (.putfield 60, 3) := dk_181 0 60 (dk_at dksX0_orders_0 19 rfl rfl)
theorem dX0_orders_22 : decode cX0_orders 22 = .ok (.aload_n 0, 1) := dk_42 (dk_at dksX0_orders_0 22 rfl rfl)
theorem dX0_orders_23 : decode cX0_orders 23 = .ok (.iconst 0, 1) := dk_3 (dk_at dksX0_orders_0 23 rfl rfl)
theorem dX0_orders_24 : decode cX0_orders 24 = .ok (.putfield 114, 3) := dk_181 0 114 (dk_at dksX0_orders_1 0 rfl rfl)
theorem dX0_orders_27 : decode cX0_orders 27 = .ok (.goto 36, 3) := dk_167 0 36 (dk_at dksX0_orders_1 3 rfl rfl)
theorem dX0_orders_30 : decode cX0_orders 30 = .ok (.astore_n 2, 1) := dk_77 (dk_at dksX0_orders_1 6 rfl rfl)
theorem dX0_orders_31 : decode cX0_orders 31 = .ok (.aload_n 0, 1) := dk_42 (dk_at dksX0_orders_1 7 rfl rfl)
theorem dX0_orders_32 : decode cX0_orders 32 = .ok (.aload_n 2, 1) := dk_44 (dk_at dksX0_orders_1 8 rfl rfl)
theorem dX0_orders_33 : decode cX0_orders 33 = .ok (.getfield 236, 3) := dk_180 0 236 (dk_at dksX0_orders_1 9 rfl rfl)
theorem dX0_orders_36 : decode cX0_orders 36 = .ok (.putfield 60, 3) := dk_181 0 60 (dk_at dksX0_orders_1 12 rfl rfl)
theorem dX0_orders_39 : decode cX0_orders 39 = .ok (.aload_n 0, 1) := dk_42 (dk_at dksX0_orders_1 15 rfl rfl)
theorem dX0_orders_40 : decode cX0_orders 40 = .ok (.bipush (-6), 2) := dk_16 250 (dk_at dksX0_orders_1 16 rfl rfl)
theorem dX0_orders_42 : decode cX0_orders 42 = .ok (.invokevirtual 94, 3) := dk_182 0 94 (dk_at dksX0_orders_1 18 rfl rfl)
theorem dX0_orders_45 : decode cX0_orders 45 = .ok (.istore_n 3, 1) := dk_62 (dk_at dksX0_orders_1 21 rfl rfl)
theorem dX0_orders_46 : decode cX0_orders 46 = .ok (.aload_n 0, 1) := dk_42 (dk_at dksX0_orders_1 22 rfl rfl)
theorem dX0_orders_47 : decode cX0_orders 47 = .ok (.iconst 0, 1) := dk_3 (dk_at dksX0_orders_1 23 rfl rfl)
theorem dX0_orders_48 : decode cX0_orders 48 = .ok (.putfield 114, 3) := dk_181 0 114 (dk_at dksX0_orders_2 0 rfl rfl)
theorem dX0_orders_51 : decode cX0_orders 51 = .ok (.iload_n 3, 1) := dk_29 (dk_at dksX0_orders_2 3 rfl rfl)
theorem dX0_orders_52 : decode cX0_orders 52 = .ok (.ireturn, 1) := dk_172 (dk_at dksX0_orders_2 4 rfl rfl)
theorem dX0_orders_53 : decode cX0_orders 53 = .ok (.astore 4, 2) := dk_58 4 (dk_at dksX0_orders_2 5 rfl rfl)
theorem dX0_orders_55 : decode cX0_orders 55 = .ok (.aload_n 0, 1) := dk_42 (dk_at dksX0_orders_2 7 rfl rfl)
theorem dX0_orders_56 : decode cX0_orders 56 = .ok (.iconst 0, 1) := dk_3 (dk_at dksX0_orders_2 8 rfl rfl)
theorem dX0_orders_57 : decode cX0_orders 57 = .ok (.putfield 114, 3) := dk_181 0 114 (dk_at dksX0_orders_2 9 rfl rfl)
theorem dX0_orders_60 : decode cX0_orders 60 = .ok (.aload 4, 2) := dk_25 4 (dk_at dksX0_orders_2 12 rfl rfl)
theorem dX0_orders_62 : decode cX0_orders 62 = .ok (.athrow, 1) := dk_191 (dk_at dksX0_orders_2 14 rfl rfl)
theorem dX0_orders_63 : decode cX0_orders 63 = .ok (.new 71, 3) := dk_187 0 71 (dk_at dksX0_orders_2 15 rfl rfl)
theorem dX0_orders_66 : decode cX0_orders 66 = .ok (.dup, 1) := dk_89 (dk_at dksX0_orders_2 18 rfl rfl)
theorem dX0_orders_67 : decode cX0_orders 67 = .ok (.invokespecial 73, 3) := dk_183 0 73 (dk_at dksX0_orders_2 19 rfl rfl)
theorem dX0_orders_70 : decode cX0_orders 70 = .ok (.aload_n 0, 1) := dk_42 (dk_at dksX0_orders_2 22 rfl rfl)
theorem dX0_orders_71 : decode cX0_orders 71 = .ok (.invokevirtual 104, 3) := dk_182 0 104 (dk_at dksX0_orders_3 0 rfl rfl)
theorem dX0_orders_74 : decode cX0_orders 74 = .ok (.invokevirtual 292, 3) := dk_182 1 36 (dk_at dksX0_orders_3 3 rfl rfl)
theorem dX0_orders_77 : decode cX0_orders 77 = .ok (.astore_n 2, 1) := dk_77 (dk_at dksX0_orders_3 6 rfl rfl)
theorem dX0_orders_78 : decode cX0_orders 78 = .ok (.new 28, 3) := dk_187 0 28 (dk_at dksX0_orders_3 7 rfl rfl)
theorem dX0_orders_81 : decode cX0_orders 81 = .ok (.dup, 1) := dk_89 (dk_at dksX0_orders_3 10 rfl rfl)
theorem dX0_orders_82 : decode cX0_orders 82 = .ok (.aload_n 0, 1) := dk_42 (dk_at dksX0_orders_3 11 rfl rfl)
theorem dX0_orders_83 : decode cX0_orders 83 = .ok (.getfield 31, 3) := dk_180 0 31 (dk_at dksX0_orders_3 12 rfl rfl)
theorem dX0_orders_86 : decode cX0_orders 86 = .ok (.invokespecial 472, 3) := dk_183 1 216 (dk_at dksX0_orders_3 15 rfl rfl)
theorem dX0_orders_89 : decode cX0_orders 89 = .ok (.astore_n 3, 1) := dk_78 (dk_at dksX0_orders_3 18 rfl rfl)
theorem dX0_orders_90 : decode cX0_orders 90 = .ok (.aload_n 0, 1) := dk_42 (dk_at dksX0_orders_3 19 rfl rfl)
theorem dX0_orders_91 : decode cX0_orders 91 = .ok (.iconst 0, 1) := dk_3 (dk_at dksX0_orders_3 20 rfl rfl)
theorem dX0_orders_92 : decode cX0_orders 92 = .ok (.putfield 463, 3) := dk_181 1 207 (dk_at dksX0_orders_3 21 rfl rfl)
theorem dX0_orders_95 : decode cX0_orders 95 = .ok (.aload_n 0, 1) := dk_42 (dk_at dksX0_orders_4 0 rfl rfl)
theorem dX0_orders_96 : decode cX0_orders 96 = .ok (.iconst (-1), 1) := dk_2 (dk_at dksX0_orders_4 1 rfl rfl)
theorem dX0_orders_97 : decode cX0_orders 97 = .ok (.putfield 475, 3) := dk_181 1 219 (dk_at dksX0_orders_4 2 rfl rfl)
theorem dX0_orders_100 : decode cX0_orders 100 = .ok (.aload_n 0, 1) := dk_42 (dk_at dksX0_orders_4 5 rfl rfl)
theorem dX0_orders_101 : decode cX0_orders 101 = .ok (.aload_n 1, 1) := dk_43 (dk_at dksX0_orders_4 6 rfl rfl)
theorem dX0_orders_102 : decode cX0_orders 102 = .ok (.invokevirtual 478, 3) := dk_182 1 222 (dk_at dksX0_orders_4 7 rfl rfl)
theorem dX0_orders_105 : decode cX0_orders 105 = .ok (.istore 4, 2) := dk_54 4 (dk_at dksX0_orders_4 10 rfl rfl)
theorem dX0_orders_107 : decode cX0_orders 107 = .ok (.iload 4, 2) := dk_21 4 (dk_at dksX0_orders_4 12 rfl rfl)
theorem dX0_orders_109 : decode cX0_orders 109 = .ok (.ifCond .ge 28, 3) := dk_156 0 28 (dk_at dksX0_orders_4 14 rfl rfl)
theorem dX0_orders_112 : decode cX0_orders 112 = .ok (.aload_n 0, 1) := dk_42 (dk_at dksX0_orders_4 17 rfl rfl)
theorem dX0_orders_113 : decode cX0_orders 113 = .ok (.invokevirtual 104, 3) := dk_182 0 104 (dk_at dksX0_orders_4 18 rfl rfl)
theorem dX0_orders_116 : decode cX0_orders 116 = .ok (.aload_n 2, 1) := dk_44 (dk_at dksX0_orders_4 21 rfl rfl)
theorem dX0_orders_117 : decode cX0_orders 117 = .ok (.invokevirtual 292, 3) := dk_182 1 36 (dk_at dksX0_orders_5 0 rfl rfl)
theorem dX0_orders_120 : decode cX0_orders 120 = .ok (.pop, 1) := dk_87 (dk_at dksX0_orders_5 3 rfl rfl)
theorem dX0_orders_121 : decode cX0_orders 121 = .ok (.aload_n 0, 1) := dk_42 (dk_at dksX0_orders_5 4 rfl rfl)
theorem dX0_orders_122 : decode cX0_orders 122 = .ok (.getfield 31, 3) := dk_180 0 31 (dk_at dksX0_orders_5 5 rfl rfl)
theorem dX0_orders_125 : decode cX0_orders 125 = .ok (.invokevirtual 91, 3) := dk_182 0 91 (dk_at dksX0_orders_5 8 rfl rfl)
theorem dX0_orders_128 : decode cX0_orders 128 = .ok (.aload_n 0, 1) := dk_42 (dk_at dksX0_orders_5 11 rfl rfl)
theorem dX0_orders_129 : decode cX0_orders 129 = .ok (.getfield 31, 3) := dk_180 0 31 (dk_at dksX0_orders_5 12 rfl rfl)
theorem dX0_orders_132 : decode cX0_orders 132 = .ok (.aload_n 3, 1) := dk_45 (dk_at dksX0_orders_5 15 rfl rfl)
theorem dX0_orders_133 : decode cX0_orders 133 = .ok (.invokevirtual 482, 3) := dk_182 1 226 (dk_at dksX0_orders_5 16 rfl rfl)
theorem dX0_orders_136 : decode cX0_orders 136 = .ok (.pop, 1) := dk_87 (dk_at dksX0_orders_5 19 rfl rfl)
theorem dX0_orders_137 : decode cX0_orders 137 = .ok (.aload_n 0, 1) := dk_42 (dk_at dksX0_orders_5 20 rfl rfl)
theorem dX0_orders_138 : decode cX0_orders 138 = .ok (.iload 4, 2) := dk_21 4 (dk_at dksX0_orders_5 21 rfl rfl)
theorem dX0_orders_140 : decode cX0_orders 140 = .ok (.invokevirtual 94, 3) := dk_182 0 94 (dk_at dksX0_orders_6 0 rfl rfl)
theorem dX0_orders_143 : decode cX0_orders 143 = .ok (.ireturn, 1) := dk_172 (dk_at dksX0_orders_6 3 rfl rfl)
noncomputable def f_X0_orders_137 (E : ax_E) (x0 : Option Nat) (x4 : Int) (h : ax_H) : Option (Int × ax_H) :=
  (ax_ce E h x0 0).bind fun _ => (f_X0_tell E x0 x4 h).bind fun q1 =>
  some (q1.1, q1.2)
noncomputable def f_X0_orders (E : ax_E) (x0 : Option Nat) (h : ax_H) : Option (Int × ax_H) :=
  (ax_pI h x0 0 10 (-1)).bind fun h1 =>
  (ax_nw E h1 25 0 10).bind fun q2 =>
  (some q2.1).bind fun _ => (f_X25_init E (some q2.1) x0 q2.2).bind fun h3 =>
  ax_tc (fun z5 =>
      (ax_gI E z5.2 (some z5.1) 8 6).bind fun v6 =>
      (ax_pI z5.2 x0 0 8 v6).bind fun h7 =>
      (ax_ce E h7 x0 0).bind fun _ => (f_X0_tell E x0 (-6) h7).bind fun q8 =>
      (ax_pI q8.2 x0 0 12 0).bind fun h9 =>
      some (q8.1, h9)) (ax_dp E h3 (some q2.1) fun t => if t = 25 then f_X25_read_2 E (some q2.1) h3 else none) fun q4 =>
  (ax_pI q4.2 x0 0 8 (-1)).bind fun h10 =>
  (ax_pI h10 x0 0 12 0).bind fun h11 =>
  (ax_nw E h11 2 0 7).bind fun q12 =>
  (some q12.1).bind fun _ => (f_X2_init E (some q12.1) q12.2).bind fun h13 =>
  (ax_ce E h13 x0 0).bind fun _ => (f_X0_books E x0 h13).bind fun q14 =>
  (ax_ce E q14.2 (some q12.1) 2).bind fun _ => (f_X2_as E (some q12.1) q14.1 q14.2).bind fun q15 =>
  (ax_nw E q15.2 42 0 3).bind fun q16 =>
  (ax_gR E q16.2 x0 0 2).bind fun v17 =>
  (some q16.1).bind fun _ => (f_J2_init_2 E (some q16.1) v17 q16.2).bind fun h18 =>
  (ax_pI h18 x0 0 15 0).bind fun h19 =>
  (ax_pI h19 x0 0 16 (-1)).bind fun h20 =>
  (ax_ce E h20 x0 0).bind fun _ => (f_X0_runAll E x0 q4.1 h20).bind fun q21 =>
  if i2 q21.1 < 0 then
    (ax_ce E q21.2 x0 0).bind fun _ => (f_X0_books E x0 q21.2).bind fun q22 =>
    (ax_ce E q22.2 q22.1 2).bind fun _ => (f_X2_as E q22.1 q15.1 q22.2).bind fun q23 =>
    (ax_gR E q23.2 x0 0 2).bind fun v24 =>
    (ax_ce E q23.2 v24 42).bind fun _ => (f_J2_clear E v24 q23.2).bind fun h25 =>
    (ax_gR E h25 x0 0 2).bind fun v26 =>
    (ax_ce E h25 v26 42).bind fun _ => (f_J2_addAll E v26 (some q16.1) h25).bind fun q27 =>
    f_X0_orders_137 E x0 q21.1 q27.2
  else
    f_X0_orders_137 E x0 q21.1 q21.2
set_option maxHeartbeats 4000000 in
theorem w_X0_orders_137 {l : Launch} {G : ax_G} {X : ax_X} {Q : State → Prop} {h0 h : ax_H} {ls : Array Slot} (hSF : ax_SF G) (B : ax_BL l G X cX0_orders 5 RX0 145 3676) (Z : ax_Z X h0 ((some FieldType.int))) (hn : X.2.2.2.2.2.2.2.2.1.name = yX0_orders.name) (hT : ax_tb X = tableOf [(5, 22, 30, 234), (5, 22, 53, 0), (30, 46, 53, 0), (53, 55, 53, 0)]) (x0 : Option Nat) (x4 : Int) {w : Int × ax_H} (hl : ax_hl ls 5 [(0, .inr (.inr x0)), (4, .inl x4)]) (e : f_X0_orders_137 G.2.2 x0 x4 h = some w) (hp : (fun w : Int × ax_H => Q = ax_Q G X h0 w.2 (some (.int (Int32.ofInt w.1)))) w) : ax_W G X Q h 137 ls [] := by
  unfold f_X0_orders_137 at e
  refine ax_aload_n B dX0_orders_137 rfl hl 0 rfl ?_
  refine ax_iload B dX0_orders_138 hl 1 rfl ?_
  refine ax_ivI (y := yX0_tell) (n := 1) (As := [.int (Int32.ofInt x4)]) B kd0 (lw_V q436 q438 qs1 q125 q439) (by decide +kernel) ⟨Nat.le_of_ble_eq_true rfl, Nat.le_of_ble_eq_true rfl⟩ (fun w1 e1 => mt_X0_tell l G hSF x0 x4 _ w1 e1) rfl hl.size (by decide) dX0_orders_140 e (fun q1 e => ?_)
  have e8 := e
  have hp : Q = _ := hp
  subst hp
  exact ax_ireturn B Z dX0_orders_143 e8
set_option maxHeartbeats 4000000 in
theorem we_X0_orders {l : Launch} {G : ax_G} {X : ax_X} {Q : State → Prop} {h0 h : ax_H} {ls : Array Slot} (hSF : ax_SF G) (B : ax_BL l G X cX0_orders 5 RX0 145 3676) (Z : ax_Z X h0 ((some FieldType.int))) (hn : X.2.2.2.2.2.2.2.2.1.name = yX0_orders.name) (hT : ax_tb X = tableOf [(5, 22, 30, 234), (5, 22, 53, 0), (30, 46, 53, 0), (53, 55, 53, 0)]) (x0 : Option Nat) {w : Int × ax_H} (hl : ax_hl ls 5 [(0, .inr (.inr x0))]) (e : f_X0_orders G.2.2 x0 h = some w) (hp : (fun w : Int × ax_H => Q = ax_Q G X h0 w.2 (some (.int (Int32.ofInt w.1)))) w) : ax_W G X Q h 0 ls [] := by
  unfold f_X0_orders at e
  refine ax_aload_n B dX0_orders_0 rfl hl 0 rfl ?_
  refine ax_iconst B dX0_orders_1 ?_
  refine ax_putI B ff_X0_64_0 (Or.inl rfl) rfl dX0_orders_2 e (fun h1 e => ?_)
  refine ax_new B kd25 in_X25 tyX25_ok (fun k hk => ax_dv _ (dfX25 k hk)) q1780 q1137 q167 dX0_orders_5 e (fun q2 e => ?_)
  refine ax_dup B dX0_orders_8 (va_rf_cat _) ?_
  refine ax_aload_n B dX0_orders_9 rfl hl 0 rfl ?_
  refine ax_iiR (y := yX25_init) (n := 1) (As := [va_rf x0]) B q1781 q1782 q167 q1783 rfl (by decide +kernel) ⟨Nat.le_of_ble_eq_true rfl, Nat.le_of_ble_eq_true rfl⟩ (fun w1 e1 => mt_X25_init l G hSF (some q2.1) x0 _ w1 e1) rfl hl.size (by simp only [List.map_cons, List.map_nil, List.sum_cons, List.sum_nil, va_rf_cat, ax_catI, ax_catL]; decide) dX0_orders_10 e (fun h3 e => ?_)
  refine ax_xwR (Ex := "DebtDoors$Wrong") (x := ⟨"DebtDoors$OrderReader", "read", "()[LDebtDoors$Order;"⟩) (n := 0) (As := []) B (fun w1 e1 => ?_) rfl hl.size (by decide) dX0_orders_13 e (fun z5 e => ?_) (fun q4 e => ?_)
  · obtain ⟨t, c, e2, e1⟩ := ax_dp_spec e1
    rcases ax_ite e1 with ⟨hk, e1⟩ | ⟨-, e1⟩
    · subst hk
      exact ax_calX B kd25 e2 q1809 (ax_smO B q1810 q1137 (by decide +kernel)) (ax_dcC B q1810 q1812) (B.2.1.2.2.2.2 _ q1811) q1810 q167 q1812 (by decide +kernel) ⟨Nat.le_of_ble_eq_true rfl, Nat.le_of_ble_eq_true rfl⟩ (mt_X25_read_2 l G hSF (some q2.1) _ w1 e1)
    cases e1
  · refine ax_caught (handler := 30) B hT (by decide) (by decide) q708 q809 rfl ?_
    refine ax_astore_n (L' := [(2, .inr (.inr (some z5.1))), (0, .inr (.inr x0))]) B dX0_orders_30 rfl hl (by decide) rfl (fun ls hl => ?_)
    refine ax_aload_n B dX0_orders_31 rfl hl 1 rfl ?_
    refine ax_aload_n B dX0_orders_32 rfl hl 0 rfl ?_
    refine ax_getI B ff_X0_236_8 (fun _ _ => rfl) dX0_orders_33 e (fun v6 e => ?_)
    refine ax_putI B ff_X0_60_0 (Or.inl rfl) rfl dX0_orders_36 e (fun h7 e => ?_)
    refine ax_aload_n B dX0_orders_39 rfl hl 1 rfl ?_
    refine ax_bipush B dX0_orders_40 (by decide) ?_
    refine ax_ivI (y := yX0_tell) (n := 1) (As := [.int (Int32.ofInt (-6))]) B kd0 (lw_V q436 q438 qs1 q125 q439) (by decide +kernel) ⟨Nat.le_of_ble_eq_true rfl, Nat.le_of_ble_eq_true rfl⟩ (fun w1 e1 => mt_X0_tell l G hSF x0 (-6) _ w1 e1) rfl hl.size (by decide) dX0_orders_42 e (fun q8 e => ?_)
    refine ax_istore_n (L' := [(3, .inl q8.1), (2, .inr (.inr (some z5.1))), (0, .inr (.inr x0))]) B dX0_orders_45 rfl hl (by decide) rfl (fun ls hl => ?_)
    refine ax_aload_n B dX0_orders_46 rfl hl 2 rfl ?_
    refine ax_iconst B dX0_orders_47 ?_
    refine ax_putI B ff_X0_114_0 (Or.inl rfl) rfl dX0_orders_48 e (fun h9 e => ?_)
    refine ax_iload_n B dX0_orders_51 rfl hl 0 rfl ?_
    have e8 := e
    have hp : Q = _ := hp
    subst hp
    exact ax_ireturn B Z dX0_orders_52 e8
  refine ax_astore_n (L' := [(1, .inr (.inr q4.1)), (0, .inr (.inr x0))]) B dX0_orders_16 rfl hl (by decide) rfl (fun ls hl => ?_)
  refine ax_aload_n B dX0_orders_17 rfl hl 1 rfl ?_
  refine ax_iconst B dX0_orders_18 ?_
  refine ax_putI B ff_X0_60_0 (Or.inl rfl) rfl dX0_orders_19 e (fun h10 e => ?_)
  refine ax_aload_n B dX0_orders_22 rfl hl 1 rfl ?_
  refine ax_iconst B dX0_orders_23 ?_
  refine ax_putI B ff_X0_114_0 (Or.inl rfl) rfl dX0_orders_24 e (fun h11 e => ?_)
  refine ax_goto (tgt := 63) B dX0_orders_27 (by decide) ?_
  refine ax_new B kd2 in_X2 tyX2_ok (fun k hk => ax_dv _ (dfX2 k hk)) q338 q218 q130 dX0_orders_63 e (fun q12 e => ?_)
  refine ax_dup B dX0_orders_66 (va_rf_cat _) ?_
  refine ax_iiNR (y := yX2_init) (n := 0) (As := []) B q339 q220 q130 q221 rfl (by decide +kernel) ⟨Nat.le_of_ble_eq_true rfl, Nat.le_of_ble_eq_true rfl⟩ (fun w1 e1 => mt_X2_init l G hSF (some q12.1) _ w1 e1) rfl hl.size (by simp only [List.map_cons, List.map_nil, List.sum_cons, List.sum_nil, va_rf_cat, ax_catI, ax_catL]; decide) dX0_orders_67 e (fun h13 e => ?_)
  refine ax_aload_n B dX0_orders_70 rfl hl 1 rfl ?_
  refine ax_ivR (y := yX0_books) (n := 0) (As := []) B kd0 (lw_V q443 q445 qs2 q125 q446) (by decide +kernel) ⟨Nat.le_of_ble_eq_true rfl, Nat.le_of_ble_eq_true rfl⟩ (fun w1 e1 => mt_X0_books l G hSF x0 _ w1 e1) rfl hl.size (by simp only [List.map_cons, List.map_nil, List.sum_cons, List.sum_nil, va_rf_cat, ax_catI, ax_catL]; decide) dX0_orders_71 e (fun q14 e => ?_)
  refine ax_ivR (y := yX2_as) (n := 1) (As := [va_rf q14.1]) B kd2 (lw_V q1377 q1378 q1379 q130 q1380) (by decide +kernel) ⟨Nat.le_of_ble_eq_true rfl, Nat.le_of_ble_eq_true rfl⟩ (fun w1 e1 => mt_X2_as l G hSF (some q12.1) q14.1 _ w1 e1) rfl hl.size (by decide) dX0_orders_74 e (fun q15 e => ?_)
  refine ax_astore_n (L' := [(2, .inr (.inr q15.1)), (1, .inr (.inr q4.1)), (0, .inr (.inr x0))]) B dX0_orders_77 rfl hl (by decide) rfl (fun ls hl => ?_)
  refine ax_new B kd42 in_J2 tyJ2_ok (fun k hk => ax_dv _ (dfJ2 k hk)) q301 q192 q129 dX0_orders_78 e (fun q16 e => ?_)
  refine ax_dup B dX0_orders_81 (va_rf_cat _) ?_
  refine ax_aload_n B dX0_orders_82 rfl hl 2 rfl ?_
  refine ax_getR B ff_X0_31_0 (fun _ _ => rfl) dX0_orders_83 e (fun v17 e => ?_)
  refine ax_iiR (y := yJ2_init_2) (n := 1) (As := [va_rf v17]) B q1817 q1818 q129 q1819 rfl (by decide +kernel) ⟨Nat.le_of_ble_eq_true rfl, Nat.le_of_ble_eq_true rfl⟩ (fun w1 e1 => mt_J2_init_2 l G hSF (some q16.1) v17 _ w1 e1) rfl hl.size (by simp only [List.map_cons, List.map_nil, List.sum_cons, List.sum_nil, va_rf_cat, ax_catI, ax_catL]; decide) dX0_orders_86 e (fun h18 e => ?_)
  refine ax_astore_n (L' := [(3, .inr (.inr (some q16.1))), (2, .inr (.inr q15.1)), (1, .inr (.inr q4.1)), (0, .inr (.inr x0))]) B dX0_orders_89 rfl hl (by decide) rfl (fun ls hl => ?_)
  refine ax_aload_n B dX0_orders_90 rfl hl 3 rfl ?_
  refine ax_iconst B dX0_orders_91 ?_
  refine ax_putI B ff_X0_463_0 (Or.inl rfl) rfl dX0_orders_92 e (fun h19 e => ?_)
  refine ax_aload_n B dX0_orders_95 rfl hl 3 rfl ?_
  refine ax_iconst B dX0_orders_96 ?_
  refine ax_putI B ff_X0_475_0 (Or.inl rfl) rfl dX0_orders_97 e (fun h20 e => ?_)
  refine ax_aload_n B dX0_orders_100 rfl hl 3 rfl ?_
  refine ax_aload_n B dX0_orders_101 rfl hl 2 rfl ?_
  refine ax_ivI (y := yX0_runAll) (n := 1) (As := [va_rf q4.1]) B kd0 (lw_V q1841 q1843 qs40 q125 q1844) (by decide +kernel) ⟨Nat.le_of_ble_eq_true rfl, Nat.le_of_ble_eq_true rfl⟩ (fun w1 e1 => mt_X0_runAll l G hSF x0 q4.1 _ w1 e1) rfl hl.size (by decide) dX0_orders_102 e (fun q21 e => ?_)
  refine ax_istore (L' := [(4, .inl q21.1), (3, .inr (.inr (some q16.1))), (2, .inr (.inr q15.1)), (1, .inr (.inr q4.1)), (0, .inr (.inr x0))]) B dX0_orders_105 hl (by decide) rfl (fun ls hl => ?_)
  refine ax_iload B dX0_orders_107 hl 0 rfl ?_
  refine ax_if_ge (tgt := 137) B dX0_orders_109 (by decide) e (fun e => ?_) (fun e => ?_)
  · refine ax_aload_n B dX0_orders_112 rfl hl 4 rfl ?_
    refine ax_ivR (y := yX0_books) (n := 0) (As := []) B kd0 (lw_V q443 q445 qs2 q125 q446) (by decide +kernel) ⟨Nat.le_of_ble_eq_true rfl, Nat.le_of_ble_eq_true rfl⟩ (fun w1 e1 => mt_X0_books l G hSF x0 _ w1 e1) rfl hl.size (by decide) dX0_orders_113 e (fun q22 e => ?_)
    refine ax_aload_n B dX0_orders_116 rfl hl 2 rfl ?_
    refine ax_ivR (y := yX2_as) (n := 1) (As := [va_rf q15.1]) B kd2 (lw_V q1377 q1378 q1379 q130 q1380) (by decide +kernel) ⟨Nat.le_of_ble_eq_true rfl, Nat.le_of_ble_eq_true rfl⟩ (fun w1 e1 => mt_X2_as l G hSF q22.1 q15.1 _ w1 e1) rfl hl.size (by decide) dX0_orders_117 e (fun q23 e => ?_)
    refine ax_pop B dX0_orders_120 (va_rf_cat _) ?_
    refine ax_aload_n B dX0_orders_121 rfl hl 4 rfl ?_
    refine ax_getR B ff_X0_31_0 (fun _ _ => rfl) dX0_orders_122 e (fun v24 e => ?_)
    refine ax_ivV (y := yJ2_clear) (n := 0) (As := []) B kd42 (lw_V q451 q452 q453 q129 q454) (by decide +kernel) ⟨Nat.le_of_ble_eq_true rfl, Nat.le_of_ble_eq_true rfl⟩ (fun w1 e1 => mt_J2_clear l G hSF v24 _ w1 e1) rfl hl.size (by decide) dX0_orders_125 e (fun h25 e => ?_)
    refine ax_aload_n B dX0_orders_128 rfl hl 4 rfl ?_
    refine ax_getR B ff_X0_31_0 (fun _ _ => rfl) dX0_orders_129 e (fun v26 e => ?_)
    refine ax_aload_n B dX0_orders_132 rfl hl 1 rfl ?_
    refine ax_ivI (y := yJ2_addAll) (n := 1) (As := [va_rf (some q16.1)]) B kd42 (lw_V q1895 q1896 q1897 q129 q1898) (by decide +kernel) ⟨Nat.le_of_ble_eq_true rfl, Nat.le_of_ble_eq_true rfl⟩ (fun w1 e1 => mt_J2_addAll l G hSF v26 (some q16.1) _ w1 e1) rfl hl.size (by decide) dX0_orders_133 e (fun q27 e => ?_)
    refine ax_pop B dX0_orders_136 (rfl) ?_
    exact w_X0_orders_137 hSF B Z hn hT x0 q21.1 (hl.sub [4, 0] rfl) e hp
  · exact w_X0_orders_137 hSF B Z hn hT x0 q21.1 (hl.sub [4, 0] rfl) e hp
theorem mt_X0_orders (l : Launch) (G : ax_G) (hSF : ax_SF G) (x0 : Option Nat) (h : ax_H) (w : Int × ax_H) (e : f_X0_orders G.2.2 x0 h = some w) : ax_MetW l G yX0_orders cX0_orders 5 ((some FieldType.int)) [(5, 22, 30, 234), (5, 22, 53, 0), (30, 46, 53, 0), (53, 55, 53, 0)] 145 3676 [va_rf x0] h w.2 (some (.int (Int32.ofInt w.1))) :=
  ax_enterW [.inr (.inr x0)] (y := yX0_orders) hSF (by decide +kernel) (Nat.le_of_ble_eq_true rfl) (fun X ls B Z hn hT hl => we_X0_orders hSF B Z hn hT x0 hl e rfl)
