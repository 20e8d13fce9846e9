set_option maxRecDepth 100000
def dkwX27_clear_1 : List UInt8 := [182, 0, 70, 28, 182, 0, 84, 132, 3, 1, 167, 255, 229, 177]
abbrev dktX27_clear_1 : List UInt8 := dkwX27_clear_1 ++ []
def dkwX27_clear_0 : List UInt8 := [42, 182, 0, 80, 61, 3, 62, 29, 42, 180, 0, 28, 162, 0, 25, 43, 42, 180, 0, 24, 29, 46, 42, 29]
abbrev dktX27_clear_0 : List UInt8 := dkwX27_clear_0 ++ dktX27_clear_1
theorem dksX27_clear_0 : cX27_clear.data.toList.drop 0 = dktX27_clear_0 := by decide +kernel
theorem dksX27_clear_1 : cX27_clear.data.toList.drop 24 = dktX27_clear_1 := dk_seg dksX27_clear_0 24 rfl rfl
theorem dX27_clear_0 : decode cX27_clear 0 = .ok (.aload_n 0, 1) := dk_42 (dk_at dksX27_clear_0 0 rfl rfl)
theorem dX27_clear_1 : decode cX27_clear 1 = .ok (.invokevirtual 80, 3) := dk_182 0 80 (dk_at dksX27_clear_0 1 rfl rfl)
theorem dX27_clear_4 : decode cX27_clear 4 = .ok (.istore_n 2, 1) := dk_61 (dk_at dksX27_clear_0 4 rfl rfl)
theorem dX27_clear_5 : decode cX27_clear 5 = .ok (.iconst 0, 1) := dk_3 (dk_at dksX27_clear_0 5 rfl rfl)
theorem dX27_clear_6 : decode cX27_clear 6 = .ok (.istore_n 3, 1) := dk_62 (dk_at dksX27_clear_0 6 rfl rfl)
theorem dX27_clear_7 : decode cX27_clear 7 = .ok (.iload_n 3, 1) := dk_29 (dk_at dksX27_clear_0 7 rfl rfl)
theorem dX27_clear_8 : decode cX27_clear 8 = .ok (.aload_n 0, 1) := dk_42 (dk_at dksX27_clear_0 8 rfl rfl)
theorem dX27_clear_9 : decode cX27_clear 9 = .ok (.getfield 28, 3) := dk_180 0 28 (dk_at dksX27_clear_0 9 rfl rfl)
theorem dX27_clear_12 : decode cX27_clear 12 = .ok (.if_icmp .ge 25, 3) := dk_162 0 25 (dk_at dksX27_clear_0 12 rfl rfl)
theorem dX27_clear_15 : decode cX27_clear 15 = .ok (.aload_n 1, 1) := dk_43 (dk_at dksX27_clear_0 15 rfl rfl)
theorem dX27_clear_16 : decode cX27_clear 16 = .ok (.aload_n 0, 1) := dk_42 (dk_at dksX27_clear_0 16 rfl rfl)
theorem dX27_clear_17 : decode cX27_clear 17 = .ok (.getfield 24, 3) := dk_180 0 24 (dk_at dksX27_clear_0 17 rfl rfl)
theorem dX27_clear_20 : decode cX27_clear 20 = .ok (.iload_n 3, 1) := dk_29 (dk_at dksX27_clear_0 20 rfl rfl)
theorem dX27_clear_21 : decode cX27_clear 21 = .ok (.iaload, 1) := dk_46 (dk_at dksX27_clear_0 21 rfl rfl)
theorem dX27_clear_22 : decode cX27_clear 22 = .ok (.aload_n 0, 1) := dk_42 (dk_at dksX27_clear_0 22 rfl rfl)
theorem dX27_clear_23 : decode cX27_clear 23 = .ok (.iload_n 3, 1) := dk_29 (dk_at dksX27_clear_0 23 rfl rfl)
theorem dX27_clear_24 : decode cX27_clear 24 = .ok (.invokevirtual 70, 3) := dk_182 0 70 (dk_at dksX27_clear_1 0 rfl rfl)
theorem dX27_clear_27 : decode cX27_clear 27 = .ok (.iload_n 2, 1) := dk_28 (dk_at dksX27_clear_1 3 rfl rfl)
theorem dX27_clear_28 : decode cX27_clear 28 = .ok (.invokevirtual 84, 3) := dk_182 0 84 (dk_at dksX27_clear_1 4 rfl rfl)
theorem dX27_clear_31 : decode cX27_clear 31 = .ok (.iinc 3 1, 3) := dk_132 3 1 (dk_at dksX27_clear_1 7 rfl rfl)
theorem dX27_clear_34 : decode cX27_clear 34 = .ok (.goto (-27), 3) := dk_167 255 229 (dk_at dksX27_clear_1 10 rfl rfl)
theorem dX27_clear_37 : decode cX27_clear 37 = .ok (.return_, 1) := dk_177 (dk_at dksX27_clear_1 13 rfl rfl)
noncomputable def lb_X27_clear_7 (E : ax_E) (x0 : Option Nat) (x1 : Option Nat) (x2 : Int) (x3 : Int) (h : ax_H) : Option ((Int × ax_H) ⊕ (ax_H)) :=
  (ax_gI E h x0 27 3).bind fun v1 =>
  if i2 x3 < i2 v1 then
    (ax_gR E h x0 27 2).bind fun v2 =>
    (ax_ld E h v2 100 x3).bind fun v3 =>
    (ax_ce E h x0 27).bind fun _ => (f_X27_next E x0 x3 h).bind fun q4 =>
    (ax_ce E q4.2 x1 2).bind fun _ => (f_X2_lessen E x1 v3 q4.1 x2 q4.2).bind fun h5 =>
    some (.inl ((x3 + 1), h5))
  else
    (some h).map Sum.inr
noncomputable def f_X27_clear_7 (E : ax_E) (x0 : Option Nat) (x1 : Option Nat) (x2 : Int) (x3 : Int) (h : ax_H) : Option (ax_H) :=
  ax_iter (fun s : Int × ax_H => lb_X27_clear_7 E x0 x1 x2 s.1 s.2) (x3, h)
noncomputable def f_X27_clear (E : ax_E) (x0 : Option Nat) (x1 : Option Nat) (h : ax_H) : Option (ax_H) :=
  (ax_ce E h x0 27).bind fun _ => (f_X27_least E x0 h).bind fun q1 =>
  f_X27_clear_7 E x0 x1 q1.1 0 q1.2
def pi_X27_clear_7 (G : ax_G) (X : ax_X) (Q : State → Prop) (x0 : Option Nat) (x1 : Option Nat) (x2 : Int) : Int × ax_H → Prop := fun s => ∀ ls : Array Slot, ax_hl ls 4 [(0, .inr (.inr x0)), (1, .inr (.inr x1)), (2, .inl x2), (3, .inl s.1)] → ax_W G X Q s.2 7 ls []
set_option maxHeartbeats 4000000 in
theorem wb_X27_clear_7 {l : Launch} {G : ax_G} {X : ax_X} {Q : State → Prop} {h0 h : ax_H} {ls : Array Slot} (hSF : ax_SF G) (B : ax_BL l G X cX27_clear 4 RX27 4 111) (Z : ax_Z X h0 none) (hn : X.2.2.2.2.2.2.2.2.1.name = yX27_clear.name) (x0 : Option Nat) (x1 : Option Nat) (x2 : Int) (x3 : Int) {w : (Int × ax_H) ⊕ (ax_H)} (hl : ax_hl ls 4 [(0, .inr (.inr x0)), (1, .inr (.inr x1)), (2, .inl x2), (3, .inl x3)]) (e : lb_X27_clear_7 G.2.2 x0 x1 x2 x3 h = some w) (hp : (ax_PL (pi_X27_clear_7 G X Q x0 x1 x2) (fun w : ax_H => Q = ax_Q G X h0 w none)) w) : ax_W G X Q h 7 ls [] := by
  unfold lb_X27_clear_7 at e
  refine ax_iload_n B dX27_clear_7 rfl hl 3 rfl ?_
  refine ax_aload_n B dX27_clear_8 rfl hl 0 rfl ?_
  refine ax_getI B ff_X27_28_27 (fun _ _ => rfl) dX27_clear_9 e (fun v1 e => ?_)
  refine ax_icmp_ge (tgt := 37) B dX27_clear_12 (by decide) e (fun e => ?_) (fun e => ?_)
  · refine ax_aload_n B dX27_clear_15 rfl hl 1 rfl ?_
    refine ax_aload_n B dX27_clear_16 rfl hl 0 rfl ?_
    refine ax_getR B ff_X27_24_27 (fun _ _ => rfl) dX27_clear_17 e (fun v2 e => ?_)
    refine ax_iload_n B dX27_clear_20 rfl hl 3 rfl ?_
    refine ax_iald B kd100 dX27_clear_21 e (fun v3 e => ?_)
    refine ax_aload_n B dX27_clear_22 rfl hl 0 rfl ?_
    refine ax_iload_n B dX27_clear_23 rfl hl 3 rfl ?_
    refine ax_ivI (y := yX27_next) (n := 1) (As := [.int (Int32.ofInt x3)]) B kd27 (lw_V q1701 q1703 qs38 q169 q1704) (by decide +kernel) ⟨Nat.le_of_ble_eq_true rfl, Nat.le_of_ble_eq_true rfl⟩ (fun w1 e1 => mt_X27_next l G hSF x0 x3 _ w1 e1) rfl hl.size (by simp only [List.map_cons, List.map_nil, List.sum_cons, List.sum_nil, va_rf_cat, ax_catI, ax_catL]; decide) dX27_clear_24 e (fun q4 e => ?_)
    refine ax_iload_n B dX27_clear_27 rfl hl 2 rfl ?_
    refine ax_ivV (y := yX2_lessen) (n := 3) (As := [.int (Int32.ofInt v3), .int (Int32.ofInt q4.1), .int (Int32.ofInt x2)]) B kd2 (lw_V q1711 q1422 q1423 q130 q1424) (by decide +kernel) ⟨Nat.le_of_ble_eq_true rfl, Nat.le_of_ble_eq_true rfl⟩ (fun w1 e1 => mt_X2_lessen l G hSF x1 v3 q4.1 x2 _ w1 e1) rfl hl.size (by decide) dX27_clear_28 e (fun h5 e => ?_)
    refine ax_iinc (L' := [(3, .inl (x3 + 1)), (0, .inr (.inr x0)), (1, .inr (.inr x1)), (2, .inl x2)]) B dX27_clear_31 hl 3 rfl (by decide) rfl (fun ls hl => ?_)
    refine ax_goto (tgt := 7) B dX27_clear_34 (by decide) ?_
    cases e
    exact hp _ (hl.sub [1, 2, 3, 0] rfl)
  · obtain ⟨w, e9_1, rfl⟩ := Option.map_eq_some_iff.mp e
    have e := e9_1
    have e8 := e
    have hp : Q = _ := hp
    subst hp
    exact ax_return B Z dX27_clear_37 e8
theorem w_X27_clear_7 {l : Launch} {G : ax_G} {X : ax_X} {Q : State → Prop} {h0 h : ax_H} {ls : Array Slot} (hSF : ax_SF G) (B : ax_BL l G X cX27_clear 4 RX27 4 111) (Z : ax_Z X h0 none) (hn : X.2.2.2.2.2.2.2.2.1.name = yX27_clear.name) (x0 : Option Nat) (x1 : Option Nat) (x2 : Int) (x3 : Int) {w : ax_H} (hl : ax_hl ls 4 [(0, .inr (.inr x0)), (1, .inr (.inr x1)), (2, .inl x2), (3, .inl x3)]) (e : f_X27_clear_7 G.2.2 x0 x1 x2 x3 h = some w) (hp : (fun w : ax_H => Q = ax_Q G X h0 w none) w) : ax_W G X Q h 7 ls [] :=
  ax_iter_W (Pin := pi_X27_clear_7 G X Q x0 x1 x2) (Pout := (fun w : ax_H => Q = ax_Q G X h0 w none)) (fun s w e hp ls hl => wb_X27_clear_7 hSF B Z hn x0 x1 x2 s.1 hl e hp) _ _ e hp ls hl
set_option maxHeartbeats 4000000 in
theorem we_X27_clear {l : Launch} {G : ax_G} {X : ax_X} {Q : State → Prop} {h0 h : ax_H} {ls : Array Slot} (hSF : ax_SF G) (B : ax_BL l G X cX27_clear 4 RX27 4 111) (Z : ax_Z X h0 none) (hn : X.2.2.2.2.2.2.2.2.1.name = yX27_clear.name) (x0 : Option Nat) (x1 : Option Nat) {w : ax_H} (hl : ax_hl ls 4 [(0, .inr (.inr x0)), (1, .inr (.inr x1))]) (e : f_X27_clear G.2.2 x0 x1 h = some w) (hp : (fun w : ax_H => Q = ax_Q G X h0 w none) w) : ax_W G X Q h 0 ls [] := by
  unfold f_X27_clear at e
  refine ax_aload_n B dX27_clear_0 rfl hl 0 rfl ?_
  refine ax_ivI (y := yX27_least) (n := 0) (As := []) B kd27 (lw_V q1710 q1698 q1699 q169 q1700) (by decide +kernel) ⟨Nat.le_of_ble_eq_true rfl, Nat.le_of_ble_eq_true rfl⟩ (fun w1 e1 => mt_X27_least l G hSF x0 _ w1 e1) rfl hl.size (by decide) dX27_clear_1 e (fun q1 e => ?_)
  refine ax_istore_n (L' := [(2, .inl q1.1), (0, .inr (.inr x0)), (1, .inr (.inr x1))]) B dX27_clear_4 rfl hl (by decide) rfl (fun ls hl => ?_)
  refine ax_iconst B dX27_clear_5 ?_
  refine ax_istore_n (L' := [(3, .inl 0), (2, .inl q1.1), (0, .inr (.inr x0)), (1, .inr (.inr x1))]) B dX27_clear_6 rfl hl (by decide) rfl (fun ls hl => ?_)
  exact w_X27_clear_7 hSF B Z hn x0 x1 q1.1 0 (hl.sub [2, 3, 1, 0] rfl) e hp
theorem mt_X27_clear (l : Launch) (G : ax_G) (hSF : ax_SF G) (x0 : Option Nat) (x1 : Option Nat) (h : ax_H) (w : ax_H) (e : f_X27_clear G.2.2 x0 x1 h = some w) : ax_Met l G yX27_clear cX27_clear 4 none 4 111 [va_rf x0, va_rf x1] h w none :=
  ax_enter [.inr (.inr x0), .inr (.inr x1)] (y := yX27_clear) hSF (plainFor_of_name (by decide +kernel)) (Nat.le_of_ble_eq_true rfl) (fun X ls B Z hn hl => we_X27_clear hSF B Z hn x0 x1 hl e rfl)
def dkwX0_clear_2 : List UInt8 := [182, 0, 94, 172]
abbrev dktX0_clear_2 : List UInt8 := dkwX0_clear_2 ++ []
def dkwX0_clear_1 : List UInt8 := [182, 0, 94, 172, 42, 8, 182, 1, 47, 43, 182, 1, 168, 61, 43, 42, 182, 0, 104, 182, 1, 171, 42, 28]
abbrev dktX0_clear_1 : List UInt8 := dkwX0_clear_1 ++ dktX0_clear_2
def dkwX0_clear_0 : List UInt8 := [187, 1, 156, 89, 42, 42, 182, 0, 104, 183, 1, 158, 76, 43, 182, 1, 161, 154, 0, 10, 42, 16, 253]
abbrev dktX0_clear_0 : List UInt8 := dkwX0_clear_0 ++ dktX0_clear_1
theorem dksX0_clear_0 : cX0_clear.data.toList.drop 0 = dktX0_clear_0 := by decide +kernel
theorem dksX0_clear_1 : cX0_clear.data.toList.drop 23 = dktX0_clear_1 := dk_seg dksX0_clear_0 23 rfl rfl
theorem dksX0_clear_2 : cX0_clear.data.toList.drop 47 = dktX0_clear_2 := dk_seg dksX0_clear_1 24 rfl rfl
theorem dX0_clear_0 : decode cX0_clear 0 = .ok (.new 412, 3) := dk_187 1 156 (dk_at dksX0_clear_0 0 rfl rfl)
theorem dX0_clear_3 : decode cX0_clear 3 = .ok (.dup, 1) := dk_89 (dk_at dksX0_clear_0 3 rfl rfl)
theorem dX0_clear_4 : decode cX0_clear 4 = .ok (.aload_n 0, 1) := dk_42 (dk_at dksX0_clear_0 4 rfl rfl)
theorem dX0_clear_5 : decode cX0_clear 5 = .ok (.aload_n 0, 1) := dk_42 (dk_at dksX0_clear_0 5 rfl rfl)
theorem dX0_clear_6 : decode cX0_clear 6 = .ok (.invokevirtual 104, 3) := dk_182 0 104 (dk_at dksX0_clear_0 6 rfl rfl)
theorem dX0_clear_9 : decode cX0_clear 9 = .ok (.invokespecial 414, 3) := dk_183 1 158 (dk_at dksX0_clear_0 9 rfl rfl)
theorem dX0_clear_12 : decode cX0_clear 12 = .ok (.astore_n 1, 1) := dk_76 (dk_at dksX0_clear_0 12 rfl rfl)
theorem dX0_clear_13 : decode cX0_clear 13 = .ok (.aload_n 1, 1) := dk_43 (dk_at dksX0_clear_0 13 rfl rfl)
theorem dX0_clear_14 : decode cX0_clear 14 = .ok (.invokevirtual 417, 3) := dk_182 1 161 (dk_at dksX0_clear_0 14 rfl rfl)
theorem dX0_clear_17 : decode cX0_clear 17 = .ok (.ifCond .ne 10, 3) := dk_154 0 10 (dk_at dksX0_clear_0 17 rfl rfl)
theorem dX0_clear_20 : decode cX0_clear 20 = .ok (.aload_n 0, 1) := dk_42 (dk_at dksX0_clear_0 20 rfl rfl)
theorem dX0_clear_21 : decode cX0_clear 21 = .ok (.bipush (-3), 2) := dk_16 253 (dk_at dksX0_clear_0 21 rfl rfl)
theorem dX0_clear_23 : decode cX0_clear 23 = .ok (.invokevirtual 94, 3) := dk_182 0 94 (dk_at dksX0_clear_1 0 rfl rfl)
theorem dX0_clear_26 : decode cX0_clear 26 = .ok (.ireturn, 1) := dk_172 (dk_at dksX0_clear_1 3 rfl rfl)
theorem dX0_clear_27 : decode cX0_clear 27 = .ok (.aload_n 0, 1) := dk_42 (dk_at dksX0_clear_1 4 rfl rfl)
theorem dX0_clear_28 : decode cX0_clear 28 = .ok (.iconst 5, 1) := dk_8 (dk_at dksX0_clear_1 5 rfl rfl)
theorem dX0_clear_29 : decode cX0_clear 29 = .ok (.invokevirtual 303, 3) := dk_182 1 47 (dk_at dksX0_clear_1 6 rfl rfl)
theorem dX0_clear_32 : decode cX0_clear 32 = .ok (.aload_n 1, 1) := dk_43 (dk_at dksX0_clear_1 9 rfl rfl)
theorem dX0_clear_33 : decode cX0_clear 33 = .ok (.invokevirtual 424, 3) := dk_182 1 168 (dk_at dksX0_clear_1 10 rfl rfl)
theorem dX0_clear_36 : decode cX0_clear 36 = .ok (.istore_n 2, 1) := dk_61 (dk_at dksX0_clear_1 13 rfl rfl)
theorem dX0_clear_37 : decode cX0_clear 37 = .ok (.aload_n 1, 1) := dk_43 (dk_at dksX0_clear_1 14 rfl rfl)
theorem dX0_clear_38 : decode cX0_clear 38 = .ok (.aload_n 0, 1) := dk_42 (dk_at dksX0_clear_1 15 rfl rfl)
theorem dX0_clear_39 : decode cX0_clear 39 = .ok (.invokevirtual 104, 3) := dk_182 0 104 (dk_at dksX0_clear_1 16 rfl rfl)
theorem dX0_clear_42 : decode cX0_clear 42 = .ok (.invokevirtual 427, 3) := dk_182 1 171 (dk_at dksX0_clear_1 19 rfl rfl)
theorem dX0_clear_45 : decode cX0_clear 45 = .ok (.aload_n 0, 1) := dk_42 (dk_at dksX0_clear_1 22 rfl rfl)
theorem dX0_clear_46 : decode cX0_clear 46 = .ok (.iload_n 2, 1) := dk_28 (dk_at dksX0_clear_1 23 rfl rfl)
theorem dX0_clear_47 : decode cX0_clear 47 = .ok (.invokevirtual 94, 3) := dk_182 0 94 (dk_at dksX0_clear_2 0 rfl rfl)
theorem dX0_clear_50 : decode cX0_clear 50 = .ok (.ireturn, 1) := dk_172 (dk_at dksX0_clear_2 3 rfl rfl)
noncomputable def f_X0_clear (E : ax_E) (x0 : Option Nat) (h : ax_H) : Option (Int × ax_H) :=
  (ax_nw E h 27 0 6).bind fun q1 =>
  (ax_ce E q1.2 x0 0).bind fun _ => (f_X0_books E x0 q1.2).bind fun q2 =>
  (some q1.1).bind fun _ => (f_X27_init E (some q1.1) x0 q2.1 q2.2).bind fun h3 =>
  (ax_ce E h3 (some q1.1) 27).bind fun _ => (f_X27_is E (some q1.1) h3).bind fun q4 =>
  if i2 q4.1 = 0 then
    (ax_ce E q4.2 x0 0).bind fun _ => (f_X0_tell E x0 (-3) q4.2).bind fun q5 =>
    some (q5.1, q5.2)
  else
    (ax_ce E q4.2 x0 0).bind fun _ => (f_X0_remember E x0 5 q4.2).bind fun h6 =>
    (ax_ce E h6 (some q1.1) 27).bind fun _ => (f_X27_least E (some q1.1) h6).bind fun q7 =>
    (ax_ce E q7.2 x0 0).bind fun _ => (f_X0_books E x0 q7.2).bind fun q8 =>
    (ax_ce E q8.2 (some q1.1) 27).bind fun _ => (f_X27_clear E (some q1.1) q8.1 q8.2).bind fun h9 =>
    (ax_ce E h9 x0 0).bind fun _ => (f_X0_tell E x0 q7.1 h9).bind fun q10 =>
    some (q10.1, q10.2)
set_option maxHeartbeats 4000000 in
theorem we_X0_clear {l : Launch} {G : ax_G} {X : ax_X} {Q : State → Prop} {h0 h : ax_H} {ls : Array Slot} (hSF : ax_SF G) (B : ax_BL l G X cX0_clear 3 RX0 68 1579) (Z : ax_Z X h0 ((some FieldType.int))) (hn : X.2.2.2.2.2.2.2.2.1.name = yX0_clear.name) (x0 : Option Nat) {w : Int × ax_H} (hl : ax_hl ls 3 [(0, .inr (.inr x0))]) (e : f_X0_clear G.2.2 x0 h = some w) (hp : (fun w : Int × ax_H => Q = ax_Q G X h0 w.2 (some (.int (Int32.ofInt w.1)))) w) : ax_W G X Q h 0 ls [] := by
  unfold f_X0_clear at e
  refine ax_new B kd27 in_X27 tyX27_ok (fun k hk => ax_dv _ (dfX27 k hk)) q1653 q1654 q169 dX0_clear_0 e (fun q1 e => ?_)
  refine ax_dup B dX0_clear_3 (va_rf_cat _) ?_
  refine ax_aload_n B dX0_clear_4 rfl hl 0 rfl ?_
  refine ax_aload_n B dX0_clear_5 rfl hl 0 rfl ?_
  refine ax_ivR (y := yX0_books) (n := 0) (As := []) B kd0 (lw_V q443 q445 qs2 q125 q446) (by decide +kernel) ⟨Nat.le_of_ble_eq_true rfl, Nat.le_of_ble_eq_true rfl⟩ (fun w1 e1 => mt_X0_books l G hSF x0 _ w1 e1) rfl hl.size (by simp only [List.map_cons, List.map_nil, List.sum_cons, List.sum_nil, va_rf_cat, ax_catI, ax_catL]; decide) dX0_clear_6 e (fun q2 e => ?_)
  refine ax_iiR (y := yX27_init) (n := 2) (As := [va_rf x0, va_rf q2.1]) B q1655 q1656 q169 q1657 rfl (by decide +kernel) ⟨Nat.le_of_ble_eq_true rfl, Nat.le_of_ble_eq_true rfl⟩ (fun w1 e1 => mt_X27_init l G hSF (some q1.1) x0 q2.1 _ w1 e1) rfl hl.size (by simp only [List.map_cons, List.map_nil, List.sum_cons, List.sum_nil, va_rf_cat, ax_catI, ax_catL]; decide) dX0_clear_9 e (fun h3 e => ?_)
  refine ax_astore_n (L' := [(1, .inr (.inr (some q1.1))), (0, .inr (.inr x0))]) B dX0_clear_12 rfl hl (by decide) rfl (fun ls hl => ?_)
  refine ax_aload_n B dX0_clear_13 rfl hl 0 rfl ?_
  refine ax_ivI (y := yX27_is) (n := 0) (As := []) B kd27 (lw_V q1689 q1690 q1691 q169 q1692) (by decide +kernel) ⟨Nat.le_of_ble_eq_true rfl, Nat.le_of_ble_eq_true rfl⟩ (fun w1 e1 => mt_X27_is l G hSF (some q1.1) _ w1 e1) rfl hl.size (by decide) dX0_clear_14 e (fun q4 e => ?_)
  refine ax_if_ne (tgt := 27) B dX0_clear_17 (by decide) e (fun e => ?_) (fun e => ?_)
  · refine ax_aload_n B dX0_clear_20 rfl hl 1 rfl ?_
    refine ax_bipush B dX0_clear_21 (by decide) ?_
    refine ax_ivI (y := yX0_tell) (n := 1) (As := [.int (Int32.ofInt (-3))]) B kd0 (lw_V q436 q438 qs1 q125 q439) (by decide +kernel) ⟨Nat.le_of_ble_eq_true rfl, Nat.le_of_ble_eq_true rfl⟩ (fun w1 e1 => mt_X0_tell l G hSF x0 (-3) _ w1 e1) rfl hl.size (by decide) dX0_clear_23 e (fun q5 e => ?_)
    have e8 := e
    have hp : Q = _ := hp
    subst hp
    exact ax_ireturn B Z dX0_clear_26 e8
  · refine ax_aload_n B dX0_clear_27 rfl hl 1 rfl ?_
    refine ax_iconst B dX0_clear_28 ?_
    refine ax_ivV (y := yX0_remember) (n := 1) (As := [.int (Int32.ofInt 5)]) B kd0 (lw_V q1362 q1364 qs26 q125 q1365) (by decide +kernel) ⟨Nat.le_of_ble_eq_true rfl, Nat.le_of_ble_eq_true rfl⟩ (fun w1 e1 => mt_X0_remember l G hSF x0 5 _ w1 e1) rfl hl.size (by decide) dX0_clear_29 e (fun h6 e => ?_)
    refine ax_aload_n B dX0_clear_32 rfl hl 0 rfl ?_
    refine ax_ivI (y := yX27_least) (n := 0) (As := []) B kd27 (lw_V q1697 q1698 q1699 q169 q1700) (by decide +kernel) ⟨Nat.le_of_ble_eq_true rfl, Nat.le_of_ble_eq_true rfl⟩ (fun w1 e1 => mt_X27_least l G hSF (some q1.1) _ w1 e1) rfl hl.size (by decide) dX0_clear_33 e (fun q7 e => ?_)
    refine ax_istore_n (L' := [(2, .inl q7.1), (1, .inr (.inr (some q1.1))), (0, .inr (.inr x0))]) B dX0_clear_36 rfl hl (by decide) rfl (fun ls hl => ?_)
    refine ax_aload_n B dX0_clear_37 rfl hl 1 rfl ?_
    refine ax_aload_n B dX0_clear_38 rfl hl 2 rfl ?_
    refine ax_ivR (y := yX0_books) (n := 0) (As := []) B kd0 (lw_V q443 q445 qs2 q125 q446) (by decide +kernel) ⟨Nat.le_of_ble_eq_true rfl, Nat.le_of_ble_eq_true rfl⟩ (fun w1 e1 => mt_X0_books l G hSF x0 _ w1 e1) rfl hl.size (by simp only [List.map_cons, List.map_nil, List.sum_cons, List.sum_nil, va_rf_cat, ax_catI, ax_catL]; decide) dX0_clear_39 e (fun q8 e => ?_)
    refine ax_ivV (y := yX27_clear) (n := 1) (As := [va_rf q8.1]) B kd27 (lw_V q1706 q1707 q1708 q169 q1709) (by decide +kernel) ⟨Nat.le_of_ble_eq_true rfl, Nat.le_of_ble_eq_true rfl⟩ (fun w1 e1 => mt_X27_clear l G hSF (some q1.1) q8.1 _ w1 e1) rfl hl.size (by decide) dX0_clear_42 e (fun h9 e => ?_)
    refine ax_aload_n B dX0_clear_45 rfl hl 2 rfl ?_
    refine ax_iload_n B dX0_clear_46 rfl hl 0 rfl ?_
    refine ax_ivI (y := yX0_tell) (n := 1) (As := [.int (Int32.ofInt q7.1)]) B kd0 (lw_V q436 q438 qs1 q125 q439) (by decide +kernel) ⟨Nat.le_of_ble_eq_true rfl, Nat.le_of_ble_eq_true rfl⟩ (fun w1 e1 => mt_X0_tell l G hSF x0 q7.1 _ w1 e1) rfl hl.size (by decide) dX0_clear_47 e (fun q10 e => ?_)
    have e8 := e
    have hp : Q = _ := hp
    subst hp
    exact ax_ireturn B Z dX0_clear_50 e8
theorem mt_X0_clear (l : Launch) (G : ax_G) (hSF : ax_SF G) (x0 : Option Nat) (h : ax_H) (w : Int × ax_H) (e : f_X0_clear G.2.2 x0 h = some w) : ax_Met l G yX0_clear cX0_clear 3 ((some FieldType.int)) 68 1579 [va_rf x0] h w.2 (some (.int (Int32.ofInt w.1))) :=
  ax_enter [.inr (.inr x0)] (y := yX0_clear) hSF (plainFor_of_name (by decide +kernel)) (Nat.le_of_ble_eq_true rfl) (fun X ls B Z hn hl => we_X0_clear hSF B Z hn x0 hl e rfl)
def dkwX0_cleared_6 : List UInt8 := [132, 4, 1, 167, 255, 176, 29, 172]
abbrev dktX0_cleared_6 : List UInt8 := dkwX0_cleared_6 ++ []
def dkwX0_cleared_5 : List UInt8 := [21, 5, 3, 182, 1, 24, 162, 0, 7, 4, 167, 0, 4, 3, 96, 62, 132, 5, 1, 167, 255, 197]
abbrev dktX0_cleared_5 : List UInt8 := dkwX0_cleared_5 ++ dktX0_cleared_6
def dkwX0_cleared_4 : List UInt8 := [159, 0, 36, 42, 42, 180, 0, 74, 21, 4, 21, 5, 3, 182, 1, 24, 42, 42, 182, 0, 104, 21, 4]
abbrev dktX0_cleared_4 : List UInt8 := dkwX0_cleared_4 ++ dktX0_cleared_5
def dkwX0_cleared_3 : List UInt8 := [162, 0, 74, 3, 54, 5, 21, 5, 42, 180, 0, 20, 180, 0, 101, 162, 0, 53, 29, 21, 4, 21, 5]
abbrev dktX0_cleared_3 : List UInt8 := dkwX0_cleared_3 ++ dktX0_cleared_4
def dkwX0_cleared_2 : List UInt8 := [182, 0, 104, 182, 1, 36, 182, 1, 171, 3, 62, 3, 54, 4, 21, 4, 42, 180, 0, 20, 180, 0, 101]
abbrev dktX0_cleared_2 : List UInt8 := dkwX0_cleared_2 ++ dktX0_cleared_3
def dkwX0_cleared_1 : List UInt8 := [184, 0, 5, 154, 0, 5, 2, 172, 27, 154, 0, 8, 44, 182, 1, 168, 172, 44, 42, 180, 0, 74, 42]
abbrev dktX0_cleared_1 : List UInt8 := dkwX0_cleared_1 ++ dktX0_cleared_2
def dkwX0_cleared_0 : List UInt8 := [187, 1, 156, 89, 42, 42, 182, 0, 104, 183, 1, 158, 77, 44, 182, 1, 161, 153, 0, 13, 27, 133, 9, 10]
abbrev dktX0_cleared_0 : List UInt8 := dkwX0_cleared_0 ++ dktX0_cleared_1
theorem dksX0_cleared_0 : cX0_cleared.data.toList.drop 0 = dktX0_cleared_0 := by decide +kernel
theorem dksX0_cleared_1 : cX0_cleared.data.toList.drop 24 = dktX0_cleared_1 := dk_seg dksX0_cleared_0 24 rfl rfl
theorem dksX0_cleared_2 : cX0_cleared.data.toList.drop 47 = dktX0_cleared_2 := dk_seg dksX0_cleared_1 23 rfl rfl
theorem dksX0_cleared_3 : cX0_cleared.data.toList.drop 70 = dktX0_cleared_3 := dk_seg dksX0_cleared_2 23 rfl rfl
theorem dksX0_cleared_4 : cX0_cleared.data.toList.drop 93 = dktX0_cleared_4 := dk_seg dksX0_cleared_3 23 rfl rfl
theorem dksX0_cleared_5 : cX0_cleared.data.toList.drop 116 = dktX0_cleared_5 := dk_seg dksX0_cleared_4 23 rfl rfl
theorem dksX0_cleared_6 : cX0_cleared.data.toList.drop 138 = dktX0_cleared_6 := dk_seg dksX0_cleared_5 22 rfl rfl
theorem dX0_cleared_0 : decode cX0_cleared 0 = .ok (.new 412, 3) := dk_187 1 156 (dk_at dksX0_cleared_0 0 rfl rfl)
theorem dX0_cleared_3 : decode cX0_cleared 3 = .ok (.dup, 1) := dk_89 (dk_at dksX0_cleared_0 3 rfl rfl)
theorem dX0_cleared_4 : decode cX0_cleared 4 = .ok (.aload_n 0, 1) := dk_42 (dk_at dksX0_cleared_0 4 rfl rfl)
theorem dX0_cleared_5 : decode cX0_cleared 5 = .ok (.aload_n 0, 1) := dk_42 (dk_at dksX0_cleared_0 5 rfl rfl)
theorem dX0_cleared_6 : decode cX0_cleared 6 = .ok (.invokevirtual 104, 3) := dk_182 0 104 (dk_at dksX0_cleared_0 6 rfl rfl)
theorem dX0_cleared_9 : decode cX0_cleared 9 = .ok (.invokespecial 414, 3) := dk_183 1 158 (dk_at dksX0_cleared_0 9 rfl rfl)
theorem dX0_cleared_12 : decode cX0_cleared 12 = .ok (.astore_n 2, 1) := dk_77 (dk_at dksX0_cleared_0 12 rfl rfl)
theorem dX0_cleared_13 : decode cX0_cleared 13 = .ok (.aload_n 2, 1) := dk_44 (dk_at dksX0_cleared_0 13 rfl rfl)
theorem dX0_cleared_14 : decode cX0_cleared 14 = .ok (.invokevirtual 417, 3) := dk_182 1 161 (dk_at dksX0_cleared_0 14 rfl rfl)
theorem dX0_cleared_17 : decode cX0_cleared 17 = .ok (.ifCond .eq 13, 3) := dk_153 0 13 (dk_at dksX0_cleared_0 17 rfl rfl)
theorem dX0_cleared_20 : decode cX0_cleared 20 = .ok (.iload_n 1, 1) := dk_27 (dk_at dksX0_cleared_0 20 rfl rfl)
theorem dX0_cleared_21 : decode cX0_cleared 21 = .ok (.i2l, 1) := dk_133 (dk_at dksX0_cleared_0 21 rfl rfl)
theorem dX0_cleared_22 : decode cX0_cleared 22 = .ok (.lconst 0, 1) := dk_9 (dk_at dksX0_cleared_0 22 rfl rfl)
theorem dX0_cleared_23 : decode cX0_cleared 23 = .ok (.lconst 1, 1) := dk_10 (dk_at dksX0_cleared_0 23 rfl rfl)
theorem dX0_cleared_24 : decode cX0_cleared 24 = .ok (.invokestatic 5, 3) := dk_184 0 5 (dk_at dksX0_cleared_1 0 rfl rfl)
theorem dX0_cleared_27 : decode cX0_cleared 27 = .ok (.ifCond .ne 5, 3) := dk_154 0 5 (dk_at dksX0_cleared_1 3 rfl rfl)
theorem dX0_cleared_30 : decode cX0_cleared 30 = .ok (.iconst (-1), 1) := dk_2 (dk_at dksX0_cleared_1 6 rfl rfl)
theorem dX0_cleared_31 : decode cX0_cleared 31 = .ok (.ireturn, 1) := dk_172 (dk_at dksX0_cleared_1 7 rfl rfl)
theorem dX0_cleared_32 : decode cX0_cleared 32 = .ok (.iload_n 1, 1) := dk_27 (dk_at dksX0_cleared_1 8 rfl rfl)
theorem dX0_cleared_33 : decode cX0_cleared 33 = .ok (.ifCond .ne 8, 3) := dk_154 0 8 (dk_at dksX0_cleared_1 9 rfl rfl)
theorem dX0_cleared_36 : decode cX0_cleared 36 = .ok (.aload_n 2, 1) := dk_44 (dk_at dksX0_cleared_1 12 rfl rfl)
theorem dX0_cleared_37 : decode cX0_cleared 37 = .ok (.invokevirtual 424, 3) := dk_182 1 168 (dk_at dksX0_cleared_1 13 rfl rfl)
theorem dX0_cleared_40 : decode cX0_cleared 40 = .ok (.ireturn, 1) := dk_172 (dk_at dksX0_cleared_1 16 rfl rfl)
theorem dX0_cleared_41 : decode cX0_cleared 41 = .ok (.aload_n 2, 1) := dk_44 (dk_at dksX0_cleared_1 17 rfl rfl)
theorem dX0_cleared_42 : decode cX0_cleared 42 = .ok (.aload_n 0, 1) := dk_42 (dk_at dksX0_cleared_1 18 rfl rfl)
theorem dX0_cleared_43 : decode cX0_cleared 43 = .ok (.getfield 74, 3) := dk_180 0 74 (dk_at dksX0_cleared_1 19 rfl rfl)
theorem dX0_cleared_46 : decode cX0_cleared 46 = .ok (.aload_n 0, 1) := dk_42 (dk_at dksX0_cleared_1 22 rfl rfl)
theorem dX0_cleared_47 : decode cX0_cleared 47 = .ok (.invokevirtual 104, 3) := dk_182 0 104 (dk_at dksX0_cleared_2 0 rfl rfl)
theorem dX0_cleared_50 : decode cX0_cleared 50 = .ok (.invokevirtual 292, 3) := dk_182 1 36 (dk_at dksX0_cleared_2 3 rfl rfl)
theorem dX0_cleared_53 : decode cX0_cleared 53 = .ok (.invokevirtual 427, 3) := dk_182 1 171 (dk_at dksX0_cleared_2 6 rfl rfl)
theorem dX0_cleared_56 : decode cX0_cleared 56 = .ok (.iconst 0, 1) := dk_3 (dk_at dksX0_cleared_2 9 rfl rfl)
theorem dX0_cleared_57 : decode cX0_cleared 57 = .ok (.istore_n 3, 1) := dk_62 (dk_at dksX0_cleared_2 10 rfl rfl)
theorem dX0_cleared_58 : decode cX0_cleared 58 = .ok (.iconst 0, 1) := dk_3 (dk_at dksX0_cleared_2 11 rfl rfl)
theorem dX0_cleared_59 : decode cX0_cleared 59 = .ok (.istore 4, 2) := dk_54 4 (dk_at dksX0_cleared_2 12 rfl rfl)
theorem dX0_cleared_61 : decode cX0_cleared 61 = .ok (.iload 4, 2) := dk_21 4 (dk_at dksX0_cleared_2 14 rfl rfl)
theorem dX0_cleared_63 : decode cX0_cleared 63 = .ok (.aload_n 0, 1) := dk_42 (dk_at dksX0_cleared_2 16 rfl rfl)
theorem dX0_cleared_64 : decode cX0_cleared 64 = .ok (.getfield 20, 3) := dk_180 0 20 (dk_at dksX0_cleared_2 17 rfl rfl)
theorem dX0_cleared_67 : decode cX0_cleared 67 = .ok (.getfield 101, 3) := dk_180 0 101 (dk_at dksX0_cleared_2 20 rfl rfl)
theorem dX0_cleared_70 : decode cX0_cleared 70 = .ok (.if_icmp .ge 74, 3) := dk_162 0 74 (dk_at dksX0_cleared_3 0 rfl rfl)
theorem dX0_cleared_73 : decode cX0_cleared 73 = .ok (.iconst 0, 1) := dk_3 (dk_at dksX0_cleared_3 3 rfl rfl)
theorem dX0_cleared_74 : decode cX0_cleared 74 = .ok (.istore 5, 2) := dk_54 5 (dk_at dksX0_cleared_3 4 rfl rfl)
theorem dX0_cleared_76 : decode cX0_cleared 76 = .ok (.iload 5, 2) := dk_21 5 (dk_at dksX0_cleared_3 6 rfl rfl)
theorem dX0_cleared_78 : decode cX0_cleared 78 = .ok (.aload_n 0, 1) := dk_42 (dk_at dksX0_cleared_3 8 rfl rfl)
theorem dX0_cleared_79 : decode cX0_cleared 79 = .ok (.getfield 20, 3) := dk_180 0 20 (dk_at dksX0_cleared_3 9 rfl rfl)
theorem dX0_cleared_82 : decode cX0_cleared 82 = .ok (.getfield 101, 3) := dk_180 0 101 (dk_at dksX0_cleared_3 12 rfl rfl)
theorem dX0_cleared_85 : decode cX0_cleared 85 = .ok (.if_icmp .ge 53, 3) := dk_162 0 53 (dk_at dksX0_cleared_3 15 rfl rfl)
theorem dX0_cleared_88 : decode cX0_cleared 88 = .ok (.iload_n 3, 1) := dk_29 (dk_at dksX0_cleared_3 18 rfl rfl)
theorem dX0_cleared_89 : decode cX0_cleared 89 = .ok (.iload 4, 2) := dk_21 4 (dk_at dksX0_cleared_3 19 rfl rfl)
theorem dX0_cleared_91 : decode cX0_cleared 91 = .ok (.iload 5, 2) := dk_21 5 (dk_at dksX0_cleared_3 21 rfl rfl)
theorem dX0_cleared_93 : decode cX0_cleared 93 = .ok (.if_icmp .eq 36, 3) := dk_159 0 36 (dk_at dksX0_cleared_4 0 rfl rfl)
theorem dX0_cleared_96 : decode cX0_cleared 96 = .ok (.aload_n 0, 1) := dk_42 (dk_at dksX0_cleared_4 3 rfl rfl)
theorem dX0_cleared_97 : decode cX0_cleared 97 = .ok (.aload_n 0, 1) := dk_42 (dk_at dksX0_cleared_4 4 rfl rfl)
theorem dX0_cleared_98 : decode cX0_cleared 98 = .ok (.getfield 74, 3) := dk_180 0 74 (dk_at dksX0_cleared_4 5 rfl rfl)
theorem dX0_cleared_101 : decode cX0_cleared 101 = .ok (.iload 4, 2) := dk_21 4 (dk_at dksX0_cleared_4 8 rfl rfl)
theorem dX0_cleared_103 : decode cX0_cleared 103 = .ok (.iload 5, 2) := dk_21 5 (dk_at dksX0_cleared_4 10 rfl rfl)
theorem dX0_cleared_105 : decode cX0_cleared 105 = .ok (.iconst 0, 1) := dk_3 (dk_at dksX0_cleared_4 12 rfl rfl)
theorem dX0_cleared_106 : decode cX0_cleared 106 = .ok (.invokevirtual 280, 3) := dk_182 1 24 (dk_at dksX0_cleared_4 13 rfl rfl)
theorem dX0_cleared_109 : decode cX0_cleared 109 = .ok (.aload_n 0, 1) := dk_42 (dk_at dksX0_cleared_4 16 rfl rfl)
theorem dX0_cleared_110 : decode cX0_cleared 110 = .ok (.aload_n 0, 1) := dk_42 (dk_at dksX0_cleared_4 17 rfl rfl)
theorem dX0_cleared_111 : decode cX0_cleared 111 = .ok (.invokevirtual 104, 3) := dk_182 0 104 (dk_at dksX0_cleared_4 18 rfl rfl)
theorem dX0_cleared_114 : decode cX0_cleared 114 = .ok (.iload 4, 2) := dk_21 4 (dk_at dksX0_cleared_4 21 rfl rfl)
theorem dX0_cleared_116 : decode cX0_cleared 116 = .ok (.iload 5, 2) := dk_21 5 (dk_at dksX0_cleared_5 0 rfl rfl)
theorem dX0_cleared_118 : decode cX0_cleared 118 = .ok (.iconst 0, 1) := dk_3 (dk_at dksX0_cleared_5 2 rfl rfl)
theorem dX0_cleared_119 : decode cX0_cleared 119 = .ok (.invokevirtual 280, 3) := dk_182 1 24 (dk_at dksX0_cleared_5 3 rfl rfl)
theorem dX0_cleared_122 : decode cX0_cleared 122 = .ok (.if_icmp .ge 7, 3) := dk_162 0 7 (dk_at dksX0_cleared_5 6 rfl rfl)
theorem dX0_cleared_125 : decode cX0_cleared 125 = .ok (.iconst 1, 1) := dk_4 (dk_at dksX0_cleared_5 9 rfl rfl)
theorem dX0_cleared_126 : decode cX0_cleared 126 = .ok (.goto 4, 3) := dk_167 0 4 (dk_at dksX0_cleared_5 10 rfl rfl)
theorem dX0_cleared_129 : decode cX0_cleared 129 = .ok (.iconst 0, 1) := dk_3 (dk_at dksX0_cleared_5 13 rfl rfl)
theorem dX0_cleared_130 : decode cX0_cleared 130 = .ok (.iadd, 1) := dk_96 (dk_at dksX0_cleared_5 14 rfl rfl)
theorem dX0_cleared_131 : decode cX0_cleared 131 = .ok (.istore_n 3, 1) := dk_62 (dk_at dksX0_cleared_5 15 rfl rfl)
theorem dX0_cleared_132 : decode cX0_cleared 132 = .ok (.iinc 5 1, 3) := dk_132 5 1 (dk_at dksX0_cleared_5 16 rfl rfl)
theorem dX0_cleared_135 : decode cX0_cleared 135 = .ok (.goto (-59), 3) := dk_167 255 197 (dk_at dksX0_cleared_5 19 rfl rfl)
theorem dX0_cleared_138 : decode cX0_cleared 138 = .ok (.iinc 4 1, 3) := dk_132 4 1 (dk_at dksX0_cleared_6 0 rfl rfl)
theorem dX0_cleared_141 : decode cX0_cleared 141 = .ok (.goto (-80), 3) := dk_167 255 176 (dk_at dksX0_cleared_6 3 rfl rfl)
theorem dX0_cleared_144 : decode cX0_cleared 144 = .ok (.iload_n 3, 1) := dk_29 (dk_at dksX0_cleared_6 6 rfl rfl)
theorem dX0_cleared_145 : decode cX0_cleared 145 = .ok (.ireturn, 1) := dk_172 (dk_at dksX0_cleared_6 7 rfl rfl)
noncomputable def f_X0_cleared_30 (E : ax_E) (h : ax_H) : Option (Int × ax_H) :=
  some ((-1), h)
noncomputable def f_X0_cleared_130 (E : ax_E) (x0 : Option Nat) (x4 : Int) (x5 : Int) (s0 : Int) (s1 : Int) (h : ax_H) : Option ((Int × Int × ax_H) ⊕ ((Int × Int × ax_H) ⊕ (Int × ax_H))) :=
  some (.inl ((s0 + s1), (x5 + 1), h))
noncomputable def f_X0_cleared_129 (E : ax_E) (x0 : Option Nat) (x4 : Int) (x5 : Int) (s0 : Int) (h : ax_H) : Option ((Int × Int × ax_H) ⊕ ((Int × Int × ax_H) ⊕ (Int × ax_H))) :=
  f_X0_cleared_130 E x0 x4 x5 s0 0 h
noncomputable def lb_X0_cleared_76 (E : ax_E) (x0 : Option Nat) (x3 : Int) (x4 : Int) (x5 : Int) (h : ax_H) : Option ((Int × Int × ax_H) ⊕ ((Int × Int × ax_H) ⊕ (Int × ax_H))) :=
  (ax_gR E h x0 0 0).bind fun v1 =>
  (ax_gI E h v1 1 6).bind fun v2 =>
  if i2 x5 < i2 v2 then
    if i2 x4 = i2 x5 then
      f_X0_cleared_129 E x0 x4 x5 x3 h
    else
      (ax_gR E h x0 0 13).bind fun v3 =>
      (ax_ce E h x0 0).bind fun _ => (f_X0_deepIn E x0 v3 x4 x5 0 h).bind fun q4 =>
      (ax_ce E q4.2 x0 0).bind fun _ => (f_X0_books E x0 q4.2).bind fun q5 =>
      (ax_ce E q5.2 x0 0).bind fun _ => (f_X0_deepIn E x0 q5.1 x4 x5 0 q5.2).bind fun q6 =>
      if i2 q4.1 < i2 q6.1 then
        f_X0_cleared_130 E x0 x4 x5 x3 1 q6.2
      else
        f_X0_cleared_129 E x0 x4 x5 x3 q6.2
  else
    (some (.inl (x3, (x4 + 1), h))).map Sum.inr
noncomputable def f_X0_cleared_76 (E : ax_E) (x0 : Option Nat) (x3 : Int) (x4 : Int) (x5 : Int) (h : ax_H) : Option ((Int × Int × ax_H) ⊕ (Int × ax_H)) :=
  ax_iter (fun s : Int × Int × ax_H => lb_X0_cleared_76 E x0 s.1 x4 s.2.1 s.2.2) (x3, x5, h)
noncomputable def lb_X0_cleared_61 (E : ax_E) (x0 : Option Nat) (x3 : Int) (x4 : Int) (h : ax_H) : Option ((Int × Int × ax_H) ⊕ (Int × ax_H)) :=
  (ax_gR E h x0 0 0).bind fun v1 =>
  (ax_gI E h v1 1 6).bind fun v2 =>
  if i2 x4 < i2 v2 then
    f_X0_cleared_76 E x0 x3 x4 0 h
  else
    (some (x3, h)).map Sum.inr
noncomputable def f_X0_cleared_61 (E : ax_E) (x0 : Option Nat) (x3 : Int) (x4 : Int) (h : ax_H) : Option (Int × ax_H) :=
  ax_iter (fun s : Int × Int × ax_H => lb_X0_cleared_61 E x0 s.1 s.2.1 s.2.2) (x3, x4, h)
noncomputable def f_X0_cleared (E : ax_E) (x0 : Option Nat) (x1 : Int) (h : ax_H) : Option (Int × ax_H) :=
  (ax_nw E h 27 0 6).bind fun q1 =>
  (ax_ce E q1.2 x0 0).bind fun _ => (f_X0_books E x0 q1.2).bind fun q2 =>
  (some q1.1).bind fun _ => (f_X27_init E (some q1.1) x0 q2.1 q2.2).bind fun h3 =>
  (ax_ce E h3 (some q1.1) 27).bind fun _ => (f_X27_is E (some q1.1) h3).bind fun q4 =>
  if i2 q4.1 = 0 then
    f_X0_cleared_30 E q4.2
  else
    (f_X0_in E (i2 x1) 0 1 q4.2).bind fun q5 =>
    if i2 q5.1 = 0 then
      f_X0_cleared_30 E q5.2
    else
      if i2 x1 = 0 then
        (ax_ce E q5.2 (some q1.1) 27).bind fun _ => (f_X27_least E (some q1.1) q5.2).bind fun q6 =>
        some (q6.1, q6.2)
      else
        (ax_gR E q5.2 x0 0 13).bind fun v7 =>
        (ax_ce E q5.2 x0 0).bind fun _ => (f_X0_books E x0 q5.2).bind fun q8 =>
        (ax_ce E q8.2 v7 2).bind fun _ => (f_X2_as E v7 q8.1 q8.2).bind fun q9 =>
        (ax_ce E q9.2 (some q1.1) 27).bind fun _ => (f_X27_clear E (some q1.1) q9.1 q9.2).bind fun h10 =>
        f_X0_cleared_61 E x0 0 0 h10
def pi_X0_cleared_76 (G : ax_G) (X : ax_X) (Q : State → Prop) (x0 : Option Nat) (x4 : Int) : Int × Int × ax_H → Prop := fun s => ∀ ls : Array Slot, ax_hl ls 6 [(0, .inr (.inr x0)), (3, .inl s.1), (4, .inl x4), (5, .inl s.2.1)] → ax_W G X Q s.2.2 76 ls []
def pi_X0_cleared_61 (G : ax_G) (X : ax_X) (Q : State → Prop) (x0 : Option Nat) : Int × Int × ax_H → Prop := fun s => ∀ ls : Array Slot, ax_hl ls 6 [(0, .inr (.inr x0)), (3, .inl s.1), (4, .inl s.2.1)] → ax_W G X Q s.2.2 61 ls []
set_option maxHeartbeats 4000000 in
theorem w_X0_cleared_30 {l : Launch} {G : ax_G} {X : ax_X} {Q : State → Prop} {h0 h : ax_H} {ls : Array Slot} (hSF : ax_SF G) (B : ax_BL l G X cX0_cleared 6 RX0 140 3568) (Z : ax_Z X h0 ((some FieldType.int))) (hn : X.2.2.2.2.2.2.2.2.1.name = yX0_cleared.name) {w : Int × ax_H} (hl : ax_hl ls 6 []) (e : f_X0_cleared_30 G.2.2 h = some w) (hp : (fun w : Int × ax_H => Q = ax_Q G X h0 w.2 (some (.int (Int32.ofInt w.1)))) w) : ax_W G X Q h 30 ls [] := by
  unfold f_X0_cleared_30 at e
  refine ax_iconst B dX0_cleared_30 ?_
  have e8 := e
  have hp : Q = _ := hp
  subst hp
  exact ax_ireturn B Z dX0_cleared_31 e8
set_option maxHeartbeats 4000000 in
theorem w_X0_cleared_130 {l : Launch} {G : ax_G} {X : ax_X} {Q : State → Prop} {h0 h : ax_H} {ls : Array Slot} (hSF : ax_SF G) (B : ax_BL l G X cX0_cleared 6 RX0 140 3568) (Z : ax_Z X h0 ((some FieldType.int))) (hn : X.2.2.2.2.2.2.2.2.1.name = yX0_cleared.name) (x0 : Option Nat) (x4 : Int) (x5 : Int) (s0 : Int) (s1 : Int) {w : (Int × Int × ax_H) ⊕ ((Int × Int × ax_H) ⊕ (Int × ax_H))} (hl : ax_hl ls 6 [(0, .inr (.inr x0)), (4, .inl x4), (5, .inl x5)]) (e : f_X0_cleared_130 G.2.2 x0 x4 x5 s0 s1 h = some w) (hp : (ax_PL (pi_X0_cleared_76 G X Q x0 x4) (ax_PL (pi_X0_cleared_61 G X Q x0) (fun w : Int × ax_H => Q = ax_Q G X h0 w.2 (some (.int (Int32.ofInt w.1)))))) w) : ax_W G X Q h 130 ls [.int (Int32.ofInt s1), .int (Int32.ofInt s0)] := by
  unfold f_X0_cleared_130 at e
  refine ax_iadd' B dX0_cleared_130 ?_
  refine ax_istore_n (L' := [(3, .inl (s0 + s1)), (0, .inr (.inr x0)), (4, .inl x4), (5, .inl x5)]) B dX0_cleared_131 rfl hl (by decide) rfl (fun ls hl => ?_)
  refine ax_iinc (L' := [(5, .inl (x5 + 1)), (3, .inl (s0 + s1)), (0, .inr (.inr x0)), (4, .inl x4)]) B dX0_cleared_132 hl 3 rfl (by decide) rfl (fun ls hl => ?_)
  refine ax_goto (tgt := 76) B dX0_cleared_135 (by decide) ?_
  cases e
  exact hp _ (hl.sub [2, 1, 3, 0] rfl)
set_option maxHeartbeats 4000000 in
theorem w_X0_cleared_129 {l : Launch} {G : ax_G} {X : ax_X} {Q : State → Prop} {h0 h : ax_H} {ls : Array Slot} (hSF : ax_SF G) (B : ax_BL l G X cX0_cleared 6 RX0 140 3568) (Z : ax_Z X h0 ((some FieldType.int))) (hn : X.2.2.2.2.2.2.2.2.1.name = yX0_cleared.name) (x0 : Option Nat) (x4 : Int) (x5 : Int) (s0 : Int) {w : (Int × Int × ax_H) ⊕ ((Int × Int × ax_H) ⊕ (Int × ax_H))} (hl : ax_hl ls 6 [(0, .inr (.inr x0)), (4, .inl x4), (5, .inl x5)]) (e : f_X0_cleared_129 G.2.2 x0 x4 x5 s0 h = some w) (hp : (ax_PL (pi_X0_cleared_76 G X Q x0 x4) (ax_PL (pi_X0_cleared_61 G X Q x0) (fun w : Int × ax_H => Q = ax_Q G X h0 w.2 (some (.int (Int32.ofInt w.1)))))) w) : ax_W G X Q h 129 ls [.int (Int32.ofInt s0)] := by
  unfold f_X0_cleared_129 at e
  refine ax_iconst B dX0_cleared_129 ?_
  exact w_X0_cleared_130 hSF B Z hn x0 x4 x5 s0 0 (hl.sub [0, 1, 2] rfl) e hp
set_option maxHeartbeats 4000000 in
theorem wb_X0_cleared_76 {l : Launch} {G : ax_G} {X : ax_X} {Q : State → Prop} {h0 h : ax_H} {ls : Array Slot} (hSF : ax_SF G) (B : ax_BL l G X cX0_cleared 6 RX0 140 3568) (Z : ax_Z X h0 ((some FieldType.int))) (hn : X.2.2.2.2.2.2.2.2.1.name = yX0_cleared.name) (x0 : Option Nat) (x3 : Int) (x4 : Int) (x5 : Int) {w : (Int × Int × ax_H) ⊕ ((Int × Int × ax_H) ⊕ (Int × ax_H))} (hl : ax_hl ls 6 [(0, .inr (.inr x0)), (3, .inl x3), (4, .inl x4), (5, .inl x5)]) (e : lb_X0_cleared_76 G.2.2 x0 x3 x4 x5 h = some w) (hp : (ax_PL (pi_X0_cleared_76 G X Q x0 x4) (ax_PL (pi_X0_cleared_61 G X Q x0) (fun w : Int × ax_H => Q = ax_Q G X h0 w.2 (some (.int (Int32.ofInt w.1)))))) w) : ax_W G X Q h 76 ls [] := by
  unfold lb_X0_cleared_76 at e
  refine ax_iload B dX0_cleared_76 hl 3 rfl ?_
  refine ax_aload_n B dX0_cleared_78 rfl hl 0 rfl ?_
  refine ax_getR B ff_X0_20_0 (fun _ _ => rfl) dX0_cleared_79 e (fun v1 e => ?_)
  refine ax_getI B ff_X0_101_1 (fun _ _ => rfl) dX0_cleared_82 e (fun v2 e => ?_)
  refine ax_icmp_ge (tgt := 138) B dX0_cleared_85 (by decide) e (fun e => ?_) (fun e => ?_)
  · refine ax_iload_n B dX0_cleared_88 rfl hl 1 rfl ?_
    refine ax_iload B dX0_cleared_89 hl 2 rfl ?_
    refine ax_iload B dX0_cleared_91 hl 3 rfl ?_
    refine ax_icmp_eq (tgt := 129) B dX0_cleared_93 (by decide) e (fun e => ?_) (fun e => ?_)
    · exact w_X0_cleared_129 hSF B Z hn x0 x4 x5 x3 (hl.sub [0, 2, 3] rfl) e hp
    · refine ax_aload_n B dX0_cleared_96 rfl hl 0 rfl ?_
      refine ax_aload_n B dX0_cleared_97 rfl hl 0 rfl ?_
      refine ax_getR B ff_X0_74_0 (fun _ _ => rfl) dX0_cleared_98 e (fun v3 e => ?_)
      refine ax_iload B dX0_cleared_101 hl 2 rfl ?_
      refine ax_iload B dX0_cleared_103 hl 3 rfl ?_
      refine ax_iconst B dX0_cleared_105 ?_
      refine ax_ivI (y := yX0_deepIn) (n := 4) (As := [va_rf v3, .int (Int32.ofInt x4), .int (Int32.ofInt x5), .int (Int32.ofInt 0)]) B kd0 (lw_V q1330 q1332 qs22 q125 q1333) (by decide +kernel) ⟨Nat.le_of_ble_eq_true rfl, Nat.le_of_ble_eq_true rfl⟩ (fun w1 e1 => mt_X0_deepIn l G hSF x0 v3 x4 x5 0 _ w1 e1) rfl hl.size (by simp only [List.map_cons, List.map_nil, List.sum_cons, List.sum_nil, va_rf_cat, ax_catI, ax_catL]; decide) dX0_cleared_106 e (fun q4 e => ?_)
      refine ax_aload_n B dX0_cleared_109 rfl hl 0 rfl ?_
      refine ax_aload_n B dX0_cleared_110 rfl hl 0 rfl ?_
      refine ax_ivR (y := yX0_books) (n := 0) (As := []) B kd0 (lw_V q443 q445 qs2 q125 q446) (by decide +kernel) ⟨Nat.le_of_ble_eq_true rfl, Nat.le_of_ble_eq_true rfl⟩ (fun w1 e1 => mt_X0_books l G hSF x0 _ w1 e1) rfl hl.size (by simp only [List.map_cons, List.map_nil, List.sum_cons, List.sum_nil, va_rf_cat, ax_catI, ax_catL]; decide) dX0_cleared_111 e (fun q5 e => ?_)
      refine ax_iload B dX0_cleared_114 hl 2 rfl ?_
      refine ax_iload B dX0_cleared_116 hl 3 rfl ?_
      refine ax_iconst B dX0_cleared_118 ?_
      refine ax_ivI (y := yX0_deepIn) (n := 4) (As := [va_rf q5.1, .int (Int32.ofInt x4), .int (Int32.ofInt x5), .int (Int32.ofInt 0)]) B kd0 (lw_V q1330 q1332 qs22 q125 q1333) (by decide +kernel) ⟨Nat.le_of_ble_eq_true rfl, Nat.le_of_ble_eq_true rfl⟩ (fun w1 e1 => mt_X0_deepIn l G hSF x0 q5.1 x4 x5 0 _ w1 e1) rfl hl.size (by simp only [List.map_cons, List.map_nil, List.sum_cons, List.sum_nil, va_rf_cat, ax_catI, ax_catL]; decide) dX0_cleared_119 e (fun q6 e => ?_)
      refine ax_icmp_ge (tgt := 129) B dX0_cleared_122 (by decide) e (fun e => ?_) (fun e => ?_)
      · refine ax_iconst B dX0_cleared_125 ?_
        refine ax_goto (tgt := 130) B dX0_cleared_126 (by decide) ?_
        exact w_X0_cleared_130 hSF B Z hn x0 x4 x5 x3 1 (hl.sub [0, 2, 3] rfl) e hp
      · exact w_X0_cleared_129 hSF B Z hn x0 x4 x5 x3 (hl.sub [0, 2, 3] rfl) e hp
  · obtain ⟨w, e9_1, rfl⟩ := Option.map_eq_some_iff.mp e
    have e := e9_1
    refine ax_iinc (L' := [(4, .inl (x4 + 1)), (0, .inr (.inr x0)), (3, .inl x3), (5, .inl x5)]) B dX0_cleared_138 hl 2 rfl (by decide) rfl (fun ls hl => ?_)
    refine ax_goto (tgt := 61) B dX0_cleared_141 (by decide) ?_
    cases e
    exact hp _ (hl.sub [1, 2, 0] rfl)
theorem w_X0_cleared_76 {l : Launch} {G : ax_G} {X : ax_X} {Q : State → Prop} {h0 h : ax_H} {ls : Array Slot} (hSF : ax_SF G) (B : ax_BL l G X cX0_cleared 6 RX0 140 3568) (Z : ax_Z X h0 ((some FieldType.int))) (hn : X.2.2.2.2.2.2.2.2.1.name = yX0_cleared.name) (x0 : Option Nat) (x3 : Int) (x4 : Int) (x5 : Int) {w : (Int × Int × ax_H) ⊕ (Int × ax_H)} (hl : ax_hl ls 6 [(0, .inr (.inr x0)), (3, .inl x3), (4, .inl x4), (5, .inl x5)]) (e : f_X0_cleared_76 G.2.2 x0 x3 x4 x5 h = some w) (hp : (ax_PL (pi_X0_cleared_61 G X Q x0) (fun w : Int × ax_H => Q = ax_Q G X h0 w.2 (some (.int (Int32.ofInt w.1))))) w) : ax_W G X Q h 76 ls [] :=
  ax_iter_W (Pin := pi_X0_cleared_76 G X Q x0 x4) (Pout := (ax_PL (pi_X0_cleared_61 G X Q x0) (fun w : Int × ax_H => Q = ax_Q G X h0 w.2 (some (.int (Int32.ofInt w.1)))))) (fun s w e hp ls hl => wb_X0_cleared_76 hSF B Z hn x0 s.1 x4 s.2.1 hl e hp) _ _ e hp ls hl
set_option maxHeartbeats 4000000 in
theorem wb_X0_cleared_61 {l : Launch} {G : ax_G} {X : ax_X} {Q : State → Prop} {h0 h : ax_H} {ls : Array Slot} (hSF : ax_SF G) (B : ax_BL l G X cX0_cleared 6 RX0 140 3568) (Z : ax_Z X h0 ((some FieldType.int))) (hn : X.2.2.2.2.2.2.2.2.1.name = yX0_cleared.name) (x0 : Option Nat) (x3 : Int) (x4 : Int) {w : (Int × Int × ax_H) ⊕ (Int × ax_H)} (hl : ax_hl ls 6 [(0, .inr (.inr x0)), (3, .inl x3), (4, .inl x4)]) (e : lb_X0_cleared_61 G.2.2 x0 x3 x4 h = some w) (hp : (ax_PL (pi_X0_cleared_61 G X Q x0) (fun w : Int × ax_H => Q = ax_Q G X h0 w.2 (some (.int (Int32.ofInt w.1))))) w) : ax_W G X Q h 61 ls [] := by
  unfold lb_X0_cleared_61 at e
  refine ax_iload B dX0_cleared_61 hl 2 rfl ?_
  refine ax_aload_n B dX0_cleared_63 rfl hl 0 rfl ?_
  refine ax_getR B ff_X0_20_0 (fun _ _ => rfl) dX0_cleared_64 e (fun v1 e => ?_)
  refine ax_getI B ff_X0_101_1 (fun _ _ => rfl) dX0_cleared_67 e (fun v2 e => ?_)
  refine ax_icmp_ge (tgt := 144) B dX0_cleared_70 (by decide) e (fun e => ?_) (fun e => ?_)
  · refine ax_iconst B dX0_cleared_73 ?_
    refine ax_istore (L' := [(5, .inl 0), (0, .inr (.inr x0)), (3, .inl x3), (4, .inl x4)]) B dX0_cleared_74 hl (by decide) rfl (fun ls hl => ?_)
    exact w_X0_cleared_76 hSF B Z hn x0 x3 x4 0 (hl.sub [1, 2, 3, 0] rfl) e hp
  · obtain ⟨w, e9_2, rfl⟩ := Option.map_eq_some_iff.mp e
    have e := e9_2
    refine ax_iload_n B dX0_cleared_144 rfl hl 1 rfl ?_
    have e8 := e
    have hp : Q = _ := hp
    subst hp
    exact ax_ireturn B Z dX0_cleared_145 e8
theorem w_X0_cleared_61 {l : Launch} {G : ax_G} {X : ax_X} {Q : State → Prop} {h0 h : ax_H} {ls : Array Slot} (hSF : ax_SF G) (B : ax_BL l G X cX0_cleared 6 RX0 140 3568) (Z : ax_Z X h0 ((some FieldType.int))) (hn : X.2.2.2.2.2.2.2.2.1.name = yX0_cleared.name) (x0 : Option Nat) (x3 : Int) (x4 : Int) {w : Int × ax_H} (hl : ax_hl ls 6 [(0, .inr (.inr x0)), (3, .inl x3), (4, .inl x4)]) (e : f_X0_cleared_61 G.2.2 x0 x3 x4 h = some w) (hp : (fun w : Int × ax_H => Q = ax_Q G X h0 w.2 (some (.int (Int32.ofInt w.1)))) w) : ax_W G X Q h 61 ls [] :=
  ax_iter_W (Pin := pi_X0_cleared_61 G X Q x0) (Pout := (fun w : Int × ax_H => Q = ax_Q G X h0 w.2 (some (.int (Int32.ofInt w.1))))) (fun s w e hp ls hl => wb_X0_cleared_61 hSF B Z hn x0 s.1 s.2.1 hl e hp) _ _ e hp ls hl
set_option maxHeartbeats 4000000 in
theorem we_X0_cleared {l : Launch} {G : ax_G} {X : ax_X} {Q : State → Prop} {h0 h : ax_H} {ls : Array Slot} (hSF : ax_SF G) (B : ax_BL l G X cX0_cleared 6 RX0 140 3568) (Z : ax_Z X h0 ((some FieldType.int))) (hn : X.2.2.2.2.2.2.2.2.1.name = yX0_cleared.name) (x0 : Option Nat) (x1 : Int) {w : Int × ax_H} (hl : ax_hl ls 6 [(0, .inr (.inr x0)), (1, .inl x1)]) (e : f_X0_cleared G.2.2 x0 x1 h = some w) (hp : (fun w : Int × ax_H => Q = ax_Q G X h0 w.2 (some (.int (Int32.ofInt w.1)))) w) : ax_W G X Q h 0 ls [] := by
  unfold f_X0_cleared at e
  refine ax_new B kd27 in_X27 tyX27_ok (fun k hk => ax_dv _ (dfX27 k hk)) q1653 q1654 q169 dX0_cleared_0 e (fun q1 e => ?_)
  refine ax_dup B dX0_cleared_3 (va_rf_cat _) ?_
  refine ax_aload_n B dX0_cleared_4 rfl hl 0 rfl ?_
  refine ax_aload_n B dX0_cleared_5 rfl hl 0 rfl ?_
  refine ax_ivR (y := yX0_books) (n := 0) (As := []) B kd0 (lw_V q443 q445 qs2 q125 q446) (by decide +kernel) ⟨Nat.le_of_ble_eq_true rfl, Nat.le_of_ble_eq_true rfl⟩ (fun w1 e1 => mt_X0_books l G hSF x0 _ w1 e1) rfl hl.size (by simp only [List.map_cons, List.map_nil, List.sum_cons, List.sum_nil, va_rf_cat, ax_catI, ax_catL]; decide) dX0_cleared_6 e (fun q2 e => ?_)
  refine ax_iiR (y := yX27_init) (n := 2) (As := [va_rf x0, va_rf q2.1]) B q1655 q1656 q169 q1657 rfl (by decide +kernel) ⟨Nat.le_of_ble_eq_true rfl, Nat.le_of_ble_eq_true rfl⟩ (fun w1 e1 => mt_X27_init l G hSF (some q1.1) x0 q2.1 _ w1 e1) rfl hl.size (by simp only [List.map_cons, List.map_nil, List.sum_cons, List.sum_nil, va_rf_cat, ax_catI, ax_catL]; decide) dX0_cleared_9 e (fun h3 e => ?_)
  refine ax_astore_n (L' := [(2, .inr (.inr (some q1.1))), (0, .inr (.inr x0)), (1, .inl x1)]) B dX0_cleared_12 rfl hl (by decide) rfl (fun ls hl => ?_)
  refine ax_aload_n B dX0_cleared_13 rfl hl 0 rfl ?_
  refine ax_ivI (y := yX27_is) (n := 0) (As := []) B kd27 (lw_V q1689 q1690 q1691 q169 q1692) (by decide +kernel) ⟨Nat.le_of_ble_eq_true rfl, Nat.le_of_ble_eq_true rfl⟩ (fun w1 e1 => mt_X27_is l G hSF (some q1.1) _ w1 e1) rfl hl.size (by decide) dX0_cleared_14 e (fun q4 e => ?_)
  refine ax_if_eq (tgt := 30) B dX0_cleared_17 (by decide) e (fun e => ?_) (fun e => ?_)
  · exact w_X0_cleared_30 hSF B Z hn (hl.sub [] rfl) e hp
  · refine ax_iload_n B dX0_cleared_20 rfl hl 2 rfl ?_
    refine ax_i2l' B dX0_cleared_21 ?_
    refine ax_lconst (v := 0) B dX0_cleared_22 rfl ?_
    refine ax_lconst (v := 1) B dX0_cleared_23 rfl ?_
    refine ax_isI (y := yX0_in) (n := 3) (As := [.long (Int64.ofInt (i2 x1)), .long (Int64.ofInt 0), .long (Int64.ofInt 1)]) B (lw_S q420 q421 q125 q422) (by decide +kernel) ⟨Nat.le_of_ble_eq_true rfl, Nat.le_of_ble_eq_true rfl⟩ (fun w1 e1 => mt_X0_in l G hSF (i2 x1) 0 1 _ w1 e1) rfl hl.size (by decide) dX0_cleared_24 e (fun q5 e => ?_)
    refine ax_if_ne (tgt := 32) B dX0_cleared_27 (by decide) e (fun e => ?_) (fun e => ?_)
    · exact w_X0_cleared_30 hSF B Z hn (hl.sub [] rfl) e hp
    · refine ax_iload_n B dX0_cleared_32 rfl hl 2 rfl ?_
      refine ax_if_ne (tgt := 41) B dX0_cleared_33 (by decide) e (fun e => ?_) (fun e => ?_)
      · refine ax_aload_n B dX0_cleared_36 rfl hl 0 rfl ?_
        refine ax_ivI (y := yX27_least) (n := 0) (As := []) B kd27 (lw_V q1697 q1698 q1699 q169 q1700) (by decide +kernel) ⟨Nat.le_of_ble_eq_true rfl, Nat.le_of_ble_eq_true rfl⟩ (fun w1 e1 => mt_X27_least l G hSF (some q1.1) _ w1 e1) rfl hl.size (by decide) dX0_cleared_37 e (fun q6 e => ?_)
        have e8 := e
        have hp : Q = _ := hp
        subst hp
        exact ax_ireturn B Z dX0_cleared_40 e8
      · refine ax_aload_n B dX0_cleared_41 rfl hl 0 rfl ?_
        refine ax_aload_n B dX0_cleared_42 rfl hl 1 rfl ?_
        refine ax_getR B ff_X0_74_0 (fun _ _ => rfl) dX0_cleared_43 e (fun v7 e => ?_)
        refine ax_aload_n B dX0_cleared_46 rfl hl 1 rfl ?_
        refine ax_ivR (y := yX0_books) (n := 0) (As := []) B kd0 (lw_V q443 q445 qs2 q125 q446) (by decide +kernel) ⟨Nat.le_of_ble_eq_true rfl, Nat.le_of_ble_eq_true rfl⟩ (fun w1 e1 => mt_X0_books l G hSF x0 _ w1 e1) rfl hl.size (by simp only [List.map_cons, List.map_nil, List.sum_cons, List.sum_nil, va_rf_cat, ax_catI, ax_catL]; decide) dX0_cleared_47 e (fun q8 e => ?_)
        refine ax_ivR (y := yX2_as) (n := 1) (As := [va_rf q8.1]) B kd2 (lw_V q1377 q1378 q1379 q130 q1380) (by decide +kernel) ⟨Nat.le_of_ble_eq_true rfl, Nat.le_of_ble_eq_true rfl⟩ (fun w1 e1 => mt_X2_as l G hSF v7 q8.1 _ w1 e1) rfl hl.size (by simp only [List.map_cons, List.map_nil, List.sum_cons, List.sum_nil, va_rf_cat, ax_catI, ax_catL]; decide) dX0_cleared_50 e (fun q9 e => ?_)
        refine ax_ivV (y := yX27_clear) (n := 1) (As := [va_rf q9.1]) B kd27 (lw_V q1706 q1707 q1708 q169 q1709) (by decide +kernel) ⟨Nat.le_of_ble_eq_true rfl, Nat.le_of_ble_eq_true rfl⟩ (fun w1 e1 => mt_X27_clear l G hSF (some q1.1) q9.1 _ w1 e1) rfl hl.size (by decide) dX0_cleared_53 e (fun h10 e => ?_)
        refine ax_iconst B dX0_cleared_56 ?_
        refine ax_istore_n (L' := [(3, .inl 0), (2, .inr (.inr (some q1.1))), (0, .inr (.inr x0)), (1, .inl x1)]) B dX0_cleared_57 rfl hl (by decide) rfl (fun ls hl => ?_)
        refine ax_iconst B dX0_cleared_58 ?_
        refine ax_istore (L' := [(4, .inl 0), (3, .inl 0), (2, .inr (.inr (some q1.1))), (0, .inr (.inr x0)), (1, .inl x1)]) B dX0_cleared_59 hl (by decide) rfl (fun ls hl => ?_)
        exact w_X0_cleared_61 hSF B Z hn x0 0 0 (hl.sub [3, 1, 0] rfl) e hp
theorem mt_X0_cleared (l : Launch) (G : ax_G) (hSF : ax_SF G) (x0 : Option Nat) (x1 : Int) (h : ax_H) (w : Int × ax_H) (e : f_X0_cleared G.2.2 x0 x1 h = some w) : ax_Met l G yX0_cleared cX0_cleared 6 ((some FieldType.int)) 140 3568 [va_rf x0, .int (Int32.ofInt x1)] h w.2 (some (.int (Int32.ofInt w.1))) :=
  ax_enter [.inr (.inr x0), .inl x1] (y := yX0_cleared) hSF (plainFor_of_name (by decide +kernel)) (Nat.le_of_ble_eq_true rfl) (fun X ls B Z hn hl => we_X0_cleared hSF B Z hn x0 x1 hl e rfl)
def dkwX2_balance_2 : List UInt8 := [116, 167, 0, 4, 3, 96, 61, 132, 3, 1, 167, 255, 202, 28, 172]
abbrev dktX2_balance_2 : List UInt8 := dkwX2_balance_2 ++ []
def dkwX2_balance_1 : List UInt8 := [180, 0, 21, 29, 46, 167, 0, 24, 42, 180, 0, 15, 29, 46, 27, 160, 0, 13, 42, 180, 0, 21, 29, 46]
abbrev dktX2_balance_1 : List UInt8 := dkwX2_balance_1 ++ dktX2_balance_2
def dkwX2_balance_0 : List UInt8 := [3, 61, 3, 62, 29, 42, 180, 0, 33, 162, 0, 52, 28, 42, 180, 0, 18, 29, 46, 27, 160, 0, 12, 42]
abbrev dktX2_balance_0 : List UInt8 := dkwX2_balance_0 ++ dktX2_balance_1
theorem dksX2_balance_0 : cX2_balance.data.toList.drop 0 = dktX2_balance_0 := by decide +kernel
theorem dksX2_balance_1 : cX2_balance.data.toList.drop 24 = dktX2_balance_1 := dk_seg dksX2_balance_0 24 rfl rfl
theorem dksX2_balance_2 : cX2_balance.data.toList.drop 48 = dktX2_balance_2 := dk_seg dksX2_balance_1 24 rfl rfl
theorem dX2_balance_0 : decode cX2_balance 0 = .ok (.iconst 0, 1) := dk_3 (dk_at dksX2_balance_0 0 rfl rfl)
theorem dX2_balance_1 : decode cX2_balance 1 = .ok (.istore_n 2, 1) := dk_61 (dk_at dksX2_balance_0 1 rfl rfl)
theorem dX2_balance_2 : decode cX2_balance 2 = .ok (.iconst 0, 1) := dk_3 (dk_at dksX2_balance_0 2 rfl rfl)
theorem dX2_balance_3 : decode cX2_balance 3 = .ok (.istore_n 3, 1) := dk_62 (dk_at dksX2_balance_0 3 rfl rfl)
theorem dX2_balance_4 : decode cX2_balance 4 = .ok (.iload_n 3, 1) := dk_29 (dk_at dksX2_balance_0 4 rfl rfl)
theorem dX2_balance_5 : decode cX2_balance 5 = .ok (.aload_n 0, 1) := dk_42 (dk_at dksX2_balance_0 5 rfl rfl)
theorem dX2_balance_6 : decode cX2_balance 6 = .ok (.getfield 33, 3) := dk_180 0 33 (dk_at dksX2_balance_0 6 rfl rfl)
theorem dX2_balance_9 : decode cX2_balance 9 = .ok (.if_icmp .ge 52, 3) := dk_162 0 52 (dk_at dksX2_balance_0 9 rfl rfl)
theorem dX2_balance_12 : decode cX2_balance 12 = .ok (.iload_n 2, 1) := dk_28 (dk_at dksX2_balance_0 12 rfl rfl)
theorem dX2_balance_13 : decode cX2_balance 13 = .ok (.aload_n 0, 1) := dk_42 (dk_at dksX2_balance_0 13 rfl rfl)
theorem dX2_balance_14 : decode cX2_balance 14 = .ok (.getfield 18, 3) := dk_180 0 18 (dk_at dksX2_balance_0 14 rfl rfl)
theorem dX2_balance_17 : decode cX2_balance 17 = .ok (.iload_n 3, 1) := dk_29 (dk_at dksX2_balance_0 17 rfl rfl)
theorem dX2_balance_18 : decode cX2_balance 18 = .ok (.iaload, 1) := dk_46 (dk_at dksX2_balance_0 18 rfl rfl)
theorem dX2_balance_19 : decode cX2_balance 19 = .ok (.iload_n 1, 1) := dk_27 (dk_at dksX2_balance_0 19 rfl rfl)
theorem dX2_balance_20 : decode cX2_balance 20 = .ok (.if_icmp .ne 12, 3) := dk_160 0 12 (dk_at dksX2_balance_0 20 rfl rfl)
theorem dX2_balance_23 : decode cX2_balance 23 = .ok (.aload_n 0, 1) := dk_42 (dk_at dksX2_balance_0 23 rfl rfl)
theorem dX2_balance_24 : decode cX2_balance 24 = .ok (.getfield 21, 3) := dk_180 0 21 (dk_at dksX2_balance_1 0 rfl rfl)
theorem dX2_balance_27 : decode cX2_balance 27 = .ok (.iload_n 3, 1) := dk_29 (dk_at dksX2_balance_1 3 rfl rfl)
theorem dX2_balance_28 : decode cX2_balance 28 = .ok (.iaload, 1) := dk_46 (dk_at dksX2_balance_1 4 rfl rfl)
theorem dX2_balance_29 : decode cX2_balance 29 = .ok (.goto 24, 3) := dk_167 0 24 (dk_at dksX2_balance_1 5 rfl rfl)
theorem dX2_balance_32 : decode cX2_balance 32 = .ok (.aload_n 0, 1) := dk_42 (dk_at dksX2_balance_1 8 rfl rfl)
theorem dX2_balance_33 : decode cX2_balance 33 = .ok (.getfield 15, 3) := dk_180 0 15 (dk_at dksX2_balance_1 9 rfl rfl)
theorem dX2_balance_36 : decode cX2_balance 36 = .ok (.iload_n 3, 1) := dk_29 (dk_at dksX2_balance_1 12 rfl rfl)
theorem dX2_balance_37 : decode cX2_balance 37 = .ok (.iaload, 1) := dk_46 (dk_at dksX2_balance_1 13 rfl rfl)
theorem dX2_balance_38 : decode cX2_balance 38 = .ok (.iload_n 1, 1) := dk_27 (dk_at dksX2_balance_1 14 rfl rfl)
theorem dX2_balance_39 : decode cX2_balance 39 = .ok (.if_icmp .ne 13, 3) := dk_160 0 13 (dk_at dksX2_balance_1 15 rfl rfl)
theorem dX2_balance_42 : decode cX2_balance 42 = .ok (.aload_n 0, 1) := dk_42 (dk_at dksX2_balance_1 18 rfl rfl)
theorem dX2_balance_43 : decode cX2_balance 43 = .ok (.getfield 21, 3) := dk_180 0 21 (dk_at dksX2_balance_1 19 rfl rfl)
theorem dX2_balance_46 : decode cX2_balance 46 = .ok (.iload_n 3, 1) := dk_29 (dk_at dksX2_balance_1 22 rfl rfl)
theorem dX2_balance_47 : decode cX2_balance 47 = .ok (.iaload, 1) := dk_46 (dk_at dksX2_balance_1 23 rfl rfl)
theorem dX2_balance_48 : decode cX2_balance 48 = .ok (.ineg, 1) := dk_116 (dk_at dksX2_balance_2 0 rfl rfl)
theorem dX2_balance_49 : decode cX2_balance 49 = .ok (.goto 4, 3) := dk_167 0 4 (dk_at dksX2_balance_2 1 rfl rfl)
theorem dX2_balance_52 : decode cX2_balance 52 = .ok (.iconst 0, 1) := dk_3 (dk_at dksX2_balance_2 4 rfl rfl)
theorem dX2_balance_53 : decode cX2_balance 53 = .ok (.iadd, 1) := dk_96 (dk_at dksX2_balance_2 5 rfl rfl)
theorem dX2_balance_54 : decode cX2_balance 54 = .ok (.istore_n 2, 1) := dk_61 (dk_at dksX2_balance_2 6 rfl rfl)
theorem dX2_balance_55 : decode cX2_balance 55 = .ok (.iinc 3 1, 3) := dk_132 3 1 (dk_at dksX2_balance_2 7 rfl rfl)
theorem dX2_balance_58 : decode cX2_balance 58 = .ok (.goto (-54), 3) := dk_167 255 202 (dk_at dksX2_balance_2 10 rfl rfl)
theorem dX2_balance_61 : decode cX2_balance 61 = .ok (.iload_n 2, 1) := dk_28 (dk_at dksX2_balance_2 13 rfl rfl)
theorem dX2_balance_62 : decode cX2_balance 62 = .ok (.ireturn, 1) := dk_172 (dk_at dksX2_balance_2 14 rfl rfl)
noncomputable def f_X2_balance_53 (E : ax_E) (x0 : Option Nat) (x1 : Int) (x3 : Int) (s0 : Int) (s1 : Int) (h : ax_H) : Option ((Int × Int × ax_H) ⊕ (Int × ax_H)) :=
  some (.inl ((s0 + s1), (x3 + 1), h))
noncomputable def lb_X2_balance_4 (E : ax_E) (x0 : Option Nat) (x1 : Int) (x2 : Int) (x3 : Int) (h : ax_H) : Option ((Int × Int × ax_H) ⊕ (Int × ax_H)) :=
  (ax_gI E h x0 2 5).bind fun v1 =>
  if i2 x3 < i2 v1 then
    (ax_gR E h x0 2 2).bind fun v2 =>
    (ax_ld E h v2 100 x3).bind fun v3 =>
    if i2 v3 = i2 x1 then
      (ax_gR E h x0 2 3).bind fun v4 =>
      (ax_ld E h v4 100 x3).bind fun v5 =>
      f_X2_balance_53 E x0 x1 x3 x2 v5 h
    else
      (ax_gR E h x0 2 1).bind fun v6 =>
      (ax_ld E h v6 100 x3).bind fun v7 =>
      if i2 v7 = i2 x1 then
        (ax_gR E h x0 2 3).bind fun v8 =>
        (ax_ld E h v8 100 x3).bind fun v9 =>
        f_X2_balance_53 E x0 x1 x3 x2 (-v9) h
      else
        f_X2_balance_53 E x0 x1 x3 x2 0 h
  else
    (some (x2, h)).map Sum.inr
noncomputable def f_X2_balance_4 (E : ax_E) (x0 : Option Nat) (x1 : Int) (x2 : Int) (x3 : Int) (h : ax_H) : Option (Int × ax_H) :=
  ax_iter (fun s : Int × Int × ax_H => lb_X2_balance_4 E x0 x1 s.1 s.2.1 s.2.2) (x2, x3, h)
noncomputable def f_X2_balance (E : ax_E) (x0 : Option Nat) (x1 : Int) (h : ax_H) : Option (Int × ax_H) :=
  f_X2_balance_4 E x0 x1 0 0 h
def pi_X2_balance_4 (G : ax_G) (X : ax_X) (Q : State → Prop) (x0 : Option Nat) (x1 : Int) : Int × Int × ax_H → Prop := fun s => ∀ ls : Array Slot, ax_hl ls 4 [(0, .inr (.inr x0)), (1, .inl x1), (2, .inl s.1), (3, .inl s.2.1)] → ax_W G X Q s.2.2 4 ls []
set_option maxHeartbeats 4000000 in
theorem w_X2_balance_53 {l : Launch} {G : ax_G} {X : ax_X} {Q : State → Prop} {h0 h : ax_H} {ls : Array Slot} (hSF : ax_SF G) (B : ax_BL l G X cX2_balance 4 RX2 1 40) (Z : ax_Z X h0 ((some FieldType.int))) (hn : X.2.2.2.2.2.2.2.2.1.name = yX2_balance.name) (x0 : Option Nat) (x1 : Int) (x3 : Int) (s0 : Int) (s1 : Int) {w : (Int × Int × ax_H) ⊕ (Int × ax_H)} (hl : ax_hl ls 4 [(0, .inr (.inr x0)), (1, .inl x1), (3, .inl x3)]) (e : f_X2_balance_53 G.2.2 x0 x1 x3 s0 s1 h = some w) (hp : (ax_PL (pi_X2_balance_4 G X Q x0 x1) (fun w : Int × ax_H => Q = ax_Q G X h0 w.2 (some (.int (Int32.ofInt w.1))))) w) : ax_W G X Q h 53 ls [.int (Int32.ofInt s1), .int (Int32.ofInt s0)] := by
  unfold f_X2_balance_53 at e
  refine ax_iadd' B dX2_balance_53 ?_
  refine ax_istore_n (L' := [(2, .inl (s0 + s1)), (0, .inr (.inr x0)), (1, .inl x1), (3, .inl x3)]) B dX2_balance_54 rfl hl (by decide) rfl (fun ls hl => ?_)
  refine ax_iinc (L' := [(3, .inl (x3 + 1)), (2, .inl (s0 + s1)), (0, .inr (.inr x0)), (1, .inl x1)]) B dX2_balance_55 hl 3 rfl (by decide) rfl (fun ls hl => ?_)
  refine ax_goto (tgt := 4) B dX2_balance_58 (by decide) ?_
  cases e
  exact hp _ (hl.sub [2, 3, 1, 0] rfl)
set_option maxHeartbeats 4000000 in
theorem wb_X2_balance_4 {l : Launch} {G : ax_G} {X : ax_X} {Q : State → Prop} {h0 h : ax_H} {ls : Array Slot} (hSF : ax_SF G) (B : ax_BL l G X cX2_balance 4 RX2 1 40) (Z : ax_Z X h0 ((some FieldType.int))) (hn : X.2.2.2.2.2.2.2.2.1.name = yX2_balance.name) (x0 : Option Nat) (x1 : Int) (x2 : Int) (x3 : Int) {w : (Int × Int × ax_H) ⊕ (Int × ax_H)} (hl : ax_hl ls 4 [(0, .inr (.inr x0)), (1, .inl x1), (2, .inl x2), (3, .inl x3)]) (e : lb_X2_balance_4 G.2.2 x0 x1 x2 x3 h = some w) (hp : (ax_PL (pi_X2_balance_4 G X Q x0 x1) (fun w : Int × ax_H => Q = ax_Q G X h0 w.2 (some (.int (Int32.ofInt w.1))))) w) : ax_W G X Q h 4 ls [] := by
  unfold lb_X2_balance_4 at e
  refine ax_iload_n B dX2_balance_4 rfl hl 3 rfl ?_
  refine ax_aload_n B dX2_balance_5 rfl hl 0 rfl ?_
  refine ax_getI B ff_X2_33_2 (fun _ _ => rfl) dX2_balance_6 e (fun v1 e => ?_)
  refine ax_icmp_ge (tgt := 61) B dX2_balance_9 (by decide) e (fun e => ?_) (fun e => ?_)
  · refine ax_iload_n B dX2_balance_12 rfl hl 2 rfl ?_
    refine ax_aload_n B dX2_balance_13 rfl hl 0 rfl ?_
    refine ax_getR B ff_X2_18_2 (fun _ _ => rfl) dX2_balance_14 e (fun v2 e => ?_)
    refine ax_iload_n B dX2_balance_17 rfl hl 3 rfl ?_
    refine ax_iald B kd100 dX2_balance_18 e (fun v3 e => ?_)
    refine ax_iload_n B dX2_balance_19 rfl hl 1 rfl ?_
    refine ax_icmp_ne (tgt := 32) B dX2_balance_20 (by decide) e (fun e => ?_) (fun e => ?_)
    · refine ax_aload_n B dX2_balance_23 rfl hl 0 rfl ?_
      refine ax_getR B ff_X2_21_2 (fun _ _ => rfl) dX2_balance_24 e (fun v4 e => ?_)
      refine ax_iload_n B dX2_balance_27 rfl hl 3 rfl ?_
      refine ax_iald B kd100 dX2_balance_28 e (fun v5 e => ?_)
      refine ax_goto (tgt := 53) B dX2_balance_29 (by decide) ?_
      exact w_X2_balance_53 hSF B Z hn x0 x1 x3 x2 v5 (hl.sub [0, 1, 3] rfl) e hp
    · refine ax_aload_n B dX2_balance_32 rfl hl 0 rfl ?_
      refine ax_getR B ff_X2_15_2 (fun _ _ => rfl) dX2_balance_33 e (fun v6 e => ?_)
      refine ax_iload_n B dX2_balance_36 rfl hl 3 rfl ?_
      refine ax_iald B kd100 dX2_balance_37 e (fun v7 e => ?_)
      refine ax_iload_n B dX2_balance_38 rfl hl 1 rfl ?_
      refine ax_icmp_ne (tgt := 52) B dX2_balance_39 (by decide) e (fun e => ?_) (fun e => ?_)
      · refine ax_aload_n B dX2_balance_42 rfl hl 0 rfl ?_
        refine ax_getR B ff_X2_21_2 (fun _ _ => rfl) dX2_balance_43 e (fun v8 e => ?_)
        refine ax_iload_n B dX2_balance_46 rfl hl 3 rfl ?_
        refine ax_iald B kd100 dX2_balance_47 e (fun v9 e => ?_)
        refine ax_ineg' B dX2_balance_48 ?_
        refine ax_goto (tgt := 53) B dX2_balance_49 (by decide) ?_
        exact w_X2_balance_53 hSF B Z hn x0 x1 x3 x2 (-v9) (hl.sub [0, 1, 3] rfl) e hp
      · refine ax_iconst B dX2_balance_52 ?_
        exact w_X2_balance_53 hSF B Z hn x0 x1 x3 x2 0 (hl.sub [0, 1, 3] rfl) e hp
  · obtain ⟨w, e9_1, rfl⟩ := Option.map_eq_some_iff.mp e
    have e := e9_1
    refine ax_iload_n B dX2_balance_61 rfl hl 2 rfl ?_
    have e8 := e
    have hp : Q = _ := hp
    subst hp
    exact ax_ireturn B Z dX2_balance_62 e8
theorem w_X2_balance_4 {l : Launch} {G : ax_G} {X : ax_X} {Q : State → Prop} {h0 h : ax_H} {ls : Array Slot} (hSF : ax_SF G) (B : ax_BL l G X cX2_balance 4 RX2 1 40) (Z : ax_Z X h0 ((some FieldType.int))) (hn : X.2.2.2.2.2.2.2.2.1.name = yX2_balance.name) (x0 : Option Nat) (x1 : Int) (x2 : Int) (x3 : Int) {w : Int × ax_H} (hl : ax_hl ls 4 [(0, .inr (.inr x0)), (1, .inl x1), (2, .inl x2), (3, .inl x3)]) (e : f_X2_balance_4 G.2.2 x0 x1 x2 x3 h = some w) (hp : (fun w : Int × ax_H => Q = ax_Q G X h0 w.2 (some (.int (Int32.ofInt w.1)))) w) : ax_W G X Q h 4 ls [] :=
  ax_iter_W (Pin := pi_X2_balance_4 G X Q x0 x1) (Pout := (fun w : Int × ax_H => Q = ax_Q G X h0 w.2 (some (.int (Int32.ofInt w.1))))) (fun s w e hp ls hl => wb_X2_balance_4 hSF B Z hn x0 x1 s.1 s.2.1 hl e hp) _ _ e hp ls hl
set_option maxHeartbeats 4000000 in
theorem we_X2_balance {l : Launch} {G : ax_G} {X : ax_X} {Q : State → Prop} {h0 h : ax_H} {ls : Array Slot} (hSF : ax_SF G) (B : ax_BL l G X cX2_balance 4 RX2 1 40) (Z : ax_Z X h0 ((some FieldType.int))) (hn : X.2.2.2.2.2.2.2.2.1.name = yX2_balance.name) (x0 : Option Nat) (x1 : Int) {w : Int × ax_H} (hl : ax_hl ls 4 [(0, .inr (.inr x0)), (1, .inl x1)]) (e : f_X2_balance G.2.2 x0 x1 h = some w) (hp : (fun w : Int × ax_H => Q = ax_Q G X h0 w.2 (some (.int (Int32.ofInt w.1)))) w) : ax_W G X Q h 0 ls [] := by
  unfold f_X2_balance at e
  refine ax_iconst B dX2_balance_0 ?_
  refine ax_istore_n (L' := [(2, .inl 0), (0, .inr (.inr x0)), (1, .inl x1)]) B dX2_balance_1 rfl hl (by decide) rfl (fun ls hl => ?_)
  refine ax_iconst B dX2_balance_2 ?_
  refine ax_istore_n (L' := [(3, .inl 0), (2, .inl 0), (0, .inr (.inr x0)), (1, .inl x1)]) B dX2_balance_3 rfl hl (by decide) rfl (fun ls hl => ?_)
  exact w_X2_balance_4 hSF B Z hn x0 x1 0 0 (hl.sub [2, 3, 1, 0] rfl) e hp
theorem mt_X2_balance (l : Launch) (G : ax_G) (hSF : ax_SF G) (x0 : Option Nat) (x1 : Int) (h : ax_H) (w : Int × ax_H) (e : f_X2_balance G.2.2 x0 x1 h = some w) : ax_Met l G yX2_balance cX2_balance 4 ((some FieldType.int)) 1 40 [va_rf x0, .int (Int32.ofInt x1)] h w.2 (some (.int (Int32.ofInt w.1))) :=
  ax_enter [.inr (.inr x0), .inl x1] (y := yX2_balance) hSF (plainFor_of_name (by decide +kernel)) (Nat.le_of_ble_eq_true rfl) (fun X ls B Z hn hl => we_X2_balance hSF B Z hn x0 x1 hl e rfl)
def dkwX0_balance_0 : List UInt8 := [42, 27, 182, 0, 110, 153, 0, 14, 42, 182, 0, 104, 27, 182, 1, 174, 167, 0, 6, 19, 1, 177, 172]
abbrev dktX0_balance_0 : List UInt8 := dkwX0_balance_0 ++ []
theorem dksX0_balance_0 : cX0_balance.data.toList.drop 0 = dktX0_balance_0 := by decide +kernel
theorem dX0_balance_0 : decode cX0_balance 0 = .ok (.aload_n 0, 1) := dk_42 (dk_at dksX0_balance_0 0 rfl rfl)
theorem dX0_balance_1 : decode cX0_balance 1 = .ok (.iload_n 1, 1) := dk_27 (dk_at dksX0_balance_0 1 rfl rfl)
theorem dX0_balance_2 : decode cX0_balance 2 = .ok (.invokevirtual 110, 3) := dk_182 0 110 (dk_at dksX0_balance_0 2 rfl rfl)
theorem dX0_balance_5 : decode cX0_balance 5 = .ok (.ifCond .eq 14, 3) := dk_153 0 14 (dk_at dksX0_balance_0 5 rfl rfl)
theorem dX0_balance_8 : decode cX0_balance 8 = .ok (.aload_n 0, 1) := dk_42 (dk_at dksX0_balance_0 8 rfl rfl)
theorem dX0_balance_9 : decode cX0_balance 9 = .ok (.invokevirtual 104, 3) := dk_182 0 104 (dk_at dksX0_balance_0 9 rfl rfl)
theorem dX0_balance_12 : decode cX0_balance 12 = .ok (.iload_n 1, 1) := dk_27 (dk_at dksX0_balance_0 12 rfl rfl)
theorem dX0_balance_13 : decode cX0_balance 13 = .ok (.invokevirtual 430, 3) := dk_182 1 174 (dk_at dksX0_balance_0 13 rfl rfl)
theorem dX0_balance_16 : decode cX0_balance 16 = .ok (.goto 6, 3) := dk_167 0 6 (dk_at dksX0_balance_0 16 rfl rfl)
theorem dX0_balance_19 : decode cX0_balance 19 = .ok (.ldc_w 433, 3) := dk_19 1 177 (dk_at dksX0_balance_0 19 rfl rfl)
theorem dX0_balance_22 : decode cX0_balance 22 = .ok (.ireturn, 1) := dk_172 (dk_at dksX0_balance_0 22 rfl rfl)
noncomputable def f_X0_balance (E : ax_E) (x0 : Option Nat) (x1 : Int) (h : ax_H) : Option (Int × ax_H) :=
  (ax_ce E h x0 0).bind fun _ => (f_X0_isPerson E x0 x1 h).bind fun q1 =>
  if i2 q1.1 = 0 then
    some ((-1000000), q1.2)
  else
    (ax_ce E q1.2 x0 0).bind fun _ => (f_X0_books E x0 q1.2).bind fun q2 =>
    (ax_ce E q2.2 q2.1 2).bind fun _ => (f_X2_balance E q2.1 x1 q2.2).bind fun q3 =>
    some (q3.1, q3.2)
set_option maxHeartbeats 4000000 in
theorem we_X0_balance {l : Launch} {G : ax_G} {X : ax_X} {Q : State → Prop} {h0 h : ax_H} {ls : Array Slot} (hSF : ax_SF G) (B : ax_BL l G X cX0_balance 2 RX0 3 86) (Z : ax_Z X h0 ((some FieldType.int))) (hn : X.2.2.2.2.2.2.2.2.1.name = yX0_balance.name) (x0 : Option Nat) (x1 : Int) {w : Int × ax_H} (hl : ax_hl ls 2 [(0, .inr (.inr x0)), (1, .inl x1)]) (e : f_X0_balance G.2.2 x0 x1 h = some w) (hp : (fun w : Int × ax_H => Q = ax_Q G X h0 w.2 (some (.int (Int32.ofInt w.1)))) w) : ax_W G X Q h 0 ls [] := by
  unfold f_X0_balance at e
  refine ax_aload_n B dX0_balance_0 rfl hl 0 rfl ?_
  refine ax_iload_n B dX0_balance_1 rfl hl 1 rfl ?_
  refine ax_ivI (y := yX0_isPerson) (n := 1) (As := [.int (Int32.ofInt x1)]) B kd0 (lw_V q459 q461 qs4 q125 q462) (by decide +kernel) ⟨Nat.le_of_ble_eq_true rfl, Nat.le_of_ble_eq_true rfl⟩ (fun w1 e1 => mt_X0_isPerson l G hSF x0 x1 _ w1 e1) rfl hl.size (by decide) dX0_balance_2 e (fun q1 e => ?_)
  refine ax_if_eq (tgt := 19) B dX0_balance_5 (by decide) e (fun e => ?_) (fun e => ?_)
  · refine ax_ldcw B cn_X0_433 dX0_balance_19 ?_
    have e8 := e
    have hp : Q = _ := hp
    subst hp
    exact ax_ireturn B Z dX0_balance_22 e8
  · refine ax_aload_n B dX0_balance_8 rfl hl 0 rfl ?_
    refine ax_ivR (y := yX0_books) (n := 0) (As := []) B kd0 (lw_V q443 q445 qs2 q125 q446) (by decide +kernel) ⟨Nat.le_of_ble_eq_true rfl, Nat.le_of_ble_eq_true rfl⟩ (fun w1 e1 => mt_X0_books l G hSF x0 _ w1 e1) rfl hl.size (by decide) dX0_balance_9 e (fun q2 e => ?_)
    refine ax_iload_n B dX0_balance_12 rfl hl 1 rfl ?_
    refine ax_ivI (y := yX2_balance) (n := 1) (As := [.int (Int32.ofInt x1)]) B kd2 (lw_V q1720 q1721 q1722 q130 q1723) (by decide +kernel) ⟨Nat.le_of_ble_eq_true rfl, Nat.le_of_ble_eq_true rfl⟩ (fun w1 e1 => mt_X2_balance l G hSF q2.1 x1 _ w1 e1) rfl hl.size (by decide) dX0_balance_13 e (fun q3 e => ?_)
    refine ax_goto (tgt := 22) B dX0_balance_16 (by decide) ?_
    have e8 := e
    have hp : Q = _ := hp
    subst hp
    exact ax_ireturn B Z dX0_balance_22 e8
theorem mt_X0_balance (l : Launch) (G : ax_G) (hSF : ax_SF G) (x0 : Option Nat) (x1 : Int) (h : ax_H) (w : Int × ax_H) (e : f_X0_balance G.2.2 x0 x1 h = some w) : ax_Met l G yX0_balance cX0_balance 2 ((some FieldType.int)) 3 86 [va_rf x0, .int (Int32.ofInt x1)] h w.2 (some (.int (Int32.ofInt w.1))) :=
  ax_enter [.inr (.inr x0), .inl x1] (y := yX0_balance) hSF (plainFor_of_name (by decide +kernel)) (Nat.le_of_ble_eq_true rfl) (fun X ls B Z hn hl => we_X0_balance hSF B Z hn x0 x1 hl e rfl)
def dkwJ16_numberOfTrailingZeros_3 : List UInt8 := [5, 124, 59, 27, 26, 4, 124, 96, 172]
abbrev dktJ16_numberOfTrailingZeros_3 : List UInt8 := dkwJ16_numberOfTrailingZeros_3 ++ []
def dkwJ16_numberOfTrailingZeros_2 : List UInt8 := [124, 59, 26, 16, 16, 164, 0, 10, 132, 1, 4, 26, 7, 124, 59, 26, 7, 164, 0, 10, 132, 1, 2, 26]
abbrev dktJ16_numberOfTrailingZeros_2 : List UInt8 := dkwJ16_numberOfTrailingZeros_2 ++ dktJ16_numberOfTrailingZeros_3
def dkwJ16_numberOfTrailingZeros_1 : List UInt8 := [164, 0, 11, 132, 1, 16, 26, 16, 16, 124, 59, 26, 17, 1, 0, 164, 0, 11, 132, 1, 8, 26, 16, 8]
abbrev dktJ16_numberOfTrailingZeros_1 : List UInt8 := dkwJ16_numberOfTrailingZeros_1 ++ dktJ16_numberOfTrailingZeros_2
def dkwJ16_numberOfTrailingZeros_0 : List UInt8 := [26, 2, 130, 26, 4, 100, 126, 59, 26, 157, 0, 8, 26, 16, 32, 126, 172, 4, 60, 26, 19, 1, 8]
abbrev dktJ16_numberOfTrailingZeros_0 : List UInt8 := dkwJ16_numberOfTrailingZeros_0 ++ dktJ16_numberOfTrailingZeros_1
theorem dksJ16_numberOfTrailingZeros_0 : cJ16_numberOfTrailingZeros.data.toList.drop 0 = dktJ16_numberOfTrailingZeros_0 := by decide +kernel
theorem dksJ16_numberOfTrailingZeros_1 : cJ16_numberOfTrailingZeros.data.toList.drop 23 = dktJ16_numberOfTrailingZeros_1 := dk_seg dksJ16_numberOfTrailingZeros_0 23 rfl rfl
theorem dksJ16_numberOfTrailingZeros_2 : cJ16_numberOfTrailingZeros.data.toList.drop 47 = dktJ16_numberOfTrailingZeros_2 := dk_seg dksJ16_numberOfTrailingZeros_1 24 rfl rfl
theorem dksJ16_numberOfTrailingZeros_3 : cJ16_numberOfTrailingZeros.data.toList.drop 71 = dktJ16_numberOfTrailingZeros_3 := dk_seg dksJ16_numberOfTrailingZeros_2 24 rfl rfl
theorem dJ16_numberOfTrailingZeros_0 : decode cJ16_numberOfTrailingZeros 0 = .ok (.iload_n 0, 1) := dk_26 (dk_at dksJ16_numberOfTrailingZeros_0 0 rfl rfl)
theorem dJ16_numberOfTrailingZeros_1 : decode cJ16_numberOfTrailingZeros 1 = .ok (.iconst (-1), 1) := dk_2 (dk_at dksJ16_numberOfTrailingZeros_0 1 rfl rfl)
theorem dJ16_numberOfTrailingZeros_2 : decode cJ16_numberOfTrailingZeros 2 = .ok (.ixor, 1) := dk_130 (dk_at dksJ16_numberOfTrailingZeros_0 2 rfl rfl)
theorem dJ16_numberOfTrailingZeros_3 : decode cJ16_numberOfTrailingZeros 3 = .ok (.iload_n 0, 1) := dk_26 (dk_at dksJ16_numberOfTrailingZeros_0 3 rfl rfl)
theorem dJ16_numberOfTrailingZeros_4 : decode cJ16_numberOfTrailingZeros 4 = .ok (.iconst 1, 1) := dk_4 (dk_at dksJ16_numberOfTrailingZeros_0 4 rfl rfl)
theorem dJ16_numberOfTrailingZeros_5 : decode cJ16_numberOfTrailingZeros 5 = .ok (.isub, 1) := dk_100 (dk_at dksJ16_numberOfTrailingZeros_0 5 rfl rfl)
theorem dJ16_numberOfTrailingZeros_6 : decode cJ16_numberOfTrailingZeros 6 = .ok (.iand, 1) := dk_126 (dk_at dksJ16_numberOfTrailingZeros_0 6 rfl rfl)
theorem dJ16_numberOfTrailingZeros_7 : decode cJ16_numberOfTrailingZeros 7 = .ok (.istore_n 0, 1) := dk_59 (dk_at dksJ16_numberOfTrailingZeros_0 7 rfl rfl)
theorem dJ16_numberOfTrailingZeros_8 : decode cJ16_numberOfTrailingZeros 8 = .ok (.iload_n 0, 1) := dk_26 (dk_at dksJ16_numberOfTrailingZeros_0 8 rfl rfl)
theorem dJ16_numberOfTrailingZeros_9 : decode cJ16_numberOfTrailingZeros 9 = .ok (.ifCond .gt 8, 3) := dk_157 0 8 (dk_at dksJ16_numberOfTrailingZeros_0 9 rfl rfl)
theorem dJ16_numberOfTrailingZeros_12 : decode cJ16_numberOfTrailingZeros 12 = .ok (.iload_n 0, 1) := dk_26 (dk_at dksJ16_numberOfTrailingZeros_0 12 rfl rfl)
theorem dJ16_numberOfTrailingZeros_13 : decode cJ16_numberOfTrailingZeros 13 = .ok (.bipush 32, 2) := dk_16 32 (dk_at dksJ16_numberOfTrailingZeros_0 13 rfl rfl)
theorem dJ16_numberOfTrailingZeros_15 : decode cJ16_numberOfTrailingZeros 15 = .ok (.iand, 1) := dk_126 (dk_at dksJ16_numberOfTrailingZeros_0 15 rfl rfl)
theorem dJ16_numberOfTrailingZeros_16 : decode cJ16_numberOfTrailingZeros 16 = .ok (.ireturn, 1) := dk_172 (dk_at dksJ16_numberOfTrailingZeros_0 16 rfl rfl)
theorem dJ16_numberOfTrailingZeros_17 : decode cJ16_numberOfTrailingZeros 17 = .ok (.iconst 1, 1) := dk_4 (dk_at dksJ16_numberOfTrailingZeros_0 17 rfl rfl)
theorem dJ16_numberOfTrailingZeros_18 : decode cJ16_numberOfTrailingZeros 18 = .ok (.istore_n 1, 1) := dk_60 (dk_at dksJ16_numberOfTrailingZeros_0 18 rfl rfl)
theorem dJ16_numberOfTrailingZeros_19 : decode cJ16_numberOfTrailingZeros 19 = .ok (.iload_n 0, 1) := dk_26 (dk_at dksJ16_numberOfTrailingZeros_0 19 rfl rfl)
theorem dJ16_numberOfTrailingZeros_20 : decode cJ16_numberOfTrailingZeros 20 = .ok (.ldc_w 264, 3) := dk_19 1 8 (dk_at dksJ16_numberOfTrailingZeros_0 20 rfl rfl)
theorem dJ16_numberOfTrailingZeros_23 : decode cJ16_numberOfTrailingZeros 23 = .ok (.if_icmp .le 11, 3) := dk_164 0 11 (dk_at dksJ16_numberOfTrailingZeros_1 0 rfl rfl)
theorem dJ16_numberOfTrailingZeros_26 : decode cJ16_numberOfTrailingZeros 26 = .ok (.iinc 1 16, 3) := dk_132 1 16 (dk_at dksJ16_numberOfTrailingZeros_1 3 rfl rfl)
theorem dJ16_numberOfTrailingZeros_29 : decode cJ16_numberOfTrailingZeros 29 = .ok (.iload_n 0, 1) := dk_26 (dk_at dksJ16_numberOfTrailingZeros_1 6 rfl rfl)
theorem dJ16_numberOfTrailingZeros_30 : decode cJ16_numberOfTrailingZeros 30 = .ok (.bipush 16, 2) := dk_16 16 (dk_at dksJ16_numberOfTrailingZeros_1 7 rfl rfl)
theorem dJ16_numberOfTrailingZeros_32 : decode cJ16_numberOfTrailingZeros 32 = .ok (.iushr, 1) := dk_124 (dk_at dksJ16_numberOfTrailingZeros_1 9 rfl rfl)
theorem dJ16_numberOfTrailingZeros_33 : decode cJ16_numberOfTrailingZeros 33 = .ok (.istore_n 0, 1) := dk_59 (dk_at dksJ16_numberOfTrailingZeros_1 10 rfl rfl)
theorem dJ16_numberOfTrailingZeros_34 : decode cJ16_numberOfTrailingZeros 34 = .ok (.iload_n 0, 1) := dk_26 (dk_at dksJ16_numberOfTrailingZeros_1 11 rfl rfl)
theorem dJ16_numberOfTrailingZeros_35 : decode cJ16_numberOfTrailingZeros 35 = .ok (.sipush 256, 3) := dk_17 1 0 (dk_at dksJ16_numberOfTrailingZeros_1 12 rfl rfl)
theorem dJ16_numberOfTrailingZeros_38 : decode cJ16_numberOfTrailingZeros 38 = .ok (.if_icmp .le 11, 3) := dk_164 0 11 (dk_at dksJ16_numberOfTrailingZeros_1 15 rfl rfl)
theorem dJ16_numberOfTrailingZeros_41 : decode cJ16_numberOfTrailingZeros 41 = .ok (.iinc 1 8, 3) := dk_132 1 8 (dk_at dksJ16_numberOfTrailingZeros_1 18 rfl rfl)
theorem dJ16_numberOfTrailingZeros_44 : decode cJ16_numberOfTrailingZeros 44 = .ok (.iload_n 0, 1) := dk_26 (dk_at dksJ16_numberOfTrailingZeros_1 21 rfl rfl)
theorem dJ16_numberOfTrailingZeros_45 : decode cJ16_numberOfTrailingZeros 45 = .ok (.bipush 8, 2) := dk_16 8 (dk_at dksJ16_numberOfTrailingZeros_1 22 rfl rfl)
theorem dJ16_numberOfTrailingZeros_47 : decode cJ16_numberOfTrailingZeros 47 = .ok (.iushr, 1) := dk_124 (dk_at dksJ16_numberOfTrailingZeros_2 0 rfl rfl)
theorem dJ16_numberOfTrailingZeros_48 : decode cJ16_numberOfTrailingZeros 48 = .ok (.istore_n 0, 1) := dk_59 (dk_at dksJ16_numberOfTrailingZeros_2 1 rfl rfl)
theorem dJ16_numberOfTrailingZeros_49 : decode cJ16_numberOfTrailingZeros 49 = .ok (.iload_n 0, 1) := dk_26 (dk_at dksJ16_numberOfTrailingZeros_2 2 rfl rfl)
theorem dJ16_numberOfTrailingZeros_50 : decode cJ16_numberOfTrailingZeros 50 = .ok (.bipush 16, 2) := dk_16 16 (dk_at dksJ16_numberOfTrailingZeros_2 3 rfl rfl)
theorem dJ16_numberOfTrailingZeros_52 : decode cJ16_numberOfTrailingZeros 52 = .ok (.if_icmp .le 10, 3) := dk_164 0 10 (dk_at dksJ16_numberOfTrailingZeros_2 5 rfl rfl)
theorem dJ16_numberOfTrailingZeros_55 : decode cJ16_numberOfTrailingZeros 55 = .ok (.iinc 1 4, 3) := dk_132 1 4 (dk_at dksJ16_numberOfTrailingZeros_2 8 rfl rfl)
theorem dJ16_numberOfTrailingZeros_58 : decode cJ16_numberOfTrailingZeros 58 = .ok (.iload_n 0, 1) := dk_26 (dk_at dksJ16_numberOfTrailingZeros_2 11 rfl rfl)
theorem dJ16_numberOfTrailingZeros_59 : decode cJ16_numberOfTrailingZeros 59 = .ok (.iconst 4, 1) := dk_7 (dk_at dksJ16_numberOfTrailingZeros_2 12 rfl rfl)
theorem dJ16_numberOfTrailingZeros_60 : decode cJ16_numberOfTrailingZeros 60 = .ok (.iushr, 1) := dk_124 (dk_at dksJ16_numberOfTrailingZeros_2 13 rfl rfl)
theorem dJ16_numberOfTrailingZeros_61 : decode cJ16_numberOfTrailingZeros 61 = .ok (.istore_n 0, 1) := dk_59 (dk_at dksJ16_numberOfTrailingZeros_2 14 rfl rfl)
theorem dJ16_numberOfTrailingZeros_62 : decode cJ16_numberOfTrailingZeros 62 = .ok (.iload_n 0, 1) := dk_26 (dk_at dksJ16_numberOfTrailingZeros_2 15 rfl rfl)
theorem dJ16_numberOfTrailingZeros_63 : decode cJ16_numberOfTrailingZeros 63 = .ok (.iconst 4, 1) := dk_7 (dk_at dksJ16_numberOfTrailingZeros_2 16 rfl rfl)
theorem dJ16_numberOfTrailingZeros_64 : decode cJ16_numberOfTrailingZeros 64 = .ok (.if_icmp .le 10, 3) := dk_164 0 10 (dk_at dksJ16_numberOfTrailingZeros_2 17 rfl rfl)
theorem dJ16_numberOfTrailingZeros_67 : decode cJ16_numberOfTrailingZeros 67 = .ok (.iinc 1 2, 3) := dk_132 1 2 (dk_at dksJ16_numberOfTrailingZeros_2 20 rfl rfl)
theorem dJ16_numberOfTrailingZeros_70 : decode cJ16_numberOfTrailingZeros 70 = .ok (.iload_n 0, 1) := dk_26 (dk_at dksJ16_numberOfTrailingZeros_2 23 rfl rfl)
theorem dJ16_numberOfTrailingZeros_71 : decode cJ16_numberOfTrailingZeros 71 = .ok (.iconst 2, 1) := dk_5 (dk_at dksJ16_numberOfTrailingZeros_3 0 rfl rfl)
theorem dJ16_numberOfTrailingZeros_72 : decode cJ16_numberOfTrailingZeros 72 = .ok (.iushr, 1) := dk_124 (dk_at dksJ16_numberOfTrailingZeros_3 1 rfl rfl)
theorem dJ16_numberOfTrailingZeros_73 : decode cJ16_numberOfTrailingZeros 73 = .ok (.istore_n 0, 1) := dk_59 (dk_at dksJ16_numberOfTrailingZeros_3 2 rfl rfl)
theorem dJ16_numberOfTrailingZeros_74 : decode cJ16_numberOfTrailingZeros 74 = .ok (.iload_n 1, 1) := dk_27 (dk_at dksJ16_numberOfTrailingZeros_3 3 rfl rfl)
theorem dJ16_numberOfTrailingZeros_75 : decode cJ16_numberOfTrailingZeros 75 = .ok (.iload_n 0, 1) := dk_26 (dk_at dksJ16_numberOfTrailingZeros_3 4 rfl rfl)
theorem dJ16_numberOfTrailingZeros_76 : decode cJ16_numberOfTrailingZeros 76 = .ok (.iconst 1, 1) := dk_4 (dk_at dksJ16_numberOfTrailingZeros_3 5 rfl rfl)
theorem dJ16_numberOfTrailingZeros_77 : decode cJ16_numberOfTrailingZeros 77 = .ok (.iushr, 1) := dk_124 (dk_at dksJ16_numberOfTrailingZeros_3 6 rfl rfl)
theorem dJ16_numberOfTrailingZeros_78 : decode cJ16_numberOfTrailingZeros 78 = .ok (.iadd, 1) := dk_96 (dk_at dksJ16_numberOfTrailingZeros_3 7 rfl rfl)
theorem dJ16_numberOfTrailingZeros_79 : decode cJ16_numberOfTrailingZeros 79 = .ok (.ireturn, 1) := dk_172 (dk_at dksJ16_numberOfTrailingZeros_3 8 rfl rfl)
noncomputable def f_J16_numberOfTrailingZeros_74 (E : ax_E) (x0 : Int) (x1 : Int) (h : ax_H) : Option (Int × ax_H) :=
  some ((x1 + (ax_ushr x0 1)), h)
noncomputable def f_J16_numberOfTrailingZeros_62 (E : ax_E) (x0 : Int) (x1 : Int) (h : ax_H) : Option (Int × ax_H) :=
  if i2 4 < i2 x0 then
    f_J16_numberOfTrailingZeros_74 E (ax_ushr x0 2) (x1 + 2) h
  else
    f_J16_numberOfTrailingZeros_74 E x0 x1 h
noncomputable def f_J16_numberOfTrailingZeros_49 (E : ax_E) (x0 : Int) (x1 : Int) (h : ax_H) : Option (Int × ax_H) :=
  if i2 16 < i2 x0 then
    f_J16_numberOfTrailingZeros_62 E (ax_ushr x0 4) (x1 + 4) h
  else
    f_J16_numberOfTrailingZeros_62 E x0 x1 h
noncomputable def f_J16_numberOfTrailingZeros_34 (E : ax_E) (x0 : Int) (x1 : Int) (h : ax_H) : Option (Int × ax_H) :=
  if i2 256 < i2 x0 then
    f_J16_numberOfTrailingZeros_49 E (ax_ushr x0 8) (x1 + 8) h
  else
    f_J16_numberOfTrailingZeros_49 E x0 x1 h
noncomputable def f_J16_numberOfTrailingZeros (E : ax_E) (x0 : Int) (h : ax_H) : Option (Int × ax_H) :=
  if 0 < i2 (ax_and (ax_xor x0 (-1)) (x0 - 1)) then
    if i2 65536 < i2 (ax_and (ax_xor x0 (-1)) (x0 - 1)) then
      f_J16_numberOfTrailingZeros_34 E (ax_ushr (ax_and (ax_xor x0 (-1)) (x0 - 1)) 16) (1 + 16) h
    else
      f_J16_numberOfTrailingZeros_34 E (ax_and (ax_xor x0 (-1)) (x0 - 1)) 1 h
  else
    some ((ax_and (ax_and (ax_xor x0 (-1)) (x0 - 1)) 32), h)
set_option maxHeartbeats 4000000 in
theorem w_J16_numberOfTrailingZeros_74 {l : Launch} {G : ax_G} {X : ax_X} {Q : State → Prop} {h0 h : ax_H} {ls : Array Slot} (hSF : ax_SF G) (B : ax_BL l G X cJ16_numberOfTrailingZeros 2 RJ16 1 40) (Z : ax_Z X h0 ((some FieldType.int))) (hn : X.2.2.2.2.2.2.2.2.1.name = yJ16_numberOfTrailingZeros.name) (x0 : Int) (x1 : Int) {w : Int × ax_H} (hl : ax_hl ls 2 [(0, .inl x0), (1, .inl x1)]) (e : f_J16_numberOfTrailingZeros_74 G.2.2 x0 x1 h = some w) (hp : (fun w : Int × ax_H => Q = ax_Q G X h0 w.2 (some (.int (Int32.ofInt w.1)))) w) : ax_W G X Q h 74 ls [] := by
  unfold f_J16_numberOfTrailingZeros_74 at e
  refine ax_iload_n B dJ16_numberOfTrailingZeros_74 rfl hl 1 rfl ?_
  refine ax_iload_n B dJ16_numberOfTrailingZeros_75 rfl hl 0 rfl ?_
  refine ax_iconst B dJ16_numberOfTrailingZeros_76 ?_
  refine ax_iushr' B dJ16_numberOfTrailingZeros_77 ?_
  refine ax_iadd' B dJ16_numberOfTrailingZeros_78 ?_
  have e8 := e
  have hp : Q = _ := hp
  subst hp
  exact ax_ireturn B Z dJ16_numberOfTrailingZeros_79 e8
set_option maxHeartbeats 4000000 in
theorem w_J16_numberOfTrailingZeros_62 {l : Launch} {G : ax_G} {X : ax_X} {Q : State → Prop} {h0 h : ax_H} {ls : Array Slot} (hSF : ax_SF G) (B : ax_BL l G X cJ16_numberOfTrailingZeros 2 RJ16 1 40) (Z : ax_Z X h0 ((some FieldType.int))) (hn : X.2.2.2.2.2.2.2.2.1.name = yJ16_numberOfTrailingZeros.name) (x0 : Int) (x1 : Int) {w : Int × ax_H} (hl : ax_hl ls 2 [(0, .inl x0), (1, .inl x1)]) (e : f_J16_numberOfTrailingZeros_62 G.2.2 x0 x1 h = some w) (hp : (fun w : Int × ax_H => Q = ax_Q G X h0 w.2 (some (.int (Int32.ofInt w.1)))) w) : ax_W G X Q h 62 ls [] := by
  unfold f_J16_numberOfTrailingZeros_62 at e
  refine ax_iload_n B dJ16_numberOfTrailingZeros_62 rfl hl 0 rfl ?_
  refine ax_iconst B dJ16_numberOfTrailingZeros_63 ?_
  refine ax_icmp_le (tgt := 74) B dJ16_numberOfTrailingZeros_64 (by decide) e (fun e => ?_) (fun e => ?_)
  · refine ax_iinc (L' := [(1, .inl (x1 + 2)), (0, .inl x0)]) B dJ16_numberOfTrailingZeros_67 hl 1 rfl (by decide) rfl (fun ls hl => ?_)
    refine ax_iload_n B dJ16_numberOfTrailingZeros_70 rfl hl 1 rfl ?_
    refine ax_iconst B dJ16_numberOfTrailingZeros_71 ?_
    refine ax_iushr' B dJ16_numberOfTrailingZeros_72 ?_
    refine ax_istore_n (L' := [(0, .inl (ax_ushr x0 2)), (1, .inl (x1 + 2))]) B dJ16_numberOfTrailingZeros_73 rfl hl (by decide) rfl (fun ls hl => ?_)
    exact w_J16_numberOfTrailingZeros_74 hSF B Z hn (ax_ushr x0 2) (x1 + 2) (hl.sub [0, 1] rfl) e hp
  · exact w_J16_numberOfTrailingZeros_74 hSF B Z hn x0 x1 (hl.sub [0, 1] rfl) e hp
set_option maxHeartbeats 4000000 in
theorem w_J16_numberOfTrailingZeros_49 {l : Launch} {G : ax_G} {X : ax_X} {Q : State → Prop} {h0 h : ax_H} {ls : Array Slot} (hSF : ax_SF G) (B : ax_BL l G X cJ16_numberOfTrailingZeros 2 RJ16 1 40) (Z : ax_Z X h0 ((some FieldType.int))) (hn : X.2.2.2.2.2.2.2.2.1.name = yJ16_numberOfTrailingZeros.name) (x0 : Int) (x1 : Int) {w : Int × ax_H} (hl : ax_hl ls 2 [(0, .inl x0), (1, .inl x1)]) (e : f_J16_numberOfTrailingZeros_49 G.2.2 x0 x1 h = some w) (hp : (fun w : Int × ax_H => Q = ax_Q G X h0 w.2 (some (.int (Int32.ofInt w.1)))) w) : ax_W G X Q h 49 ls [] := by
  unfold f_J16_numberOfTrailingZeros_49 at e
  refine ax_iload_n B dJ16_numberOfTrailingZeros_49 rfl hl 0 rfl ?_
  refine ax_bipush B dJ16_numberOfTrailingZeros_50 (by decide) ?_
  refine ax_icmp_le (tgt := 62) B dJ16_numberOfTrailingZeros_52 (by decide) e (fun e => ?_) (fun e => ?_)
  · refine ax_iinc (L' := [(1, .inl (x1 + 4)), (0, .inl x0)]) B dJ16_numberOfTrailingZeros_55 hl 1 rfl (by decide) rfl (fun ls hl => ?_)
    refine ax_iload_n B dJ16_numberOfTrailingZeros_58 rfl hl 1 rfl ?_
    refine ax_iconst B dJ16_numberOfTrailingZeros_59 ?_
    refine ax_iushr' B dJ16_numberOfTrailingZeros_60 ?_
    refine ax_istore_n (L' := [(0, .inl (ax_ushr x0 4)), (1, .inl (x1 + 4))]) B dJ16_numberOfTrailingZeros_61 rfl hl (by decide) rfl (fun ls hl => ?_)
    exact w_J16_numberOfTrailingZeros_62 hSF B Z hn (ax_ushr x0 4) (x1 + 4) (hl.sub [0, 1] rfl) e hp
  · exact w_J16_numberOfTrailingZeros_62 hSF B Z hn x0 x1 (hl.sub [0, 1] rfl) e hp
set_option maxHeartbeats 4000000 in
theorem w_J16_numberOfTrailingZeros_34 {l : Launch} {G : ax_G} {X : ax_X} {Q : State → Prop} {h0 h : ax_H} {ls : Array Slot} (hSF : ax_SF G) (B : ax_BL l G X cJ16_numberOfTrailingZeros 2 RJ16 1 40) (Z : ax_Z X h0 ((some FieldType.int))) (hn : X.2.2.2.2.2.2.2.2.1.name = yJ16_numberOfTrailingZeros.name) (x0 : Int) (x1 : Int) {w : Int × ax_H} (hl : ax_hl ls 2 [(0, .inl x0), (1, .inl x1)]) (e : f_J16_numberOfTrailingZeros_34 G.2.2 x0 x1 h = some w) (hp : (fun w : Int × ax_H => Q = ax_Q G X h0 w.2 (some (.int (Int32.ofInt w.1)))) w) : ax_W G X Q h 34 ls [] := by
  unfold f_J16_numberOfTrailingZeros_34 at e
  refine ax_iload_n B dJ16_numberOfTrailingZeros_34 rfl hl 0 rfl ?_
  refine ax_sipush B dJ16_numberOfTrailingZeros_35 (by decide) ?_
  refine ax_icmp_le (tgt := 49) B dJ16_numberOfTrailingZeros_38 (by decide) e (fun e => ?_) (fun e => ?_)
  · refine ax_iinc (L' := [(1, .inl (x1 + 8)), (0, .inl x0)]) B dJ16_numberOfTrailingZeros_41 hl 1 rfl (by decide) rfl (fun ls hl => ?_)
    refine ax_iload_n B dJ16_numberOfTrailingZeros_44 rfl hl 1 rfl ?_
    refine ax_bipush B dJ16_numberOfTrailingZeros_45 (by decide) ?_
    refine ax_iushr' B dJ16_numberOfTrailingZeros_47 ?_
    refine ax_istore_n (L' := [(0, .inl (ax_ushr x0 8)), (1, .inl (x1 + 8))]) B dJ16_numberOfTrailingZeros_48 rfl hl (by decide) rfl (fun ls hl => ?_)
    exact w_J16_numberOfTrailingZeros_49 hSF B Z hn (ax_ushr x0 8) (x1 + 8) (hl.sub [0, 1] rfl) e hp
  · exact w_J16_numberOfTrailingZeros_49 hSF B Z hn x0 x1 (hl.sub [0, 1] rfl) e hp
set_option maxHeartbeats 4000000 in
theorem we_J16_numberOfTrailingZeros {l : Launch} {G : ax_G} {X : ax_X} {Q : State → Prop} {h0 h : ax_H} {ls : Array Slot} (hSF : ax_SF G) (B : ax_BL l G X cJ16_numberOfTrailingZeros 2 RJ16 1 40) (Z : ax_Z X h0 ((some FieldType.int))) (hn : X.2.2.2.2.2.2.2.2.1.name = yJ16_numberOfTrailingZeros.name) (x0 : Int) {w : Int × ax_H} (hl : ax_hl ls 2 [(0, .inl x0)]) (e : f_J16_numberOfTrailingZeros G.2.2 x0 h = some w) (hp : (fun w : Int × ax_H => Q = ax_Q G X h0 w.2 (some (.int (Int32.ofInt w.1)))) w) : ax_W G X Q h 0 ls [] := by
  unfold f_J16_numberOfTrailingZeros at e
  refine ax_iload_n B dJ16_numberOfTrailingZeros_0 rfl hl 0 rfl ?_
  refine ax_iconst B dJ16_numberOfTrailingZeros_1 ?_
  refine ax_ixor' B dJ16_numberOfTrailingZeros_2 ?_
  refine ax_iload_n B dJ16_numberOfTrailingZeros_3 rfl hl 0 rfl ?_
  refine ax_iconst B dJ16_numberOfTrailingZeros_4 ?_
  refine ax_isub' B dJ16_numberOfTrailingZeros_5 ?_
  refine ax_iand' B dJ16_numberOfTrailingZeros_6 ?_
  refine ax_istore_n (L' := [(0, .inl (ax_and (ax_xor x0 (-1)) (x0 - 1)))]) B dJ16_numberOfTrailingZeros_7 rfl hl (by decide) rfl (fun ls hl => ?_)
  refine ax_iload_n B dJ16_numberOfTrailingZeros_8 rfl hl 0 rfl ?_
  refine ax_if_gt (tgt := 17) B dJ16_numberOfTrailingZeros_9 (by decide) e (fun e => ?_) (fun e => ?_)
  · refine ax_iconst B dJ16_numberOfTrailingZeros_17 ?_
    refine ax_istore_n (L' := [(1, .inl 1), (0, .inl (ax_and (ax_xor x0 (-1)) (x0 - 1)))]) B dJ16_numberOfTrailingZeros_18 rfl hl (by decide) rfl (fun ls hl => ?_)
    refine ax_iload_n B dJ16_numberOfTrailingZeros_19 rfl hl 1 rfl ?_
    refine ax_ldcw B cn_J16_264 dJ16_numberOfTrailingZeros_20 ?_
    refine ax_icmp_le (tgt := 34) B dJ16_numberOfTrailingZeros_23 (by decide) e (fun e => ?_) (fun e => ?_)
    · refine ax_iinc (L' := [(1, .inl (1 + 16)), (0, .inl (ax_and (ax_xor x0 (-1)) (x0 - 1)))]) B dJ16_numberOfTrailingZeros_26 hl 0 rfl (by decide) rfl (fun ls hl => ?_)
      refine ax_iload_n B dJ16_numberOfTrailingZeros_29 rfl hl 1 rfl ?_
      refine ax_bipush B dJ16_numberOfTrailingZeros_30 (by decide) ?_
      refine ax_iushr' B dJ16_numberOfTrailingZeros_32 ?_
      refine ax_istore_n (L' := [(0, .inl (ax_ushr (ax_and (ax_xor x0 (-1)) (x0 - 1)) 16)), (1, .inl (1 + 16))]) B dJ16_numberOfTrailingZeros_33 rfl hl (by decide) rfl (fun ls hl => ?_)
      exact w_J16_numberOfTrailingZeros_34 hSF B Z hn (ax_ushr (ax_and (ax_xor x0 (-1)) (x0 - 1)) 16) (1 + 16) (hl.sub [0, 1] rfl) e hp
    · exact w_J16_numberOfTrailingZeros_34 hSF B Z hn (ax_and (ax_xor x0 (-1)) (x0 - 1)) 1 (hl.sub [1, 0] rfl) e hp
  · refine ax_iload_n B dJ16_numberOfTrailingZeros_12 rfl hl 0 rfl ?_
    refine ax_bipush B dJ16_numberOfTrailingZeros_13 (by decide) ?_
    refine ax_iand' B dJ16_numberOfTrailingZeros_15 ?_
    have e8 := e
    have hp : Q = _ := hp
    subst hp
    exact ax_ireturn B Z dJ16_numberOfTrailingZeros_16 e8
theorem mt_J16_numberOfTrailingZeros (l : Launch) (G : ax_G) (hSF : ax_SF G) (x0 : Int) (h : ax_H) (w : Int × ax_H) (e : f_J16_numberOfTrailingZeros G.2.2 x0 h = some w) : ax_Met l G yJ16_numberOfTrailingZeros cJ16_numberOfTrailingZeros 2 ((some FieldType.int)) 1 40 [.int (Int32.ofInt x0)] h w.2 (some (.int (Int32.ofInt w.1))) :=
  ax_enter [.inl x0] (y := yJ16_numberOfTrailingZeros) hSF (plainFor_of_name (by decide +kernel)) (Nat.le_of_ble_eq_true rfl) (fun X ls B Z hn hl => we_J16_numberOfTrailingZeros hSF B Z hn x0 hl e rfl)
def dkwX0_payments_6 : List UInt8 := [27, 45, 4, 27, 120, 4, 100, 46, 100, 172]
abbrev dktX0_payments_6 : List UInt8 := dkwX0_payments_6 ++ []
def dkwX0_payments_5 : List UInt8 := [154, 0, 7, 4, 167, 0, 4, 3, 96, 79, 132, 4, 1, 167, 255, 149, 27, 154, 0, 7, 3, 167, 0, 12]
abbrev dktX0_payments_5 : List UInt8 := dkwX0_payments_5 ++ dktX0_payments_6
def dkwX0_payments_4 : List UInt8 := [2, 130, 126, 46, 184, 1, 104, 79, 132, 6, 1, 167, 255, 215, 45, 21, 4, 92, 46, 44, 21, 4, 46]
abbrev dktX0_payments_4 : List UInt8 := dkwX0_payments_4 ++ dktX0_payments_5
def dkwX0_payments_3 : List UInt8 := [21, 4, 21, 6, 184, 1, 143, 153, 0, 25, 45, 21, 4, 45, 21, 4, 46, 45, 21, 4, 4, 21, 6, 120]
abbrev dktX0_payments_3 : List UInt8 := dkwX0_payments_3 ++ dktX0_payments_4
def dkwX0_payments_2 : List UInt8 := [100, 126, 46, 42, 182, 0, 104, 21, 5, 182, 1, 174, 96, 79, 3, 54, 6, 21, 6, 27, 162, 0, 41]
abbrev dktX0_payments_2 : List UInt8 := dkwX0_payments_2 ++ dktX0_payments_3
def dkwX0_payments_1 : List UInt8 := [21, 4, 4, 27, 120, 162, 0, 105, 21, 4, 184, 1, 178, 54, 5, 44, 21, 4, 44, 21, 4, 21, 4, 4]
abbrev dktX0_payments_1 : List UInt8 := dkwX0_payments_1 ++ dktX0_payments_2
def dkwX0_payments_0 : List UInt8 := [42, 180, 0, 20, 180, 0, 101, 60, 17, 0, 128, 188, 10, 77, 17, 0, 128, 188, 10, 78, 4, 54, 4]
abbrev dktX0_payments_0 : List UInt8 := dkwX0_payments_0 ++ dktX0_payments_1
theorem dksX0_payments_0 : cX0_payments.data.toList.drop 0 = dktX0_payments_0 := by decide +kernel
theorem dksX0_payments_1 : cX0_payments.data.toList.drop 23 = dktX0_payments_1 := dk_seg dksX0_payments_0 23 rfl rfl
theorem dksX0_payments_2 : cX0_payments.data.toList.drop 47 = dktX0_payments_2 := dk_seg dksX0_payments_1 24 rfl rfl
theorem dksX0_payments_3 : cX0_payments.data.toList.drop 70 = dktX0_payments_3 := dk_seg dksX0_payments_2 23 rfl rfl
theorem dksX0_payments_4 : cX0_payments.data.toList.drop 94 = dktX0_payments_4 := dk_seg dksX0_payments_3 24 rfl rfl
theorem dksX0_payments_5 : cX0_payments.data.toList.drop 117 = dktX0_payments_5 := dk_seg dksX0_payments_4 23 rfl rfl
theorem dksX0_payments_6 : cX0_payments.data.toList.drop 141 = dktX0_payments_6 := dk_seg dksX0_payments_5 24 rfl rfl
theorem dX0_payments_0 : decode cX0_payments 0 = .ok (.aload_n 0, 1) := dk_42 (dk_at dksX0_payments_0 0 rfl rfl)
theorem dX0_payments_1 : decode cX0_payments 1 = .ok (.getfield 20, 3) := dk_180 0 20 (dk_at dksX0_payments_0 1 rfl rfl)
theorem dX0_payments_4 : decode cX0_payments 4 = .ok (.getfield 101, 3) := dk_180 0 101 (dk_at dksX0_payments_0 4 rfl rfl)
theorem dX0_payments_7 : decode cX0_payments 7 = .ok (.istore_n 1, 1) := dk_60 (dk_at dksX0_payments_0 7 rfl rfl)
theorem dX0_payments_8 : decode cX0_payments 8 = .ok (.sipush 128, 3) := dk_17 0 128 (dk_at dksX0_payments_0 8 rfl rfl)
theorem dX0_payments_11 : decode cX0_payments 11 = .ok (.newarray .int, 2) := dk_188_10 (dk_at dksX0_payments_0 11 rfl rfl)
theorem dX0_payments_13 : decode cX0_payments 13 = .ok (.astore_n 2, 1) := dk_77 (dk_at dksX0_payments_0 13 rfl rfl)
theorem dX0_payments_14 : decode cX0_payments 14 = .ok (.sipush 128, 3) := dk_17 0 128 (dk_at dksX0_payments_0 14 rfl rfl)
theorem dX0_payments_17 : decode cX0_payments 17 = .ok (.newarray .int, 2) := dk_188_10 (dk_at dksX0_payments_0 17 rfl rfl)
theorem dX0_payments_19 : decode cX0_payments 19 = .ok (.astore_n 3, 1) := dk_78 (dk_at dksX0_payments_0 19 rfl rfl)
theorem dX0_payments_20 : decode cX0_payments 20 = .ok (.iconst 1, 1) := dk_4 (dk_at dksX0_payments_0 20 rfl rfl)
theorem dX0_payments_21 : decode cX0_payments 21 = .ok (.istore 4, 2) := dk_54 4 (dk_at dksX0_payments_0 21 rfl rfl)
theorem dX0_payments_23 : decode cX0_payments 23 = .ok (.iload 4, 2) := dk_21 4 (dk_at dksX0_payments_1 0 rfl rfl)
theorem dX0_payments_25 : decode cX0_payments 25 = .ok (.iconst 1, 1) := dk_4 (dk_at dksX0_payments_1 2 rfl rfl)
theorem dX0_payments_26 : decode cX0_payments 26 = .ok (.iload_n 1, 1) := dk_27 (dk_at dksX0_payments_1 3 rfl rfl)
theorem dX0_payments_27 : decode cX0_payments 27 = .ok (.ishl, 1) := dk_120 (dk_at dksX0_payments_1 4 rfl rfl)
theorem dX0_payments_28 : decode cX0_payments 28 = .ok (.if_icmp .ge 105, 3) := dk_162 0 105 (dk_at dksX0_payments_1 5 rfl rfl)
theorem dX0_payments_31 : decode cX0_payments 31 = .ok (.iload 4, 2) := dk_21 4 (dk_at dksX0_payments_1 8 rfl rfl)
theorem dX0_payments_33 : decode cX0_payments 33 = .ok (.invokestatic 434, 3) := dk_184 1 178 (dk_at dksX0_payments_1 10 rfl rfl)
theorem dX0_payments_36 : decode cX0_payments 36 = .ok (.istore 5, 2) := dk_54 5 (dk_at dksX0_payments_1 13 rfl rfl)
theorem dX0_payments_38 : decode cX0_payments 38 = .ok (.aload_n 2, 1) := dk_44 (dk_at dksX0_payments_1 15 rfl rfl)
theorem dX0_payments_39 : decode cX0_payments 39 = .ok (.iload 4, 2) := dk_21 4 (dk_at dksX0_payments_1 16 rfl rfl)
theorem dX0_payments_41 : decode cX0_payments 41 = .ok (.aload_n 2, 1) := dk_44 (dk_at dksX0_payments_1 18 rfl rfl)
theorem dX0_payments_42 : decode cX0_payments 42 = .ok (.iload 4, 2) := dk_21 4 (dk_at dksX0_payments_1 19 rfl rfl)
theorem dX0_payments_44 : decode cX0_payments 44 = .ok (.iload 4, 2) := dk_21 4 (dk_at dksX0_payments_1 21 rfl rfl)
theorem dX0_payments_46 : decode cX0_payments 46 = .ok (.iconst 1, 1) := dk_4 (dk_at dksX0_payments_1 23 rfl rfl)
theorem dX0_payments_47 : decode cX0_payments 47 = .ok (.isub, 1) := dk_100 (dk_at dksX0_payments_2 0 rfl rfl)
theorem dX0_payments_48 : decode cX0_payments 48 = .ok (.iand, 1) := dk_126 (dk_at dksX0_payments_2 1 rfl rfl)
theorem dX0_payments_49 : decode cX0_payments 49 = .ok (.iaload, 1) := dk_46 (dk_at dksX0_payments_2 2 rfl rfl)
theorem dX0_payments_50 : decode cX0_payments 50 = .ok (.aload_n 0, 1) := dk_42 (dk_at dksX0_payments_2 3 rfl rfl)
theorem dX0_payments_51 : decode cX0_payments 51 = .ok (.invokevirtual 104, 3) := dk_182 0 104 (dk_at dksX0_payments_2 4 rfl rfl)
theorem dX0_payments_54 : decode cX0_payments 54 = .ok (.iload 5, 2) := dk_21 5 (dk_at dksX0_payments_2 7 rfl rfl)
theorem dX0_payments_56 : decode cX0_payments 56 = .ok (.invokevirtual 430, 3) := dk_182 1 174 (dk_at dksX0_payments_2 9 rfl rfl)
theorem dX0_payments_59 : decode cX0_payments 59 = .ok (.iadd, 1) := dk_96 (dk_at dksX0_payments_2 12 rfl rfl)
theorem dX0_payments_60 : decode cX0_payments 60 = .ok (.iastore, 1) := dk_79 (dk_at dksX0_payments_2 13 rfl rfl)
theorem dX0_payments_61 : decode cX0_payments 61 = .ok (.iconst 0, 1) := dk_3 (dk_at dksX0_payments_2 14 rfl rfl)
theorem dX0_payments_62 : decode cX0_payments 62 = .ok (.istore 6, 2) := dk_54 6 (dk_at dksX0_payments_2 15 rfl rfl)
theorem dX0_payments_64 : decode cX0_payments 64 = .ok (.iload 6, 2) := dk_21 6 (dk_at dksX0_payments_2 17 rfl rfl)
theorem dX0_payments_66 : decode cX0_payments 66 = .ok (.iload_n 1, 1) := dk_27 (dk_at dksX0_payments_2 19 rfl rfl)
theorem dX0_payments_67 : decode cX0_payments 67 = .ok (.if_icmp .ge 41, 3) := dk_162 0 41 (dk_at dksX0_payments_2 20 rfl rfl)
theorem dX0_payments_70 : decode cX0_payments 70 = .ok (.iload 4, 2) := dk_21 4 (dk_at dksX0_payments_3 0 rfl rfl)
theorem dX0_payments_72 : decode cX0_payments 72 = .ok (.iload 6, 2) := dk_21 6 (dk_at dksX0_payments_3 2 rfl rfl)
theorem dX0_payments_74 : decode cX0_payments 74 = .ok (.invokestatic 399, 3) := dk_184 1 143 (dk_at dksX0_payments_3 4 rfl rfl)
theorem dX0_payments_77 : decode cX0_payments 77 = .ok (.ifCond .eq 25, 3) := dk_153 0 25 (dk_at dksX0_payments_3 7 rfl rfl)
theorem dX0_payments_80 : decode cX0_payments 80 = .ok (.aload_n 3, 1) := dk_45 (dk_at dksX0_payments_3 10 rfl rfl)
theorem dX0_payments_81 : decode cX0_payments 81 = .ok (.iload 4, 2) := dk_21 4 (dk_at dksX0_payments_3 11 rfl rfl)
theorem dX0_payments_83 : decode cX0_payments 83 = .ok (.aload_n 3, 1) := dk_45 (dk_at dksX0_payments_3 13 rfl rfl)
theorem dX0_payments_84 : decode cX0_payments 84 = .ok (.iload 4, 2) := dk_21 4 (dk_at dksX0_payments_3 14 rfl rfl)
theorem dX0_payments_86 : decode cX0_payments 86 = .ok (.iaload, 1) := dk_46 (dk_at dksX0_payments_3 16 rfl rfl)
theorem dX0_payments_87 : decode cX0_payments 87 = .ok (.aload_n 3, 1) := dk_45 (dk_at dksX0_payments_3 17 rfl rfl)
theorem dX0_payments_88 : decode cX0_payments 88 = .ok (.iload 4, 2) := dk_21 4 (dk_at dksX0_payments_3 18 rfl rfl)
theorem dX0_payments_90 : decode cX0_payments 90 = .ok (.iconst 1, 1) := dk_4 (dk_at dksX0_payments_3 20 rfl rfl)
theorem dX0_payments_91 : decode cX0_payments 91 = .ok (.iload 6, 2) := dk_21 6 (dk_at dksX0_payments_3 21 rfl rfl)
theorem dX0_payments_93 : decode cX0_payments 93 = .ok (.ishl, 1) := dk_120 (dk_at dksX0_payments_3 23 rfl rfl)
theorem dX0_payments_94 : decode cX0_payments 94 = .ok (.iconst (-1), 1) := dk_2 (dk_at dksX0_payments_4 0 rfl rfl)
theorem dX0_payments_95 : decode cX0_payments 95 = .ok (.ixor, 1) := dk_130 (dk_at dksX0_payments_4 1 rfl rfl)
theorem dX0_payments_96 : decode cX0_payments 96 = .ok (.iand, 1) := dk_126 (dk_at dksX0_payments_4 2 rfl rfl)
theorem dX0_payments_97 : decode cX0_payments 97 = .ok (.iaload, 1) := dk_46 (dk_at dksX0_payments_4 3 rfl rfl)
theorem dX0_payments_98 : decode cX0_payments 98 = .ok (.invokestatic 360, 3) := dk_184 1 104 (dk_at dksX0_payments_4 4 rfl rfl)
theorem dX0_payments_101 : decode cX0_payments 101 = .ok (.iastore, 1) := dk_79 (dk_at dksX0_payments_4 7 rfl rfl)
theorem dX0_payments_102 : decode cX0_payments 102 = .ok (.iinc 6 1, 3) := dk_132 6 1 (dk_at dksX0_payments_4 8 rfl rfl)
theorem dX0_payments_105 : decode cX0_payments 105 = .ok (.goto (-41), 3) := dk_167 255 215 (dk_at dksX0_payments_4 11 rfl rfl)
theorem dX0_payments_108 : decode cX0_payments 108 = .ok (.aload_n 3, 1) := dk_45 (dk_at dksX0_payments_4 14 rfl rfl)
theorem dX0_payments_109 : decode cX0_payments 109 = .ok (.iload 4, 2) := dk_21 4 (dk_at dksX0_payments_4 15 rfl rfl)
theorem dX0_payments_111 : decode cX0_payments 111 = .ok (.dup2, 1) := dk_92 (dk_at dksX0_payments_4 17 rfl rfl)
theorem dX0_payments_112 : decode cX0_payments 112 = .ok (.iaload, 1) := dk_46 (dk_at dksX0_payments_4 18 rfl rfl)
theorem dX0_payments_113 : decode cX0_payments 113 = .ok (.aload_n 2, 1) := dk_44 (dk_at dksX0_payments_4 19 rfl rfl)
theorem dX0_payments_114 : decode cX0_payments 114 = .ok (.iload 4, 2) := dk_21 4 (dk_at dksX0_payments_4 20 rfl rfl)
theorem dX0_payments_116 : decode cX0_payments 116 = .ok (.iaload, 1) := dk_46 (dk_at dksX0_payments_4 22 rfl rfl)
theorem dX0_payments_117 : decode cX0_payments 117 = .ok (.ifCond .ne 7, 3) := dk_154 0 7 (dk_at dksX0_payments_5 0 rfl rfl)
theorem dX0_payments_120 : decode cX0_payments 120 = .ok (.iconst 1, 1) := dk_4 (dk_at dksX0_payments_5 3 rfl rfl)
theorem dX0_payments_121 : decode cX0_payments 121 = .ok (.goto 4, 3) := dk_167 0 4 (dk_at dksX0_payments_5 4 rfl rfl)
theorem dX0_payments_124 : decode cX0_payments 124 = .ok (.iconst 0, 1) := dk_3 (dk_at dksX0_payments_5 7 rfl rfl)
theorem dX0_payments_125 : decode cX0_payments 125 = .ok (.iadd, 1) := dk_96 (dk_at dksX0_payments_5 8 rfl rfl)
theorem dX0_payments_126 : decode cX0_payments 126 = .ok (.iastore, 1) := dk_79 (dk_at dksX0_payments_5 9 rfl rfl)
theorem dX0_payments_127 : decode cX0_payments 127 = .ok (.iinc 4 1, 3) := dk_132 4 1 (dk_at dksX0_payments_5 10 rfl rfl)
theorem dX0_payments_130 : decode cX0_payments 130 = .ok (.goto (-107), 3) := dk_167 255 149 (dk_at dksX0_payments_5 13 rfl rfl)
theorem dX0_payments_133 : decode cX0_payments 133 = .ok (.iload_n 1, 1) := dk_27 (dk_at dksX0_payments_5 16 rfl rfl)
theorem dX0_payments_134 : decode cX0_payments 134 = .ok (.ifCond .ne 7, 3) := dk_154 0 7 (dk_at dksX0_payments_5 17 rfl rfl)
theorem dX0_payments_137 : decode cX0_payments 137 = .ok (.iconst 0, 1) := dk_3 (dk_at dksX0_payments_5 20 rfl rfl)
theorem dX0_payments_138 : decode cX0_payments 138 = .ok (.goto 12, 3) := dk_167 0 12 (dk_at dksX0_payments_5 21 rfl rfl)
theorem dX0_payments_141 : decode cX0_payments 141 = .ok (.iload_n 1, 1) := dk_27 (dk_at dksX0_payments_6 0 rfl rfl)
theorem dX0_payments_142 : decode cX0_payments 142 = .ok (.aload_n 3, 1) := dk_45 (dk_at dksX0_payments_6 1 rfl rfl)
theorem dX0_payments_143 : decode cX0_payments 143 = .ok (.iconst 1, 1) := dk_4 (dk_at dksX0_payments_6 2 rfl rfl)
theorem dX0_payments_144 : decode cX0_payments 144 = .ok (.iload_n 1, 1) := dk_27 (dk_at dksX0_payments_6 3 rfl rfl)
theorem dX0_payments_145 : decode cX0_payments 145 = .ok (.ishl, 1) := dk_120 (dk_at dksX0_payments_6 4 rfl rfl)
theorem dX0_payments_146 : decode cX0_payments 146 = .ok (.iconst 1, 1) := dk_4 (dk_at dksX0_payments_6 5 rfl rfl)
theorem dX0_payments_147 : decode cX0_payments 147 = .ok (.isub, 1) := dk_100 (dk_at dksX0_payments_6 6 rfl rfl)
theorem dX0_payments_148 : decode cX0_payments 148 = .ok (.iaload, 1) := dk_46 (dk_at dksX0_payments_6 7 rfl rfl)
theorem dX0_payments_149 : decode cX0_payments 149 = .ok (.isub, 1) := dk_100 (dk_at dksX0_payments_6 8 rfl rfl)
theorem dX0_payments_150 : decode cX0_payments 150 = .ok (.ireturn, 1) := dk_172 (dk_at dksX0_payments_6 9 rfl rfl)
noncomputable def f_X0_payments_102 (E : ax_E) (x0 : Option Nat) (x1 : Int) (x2 : Option Nat) (x3 : Option Nat) (x4 : Int) (x6 : Int) (h : ax_H) : Option ((Int × ax_H) ⊕ ((Int × ax_H) ⊕ (Int × ax_H))) :=
  some (.inl ((x6 + 1), h))
noncomputable def f_X0_payments_125 (E : ax_E) (x0 : Option Nat) (x1 : Int) (x2 : Option Nat) (x3 : Option Nat) (x4 : Int) (s0 : Option Nat) (s1 : Int) (s2 : Int) (s3 : Int) (h : ax_H) : Option ((Int × ax_H) ⊕ (Int × ax_H)) :=
  (ax_sto h s0 100 s1 (s2 + s3)).bind fun h1 =>
  some (.inl ((x4 + 1), h1))
noncomputable def lb_X0_payments_64 (E : ax_E) (x0 : Option Nat) (x1 : Int) (x2 : Option Nat) (x3 : Option Nat) (x4 : Int) (x6 : Int) (h : ax_H) : Option ((Int × ax_H) ⊕ ((Int × ax_H) ⊕ (Int × ax_H))) :=
  if i2 x6 < i2 x1 then
    (f_X0_has E x4 x6 h).bind fun q1 =>
    if i2 q1.1 = 0 then
      f_X0_payments_102 E x0 x1 x2 x3 x4 x6 q1.2
    else
      (ax_ld E q1.2 x3 100 x4).bind fun v2 =>
      (ax_ld E q1.2 x3 100 (ax_and x4 (ax_xor (ax_shl 1 x6) (-1)))).bind fun v3 =>
      (f_J3_max_2 E v2 v3 q1.2).bind fun q4 =>
      (ax_sto q4.2 x3 100 x4 q4.1).bind fun h5 =>
      f_X0_payments_102 E x0 x1 x2 x3 x4 x6 h5
  else
    ((ax_ld E h x3 100 x4).bind fun v6 =>
    (ax_ld E h x2 100 x4).bind fun v7 =>
    if i2 v7 = 0 then
      f_X0_payments_125 E x0 x1 x2 x3 x4 x3 x4 v6 1 h
    else
      f_X0_payments_125 E x0 x1 x2 x3 x4 x3 x4 v6 0 h).map Sum.inr
noncomputable def f_X0_payments_64 (E : ax_E) (x0 : Option Nat) (x1 : Int) (x2 : Option Nat) (x3 : Option Nat) (x4 : Int) (x6 : Int) (h : ax_H) : Option ((Int × ax_H) ⊕ (Int × ax_H)) :=
  ax_iter (fun s : Int × ax_H => lb_X0_payments_64 E x0 x1 x2 x3 x4 s.1 s.2) (x6, h)
noncomputable def lb_X0_payments_23 (E : ax_E) (x0 : Option Nat) (x1 : Int) (x2 : Option Nat) (x3 : Option Nat) (x4 : Int) (h : ax_H) : Option ((Int × ax_H) ⊕ (Int × ax_H)) :=
  if i2 x4 < i2 (ax_shl 1 x1) then
    (f_J16_numberOfTrailingZeros E x4 h).bind fun q1 =>
    (ax_ld E q1.2 x2 100 (ax_and x4 (x4 - 1))).bind fun v2 =>
    (ax_ce E q1.2 x0 0).bind fun _ => (f_X0_books E x0 q1.2).bind fun q3 =>
    (ax_ce E q3.2 q3.1 2).bind fun _ => (f_X2_balance E q3.1 q1.1 q3.2).bind fun q4 =>
    (ax_sto q4.2 x2 100 x4 (v2 + q4.1)).bind fun h5 =>
    f_X0_payments_64 E x0 x1 x2 x3 x4 0 h5
  else
    (if i2 x1 = 0 then
      some (0, h)
    else
      (ax_ld E h x3 100 ((ax_shl 1 x1) - 1)).bind fun v6 =>
      some ((x1 - v6), h)).map Sum.inr
noncomputable def f_X0_payments_23 (E : ax_E) (x0 : Option Nat) (x1 : Int) (x2 : Option Nat) (x3 : Option Nat) (x4 : Int) (h : ax_H) : Option (Int × ax_H) :=
  ax_iter (fun s : Int × ax_H => lb_X0_payments_23 E x0 x1 x2 x3 s.1 s.2) (x4, h)
noncomputable def f_X0_payments (E : ax_E) (x0 : Option Nat) (h : ax_H) : Option (Int × ax_H) :=
  (ax_gR E h x0 0 0).bind fun v1 =>
  (ax_gI E h v1 1 6).bind fun v2 =>
  (ax_na E h 100 128).bind fun q3 =>
  (ax_na E q3.2 100 128).bind fun q4 =>
  f_X0_payments_23 E x0 v2 (some q3.1) (some q4.1) 1 q4.2
def pi_X0_payments_64 (G : ax_G) (X : ax_X) (Q : State → Prop) (x0 : Option Nat) (x1 : Int) (x2 : Option Nat) (x3 : Option Nat) (x4 : Int) : Int × ax_H → Prop := fun s => ∀ ls : Array Slot, ax_hl ls 7 [(0, .inr (.inr x0)), (1, .inl x1), (2, .inr (.inr x2)), (3, .inr (.inr x3)), (4, .inl x4), (6, .inl s.1)] → ax_W G X Q s.2 64 ls []
def pi_X0_payments_23 (G : ax_G) (X : ax_X) (Q : State → Prop) (x0 : Option Nat) (x1 : Int) (x2 : Option Nat) (x3 : Option Nat) : Int × ax_H → Prop := fun s => ∀ ls : Array Slot, ax_hl ls 7 [(0, .inr (.inr x0)), (1, .inl x1), (2, .inr (.inr x2)), (3, .inr (.inr x3)), (4, .inl s.1)] → ax_W G X Q s.2 23 ls []
set_option maxHeartbeats 4000000 in
theorem w_X0_payments_102 {l : Launch} {G : ax_G} {X : ax_X} {Q : State → Prop} {h0 h : ax_H} {ls : Array Slot} (hSF : ax_SF G) (B : ax_BL l G X cX0_payments 7 RX0 2 63) (Z : ax_Z X h0 ((some FieldType.int))) (hn : X.2.2.2.2.2.2.2.2.1.name = yX0_payments.name) (x0 : Option Nat) (x1 : Int) (x2 : Option Nat) (x3 : Option Nat) (x4 : Int) (x6 : Int) {w : (Int × ax_H) ⊕ ((Int × ax_H) ⊕ (Int × ax_H))} (hl : ax_hl ls 7 [(0, .inr (.inr x0)), (1, .inl x1), (2, .inr (.inr x2)), (3, .inr (.inr x3)), (4, .inl x4), (6, .inl x6)]) (e : f_X0_payments_102 G.2.2 x0 x1 x2 x3 x4 x6 h = some w) (hp : (ax_PL (pi_X0_payments_64 G X Q x0 x1 x2 x3 x4) (ax_PL (pi_X0_payments_23 G X Q x0 x1 x2 x3) (fun w : Int × ax_H => Q = ax_Q G X h0 w.2 (some (.int (Int32.ofInt w.1)))))) w) : ax_W G X Q h 102 ls [] := by
  unfold f_X0_payments_102 at e
  refine ax_iinc (L' := [(6, .inl (x6 + 1)), (0, .inr (.inr x0)), (1, .inl x1), (2, .inr (.inr x2)), (3, .inr (.inr x3)), (4, .inl x4)]) B dX0_payments_102 hl 5 rfl (by decide) rfl (fun ls hl => ?_)
  refine ax_goto (tgt := 64) B dX0_payments_105 (by decide) ?_
  cases e
  exact hp _ (hl.sub [1, 2, 3, 4, 5, 0] rfl)
set_option maxHeartbeats 4000000 in
theorem w_X0_payments_125 {l : Launch} {G : ax_G} {X : ax_X} {Q : State → Prop} {h0 h : ax_H} {ls : Array Slot} (hSF : ax_SF G) (B : ax_BL l G X cX0_payments 7 RX0 2 63) (Z : ax_Z X h0 ((some FieldType.int))) (hn : X.2.2.2.2.2.2.2.2.1.name = yX0_payments.name) (x0 : Option Nat) (x1 : Int) (x2 : Option Nat) (x3 : Option Nat) (x4 : Int) (s0 : Option Nat) (s1 : Int) (s2 : Int) (s3 : Int) {w : (Int × ax_H) ⊕ (Int × ax_H)} (hl : ax_hl ls 7 [(0, .inr (.inr x0)), (1, .inl x1), (2, .inr (.inr x2)), (3, .inr (.inr x3)), (4, .inl x4)]) (e : f_X0_payments_125 G.2.2 x0 x1 x2 x3 x4 s0 s1 s2 s3 h = some w) (hp : (ax_PL (pi_X0_payments_23 G X Q x0 x1 x2 x3) (fun w : Int × ax_H => Q = ax_Q G X h0 w.2 (some (.int (Int32.ofInt w.1))))) w) : ax_W G X Q h 125 ls [.int (Int32.ofInt s3), .int (Int32.ofInt s2), .int (Int32.ofInt s1), va_rf s0] := by
  unfold f_X0_payments_125 at e
  refine ax_iadd' B dX0_payments_125 ?_
  refine ax_iast B kd100 dX0_payments_126 e (fun h1 e => ?_)
  refine ax_iinc (L' := [(4, .inl (x4 + 1)), (0, .inr (.inr x0)), (1, .inl x1), (2, .inr (.inr x2)), (3, .inr (.inr x3))]) B dX0_payments_127 hl 4 rfl (by decide) rfl (fun ls hl => ?_)
  refine ax_goto (tgt := 23) B dX0_payments_130 (by decide) ?_
  cases e
  exact hp _ (hl.sub [1, 2, 3, 4, 0] rfl)
set_option maxHeartbeats 4000000 in
theorem wb_X0_payments_64 {l : Launch} {G : ax_G} {X : ax_X} {Q : State → Prop} {h0 h : ax_H} {ls : Array Slot} (hSF : ax_SF G) (B : ax_BL l G X cX0_payments 7 RX0 2 63) (Z : ax_Z X h0 ((some FieldType.int))) (hn : X.2.2.2.2.2.2.2.2.1.name = yX0_payments.name) (x0 : Option Nat) (x1 : Int) (x2 : Option Nat) (x3 : Option Nat) (x4 : Int) (x6 : Int) {w : (Int × ax_H) ⊕ ((Int × ax_H) ⊕ (Int × ax_H))} (hl : ax_hl ls 7 [(0, .inr (.inr x0)), (1, .inl x1), (2, .inr (.inr x2)), (3, .inr (.inr x3)), (4, .inl x4), (6, .inl x6)]) (e : lb_X0_payments_64 G.2.2 x0 x1 x2 x3 x4 x6 h = some w) (hp : (ax_PL (pi_X0_payments_64 G X Q x0 x1 x2 x3 x4) (ax_PL (pi_X0_payments_23 G X Q x0 x1 x2 x3) (fun w : Int × ax_H => Q = ax_Q G X h0 w.2 (some (.int (Int32.ofInt w.1)))))) w) : ax_W G X Q h 64 ls [] := by
  unfold lb_X0_payments_64 at e
  refine ax_iload B dX0_payments_64 hl 5 rfl ?_
  refine ax_iload_n B dX0_payments_66 rfl hl 1 rfl ?_
  refine ax_icmp_ge (tgt := 108) B dX0_payments_67 (by decide) e (fun e => ?_) (fun e => ?_)
  · refine ax_iload B dX0_payments_70 hl 4 rfl ?_
    refine ax_iload B dX0_payments_72 hl 5 rfl ?_
    refine ax_isI (y := yX0_has) (n := 2) (As := [.int (Int32.ofInt x4), .int (Int32.ofInt x6)]) B (lw_S q1622 q1574 q125 q1575) (by decide +kernel) ⟨Nat.le_of_ble_eq_true rfl, Nat.le_of_ble_eq_true rfl⟩ (fun w1 e1 => mt_X0_has l G hSF x4 x6 _ w1 e1) rfl hl.size (by decide) dX0_payments_74 e (fun q1 e => ?_)
    refine ax_if_eq (tgt := 102) B dX0_payments_77 (by decide) e (fun e => ?_) (fun e => ?_)
    · exact w_X0_payments_102 hSF B Z hn x0 x1 x2 x3 x4 x6 (hl.sub [0, 1, 2, 3, 4, 5] rfl) e hp
    · refine ax_aload_n B dX0_payments_80 rfl hl 3 rfl ?_
      refine ax_iload B dX0_payments_81 hl 4 rfl ?_
      refine ax_aload_n B dX0_payments_83 rfl hl 3 rfl ?_
      refine ax_iload B dX0_payments_84 hl 4 rfl ?_
      refine ax_iald B kd100 dX0_payments_86 e (fun v2 e => ?_)
      refine ax_aload_n B dX0_payments_87 rfl hl 3 rfl ?_
      refine ax_iload B dX0_payments_88 hl 4 rfl ?_
      refine ax_iconst B dX0_payments_90 ?_
      refine ax_iload B dX0_payments_91 hl 5 rfl ?_
      refine ax_ishl' B dX0_payments_93 ?_
      refine ax_iconst B dX0_payments_94 ?_
      refine ax_ixor' B dX0_payments_95 ?_
      refine ax_iand' B dX0_payments_96 ?_
      refine ax_iald B kd100 dX0_payments_97 e (fun v3 e => ?_)
      refine ax_isI (y := yJ3_max_2) (n := 2) (As := [.int (Int32.ofInt v2), .int (Int32.ofInt v3)]) B (lw_S q1514 q1265 q134 q1266) (by decide +kernel) ⟨Nat.le_of_ble_eq_true rfl, Nat.le_of_ble_eq_true rfl⟩ (fun w1 e1 => mt_J3_max_2 l G hSF v2 v3 _ w1 e1) rfl hl.size (by simp only [List.map_cons, List.map_nil, List.sum_cons, List.sum_nil, va_rf_cat, ax_catI, ax_catL]; decide) dX0_payments_98 e (fun q4 e => ?_)
      refine ax_iast B kd100 dX0_payments_101 e (fun h5 e => ?_)
      exact w_X0_payments_102 hSF B Z hn x0 x1 x2 x3 x4 x6 (hl.sub [0, 1, 2, 3, 4, 5] rfl) e hp
  · obtain ⟨w, e9_1, rfl⟩ := Option.map_eq_some_iff.mp e
    have e := e9_1
    refine ax_aload_n B dX0_payments_108 rfl hl 3 rfl ?_
    refine ax_iload B dX0_payments_109 hl 4 rfl ?_
    refine ax_dup2 B dX0_payments_111 (rfl) (va_rf_cat _) ?_
    refine ax_iald B kd100 dX0_payments_112 e (fun v6 e => ?_)
    refine ax_aload_n B dX0_payments_113 rfl hl 2 rfl ?_
    refine ax_iload B dX0_payments_114 hl 4 rfl ?_
    refine ax_iald B kd100 dX0_payments_116 e (fun v7 e => ?_)
    refine ax_if_ne (tgt := 124) B dX0_payments_117 (by decide) e (fun e => ?_) (fun e => ?_)
    · refine ax_iconst B dX0_payments_120 ?_
      refine ax_goto (tgt := 125) B dX0_payments_121 (by decide) ?_
      exact w_X0_payments_125 hSF B Z hn x0 x1 x2 x3 x4 x3 x4 v6 1 (hl.sub [0, 1, 2, 3, 4] rfl) e hp
    · refine ax_iconst B dX0_payments_124 ?_
      exact w_X0_payments_125 hSF B Z hn x0 x1 x2 x3 x4 x3 x4 v6 0 (hl.sub [0, 1, 2, 3, 4] rfl) e hp
theorem w_X0_payments_64 {l : Launch} {G : ax_G} {X : ax_X} {Q : State → Prop} {h0 h : ax_H} {ls : Array Slot} (hSF : ax_SF G) (B : ax_BL l G X cX0_payments 7 RX0 2 63) (Z : ax_Z X h0 ((some FieldType.int))) (hn : X.2.2.2.2.2.2.2.2.1.name = yX0_payments.name) (x0 : Option Nat) (x1 : Int) (x2 : Option Nat) (x3 : Option Nat) (x4 : Int) (x6 : Int) {w : (Int × ax_H) ⊕ (Int × ax_H)} (hl : ax_hl ls 7 [(0, .inr (.inr x0)), (1, .inl x1), (2, .inr (.inr x2)), (3, .inr (.inr x3)), (4, .inl x4), (6, .inl x6)]) (e : f_X0_payments_64 G.2.2 x0 x1 x2 x3 x4 x6 h = some w) (hp : (ax_PL (pi_X0_payments_23 G X Q x0 x1 x2 x3) (fun w : Int × ax_H => Q = ax_Q G X h0 w.2 (some (.int (Int32.ofInt w.1))))) w) : ax_W G X Q h 64 ls [] :=
  ax_iter_W (Pin := pi_X0_payments_64 G X Q x0 x1 x2 x3 x4) (Pout := (ax_PL (pi_X0_payments_23 G X Q x0 x1 x2 x3) (fun w : Int × ax_H => Q = ax_Q G X h0 w.2 (some (.int (Int32.ofInt w.1)))))) (fun s w e hp ls hl => wb_X0_payments_64 hSF B Z hn x0 x1 x2 x3 x4 s.1 hl e hp) _ _ e hp ls hl
set_option maxHeartbeats 4000000 in
theorem wb_X0_payments_23 {l : Launch} {G : ax_G} {X : ax_X} {Q : State → Prop} {h0 h : ax_H} {ls : Array Slot} (hSF : ax_SF G) (B : ax_BL l G X cX0_payments 7 RX0 2 63) (Z : ax_Z X h0 ((some FieldType.int))) (hn : X.2.2.2.2.2.2.2.2.1.name = yX0_payments.name) (x0 : Option Nat) (x1 : Int) (x2 : Option Nat) (x3 : Option Nat) (x4 : Int) {w : (Int × ax_H) ⊕ (Int × ax_H)} (hl : ax_hl ls 7 [(0, .inr (.inr x0)), (1, .inl x1), (2, .inr (.inr x2)), (3, .inr (.inr x3)), (4, .inl x4)]) (e : lb_X0_payments_23 G.2.2 x0 x1 x2 x3 x4 h = some w) (hp : (ax_PL (pi_X0_payments_23 G X Q x0 x1 x2 x3) (fun w : Int × ax_H => Q = ax_Q G X h0 w.2 (some (.int (Int32.ofInt w.1))))) w) : ax_W G X Q h 23 ls [] := by
  unfold lb_X0_payments_23 at e
  refine ax_iload B dX0_payments_23 hl 4 rfl ?_
  refine ax_iconst B dX0_payments_25 ?_
  refine ax_iload_n B dX0_payments_26 rfl hl 1 rfl ?_
  refine ax_ishl' B dX0_payments_27 ?_
  refine ax_icmp_ge (tgt := 133) B dX0_payments_28 (by decide) e (fun e => ?_) (fun e => ?_)
  · refine ax_iload B dX0_payments_31 hl 4 rfl ?_
    refine ax_isI (y := yJ16_numberOfTrailingZeros) (n := 1) (As := [.int (Int32.ofInt x4)]) B (lw_S q1729 q1730 q174 q1731) (by decide +kernel) ⟨Nat.le_of_ble_eq_true rfl, Nat.le_of_ble_eq_true rfl⟩ (fun w1 e1 => mt_J16_numberOfTrailingZeros l G hSF x4 _ w1 e1) rfl hl.size (by decide) dX0_payments_33 e (fun q1 e => ?_)
    refine ax_istore (L' := [(5, .inl q1.1), (0, .inr (.inr x0)), (1, .inl x1), (2, .inr (.inr x2)), (3, .inr (.inr x3)), (4, .inl x4)]) B dX0_payments_36 hl (by decide) rfl (fun ls hl => ?_)
    refine ax_aload_n B dX0_payments_38 rfl hl 3 rfl ?_
    refine ax_iload B dX0_payments_39 hl 5 rfl ?_
    refine ax_aload_n B dX0_payments_41 rfl hl 3 rfl ?_
    refine ax_iload B dX0_payments_42 hl 5 rfl ?_
    refine ax_iload B dX0_payments_44 hl 5 rfl ?_
    refine ax_iconst B dX0_payments_46 ?_
    refine ax_isub' B dX0_payments_47 ?_
    refine ax_iand' B dX0_payments_48 ?_
    refine ax_iald B kd100 dX0_payments_49 e (fun v2 e => ?_)
    refine ax_aload_n B dX0_payments_50 rfl hl 1 rfl ?_
    refine ax_ivR (y := yX0_books) (n := 0) (As := []) B kd0 (lw_V q443 q445 qs2 q125 q446) (by decide +kernel) ⟨Nat.le_of_ble_eq_true rfl, Nat.le_of_ble_eq_true rfl⟩ (fun w1 e1 => mt_X0_books l G hSF x0 _ w1 e1) rfl hl.size (by simp only [List.map_cons, List.map_nil, List.sum_cons, List.sum_nil, va_rf_cat, ax_catI, ax_catL]; decide) dX0_payments_51 e (fun q3 e => ?_)
    refine ax_iload B dX0_payments_54 hl 0 rfl ?_
    refine ax_ivI (y := yX2_balance) (n := 1) (As := [.int (Int32.ofInt q1.1)]) B kd2 (lw_V q1720 q1721 q1722 q130 q1723) (by decide +kernel) ⟨Nat.le_of_ble_eq_true rfl, Nat.le_of_ble_eq_true rfl⟩ (fun w1 e1 => mt_X2_balance l G hSF q3.1 q1.1 _ w1 e1) rfl hl.size (by simp only [List.map_cons, List.map_nil, List.sum_cons, List.sum_nil, va_rf_cat, ax_catI, ax_catL]; decide) dX0_payments_56 e (fun q4 e => ?_)
    refine ax_iadd' B dX0_payments_59 ?_
    refine ax_iast B kd100 dX0_payments_60 e (fun h5 e => ?_)
    refine ax_iconst B dX0_payments_61 ?_
    refine ax_istore (L' := [(6, .inl 0), (5, .inl q1.1), (0, .inr (.inr x0)), (1, .inl x1), (2, .inr (.inr x2)), (3, .inr (.inr x3)), (4, .inl x4)]) B dX0_payments_62 hl (by decide) rfl (fun ls hl => ?_)
    exact w_X0_payments_64 hSF B Z hn x0 x1 x2 x3 x4 0 (hl.sub [2, 3, 4, 5, 6, 0] rfl) e hp
  · obtain ⟨w, e9_2, rfl⟩ := Option.map_eq_some_iff.mp e
    have e := e9_2
    refine ax_iload_n B dX0_payments_133 rfl hl 1 rfl ?_
    refine ax_if_ne (tgt := 141) B dX0_payments_134 (by decide) e (fun e => ?_) (fun e => ?_)
    · refine ax_iconst B dX0_payments_137 ?_
      refine ax_goto (tgt := 150) B dX0_payments_138 (by decide) ?_
      have e8 := e
      have hp : Q = _ := hp
      subst hp
      exact ax_ireturn B Z dX0_payments_150 e8
    · refine ax_iload_n B dX0_payments_141 rfl hl 1 rfl ?_
      refine ax_aload_n B dX0_payments_142 rfl hl 3 rfl ?_
      refine ax_iconst B dX0_payments_143 ?_
      refine ax_iload_n B dX0_payments_144 rfl hl 1 rfl ?_
      refine ax_ishl' B dX0_payments_145 ?_
      refine ax_iconst B dX0_payments_146 ?_
      refine ax_isub' B dX0_payments_147 ?_
      refine ax_iald B kd100 dX0_payments_148 e (fun v6 e => ?_)
      refine ax_isub' B dX0_payments_149 ?_
      have e8 := e
      have hp : Q = _ := hp
      subst hp
      exact ax_ireturn B Z dX0_payments_150 e8
theorem w_X0_payments_23 {l : Launch} {G : ax_G} {X : ax_X} {Q : State → Prop} {h0 h : ax_H} {ls : Array Slot} (hSF : ax_SF G) (B : ax_BL l G X cX0_payments 7 RX0 2 63) (Z : ax_Z X h0 ((some FieldType.int))) (hn : X.2.2.2.2.2.2.2.2.1.name = yX0_payments.name) (x0 : Option Nat) (x1 : Int) (x2 : Option Nat) (x3 : Option Nat) (x4 : Int) {w : Int × ax_H} (hl : ax_hl ls 7 [(0, .inr (.inr x0)), (1, .inl x1), (2, .inr (.inr x2)), (3, .inr (.inr x3)), (4, .inl x4)]) (e : f_X0_payments_23 G.2.2 x0 x1 x2 x3 x4 h = some w) (hp : (fun w : Int × ax_H => Q = ax_Q G X h0 w.2 (some (.int (Int32.ofInt w.1)))) w) : ax_W G X Q h 23 ls [] :=
  ax_iter_W (Pin := pi_X0_payments_23 G X Q x0 x1 x2 x3) (Pout := (fun w : Int × ax_H => Q = ax_Q G X h0 w.2 (some (.int (Int32.ofInt w.1))))) (fun s w e hp ls hl => wb_X0_payments_23 hSF B Z hn x0 x1 x2 x3 s.1 hl e hp) _ _ e hp ls hl
set_option maxHeartbeats 4000000 in
theorem we_X0_payments {l : Launch} {G : ax_G} {X : ax_X} {Q : State → Prop} {h0 h : ax_H} {ls : Array Slot} (hSF : ax_SF G) (B : ax_BL l G X cX0_payments 7 RX0 2 63) (Z : ax_Z X h0 ((some FieldType.int))) (hn : X.2.2.2.2.2.2.2.2.1.name = yX0_payments.name) (x0 : Option Nat) {w : Int × ax_H} (hl : ax_hl ls 7 [(0, .inr (.inr x0))]) (e : f_X0_payments G.2.2 x0 h = some w) (hp : (fun w : Int × ax_H => Q = ax_Q G X h0 w.2 (some (.int (Int32.ofInt w.1)))) w) : ax_W G X Q h 0 ls [] := by
  unfold f_X0_payments at e
  refine ax_aload_n B dX0_payments_0 rfl hl 0 rfl ?_
  refine ax_getR B ff_X0_20_0 (fun _ _ => rfl) dX0_payments_1 e (fun v1 e => ?_)
  refine ax_getI B ff_X0_101_1 (fun _ _ => rfl) dX0_payments_4 e (fun v2 e => ?_)
  refine ax_istore_n (L' := [(1, .inl v2), (0, .inr (.inr x0))]) B dX0_payments_7 rfl hl (by decide) rfl (fun ls hl => ?_)
  refine ax_sipush B dX0_payments_8 (by decide) ?_
  refine ax_newa (atype := .int) B kd100 q259 rfl (by decide) dX0_payments_11 e (fun q3 e => ?_)
  refine ax_astore_n (L' := [(2, .inr (.inr (some q3.1))), (1, .inl v2), (0, .inr (.inr x0))]) B dX0_payments_13 rfl hl (by decide) rfl (fun ls hl => ?_)
  refine ax_sipush B dX0_payments_14 (by decide) ?_
  refine ax_newa (atype := .int) B kd100 q259 rfl (by decide) dX0_payments_17 e (fun q4 e => ?_)
  refine ax_astore_n (L' := [(3, .inr (.inr (some q4.1))), (2, .inr (.inr (some q3.1))), (1, .inl v2), (0, .inr (.inr x0))]) B dX0_payments_19 rfl hl (by decide) rfl (fun ls hl => ?_)
  refine ax_iconst B dX0_payments_20 ?_
  refine ax_istore (L' := [(4, .inl 1), (3, .inr (.inr (some q4.1))), (2, .inr (.inr (some q3.1))), (1, .inl v2), (0, .inr (.inr x0))]) B dX0_payments_21 hl (by decide) rfl (fun ls hl => ?_)
  exact w_X0_payments_23 hSF B Z hn x0 v2 (some q3.1) (some q4.1) 1 (hl.sub [4, 3, 2, 1, 0] rfl) e hp
theorem mt_X0_payments (l : Launch) (G : ax_G) (hSF : ax_SF G) (x0 : Option Nat) (h : ax_H) (w : Int × ax_H) (e : f_X0_payments G.2.2 x0 h = some w) : ax_Met l G yX0_payments cX0_payments 7 ((some FieldType.int)) 2 63 [va_rf x0] h w.2 (some (.int (Int32.ofInt w.1))) :=
  ax_enter [.inr (.inr x0)] (y := yX0_payments) hSF (plainFor_of_name (by decide +kernel)) (Nat.le_of_ble_eq_true rfl) (fun X ls B Z hn hl => we_X0_payments hSF B Z hn x0 hl e rfl)
def dkwX32_init_1 : List UInt8 := [181, 0, 19, 177]
abbrev dktX32_init_1 : List UInt8 := dkwX32_init_1 ++ []
def dkwX32_init_0 : List UInt8 := [42, 183, 0, 1, 42, 27, 181, 0, 7, 42, 28, 181, 0, 13, 42, 29, 181, 0, 16, 42, 21, 4]
abbrev dktX32_init_0 : List UInt8 := dkwX32_init_0 ++ dktX32_init_1
theorem dksX32_init_0 : cX32_init.data.toList.drop 0 = dktX32_init_0 := by decide +kernel
theorem dksX32_init_1 : cX32_init.data.toList.drop 22 = dktX32_init_1 := dk_seg dksX32_init_0 22 rfl rfl
theorem dX32_init_0 : decode cX32_init 0 = .ok (.aload_n 0, 1) := dk_42 (dk_at dksX32_init_0 0 rfl rfl)
theorem dX32_init_1 : decode cX32_init 1 = .ok (.invokespecial 1, 3) := dk_183 0 1 (dk_at dksX32_init_0 1 rfl rfl)
theorem dX32_init_4 : decode cX32_init 4 = .ok (.aload_n 0, 1) := dk_42 (dk_at dksX32_init_0 4 rfl rfl)
theorem dX32_init_5 : decode cX32_init 5 = .ok (.iload_n 1, 1) := dk_27 (dk_at dksX32_init_0 5 rfl rfl)
theorem dX32_init_6 : decode cX32_init 6 = .ok (.putfield 7, 3) := dk_181 0 7 (dk_at dksX32_init_0 6 rfl rfl)
theorem dX32_init_9 : decode cX32_init 9 = .ok (.aload_n 0, 1) := dk_42 (dk_at dksX32_init_0 9 rfl rfl)
theorem dX32_init_10 : decode cX32_init 10 = .ok (.iload_n 2, 1) := dk_28 (dk_at dksX32_init_0 10 rfl rfl)
theorem dX32_init_11 : decode cX32_init 11 = .ok (.putfield 13, 3) := dk_181 0 13 (dk_at dksX32_init_0 11 rfl rfl)
theorem dX32_init_14 : decode cX32_init 14 = .ok (.aload_n 0, 1) := dk_42 (dk_at dksX32_init_0 14 rfl rfl)
theorem dX32_init_15 : decode cX32_init 15 = .ok (.iload_n 3, 1) := dk_29 (dk_at dksX32_init_0 15 rfl rfl)
theorem dX32_init_16 : decode cX32_init 16 = .ok (.putfield 16, 3) := dk_181 0 16 (dk_at dksX32_init_0 16 rfl rfl)
theorem dX32_init_19 : decode cX32_init 19 = .ok (.aload_n 0, 1) := dk_42 (dk_at dksX32_init_0 19 rfl rfl)
theorem dX32_init_20 : decode cX32_init 20 = .ok (.iload 4, 2) := dk_21 4 (dk_at dksX32_init_0 20 rfl rfl)
theorem dX32_init_22 : decode cX32_init 22 = .ok (.putfield 19, 3) := dk_181 0 19 (dk_at dksX32_init_1 0 rfl rfl)
theorem dX32_init_25 : decode cX32_init 25 = .ok (.return_, 1) := dk_177 (dk_at dksX32_init_1 3 rfl rfl)
noncomputable def f_X32_init (E : ax_E) (x0 : Option Nat) (x1 : Int) (x2 : Int) (x3 : Int) (x4 : Int) (h : ax_H) : Option (ax_H) :=
  x0.bind fun _ =>
  (ax_pI h x0 32 0 x1).bind fun h1 =>
  (ax_pI h1 x0 32 1 x2).bind fun h2 =>
  (ax_pI h2 x0 32 2 x3).bind fun h3 =>
  if x4 = 0 ∨ x4 = 1 then (ax_pI h3 x0 32 3 x4).bind fun h4 =>
    some h4
  else none
set_option maxHeartbeats 4000000 in
theorem we_X32_init {l : Launch} {G : ax_G} {X : ax_X} {Q : State → Prop} {h0 h : ax_H} {ls : Array Slot} (hSF : ax_SF G) (B : ax_BL l G X cX32_init 5 RX32 1 40) (Z : ax_Z X h0 none) (hn : X.2.2.2.2.2.2.2.2.1.name = yX32_init.name) (x0 : Option Nat) (x1 : Int) (x2 : Int) (x3 : Int) (x4 : Int) {w : ax_H} (hl : ax_hl ls 5 [(0, .inr (.inr x0)), (1, .inl x1), (2, .inl x2), (3, .inl x3), (4, .inl x4)]) (e : f_X32_init G.2.2 x0 x1 x2 x3 x4 h = some w) (hp : (fun w : ax_H => Q = ax_Q G X h0 w none) w) : ax_W G X Q h 0 ls [] := by
  unfold f_X32_init at e
  refine ax_aload_n B dX32_init_0 rfl hl 0 rfl ?_
  refine ax_oiR B q1742 q183 q184 hl.size (by decide) (by decide) dX32_init_1 e (fun e => ?_)
  refine ax_aload_n B dX32_init_4 rfl hl 0 rfl ?_
  refine ax_iload_n B dX32_init_5 rfl hl 1 rfl ?_
  refine ax_putI B ff_X32_7_32 (Or.inr ⟨rfl, rfl, hn⟩) rfl dX32_init_6 e (fun h1 e => ?_)
  refine ax_aload_n B dX32_init_9 rfl hl 0 rfl ?_
  refine ax_iload_n B dX32_init_10 rfl hl 2 rfl ?_
  refine ax_putI B ff_X32_13_32 (Or.inr ⟨rfl, rfl, hn⟩) rfl dX32_init_11 e (fun h2 e => ?_)
  refine ax_aload_n B dX32_init_14 rfl hl 0 rfl ?_
  refine ax_iload_n B dX32_init_15 rfl hl 3 rfl ?_
  refine ax_putI B ff_X32_16_32 (Or.inr ⟨rfl, rfl, hn⟩) rfl dX32_init_16 e (fun h3 e => ?_)
  refine ax_aload_n B dX32_init_19 rfl hl 0 rfl ?_
  refine ax_iload B dX32_init_20 hl 4 rfl ?_
  refine ax_putZ B ff_X32_19_32 (Or.inr ⟨rfl, rfl, hn⟩) dX32_init_22 e (fun h4 e => ?_)
  have e8 := e
  have hp : Q = _ := hp
  subst hp
  exact ax_return B Z dX32_init_25 e8
theorem mt_X32_init (l : Launch) (G : ax_G) (hSF : ax_SF G) (x0 : Option Nat) (x1 : Int) (x2 : Int) (x3 : Int) (x4 : Int) (h : ax_H) (w : ax_H) (e : f_X32_init G.2.2 x0 x1 x2 x3 x4 h = some w) : ax_Met l G yX32_init cX32_init 5 none 1 40 [va_rf x0, .int (Int32.ofInt x1), .int (Int32.ofInt x2), .int (Int32.ofInt x3), .int (Int32.ofInt x4)] h w none :=
  ax_enter [.inr (.inr x0), .inl x1, .inl x2, .inl x3, .inl x4] (y := yX32_init) hSF (plainFor_of_name (by decide +kernel)) (Nat.le_of_ble_eq_true rfl) (fun X ls B Z hn hl => we_X32_init hSF B Z hn x0 x1 x2 x3 x4 hl e rfl)
def dkwX0_scuff_5 : List UInt8 := [182, 0, 94, 172]
abbrev dktX0_scuff_5 : List UInt8 := dkwX0_scuff_5 ++ []
def dkwX0_scuff_4 : List UInt8 := [4, 167, 0, 4, 3, 183, 1, 186, 182, 0, 231, 87, 42, 42, 180, 0, 20, 180, 1, 181, 182, 0, 218]
abbrev dktX0_scuff_4 : List UInt8 := dkwX0_scuff_4 ++ dktX0_scuff_5
def dkwX0_scuff_3 : List UInt8 := [182, 0, 94, 172, 42, 180, 0, 20, 180, 1, 181, 187, 1, 184, 89, 27, 28, 29, 21, 4, 4, 160, 0, 7]
abbrev dktX0_scuff_3 : List UInt8 := dkwX0_scuff_3 ++ dktX0_scuff_4
def dkwX0_scuff_2 : List UInt8 := [182, 0, 94, 172, 42, 180, 0, 20, 180, 1, 181, 182, 0, 218, 16, 8, 160, 0, 10, 42, 16, 251]
abbrev dktX0_scuff_2 : List UInt8 := dkwX0_scuff_2 ++ dktX0_scuff_3
def dkwX0_scuff_1 : List UInt8 := [2, 182, 0, 94, 172, 42, 27, 182, 0, 110, 153, 0, 11, 42, 28, 182, 0, 110, 154, 0, 10, 42, 16, 254]
abbrev dktX0_scuff_1 : List UInt8 := dkwX0_scuff_1 ++ dktX0_scuff_2
def dkwX0_scuff_0 : List UInt8 := [29, 184, 0, 121, 153, 0, 19, 21, 4, 133, 9, 10, 184, 0, 5, 153, 0, 8, 27, 28, 160, 0, 9, 42]
abbrev dktX0_scuff_0 : List UInt8 := dkwX0_scuff_0 ++ dktX0_scuff_1
theorem dksX0_scuff_0 : cX0_scuff.data.toList.drop 0 = dktX0_scuff_0 := by decide +kernel
theorem dksX0_scuff_1 : cX0_scuff.data.toList.drop 24 = dktX0_scuff_1 := dk_seg dksX0_scuff_0 24 rfl rfl
theorem dksX0_scuff_2 : cX0_scuff.data.toList.drop 48 = dktX0_scuff_2 := dk_seg dksX0_scuff_1 24 rfl rfl
theorem dksX0_scuff_3 : cX0_scuff.data.toList.drop 70 = dktX0_scuff_3 := dk_seg dksX0_scuff_2 22 rfl rfl
theorem dksX0_scuff_4 : cX0_scuff.data.toList.drop 94 = dktX0_scuff_4 := dk_seg dksX0_scuff_3 24 rfl rfl
theorem dksX0_scuff_5 : cX0_scuff.data.toList.drop 117 = dktX0_scuff_5 := dk_seg dksX0_scuff_4 23 rfl rfl
theorem dX0_scuff_0 : decode cX0_scuff 0 = .ok (.iload_n 3, 1) := dk_29 (dk_at dksX0_scuff_0 0 rfl rfl)
theorem dX0_scuff_1 : decode cX0_scuff 1 = .ok (.invokestatic 121, 3) := dk_184 0 121 (dk_at dksX0_scuff_0 1 rfl rfl)
theorem dX0_scuff_4 : decode cX0_scuff 4 = .ok (.ifCond .eq 19, 3) := dk_153 0 19 (dk_at dksX0_scuff_0 4 rfl rfl)
theorem dX0_scuff_7 : decode cX0_scuff 7 = .ok (.iload 4, 2) := dk_21 4 (dk_at dksX0_scuff_0 7 rfl rfl)
theorem dX0_scuff_9 : decode cX0_scuff 9 = .ok (.i2l, 1) := dk_133 (dk_at dksX0_scuff_0 9 rfl rfl)
theorem dX0_scuff_10 : decode cX0_scuff 10 = .ok (.lconst 0, 1) := dk_9 (dk_at dksX0_scuff_0 10 rfl rfl)
theorem dX0_scuff_11 : decode cX0_scuff 11 = .ok (.lconst 1, 1) := dk_10 (dk_at dksX0_scuff_0 11 rfl rfl)
theorem dX0_scuff_12 : decode cX0_scuff 12 = .ok (.invokestatic 5, 3) := dk_184 0 5 (dk_at dksX0_scuff_0 12 rfl rfl)
theorem dX0_scuff_15 : decode cX0_scuff 15 = .ok (.ifCond .eq 8, 3) := dk_153 0 8 (dk_at dksX0_scuff_0 15 rfl rfl)
theorem dX0_scuff_18 : decode cX0_scuff 18 = .ok (.iload_n 1, 1) := dk_27 (dk_at dksX0_scuff_0 18 rfl rfl)
theorem dX0_scuff_19 : decode cX0_scuff 19 = .ok (.iload_n 2, 1) := dk_28 (dk_at dksX0_scuff_0 19 rfl rfl)
theorem dX0_scuff_20 : decode cX0_scuff 20 = .ok (.if_icmp .ne 9, 3) := dk_160 0 9 (dk_at dksX0_scuff_0 20 rfl rfl)
theorem dX0_scuff_23 : decode cX0_scuff 23 = .ok (.aload_n 0, 1) := dk_42 (dk_at dksX0_scuff_0 23 rfl rfl)
theorem dX0_scuff_24 : decode cX0_scuff 24 = .ok (.iconst (-1), 1) := dk_2 (dk_at dksX0_scuff_1 0 rfl rfl)
theorem dX0_scuff_25 : decode cX0_scuff 25 = .ok (.invokevirtual 94, 3) := dk_182 0 94 (dk_at dksX0_scuff_1 1 rfl rfl)
theorem dX0_scuff_28 : decode cX0_scuff 28 = .ok (.ireturn, 1) := dk_172 (dk_at dksX0_scuff_1 4 rfl rfl)
theorem dX0_scuff_29 : decode cX0_scuff 29 = .ok (.aload_n 0, 1) := dk_42 (dk_at dksX0_scuff_1 5 rfl rfl)
theorem dX0_scuff_30 : decode cX0_scuff 30 = .ok (.iload_n 1, 1) := dk_27 (dk_at dksX0_scuff_1 6 rfl rfl)
theorem dX0_scuff_31 : decode cX0_scuff 31 = .ok (.invokevirtual 110, 3) := dk_182 0 110 (dk_at dksX0_scuff_1 7 rfl rfl)
theorem dX0_scuff_34 : decode cX0_scuff 34 = .ok (.ifCond .eq 11, 3) := dk_153 0 11 (dk_at dksX0_scuff_1 10 rfl rfl)
theorem dX0_scuff_37 : decode cX0_scuff 37 = .ok (.aload_n 0, 1) := dk_42 (dk_at dksX0_scuff_1 13 rfl rfl)
theorem dX0_scuff_38 : decode cX0_scuff 38 = .ok (.iload_n 2, 1) := dk_28 (dk_at dksX0_scuff_1 14 rfl rfl)
theorem dX0_scuff_39 : decode cX0_scuff 39 = .ok (.invokevirtual 110, 3) := dk_182 0 110 (dk_at dksX0_scuff_1 15 rfl rfl)
theorem dX0_scuff_42 : decode cX0_scuff 42 = .ok (.ifCond .ne 10, 3) := dk_154 0 10 (dk_at dksX0_scuff_1 18 rfl rfl)
theorem dX0_scuff_45 : decode cX0_scuff 45 = .ok (.aload_n 0, 1) := dk_42 (dk_at dksX0_scuff_1 21 rfl rfl)
theorem dX0_scuff_46 : decode cX0_scuff 46 = .ok (.bipush (-2), 2) := dk_16 254 (dk_at dksX0_scuff_1 22 rfl rfl)
theorem dX0_scuff_48 : decode cX0_scuff 48 = .ok (.invokevirtual 94, 3) := dk_182 0 94 (dk_at dksX0_scuff_2 0 rfl rfl)
theorem dX0_scuff_51 : decode cX0_scuff 51 = .ok (.ireturn, 1) := dk_172 (dk_at dksX0_scuff_2 3 rfl rfl)
theorem dX0_scuff_52 : decode cX0_scuff 52 = .ok (.aload_n 0, 1) := dk_42 (dk_at dksX0_scuff_2 4 rfl rfl)
theorem dX0_scuff_53 : decode cX0_scuff 53 = .ok (.getfield 20, 3) := dk_180 0 20 (dk_at dksX0_scuff_2 5 rfl rfl)
theorem dX0_scuff_56 : decode cX0_scuff 56 = .ok (.getfield 437, 3) := dk_180 1 181 (dk_at dksX0_scuff_2 8 rfl rfl)
theorem dX0_scuff_59 : decode cX0_scuff 59 = .ok (.invokevirtual 218, 3) := dk_182 0 218 (dk_at dksX0_scuff_2 11 rfl rfl)
theorem dX0_scuff_62 : decode cX0_scuff 62 = .ok (.bipush 8, 2) := dk_16 8 (dk_at dksX0_scuff_2 14 rfl rfl)
theorem dX0_scuff_64 : decode cX0_scuff 64 = .ok (.if_icmp .ne 10, 3) := dk_160 0 10 (dk_at dksX0_scuff_2 16 rfl rfl)
theorem dX0_scuff_67 : decode cX0_scuff 67 = .ok (.aload_n 0, 1) := dk_42 (dk_at dksX0_scuff_2 19 rfl rfl)
theorem dX0_scuff_68 : decode cX0_scuff 68 = .ok (.bipush (-5), 2) := dk_16 251 (dk_at dksX0_scuff_2 20 rfl rfl)
theorem dX0_scuff_70 : decode cX0_scuff 70 = .ok (.invokevirtual 94, 3) := dk_182 0 94 (dk_at dksX0_scuff_3 0 rfl rfl)
theorem dX0_scuff_73 : decode cX0_scuff 73 = .ok (.ireturn, 1) := dk_172 (dk_at dksX0_scuff_3 3 rfl rfl)
theorem dX0_scuff_74 : decode cX0_scuff 74 = .ok (.aload_n 0, 1) := dk_42 (dk_at dksX0_scuff_3 4 rfl rfl)
theorem dX0_scuff_75 : decode cX0_scuff 75 = .ok (.getfield 20, 3) := dk_180 0 20 (dk_at dksX0_scuff_3 5 rfl rfl)
theorem dX0_scuff_78 : decode cX0_scuff 78 = .ok (.getfield 437, 3) := dk_180 1 181 (dk_at dksX0_scuff_3 8 rfl rfl)
theorem dX0_scuff_81 : decode cX0_scuff 81 = .ok (.new 440, 3) := dk_187 1 184 (dk_at dksX0_scuff_3 11 rfl rfl)
theorem dX0_scuff_84 : decode cX0_scuff 84 = .ok (.dup, 1) := dk_89 (dk_at dksX0_scuff_3 14 rfl rfl)
theorem dX0_scuff_85 : decode cX0_scuff 85 = .ok (.iload_n 1, 1) := dk_27 (dk_at dksX0_scuff_3 15 rfl rfl)
theorem dX0_scuff_86 : decode cX0_scuff 86 = .ok (.iload_n 2, 1) := dk_28 (dk_at dksX0_scuff_3 16 rfl rfl)
theorem dX0_scuff_87 : decode cX0_scuff 87 = .ok (.iload_n 3, 1) := dk_29 (dk_at dksX0_scuff_3 17 rfl rfl)
theorem dX0_scuff_88 : decode cX0_scuff 88 = .ok (.iload 4, 2) := dk_21 4 (dk_at dksX0_scuff_3 18 rfl rfl)
theorem dX0_scuff_90 : decode cX0_scuff 90 = .ok (.iconst 1, 1) := dk_4 (dk_at dksX0_scuff_3 20 rfl rfl)
theorem dX0_scuff_91 : decode cX0_scuff 91 = .ok (.if_icmp .ne 7, 3) := dk_160 0 7 (dk_at dksX0_scuff_3 21 rfl rfl)
theorem dX0_scuff_94 : decode cX0_scuff 94 = .ok (.iconst 1, 1) := dk_4 (dk_at dksX0_scuff_4 0 rfl rfl)
theorem dX0_scuff_95 : decode cX0_scuff 95 = .ok (.goto 4, 3) := dk_167 0 4 (dk_at dksX0_scuff_4 1 rfl rfl)
theorem dX0_scuff_98 : decode cX0_scuff 98 = .ok (.iconst 0, 1) := dk_3 (dk_at dksX0_scuff_4 4 rfl rfl)
theorem dX0_scuff_99 : decode cX0_scuff 99 = .ok (.invokespecial 442, 3) := dk_183 1 186 (dk_at dksX0_scuff_4 5 rfl rfl)
theorem dX0_scuff_102 : decode cX0_scuff 102 = .ok (.invokevirtual 231, 3) := dk_182 0 231 (dk_at dksX0_scuff_4 8 rfl rfl)
theorem dX0_scuff_105 : decode cX0_scuff 105 = .ok (.pop, 1) := dk_87 (dk_at dksX0_scuff_4 11 rfl rfl)
theorem dX0_scuff_106 : decode cX0_scuff 106 = .ok (.aload_n 0, 1) := dk_42 (dk_at dksX0_scuff_4 12 rfl rfl)
theorem dX0_scuff_107 : decode cX0_scuff 107 = .ok (.aload_n 0, 1) := dk_42 (dk_at dksX0_scuff_4 13 rfl rfl)
theorem dX0_scuff_108 : decode cX0_scuff 108 = .ok (.getfield 20, 3) := dk_180 0 20 (dk_at dksX0_scuff_4 14 rfl rfl)
theorem dX0_scuff_111 : decode cX0_scuff 111 = .ok (.getfield 437, 3) := dk_180 1 181 (dk_at dksX0_scuff_4 17 rfl rfl)
theorem dX0_scuff_114 : decode cX0_scuff 114 = .ok (.invokevirtual 218, 3) := dk_182 0 218 (dk_at dksX0_scuff_4 20 rfl rfl)
theorem dX0_scuff_117 : decode cX0_scuff 117 = .ok (.invokevirtual 94, 3) := dk_182 0 94 (dk_at dksX0_scuff_5 0 rfl rfl)
theorem dX0_scuff_120 : decode cX0_scuff 120 = .ok (.ireturn, 1) := dk_172 (dk_at dksX0_scuff_5 3 rfl rfl)
noncomputable def f_X0_scuff_23 (E : ax_E) (x0 : Option Nat) (h : ax_H) : Option (Int × ax_H) :=
  (ax_ce E h x0 0).bind fun _ => (f_X0_tell E x0 (-1) h).bind fun q1 =>
  some (q1.1, q1.2)
noncomputable def f_X0_scuff_45 (E : ax_E) (x0 : Option Nat) (h : ax_H) : Option (Int × ax_H) :=
  (ax_ce E h x0 0).bind fun _ => (f_X0_tell E x0 (-2) h).bind fun q1 =>
  some (q1.1, q1.2)
noncomputable def f_X0_scuff_99 (E : ax_E) (x0 : Option Nat) (s0 : Option Nat) (s1 : Option Nat) (s2 : Option Nat) (s3 : Int) (s4 : Int) (s5 : Int) (s6 : Int) (h : ax_H) : Option (Int × ax_H) :=
  s2.bind fun _ => (f_X32_init E s2 s3 s4 s5 s6 h).bind fun h1 =>
  (ax_ce E h1 s0 42).bind fun _ => (f_J2_add E s0 s1 h1).bind fun q2 =>
  (ax_gR E q2.2 x0 0 0).bind fun v3 =>
  (ax_gR E q2.2 v3 1 2).bind fun v4 =>
  (ax_ce E q2.2 v4 42).bind fun _ => (f_J2_size E v4 q2.2).bind fun q5 =>
  (ax_ce E q5.2 x0 0).bind fun _ => (f_X0_tell E x0 q5.1 q5.2).bind fun q6 =>
  some (q6.1, q6.2)
noncomputable def f_X0_scuff (E : ax_E) (x0 : Option Nat) (x1 : Int) (x2 : Int) (x3 : Int) (x4 : Int) (h : ax_H) : Option (Int × ax_H) :=
  (f_X0_isRoom E x3 h).bind fun q1 =>
  if i2 q1.1 = 0 then
    f_X0_scuff_23 E x0 q1.2
  else
    (f_X0_in E (i2 x4) 0 1 q1.2).bind fun q2 =>
    if i2 q2.1 = 0 then
      f_X0_scuff_23 E x0 q2.2
    else
      if i2 x1 = i2 x2 then
        f_X0_scuff_23 E x0 q2.2
      else
        (ax_ce E q2.2 x0 0).bind fun _ => (f_X0_isPerson E x0 x1 q2.2).bind fun q3 =>
        if i2 q3.1 = 0 then
          f_X0_scuff_45 E x0 q3.2
        else
          (ax_ce E q3.2 x0 0).bind fun _ => (f_X0_isPerson E x0 x2 q3.2).bind fun q4 =>
          if i2 q4.1 = 0 then
            f_X0_scuff_45 E x0 q4.2
          else
            (ax_gR E q4.2 x0 0 0).bind fun v5 =>
            (ax_gR E q4.2 v5 1 2).bind fun v6 =>
            (ax_ce E q4.2 v6 42).bind fun _ => (f_J2_size E v6 q4.2).bind fun q7 =>
            if i2 q7.1 = i2 8 then
              (ax_ce E q7.2 x0 0).bind fun _ => (f_X0_tell E x0 (-5) q7.2).bind fun q8 =>
              some (q8.1, q8.2)
            else
              (ax_gR E q7.2 x0 0 0).bind fun v9 =>
              (ax_gR E q7.2 v9 1 2).bind fun v10 =>
              (ax_nw E q7.2 32 0 4).bind fun q11 =>
              if i2 x4 = i2 1 then
                f_X0_scuff_99 E x0 v10 (some q11.1) (some q11.1) x1 x2 x3 1 q11.2
              else
                f_X0_scuff_99 E x0 v10 (some q11.1) (some q11.1) x1 x2 x3 0 q11.2
set_option maxHeartbeats 4000000 in
theorem w_X0_scuff_23 {l : Launch} {G : ax_G} {X : ax_X} {Q : State → Prop} {h0 h : ax_H} {ls : Array Slot} (hSF : ax_SF G) (B : ax_BL l G X cX0_scuff 5 RX0 8 192) (Z : ax_Z X h0 ((some FieldType.int))) (hn : X.2.2.2.2.2.2.2.2.1.name = yX0_scuff.name) (x0 : Option Nat) {w : Int × ax_H} (hl : ax_hl ls 5 [(0, .inr (.inr x0))]) (e : f_X0_scuff_23 G.2.2 x0 h = some w) (hp : (fun w : Int × ax_H => Q = ax_Q G X h0 w.2 (some (.int (Int32.ofInt w.1)))) w) : ax_W G X Q h 23 ls [] := by
  unfold f_X0_scuff_23 at e
  refine ax_aload_n B dX0_scuff_23 rfl hl 0 rfl ?_
  refine ax_iconst B dX0_scuff_24 ?_
  refine ax_ivI (y := yX0_tell) (n := 1) (As := [.int (Int32.ofInt (-1))]) B kd0 (lw_V q436 q438 qs1 q125 q439) (by decide +kernel) ⟨Nat.le_of_ble_eq_true rfl, Nat.le_of_ble_eq_true rfl⟩ (fun w1 e1 => mt_X0_tell l G hSF x0 (-1) _ w1 e1) rfl hl.size (by decide) dX0_scuff_25 e (fun q1 e => ?_)
  have e8 := e
  have hp : Q = _ := hp
  subst hp
  exact ax_ireturn B Z dX0_scuff_28 e8
set_option maxHeartbeats 4000000 in
theorem w_X0_scuff_45 {l : Launch} {G : ax_G} {X : ax_X} {Q : State → Prop} {h0 h : ax_H} {ls : Array Slot} (hSF : ax_SF G) (B : ax_BL l G X cX0_scuff 5 RX0 8 192) (Z : ax_Z X h0 ((some FieldType.int))) (hn : X.2.2.2.2.2.2.2.2.1.name = yX0_scuff.name) (x0 : Option Nat) {w : Int × ax_H} (hl : ax_hl ls 5 [(0, .inr (.inr x0))]) (e : f_X0_scuff_45 G.2.2 x0 h = some w) (hp : (fun w : Int × ax_H => Q = ax_Q G X h0 w.2 (some (.int (Int32.ofInt w.1)))) w) : ax_W G X Q h 45 ls [] := by
  unfold f_X0_scuff_45 at e
  refine ax_aload_n B dX0_scuff_45 rfl hl 0 rfl ?_
  refine ax_bipush B dX0_scuff_46 (by decide) ?_
  refine ax_ivI (y := yX0_tell) (n := 1) (As := [.int (Int32.ofInt (-2))]) B kd0 (lw_V q436 q438 qs1 q125 q439) (by decide +kernel) ⟨Nat.le_of_ble_eq_true rfl, Nat.le_of_ble_eq_true rfl⟩ (fun w1 e1 => mt_X0_tell l G hSF x0 (-2) _ w1 e1) rfl hl.size (by decide) dX0_scuff_48 e (fun q1 e => ?_)
  have e8 := e
  have hp : Q = _ := hp
  subst hp
  exact ax_ireturn B Z dX0_scuff_51 e8
set_option maxHeartbeats 4000000 in
theorem w_X0_scuff_99 {l : Launch} {G : ax_G} {X : ax_X} {Q : State → Prop} {h0 h : ax_H} {ls : Array Slot} (hSF : ax_SF G) (B : ax_BL l G X cX0_scuff 5 RX0 8 192) (Z : ax_Z X h0 ((some FieldType.int))) (hn : X.2.2.2.2.2.2.2.2.1.name = yX0_scuff.name) (x0 : Option Nat) (s0 : Option Nat) (s1 : Option Nat) (s2 : Option Nat) (s3 : Int) (s4 : Int) (s5 : Int) (s6 : Int) {w : Int × ax_H} (hl : ax_hl ls 5 [(0, .inr (.inr x0))]) (e : f_X0_scuff_99 G.2.2 x0 s0 s1 s2 s3 s4 s5 s6 h = some w) (hp : (fun w : Int × ax_H => Q = ax_Q G X h0 w.2 (some (.int (Int32.ofInt w.1)))) w) : ax_W G X Q h 99 ls [.int (Int32.ofInt s6), .int (Int32.ofInt s5), .int (Int32.ofInt s4), .int (Int32.ofInt s3), va_rf s2, va_rf s1, va_rf s0] := by
  unfold f_X0_scuff_99 at e
  refine ax_iiR (y := yX32_init) (n := 4) (As := [.int (Int32.ofInt s3), .int (Int32.ofInt s4), .int (Int32.ofInt s5), .int (Int32.ofInt s6)]) B q1739 q1740 q175 q1741 rfl (by decide +kernel) ⟨Nat.le_of_ble_eq_true rfl, Nat.le_of_ble_eq_true rfl⟩ (fun w1 e1 => mt_X32_init l G hSF s2 s3 s4 s5 s6 _ w1 e1) rfl hl.size (by simp only [List.map_cons, List.map_nil, List.sum_cons, List.sum_nil, va_rf_cat, ax_catI, ax_catL]; decide) dX0_scuff_99 e (fun h1 e => ?_)
  refine ax_ivI (y := yJ2_add) (n := 1) (As := [va_rf s1]) B kd42 (lw_V q1245 q1246 q1247 q129 q1248) (by decide +kernel) ⟨Nat.le_of_ble_eq_true rfl, Nat.le_of_ble_eq_true rfl⟩ (fun w1 e1 => mt_J2_add l G hSF s0 s1 _ w1 e1) rfl hl.size (by decide) dX0_scuff_102 e (fun q2 e => ?_)
  refine ax_pop B dX0_scuff_105 (rfl) ?_
  refine ax_aload_n B dX0_scuff_106 rfl hl 0 rfl ?_
  refine ax_aload_n B dX0_scuff_107 rfl hl 0 rfl ?_
  refine ax_getR B ff_X0_20_0 (fun _ _ => rfl) dX0_scuff_108 e (fun v3 e => ?_)
  refine ax_getR B ff_X0_437_1 (fun _ _ => rfl) dX0_scuff_111 e (fun v4 e => ?_)
  refine ax_ivI (y := yJ2_size) (n := 0) (As := []) B kd42 (lw_V q709 q710 q711 q129 q712) (by decide +kernel) ⟨Nat.le_of_ble_eq_true rfl, Nat.le_of_ble_eq_true rfl⟩ (fun w1 e1 => mt_J2_size l G hSF v4 _ w1 e1) rfl hl.size (by simp only [List.map_cons, List.map_nil, List.sum_cons, List.sum_nil, va_rf_cat, ax_catI, ax_catL]; decide) dX0_scuff_114 e (fun q5 e => ?_)
  refine ax_ivI (y := yX0_tell) (n := 1) (As := [.int (Int32.ofInt q5.1)]) B kd0 (lw_V q436 q438 qs1 q125 q439) (by decide +kernel) ⟨Nat.le_of_ble_eq_true rfl, Nat.le_of_ble_eq_true rfl⟩ (fun w1 e1 => mt_X0_tell l G hSF x0 q5.1 _ w1 e1) rfl hl.size (by decide) dX0_scuff_117 e (fun q6 e => ?_)
  have e8 := e
  have hp : Q = _ := hp
  subst hp
  exact ax_ireturn B Z dX0_scuff_120 e8
set_option maxHeartbeats 4000000 in
theorem we_X0_scuff {l : Launch} {G : ax_G} {X : ax_X} {Q : State → Prop} {h0 h : ax_H} {ls : Array Slot} (hSF : ax_SF G) (B : ax_BL l G X cX0_scuff 5 RX0 8 192) (Z : ax_Z X h0 ((some FieldType.int))) (hn : X.2.2.2.2.2.2.2.2.1.name = yX0_scuff.name) (x0 : Option Nat) (x1 : Int) (x2 : Int) (x3 : Int) (x4 : Int) {w : Int × ax_H} (hl : ax_hl ls 5 [(0, .inr (.inr x0)), (1, .inl x1), (2, .inl x2), (3, .inl x3), (4, .inl x4)]) (e : f_X0_scuff G.2.2 x0 x1 x2 x3 x4 h = some w) (hp : (fun w : Int × ax_H => Q = ax_Q G X h0 w.2 (some (.int (Int32.ofInt w.1)))) w) : ax_W G X Q h 0 ls [] := by
  unfold f_X0_scuff at e
  refine ax_iload_n B dX0_scuff_0 rfl hl 3 rfl ?_
  refine ax_isI (y := yX0_isRoom) (n := 1) (As := [.int (Int32.ofInt x3)]) B (lw_S q431 q432 q125 q433) (by decide +kernel) ⟨Nat.le_of_ble_eq_true rfl, Nat.le_of_ble_eq_true rfl⟩ (fun w1 e1 => mt_X0_isRoom l G hSF x3 _ w1 e1) rfl hl.size (by decide) dX0_scuff_1 e (fun q1 e => ?_)
  refine ax_if_eq (tgt := 23) B dX0_scuff_4 (by decide) e (fun e => ?_) (fun e => ?_)
  · exact w_X0_scuff_23 hSF B Z hn x0 (hl.sub [0] rfl) e hp
  · refine ax_iload B dX0_scuff_7 hl 4 rfl ?_
    refine ax_i2l' B dX0_scuff_9 ?_
    refine ax_lconst (v := 0) B dX0_scuff_10 rfl ?_
    refine ax_lconst (v := 1) B dX0_scuff_11 rfl ?_
    refine ax_isI (y := yX0_in) (n := 3) (As := [.long (Int64.ofInt (i2 x4)), .long (Int64.ofInt 0), .long (Int64.ofInt 1)]) B (lw_S q420 q421 q125 q422) (by decide +kernel) ⟨Nat.le_of_ble_eq_true rfl, Nat.le_of_ble_eq_true rfl⟩ (fun w1 e1 => mt_X0_in l G hSF (i2 x4) 0 1 _ w1 e1) rfl hl.size (by decide) dX0_scuff_12 e (fun q2 e => ?_)
    refine ax_if_eq (tgt := 23) B dX0_scuff_15 (by decide) e (fun e => ?_) (fun e => ?_)
    · exact w_X0_scuff_23 hSF B Z hn x0 (hl.sub [0] rfl) e hp
    · refine ax_iload_n B dX0_scuff_18 rfl hl 1 rfl ?_
      refine ax_iload_n B dX0_scuff_19 rfl hl 2 rfl ?_
      refine ax_icmp_ne (tgt := 29) B dX0_scuff_20 (by decide) e (fun e => ?_) (fun e => ?_)
      · exact w_X0_scuff_23 hSF B Z hn x0 (hl.sub [0] rfl) e hp
      · refine ax_aload_n B dX0_scuff_29 rfl hl 0 rfl ?_
        refine ax_iload_n B dX0_scuff_30 rfl hl 1 rfl ?_
        refine ax_ivI (y := yX0_isPerson) (n := 1) (As := [.int (Int32.ofInt x1)]) B kd0 (lw_V q459 q461 qs4 q125 q462) (by decide +kernel) ⟨Nat.le_of_ble_eq_true rfl, Nat.le_of_ble_eq_true rfl⟩ (fun w1 e1 => mt_X0_isPerson l G hSF x0 x1 _ w1 e1) rfl hl.size (by decide) dX0_scuff_31 e (fun q3 e => ?_)
        refine ax_if_eq (tgt := 45) B dX0_scuff_34 (by decide) e (fun e => ?_) (fun e => ?_)
        · exact w_X0_scuff_45 hSF B Z hn x0 (hl.sub [0] rfl) e hp
        · refine ax_aload_n B dX0_scuff_37 rfl hl 0 rfl ?_
          refine ax_iload_n B dX0_scuff_38 rfl hl 2 rfl ?_
          refine ax_ivI (y := yX0_isPerson) (n := 1) (As := [.int (Int32.ofInt x2)]) B kd0 (lw_V q459 q461 qs4 q125 q462) (by decide +kernel) ⟨Nat.le_of_ble_eq_true rfl, Nat.le_of_ble_eq_true rfl⟩ (fun w1 e1 => mt_X0_isPerson l G hSF x0 x2 _ w1 e1) rfl hl.size (by decide) dX0_scuff_39 e (fun q4 e => ?_)
          refine ax_if_ne (tgt := 52) B dX0_scuff_42 (by decide) e (fun e => ?_) (fun e => ?_)
          · exact w_X0_scuff_45 hSF B Z hn x0 (hl.sub [0] rfl) e hp
          · refine ax_aload_n B dX0_scuff_52 rfl hl 0 rfl ?_
            refine ax_getR B ff_X0_20_0 (fun _ _ => rfl) dX0_scuff_53 e (fun v5 e => ?_)
            refine ax_getR B ff_X0_437_1 (fun _ _ => rfl) dX0_scuff_56 e (fun v6 e => ?_)
            refine ax_ivI (y := yJ2_size) (n := 0) (As := []) B kd42 (lw_V q709 q710 q711 q129 q712) (by decide +kernel) ⟨Nat.le_of_ble_eq_true rfl, Nat.le_of_ble_eq_true rfl⟩ (fun w1 e1 => mt_J2_size l G hSF v6 _ w1 e1) rfl hl.size (by decide) dX0_scuff_59 e (fun q7 e => ?_)
            refine ax_bipush B dX0_scuff_62 (by decide) ?_
            refine ax_icmp_ne (tgt := 74) B dX0_scuff_64 (by decide) e (fun e => ?_) (fun e => ?_)
            · refine ax_aload_n B dX0_scuff_67 rfl hl 0 rfl ?_
              refine ax_bipush B dX0_scuff_68 (by decide) ?_
              refine ax_ivI (y := yX0_tell) (n := 1) (As := [.int (Int32.ofInt (-5))]) B kd0 (lw_V q436 q438 qs1 q125 q439) (by decide +kernel) ⟨Nat.le_of_ble_eq_true rfl, Nat.le_of_ble_eq_true rfl⟩ (fun w1 e1 => mt_X0_tell l G hSF x0 (-5) _ w1 e1) rfl hl.size (by decide) dX0_scuff_70 e (fun q8 e => ?_)
              have e8 := e
              have hp : Q = _ := hp
              subst hp
              exact ax_ireturn B Z dX0_scuff_73 e8
            · refine ax_aload_n B dX0_scuff_74 rfl hl 0 rfl ?_
              refine ax_getR B ff_X0_20_0 (fun _ _ => rfl) dX0_scuff_75 e (fun v9 e => ?_)
              refine ax_getR B ff_X0_437_1 (fun _ _ => rfl) dX0_scuff_78 e (fun v10 e => ?_)
              refine ax_new B kd32 in_X32 tyX32_ok (fun k hk => ax_dv _ (dfX32 k hk)) q1737 q1738 q175 dX0_scuff_81 e (fun q11 e => ?_)
              refine ax_dup B dX0_scuff_84 (va_rf_cat _) ?_
              refine ax_iload_n B dX0_scuff_85 rfl hl 1 rfl ?_
              refine ax_iload_n B dX0_scuff_86 rfl hl 2 rfl ?_
              refine ax_iload_n B dX0_scuff_87 rfl hl 3 rfl ?_
              refine ax_iload B dX0_scuff_88 hl 4 rfl ?_
              refine ax_iconst B dX0_scuff_90 ?_
              refine ax_icmp_ne (tgt := 98) B dX0_scuff_91 (by decide) e (fun e => ?_) (fun e => ?_)
              · refine ax_iconst B dX0_scuff_94 ?_
                refine ax_goto (tgt := 99) B dX0_scuff_95 (by decide) ?_
                exact w_X0_scuff_99 hSF B Z hn x0 v10 (some q11.1) (some q11.1) x1 x2 x3 1 (hl.sub [0] rfl) e hp
              · refine ax_iconst B dX0_scuff_98 ?_
                exact w_X0_scuff_99 hSF B Z hn x0 v10 (some q11.1) (some q11.1) x1 x2 x3 0 (hl.sub [0] rfl) e hp
theorem mt_X0_scuff (l : Launch) (G : ax_G) (hSF : ax_SF G) (x0 : Option Nat) (x1 : Int) (x2 : Int) (x3 : Int) (x4 : Int) (h : ax_H) (w : Int × ax_H) (e : f_X0_scuff G.2.2 x0 x1 x2 x3 x4 h = some w) : ax_Met l G yX0_scuff cX0_scuff 5 ((some FieldType.int)) 8 192 [va_rf x0, .int (Int32.ofInt x1), .int (Int32.ofInt x2), .int (Int32.ofInt x3), .int (Int32.ofInt x4)] h w.2 (some (.int (Int32.ofInt w.1))) :=
  ax_enter [.inr (.inr x0), .inl x1, .inl x2, .inl x3, .inl x4] (y := yX0_scuff) hSF (plainFor_of_name (by decide +kernel)) (Nat.le_of_ble_eq_true rfl) (fun X ls B Z hn hl => we_X0_scuff hSF B Z hn x0 x1 x2 x3 x4 hl e rfl)
def dkwX0_sweep_0 : List UInt8 := [42, 180, 0, 20, 180, 1, 181, 182, 0, 218, 60, 42, 180, 0, 20, 180, 1, 181, 182, 0, 91, 27, 172]
abbrev dktX0_sweep_0 : List UInt8 := dkwX0_sweep_0 ++ []
theorem dksX0_sweep_0 : cX0_sweep.data.toList.drop 0 = dktX0_sweep_0 := by decide +kernel
theorem dX0_sweep_0 : decode cX0_sweep 0 = .ok (.aload_n 0, 1) := dk_42 (dk_at dksX0_sweep_0 0 rfl rfl)
theorem dX0_sweep_1 : decode cX0_sweep 1 = .ok (.getfield 20, 3) := dk_180 0 20 (dk_at dksX0_sweep_0 1 rfl rfl)
theorem dX0_sweep_4 : decode cX0_sweep 4 = .ok (.getfield 437, 3) := dk_180 1 181 (dk_at dksX0_sweep_0 4 rfl rfl)
theorem dX0_sweep_7 : decode cX0_sweep 7 = .ok (.invokevirtual 218, 3) := dk_182 0 218 (dk_at dksX0_sweep_0 7 rfl rfl)
theorem dX0_sweep_10 : decode cX0_sweep 10 = .ok (.istore_n 1, 1) := dk_60 (dk_at dksX0_sweep_0 10 rfl rfl)
theorem dX0_sweep_11 : decode cX0_sweep 11 = .ok (.aload_n 0, 1) := dk_42 (dk_at dksX0_sweep_0 11 rfl rfl)
theorem dX0_sweep_12 : decode cX0_sweep 12 = .ok (.getfield 20, 3) := dk_180 0 20 (dk_at dksX0_sweep_0 12 rfl rfl)
theorem dX0_sweep_15 : decode cX0_sweep 15 = .ok (.getfield 437, 3) := dk_180 1 181 (dk_at dksX0_sweep_0 15 rfl rfl)
theorem dX0_sweep_18 : decode cX0_sweep 18 = .ok (.invokevirtual 91, 3) := dk_182 0 91 (dk_at dksX0_sweep_0 18 rfl rfl)
theorem dX0_sweep_21 : decode cX0_sweep 21 = .ok (.iload_n 1, 1) := dk_27 (dk_at dksX0_sweep_0 21 rfl rfl)
theorem dX0_sweep_22 : decode cX0_sweep 22 = .ok (.ireturn, 1) := dk_172 (dk_at dksX0_sweep_0 22 rfl rfl)
noncomputable def f_X0_sweep (E : ax_E) (x0 : Option Nat) (h : ax_H) : Option (Int × ax_H) :=
  (ax_gR E h x0 0 0).bind fun v1 =>
  (ax_gR E h v1 1 2).bind fun v2 =>
  (ax_ce E h v2 42).bind fun _ => (f_J2_size E v2 h).bind fun q3 =>
  (ax_gR E q3.2 x0 0 0).bind fun v4 =>
  (ax_gR E q3.2 v4 1 2).bind fun v5 =>
  (ax_ce E q3.2 v5 42).bind fun _ => (f_J2_clear E v5 q3.2).bind fun h6 =>
  some (q3.1, h6)
set_option maxHeartbeats 4000000 in
theorem we_X0_sweep {l : Launch} {G : ax_G} {X : ax_X} {Q : State → Prop} {h0 h : ax_H} {ls : Array Slot} (hSF : ax_SF G) (B : ax_BL l G X cX0_sweep 2 RX0 2 63) (Z : ax_Z X h0 ((some FieldType.int))) (hn : X.2.2.2.2.2.2.2.2.1.name = yX0_sweep.name) (x0 : Option Nat) {w : Int × ax_H} (hl : ax_hl ls 2 [(0, .inr (.inr x0))]) (e : f_X0_sweep G.2.2 x0 h = some w) (hp : (fun w : Int × ax_H => Q = ax_Q G X h0 w.2 (some (.int (Int32.ofInt w.1)))) w) : ax_W G X Q h 0 ls [] := by
  unfold f_X0_sweep at e
  refine ax_aload_n B dX0_sweep_0 rfl hl 0 rfl ?_
  refine ax_getR B ff_X0_20_0 (fun _ _ => rfl) dX0_sweep_1 e (fun v1 e => ?_)
  refine ax_getR B ff_X0_437_1 (fun _ _ => rfl) dX0_sweep_4 e (fun v2 e => ?_)
  refine ax_ivI (y := yJ2_size) (n := 0) (As := []) B kd42 (lw_V q709 q710 q711 q129 q712) (by decide +kernel) ⟨Nat.le_of_ble_eq_true rfl, Nat.le_of_ble_eq_true rfl⟩ (fun w1 e1 => mt_J2_size l G hSF v2 _ w1 e1) rfl hl.size (by decide) dX0_sweep_7 e (fun q3 e => ?_)
  refine ax_istore_n (L' := [(1, .inl q3.1), (0, .inr (.inr x0))]) B dX0_sweep_10 rfl hl (by decide) rfl (fun ls hl => ?_)
  refine ax_aload_n B dX0_sweep_11 rfl hl 1 rfl ?_
  refine ax_getR B ff_X0_20_0 (fun _ _ => rfl) dX0_sweep_12 e (fun v4 e => ?_)
  refine ax_getR B ff_X0_437_1 (fun _ _ => rfl) dX0_sweep_15 e (fun v5 e => ?_)
  refine ax_ivV (y := yJ2_clear) (n := 0) (As := []) B kd42 (lw_V q451 q452 q453 q129 q454) (by decide +kernel) ⟨Nat.le_of_ble_eq_true rfl, Nat.le_of_ble_eq_true rfl⟩ (fun w1 e1 => mt_J2_clear l G hSF v5 _ w1 e1) rfl hl.size (by decide) dX0_sweep_18 e (fun h6 e => ?_)
  refine ax_iload_n B dX0_sweep_21 rfl hl 0 rfl ?_
  have e8 := e
  have hp : Q = _ := hp
  subst hp
  exact ax_ireturn B Z dX0_sweep_22 e8
theorem mt_X0_sweep (l : Launch) (G : ax_G) (hSF : ax_SF G) (x0 : Option Nat) (h : ax_H) (w : Int × ax_H) (e : f_X0_sweep G.2.2 x0 h = some w) : ax_Met l G yX0_sweep cX0_sweep 2 ((some FieldType.int)) 2 63 [va_rf x0] h w.2 (some (.int (Int32.ofInt w.1))) :=
  ax_enter [.inr (.inr x0)] (y := yX0_sweep) hSF (plainFor_of_name (by decide +kernel)) (Nat.le_of_ble_eq_true rfl) (fun X ls B Z hn hl => we_X0_sweep hSF B Z hn x0 hl e rfl)
def dkwX0_isScuffed_3 : List UInt8 := [167, 255, 189, 4, 172]
abbrev dktX0_isScuffed_3 : List UInt8 := dkwX0_isScuffed_3 ++ []
def dkwX0_isScuffed_2 : List UInt8 := [180, 1, 191, 161, 0, 7, 4, 167, 0, 4, 3, 45, 180, 1, 192, 159, 0, 5, 3, 172, 132, 2, 1]
abbrev dktX0_isScuffed_2 : List UInt8 := dkwX0_isScuffed_2 ++ dktX0_isScuffed_3
def dkwX0_isScuffed_1 : List UInt8 := [182, 0, 242, 192, 1, 184, 78, 42, 43, 45, 180, 1, 189, 45, 180, 1, 190, 3, 182, 1, 24, 45]
abbrev dktX0_isScuffed_1 : List UInt8 := dkwX0_isScuffed_1 ++ dktX0_isScuffed_2
def dkwX0_isScuffed_0 : List UInt8 := [3, 61, 28, 42, 180, 0, 20, 180, 1, 181, 182, 0, 218, 162, 0, 59, 42, 180, 0, 20, 180, 1, 181, 28]
abbrev dktX0_isScuffed_0 : List UInt8 := dkwX0_isScuffed_0 ++ dktX0_isScuffed_1
theorem dksX0_isScuffed_0 : cX0_isScuffed.data.toList.drop 0 = dktX0_isScuffed_0 := by decide +kernel
theorem dksX0_isScuffed_1 : cX0_isScuffed.data.toList.drop 24 = dktX0_isScuffed_1 := dk_seg dksX0_isScuffed_0 24 rfl rfl
theorem dksX0_isScuffed_2 : cX0_isScuffed.data.toList.drop 46 = dktX0_isScuffed_2 := dk_seg dksX0_isScuffed_1 22 rfl rfl
theorem dksX0_isScuffed_3 : cX0_isScuffed.data.toList.drop 69 = dktX0_isScuffed_3 := dk_seg dksX0_isScuffed_2 23 rfl rfl
theorem dX0_isScuffed_0 : decode cX0_isScuffed 0 = .ok (.iconst 0, 1) := dk_3 (dk_at dksX0_isScuffed_0 0 rfl rfl)
theorem dX0_isScuffed_1 : decode cX0_isScuffed 1 = .ok (.istore_n 2, 1) := dk_61 (dk_at dksX0_isScuffed_0 1 rfl rfl)
theorem dX0_isScuffed_2 : decode cX0_isScuffed 2 = .ok (.iload_n 2, 1) := dk_28 (dk_at dksX0_isScuffed_0 2 rfl rfl)
theorem dX0_isScuffed_3 : decode cX0_isScuffed 3 = .ok (.aload_n 0, 1) := dk_42 (dk_at dksX0_isScuffed_0 3 rfl rfl)
theorem dX0_isScuffed_4 : decode cX0_isScuffed 4 = .ok (.getfield 20, 3) := dk_180 0 20 (dk_at dksX0_isScuffed_0 4 rfl rfl)
theorem dX0_isScuffed_7 : decode cX0_isScuffed 7 = .ok (.getfield 437, 3) := dk_180 1 181 (dk_at dksX0_isScuffed_0 7 rfl rfl)
theorem dX0_isScuffed_10 : decode cX0_isScuffed 10 = .ok (.invokevirtual 218, 3) := dk_182 0 218 (dk_at dksX0_isScuffed_0 10 rfl rfl)
theorem dX0_isScuffed_13 : decode cX0_isScuffed 13 = .ok (.if_icmp .ge 59, 3) := dk_162 0 59 (dk_at dksX0_isScuffed_0 13 rfl rfl)
theorem dX0_isScuffed_16 : decode cX0_isScuffed 16 = .ok (.aload_n 0, 1) := dk_42 (dk_at dksX0_isScuffed_0 16 rfl rfl)
theorem dX0_isScuffed_17 : decode cX0_isScuffed 17 = .ok (.getfield 20, 3) := dk_180 0 20 (dk_at dksX0_isScuffed_0 17 rfl rfl)
theorem dX0_isScuffed_20 : decode cX0_isScuffed 20 = .ok (.getfield 437, 3) := dk_180 1 181 (dk_at dksX0_isScuffed_0 20 rfl rfl)
theorem dX0_isScuffed_23 : decode cX0_isScuffed 23 = .ok (.iload_n 2, 1) := dk_28 (dk_at dksX0_isScuffed_0 23 rfl rfl)
theorem dX0_isScuffed_24 : decode cX0_isScuffed 24 = .ok (.invokevirtual 242, 3) := dk_182 0 242 (dk_at dksX0_isScuffed_1 0 rfl rfl)
theorem dX0_isScuffed_27 : decode cX0_isScuffed 27 = .ok (.checkcast 440, 3) := dk_192 1 184 (dk_at dksX0_isScuffed_1 3 rfl rfl)
theorem dX0_isScuffed_30 : decode cX0_isScuffed 30 = .ok (.astore_n 3, 1) := dk_78 (dk_at dksX0_isScuffed_1 6 rfl rfl)
theorem dX0_isScuffed_31 : decode cX0_isScuffed 31 = .ok (.aload_n 0, 1) := dk_42 (dk_at dksX0_isScuffed_1 7 rfl rfl)
theorem dX0_isScuffed_32 : decode cX0_isScuffed 32 = .ok (.aload_n 1, 1) := dk_43 (dk_at dksX0_isScuffed_1 8 rfl rfl)
theorem dX0_isScuffed_33 : decode cX0_isScuffed 33 = .ok (.aload_n 3, 1) := dk_45 (dk_at dksX0_isScuffed_1 9 rfl rfl)
theorem dX0_isScuffed_34 : decode cX0_isScuffed 34 = .ok (.getfield 445, 3) := dk_180 1 189 (dk_at dksX0_isScuffed_1 10 rfl rfl)
theorem dX0_isScuffed_37 : decode cX0_isScuffed 37 = .ok (.aload_n 3, 1) := dk_45 (dk_at dksX0_isScuffed_1 13 rfl rfl)
theorem dX0_isScuffed_38 : decode cX0_isScuffed 38 = .ok (.getfield 446, 3) := dk_180 1 190 (dk_at dksX0_isScuffed_1 14 rfl rfl)
theorem dX0_isScuffed_41 : decode cX0_isScuffed 41 = .ok (.iconst 0, 1) := dk_3 (dk_at dksX0_isScuffed_1 17 rfl rfl)
theorem dX0_isScuffed_42 : decode cX0_isScuffed 42 = .ok (.invokevirtual 280, 3) := dk_182 1 24 (dk_at dksX0_isScuffed_1 18 rfl rfl)
theorem dX0_isScuffed_45 : decode cX0_isScuffed 45 = .ok (.aload_n 3, 1) := dk_45 (dk_at dksX0_isScuffed_1 21 rfl rfl)
theorem dX0_isScuffed_46 : decode cX0_isScuffed 46 = .ok (.getfield 447, 3) := dk_180 1 191 (dk_at dksX0_isScuffed_2 0 rfl rfl)
theorem dX0_isScuffed_49 : decode cX0_isScuffed 49 = .ok (.if_icmp .lt 7, 3) := dk_161 0 7 (dk_at dksX0_isScuffed_2 3 rfl rfl)
theorem dX0_isScuffed_52 : decode cX0_isScuffed 52 = .ok (.iconst 1, 1) := dk_4 (dk_at dksX0_isScuffed_2 6 rfl rfl)
theorem dX0_isScuffed_53 : decode cX0_isScuffed 53 = .ok (.goto 4, 3) := dk_167 0 4 (dk_at dksX0_isScuffed_2 7 rfl rfl)
theorem dX0_isScuffed_56 : decode cX0_isScuffed 56 = .ok (.iconst 0, 1) := dk_3 (dk_at dksX0_isScuffed_2 10 rfl rfl)
theorem dX0_isScuffed_57 : decode cX0_isScuffed 57 = .ok (.aload_n 3, 1) := dk_45 (dk_at dksX0_isScuffed_2 11 rfl rfl)
theorem dX0_isScuffed_58 : decode cX0_isScuffed 58 = .ok (.getfield 448, 3) := dk_180 1 192 (dk_at dksX0_isScuffed_2 12 rfl rfl)
theorem dX0_isScuffed_61 : decode cX0_isScuffed 61 = .ok (.if_icmp .eq 5, 3) := dk_159 0 5 (dk_at dksX0_isScuffed_2 15 rfl rfl)
theorem dX0_isScuffed_64 : decode cX0_isScuffed 64 = .ok (.iconst 0, 1) := dk_3 (dk_at dksX0_isScuffed_2 18 rfl rfl)
theorem dX0_isScuffed_65 : decode cX0_isScuffed 65 = .ok (.ireturn, 1) := dk_172 (dk_at dksX0_isScuffed_2 19 rfl rfl)
theorem dX0_isScuffed_66 : decode cX0_isScuffed 66 = .ok (.iinc 2 1, 3) := dk_132 2 1 (dk_at dksX0_isScuffed_2 20 rfl rfl)
theorem dX0_isScuffed_69 : decode cX0_isScuffed 69 = .ok (.goto (-67), 3) := dk_167 255 189 (dk_at dksX0_isScuffed_3 0 rfl rfl)
theorem dX0_isScuffed_72 : decode cX0_isScuffed 72 = .ok (.iconst 1, 1) := dk_4 (dk_at dksX0_isScuffed_3 3 rfl rfl)
theorem dX0_isScuffed_73 : decode cX0_isScuffed 73 = .ok (.ireturn, 1) := dk_172 (dk_at dksX0_isScuffed_3 4 rfl rfl)
noncomputable def f_X0_isScuffed_57 (E : ax_E) (x0 : Option Nat) (x1 : Option Nat) (x2 : Int) (x3 : Option Nat) (s0 : Int) (h : ax_H) : Option ((Int × ax_H) ⊕ (Int × ax_H)) :=
  (ax_gI E h x3 32 3).bind fun v1 =>
  if i2 s0 = i2 v1 then
    some (.inl ((x2 + 1), h))
  else
    (some (0, h)).map Sum.inr
noncomputable def lb_X0_isScuffed_2 (E : ax_E) (x0 : Option Nat) (x1 : Option Nat) (x2 : Int) (h : ax_H) : Option ((Int × ax_H) ⊕ (Int × ax_H)) :=
  (ax_gR E h x0 0 0).bind fun v1 =>
  (ax_gR E h v1 1 2).bind fun v2 =>
  (ax_ce E h v2 42).bind fun _ => (f_J2_size E v2 h).bind fun q3 =>
  if i2 x2 < i2 q3.1 then
    (ax_gR E q3.2 x0 0 0).bind fun v4 =>
    (ax_gR E q3.2 v4 1 2).bind fun v5 =>
    (ax_ce E q3.2 v5 42).bind fun _ => (f_J2_get E v5 x2 q3.2).bind fun q6 =>
    (ax_cc E q6.2 q6.1 32).bind fun _ =>
    (ax_gI E q6.2 q6.1 32 1).bind fun v7 =>
    (ax_gI E q6.2 q6.1 32 0).bind fun v8 =>
    (ax_ce E q6.2 x0 0).bind fun _ => (f_X0_deepIn E x0 x1 v7 v8 0 q6.2).bind fun q9 =>
    (ax_gI E q9.2 q6.1 32 2).bind fun v10 =>
    if i2 q9.1 < i2 v10 then
      f_X0_isScuffed_57 E x0 x1 x2 q6.1 0 q9.2
    else
      f_X0_isScuffed_57 E x0 x1 x2 q6.1 1 q9.2
  else
    (some (1, q3.2)).map Sum.inr
noncomputable def f_X0_isScuffed_2 (E : ax_E) (x0 : Option Nat) (x1 : Option Nat) (x2 : Int) (h : ax_H) : Option (Int × ax_H) :=
  ax_iter (fun s : Int × ax_H => lb_X0_isScuffed_2 E x0 x1 s.1 s.2) (x2, h)
noncomputable def f_X0_isScuffed (E : ax_E) (x0 : Option Nat) (x1 : Option Nat) (h : ax_H) : Option (Int × ax_H) :=
  f_X0_isScuffed_2 E x0 x1 0 h
def pi_X0_isScuffed_2 (G : ax_G) (X : ax_X) (Q : State → Prop) (x0 : Option Nat) (x1 : Option Nat) : Int × ax_H → Prop := fun s => ∀ ls : Array Slot, ax_hl ls 4 [(0, .inr (.inr x0)), (1, .inr (.inr x1)), (2, .inl s.1)] → ax_W G X Q s.2 2 ls []
set_option maxHeartbeats 4000000 in
theorem w_X0_isScuffed_57 {l : Launch} {G : ax_G} {X : ax_X} {Q : State → Prop} {h0 h : ax_H} {ls : Array Slot} (hSF : ax_SF G) (B : ax_BL l G X cX0_isScuffed 4 RX0 140 3568) (Z : ax_Z X h0 ((some FieldType.boolean))) (hn : X.2.2.2.2.2.2.2.2.1.name = yX0_isScuffed.name) (x0 : Option Nat) (x1 : Option Nat) (x2 : Int) (x3 : Option Nat) (s0 : Int) {w : (Int × ax_H) ⊕ (Int × ax_H)} (hl : ax_hl ls 4 [(0, .inr (.inr x0)), (1, .inr (.inr x1)), (2, .inl x2), (3, .inr (.inr x3))]) (e : f_X0_isScuffed_57 G.2.2 x0 x1 x2 x3 s0 h = some w) (hp : (ax_PL (pi_X0_isScuffed_2 G X Q x0 x1) (fun w : Int × ax_H => Q = ax_Q G X h0 w.2 (some (.int (Int32.ofInt w.1))))) w) : ax_W G X Q h 57 ls [.int (Int32.ofInt s0)] := by
  unfold f_X0_isScuffed_57 at e
  refine ax_aload_n B dX0_isScuffed_57 rfl hl 3 rfl ?_
  refine ax_getI B ff_X0_448_32 (fun _ _ => rfl) dX0_isScuffed_58 e (fun v1 e => ?_)
  refine ax_icmp_eq (tgt := 66) B dX0_isScuffed_61 (by decide) e (fun e => ?_) (fun e => ?_)
  · refine ax_iinc (L' := [(2, .inl (x2 + 1)), (0, .inr (.inr x0)), (1, .inr (.inr x1)), (3, .inr (.inr x3))]) B dX0_isScuffed_66 hl 2 rfl (by decide) rfl (fun ls hl => ?_)
    refine ax_goto (tgt := 2) B dX0_isScuffed_69 (by decide) ?_
    cases e
    exact hp _ (hl.sub [1, 2, 0] rfl)
  · obtain ⟨w, e9_1, rfl⟩ := Option.map_eq_some_iff.mp e
    have e := e9_1
    refine ax_iconst B dX0_isScuffed_64 ?_
    have e8 := e
    have hp : Q = _ := hp
    subst hp
    exact ax_zreturnL (by decide) B Z dX0_isScuffed_65 e8
set_option maxHeartbeats 4000000 in
theorem wb_X0_isScuffed_2 {l : Launch} {G : ax_G} {X : ax_X} {Q : State → Prop} {h0 h : ax_H} {ls : Array Slot} (hSF : ax_SF G) (B : ax_BL l G X cX0_isScuffed 4 RX0 140 3568) (Z : ax_Z X h0 ((some FieldType.boolean))) (hn : X.2.2.2.2.2.2.2.2.1.name = yX0_isScuffed.name) (x0 : Option Nat) (x1 : Option Nat) (x2 : Int) {w : (Int × ax_H) ⊕ (Int × ax_H)} (hl : ax_hl ls 4 [(0, .inr (.inr x0)), (1, .inr (.inr x1)), (2, .inl x2)]) (e : lb_X0_isScuffed_2 G.2.2 x0 x1 x2 h = some w) (hp : (ax_PL (pi_X0_isScuffed_2 G X Q x0 x1) (fun w : Int × ax_H => Q = ax_Q G X h0 w.2 (some (.int (Int32.ofInt w.1))))) w) : ax_W G X Q h 2 ls [] := by
  unfold lb_X0_isScuffed_2 at e
  refine ax_iload_n B dX0_isScuffed_2 rfl hl 2 rfl ?_
  refine ax_aload_n B dX0_isScuffed_3 rfl hl 0 rfl ?_
  refine ax_getR B ff_X0_20_0 (fun _ _ => rfl) dX0_isScuffed_4 e (fun v1 e => ?_)
  refine ax_getR B ff_X0_437_1 (fun _ _ => rfl) dX0_isScuffed_7 e (fun v2 e => ?_)
  refine ax_ivI (y := yJ2_size) (n := 0) (As := []) B kd42 (lw_V q709 q710 q711 q129 q712) (by decide +kernel) ⟨Nat.le_of_ble_eq_true rfl, Nat.le_of_ble_eq_true rfl⟩ (fun w1 e1 => mt_J2_size l G hSF v2 _ w1 e1) rfl hl.size (by simp only [List.map_cons, List.map_nil, List.sum_cons, List.sum_nil, va_rf_cat, ax_catI, ax_catL]; decide) dX0_isScuffed_10 e (fun q3 e => ?_)
  refine ax_icmp_ge (tgt := 72) B dX0_isScuffed_13 (by decide) e (fun e => ?_) (fun e => ?_)
  · refine ax_aload_n B dX0_isScuffed_16 rfl hl 0 rfl ?_
    refine ax_getR B ff_X0_20_0 (fun _ _ => rfl) dX0_isScuffed_17 e (fun v4 e => ?_)
    refine ax_getR B ff_X0_437_1 (fun _ _ => rfl) dX0_isScuffed_20 e (fun v5 e => ?_)
    refine ax_iload_n B dX0_isScuffed_23 rfl hl 2 rfl ?_
    refine ax_ivR (y := yJ2_get) (n := 1) (As := [.int (Int32.ofInt x2)]) B kd42 (lw_V q524 q525 q526 q129 q527) (by decide +kernel) ⟨Nat.le_of_ble_eq_true rfl, Nat.le_of_ble_eq_true rfl⟩ (fun w1 e1 => mt_J2_get l G hSF v5 x2 _ w1 e1) rfl hl.size (by decide) dX0_isScuffed_24 e (fun q6 e => ?_)
    refine ax_ckc B kd32 q1737 dX0_isScuffed_27 e (fun e => ?_)
    refine ax_astore_n (L' := [(3, .inr (.inr q6.1)), (0, .inr (.inr x0)), (1, .inr (.inr x1)), (2, .inl x2)]) B dX0_isScuffed_30 rfl hl (by decide) rfl (fun ls hl => ?_)
    refine ax_aload_n B dX0_isScuffed_31 rfl hl 1 rfl ?_
    refine ax_aload_n B dX0_isScuffed_32 rfl hl 2 rfl ?_
    refine ax_aload_n B dX0_isScuffed_33 rfl hl 0 rfl ?_
    refine ax_getI B ff_X0_445_32 (fun _ _ => rfl) dX0_isScuffed_34 e (fun v7 e => ?_)
    refine ax_aload_n B dX0_isScuffed_37 rfl hl 0 rfl ?_
    refine ax_getI B ff_X0_446_32 (fun _ _ => rfl) dX0_isScuffed_38 e (fun v8 e => ?_)
    refine ax_iconst B dX0_isScuffed_41 ?_
    refine ax_ivI (y := yX0_deepIn) (n := 4) (As := [va_rf x1, .int (Int32.ofInt v7), .int (Int32.ofInt v8), .int (Int32.ofInt 0)]) B kd0 (lw_V q1330 q1332 qs22 q125 q1333) (by decide +kernel) ⟨Nat.le_of_ble_eq_true rfl, Nat.le_of_ble_eq_true rfl⟩ (fun w1 e1 => mt_X0_deepIn l G hSF x0 x1 v7 v8 0 _ w1 e1) rfl hl.size (by decide) dX0_isScuffed_42 e (fun q9 e => ?_)
    refine ax_aload_n B dX0_isScuffed_45 rfl hl 0 rfl ?_
    refine ax_getI B ff_X0_447_32 (fun _ _ => rfl) dX0_isScuffed_46 e (fun v10 e => ?_)
    refine ax_icmp_lt (tgt := 56) B dX0_isScuffed_49 (by decide) e (fun e => ?_) (fun e => ?_)
    · refine ax_iconst B dX0_isScuffed_56 ?_
      exact w_X0_isScuffed_57 hSF B Z hn x0 x1 x2 q6.1 0 (hl.sub [1, 2, 3, 0] rfl) e hp
    · refine ax_iconst B dX0_isScuffed_52 ?_
      refine ax_goto (tgt := 57) B dX0_isScuffed_53 (by decide) ?_
      exact w_X0_isScuffed_57 hSF B Z hn x0 x1 x2 q6.1 1 (hl.sub [1, 2, 3, 0] rfl) e hp
  · obtain ⟨w, e9_2, rfl⟩ := Option.map_eq_some_iff.mp e
    have e := e9_2
    refine ax_iconst B dX0_isScuffed_72 ?_
    have e8 := e
    have hp : Q = _ := hp
    subst hp
    exact ax_zreturnL (by decide) B Z dX0_isScuffed_73 e8
theorem w_X0_isScuffed_2 {l : Launch} {G : ax_G} {X : ax_X} {Q : State → Prop} {h0 h : ax_H} {ls : Array Slot} (hSF : ax_SF G) (B : ax_BL l G X cX0_isScuffed 4 RX0 140 3568) (Z : ax_Z X h0 ((some FieldType.boolean))) (hn : X.2.2.2.2.2.2.2.2.1.name = yX0_isScuffed.name) (x0 : Option Nat) (x1 : Option Nat) (x2 : Int) {w : Int × ax_H} (hl : ax_hl ls 4 [(0, .inr (.inr x0)), (1, .inr (.inr x1)), (2, .inl x2)]) (e : f_X0_isScuffed_2 G.2.2 x0 x1 x2 h = some w) (hp : (fun w : Int × ax_H => Q = ax_Q G X h0 w.2 (some (.int (Int32.ofInt w.1)))) w) : ax_W G X Q h 2 ls [] :=
  ax_iter_W (Pin := pi_X0_isScuffed_2 G X Q x0 x1) (Pout := (fun w : Int × ax_H => Q = ax_Q G X h0 w.2 (some (.int (Int32.ofInt w.1))))) (fun s w e hp ls hl => wb_X0_isScuffed_2 hSF B Z hn x0 x1 s.1 hl e hp) _ _ e hp ls hl
set_option maxHeartbeats 4000000 in
theorem we_X0_isScuffed {l : Launch} {G : ax_G} {X : ax_X} {Q : State → Prop} {h0 h : ax_H} {ls : Array Slot} (hSF : ax_SF G) (B : ax_BL l G X cX0_isScuffed 4 RX0 140 3568) (Z : ax_Z X h0 ((some FieldType.boolean))) (hn : X.2.2.2.2.2.2.2.2.1.name = yX0_isScuffed.name) (x0 : Option Nat) (x1 : Option Nat) {w : Int × ax_H} (hl : ax_hl ls 4 [(0, .inr (.inr x0)), (1, .inr (.inr x1))]) (e : f_X0_isScuffed G.2.2 x0 x1 h = some w) (hp : (fun w : Int × ax_H => Q = ax_Q G X h0 w.2 (some (.int (Int32.ofInt w.1)))) w) : ax_W G X Q h 0 ls [] := by
  unfold f_X0_isScuffed at e
  refine ax_iconst B dX0_isScuffed_0 ?_
  refine ax_istore_n (L' := [(2, .inl 0), (0, .inr (.inr x0)), (1, .inr (.inr x1))]) B dX0_isScuffed_1 rfl hl (by decide) rfl (fun ls hl => ?_)
  exact w_X0_isScuffed_2 hSF B Z hn x0 x1 0 (hl.sub [1, 2, 0] rfl) e hp
theorem mt_X0_isScuffed (l : Launch) (G : ax_G) (hSF : ax_SF G) (x0 : Option Nat) (x1 : Option Nat) (h : ax_H) (w : Int × ax_H) (e : f_X0_isScuffed G.2.2 x0 x1 h = some w) : ax_Met l G yX0_isScuffed cX0_isScuffed 4 ((some FieldType.boolean)) 140 3568 [va_rf x0, va_rf x1] h w.2 (some (.int (Int32.ofInt w.1))) :=
  ax_enter [.inr (.inr x0), .inr (.inr x1)] (y := yX0_isScuffed) hSF (plainFor_of_name (by decide +kernel)) (Nat.le_of_ble_eq_true rfl) (fun X ls B Z hn hl => we_X0_isScuffed hSF B Z hn x0 x1 hl e rfl)
def dkwX0_secret_5 : List UInt8 := [172]
abbrev dktX0_secret_5 : List UInt8 := dkwX0_secret_5 ++ []
def dkwX0_secret_4 : List UInt8 := [160, 0, 5, 29, 172, 132, 2, 1, 132, 3, 1, 167, 255, 158, 27, 2, 160, 0, 7, 28, 167, 0, 4, 2]
abbrev dktX0_secret_4 : List UInt8 := dkwX0_secret_4 ++ dktX0_secret_5
def dkwX0_secret_3 : List UInt8 := [4, 96, 104, 182, 0, 154, 42, 42, 180, 0, 74, 182, 1, 195, 154, 0, 6, 167, 0, 13, 28, 27]
abbrev dktX0_secret_3 : List UInt8 := dkwX0_secret_3 ++ dktX0_secret_4
def dkwX0_secret_2 : List UInt8 := [167, 0, 54, 42, 180, 0, 74, 42, 182, 0, 104, 182, 1, 36, 21, 4, 21, 5, 16, 20, 29, 16, 10, 112]
abbrev dktX0_secret_2 : List UInt8 := dkwX0_secret_2 ++ dktX0_secret_3
def dkwX0_secret_1 : List UInt8 := [54, 4, 29, 16, 10, 108, 16, 7, 112, 54, 5, 42, 21, 4, 21, 5, 182, 0, 184, 154, 0, 6]
abbrev dktX0_secret_1 : List UInt8 := dkwX0_secret_1 ++ dktX0_secret_2
def dkwX0_secret_0 : List UInt8 := [3, 61, 3, 62, 29, 17, 1, 234, 162, 0, 97, 27, 2, 161, 0, 92, 29, 16, 10, 108, 16, 7, 108]
abbrev dktX0_secret_0 : List UInt8 := dkwX0_secret_0 ++ dktX0_secret_1
theorem dksX0_secret_0 : cX0_secret.data.toList.drop 0 = dktX0_secret_0 := by decide +kernel
theorem dksX0_secret_1 : cX0_secret.data.toList.drop 23 = dktX0_secret_1 := dk_seg dksX0_secret_0 23 rfl rfl
theorem dksX0_secret_2 : cX0_secret.data.toList.drop 45 = dktX0_secret_2 := dk_seg dksX0_secret_1 22 rfl rfl
theorem dksX0_secret_3 : cX0_secret.data.toList.drop 69 = dktX0_secret_3 := dk_seg dksX0_secret_2 24 rfl rfl
theorem dksX0_secret_4 : cX0_secret.data.toList.drop 91 = dktX0_secret_4 := dk_seg dksX0_secret_3 22 rfl rfl
theorem dksX0_secret_5 : cX0_secret.data.toList.drop 115 = dktX0_secret_5 := dk_seg dksX0_secret_4 24 rfl rfl
theorem dX0_secret_0 : decode cX0_secret 0 = .ok (.iconst 0, 1) := dk_3 (dk_at dksX0_secret_0 0 rfl rfl)
theorem dX0_secret_1 : decode cX0_secret 1 = .ok (.istore_n 2, 1) := dk_61 (dk_at dksX0_secret_0 1 rfl rfl)
theorem dX0_secret_2 : decode cX0_secret 2 = .ok (.iconst 0, 1) := dk_3 (dk_at dksX0_secret_0 2 rfl rfl)
theorem dX0_secret_3 : decode cX0_secret 3 = .ok (.istore_n 3, 1) := dk_62 (dk_at dksX0_secret_0 3 rfl rfl)
theorem dX0_secret_4 : decode cX0_secret 4 = .ok (.iload_n 3, 1) := dk_29 (dk_at dksX0_secret_0 4 rfl rfl)
theorem dX0_secret_5 : decode cX0_secret 5 = .ok (.sipush 490, 3) := dk_17 1 234 (dk_at dksX0_secret_0 5 rfl rfl)
theorem dX0_secret_8 : decode cX0_secret 8 = .ok (.if_icmp .ge 97, 3) := dk_162 0 97 (dk_at dksX0_secret_0 8 rfl rfl)
theorem dX0_secret_11 : decode cX0_secret 11 = .ok (.iload_n 1, 1) := dk_27 (dk_at dksX0_secret_0 11 rfl rfl)
theorem dX0_secret_12 : decode cX0_secret 12 = .ok (.iconst (-1), 1) := dk_2 (dk_at dksX0_secret_0 12 rfl rfl)
theorem dX0_secret_13 : decode cX0_secret 13 = .ok (.if_icmp .lt 92, 3) := dk_161 0 92 (dk_at dksX0_secret_0 13 rfl rfl)
theorem dX0_secret_16 : decode cX0_secret 16 = .ok (.iload_n 3, 1) := dk_29 (dk_at dksX0_secret_0 16 rfl rfl)
theorem dX0_secret_17 : decode cX0_secret 17 = .ok (.bipush 10, 2) := dk_16 10 (dk_at dksX0_secret_0 17 rfl rfl)
theorem dX0_secret_19 : decode cX0_secret 19 = .ok (.idiv, 1) := dk_108 (dk_at dksX0_secret_0 19 rfl rfl)
theorem dX0_secret_20 : decode cX0_secret 20 = .ok (.bipush 7, 2) := dk_16 7 (dk_at dksX0_secret_0 20 rfl rfl)
theorem dX0_secret_22 : decode cX0_secret 22 = .ok (.idiv, 1) := dk_108 (dk_at dksX0_secret_0 22 rfl rfl)
theorem dX0_secret_23 : decode cX0_secret 23 = .ok (.istore 4, 2) := dk_54 4 (dk_at dksX0_secret_1 0 rfl rfl)
theorem dX0_secret_25 : decode cX0_secret 25 = .ok (.iload_n 3, 1) := dk_29 (dk_at dksX0_secret_1 2 rfl rfl)
theorem dX0_secret_26 : decode cX0_secret 26 = .ok (.bipush 10, 2) := dk_16 10 (dk_at dksX0_secret_1 3 rfl rfl)
theorem dX0_secret_28 : decode cX0_secret 28 = .ok (.idiv, 1) := dk_108 (dk_at dksX0_secret_1 5 rfl rfl)
theorem dX0_secret_29 : decode cX0_secret 29 = .ok (.bipush 7, 2) := dk_16 7 (dk_at dksX0_secret_1 6 rfl rfl)
theorem dX0_secret_31 : decode cX0_secret 31 = .ok (.irem, 1) := dk_112 (dk_at dksX0_secret_1 8 rfl rfl)
theorem dX0_secret_32 : decode cX0_secret 32 = .ok (.istore 5, 2) := dk_54 5 (dk_at dksX0_secret_1 9 rfl rfl)
theorem dX0_secret_34 : decode cX0_secret 34 = .ok (.aload_n 0, 1) := dk_42 (dk_at dksX0_secret_1 11 rfl rfl)
theorem dX0_secret_35 : decode cX0_secret 35 = .ok (.iload 4, 2) := dk_21 4 (dk_at dksX0_secret_1 12 rfl rfl)
theorem dX0_secret_37 : decode cX0_secret 37 = .ok (.iload 5, 2) := dk_21 5 (dk_at dksX0_secret_1 14 rfl rfl)
theorem dX0_secret_39 : decode cX0_secret 39 = .ok (.invokevirtual 184, 3) := dk_182 0 184 (dk_at dksX0_secret_1 16 rfl rfl)
theorem dX0_secret_42 : decode cX0_secret 42 = .ok (.ifCond .ne 6, 3) := dk_154 0 6 (dk_at dksX0_secret_1 19 rfl rfl)
theorem dX0_secret_45 : decode cX0_secret 45 = .ok (.goto 54, 3) := dk_167 0 54 (dk_at dksX0_secret_2 0 rfl rfl)
theorem dX0_secret_48 : decode cX0_secret 48 = .ok (.aload_n 0, 1) := dk_42 (dk_at dksX0_secret_2 3 rfl rfl)
theorem dX0_secret_49 : decode cX0_secret 49 = .ok (.getfield 74, 3) := dk_180 0 74 (dk_at dksX0_secret_2 4 rfl rfl)
theorem dX0_secret_52 : decode cX0_secret 52 = .ok (.aload_n 0, 1) := dk_42 (dk_at dksX0_secret_2 7 rfl rfl)
theorem dX0_secret_53 : decode cX0_secret 53 = .ok (.invokevirtual 104, 3) := dk_182 0 104 (dk_at dksX0_secret_2 8 rfl rfl)
theorem dX0_secret_56 : decode cX0_secret 56 = .ok (.invokevirtual 292, 3) := dk_182 1 36 (dk_at dksX0_secret_2 11 rfl rfl)
theorem dX0_secret_59 : decode cX0_secret 59 = .ok (.iload 4, 2) := dk_21 4 (dk_at dksX0_secret_2 14 rfl rfl)
theorem dX0_secret_61 : decode cX0_secret 61 = .ok (.iload 5, 2) := dk_21 5 (dk_at dksX0_secret_2 16 rfl rfl)
theorem dX0_secret_63 : decode cX0_secret 63 = .ok (.bipush 20, 2) := dk_16 20 (dk_at dksX0_secret_2 18 rfl rfl)
theorem dX0_secret_65 : decode cX0_secret 65 = .ok (.iload_n 3, 1) := dk_29 (dk_at dksX0_secret_2 20 rfl rfl)
theorem dX0_secret_66 : decode cX0_secret 66 = .ok (.bipush 10, 2) := dk_16 10 (dk_at dksX0_secret_2 21 rfl rfl)
theorem dX0_secret_68 : decode cX0_secret 68 = .ok (.irem, 1) := dk_112 (dk_at dksX0_secret_2 23 rfl rfl)
theorem dX0_secret_69 : decode cX0_secret 69 = .ok (.iconst 1, 1) := dk_4 (dk_at dksX0_secret_3 0 rfl rfl)
theorem dX0_secret_70 : decode cX0_secret 70 = .ok (.iadd, 1) := dk_96 (dk_at dksX0_secret_3 1 rfl rfl)
theorem dX0_secret_71 : decode cX0_secret 71 = .ok (.imul, 1) := dk_104 (dk_at dksX0_secret_3 2 rfl rfl)
theorem dX0_secret_72 : decode cX0_secret 72 = .ok (.invokevirtual 154, 3) := dk_182 0 154 (dk_at dksX0_secret_3 3 rfl rfl)
theorem dX0_secret_75 : decode cX0_secret 75 = .ok (.aload_n 0, 1) := dk_42 (dk_at dksX0_secret_3 6 rfl rfl)
theorem dX0_secret_76 : decode cX0_secret 76 = .ok (.aload_n 0, 1) := dk_42 (dk_at dksX0_secret_3 7 rfl rfl)
theorem dX0_secret_77 : decode cX0_secret 77 = .ok (.getfield 74, 3) := dk_180 0 74 (dk_at dksX0_secret_3 8 rfl rfl)
theorem dX0_secret_80 : decode cX0_secret 80 = .ok (.invokevirtual 451, 3) := dk_182 1 195 (dk_at dksX0_secret_3 11 rfl rfl)
theorem dX0_secret_83 : decode cX0_secret 83 = .ok (.ifCond .ne 6, 3) := dk_154 0 6 (dk_at dksX0_secret_3 14 rfl rfl)
theorem dX0_secret_86 : decode cX0_secret 86 = .ok (.goto 13, 3) := dk_167 0 13 (dk_at dksX0_secret_3 17 rfl rfl)
theorem dX0_secret_89 : decode cX0_secret 89 = .ok (.iload_n 2, 1) := dk_28 (dk_at dksX0_secret_3 20 rfl rfl)
theorem dX0_secret_90 : decode cX0_secret 90 = .ok (.iload_n 1, 1) := dk_27 (dk_at dksX0_secret_3 21 rfl rfl)
theorem dX0_secret_91 : decode cX0_secret 91 = .ok (.if_icmp .ne 5, 3) := dk_160 0 5 (dk_at dksX0_secret_4 0 rfl rfl)
theorem dX0_secret_94 : decode cX0_secret 94 = .ok (.iload_n 3, 1) := dk_29 (dk_at dksX0_secret_4 3 rfl rfl)
theorem dX0_secret_95 : decode cX0_secret 95 = .ok (.ireturn, 1) := dk_172 (dk_at dksX0_secret_4 4 rfl rfl)
theorem dX0_secret_96 : decode cX0_secret 96 = .ok (.iinc 2 1, 3) := dk_132 2 1 (dk_at dksX0_secret_4 5 rfl rfl)
theorem dX0_secret_99 : decode cX0_secret 99 = .ok (.iinc 3 1, 3) := dk_132 3 1 (dk_at dksX0_secret_4 8 rfl rfl)
theorem dX0_secret_102 : decode cX0_secret 102 = .ok (.goto (-98), 3) := dk_167 255 158 (dk_at dksX0_secret_4 11 rfl rfl)
theorem dX0_secret_105 : decode cX0_secret 105 = .ok (.iload_n 1, 1) := dk_27 (dk_at dksX0_secret_4 14 rfl rfl)
theorem dX0_secret_106 : decode cX0_secret 106 = .ok (.iconst (-1), 1) := dk_2 (dk_at dksX0_secret_4 15 rfl rfl)
theorem dX0_secret_107 : decode cX0_secret 107 = .ok (.if_icmp .ne 7, 3) := dk_160 0 7 (dk_at dksX0_secret_4 16 rfl rfl)
theorem dX0_secret_110 : decode cX0_secret 110 = .ok (.iload_n 2, 1) := dk_28 (dk_at dksX0_secret_4 19 rfl rfl)
theorem dX0_secret_111 : decode cX0_secret 111 = .ok (.goto 4, 3) := dk_167 0 4 (dk_at dksX0_secret_4 20 rfl rfl)
theorem dX0_secret_114 : decode cX0_secret 114 = .ok (.iconst (-1), 1) := dk_2 (dk_at dksX0_secret_4 23 rfl rfl)
theorem dX0_secret_115 : decode cX0_secret 115 = .ok (.ireturn, 1) := dk_172 (dk_at dksX0_secret_5 0 rfl rfl)
noncomputable def f_X0_secret_99 (E : ax_E) (x0 : Option Nat) (x1 : Int) (x2 : Int) (x3 : Int) (h : ax_H) : Option ((Int × Int × ax_H) ⊕ (Int × ax_H)) :=
  some (.inl (x2, (x3 + 1), h))
noncomputable def f_X0_secret_105 (E : ax_E) (x1 : Int) (x2 : Int) (h : ax_H) : Option (Int × ax_H) :=
  if i2 x1 = i2 (-1) then
    some (x2, h)
  else
    some ((-1), h)
noncomputable def lb_X0_secret_4 (E : ax_E) (x0 : Option Nat) (x1 : Int) (x2 : Int) (x3 : Int) (h : ax_H) : Option ((Int × Int × ax_H) ⊕ (Int × ax_H)) :=
  if i2 x3 < i2 490 then
    if i2 x1 < i2 (-1) then
      (f_X0_secret_105 E x1 x2 h).map Sum.inr
    else
      if i2 10 = 0 then none else
      if i2 7 = 0 then none else
      if i2 10 = 0 then none else
      if i2 7 = 0 then none else
      (ax_ce E h x0 0).bind fun _ => (f_X0_areTwo E x0 ((i2 ((i2 x3).tdiv (i2 10))).tdiv (i2 7)) ((i2 ((i2 x3).tdiv (i2 10))).tmod (i2 7)) h).bind fun q1 =>
      if i2 q1.1 = 0 then
        f_X0_secret_99 E x0 x1 x2 x3 q1.2
      else
        (ax_gR E q1.2 x0 0 13).bind fun v2 =>
        (ax_ce E q1.2 x0 0).bind fun _ => (f_X0_books E x0 q1.2).bind fun q3 =>
        (ax_ce E q3.2 v2 2).bind fun _ => (f_X2_as E v2 q3.1 q3.2).bind fun q4 =>
        if i2 10 = 0 then none else
        (ax_ce E q4.2 q4.1 2).bind fun _ => (f_X2_add E q4.1 ((i2 ((i2 x3).tdiv (i2 10))).tdiv (i2 7)) ((i2 ((i2 x3).tdiv (i2 10))).tmod (i2 7)) (20 * (((i2 x3).tmod (i2 10)) + 1)) q4.2).bind fun h5 =>
        (ax_gR E h5 x0 0 13).bind fun v6 =>
        (ax_ce E h5 x0 0).bind fun _ => (f_X0_isScuffed E x0 v6 h5).bind fun q7 =>
        if i2 q7.1 = 0 then
          f_X0_secret_99 E x0 x1 x2 x3 q7.2
        else
          if i2 x2 = i2 x1 then
            (some (x3, q7.2)).map Sum.inr
          else
            f_X0_secret_99 E x0 x1 (x2 + 1) x3 q7.2
  else
    (f_X0_secret_105 E x1 x2 h).map Sum.inr
noncomputable def f_X0_secret_4 (E : ax_E) (x0 : Option Nat) (x1 : Int) (x2 : Int) (x3 : Int) (h : ax_H) : Option (Int × ax_H) :=
  ax_iter (fun s : Int × Int × ax_H => lb_X0_secret_4 E x0 x1 s.1 s.2.1 s.2.2) (x2, x3, h)
noncomputable def f_X0_secret (E : ax_E) (x0 : Option Nat) (x1 : Int) (h : ax_H) : Option (Int × ax_H) :=
  f_X0_secret_4 E x0 x1 0 0 h
def pi_X0_secret_4 (G : ax_G) (X : ax_X) (Q : State → Prop) (x0 : Option Nat) (x1 : Int) : Int × Int × ax_H → Prop := fun s => ∀ ls : Array Slot, ax_hl ls 6 [(0, .inr (.inr x0)), (1, .inl x1), (2, .inl s.1), (3, .inl s.2.1)] → ax_W G X Q s.2.2 4 ls []
set_option maxHeartbeats 4000000 in
theorem w_X0_secret_99 {l : Launch} {G : ax_G} {X : ax_X} {Q : State → Prop} {h0 h : ax_H} {ls : Array Slot} (hSF : ax_SF G) (B : ax_BL l G X cX0_secret 6 RX0 141 3591) (Z : ax_Z X h0 ((some FieldType.int))) (hn : X.2.2.2.2.2.2.2.2.1.name = yX0_secret.name) (x0 : Option Nat) (x1 : Int) (x2 : Int) (x3 : Int) {w : (Int × Int × ax_H) ⊕ (Int × ax_H)} (hl : ax_hl ls 6 [(0, .inr (.inr x0)), (1, .inl x1), (2, .inl x2), (3, .inl x3)]) (e : f_X0_secret_99 G.2.2 x0 x1 x2 x3 h = some w) (hp : (ax_PL (pi_X0_secret_4 G X Q x0 x1) (fun w : Int × ax_H => Q = ax_Q G X h0 w.2 (some (.int (Int32.ofInt w.1))))) w) : ax_W G X Q h 99 ls [] := by
  unfold f_X0_secret_99 at e
  refine ax_iinc (L' := [(3, .inl (x3 + 1)), (0, .inr (.inr x0)), (1, .inl x1), (2, .inl x2)]) B dX0_secret_99 hl 3 rfl (by decide) rfl (fun ls hl => ?_)
  refine ax_goto (tgt := 4) B dX0_secret_102 (by decide) ?_
  cases e
  exact hp _ (hl.sub [1, 2, 3, 0] rfl)
set_option maxHeartbeats 4000000 in
theorem w_X0_secret_105 {l : Launch} {G : ax_G} {X : ax_X} {Q : State → Prop} {h0 h : ax_H} {ls : Array Slot} (hSF : ax_SF G) (B : ax_BL l G X cX0_secret 6 RX0 141 3591) (Z : ax_Z X h0 ((some FieldType.int))) (hn : X.2.2.2.2.2.2.2.2.1.name = yX0_secret.name) (x1 : Int) (x2 : Int) {w : Int × ax_H} (hl : ax_hl ls 6 [(1, .inl x1), (2, .inl x2)]) (e : f_X0_secret_105 G.2.2 x1 x2 h = some w) (hp : (fun w : Int × ax_H => Q = ax_Q G X h0 w.2 (some (.int (Int32.ofInt w.1)))) w) : ax_W G X Q h 105 ls [] := by
  unfold f_X0_secret_105 at e
  refine ax_iload_n B dX0_secret_105 rfl hl 0 rfl ?_
  refine ax_iconst B dX0_secret_106 ?_
  refine ax_icmp_ne (tgt := 114) B dX0_secret_107 (by decide) e (fun e => ?_) (fun e => ?_)
  · refine ax_iload_n B dX0_secret_110 rfl hl 1 rfl ?_
    refine ax_goto (tgt := 115) B dX0_secret_111 (by decide) ?_
    have e8 := e
    have hp : Q = _ := hp
    subst hp
    exact ax_ireturn B Z dX0_secret_115 e8
  · refine ax_iconst B dX0_secret_114 ?_
    have e8 := e
    have hp : Q = _ := hp
    subst hp
    exact ax_ireturn B Z dX0_secret_115 e8
set_option maxHeartbeats 4000000 in
theorem wb_X0_secret_4 {l : Launch} {G : ax_G} {X : ax_X} {Q : State → Prop} {h0 h : ax_H} {ls : Array Slot} (hSF : ax_SF G) (B : ax_BL l G X cX0_secret 6 RX0 141 3591) (Z : ax_Z X h0 ((some FieldType.int))) (hn : X.2.2.2.2.2.2.2.2.1.name = yX0_secret.name) (x0 : Option Nat) (x1 : Int) (x2 : Int) (x3 : Int) {w : (Int × Int × ax_H) ⊕ (Int × ax_H)} (hl : ax_hl ls 6 [(0, .inr (.inr x0)), (1, .inl x1), (2, .inl x2), (3, .inl x3)]) (e : lb_X0_secret_4 G.2.2 x0 x1 x2 x3 h = some w) (hp : (ax_PL (pi_X0_secret_4 G X Q x0 x1) (fun w : Int × ax_H => Q = ax_Q G X h0 w.2 (some (.int (Int32.ofInt w.1))))) w) : ax_W G X Q h 4 ls [] := by
  unfold lb_X0_secret_4 at e
  refine ax_iload_n B dX0_secret_4 rfl hl 3 rfl ?_
  refine ax_sipush B dX0_secret_5 (by decide) ?_
  refine ax_icmp_ge (tgt := 105) B dX0_secret_8 (by decide) e (fun e => ?_) (fun e => ?_)
  · refine ax_iload_n B dX0_secret_11 rfl hl 1 rfl ?_
    refine ax_iconst B dX0_secret_12 ?_
    refine ax_icmp_lt (tgt := 105) B dX0_secret_13 (by decide) e (fun e => ?_) (fun e => ?_)
    · obtain ⟨w, e9_1, rfl⟩ := Option.map_eq_some_iff.mp e
      have e := e9_1
      exact w_X0_secret_105 hSF B Z hn x1 x2 (hl.sub [1, 2] rfl) e hp
    · refine ax_iload_n B dX0_secret_16 rfl hl 3 rfl ?_
      refine ax_bipush B dX0_secret_17 (by decide) ?_
      refine ax_idiv' B dX0_secret_19 e (fun e => ?_)
      refine ax_bipush B dX0_secret_20 (by decide) ?_
      refine ax_idiv' B dX0_secret_22 e (fun e => ?_)
      refine ax_istore (L' := [(4, .inl ((i2 ((i2 x3).tdiv (i2 10))).tdiv (i2 7))), (0, .inr (.inr x0)), (1, .inl x1), (2, .inl x2), (3, .inl x3)]) B dX0_secret_23 hl (by decide) rfl (fun ls hl => ?_)
      refine ax_iload_n B dX0_secret_25 rfl hl 4 rfl ?_
      refine ax_bipush B dX0_secret_26 (by decide) ?_
      refine ax_idiv' B dX0_secret_28 e (fun e => ?_)
      refine ax_bipush B dX0_secret_29 (by decide) ?_
      refine ax_irem' B dX0_secret_31 e (fun e => ?_)
      refine ax_istore (L' := [(5, .inl ((i2 ((i2 x3).tdiv (i2 10))).tmod (i2 7))), (4, .inl ((i2 ((i2 x3).tdiv (i2 10))).tdiv (i2 7))), (0, .inr (.inr x0)), (1, .inl x1), (2, .inl x2), (3, .inl x3)]) B dX0_secret_32 hl (by decide) rfl (fun ls hl => ?_)
      refine ax_aload_n B dX0_secret_34 rfl hl 2 rfl ?_
      refine ax_iload B dX0_secret_35 hl 1 rfl ?_
      refine ax_iload B dX0_secret_37 hl 0 rfl ?_
      refine ax_ivI (y := yX0_areTwo) (n := 2) (As := [.int (Int32.ofInt ((i2 ((i2 x3).tdiv (i2 10))).tdiv (i2 7))), .int (Int32.ofInt ((i2 ((i2 x3).tdiv (i2 10))).tmod (i2 7)))]) B kd0 (lw_V q609 q566 qs13 q125 q567) (by decide +kernel) ⟨Nat.le_of_ble_eq_true rfl, Nat.le_of_ble_eq_true rfl⟩ (fun w1 e1 => mt_X0_areTwo l G hSF x0 ((i2 ((i2 x3).tdiv (i2 10))).tdiv (i2 7)) ((i2 ((i2 x3).tdiv (i2 10))).tmod (i2 7)) _ w1 e1) rfl hl.size (by decide) dX0_secret_39 e (fun q1 e => ?_)
      refine ax_if_ne (tgt := 48) B dX0_secret_42 (by decide) e (fun e => ?_) (fun e => ?_)
      · refine ax_goto (tgt := 99) B dX0_secret_45 (by decide) ?_
        exact w_X0_secret_99 hSF B Z hn x0 x1 x2 x3 (hl.sub [2, 3, 4, 5] rfl) e hp
      · refine ax_aload_n B dX0_secret_48 rfl hl 2 rfl ?_
        refine ax_getR B ff_X0_74_0 (fun _ _ => rfl) dX0_secret_49 e (fun v2 e => ?_)
        refine ax_aload_n B dX0_secret_52 rfl hl 2 rfl ?_
        refine ax_ivR (y := yX0_books) (n := 0) (As := []) B kd0 (lw_V q443 q445 qs2 q125 q446) (by decide +kernel) ⟨Nat.le_of_ble_eq_true rfl, Nat.le_of_ble_eq_true rfl⟩ (fun w1 e1 => mt_X0_books l G hSF x0 _ w1 e1) rfl hl.size (by simp only [List.map_cons, List.map_nil, List.sum_cons, List.sum_nil, va_rf_cat, ax_catI, ax_catL]; decide) dX0_secret_53 e (fun q3 e => ?_)
        refine ax_ivR (y := yX2_as) (n := 1) (As := [va_rf q3.1]) B kd2 (lw_V q1377 q1378 q1379 q130 q1380) (by decide +kernel) ⟨Nat.le_of_ble_eq_true rfl, Nat.le_of_ble_eq_true rfl⟩ (fun w1 e1 => mt_X2_as l G hSF v2 q3.1 _ w1 e1) rfl hl.size (by decide) dX0_secret_56 e (fun q4 e => ?_)
        refine ax_iload B dX0_secret_59 hl 1 rfl ?_
        refine ax_iload B dX0_secret_61 hl 0 rfl ?_
        refine ax_bipush B dX0_secret_63 (by decide) ?_
        refine ax_iload_n B dX0_secret_65 rfl hl 5 rfl ?_
        refine ax_bipush B dX0_secret_66 (by decide) ?_
        refine ax_irem' B dX0_secret_68 e (fun e => ?_)
        refine ax_iconst B dX0_secret_69 ?_
        refine ax_iadd' B dX0_secret_70 ?_
        refine ax_imul' B dX0_secret_71 ?_
        refine ax_ivV (y := yX2_add) (n := 3) (As := [.int (Int32.ofInt ((i2 ((i2 x3).tdiv (i2 10))).tdiv (i2 7))), .int (Int32.ofInt ((i2 ((i2 x3).tdiv (i2 10))).tmod (i2 7))), .int (Int32.ofInt (20 * (((i2 x3).tmod (i2 10)) + 1)))]) B kd2 (lw_V q487 q488 q489 q130 q490) (by decide +kernel) ⟨Nat.le_of_ble_eq_true rfl, Nat.le_of_ble_eq_true rfl⟩ (fun w1 e1 => mt_X2_add l G hSF q4.1 ((i2 ((i2 x3).tdiv (i2 10))).tdiv (i2 7)) ((i2 ((i2 x3).tdiv (i2 10))).tmod (i2 7)) (20 * (((i2 x3).tmod (i2 10)) + 1)) _ w1 e1) rfl hl.size (by decide) dX0_secret_72 e (fun h5 e => ?_)
        refine ax_aload_n B dX0_secret_75 rfl hl 2 rfl ?_
        refine ax_aload_n B dX0_secret_76 rfl hl 2 rfl ?_
        refine ax_getR B ff_X0_74_0 (fun _ _ => rfl) dX0_secret_77 e (fun v6 e => ?_)
        refine ax_ivI (y := yX0_isScuffed) (n := 1) (As := [va_rf v6]) B kd0 (lw_V q1768 q1770 qs39 q125 q1771) (by decide +kernel) ⟨Nat.le_of_ble_eq_true rfl, Nat.le_of_ble_eq_true rfl⟩ (fun w1 e1 => mt_X0_isScuffed l G hSF x0 v6 _ w1 e1) rfl hl.size (by decide) dX0_secret_80 e (fun q7 e => ?_)
        refine ax_if_ne (tgt := 89) B dX0_secret_83 (by decide) e (fun e => ?_) (fun e => ?_)
        · refine ax_goto (tgt := 99) B dX0_secret_86 (by decide) ?_
          exact w_X0_secret_99 hSF B Z hn x0 x1 x2 x3 (hl.sub [2, 3, 4, 5] rfl) e hp
        · refine ax_iload_n B dX0_secret_89 rfl hl 4 rfl ?_
          refine ax_iload_n B dX0_secret_90 rfl hl 3 rfl ?_
          refine ax_icmp_ne (tgt := 96) B dX0_secret_91 (by decide) e (fun e => ?_) (fun e => ?_)
          · obtain ⟨w, e9_2, rfl⟩ := Option.map_eq_some_iff.mp e
            have e := e9_2
            refine ax_iload_n B dX0_secret_94 rfl hl 5 rfl ?_
            have e8 := e
            have hp : Q = _ := hp
            subst hp
            exact ax_ireturn B Z dX0_secret_95 e8
          · refine ax_iinc (L' := [(2, .inl (x2 + 1)), (5, .inl ((i2 ((i2 x3).tdiv (i2 10))).tmod (i2 7))), (4, .inl ((i2 ((i2 x3).tdiv (i2 10))).tdiv (i2 7))), (0, .inr (.inr x0)), (1, .inl x1), (3, .inl x3)]) B dX0_secret_96 hl 4 rfl (by decide) rfl (fun ls hl => ?_)
            exact w_X0_secret_99 hSF B Z hn x0 x1 (x2 + 1) x3 (hl.sub [3, 4, 0, 5] rfl) e hp
  · obtain ⟨w, e9_3, rfl⟩ := Option.map_eq_some_iff.mp e
    have e := e9_3
    exact w_X0_secret_105 hSF B Z hn x1 x2 (hl.sub [1, 2] rfl) e hp
theorem w_X0_secret_4 {l : Launch} {G : ax_G} {X : ax_X} {Q : State → Prop} {h0 h : ax_H} {ls : Array Slot} (hSF : ax_SF G) (B : ax_BL l G X cX0_secret 6 RX0 141 3591) (Z : ax_Z X h0 ((some FieldType.int))) (hn : X.2.2.2.2.2.2.2.2.1.name = yX0_secret.name) (x0 : Option Nat) (x1 : Int) (x2 : Int) (x3 : Int) {w : Int × ax_H} (hl : ax_hl ls 6 [(0, .inr (.inr x0)), (1, .inl x1), (2, .inl x2), (3, .inl x3)]) (e : f_X0_secret_4 G.2.2 x0 x1 x2 x3 h = some w) (hp : (fun w : Int × ax_H => Q = ax_Q G X h0 w.2 (some (.int (Int32.ofInt w.1)))) w) : ax_W G X Q h 4 ls [] :=
  ax_iter_W (Pin := pi_X0_secret_4 G X Q x0 x1) (Pout := (fun w : Int × ax_H => Q = ax_Q G X h0 w.2 (some (.int (Int32.ofInt w.1))))) (fun s w e hp ls hl => wb_X0_secret_4 hSF B Z hn x0 x1 s.1 s.2.1 hl e hp) _ _ e hp ls hl
set_option maxHeartbeats 4000000 in
theorem we_X0_secret {l : Launch} {G : ax_G} {X : ax_X} {Q : State → Prop} {h0 h : ax_H} {ls : Array Slot} (hSF : ax_SF G) (B : ax_BL l G X cX0_secret 6 RX0 141 3591) (Z : ax_Z X h0 ((some FieldType.int))) (hn : X.2.2.2.2.2.2.2.2.1.name = yX0_secret.name) (x0 : Option Nat) (x1 : Int) {w : Int × ax_H} (hl : ax_hl ls 6 [(0, .inr (.inr x0)), (1, .inl x1)]) (e : f_X0_secret G.2.2 x0 x1 h = some w) (hp : (fun w : Int × ax_H => Q = ax_Q G X h0 w.2 (some (.int (Int32.ofInt w.1)))) w) : ax_W G X Q h 0 ls [] := by
  unfold f_X0_secret at e
  refine ax_iconst B dX0_secret_0 ?_
  refine ax_istore_n (L' := [(2, .inl 0), (0, .inr (.inr x0)), (1, .inl x1)]) B dX0_secret_1 rfl hl (by decide) rfl (fun ls hl => ?_)
  refine ax_iconst B dX0_secret_2 ?_
  refine ax_istore_n (L' := [(3, .inl 0), (2, .inl 0), (0, .inr (.inr x0)), (1, .inl x1)]) B dX0_secret_3 rfl hl (by decide) rfl (fun ls hl => ?_)
  exact w_X0_secret_4 hSF B Z hn x0 x1 0 0 (hl.sub [2, 3, 1, 0] rfl) e hp
theorem mt_X0_secret (l : Launch) (G : ax_G) (hSF : ax_SF G) (x0 : Option Nat) (x1 : Int) (h : ax_H) (w : Int × ax_H) (e : f_X0_secret G.2.2 x0 x1 h = some w) : ax_Met l G yX0_secret cX0_secret 6 ((some FieldType.int)) 141 3591 [va_rf x0, .int (Int32.ofInt x1)] h w.2 (some (.int (Int32.ofInt w.1))) :=
  ax_enter [.inr (.inr x0), .inl x1] (y := yX0_secret) hSF (plainFor_of_name (by decide +kernel)) (Nat.le_of_ble_eq_true rfl) (fun X ls B Z hn hl => we_X0_secret hSF B Z hn x0 x1 hl e rfl)
def dkwX0_denied_2 : List UInt8 := [167, 0, 4, 3, 128, 60, 132, 2, 1, 167, 255, 206, 27, 172]
abbrev dktX0_denied_2 : List UInt8 := dkwX0_denied_2 ++ []
def dkwX0_denied_1 : List UInt8 := [182, 1, 36, 28, 182, 1, 66, 27, 42, 42, 180, 0, 74, 182, 1, 195, 153, 0, 9, 4, 28, 120]
abbrev dktX0_denied_1 : List UInt8 := dkwX0_denied_1 ++ dktX0_denied_2
def dkwX0_denied_0 : List UInt8 := [3, 60, 3, 61, 28, 42, 182, 0, 104, 180, 0, 107, 162, 0, 45, 42, 180, 0, 74, 42, 182, 0, 104]
abbrev dktX0_denied_0 : List UInt8 := dkwX0_denied_0 ++ dktX0_denied_1
theorem dksX0_denied_0 : cX0_denied.data.toList.drop 0 = dktX0_denied_0 := by decide +kernel
theorem dksX0_denied_1 : cX0_denied.data.toList.drop 23 = dktX0_denied_1 := dk_seg dksX0_denied_0 23 rfl rfl
theorem dksX0_denied_2 : cX0_denied.data.toList.drop 45 = dktX0_denied_2 := dk_seg dksX0_denied_1 22 rfl rfl
theorem dX0_denied_0 : decode cX0_denied 0 = .ok (.iconst 0, 1) := dk_3 (dk_at dksX0_denied_0 0 rfl rfl)
theorem dX0_denied_1 : decode cX0_denied 1 = .ok (.istore_n 1, 1) := dk_60 (dk_at dksX0_denied_0 1 rfl rfl)
theorem dX0_denied_2 : decode cX0_denied 2 = .ok (.iconst 0, 1) := dk_3 (dk_at dksX0_denied_0 2 rfl rfl)
theorem dX0_denied_3 : decode cX0_denied 3 = .ok (.istore_n 2, 1) := dk_61 (dk_at dksX0_denied_0 3 rfl rfl)
theorem dX0_denied_4 : decode cX0_denied 4 = .ok (.iload_n 2, 1) := dk_28 (dk_at dksX0_denied_0 4 rfl rfl)
theorem dX0_denied_5 : decode cX0_denied 5 = .ok (.aload_n 0, 1) := dk_42 (dk_at dksX0_denied_0 5 rfl rfl)
theorem dX0_denied_6 : decode cX0_denied 6 = .ok (.invokevirtual 104, 3) := dk_182 0 104 (dk_at dksX0_denied_0 6 rfl rfl)
theorem dX0_denied_9 : decode cX0_denied 9 = .ok (.getfield 107, 3) := dk_180 0 107 (dk_at dksX0_denied_0 9 rfl rfl)
theorem dX0_denied_12 : decode cX0_denied 12 = .ok (.if_icmp .ge 45, 3) := dk_162 0 45 (dk_at dksX0_denied_0 12 rfl rfl)
theorem dX0_denied_15 : decode cX0_denied 15 = .ok (.aload_n 0, 1) := dk_42 (dk_at dksX0_denied_0 15 rfl rfl)
theorem dX0_denied_16 : decode cX0_denied 16 = .ok (.getfield 74, 3) := dk_180 0 74 (dk_at dksX0_denied_0 16 rfl rfl)
theorem dX0_denied_19 : decode cX0_denied 19 = .ok (.aload_n 0, 1) := dk_42 (dk_at dksX0_denied_0 19 rfl rfl)
theorem dX0_denied_20 : decode cX0_denied 20 = .ok (.invokevirtual 104, 3) := dk_182 0 104 (dk_at dksX0_denied_0 20 rfl rfl)
theorem dX0_denied_23 : decode cX0_denied 23 = .ok (.invokevirtual 292, 3) := dk_182 1 36 (dk_at dksX0_denied_1 0 rfl rfl)
theorem dX0_denied_26 : decode cX0_denied 26 = .ok (.iload_n 2, 1) := dk_28 (dk_at dksX0_denied_1 3 rfl rfl)
theorem dX0_denied_27 : decode cX0_denied 27 = .ok (.invokevirtual 322, 3) := dk_182 1 66 (dk_at dksX0_denied_1 4 rfl rfl)
theorem dX0_denied_30 : decode cX0_denied 30 = .ok (.iload_n 1, 1) := dk_27 (dk_at dksX0_denied_1 7 rfl rfl)
theorem dX0_denied_31 : decode cX0_denied 31 = .ok (.aload_n 0, 1) := dk_42 (dk_at dksX0_denied_1 8 rfl rfl)
theorem dX0_denied_32 : decode cX0_denied 32 = .ok (.aload_n 0, 1) := dk_42 (dk_at dksX0_denied_1 9 rfl rfl)
theorem dX0_denied_33 : decode cX0_denied 33 = .ok (.getfield 74, 3) := dk_180 0 74 (dk_at dksX0_denied_1 10 rfl rfl)
theorem dX0_denied_36 : decode cX0_denied 36 = .ok (.invokevirtual 451, 3) := dk_182 1 195 (dk_at dksX0_denied_1 13 rfl rfl)
theorem dX0_denied_39 : decode cX0_denied 39 = .ok (.ifCond .eq 9, 3) := dk_153 0 9 (dk_at dksX0_denied_1 16 rfl rfl)
theorem dX0_denied_42 : decode cX0_denied 42 = .ok (.iconst 1, 1) := dk_4 (dk_at dksX0_denied_1 19 rfl rfl)
theorem dX0_denied_43 : decode cX0_denied 43 = .ok (.iload_n 2, 1) := dk_28 (dk_at dksX0_denied_1 20 rfl rfl)
theorem dX0_denied_44 : decode cX0_denied 44 = .ok (.ishl, 1) := dk_120 (dk_at dksX0_denied_1 21 rfl rfl)
theorem dX0_denied_45 : decode cX0_denied 45 = .ok (.goto 4, 3) := dk_167 0 4 (dk_at dksX0_denied_2 0 rfl rfl)
theorem dX0_denied_48 : decode cX0_denied 48 = .ok (.iconst 0, 1) := dk_3 (dk_at dksX0_denied_2 3 rfl rfl)
theorem dX0_denied_49 : decode cX0_denied 49 = .ok (.ior, 1) := dk_128 (dk_at dksX0_denied_2 4 rfl rfl)
theorem dX0_denied_50 : decode cX0_denied 50 = .ok (.istore_n 1, 1) := dk_60 (dk_at dksX0_denied_2 5 rfl rfl)
theorem dX0_denied_51 : decode cX0_denied 51 = .ok (.iinc 2 1, 3) := dk_132 2 1 (dk_at dksX0_denied_2 6 rfl rfl)
theorem dX0_denied_54 : decode cX0_denied 54 = .ok (.goto (-50), 3) := dk_167 255 206 (dk_at dksX0_denied_2 9 rfl rfl)
theorem dX0_denied_57 : decode cX0_denied 57 = .ok (.iload_n 1, 1) := dk_27 (dk_at dksX0_denied_2 12 rfl rfl)
theorem dX0_denied_58 : decode cX0_denied 58 = .ok (.ireturn, 1) := dk_172 (dk_at dksX0_denied_2 13 rfl rfl)
noncomputable def f_X0_denied_49 (E : ax_E) (x0 : Option Nat) (x2 : Int) (s0 : Int) (s1 : Int) (h : ax_H) : Option ((Int × Int × ax_H) ⊕ (Int × ax_H)) :=
  some (.inl ((ax_or s0 s1), (x2 + 1), h))
noncomputable def lb_X0_denied_4 (E : ax_E) (x0 : Option Nat) (x1 : Int) (x2 : Int) (h : ax_H) : Option ((Int × Int × ax_H) ⊕ (Int × ax_H)) :=
  (ax_ce E h x0 0).bind fun _ => (f_X0_books E x0 h).bind fun q1 =>
  (ax_gI E q1.2 q1.1 2 5).bind fun v2 =>
  if i2 x2 < i2 v2 then
    (ax_gR E q1.2 x0 0 13).bind fun v3 =>
    (ax_ce E q1.2 x0 0).bind fun _ => (f_X0_books E x0 q1.2).bind fun q4 =>
    (ax_ce E q4.2 v3 2).bind fun _ => (f_X2_as E v3 q4.1 q4.2).bind fun q5 =>
    (ax_ce E q5.2 q5.1 2).bind fun _ => (f_X2_drop E q5.1 x2 q5.2).bind fun h6 =>
    (ax_gR E h6 x0 0 13).bind fun v7 =>
    (ax_ce E h6 x0 0).bind fun _ => (f_X0_isScuffed E x0 v7 h6).bind fun q8 =>
    if i2 q8.1 = 0 then
      f_X0_denied_49 E x0 x2 x1 0 q8.2
    else
      f_X0_denied_49 E x0 x2 x1 (ax_shl 1 x2) q8.2
  else
    (some (x1, q1.2)).map Sum.inr
noncomputable def f_X0_denied_4 (E : ax_E) (x0 : Option Nat) (x1 : Int) (x2 : Int) (h : ax_H) : Option (Int × ax_H) :=
  ax_iter (fun s : Int × Int × ax_H => lb_X0_denied_4 E x0 s.1 s.2.1 s.2.2) (x1, x2, h)
noncomputable def f_X0_denied (E : ax_E) (x0 : Option Nat) (h : ax_H) : Option (Int × ax_H) :=
  f_X0_denied_4 E x0 0 0 h
def pi_X0_denied_4 (G : ax_G) (X : ax_X) (Q : State → Prop) (x0 : Option Nat) : Int × Int × ax_H → Prop := fun s => ∀ ls : Array Slot, ax_hl ls 3 [(0, .inr (.inr x0)), (1, .inl s.1), (2, .inl s.2.1)] → ax_W G X Q s.2.2 4 ls []
set_option maxHeartbeats 4000000 in
theorem w_X0_denied_49 {l : Launch} {G : ax_G} {X : ax_X} {Q : State → Prop} {h0 h : ax_H} {ls : Array Slot} (hSF : ax_SF G) (B : ax_BL l G X cX0_denied 3 RX0 141 3591) (Z : ax_Z X h0 ((some FieldType.int))) (hn : X.2.2.2.2.2.2.2.2.1.name = yX0_denied.name) (x0 : Option Nat) (x2 : Int) (s0 : Int) (s1 : Int) {w : (Int × Int × ax_H) ⊕ (Int × ax_H)} (hl : ax_hl ls 3 [(0, .inr (.inr x0)), (2, .inl x2)]) (e : f_X0_denied_49 G.2.2 x0 x2 s0 s1 h = some w) (hp : (ax_PL (pi_X0_denied_4 G X Q x0) (fun w : Int × ax_H => Q = ax_Q G X h0 w.2 (some (.int (Int32.ofInt w.1))))) w) : ax_W G X Q h 49 ls [.int (Int32.ofInt s1), .int (Int32.ofInt s0)] := by
  unfold f_X0_denied_49 at e
  refine ax_ior' B dX0_denied_49 ?_
  refine ax_istore_n (L' := [(1, .inl (ax_or s0 s1)), (0, .inr (.inr x0)), (2, .inl x2)]) B dX0_denied_50 rfl hl (by decide) rfl (fun ls hl => ?_)
  refine ax_iinc (L' := [(2, .inl (x2 + 1)), (1, .inl (ax_or s0 s1)), (0, .inr (.inr x0))]) B dX0_denied_51 hl 2 rfl (by decide) rfl (fun ls hl => ?_)
  refine ax_goto (tgt := 4) B dX0_denied_54 (by decide) ?_
  cases e
  exact hp _ (hl.sub [2, 1, 0] rfl)
set_option maxHeartbeats 4000000 in
theorem wb_X0_denied_4 {l : Launch} {G : ax_G} {X : ax_X} {Q : State → Prop} {h0 h : ax_H} {ls : Array Slot} (hSF : ax_SF G) (B : ax_BL l G X cX0_denied 3 RX0 141 3591) (Z : ax_Z X h0 ((some FieldType.int))) (hn : X.2.2.2.2.2.2.2.2.1.name = yX0_denied.name) (x0 : Option Nat) (x1 : Int) (x2 : Int) {w : (Int × Int × ax_H) ⊕ (Int × ax_H)} (hl : ax_hl ls 3 [(0, .inr (.inr x0)), (1, .inl x1), (2, .inl x2)]) (e : lb_X0_denied_4 G.2.2 x0 x1 x2 h = some w) (hp : (ax_PL (pi_X0_denied_4 G X Q x0) (fun w : Int × ax_H => Q = ax_Q G X h0 w.2 (some (.int (Int32.ofInt w.1))))) w) : ax_W G X Q h 4 ls [] := by
  unfold lb_X0_denied_4 at e
  refine ax_iload_n B dX0_denied_4 rfl hl 2 rfl ?_
  refine ax_aload_n B dX0_denied_5 rfl hl 0 rfl ?_
  refine ax_ivR (y := yX0_books) (n := 0) (As := []) B kd0 (lw_V q443 q445 qs2 q125 q446) (by decide +kernel) ⟨Nat.le_of_ble_eq_true rfl, Nat.le_of_ble_eq_true rfl⟩ (fun w1 e1 => mt_X0_books l G hSF x0 _ w1 e1) rfl hl.size (by simp only [List.map_cons, List.map_nil, List.sum_cons, List.sum_nil, va_rf_cat, ax_catI, ax_catL]; decide) dX0_denied_6 e (fun q1 e => ?_)
  refine ax_getI B ff_X0_107_2 (fun _ _ => rfl) dX0_denied_9 e (fun v2 e => ?_)
  refine ax_icmp_ge (tgt := 57) B dX0_denied_12 (by decide) e (fun e => ?_) (fun e => ?_)
  · refine ax_aload_n B dX0_denied_15 rfl hl 0 rfl ?_
    refine ax_getR B ff_X0_74_0 (fun _ _ => rfl) dX0_denied_16 e (fun v3 e => ?_)
    refine ax_aload_n B dX0_denied_19 rfl hl 0 rfl ?_
    refine ax_ivR (y := yX0_books) (n := 0) (As := []) B kd0 (lw_V q443 q445 qs2 q125 q446) (by decide +kernel) ⟨Nat.le_of_ble_eq_true rfl, Nat.le_of_ble_eq_true rfl⟩ (fun w1 e1 => mt_X0_books l G hSF x0 _ w1 e1) rfl hl.size (by simp only [List.map_cons, List.map_nil, List.sum_cons, List.sum_nil, va_rf_cat, ax_catI, ax_catL]; decide) dX0_denied_20 e (fun q4 e => ?_)
    refine ax_ivR (y := yX2_as) (n := 1) (As := [va_rf q4.1]) B kd2 (lw_V q1377 q1378 q1379 q130 q1380) (by decide +kernel) ⟨Nat.le_of_ble_eq_true rfl, Nat.le_of_ble_eq_true rfl⟩ (fun w1 e1 => mt_X2_as l G hSF v3 q4.1 _ w1 e1) rfl hl.size (by decide) dX0_denied_23 e (fun q5 e => ?_)
    refine ax_iload_n B dX0_denied_26 rfl hl 2 rfl ?_
    refine ax_ivV (y := yX2_drop) (n := 1) (As := [.int (Int32.ofInt x2)]) B kd2 (lw_V q1433 q1426 q1427 q130 q1428) (by decide +kernel) ⟨Nat.le_of_ble_eq_true rfl, Nat.le_of_ble_eq_true rfl⟩ (fun w1 e1 => mt_X2_drop l G hSF q5.1 x2 _ w1 e1) rfl hl.size (by decide) dX0_denied_27 e (fun h6 e => ?_)
    refine ax_iload_n B dX0_denied_30 rfl hl 1 rfl ?_
    refine ax_aload_n B dX0_denied_31 rfl hl 0 rfl ?_
    refine ax_aload_n B dX0_denied_32 rfl hl 0 rfl ?_
    refine ax_getR B ff_X0_74_0 (fun _ _ => rfl) dX0_denied_33 e (fun v7 e => ?_)
    refine ax_ivI (y := yX0_isScuffed) (n := 1) (As := [va_rf v7]) B kd0 (lw_V q1768 q1770 qs39 q125 q1771) (by decide +kernel) ⟨Nat.le_of_ble_eq_true rfl, Nat.le_of_ble_eq_true rfl⟩ (fun w1 e1 => mt_X0_isScuffed l G hSF x0 v7 _ w1 e1) rfl hl.size (by simp only [List.map_cons, List.map_nil, List.sum_cons, List.sum_nil, va_rf_cat, ax_catI, ax_catL]; decide) dX0_denied_36 e (fun q8 e => ?_)
    refine ax_if_eq (tgt := 48) B dX0_denied_39 (by decide) e (fun e => ?_) (fun e => ?_)
    · refine ax_iconst B dX0_denied_48 ?_
      exact w_X0_denied_49 hSF B Z hn x0 x2 x1 0 (hl.sub [0, 2] rfl) e hp
    · refine ax_iconst B dX0_denied_42 ?_
      refine ax_iload_n B dX0_denied_43 rfl hl 2 rfl ?_
      refine ax_ishl' B dX0_denied_44 ?_
      refine ax_goto (tgt := 49) B dX0_denied_45 (by decide) ?_
      exact w_X0_denied_49 hSF B Z hn x0 x2 x1 (ax_shl 1 x2) (hl.sub [0, 2] rfl) e hp
  · obtain ⟨w, e9_1, rfl⟩ := Option.map_eq_some_iff.mp e
    have e := e9_1
    refine ax_iload_n B dX0_denied_57 rfl hl 1 rfl ?_
    have e8 := e
    have hp : Q = _ := hp
    subst hp
    exact ax_ireturn B Z dX0_denied_58 e8
theorem w_X0_denied_4 {l : Launch} {G : ax_G} {X : ax_X} {Q : State → Prop} {h0 h : ax_H} {ls : Array Slot} (hSF : ax_SF G) (B : ax_BL l G X cX0_denied 3 RX0 141 3591) (Z : ax_Z X h0 ((some FieldType.int))) (hn : X.2.2.2.2.2.2.2.2.1.name = yX0_denied.name) (x0 : Option Nat) (x1 : Int) (x2 : Int) {w : Int × ax_H} (hl : ax_hl ls 3 [(0, .inr (.inr x0)), (1, .inl x1), (2, .inl x2)]) (e : f_X0_denied_4 G.2.2 x0 x1 x2 h = some w) (hp : (fun w : Int × ax_H => Q = ax_Q G X h0 w.2 (some (.int (Int32.ofInt w.1)))) w) : ax_W G X Q h 4 ls [] :=
  ax_iter_W (Pin := pi_X0_denied_4 G X Q x0) (Pout := (fun w : Int × ax_H => Q = ax_Q G X h0 w.2 (some (.int (Int32.ofInt w.1))))) (fun s w e hp ls hl => wb_X0_denied_4 hSF B Z hn x0 s.1 s.2.1 hl e hp) _ _ e hp ls hl
set_option maxHeartbeats 4000000 in
theorem we_X0_denied {l : Launch} {G : ax_G} {X : ax_X} {Q : State → Prop} {h0 h : ax_H} {ls : Array Slot} (hSF : ax_SF G) (B : ax_BL l G X cX0_denied 3 RX0 141 3591) (Z : ax_Z X h0 ((some FieldType.int))) (hn : X.2.2.2.2.2.2.2.2.1.name = yX0_denied.name) (x0 : Option Nat) {w : Int × ax_H} (hl : ax_hl ls 3 [(0, .inr (.inr x0))]) (e : f_X0_denied G.2.2 x0 h = some w) (hp : (fun w : Int × ax_H => Q = ax_Q G X h0 w.2 (some (.int (Int32.ofInt w.1)))) w) : ax_W G X Q h 0 ls [] := by
  unfold f_X0_denied at e
  refine ax_iconst B dX0_denied_0 ?_
  refine ax_istore_n (L' := [(1, .inl 0), (0, .inr (.inr x0))]) B dX0_denied_1 rfl hl (by decide) rfl (fun ls hl => ?_)
  refine ax_iconst B dX0_denied_2 ?_
  refine ax_istore_n (L' := [(2, .inl 0), (1, .inl 0), (0, .inr (.inr x0))]) B dX0_denied_3 rfl hl (by decide) rfl (fun ls hl => ?_)
  exact w_X0_denied_4 hSF B Z hn x0 0 0 (hl.sub [2, 1, 0] rfl) e hp
theorem mt_X0_denied (l : Launch) (G : ax_G) (hSF : ax_SF G) (x0 : Option Nat) (h : ax_H) (w : Int × ax_H) (e : f_X0_denied G.2.2 x0 h = some w) : ax_Met l G yX0_denied cX0_denied 3 ((some FieldType.int)) 141 3591 [va_rf x0] h w.2 (some (.int (Int32.ofInt w.1))) :=
  ax_enter [.inr (.inr x0)] (y := yX0_denied) hSF (plainFor_of_name (by decide +kernel)) (Nat.le_of_ble_eq_true rfl) (fun X ls B Z hn hl => we_X0_denied hSF B Z hn x0 hl e rfl)
def dkwX25_init_2 : List UInt8 := [189, 0, 29, 181, 0, 31, 177]
abbrev dktX25_init_2 : List UInt8 := dkwX25_init_2 ++ []
def dkwX25_init_1 : List UInt8 := [18, 15, 83, 89, 6, 18, 17, 83, 89, 7, 18, 19, 83, 89, 8, 18, 21, 83, 183, 0, 23, 42, 16, 12]
abbrev dktX25_init_1 : List UInt8 := dkwX25_init_1 ++ dktX25_init_2
def dkwX25_init_0 : List UInt8 := [42, 43, 181, 0, 3, 42, 43, 16, 6, 189, 0, 9, 89, 3, 18, 11, 83, 89, 4, 18, 13, 83, 89, 5]
abbrev dktX25_init_0 : List UInt8 := dkwX25_init_0 ++ dktX25_init_1
theorem dksX25_init_0 : cX25_init.data.toList.drop 0 = dktX25_init_0 := by decide +kernel
theorem dksX25_init_1 : cX25_init.data.toList.drop 24 = dktX25_init_1 := dk_seg dksX25_init_0 24 rfl rfl
theorem dksX25_init_2 : cX25_init.data.toList.drop 48 = dktX25_init_2 := dk_seg dksX25_init_1 24 rfl rfl
theorem dX25_init_0 : decode cX25_init 0 = .ok (.aload_n 0, 1) := dk_42 (dk_at dksX25_init_0 0 rfl rfl)
theorem dX25_init_1 : decode cX25_init 1 = .ok (.aload_n 1, 1) := dk_43 (dk_at dksX25_init_0 1 rfl rfl)
theorem dX25_init_2 : decode cX25_init 2 = .ok (.putfield 3, 3) := dk_181 0 3 (dk_at dksX25_init_0 2 rfl rfl)
theorem dX25_init_5 : decode cX25_init 5 = .ok (.aload_n 0, 1) := dk_42 (dk_at dksX25_init_0 5 rfl rfl)
theorem dX25_init_6 : decode cX25_init 6 = .ok (.aload_n 1, 1) := dk_43 (dk_at dksX25_init_0 6 rfl rfl)
theorem dX25_init_7 : decode cX25_init 7 = .ok (.bipush 6, 2) := dk_16 6 (dk_at dksX25_init_0 7 rfl rfl)
theorem dX25_init_9 : decode cX25_init 9 = .ok (.anewarray 9, 3) := dk_189 0 9 (dk_at dksX25_init_0 9 rfl rfl)
theorem dX25_init_12 : decode cX25_init 12 = .ok (.dup, 1) := dk_89 (dk_at dksX25_init_0 12 rfl rfl)
theorem dX25_init_13 : decode cX25_init 13 = .ok (.iconst 0, 1) := dk_3 (dk_at dksX25_init_0 13 rfl rfl)
theorem dX25_init_14 : decode cX25_init 14 = .ok (.ldc 11, 2) := dk_18 11 (dk_at dksX25_init_0 14 rfl rfl)
theorem dX25_init_16 : decode cX25_init 16 = .ok (.aastore, 1) := dk_83 (dk_at dksX25_init_0 16 rfl rfl)
theorem dX25_init_17 : decode cX25_init 17 = .ok (.dup, 1) := dk_89 (dk_at dksX25_init_0 17 rfl rfl)
theorem dX25_init_18 : decode cX25_init 18 = .ok (.iconst 1, 1) := dk_4 (dk_at dksX25_init_0 18 rfl rfl)
theorem dX25_init_19 : decode cX25_init 19 = .ok (.ldc 13, 2) := dk_18 13 (dk_at dksX25_init_0 19 rfl rfl)
theorem dX25_init_21 : decode cX25_init 21 = .ok (.aastore, 1) := dk_83 (dk_at dksX25_init_0 21 rfl rfl)
theorem dX25_init_22 : decode cX25_init 22 = .ok (.dup, 1) := dk_89 (dk_at dksX25_init_0 22 rfl rfl)
theorem dX25_init_23 : decode cX25_init 23 = .ok (.iconst 2, 1) := dk_5 (dk_at dksX25_init_0 23 rfl rfl)
theorem dX25_init_24 : decode cX25_init 24 = .ok (.ldc 15, 2) := dk_18 15 (dk_at dksX25_init_1 0 rfl rfl)
theorem dX25_init_26 : decode cX25_init 26 = .ok (.aastore, 1) := dk_83 (dk_at dksX25_init_1 2 rfl rfl)
theorem dX25_init_27 : decode cX25_init 27 = .ok (.dup, 1) := dk_89 (dk_at dksX25_init_1 3 rfl rfl)
theorem dX25_init_28 : decode cX25_init 28 = .ok (.iconst 3, 1) := dk_6 (dk_at dksX25_init_1 4 rfl rfl)
theorem dX25_init_29 : decode cX25_init 29 = .ok (.ldc 17, 2) := dk_18 17 (dk_at dksX25_init_1 5 rfl rfl)
theorem dX25_init_31 : decode cX25_init 31 = .ok (.aastore, 1) := dk_83 (dk_at dksX25_init_1 7 rfl rfl)
theorem dX25_init_32 : decode cX25_init 32 = .ok (.dup, 1) := dk_89 (dk_at dksX25_init_1 8 rfl rfl)
theorem dX25_init_33 : decode cX25_init 33 = .ok (.iconst 4, 1) := dk_7 (dk_at dksX25_init_1 9 rfl rfl)
theorem dX25_init_34 : decode cX25_init 34 = .ok (.ldc 19, 2) := dk_18 19 (dk_at dksX25_init_1 10 rfl rfl)
theorem dX25_init_36 : decode cX25_init 36 = .ok (.aastore, 1) := dk_83 (dk_at dksX25_init_1 12 rfl rfl)
theorem dX25_init_37 : decode cX25_init 37 = .ok (.dup, 1) := dk_89 (dk_at dksX25_init_1 13 rfl rfl)
theorem dX25_init_38 : decode cX25_init 38 = .ok (.iconst 5, 1) := dk_8 (dk_at dksX25_init_1 14 rfl rfl)
theorem dX25_init_39 : decode cX25_init 39 = .ok (.ldc 21, 2) := dk_18 21 (dk_at dksX25_init_1 15 rfl rfl)
theorem dX25_init_41 : decode cX25_init 41 = .ok (.aastore, 1) := dk_83 (dk_at dksX25_init_1 17 rfl rfl)
theorem dX25_init_42 : decode cX25_init 42 = .ok (.invokespecial 23, 3) := dk_183 0 23 (dk_at dksX25_init_1 18 rfl rfl)
theorem dX25_init_45 : decode cX25_init 45 = .ok (.aload_n 0, 1) := dk_42 (dk_at dksX25_init_1 21 rfl rfl)
theorem dX25_init_46 : decode cX25_init 46 = .ok (.bipush 12, 2) := dk_16 12 (dk_at dksX25_init_1 22 rfl rfl)
theorem dX25_init_48 : decode cX25_init 48 = .ok (.anewarray 29, 3) := dk_189 0 29 (dk_at dksX25_init_2 0 rfl rfl)
theorem dX25_init_51 : decode cX25_init 51 = .ok (.putfield 31, 3) := dk_181 0 31 (dk_at dksX25_init_2 3 rfl rfl)
theorem dX25_init_54 : decode cX25_init 54 = .ok (.return_, 1) := dk_177 (dk_at dksX25_init_2 6 rfl rfl)
noncomputable def f_X25_init (E : ax_E) (x0 : Option Nat) (x1 : Option Nat) (h : ax_H) : Option (ax_H) :=
  (ax_pR h x0 25 9 x1).bind fun h1 =>
  (ax_na E h1 108 6).bind fun q2 =>
  (ax_cst E 25).bind fun v3 =>
  (ax_stR E oj_108 q2.2 (some q2.1) 108 0 v3).bind fun h4 =>
  (ax_cst E 26).bind fun v5 =>
  (ax_stR E oj_108 h4 (some q2.1) 108 1 v5).bind fun h6 =>
  (ax_cst E 27).bind fun v7 =>
  (ax_stR E oj_108 h6 (some q2.1) 108 2 v7).bind fun h8 =>
  (ax_cst E 28).bind fun v9 =>
  (ax_stR E oj_108 h8 (some q2.1) 108 3 v9).bind fun h10 =>
  (ax_cst E 29).bind fun v11 =>
  (ax_stR E oj_108 h10 (some q2.1) 108 4 v11).bind fun h12 =>
  (ax_cst E 30).bind fun v13 =>
  (ax_stR E oj_108 h12 (some q2.1) 108 5 v13).bind fun h14 =>
  x0.bind fun _ => (f_X6_init E x0 x1 (some q2.1) h14).bind fun h15 =>
  (ax_na E h15 110 12).bind fun q16 =>
  (ax_pR q16.2 x0 25 8 (some q16.1)).bind fun h17 =>
  some h17
set_option maxHeartbeats 4000000 in
theorem we_X25_init {l : Launch} {G : ax_G} {X : ax_X} {Q : State → Prop} {h0 h : ax_H} {ls : Array Slot} (hSF : ax_SF G) (B : ax_BL l G X cX25_init 2 RX25 2 62) (Z : ax_Z X h0 none) (hn : X.2.2.2.2.2.2.2.2.1.name = yX25_init.name) (x0 : Option Nat) (x1 : Option Nat) {w : ax_H} (hl : ax_hl ls 2 [(0, .inr (.inr x0)), (1, .inr (.inr x1))]) (e : f_X25_init G.2.2 x0 x1 h = some w) (hp : (fun w : ax_H => Q = ax_Q G X h0 w none) w) : ax_W G X Q h 0 ls [] := by
  unfold f_X25_init at e
  refine ax_aload_n B dX25_init_0 rfl hl 0 rfl ?_
  refine ax_aload_n B dX25_init_1 rfl hl 1 rfl ?_
  refine ax_putR B ff_X25_3_25 (Or.inr ⟨rfl, rfl, hn⟩) rfl dX25_init_2 e (fun h1 e => ?_)
  refine ax_aload_n B dX25_init_5 rfl hl 0 rfl ?_
  refine ax_aload_n B dX25_init_6 rfl hl 1 rfl ?_
  refine ax_bipush B dX25_init_7 (by decide) ?_
  refine ax_anew B kd108 q1784 q719 dX25_init_9 e (fun q2 e => ?_)
  refine ax_dup B dX25_init_12 (va_rf_cat _) ?_
  refine ax_iconst B dX25_init_13 ?_
  refine ax_ldcS (j := 15) B (List.mem_of_getElem? (i := 15) rfl) dX25_init_14 e (fun v3 e => ?_)
  refine ax_aast B kd108 (ok_108 B) dX25_init_16 e (fun h4 e => ?_)
  refine ax_dup B dX25_init_17 (va_rf_cat _) ?_
  refine ax_iconst B dX25_init_18 ?_
  refine ax_ldcS (j := 16) B (List.mem_of_getElem? (i := 16) rfl) dX25_init_19 e (fun v5 e => ?_)
  refine ax_aast B kd108 (ok_108 B) dX25_init_21 e (fun h6 e => ?_)
  refine ax_dup B dX25_init_22 (va_rf_cat _) ?_
  refine ax_iconst B dX25_init_23 ?_
  refine ax_ldcS (j := 17) B (List.mem_of_getElem? (i := 17) rfl) dX25_init_24 e (fun v7 e => ?_)
  refine ax_aast B kd108 (ok_108 B) dX25_init_26 e (fun h8 e => ?_)
  refine ax_dup B dX25_init_27 (va_rf_cat _) ?_
  refine ax_iconst B dX25_init_28 ?_
  refine ax_ldcS (j := 18) B (List.mem_of_getElem? (i := 18) rfl) dX25_init_29 e (fun v9 e => ?_)
  refine ax_aast B kd108 (ok_108 B) dX25_init_31 e (fun h10 e => ?_)
  refine ax_dup B dX25_init_32 (va_rf_cat _) ?_
  refine ax_iconst B dX25_init_33 ?_
  refine ax_ldcS (j := 19) B (List.mem_of_getElem? (i := 19) rfl) dX25_init_34 e (fun v11 e => ?_)
  refine ax_aast B kd108 (ok_108 B) dX25_init_36 e (fun h12 e => ?_)
  refine ax_dup B dX25_init_37 (va_rf_cat _) ?_
  refine ax_iconst B dX25_init_38 ?_
  refine ax_ldcS (j := 20) B (List.mem_of_getElem? (i := 20) rfl) dX25_init_39 e (fun v13 e => ?_)
  refine ax_aast B kd108 (ok_108 B) dX25_init_41 e (fun h14 e => ?_)
  refine ax_iiR (y := yX6_init) (n := 2) (As := [va_rf x1, va_rf (some q2.1)]) B q1791 q731 q144 q732 rfl (by decide +kernel) ⟨Nat.le_of_ble_eq_true rfl, Nat.le_of_ble_eq_true rfl⟩ (fun w1 e1 => mt_X6_init l G hSF x0 x1 (some q2.1) _ w1 e1) rfl hl.size (by decide) dX25_init_42 e (fun h15 e => ?_)
  refine ax_aload_n B dX25_init_45 rfl hl 0 rfl ?_
  refine ax_bipush B dX25_init_46 (by decide) ?_
  refine ax_anew B kd110 q1792 q1793 dX25_init_48 e (fun q16 e => ?_)
  refine ax_putR B ff_X25_31_25 (Or.inr ⟨rfl, rfl, hn⟩) rfl dX25_init_51 e (fun h17 e => ?_)
  have e8 := e
  have hp : Q = _ := hp
  subst hp
  exact ax_return B Z dX25_init_54 e8
theorem mt_X25_init (l : Launch) (G : ax_G) (hSF : ax_SF G) (x0 : Option Nat) (x1 : Option Nat) (h : ax_H) (w : ax_H) (e : f_X25_init G.2.2 x0 x1 h = some w) : ax_Met l G yX25_init cX25_init 2 none 2 62 [va_rf x0, va_rf x1] h w none :=
  ax_enter [.inr (.inr x0), .inr (.inr x1)] (y := yX25_init) hSF (plainFor_of_name (by decide +kernel)) (Nat.le_of_ble_eq_true rfl) (fun X ls B Z hn hl => we_X25_init hSF B Z hn x0 x1 hl e rfl)
def dkwJ2_toArray_0 : List UInt8 := [42, 180, 0, 9, 42, 180, 0, 48, 184, 0, 66, 176]
abbrev dktJ2_toArray_0 : List UInt8 := dkwJ2_toArray_0 ++ []
theorem dksJ2_toArray_0 : cJ2_toArray.data.toList.drop 0 = dktJ2_toArray_0 := by decide +kernel
theorem dJ2_toArray_0 : decode cJ2_toArray 0 = .ok (.aload_n 0, 1) := dk_42 (dk_at dksJ2_toArray_0 0 rfl rfl)
theorem dJ2_toArray_1 : decode cJ2_toArray 1 = .ok (.getfield 9, 3) := dk_180 0 9 (dk_at dksJ2_toArray_0 1 rfl rfl)
theorem dJ2_toArray_4 : decode cJ2_toArray 4 = .ok (.aload_n 0, 1) := dk_42 (dk_at dksJ2_toArray_0 4 rfl rfl)
theorem dJ2_toArray_5 : decode cJ2_toArray 5 = .ok (.getfield 48, 3) := dk_180 0 48 (dk_at dksJ2_toArray_0 5 rfl rfl)
theorem dJ2_toArray_8 : decode cJ2_toArray 8 = .ok (.invokestatic 66, 3) := dk_184 0 66 (dk_at dksJ2_toArray_0 8 rfl rfl)
theorem dJ2_toArray_11 : decode cJ2_toArray 11 = .ok (.areturn, 1) := dk_176 (dk_at dksJ2_toArray_0 11 rfl rfl)
noncomputable def f_J2_toArray (E : ax_E) (x0 : Option Nat) (h : ax_H) : Option (Option Nat × ax_H) :=
  (ax_gR E h x0 42 1).bind fun v1 =>
  (ax_gI E h x0 42 2).bind fun v2 =>
  (f_J15_copyOf E v1 v2 h).bind fun q3 =>
  some (q3.1, q3.2)
set_option maxHeartbeats 4000000 in
theorem we_J2_toArray {l : Launch} {G : ax_G} {X : ax_X} {Q : State → Prop} {h0 h : ax_H} {ls : Array Slot} (hSF : ax_SF G) (B : ax_BL l G X cJ2_toArray 1 RJ2 4 105) (Z : ax_Z X h0 ((some (FieldType.array (FieldType.object "java/lang/Object"))))) (hn : X.2.2.2.2.2.2.2.2.1.name = yJ2_toArray.name) (x0 : Option Nat) {w : Option Nat × ax_H} (hl : ax_hl ls 1 [(0, .inr (.inr x0))]) (e : f_J2_toArray G.2.2 x0 h = some w) (hp : (fun w : Option Nat × ax_H => Q = ax_Q G X h0 w.2 (some (va_rf w.1))) w) : ax_W G X Q h 0 ls [] := by
  unfold f_J2_toArray at e
  refine ax_aload_n B dJ2_toArray_0 rfl hl 0 rfl ?_
  refine ax_getR B ff_J2_9_42 (fun _ _ => rfl) dJ2_toArray_1 e (fun v1 e => ?_)
  refine ax_aload_n B dJ2_toArray_4 rfl hl 0 rfl ?_
  refine ax_getI B ff_J2_48_42 (fun _ _ => rfl) dJ2_toArray_5 e (fun v2 e => ?_)
  refine ax_isR (y := yJ15_copyOf) (n := 2) (As := [va_rf v1, .int (Int32.ofInt v2)]) B (lw_S q1271 q1272 q166 q1273) (by decide +kernel) ⟨Nat.le_of_ble_eq_true rfl, Nat.le_of_ble_eq_true rfl⟩ (fun w1 e1 => mt_J15_copyOf l G hSF v1 v2 _ w1 e1) rfl hl.size (by decide) dJ2_toArray_8 e (fun q3 e => ?_)
  have e8 := e
  have hp : Q = _ := hp
  subst hp
  exact ax_areturn B Z (Or.inr ⟨_, rfl⟩) dJ2_toArray_11 e8
theorem mt_J2_toArray (l : Launch) (G : ax_G) (hSF : ax_SF G) (x0 : Option Nat) (h : ax_H) (w : Option Nat × ax_H) (e : f_J2_toArray G.2.2 x0 h = some w) : ax_Met l G yJ2_toArray cJ2_toArray 1 ((some (FieldType.array (FieldType.object "java/lang/Object")))) 4 105 [va_rf x0] h w.2 (some (va_rf w.1)) :=
  ax_enter [.inr (.inr x0)] (y := yJ2_toArray) hSF (plainFor_of_name (by decide +kernel)) (Nat.le_of_ble_eq_true rfl) (fun X ls B Z hn hl => we_J2_toArray hSF B Z hn x0 hl e rfl)
def dkwJ2_init_2_2 : List UInt8 := [18, 56, 184, 0, 57, 181, 0, 9, 167, 0, 10, 42, 178, 0, 15, 181, 0, 9, 177]
abbrev dktJ2_init_2_2 : List UInt8 := dkwJ2_init_2_2 ++ []
def dkwJ2_init_2_1 : List UInt8 := [185, 0, 52, 1, 0, 18, 10, 166, 0, 11, 42, 44, 181, 0, 9, 167, 0, 27, 42, 44, 42, 180, 0, 48]
abbrev dktJ2_init_2_1 : List UInt8 := dkwJ2_init_2_1 ++ dktJ2_init_2_2
def dkwJ2_init_2_0 : List UInt8 := [42, 183, 0, 1, 43, 185, 0, 42, 1, 0, 77, 42, 44, 190, 90, 181, 0, 48, 153, 0, 39, 43]
abbrev dktJ2_init_2_0 : List UInt8 := dkwJ2_init_2_0 ++ dktJ2_init_2_1
theorem dksJ2_init_2_0 : cJ2_init_2.data.toList.drop 0 = dktJ2_init_2_0 := by decide +kernel
theorem dksJ2_init_2_1 : cJ2_init_2.data.toList.drop 22 = dktJ2_init_2_1 := dk_seg dksJ2_init_2_0 22 rfl rfl
theorem dksJ2_init_2_2 : cJ2_init_2.data.toList.drop 46 = dktJ2_init_2_2 := dk_seg dksJ2_init_2_1 24 rfl rfl
theorem dJ2_init_2_0 : decode cJ2_init_2 0 = .ok (.aload_n 0, 1) := dk_42 (dk_at dksJ2_init_2_0 0 rfl rfl)
theorem dJ2_init_2_1 : decode cJ2_init_2 1 = .ok (.invokespecial 1, 3) := dk_183 0 1 (dk_at dksJ2_init_2_0 1 rfl rfl)
theorem dJ2_init_2_4 : decode cJ2_init_2 4 = .ok (.aload_n 1, 1) := dk_43 (dk_at dksJ2_init_2_0 4 rfl rfl)
theorem dJ2_init_2_5 : decode cJ2_init_2 5 = .ok (.invokeinterface 42 1, 5) := by decide +kernel
theorem dJ2_init_2_10 : decode cJ2_init_2 10 = .ok (.astore_n 2, 1) := dk_77 (dk_at dksJ2_init_2_0 10 rfl rfl)
theorem dJ2_init_2_11 : decode cJ2_init_2 11 = .ok (.aload_n 0, 1) := dk_42 (dk_at dksJ2_init_2_0 11 rfl rfl)
theorem dJ2_init_2_12 : decode cJ2_init_2 12 = .ok (.aload_n 2, 1) := dk_44 (dk_at dksJ2_init_2_0 12 rfl rfl)
theorem dJ2_init_2_13 : decode cJ2_init_2 13 = .ok (.arraylength, 1) := dk_190 (dk_at dksJ2_init_2_0 13 rfl rfl)
theorem dJ2_init_2_14 : decode cJ2_init_2 14 = .ok (.dup_x1, 1) := dk_90 (dk_at dksJ2_init_2_0 14 rfl rfl)
theorem dJ2_init_2_15 : decode cJ2_init_2 15 = .ok (.putfield 48, 3) := dk_181 0 48 (dk_at dksJ2_init_2_0 15 rfl rfl)
theorem dJ2_init_2_18 : decode cJ2_init_2 18 = .ok (.ifCond .eq 39, 3) := dk_153 0 39 (dk_at dksJ2_init_2_0 18 rfl rfl)
theorem dJ2_init_2_21 : decode cJ2_init_2 21 = .ok (.aload_n 1, 1) := dk_43 (dk_at dksJ2_init_2_0 21 rfl rfl)
theorem dJ2_init_2_22 : decode cJ2_init_2 22 = .ok (.invokeinterface 52 1, 5) := by decide +kernel
theorem dJ2_init_2_27 : decode cJ2_init_2 27 = .ok (.ldc 10, 2) := dk_18 10 (dk_at dksJ2_init_2_1 5 rfl rfl)
theorem dJ2_init_2_29 : decode cJ2_init_2 29 = .ok (.if_acmp .ne 11, 3) := dk_166 0 11 (dk_at dksJ2_init_2_1 7 rfl rfl)
theorem dJ2_init_2_32 : decode cJ2_init_2 32 = .ok (.aload_n 0, 1) := dk_42 (dk_at dksJ2_init_2_1 10 rfl rfl)
theorem dJ2_init_2_33 : decode cJ2_init_2 33 = .ok (.aload_n 2, 1) := dk_44 (dk_at dksJ2_init_2_1 11 rfl rfl)
theorem dJ2_init_2_34 : decode cJ2_init_2 34 = .ok (.putfield 9, 3) := dk_181 0 9 (dk_at dksJ2_init_2_1 12 rfl rfl)
theorem dJ2_init_2_37 : decode cJ2_init_2 37 = .ok (.goto 27, 3) := dk_167 0 27 (dk_at dksJ2_init_2_1 15 rfl rfl)
theorem dJ2_init_2_40 : decode cJ2_init_2 40 = .ok (.aload_n 0, 1) := dk_42 (dk_at dksJ2_init_2_1 18 rfl rfl)
theorem dJ2_init_2_41 : decode cJ2_init_2 41 = .ok (.aload_n 2, 1) := dk_44 (dk_at dksJ2_init_2_1 19 rfl rfl)
theorem dJ2_init_2_42 : decode cJ2_init_2 42 = .ok (.aload_n 0, 1) := dk_42 (dk_at dksJ2_init_2_1 20 rfl rfl)
theorem dJ2_init_2_43 : decode cJ2_init_2 43 = .ok (.getfield 48, 3) := dk_180 0 48 (dk_at dksJ2_init_2_1 21 rfl rfl)
theorem dJ2_init_2_46 : decode cJ2_init_2 46 = .ok (.ldc 56, 2) := dk_18 56 (dk_at dksJ2_init_2_2 0 rfl rfl)
theorem dJ2_init_2_48 : decode cJ2_init_2 48 = .ok (.invokestatic 57, 3) := dk_184 0 57 (dk_at dksJ2_init_2_2 2 rfl rfl)
theorem dJ2_init_2_51 : decode cJ2_init_2 51 = .ok (.putfield 9, 3) := dk_181 0 9 (dk_at dksJ2_init_2_2 5 rfl rfl)
theorem dJ2_init_2_54 : decode cJ2_init_2 54 = .ok (.goto 10, 3) := dk_167 0 10 (dk_at dksJ2_init_2_2 8 rfl rfl)
theorem dJ2_init_2_57 : decode cJ2_init_2 57 = .ok (.aload_n 0, 1) := dk_42 (dk_at dksJ2_init_2_2 11 rfl rfl)
theorem dJ2_init_2_58 : decode cJ2_init_2 58 = .ok (.getstatic 15, 3) := dk_178 0 15 (dk_at dksJ2_init_2_2 12 rfl rfl)
theorem dJ2_init_2_61 : decode cJ2_init_2 61 = .ok (.putfield 9, 3) := dk_181 0 9 (dk_at dksJ2_init_2_2 15 rfl rfl)
theorem dJ2_init_2_64 : decode cJ2_init_2 64 = .ok (.return_, 1) := dk_177 (dk_at dksJ2_init_2_2 18 rfl rfl)
noncomputable def f_J2_init_2 (E : ax_E) (x0 : Option Nat) (x1 : Option Nat) (h : ax_H) : Option (ax_H) :=
  x0.bind fun _ => (f_J1_init E x0 h).bind fun h1 =>
  (ax_ce E h1 x1 42).bind fun _ => (f_J2_toArray E x1 h1).bind fun q2 =>
  (ax_len E q2.2 q2.1 104).bind fun v3 =>
  (ax_pI q2.2 x0 42 2 v3).bind fun h4 =>
  if i2 v3 = 0 then
    (ax_cst E 1).bind fun v5 =>
    (ax_pR h4 x0 42 1 v5).bind fun h6 =>
    some h6
  else
    (ax_ce E h4 x1 42).bind fun _ => (ax_cst E 5).bind fun v7 =>
    (ax_cst E 5).bind fun v8 =>
    if v7 = v8 then
      (ax_pR h4 x0 42 1 q2.1).bind fun h9 =>
      some h9
    else
      (ax_gI E h4 x0 42 2).bind fun v10 =>
      (ax_cst E 4).bind fun v11 =>
      (f_J15_copyOf_2 E q2.1 v10 v11 h4).bind fun q12 =>
      (ax_pR q12.2 x0 42 1 q12.1).bind fun h13 =>
      some h13
set_option maxHeartbeats 4000000 in
theorem we_J2_init_2 {l : Launch} {G : ax_G} {X : ax_X} {Q : State → Prop} {h0 h : ax_H} {ls : Array Slot} (hSF : ax_SF G) (B : ax_BL l G X cJ2_init_2 3 RJ2 5 125) (Z : ax_Z X h0 none) (hn : X.2.2.2.2.2.2.2.2.1.name = yJ2_init_2.name) (x0 : Option Nat) (x1 : Option Nat) {w : ax_H} (hl : ax_hl ls 3 [(0, .inr (.inr x0)), (1, .inr (.inr x1))]) (e : f_J2_init_2 G.2.2 x0 x1 h = some w) (hp : (fun w : ax_H => Q = ax_Q G X h0 w none) w) : ax_W G X Q h 0 ls [] := by
  unfold f_J2_init_2 at e
  refine ax_aload_n B dJ2_init_2_0 rfl hl 0 rfl ?_
  refine ax_iiR (y := yJ1_init) (n := 0) (As := []) B q196 q197 q128 q198 rfl (by decide +kernel) ⟨Nat.le_of_ble_eq_true rfl, Nat.le_of_ble_eq_true rfl⟩ (fun w1 e1 => mt_J1_init l G hSF x0 _ w1 e1) rfl hl.size (by decide) dJ2_init_2_1 e (fun h1 e => ?_)
  refine ax_aload_n B dJ2_init_2_4 rfl hl 1 rfl ?_
  refine ax_iFR (y := yJ2_toArray) (n := 0) (As := []) B kd42 q1821 q1825 q1827 q129 q1829 q1823 q1822 q1828 q1826 q1824 (by decide +kernel) ⟨Nat.le_of_ble_eq_true rfl, Nat.le_of_ble_eq_true rfl⟩ (fun w1 e1 => mt_J2_toArray l G hSF x1 _ w1 e1) rfl hl.size (by decide) dJ2_init_2_5 e (fun q2 e => ?_)
  refine ax_astore_n (L' := [(2, .inr (.inr q2.1)), (0, .inr (.inr x0)), (1, .inr (.inr x1))]) B dJ2_init_2_10 rfl hl (by decide) rfl (fun ls hl => ?_)
  refine ax_aload_n B dJ2_init_2_11 rfl hl 1 rfl ?_
  refine ax_aload_n B dJ2_init_2_12 rfl hl 0 rfl ?_
  refine ax_alen B kd104 dJ2_init_2_13 e (fun v3 e => ?_)
  refine ax_dup_x1 B dJ2_init_2_14 (rfl) (va_rf_cat _) ?_
  refine ax_putI B ff_J2_48_42 (Or.inl rfl) rfl dJ2_init_2_15 e (fun h4 e => ?_)
  refine ax_if_eq (tgt := 57) B dJ2_init_2_18 (by decide) e (fun e => ?_) (fun e => ?_)
  · refine ax_aload_n B dJ2_init_2_57 rfl hl 1 rfl ?_
    refine ax_gst B (ax_sx B).1.2.1 q1839 (Or.inl rfl) dJ2_init_2_58 e (fun v5 e => ?_)
    refine ax_putR B ff_J2_9_42 (Or.inl rfl) rfl dJ2_init_2_61 e (fun h6 e => ?_)
    have e8 := e
    have hp : Q = _ := hp
    subst hp
    exact ax_return B Z dJ2_init_2_64 e8
  · refine ax_aload_n B dJ2_init_2_21 rfl hl 2 rfl ?_
    refine ax_getCI B q1831 q1833 q1832 q1306 q1275 q1835 q1834 q1824 q1307 hl.size (by decide) (by decide) dJ2_init_2_22 e (fun v7 e => ?_)
    refine ax_ldcM B (ax_sx B).2.2.2.1 q1836 dJ2_init_2_27 e (fun v8 e => ?_)
    refine ax_acmp_ne (tgt := 40) B dJ2_init_2_29 (by decide) e (fun e => ?_) (fun e => ?_)
    · refine ax_aload_n B dJ2_init_2_32 rfl hl 1 rfl ?_
      refine ax_aload_n B dJ2_init_2_33 rfl hl 0 rfl ?_
      refine ax_putR B ff_J2_9_42 (Or.inl rfl) rfl dJ2_init_2_34 e (fun h9 e => ?_)
      refine ax_goto (tgt := 64) B dJ2_init_2_37 (by decide) ?_
      have e8 := e
      have hp : Q = _ := hp
      subst hp
      exact ax_return B Z dJ2_init_2_64 e8
    · refine ax_aload_n B dJ2_init_2_40 rfl hl 1 rfl ?_
      refine ax_aload_n B dJ2_init_2_41 rfl hl 0 rfl ?_
      refine ax_aload_n B dJ2_init_2_42 rfl hl 1 rfl ?_
      refine ax_getI B ff_J2_48_42 (fun _ _ => rfl) dJ2_init_2_43 e (fun v10 e => ?_)
      refine ax_ldcM B (ax_sx B).2.2.1 q1837 dJ2_init_2_46 e (fun v11 e => ?_)
      refine ax_isR (y := yJ15_copyOf_2) (n := 3) (As := [va_rf q2.1, .int (Int32.ofInt v10), va_rf v11]) B (lw_S q1838 q1309 q166 q1310) (by decide +kernel) ⟨Nat.le_of_ble_eq_true rfl, Nat.le_of_ble_eq_true rfl⟩ (fun w1 e1 => mt_J15_copyOf_2 l G hSF q2.1 v10 v11 _ w1 e1) rfl hl.size (by simp only [List.map_cons, List.map_nil, List.sum_cons, List.sum_nil, va_rf_cat, ax_catI, ax_catL]; decide) dJ2_init_2_48 e (fun q12 e => ?_)
      refine ax_putR B ff_J2_9_42 (Or.inl rfl) rfl dJ2_init_2_51 e (fun h13 e => ?_)
      refine ax_goto (tgt := 64) B dJ2_init_2_54 (by decide) ?_
      have e8 := e
      have hp : Q = _ := hp
      subst hp
      exact ax_return B Z dJ2_init_2_64 e8
theorem mt_J2_init_2 (l : Launch) (G : ax_G) (hSF : ax_SF G) (x0 : Option Nat) (x1 : Option Nat) (h : ax_H) (w : ax_H) (e : f_J2_init_2 G.2.2 x0 x1 h = some w) : ax_Met l G yJ2_init_2 cJ2_init_2 3 none 5 125 [va_rf x0, va_rf x1] h w none :=
  ax_enter [.inr (.inr x0), .inr (.inr x1)] (y := yJ2_init_2) hSF (plainFor_of_name (by decide +kernel)) (Nat.le_of_ble_eq_true rfl) (fun X ls B Z hn hl => we_J2_init_2 hSF B Z hn x0 x1 hl e rfl)
def dkwX20_setNow_4 : List UInt8 := [181, 0, 47, 177]
abbrev dktX20_setNow_4 : List UInt8 := dkwX20_setNow_4 ++ []
def dkwX20_setNow_3 : List UInt8 := [180, 0, 19, 180, 0, 23, 6, 42, 180, 0, 3, 180, 0, 44, 133, 80, 42, 180, 0, 3, 180, 0, 19, 3]
abbrev dktX20_setNow_3 : List UInt8 := dkwX20_setNow_3 ++ dktX20_setNow_4
def dkwX20_setNow_2 : List UInt8 := [180, 0, 3, 180, 0, 19, 180, 0, 23, 5, 42, 180, 0, 3, 180, 0, 41, 133, 80, 42, 180, 0, 3]
abbrev dktX20_setNow_2 : List UInt8 := dkwX20_setNow_2 ++ dktX20_setNow_3
def dkwX20_setNow_1 : List UInt8 := [180, 0, 3, 180, 0, 19, 180, 0, 23, 4, 42, 180, 0, 3, 182, 0, 29, 180, 0, 38, 133, 80, 42]
abbrev dktX20_setNow_1 : List UInt8 := dkwX20_setNow_1 ++ dktX20_setNow_2
def dkwX20_setNow_0 : List UInt8 := [42, 180, 0, 3, 180, 0, 19, 180, 0, 23, 3, 42, 180, 0, 3, 182, 0, 29, 180, 0, 33, 133, 80, 42]
abbrev dktX20_setNow_0 : List UInt8 := dkwX20_setNow_0 ++ dktX20_setNow_1
theorem dksX20_setNow_0 : cX20_setNow.data.toList.drop 0 = dktX20_setNow_0 := by decide +kernel
theorem dksX20_setNow_1 : cX20_setNow.data.toList.drop 24 = dktX20_setNow_1 := dk_seg dksX20_setNow_0 24 rfl rfl
theorem dksX20_setNow_2 : cX20_setNow.data.toList.drop 47 = dktX20_setNow_2 := dk_seg dksX20_setNow_1 23 rfl rfl
theorem dksX20_setNow_3 : cX20_setNow.data.toList.drop 70 = dktX20_setNow_3 := dk_seg dksX20_setNow_2 23 rfl rfl
theorem dksX20_setNow_4 : cX20_setNow.data.toList.drop 94 = dktX20_setNow_4 := dk_seg dksX20_setNow_3 24 rfl rfl
theorem dX20_setNow_0 : decode cX20_setNow 0 = .ok (.aload_n 0, 1) := dk_42 (dk_at dksX20_setNow_0 0 rfl rfl)
theorem dX20_setNow_1 : decode cX20_setNow 1 = .ok (.getfield 3, 3) := dk_180 0 3 (dk_at dksX20_setNow_0 1 rfl rfl)
theorem dX20_setNow_4 : decode cX20_setNow 4 = .ok (.getfield 19, 3) := dk_180 0 19 (dk_at dksX20_setNow_0 4 rfl rfl)
theorem dX20_setNow_7 : decode cX20_setNow 7 = .ok (.getfield 23, 3) := dk_180 0 23 (dk_at dksX20_setNow_0 7 rfl rfl)
theorem dX20_setNow_10 : decode cX20_setNow 10 = .ok (.iconst 0, 1) := dk_3 (dk_at dksX20_setNow_0 10 rfl rfl)
theorem dX20_setNow_11 : decode cX20_setNow 11 = .ok (.aload_n 0, 1) := dk_42 (dk_at dksX20_setNow_0 11 rfl rfl)
theorem dX20_setNow_12 : decode cX20_setNow 12 = .ok (.getfield 3, 3) := dk_180 0 3 (dk_at dksX20_setNow_0 12 rfl rfl)
theorem dX20_setNow_15 : decode cX20_setNow 15 = .ok (.invokevirtual 29, 3) := dk_182 0 29 (dk_at dksX20_setNow_0 15 rfl rfl)
theorem dX20_setNow_18 : decode cX20_setNow 18 = .ok (.getfield 33, 3) := dk_180 0 33 (dk_at dksX20_setNow_0 18 rfl rfl)
theorem dX20_setNow_21 : decode cX20_setNow 21 = .ok (.i2l, 1) := dk_133 (dk_at dksX20_setNow_0 21 rfl rfl)
theorem dX20_setNow_22 : decode cX20_setNow 22 = .ok (.lastore, 1) := dk_80 (dk_at dksX20_setNow_0 22 rfl rfl)
theorem dX20_setNow_23 : decode cX20_setNow 23 = .ok (.aload_n 0, 1) := dk_42 (dk_at dksX20_setNow_0 23 rfl rfl)
theorem dX20_setNow_24 : decode cX20_setNow 24 = .ok (.getfield 3, 3) := dk_180 0 3 (dk_at dksX20_setNow_1 0 rfl rfl)
theorem dX20_setNow_27 : decode cX20_setNow 27 = .ok (.getfield 19, 3) := dk_180 0 19 (dk_at dksX20_setNow_1 3 rfl rfl)
theorem dX20_setNow_30 : decode cX20_setNow 30 = .ok (.getfield 23, 3) := dk_180 0 23 (dk_at dksX20_setNow_1 6 rfl rfl)
theorem dX20_setNow_33 : decode cX20_setNow 33 = .ok (.iconst 1, 1) := dk_4 (dk_at dksX20_setNow_1 9 rfl rfl)
theorem dX20_setNow_34 : decode cX20_setNow 34 = .ok (.aload_n 0, 1) := dk_42 (dk_at dksX20_setNow_1 10 rfl rfl)
theorem dX20_setNow_35 : decode cX20_setNow 35 = .ok (.getfield 3, 3) := dk_180 0 3 (dk_at dksX20_setNow_1 11 rfl rfl)
theorem dX20_setNow_38 : decode cX20_setNow 38 = .ok (.invokevirtual 29, 3) := dk_182 0 29 (dk_at dksX20_setNow_1 14 rfl rfl)
theorem dX20_setNow_41 : decode cX20_setNow 41 = .ok (.getfield 38, 3) := dk_180 0 38 (dk_at dksX20_setNow_1 17 rfl rfl)
theorem dX20_setNow_44 : decode cX20_setNow 44 = .ok (.i2l, 1) := dk_133 (dk_at dksX20_setNow_1 20 rfl rfl)
theorem dX20_setNow_45 : decode cX20_setNow 45 = .ok (.lastore, 1) := dk_80 (dk_at dksX20_setNow_1 21 rfl rfl)
theorem dX20_setNow_46 : decode cX20_setNow 46 = .ok (.aload_n 0, 1) := dk_42 (dk_at dksX20_setNow_1 22 rfl rfl)
theorem dX20_setNow_47 : decode cX20_setNow 47 = .ok (.getfield 3, 3) := dk_180 0 3 (dk_at dksX20_setNow_2 0 rfl rfl)
theorem dX20_setNow_50 : decode cX20_setNow 50 = .ok (.getfield 19, 3) := dk_180 0 19 (dk_at dksX20_setNow_2 3 rfl rfl)
theorem dX20_setNow_53 : decode cX20_setNow 53 = .ok (.getfield 23, 3) := dk_180 0 23 (dk_at dksX20_setNow_2 6 rfl rfl)
theorem dX20_setNow_56 : decode cX20_setNow 56 = .ok (.iconst 2, 1) := dk_5 (dk_at dksX20_setNow_2 9 rfl rfl)
theorem dX20_setNow_57 : decode cX20_setNow 57 = .ok (.aload_n 0, 1) := dk_42 (dk_at dksX20_setNow_2 10 rfl rfl)
theorem dX20_setNow_58 : decode cX20_setNow 58 = .ok (.getfield 3, 3) := dk_180 0 3 (dk_at dksX20_setNow_2 11 rfl rfl)
theorem dX20_setNow_61 : decode cX20_setNow 61 = .ok (.getfield 41, 3) := dk_180 0 41 (dk_at dksX20_setNow_2 14 rfl rfl)
theorem dX20_setNow_64 : decode cX20_setNow 64 = .ok (.i2l, 1) := dk_133 (dk_at dksX20_setNow_2 17 rfl rfl)
theorem dX20_setNow_65 : decode cX20_setNow 65 = .ok (.lastore, 1) := dk_80 (dk_at dksX20_setNow_2 18 rfl rfl)
theorem dX20_setNow_66 : decode cX20_setNow 66 = .ok (.aload_n 0, 1) := dk_42 (dk_at dksX20_setNow_2 19 rfl rfl)
theorem dX20_setNow_67 : decode cX20_setNow 67 = .ok (.getfield 3, 3) := dk_180 0 3 (dk_at dksX20_setNow_2 20 rfl rfl)
theorem dX20_setNow_70 : decode cX20_setNow 70 = .ok (.getfield 19, 3) := dk_180 0 19 (dk_at dksX20_setNow_3 0 rfl rfl)
theorem dX20_setNow_73 : decode cX20_setNow 73 = .ok (.getfield 23, 3) := dk_180 0 23 (dk_at dksX20_setNow_3 3 rfl rfl)
theorem dX20_setNow_76 : decode cX20_setNow 76 = .ok (.iconst 3, 1) := dk_6 (dk_at dksX20_setNow_3 6 rfl rfl)
theorem dX20_setNow_77 : decode cX20_setNow 77 = .ok (.aload_n 0, 1) := dk_42 (dk_at dksX20_setNow_3 7 rfl rfl)
theorem dX20_setNow_78 : decode cX20_setNow 78 = .ok (.getfield 3, 3) := dk_180 0 3 (dk_at dksX20_setNow_3 8 rfl rfl)
theorem dX20_setNow_81 : decode cX20_setNow 81 = .ok (.getfield 44, 3) := dk_180 0 44 (dk_at dksX20_setNow_3 11 rfl rfl)
theorem dX20_setNow_84 : decode cX20_setNow 84 = .ok (.i2l, 1) := dk_133 (dk_at dksX20_setNow_3 14 rfl rfl)
theorem dX20_setNow_85 : decode cX20_setNow 85 = .ok (.lastore, 1) := dk_80 (dk_at dksX20_setNow_3 15 rfl rfl)
theorem dX20_setNow_86 : decode cX20_setNow 86 = .ok (.aload_n 0, 1) := dk_42 (dk_at dksX20_setNow_3 16 rfl rfl)
theorem dX20_setNow_87 : decode cX20_setNow 87 = .ok (.getfield 3, 3) := dk_180 0 3 (dk_at dksX20_setNow_3 17 rfl rfl)
theorem dX20_setNow_90 : decode cX20_setNow 90 = .ok (.getfield 19, 3) := dk_180 0 19 (dk_at dksX20_setNow_3 20 rfl rfl)
theorem dX20_setNow_93 : decode cX20_setNow 93 = .ok (.iconst 0, 1) := dk_3 (dk_at dksX20_setNow_3 23 rfl rfl)
theorem dX20_setNow_94 : decode cX20_setNow 94 = .ok (.putfield 47, 3) := dk_181 0 47 (dk_at dksX20_setNow_4 0 rfl rfl)
theorem dX20_setNow_97 : decode cX20_setNow 97 = .ok (.return_, 1) := dk_177 (dk_at dksX20_setNow_4 3 rfl rfl)
noncomputable def f_X20_setNow (E : ax_E) (x0 : Option Nat) (h : ax_H) : Option (ax_H) :=
  (ax_gRs E h x0 [(21, 3), (23, 7), (24, 7)]).bind fun v1 =>
  (ax_gR E h v1 0 4).bind fun v2 =>
  (ax_gR E h v2 3 0).bind fun v3 =>
  (ax_gRs E h x0 [(21, 3), (23, 7), (24, 7)]).bind fun v4 =>
  (ax_ce E h v4 0).bind fun _ => (f_X0_books E v4 h).bind fun q5 =>
  (ax_gI E q5.2 q5.1 2 6).bind fun v6 =>
  (ax_sto q5.2 v3 103 0 (i2 v6)).bind fun h7 =>
  (ax_gRs E h7 x0 [(21, 3), (23, 7), (24, 7)]).bind fun v8 =>
  (ax_gR E h7 v8 0 4).bind fun v9 =>
  (ax_gR E h7 v9 3 0).bind fun v10 =>
  (ax_gRs E h7 x0 [(21, 3), (23, 7), (24, 7)]).bind fun v11 =>
  (ax_ce E h7 v11 0).bind fun _ => (f_X0_books E v11 h7).bind fun q12 =>
  (ax_gI E q12.2 q12.1 2 5).bind fun v13 =>
  (ax_sto q12.2 v10 103 1 (i2 v13)).bind fun h14 =>
  (ax_gRs E h14 x0 [(21, 3), (23, 7), (24, 7)]).bind fun v15 =>
  (ax_gR E h14 v15 0 4).bind fun v16 =>
  (ax_gR E h14 v16 3 0).bind fun v17 =>
  (ax_gRs E h14 x0 [(21, 3), (23, 7), (24, 7)]).bind fun v18 =>
  (ax_gI E h14 v18 0 15).bind fun v19 =>
  (ax_sto h14 v17 103 2 (i2 v19)).bind fun h20 =>
  (ax_gRs E h20 x0 [(21, 3), (23, 7), (24, 7)]).bind fun v21 =>
  (ax_gR E h20 v21 0 4).bind fun v22 =>
  (ax_gR E h20 v22 3 0).bind fun v23 =>
  (ax_gRs E h20 x0 [(21, 3), (23, 7), (24, 7)]).bind fun v24 =>
  (ax_gI E h20 v24 0 16).bind fun v25 =>
  (ax_sto h20 v23 103 3 (i2 v25)).bind fun h26 =>
  (ax_gRs E h26 x0 [(21, 3), (23, 7), (24, 7)]).bind fun v27 =>
  (ax_gR E h26 v27 0 4).bind fun v28 =>
  if 0 = 0 ∨ 0 = 1 then (ax_pI h26 v28 3 1 0).bind fun h29 =>
    some h29
  else none
set_option maxHeartbeats 4000000 in
theorem we_X20_setNow {l : Launch} {G : ax_G} {X : ax_X} {Q : State → Prop} {h0 h : ax_H} {ls : Array Slot} (hSF : ax_SF G) (B : ax_BL l G X cX20_setNow 1 RX20 2 60) (Z : ax_Z X h0 none) (hn : X.2.2.2.2.2.2.2.2.1.name = yX20_setNow.name) (x0 : Option Nat) {w : ax_H} (hl : ax_hl ls 1 [(0, .inr (.inr x0))]) (e : f_X20_setNow G.2.2 x0 h = some w) (hp : (fun w : ax_H => Q = ax_Q G X h0 w none) w) : ax_W G X Q h 0 ls [] := by
  unfold f_X20_setNow at e
  refine ax_aload_n B dX20_setNow_0 rfl hl 0 rfl ?_
  refine ax_getRs B fs_X20_3 (fun _ _ => rfl) dX20_setNow_1 e (fun v1 e => ?_)
  refine ax_getR B ff_X20_19_0 (fun _ _ => rfl) dX20_setNow_4 e (fun v2 e => ?_)
  refine ax_getR B ff_X20_23_3 (fun _ _ => rfl) dX20_setNow_7 e (fun v3 e => ?_)
  refine ax_iconst B dX20_setNow_10 ?_
  refine ax_aload_n B dX20_setNow_11 rfl hl 0 rfl ?_
  refine ax_getRs B fs_X20_3 (fun _ _ => rfl) dX20_setNow_12 e (fun v4 e => ?_)
  refine ax_ivNR (y := yX0_books) (n := 0) (As := []) B kd0 q1856 q445 qs2 q125 q446 (by decide +kernel) ⟨Nat.le_of_ble_eq_true rfl, Nat.le_of_ble_eq_true rfl⟩ (fun w1 e1 => mt_X0_books l G hSF v4 _ w1 e1) rfl hl.size (by simp only [List.map_cons, List.map_nil, List.sum_cons, List.sum_nil, va_rf_cat, ax_catI, ax_catL]; decide) dX20_setNow_15 e (fun q5 e => ?_)
  refine ax_getI B ff_X20_33_2 (fun _ _ => rfl) dX20_setNow_18 e (fun v6 e => ?_)
  refine ax_i2l' B dX20_setNow_21 ?_
  refine ax_last B kd103 dX20_setNow_22 e (fun h7 e => ?_)
  refine ax_aload_n B dX20_setNow_23 rfl hl 0 rfl ?_
  refine ax_getRs B fs_X20_3 (fun _ _ => rfl) dX20_setNow_24 e (fun v8 e => ?_)
  refine ax_getR B ff_X20_19_0 (fun _ _ => rfl) dX20_setNow_27 e (fun v9 e => ?_)
  refine ax_getR B ff_X20_23_3 (fun _ _ => rfl) dX20_setNow_30 e (fun v10 e => ?_)
  refine ax_iconst B dX20_setNow_33 ?_
  refine ax_aload_n B dX20_setNow_34 rfl hl 0 rfl ?_
  refine ax_getRs B fs_X20_3 (fun _ _ => rfl) dX20_setNow_35 e (fun v11 e => ?_)
  refine ax_ivNR (y := yX0_books) (n := 0) (As := []) B kd0 q1856 q445 qs2 q125 q446 (by decide +kernel) ⟨Nat.le_of_ble_eq_true rfl, Nat.le_of_ble_eq_true rfl⟩ (fun w1 e1 => mt_X0_books l G hSF v11 _ w1 e1) rfl hl.size (by simp only [List.map_cons, List.map_nil, List.sum_cons, List.sum_nil, va_rf_cat, ax_catI, ax_catL]; decide) dX20_setNow_38 e (fun q12 e => ?_)
  refine ax_getI B ff_X20_38_2 (fun _ _ => rfl) dX20_setNow_41 e (fun v13 e => ?_)
  refine ax_i2l' B dX20_setNow_44 ?_
  refine ax_last B kd103 dX20_setNow_45 e (fun h14 e => ?_)
  refine ax_aload_n B dX20_setNow_46 rfl hl 0 rfl ?_
  refine ax_getRs B fs_X20_3 (fun _ _ => rfl) dX20_setNow_47 e (fun v15 e => ?_)
  refine ax_getR B ff_X20_19_0 (fun _ _ => rfl) dX20_setNow_50 e (fun v16 e => ?_)
  refine ax_getR B ff_X20_23_3 (fun _ _ => rfl) dX20_setNow_53 e (fun v17 e => ?_)
  refine ax_iconst B dX20_setNow_56 ?_
  refine ax_aload_n B dX20_setNow_57 rfl hl 0 rfl ?_
  refine ax_getRs B fs_X20_3 (fun _ _ => rfl) dX20_setNow_58 e (fun v18 e => ?_)
  refine ax_getI B ff_X20_41_0 (fun _ _ => rfl) dX20_setNow_61 e (fun v19 e => ?_)
  refine ax_i2l' B dX20_setNow_64 ?_
  refine ax_last B kd103 dX20_setNow_65 e (fun h20 e => ?_)
  refine ax_aload_n B dX20_setNow_66 rfl hl 0 rfl ?_
  refine ax_getRs B fs_X20_3 (fun _ _ => rfl) dX20_setNow_67 e (fun v21 e => ?_)
  refine ax_getR B ff_X20_19_0 (fun _ _ => rfl) dX20_setNow_70 e (fun v22 e => ?_)
  refine ax_getR B ff_X20_23_3 (fun _ _ => rfl) dX20_setNow_73 e (fun v23 e => ?_)
  refine ax_iconst B dX20_setNow_76 ?_
  refine ax_aload_n B dX20_setNow_77 rfl hl 0 rfl ?_
  refine ax_getRs B fs_X20_3 (fun _ _ => rfl) dX20_setNow_78 e (fun v24 e => ?_)
  refine ax_getI B ff_X20_44_0 (fun _ _ => rfl) dX20_setNow_81 e (fun v25 e => ?_)
  refine ax_i2l' B dX20_setNow_84 ?_
  refine ax_last B kd103 dX20_setNow_85 e (fun h26 e => ?_)
  refine ax_aload_n B dX20_setNow_86 rfl hl 0 rfl ?_
  refine ax_getRs B fs_X20_3 (fun _ _ => rfl) dX20_setNow_87 e (fun v27 e => ?_)
  refine ax_getR B ff_X20_19_0 (fun _ _ => rfl) dX20_setNow_90 e (fun v28 e => ?_)
  refine ax_iconst B dX20_setNow_93 ?_
  refine ax_putZ B ff_X20_47_3 (Or.inl rfl) dX20_setNow_94 e (fun h29 e => ?_)
  have e8 := e
  have hp : Q = _ := hp
  subst hp
  exact ax_return B Z dX20_setNow_97 e8
theorem mt_X20_setNow (l : Launch) (G : ax_G) (hSF : ax_SF G) (x0 : Option Nat) (h : ax_H) (w : ax_H) (e : f_X20_setNow G.2.2 x0 h = some w) : ax_Met l G yX20_setNow cX20_setNow 1 none 2 60 [va_rf x0] h w none :=
  ax_enter [.inr (.inr x0)] (y := yX20_setNow) hSF (plainFor_of_name (by decide +kernel)) (Nat.le_of_ble_eq_true rfl) (fun X ls B Z hn hl => we_X20_setNow hSF B Z hn x0 hl e rfl)
def dkwX21_does_0 : List UInt8 := [42, 180, 0, 1, 182, 0, 13, 172]
abbrev dktX21_does_0 : List UInt8 := dkwX21_does_0 ++ []
theorem dksX21_does_0 : cX21_does.data.toList.drop 0 = dktX21_does_0 := by decide +kernel
theorem dX21_does_0 : decode cX21_does 0 = .ok (.aload_n 0, 1) := dk_42 (dk_at dksX21_does_0 0 rfl rfl)
theorem dX21_does_1 : decode cX21_does 1 = .ok (.getfield 1, 3) := dk_180 0 1 (dk_at dksX21_does_0 1 rfl rfl)
theorem dX21_does_4 : decode cX21_does 4 = .ok (.invokevirtual 13, 3) := dk_182 0 13 (dk_at dksX21_does_0 4 rfl rfl)
theorem dX21_does_7 : decode cX21_does 7 = .ok (.ireturn, 1) := dk_172 (dk_at dksX21_does_0 7 rfl rfl)
noncomputable def f_X21_does (E : ax_E) (x0 : Option Nat) (h : ax_H) : Option (Int × ax_H) :=
  (ax_gR E h x0 21 4).bind fun v1 =>
  (ax_ce E h v1 0).bind fun _ => (f_X0_waitNow E v1 h).bind fun q2 =>
  some (q2.1, q2.2)
set_option maxHeartbeats 4000000 in
theorem we_X21_does {l : Launch} {G : ax_G} {X : ax_X} {Q : State → Prop} {h0 h : ax_H} {ls : Array Slot} (hSF : ax_SF G) (B : ax_BL l G X cX21_does 1 RX21 142 3611) (Z : ax_Z X h0 ((some FieldType.int))) (hn : X.2.2.2.2.2.2.2.2.1.name = yX21_does.name) (x0 : Option Nat) {w : Int × ax_H} (hl : ax_hl ls 1 [(0, .inr (.inr x0))]) (e : f_X21_does G.2.2 x0 h = some w) (hp : (fun w : Int × ax_H => Q = ax_Q G X h0 w.2 (some (.int (Int32.ofInt w.1)))) w) : ax_W G X Q h 0 ls [] := by
  unfold f_X21_does at e
  refine ax_aload_n B dX21_does_0 rfl hl 0 rfl ?_
  refine ax_getR B ff_X21_1_21 (fun _ _ => rfl) dX21_does_1 e (fun v1 e => ?_)
  refine ax_ivNI (y := yX0_waitNow) (n := 0) (As := []) B kd0 q1894 q1444 qs30 q125 q1445 (by decide +kernel) ⟨Nat.le_of_ble_eq_true rfl, Nat.le_of_ble_eq_true rfl⟩ (fun w1 e1 => mt_X0_waitNow l G hSF v1 _ w1 e1) rfl hl.size (by decide) dX21_does_4 e (fun q2 e => ?_)
  have e8 := e
  have hp : Q = _ := hp
  subst hp
  exact ax_ireturn B Z dX21_does_7 e8
theorem mt_X21_does (l : Launch) (G : ax_G) (hSF : ax_SF G) (x0 : Option Nat) (h : ax_H) (w : Int × ax_H) (e : f_X21_does G.2.2 x0 h = some w) : ax_Met l G yX21_does cX21_does 1 ((some FieldType.int)) 142 3611 [va_rf x0] h w.2 (some (.int (Int32.ofInt w.1))) :=
  ax_enter [.inr (.inr x0)] (y := yX21_does) hSF (plainFor_of_name (by decide +kernel)) (Nat.le_of_ble_eq_true rfl) (fun X ls B Z hn hl => we_X21_does hSF B Z hn x0 hl e rfl)
def dkwX20_of_2 : List UInt8 := [167, 0, 5, 32, 136, 172]
abbrev dktX20_of_2 : List UInt8 := dkwX20_of_2 ++ []
def dkwX20_of_1 : List UInt8 := [65, 42, 42, 180, 0, 3, 180, 0, 19, 180, 0, 47, 181, 0, 51, 42, 180, 0, 51, 153, 0, 7, 2]
abbrev dktX20_of_1 : List UInt8 := dkwX20_of_1 ++ dktX20_of_2
def dkwX20_of_0 : List UInt8 := [42, 180, 0, 51, 153, 0, 5, 2, 172, 42, 182, 0, 54, 43, 42, 180, 0, 3, 180, 0, 19, 182, 0, 57]
abbrev dktX20_of_0 : List UInt8 := dkwX20_of_0 ++ dktX20_of_1
theorem dksX20_of_0 : cX20_of.data.toList.drop 0 = dktX20_of_0 := by decide +kernel
theorem dksX20_of_1 : cX20_of.data.toList.drop 24 = dktX20_of_1 := dk_seg dksX20_of_0 24 rfl rfl
theorem dksX20_of_2 : cX20_of.data.toList.drop 47 = dktX20_of_2 := dk_seg dksX20_of_1 23 rfl rfl
theorem dX20_of_0 : decode cX20_of 0 = .ok (.aload_n 0, 1) := dk_42 (dk_at dksX20_of_0 0 rfl rfl)
theorem dX20_of_1 : decode cX20_of 1 = .ok (.getfield 51, 3) := dk_180 0 51 (dk_at dksX20_of_0 1 rfl rfl)
theorem dX20_of_4 : decode cX20_of 4 = .ok (.ifCond .eq 5, 3) := dk_153 0 5 (dk_at dksX20_of_0 4 rfl rfl)
theorem dX20_of_7 : decode cX20_of 7 = .ok (.iconst (-1), 1) := dk_2 (dk_at dksX20_of_0 7 rfl rfl)
theorem dX20_of_8 : decode cX20_of 8 = .ok (.ireturn, 1) := dk_172 (dk_at dksX20_of_0 8 rfl rfl)
theorem dX20_of_9 : decode cX20_of 9 = .ok (.aload_n 0, 1) := dk_42 (dk_at dksX20_of_0 9 rfl rfl)
theorem dX20_of_10 : decode cX20_of 10 = .ok (.invokevirtual 54, 3) := dk_182 0 54 (dk_at dksX20_of_0 10 rfl rfl)
theorem dX20_of_13 : decode cX20_of 13 = .ok (.aload_n 1, 1) := dk_43 (dk_at dksX20_of_0 13 rfl rfl)
theorem dX20_of_14 : decode cX20_of 14 = .ok (.aload_n 0, 1) := dk_42 (dk_at dksX20_of_0 14 rfl rfl)
theorem dX20_of_15 : decode cX20_of 15 = .ok (.getfield 3, 3) := dk_180 0 3 (dk_at dksX20_of_0 15 rfl rfl)
theorem dX20_of_18 : decode cX20_of 18 = .ok (.getfield 19, 3) := dk_180 0 19 (dk_at dksX20_of_0 18 rfl rfl)
theorem dX20_of_21 : decode cX20_of 21 = .ok (.invokevirtual 57, 3) := dk_182 0 57 (dk_at dksX20_of_0 21 rfl rfl)
theorem dX20_of_24 : decode cX20_of 24 = .ok (.lstore_n 2, 1) := dk_65 (dk_at dksX20_of_1 0 rfl rfl)
theorem dX20_of_25 : decode cX20_of 25 = .ok (.aload_n 0, 1) := dk_42 (dk_at dksX20_of_1 1 rfl rfl)
theorem dX20_of_26 : decode cX20_of 26 = .ok (.aload_n 0, 1) := dk_42 (dk_at dksX20_of_1 2 rfl rfl)
theorem dX20_of_27 : decode cX20_of 27 = .ok (.getfield 3, 3) := dk_180 0 3 (dk_at dksX20_of_1 3 rfl rfl)
theorem dX20_of_30 : decode cX20_of 30 = .ok (.getfield 19, 3) := dk_180 0 19 (dk_at dksX20_of_1 6 rfl rfl)
theorem dX20_of_33 : decode cX20_of 33 = .ok (.getfield 47, 3) := dk_180 0 47 (dk_at dksX20_of_1 9 rfl rfl)
theorem dX20_of_36 : decode cX20_of 36 = .ok (.putfield 51, 3) := dk_181 0 51 (dk_at dksX20_of_1 12 rfl rfl)
theorem dX20_of_39 : decode cX20_of 39 = .ok (.aload_n 0, 1) := dk_42 (dk_at dksX20_of_1 15 rfl rfl)
theorem dX20_of_40 : decode cX20_of 40 = .ok (.getfield 51, 3) := dk_180 0 51 (dk_at dksX20_of_1 16 rfl rfl)
theorem dX20_of_43 : decode cX20_of 43 = .ok (.ifCond .eq 7, 3) := dk_153 0 7 (dk_at dksX20_of_1 19 rfl rfl)
theorem dX20_of_46 : decode cX20_of 46 = .ok (.iconst (-1), 1) := dk_2 (dk_at dksX20_of_1 22 rfl rfl)
theorem dX20_of_47 : decode cX20_of 47 = .ok (.goto 5, 3) := dk_167 0 5 (dk_at dksX20_of_2 0 rfl rfl)
theorem dX20_of_50 : decode cX20_of 50 = .ok (.lload_n 2, 1) := dk_32 (dk_at dksX20_of_2 3 rfl rfl)
theorem dX20_of_51 : decode cX20_of 51 = .ok (.l2i, 1) := dk_136 (dk_at dksX20_of_2 4 rfl rfl)
theorem dX20_of_52 : decode cX20_of 52 = .ok (.ireturn, 1) := dk_172 (dk_at dksX20_of_2 5 rfl rfl)
noncomputable def f_X20_of (E : ax_E) (x0 : Option Nat) (x1 : Option Nat) (h : ax_H) : Option (Int × ax_H) :=
  (ax_gIs E h x0 [(21, 2), (23, 6), (24, 6)]).bind fun v1 =>
  if i2 v1 = 0 then
    (ax_dp E h x0 fun t => if t = 21 ∨ t = 23 ∨ t = 24 then f_X20_setNow E x0 h else none).bind fun h2 =>
    (ax_gRs E h2 x0 [(21, 3), (23, 7), (24, 7)]).bind fun v3 =>
    (ax_gR E h2 v3 0 4).bind fun v4 =>
    (ax_dp E h2 x1 fun t => if t = 10 then f_X10_of E x1 v4 h2 else if t = 11 then f_X11_of E x1 v4 h2 else if t = 12 then f_X12_of E x1 v4 h2 else if t = 13 then f_X13_of E x1 v4 h2 else if t = 14 then fn_X14_of E 64 x1 v4 h2 else none).bind fun q5 =>
    (ax_gRs E q5.2 x0 [(21, 3), (23, 7), (24, 7)]).bind fun v6 =>
    (ax_gR E q5.2 v6 0 4).bind fun v7 =>
    (ax_gI E q5.2 v7 3 1).bind fun v8 =>
    if v8 = 0 ∨ v8 = 1 then (ax_pIs q5.2 x0 [(21, 2), (23, 6), (24, 6)] v8).bind fun h9 =>
      (ax_gIs E h9 x0 [(21, 2), (23, 6), (24, 6)]).bind fun v10 =>
      if i2 v10 = 0 then
        some (q5.1, h9)
      else
        some ((-1), h9)
    else none
  else
    some ((-1), h)
set_option maxHeartbeats 4000000 in
theorem we_X20_of {l : Launch} {G : ax_G} {X : ax_X} {Q : State → Prop} {h0 h : ax_H} {ls : Array Slot} (hSF : ax_SF G) (B : ax_BL l G X cX20_of 4 RX20 70 1754) (Z : ax_Z X h0 ((some FieldType.int))) (hn : X.2.2.2.2.2.2.2.2.1.name = yX20_of.name) (x0 : Option Nat) (x1 : Option Nat) {w : Int × ax_H} (hl : ax_hl ls 4 [(0, .inr (.inr x0)), (1, .inr (.inr x1))]) (e : f_X20_of G.2.2 x0 x1 h = some w) (hp : (fun w : Int × ax_H => Q = ax_Q G X h0 w.2 (some (.int (Int32.ofInt w.1)))) w) : ax_W G X Q h 0 ls [] := by
  unfold f_X20_of at e
  refine ax_aload_n B dX20_of_0 rfl hl 0 rfl ?_
  refine ax_getIs B fs_X20_51 (fun _ _ => rfl) dX20_of_1 e (fun v1 e => ?_)
  refine ax_if_eq (tgt := 9) B dX20_of_4 (by decide) e (fun e => ?_) (fun e => ?_)
  · refine ax_aload_n B dX20_of_9 rfl hl 0 rfl ?_
    refine ax_iwV (x := ⟨"DebtDoors$Order", "setNow", "()V"⟩) (n := 0) (As := []) B (fun w1 e1 => ?_) rfl hl.size (by decide) dX20_of_10 e (fun h2 e => ?_)
    · obtain ⟨t, c, e2, e1⟩ := ax_dp_spec e1
      rcases ax_ite e1 with ⟨hk, e1⟩ | ⟨-, e1⟩
      · rcases hk with rfl | rfl | rfl
        · exact ax_cal B kd21 e2 q1852 q2739 (ax_dcC B q1854 q1855) (ax_selP B kd21 q2739 q1853 q1854 (by decide +kernel)) q1854 q160 q1855 (by decide +kernel) ⟨Nat.le_of_ble_eq_true rfl, Nat.le_of_ble_eq_true rfl⟩ (mt_X20_setNow l G hSF x0 _ w1 e1)
        · exact ax_cal B kd23 e2 q1852 q2739 (ax_dcC B q1854 q1855) (ax_selP B kd23 q2739 q1853 q1854 (by decide +kernel)) q1854 q160 q1855 (by decide +kernel) ⟨Nat.le_of_ble_eq_true rfl, Nat.le_of_ble_eq_true rfl⟩ (mt_X20_setNow l G hSF x0 _ w1 e1)
        · exact ax_cal B kd24 e2 q1852 q2739 (ax_dcC B q1854 q1855) (ax_selP B kd24 q2739 q1853 q1854 (by decide +kernel)) q1854 q160 q1855 (by decide +kernel) ⟨Nat.le_of_ble_eq_true rfl, Nat.le_of_ble_eq_true rfl⟩ (mt_X20_setNow l G hSF x0 _ w1 e1)
      cases e1
    refine ax_aload_n B dX20_of_13 rfl hl 1 rfl ?_
    refine ax_aload_n B dX20_of_14 rfl hl 0 rfl ?_
    refine ax_getRs B fs_X20_3 (fun _ _ => rfl) dX20_of_15 e (fun v3 e => ?_)
    refine ax_getR B ff_X20_19_0 (fun _ _ => rfl) dX20_of_18 e (fun v4 e => ?_)
    refine ax_iwL (x := ⟨"DebtDoors$Sum", "of", "(LDebtDoors$Asked;)J"⟩) (n := 1) (As := [va_rf v4]) B (fun w1 e1 => ?_) rfl hl.size (by decide) dX20_of_21 e (fun q5 e => ?_)
    · obtain ⟨t, c, e2, e1⟩ := ax_dp_spec e1
      rcases ax_ite e1 with ⟨hk, e1⟩ | ⟨-, e1⟩
      · subst hk
        exact ax_cal B kd10 e2 q1871 q554 (ax_dcD B q553) (B.2.1.2.2.2.2 _ q555) q556 q150 q557 (by decide +kernel) ⟨Nat.le_of_ble_eq_true rfl, Nat.le_of_ble_eq_true rfl⟩ (mt_X10_of l G hSF x1 v4 _ w1 e1)
      rcases ax_ite e1 with ⟨hk, e1⟩ | ⟨-, e1⟩
      · subst hk
        exact ax_cal B kd11 e2 q1871 q554 (ax_dcD B q553) (B.2.1.2.2.2.2 _ q584) q570 q151 q571 (by decide +kernel) ⟨Nat.le_of_ble_eq_true rfl, Nat.le_of_ble_eq_true rfl⟩ (mt_X11_of l G hSF x1 v4 _ w1 e1)
      rcases ax_ite e1 with ⟨hk, e1⟩ | ⟨-, e1⟩
      · subst hk
        exact ax_cal B kd12 e2 q1871 q554 (ax_dcD B q553) (B.2.1.2.2.2.2 _ q585) q572 q152 q573 (by decide +kernel) ⟨Nat.le_of_ble_eq_true rfl, Nat.le_of_ble_eq_true rfl⟩ (mt_X12_of l G hSF x1 v4 _ w1 e1)
      rcases ax_ite e1 with ⟨hk, e1⟩ | ⟨-, e1⟩
      · subst hk
        exact ax_cal B kd13 e2 q1871 q554 (ax_dcD B q553) (B.2.1.2.2.2.2 _ q583) q562 q153 q563 (by decide +kernel) ⟨Nat.le_of_ble_eq_true rfl, Nat.le_of_ble_eq_true rfl⟩ (mt_X13_of l G hSF x1 v4 _ w1 e1)
      rcases ax_ite e1 with ⟨hk, e1⟩ | ⟨-, e1⟩
      · subst hk
        exact ax_cal B kd14 e2 q1871 q554 (ax_dcD B q553) (B.2.1.2.2.2.2 _ q558) q559 q154 q560 (by decide +kernel) ⟨Nat.le_of_ble_eq_true rfl, Nat.le_of_ble_eq_true rfl⟩ (mf_X14_of l G hSF 64 x1 v4 _ w1 e1)
      cases e1
    refine ax_lstore_n (L' := [(2, .inr (.inl q5.1)), (0, .inr (.inr x0)), (1, .inr (.inr x1))]) B dX20_of_24 rfl hl (by decide) rfl (fun ls hl => ?_)
    refine ax_aload_n B dX20_of_25 rfl hl 1 rfl ?_
    refine ax_aload_n B dX20_of_26 rfl hl 1 rfl ?_
    refine ax_getRs B fs_X20_3 (fun _ _ => rfl) dX20_of_27 e (fun v6 e => ?_)
    refine ax_getR B ff_X20_19_0 (fun _ _ => rfl) dX20_of_30 e (fun v7 e => ?_)
    refine ax_getI B ff_X20_47_3 (fun _ _ => rfl) dX20_of_33 e (fun v8 e => ?_)
    refine ax_putZs B fs_X20_51 (Or.inl rfl) dX20_of_36 e (fun h9 e => ?_)
    refine ax_aload_n B dX20_of_39 rfl hl 1 rfl ?_
    refine ax_getIs B fs_X20_51 (fun _ _ => rfl) dX20_of_40 e (fun v10 e => ?_)
    refine ax_if_eq (tgt := 50) B dX20_of_43 (by decide) e (fun e => ?_) (fun e => ?_)
    · refine ax_lload_n B dX20_of_50 rfl hl 0 rfl ?_
      refine ax_l2i' B dX20_of_51 ?_
      have e8 := e
      have hp : Q = _ := hp
      subst hp
      exact ax_ireturn B Z dX20_of_52 e8
    · refine ax_iconst B dX20_of_46 ?_
      refine ax_goto (tgt := 52) B dX20_of_47 (by decide) ?_
      have e8 := e
      have hp : Q = _ := hp
      subst hp
      exact ax_ireturn B Z dX20_of_52 e8
  · refine ax_iconst B dX20_of_7 ?_
    have e8 := e
    have hp : Q = _ := hp
    subst hp
    exact ax_ireturn B Z dX20_of_8 e8
theorem mt_X20_of (l : Launch) (G : ax_G) (hSF : ax_SF G) (x0 : Option Nat) (x1 : Option Nat) (h : ax_H) (w : Int × ax_H) (e : f_X20_of G.2.2 x0 x1 h = some w) : ax_Met l G yX20_of cX20_of 4 ((some FieldType.int)) 70 1754 [va_rf x0, va_rf x1] h w.2 (some (.int (Int32.ofInt w.1))) :=
  ax_enter [.inr (.inr x0), .inr (.inr x1)] (y := yX20_of) hSF (plainFor_of_name (by decide +kernel)) (Nat.le_of_ble_eq_true rfl) (fun X ls B Z hn hl => we_X20_of hSF B Z hn x0 x1 hl e rfl)
theorem dX20_isOff_0 : decode cX20_isOff 0 = .ok (.aload_n 0, 1) := by decide +kernel
theorem dX20_isOff_1 : decode cX20_isOff 1 = .ok (.getfield 51, 3) := by decide +kernel
theorem dX20_isOff_4 : decode cX20_isOff 4 = .ok (.ireturn, 1) := by decide +kernel
noncomputable def f_X20_isOff (E : ax_E) (x0 : Option Nat) (h : ax_H) : Option (Int × ax_H) :=
  (ax_gIs E h x0 [(21, 2), (23, 6), (24, 6)]).bind fun v1 =>
  if v1 = 0 ∨ v1 = 1 then some (v1, h) else none
set_option maxHeartbeats 4000000 in
theorem we_X20_isOff {l : Launch} {G : ax_G} {X : ax_X} {Q : State → Prop} {h0 h : ax_H} {ls : Array Slot} (hSF : ax_SF G) (B : ax_BL l G X cX20_isOff 1 RX20 1 40) (Z : ax_Z X h0 ((some FieldType.boolean))) (hn : X.2.2.2.2.2.2.2.2.1.name = yX20_isOff.name) (x0 : Option Nat) {w : Int × ax_H} (hl : ax_hl ls 1 [(0, .inr (.inr x0))]) (e : f_X20_isOff G.2.2 x0 h = some w) (hp : (fun w : Int × ax_H => Q = ax_Q G X h0 w.2 (some (.int (Int32.ofInt w.1)))) w) : ax_W G X Q h 0 ls [] := by
  unfold f_X20_isOff at e
  refine ax_aload_n B dX20_isOff_0 rfl hl 0 rfl ?_
  refine ax_getIs B fs_X20_51 (fun _ _ => rfl) dX20_isOff_1 e (fun v1 e => ?_)
  have e8 := e
  have hp : Q = _ := hp
  subst hp
  exact ax_zreturn B Z dX20_isOff_4 e8
theorem mt_X20_isOff (l : Launch) (G : ax_G) (hSF : ax_SF G) (x0 : Option Nat) (h : ax_H) (w : Int × ax_H) (e : f_X20_isOff G.2.2 x0 h = some w) : ax_Met l G yX20_isOff cX20_isOff 1 ((some FieldType.boolean)) 1 40 [va_rf x0] h w.2 (some (.int (Int32.ofInt w.1))) :=
  ax_enter [.inr (.inr x0)] (y := yX20_isOff) hSF (plainFor_of_name (by decide +kernel)) (Nat.le_of_ble_eq_true rfl) (fun X ls B Z hn hl => we_X20_isOff hSF B Z hn x0 hl e rfl)
def dkwX23_does_0 : List UInt8 := [42, 180, 0, 1, 27, 28, 29, 182, 0, 13, 172]
abbrev dktX23_does_0 : List UInt8 := dkwX23_does_0 ++ []
theorem dksX23_does_0 : cX23_does.data.toList.drop 0 = dktX23_does_0 := by decide +kernel
theorem dX23_does_0 : decode cX23_does 0 = .ok (.aload_n 0, 1) := dk_42 (dk_at dksX23_does_0 0 rfl rfl)
theorem dX23_does_1 : decode cX23_does 1 = .ok (.getfield 1, 3) := dk_180 0 1 (dk_at dksX23_does_0 1 rfl rfl)
theorem dX23_does_4 : decode cX23_does 4 = .ok (.iload_n 1, 1) := dk_27 (dk_at dksX23_does_0 4 rfl rfl)
theorem dX23_does_5 : decode cX23_does 5 = .ok (.iload_n 2, 1) := dk_28 (dk_at dksX23_does_0 5 rfl rfl)
theorem dX23_does_6 : decode cX23_does 6 = .ok (.iload_n 3, 1) := dk_29 (dk_at dksX23_does_0 6 rfl rfl)
theorem dX23_does_7 : decode cX23_does 7 = .ok (.invokevirtual 13, 3) := dk_182 0 13 (dk_at dksX23_does_0 7 rfl rfl)
theorem dX23_does_10 : decode cX23_does 10 = .ok (.ireturn, 1) := dk_172 (dk_at dksX23_does_0 10 rfl rfl)
noncomputable def f_X23_does (E : ax_E) (x0 : Option Nat) (x1 : Int) (x2 : Int) (x3 : Int) (h : ax_H) : Option (Int × ax_H) :=
  (ax_gR E h x0 23 8).bind fun v1 =>
  (ax_ce E h v1 0).bind fun _ => (f_X0_lendNow E v1 x1 x2 x3 h).bind fun q2 =>
  some (q2.1, q2.2)
set_option maxHeartbeats 4000000 in
theorem we_X23_does {l : Launch} {G : ax_G} {X : ax_X} {Q : State → Prop} {h0 h : ax_H} {ls : Array Slot} (hSF : ax_SF G) (B : ax_BL l G X cX23_does 4 RX23 10 236) (Z : ax_Z X h0 ((some FieldType.int))) (hn : X.2.2.2.2.2.2.2.2.1.name = yX23_does.name) (x0 : Option Nat) (x1 : Int) (x2 : Int) (x3 : Int) {w : Int × ax_H} (hl : ax_hl ls 4 [(0, .inr (.inr x0)), (1, .inl x1), (2, .inl x2), (3, .inl x3)]) (e : f_X23_does G.2.2 x0 x1 x2 x3 h = some w) (hp : (fun w : Int × ax_H => Q = ax_Q G X h0 w.2 (some (.int (Int32.ofInt w.1)))) w) : ax_W G X Q h 0 ls [] := by
  unfold f_X23_does at e
  refine ax_aload_n B dX23_does_0 rfl hl 0 rfl ?_
  refine ax_getR B ff_X23_1_23 (fun _ _ => rfl) dX23_does_1 e (fun v1 e => ?_)
  refine ax_iload_n B dX23_does_4 rfl hl 1 rfl ?_
  refine ax_iload_n B dX23_does_5 rfl hl 2 rfl ?_
  refine ax_iload_n B dX23_does_6 rfl hl 3 rfl ?_
  refine ax_ivNI (y := yX0_lendNow) (n := 3) (As := [.int (Int32.ofInt x1), .int (Int32.ofInt x2), .int (Int32.ofInt x3)]) B kd0 q1885 q1356 qs25 q125 q1357 (by decide +kernel) ⟨Nat.le_of_ble_eq_true rfl, Nat.le_of_ble_eq_true rfl⟩ (fun w1 e1 => mt_X0_lendNow l G hSF v1 x1 x2 x3 _ w1 e1) rfl hl.size (by decide) dX23_does_7 e (fun q2 e => ?_)
  have e8 := e
  have hp : Q = _ := hp
  subst hp
  exact ax_ireturn B Z dX23_does_10 e8
theorem mt_X23_does (l : Launch) (G : ax_G) (hSF : ax_SF G) (x0 : Option Nat) (x1 : Int) (x2 : Int) (x3 : Int) (h : ax_H) (w : Int × ax_H) (e : f_X23_does G.2.2 x0 x1 x2 x3 h = some w) : ax_Met l G yX23_does cX23_does 4 ((some FieldType.int)) 10 236 [va_rf x0, .int (Int32.ofInt x1), .int (Int32.ofInt x2), .int (Int32.ofInt x3)] h w.2 (some (.int (Int32.ofInt w.1))) :=
  ax_enter [.inr (.inr x0), .inl x1, .inl x2, .inl x3] (y := yX23_does) hSF (plainFor_of_name (by decide +kernel)) (Nat.le_of_ble_eq_true rfl) (fun X ls B Z hn hl => we_X23_does hSF B Z hn x0 x1 x2 x3 hl e rfl)
def dkwX24_does_0 : List UInt8 := [42, 180, 0, 1, 27, 28, 29, 182, 0, 13, 172]
abbrev dktX24_does_0 : List UInt8 := dkwX24_does_0 ++ []
theorem dksX24_does_0 : cX24_does.data.toList.drop 0 = dktX24_does_0 := by decide +kernel
theorem dX24_does_0 : decode cX24_does 0 = .ok (.aload_n 0, 1) := dk_42 (dk_at dksX24_does_0 0 rfl rfl)
theorem dX24_does_1 : decode cX24_does 1 = .ok (.getfield 1, 3) := dk_180 0 1 (dk_at dksX24_does_0 1 rfl rfl)
theorem dX24_does_4 : decode cX24_does 4 = .ok (.iload_n 1, 1) := dk_27 (dk_at dksX24_does_0 4 rfl rfl)
theorem dX24_does_5 : decode cX24_does 5 = .ok (.iload_n 2, 1) := dk_28 (dk_at dksX24_does_0 5 rfl rfl)
theorem dX24_does_6 : decode cX24_does 6 = .ok (.iload_n 3, 1) := dk_29 (dk_at dksX24_does_0 6 rfl rfl)
theorem dX24_does_7 : decode cX24_does 7 = .ok (.invokevirtual 13, 3) := dk_182 0 13 (dk_at dksX24_does_0 7 rfl rfl)
theorem dX24_does_10 : decode cX24_does 10 = .ok (.ireturn, 1) := dk_172 (dk_at dksX24_does_0 10 rfl rfl)
noncomputable def f_X24_does (E : ax_E) (x0 : Option Nat) (x1 : Int) (x2 : Int) (x3 : Int) (h : ax_H) : Option (Int × ax_H) :=
  (ax_gR E h x0 24 8).bind fun v1 =>
  (ax_ce E h v1 0).bind fun _ => (f_X0_repayNow E v1 x1 x2 x3 h).bind fun q2 =>
  some (q2.1, q2.2)
set_option maxHeartbeats 4000000 in
theorem we_X24_does {l : Launch} {G : ax_G} {X : ax_X} {Q : State → Prop} {h0 h : ax_H} {ls : Array Slot} (hSF : ax_SF G) (B : ax_BL l G X cX24_does 4 RX24 10 236) (Z : ax_Z X h0 ((some FieldType.int))) (hn : X.2.2.2.2.2.2.2.2.1.name = yX24_does.name) (x0 : Option Nat) (x1 : Int) (x2 : Int) (x3 : Int) {w : Int × ax_H} (hl : ax_hl ls 4 [(0, .inr (.inr x0)), (1, .inl x1), (2, .inl x2), (3, .inl x3)]) (e : f_X24_does G.2.2 x0 x1 x2 x3 h = some w) (hp : (fun w : Int × ax_H => Q = ax_Q G X h0 w.2 (some (.int (Int32.ofInt w.1)))) w) : ax_W G X Q h 0 ls [] := by
  unfold f_X24_does at e
  refine ax_aload_n B dX24_does_0 rfl hl 0 rfl ?_
  refine ax_getR B ff_X24_1_24 (fun _ _ => rfl) dX24_does_1 e (fun v1 e => ?_)
  refine ax_iload_n B dX24_does_4 rfl hl 1 rfl ?_
  refine ax_iload_n B dX24_does_5 rfl hl 2 rfl ?_
  refine ax_iload_n B dX24_does_6 rfl hl 3 rfl ?_
  refine ax_ivNI (y := yX0_repayNow) (n := 3) (As := [.int (Int32.ofInt x1), .int (Int32.ofInt x2), .int (Int32.ofInt x3)]) B kd0 q1889 q1412 qs29 q125 q1413 (by decide +kernel) ⟨Nat.le_of_ble_eq_true rfl, Nat.le_of_ble_eq_true rfl⟩ (fun w1 e1 => mt_X0_repayNow l G hSF v1 x1 x2 x3 _ w1 e1) rfl hl.size (by decide) dX24_does_7 e (fun q2 e => ?_)
  have e8 := e
  have hp : Q = _ := hp
  subst hp
  exact ax_ireturn B Z dX24_does_10 e8
theorem mt_X24_does (l : Launch) (G : ax_G) (hSF : ax_SF G) (x0 : Option Nat) (x1 : Int) (x2 : Int) (x3 : Int) (h : ax_H) (w : Int × ax_H) (e : f_X24_does G.2.2 x0 x1 x2 x3 h = some w) : ax_Met l G yX24_does cX24_does 4 ((some FieldType.int)) 10 236 [va_rf x0, .int (Int32.ofInt x1), .int (Int32.ofInt x2), .int (Int32.ofInt x3)] h w.2 (some (.int (Int32.ofInt w.1))) :=
  ax_enter [.inr (.inr x0), .inl x1, .inl x2, .inl x3] (y := yX24_does) hSF (plainFor_of_name (by decide +kernel)) (Nat.le_of_ble_eq_true rfl) (fun X ls B Z hn hl => we_X24_does hSF B Z hn x0 x1 x2 x3 hl e rfl)
def dkwX22_does_3 : List UInt8 := [181, 0, 35, 21, 4, 172]
abbrev dktX22_does_3 : List UInt8 := dkwX22_does_3 ++ []
def dkwX22_does_2 : List UInt8 := [54, 4, 42, 180, 0, 1, 21, 4, 156, 0, 13, 42, 180, 0, 1, 180, 0, 35, 167, 0, 5, 21, 4]
abbrev dktX22_does_2 : List UInt8 := dkwX22_does_2 ++ dktX22_does_3
def dkwX22_does_1 : List UInt8 := [182, 0, 23, 62, 42, 182, 0, 27, 153, 0, 8, 16, 253, 167, 0, 10, 42, 27, 28, 29, 182, 0, 31]
abbrev dktX22_does_1 : List UInt8 := dkwX22_does_1 ++ dktX22_does_2
def dkwX22_does_0 : List UInt8 := [42, 42, 180, 0, 13, 182, 0, 23, 60, 42, 42, 180, 0, 17, 182, 0, 23, 61, 42, 42, 180, 0, 20]
abbrev dktX22_does_0 : List UInt8 := dkwX22_does_0 ++ dktX22_does_1
theorem dksX22_does_0 : cX22_does.data.toList.drop 0 = dktX22_does_0 := by decide +kernel
theorem dksX22_does_1 : cX22_does.data.toList.drop 23 = dktX22_does_1 := dk_seg dksX22_does_0 23 rfl rfl
theorem dksX22_does_2 : cX22_does.data.toList.drop 46 = dktX22_does_2 := dk_seg dksX22_does_1 23 rfl rfl
theorem dksX22_does_3 : cX22_does.data.toList.drop 69 = dktX22_does_3 := dk_seg dksX22_does_2 23 rfl rfl
theorem dX22_does_0 : decode cX22_does 0 = .ok (.aload_n 0, 1) := dk_42 (dk_at dksX22_does_0 0 rfl rfl)
theorem dX22_does_1 : decode cX22_does 1 = .ok (.aload_n 0, 1) := dk_42 (dk_at dksX22_does_0 1 rfl rfl)
theorem dX22_does_2 : decode cX22_does 2 = .ok (.getfield 13, 3) := dk_180 0 13 (dk_at dksX22_does_0 2 rfl rfl)
theorem dX22_does_5 : decode cX22_does 5 = .ok (.invokevirtual 23, 3) := dk_182 0 23 (dk_at dksX22_does_0 5 rfl rfl)
theorem dX22_does_8 : decode cX22_does 8 = .ok (.istore_n 1, 1) := dk_60 (dk_at dksX22_does_0 8 rfl rfl)
theorem dX22_does_9 : decode cX22_does 9 = .ok (.aload_n 0, 1) := dk_42 (dk_at dksX22_does_0 9 rfl rfl)
theorem dX22_does_10 : decode cX22_does 10 = .ok (.aload_n 0, 1) := dk_42 (dk_at dksX22_does_0 10 rfl rfl)
theorem dX22_does_11 : decode cX22_does 11 = .ok (.getfield 17, 3) := dk_180 0 17 (dk_at dksX22_does_0 11 rfl rfl)
theorem dX22_does_14 : decode cX22_does 14 = .ok (.invokevirtual 23, 3) := dk_182 0 23 (dk_at dksX22_does_0 14 rfl rfl)
theorem dX22_does_17 : decode cX22_does 17 = .ok (.istore_n 2, 1) := dk_61 (dk_at dksX22_does_0 17 rfl rfl)
theorem dX22_does_18 : decode cX22_does 18 = .ok (.aload_n 0, 1) := dk_42 (dk_at dksX22_does_0 18 rfl rfl)
theorem dX22_does_19 : decode cX22_does 19 = .ok (.aload_n 0, 1) := dk_42 (dk_at dksX22_does_0 19 rfl rfl)
theorem dX22_does_20 : decode cX22_does 20 = .ok (.getfield 20, 3) := dk_180 0 20 (dk_at dksX22_does_0 20 rfl rfl)
theorem dX22_does_23 : decode cX22_does 23 = .ok (.invokevirtual 23, 3) := dk_182 0 23 (dk_at dksX22_does_1 0 rfl rfl)
theorem dX22_does_26 : decode cX22_does 26 = .ok (.istore_n 3, 1) := dk_62 (dk_at dksX22_does_1 3 rfl rfl)
theorem dX22_does_27 : decode cX22_does 27 = .ok (.aload_n 0, 1) := dk_42 (dk_at dksX22_does_1 4 rfl rfl)
theorem dX22_does_28 : decode cX22_does 28 = .ok (.invokevirtual 27, 3) := dk_182 0 27 (dk_at dksX22_does_1 5 rfl rfl)
theorem dX22_does_31 : decode cX22_does 31 = .ok (.ifCond .eq 8, 3) := dk_153 0 8 (dk_at dksX22_does_1 8 rfl rfl)
theorem dX22_does_34 : decode cX22_does 34 = .ok (.bipush (-3), 2) := dk_16 253 (dk_at dksX22_does_1 11 rfl rfl)
theorem dX22_does_36 : decode cX22_does 36 = .ok (.goto 10, 3) := dk_167 0 10 (dk_at dksX22_does_1 13 rfl rfl)
theorem dX22_does_39 : decode cX22_does 39 = .ok (.aload_n 0, 1) := dk_42 (dk_at dksX22_does_1 16 rfl rfl)
theorem dX22_does_40 : decode cX22_does 40 = .ok (.iload_n 1, 1) := dk_27 (dk_at dksX22_does_1 17 rfl rfl)
theorem dX22_does_41 : decode cX22_does 41 = .ok (.iload_n 2, 1) := dk_28 (dk_at dksX22_does_1 18 rfl rfl)
theorem dX22_does_42 : decode cX22_does 42 = .ok (.iload_n 3, 1) := dk_29 (dk_at dksX22_does_1 19 rfl rfl)
theorem dX22_does_43 : decode cX22_does 43 = .ok (.invokevirtual 31, 3) := dk_182 0 31 (dk_at dksX22_does_1 20 rfl rfl)
theorem dX22_does_46 : decode cX22_does 46 = .ok (.istore 4, 2) := dk_54 4 (dk_at dksX22_does_2 0 rfl rfl)
theorem dX22_does_48 : decode cX22_does 48 = .ok (.aload_n 0, 1) := dk_42 (dk_at dksX22_does_2 2 rfl rfl)
theorem dX22_does_49 : decode cX22_does 49 = .ok (.getfield 1, 3) := dk_180 0 1 (dk_at dksX22_does_2 3 rfl rfl)
theorem dX22_does_52 : decode cX22_does 52 = .ok (.iload 4, 2) := dk_21 4 (dk_at dksX22_does_2 6 rfl rfl)
theorem dX22_does_54 : decode cX22_does 54 = .ok (.ifCond .ge 13, 3) := dk_156 0 13 (dk_at dksX22_does_2 8 rfl rfl)
theorem dX22_does_57 : decode cX22_does 57 = .ok (.aload_n 0, 1) := dk_42 (dk_at dksX22_does_2 11 rfl rfl)
theorem dX22_does_58 : decode cX22_does 58 = .ok (.getfield 1, 3) := dk_180 0 1 (dk_at dksX22_does_2 12 rfl rfl)
theorem dX22_does_61 : decode cX22_does 61 = .ok (.getfield 35, 3) := dk_180 0 35 (dk_at dksX22_does_2 15 rfl rfl)
theorem dX22_does_64 : decode cX22_does 64 = .ok (.goto 5, 3) := dk_167 0 5 (dk_at dksX22_does_2 18 rfl rfl)
theorem dX22_does_67 : decode cX22_does 67 = .ok (.iload 4, 2) := dk_21 4 (dk_at dksX22_does_2 21 rfl rfl)
theorem dX22_does_69 : decode cX22_does 69 = .ok (.putfield 35, 3) := dk_181 0 35 (dk_at dksX22_does_3 0 rfl rfl)
theorem dX22_does_72 : decode cX22_does 72 = .ok (.iload 4, 2) := dk_21 4 (dk_at dksX22_does_3 3 rfl rfl)
theorem dX22_does_74 : decode cX22_does 74 = .ok (.ireturn, 1) := dk_172 (dk_at dksX22_does_3 5 rfl rfl)
noncomputable def f_X22_does_69 (E : ax_E) (x4 : Int) (s0 : Option Nat) (s1 : Int) (h : ax_H) : Option (Int × ax_H) :=
  (ax_pI h s0 0 16 s1).bind fun h1 =>
  some (x4, h1)
noncomputable def f_X22_does_46 (E : ax_E) (x0 : Option Nat) (s0 : Int) (h : ax_H) : Option (Int × ax_H) :=
  (ax_gRs E h x0 [(23, 3), (24, 3)]).bind fun v1 =>
  if i2 s0 < 0 then
    (ax_gRs E h x0 [(23, 3), (24, 3)]).bind fun v2 =>
    (ax_gI E h v2 0 16).bind fun v3 =>
    f_X22_does_69 E s0 v1 v3 h
  else
    f_X22_does_69 E s0 v1 s0 h
noncomputable def f_X22_does (E : ax_E) (x0 : Option Nat) (h : ax_H) : Option (Int × ax_H) :=
  (ax_gRs E h x0 [(23, 0), (24, 0)]).bind fun v1 =>
  (ax_dp E h x0 fun t => if t = 23 ∨ t = 24 then f_X20_of E x0 v1 h else none).bind fun q2 =>
  (ax_gRs E q2.2 x0 [(23, 1), (24, 1)]).bind fun v3 =>
  (ax_dp E q2.2 x0 fun t => if t = 23 ∨ t = 24 then f_X20_of E x0 v3 q2.2 else none).bind fun q4 =>
  (ax_gRs E q4.2 x0 [(23, 2), (24, 2)]).bind fun v5 =>
  (ax_dp E q4.2 x0 fun t => if t = 23 ∨ t = 24 then f_X20_of E x0 v5 q4.2 else none).bind fun q6 =>
  (ax_dp E q6.2 x0 fun t => if t = 23 ∨ t = 24 then f_X20_isOff E x0 q6.2 else none).bind fun q7 =>
  if i2 q7.1 = 0 then
    (ax_dp E q7.2 x0 fun t => if t = 23 then f_X23_does E x0 q2.1 q4.1 q6.1 q7.2 else if t = 24 then f_X24_does E x0 q2.1 q4.1 q6.1 q7.2 else none).bind fun q8 =>
    f_X22_does_46 E x0 q8.1 q8.2
  else
    f_X22_does_46 E x0 (-3) q7.2
set_option maxHeartbeats 4000000 in
theorem w_X22_does_69 {l : Launch} {G : ax_G} {X : ax_X} {Q : State → Prop} {h0 h : ax_H} {ls : Array Slot} (hSF : ax_SF G) (B : ax_BL l G X cX22_does 5 RX22 71 1777) (Z : ax_Z X h0 ((some FieldType.int))) (hn : X.2.2.2.2.2.2.2.2.1.name = yX22_does.name) (x4 : Int) (s0 : Option Nat) (s1 : Int) {w : Int × ax_H} (hl : ax_hl ls 5 [(4, .inl x4)]) (e : f_X22_does_69 G.2.2 x4 s0 s1 h = some w) (hp : (fun w : Int × ax_H => Q = ax_Q G X h0 w.2 (some (.int (Int32.ofInt w.1)))) w) : ax_W G X Q h 69 ls [.int (Int32.ofInt s1), va_rf s0] := by
  unfold f_X22_does_69 at e
  refine ax_putI B ff_X22_35_0 (Or.inl rfl) rfl dX22_does_69 e (fun h1 e => ?_)
  refine ax_iload B dX22_does_72 hl 0 rfl ?_
  have e8 := e
  have hp : Q = _ := hp
  subst hp
  exact ax_ireturn B Z dX22_does_74 e8
set_option maxHeartbeats 4000000 in
theorem w_X22_does_46 {l : Launch} {G : ax_G} {X : ax_X} {Q : State → Prop} {h0 h : ax_H} {ls : Array Slot} (hSF : ax_SF G) (B : ax_BL l G X cX22_does 5 RX22 71 1777) (Z : ax_Z X h0 ((some FieldType.int))) (hn : X.2.2.2.2.2.2.2.2.1.name = yX22_does.name) (x0 : Option Nat) (s0 : Int) {w : Int × ax_H} (hl : ax_hl ls 5 [(0, .inr (.inr x0))]) (e : f_X22_does_46 G.2.2 x0 s0 h = some w) (hp : (fun w : Int × ax_H => Q = ax_Q G X h0 w.2 (some (.int (Int32.ofInt w.1)))) w) : ax_W G X Q h 46 ls [.int (Int32.ofInt s0)] := by
  unfold f_X22_does_46 at e
  refine ax_istore (L' := [(4, .inl s0), (0, .inr (.inr x0))]) B dX22_does_46 hl (by decide) rfl (fun ls hl => ?_)
  refine ax_aload_n B dX22_does_48 rfl hl 1 rfl ?_
  refine ax_getRs B fs_X22_1 (fun _ _ => rfl) dX22_does_49 e (fun v1 e => ?_)
  refine ax_iload B dX22_does_52 hl 0 rfl ?_
  refine ax_if_ge (tgt := 67) B dX22_does_54 (by decide) e (fun e => ?_) (fun e => ?_)
  · refine ax_aload_n B dX22_does_57 rfl hl 1 rfl ?_
    refine ax_getRs B fs_X22_1 (fun _ _ => rfl) dX22_does_58 e (fun v2 e => ?_)
    refine ax_getI B ff_X22_35_0 (fun _ _ => rfl) dX22_does_61 e (fun v3 e => ?_)
    refine ax_goto (tgt := 69) B dX22_does_64 (by decide) ?_
    exact w_X22_does_69 hSF B Z hn s0 v1 v3 (hl.sub [0] rfl) e hp
  · refine ax_iload B dX22_does_67 hl 0 rfl ?_
    exact w_X22_does_69 hSF B Z hn s0 v1 s0 (hl.sub [0] rfl) e hp
set_option maxHeartbeats 4000000 in
theorem we_X22_does {l : Launch} {G : ax_G} {X : ax_X} {Q : State → Prop} {h0 h : ax_H} {ls : Array Slot} (hSF : ax_SF G) (B : ax_BL l G X cX22_does 5 RX22 71 1777) (Z : ax_Z X h0 ((some FieldType.int))) (hn : X.2.2.2.2.2.2.2.2.1.name = yX22_does.name) (x0 : Option Nat) {w : Int × ax_H} (hl : ax_hl ls 5 [(0, .inr (.inr x0))]) (e : f_X22_does G.2.2 x0 h = some w) (hp : (fun w : Int × ax_H => Q = ax_Q G X h0 w.2 (some (.int (Int32.ofInt w.1)))) w) : ax_W G X Q h 0 ls [] := by
  unfold f_X22_does at e
  refine ax_aload_n B dX22_does_0 rfl hl 0 rfl ?_
  refine ax_aload_n B dX22_does_1 rfl hl 0 rfl ?_
  refine ax_getRs B fs_X22_13 (fun _ _ => rfl) dX22_does_2 e (fun v1 e => ?_)
  refine ax_iwI (x := ⟨"DebtDoors$Payment", "of", "(LDebtDoors$Sum;)I"⟩) (n := 1) (As := [va_rf v1]) B (fun w1 e1 => ?_) rfl hl.size (by decide) dX22_does_5 e (fun q2 e => ?_)
  · obtain ⟨t, c, e2, e1⟩ := ax_dp_spec e1
    rcases ax_ite e1 with ⟨hk, e1⟩ | ⟨-, e1⟩
    · rcases hk with rfl | rfl
      · exact ax_cal B kd23 e2 q1864 q1865 (ax_dcD B q1866) (B.2.1.2.2.2.2 _ q1867) q1869 q160 q1870 (by decide +kernel) ⟨Nat.le_of_ble_eq_true rfl, Nat.le_of_ble_eq_true rfl⟩ (mt_X20_of l G hSF x0 v1 _ w1 e1)
      · exact ax_cal B kd24 e2 q1864 q1865 (ax_dcD B q1866) (B.2.1.2.2.2.2 _ q1868) q1869 q160 q1870 (by decide +kernel) ⟨Nat.le_of_ble_eq_true rfl, Nat.le_of_ble_eq_true rfl⟩ (mt_X20_of l G hSF x0 v1 _ w1 e1)
    cases e1
  refine ax_istore_n (L' := [(1, .inl q2.1), (0, .inr (.inr x0))]) B dX22_does_8 rfl hl (by decide) rfl (fun ls hl => ?_)
  refine ax_aload_n B dX22_does_9 rfl hl 1 rfl ?_
  refine ax_aload_n B dX22_does_10 rfl hl 1 rfl ?_
  refine ax_getRs B fs_X22_17 (fun _ _ => rfl) dX22_does_11 e (fun v3 e => ?_)
  refine ax_iwI (x := ⟨"DebtDoors$Payment", "of", "(LDebtDoors$Sum;)I"⟩) (n := 1) (As := [va_rf v3]) B (fun w1 e1 => ?_) rfl hl.size (by decide) dX22_does_14 e (fun q4 e => ?_)
  · obtain ⟨t, c, e2, e1⟩ := ax_dp_spec e1
    rcases ax_ite e1 with ⟨hk, e1⟩ | ⟨-, e1⟩
    · rcases hk with rfl | rfl
      · exact ax_cal B kd23 e2 q1864 q1865 (ax_dcD B q1866) (B.2.1.2.2.2.2 _ q1867) q1869 q160 q1870 (by decide +kernel) ⟨Nat.le_of_ble_eq_true rfl, Nat.le_of_ble_eq_true rfl⟩ (mt_X20_of l G hSF x0 v3 _ w1 e1)
      · exact ax_cal B kd24 e2 q1864 q1865 (ax_dcD B q1866) (B.2.1.2.2.2.2 _ q1868) q1869 q160 q1870 (by decide +kernel) ⟨Nat.le_of_ble_eq_true rfl, Nat.le_of_ble_eq_true rfl⟩ (mt_X20_of l G hSF x0 v3 _ w1 e1)
    cases e1
  refine ax_istore_n (L' := [(2, .inl q4.1), (1, .inl q2.1), (0, .inr (.inr x0))]) B dX22_does_17 rfl hl (by decide) rfl (fun ls hl => ?_)
  refine ax_aload_n B dX22_does_18 rfl hl 2 rfl ?_
  refine ax_aload_n B dX22_does_19 rfl hl 2 rfl ?_
  refine ax_getRs B fs_X22_20 (fun _ _ => rfl) dX22_does_20 e (fun v5 e => ?_)
  refine ax_iwI (x := ⟨"DebtDoors$Payment", "of", "(LDebtDoors$Sum;)I"⟩) (n := 1) (As := [va_rf v5]) B (fun w1 e1 => ?_) rfl hl.size (by decide) dX22_does_23 e (fun q6 e => ?_)
  · obtain ⟨t, c, e2, e1⟩ := ax_dp_spec e1
    rcases ax_ite e1 with ⟨hk, e1⟩ | ⟨-, e1⟩
    · rcases hk with rfl | rfl
      · exact ax_cal B kd23 e2 q1864 q1865 (ax_dcD B q1866) (B.2.1.2.2.2.2 _ q1867) q1869 q160 q1870 (by decide +kernel) ⟨Nat.le_of_ble_eq_true rfl, Nat.le_of_ble_eq_true rfl⟩ (mt_X20_of l G hSF x0 v5 _ w1 e1)
      · exact ax_cal B kd24 e2 q1864 q1865 (ax_dcD B q1866) (B.2.1.2.2.2.2 _ q1868) q1869 q160 q1870 (by decide +kernel) ⟨Nat.le_of_ble_eq_true rfl, Nat.le_of_ble_eq_true rfl⟩ (mt_X20_of l G hSF x0 v5 _ w1 e1)
    cases e1
  refine ax_istore_n (L' := [(3, .inl q6.1), (2, .inl q4.1), (1, .inl q2.1), (0, .inr (.inr x0))]) B dX22_does_26 rfl hl (by decide) rfl (fun ls hl => ?_)
  refine ax_aload_n B dX22_does_27 rfl hl 3 rfl ?_
  refine ax_iwI (x := ⟨"DebtDoors$Payment", "isOff", "()Z"⟩) (n := 0) (As := []) B (fun w1 e1 => ?_) rfl hl.size (by decide) dX22_does_28 e (fun q7 e => ?_)
  · obtain ⟨t, c, e2, e1⟩ := ax_dp_spec e1
    rcases ax_ite e1 with ⟨hk, e1⟩ | ⟨-, e1⟩
    · rcases hk with rfl | rfl
      · exact ax_cal B kd23 e2 q1872 q1873 (ax_dcD B q1874) (B.2.1.2.2.2.2 _ q1875) q1877 q160 q1878 (by decide +kernel) ⟨Nat.le_of_ble_eq_true rfl, Nat.le_of_ble_eq_true rfl⟩ (mt_X20_isOff l G hSF x0 _ w1 e1)
      · exact ax_cal B kd24 e2 q1872 q1873 (ax_dcD B q1874) (B.2.1.2.2.2.2 _ q1876) q1877 q160 q1878 (by decide +kernel) ⟨Nat.le_of_ble_eq_true rfl, Nat.le_of_ble_eq_true rfl⟩ (mt_X20_isOff l G hSF x0 _ w1 e1)
    cases e1
  refine ax_if_eq (tgt := 39) B dX22_does_31 (by decide) e (fun e => ?_) (fun e => ?_)
  · refine ax_aload_n B dX22_does_39 rfl hl 3 rfl ?_
    refine ax_iload_n B dX22_does_40 rfl hl 2 rfl ?_
    refine ax_iload_n B dX22_does_41 rfl hl 1 rfl ?_
    refine ax_iload_n B dX22_does_42 rfl hl 0 rfl ?_
    refine ax_iwI (x := ⟨"DebtDoors$Payment", "does", "(III)I"⟩) (n := 3) (As := [.int (Int32.ofInt q2.1), .int (Int32.ofInt q4.1), .int (Int32.ofInt q6.1)]) B (fun w1 e1 => ?_) rfl hl.size (by decide) dX22_does_43 e (fun q8 e => ?_)
    · obtain ⟨t, c, e2, e1⟩ := ax_dp_spec e1
      rcases ax_ite e1 with ⟨hk, e1⟩ | ⟨-, e1⟩
      · subst hk
        exact ax_cal B kd23 e2 q1879 q1881 (ax_dcD B q1880) (B.2.1.2.2.2.2 _ q1882) q1883 q163 q1884 (by decide +kernel) ⟨Nat.le_of_ble_eq_true rfl, Nat.le_of_ble_eq_true rfl⟩ (mt_X23_does l G hSF x0 q2.1 q4.1 q6.1 _ w1 e1)
      rcases ax_ite e1 with ⟨hk, e1⟩ | ⟨-, e1⟩
      · subst hk
        exact ax_cal B kd24 e2 q1879 q1881 (ax_dcD B q1880) (B.2.1.2.2.2.2 _ q1886) q1887 q164 q1888 (by decide +kernel) ⟨Nat.le_of_ble_eq_true rfl, Nat.le_of_ble_eq_true rfl⟩ (mt_X24_does l G hSF x0 q2.1 q4.1 q6.1 _ w1 e1)
      cases e1
    exact w_X22_does_46 hSF B Z hn x0 q8.1 (hl.sub [3] rfl) e hp
  · refine ax_bipush B dX22_does_34 (by decide) ?_
    refine ax_goto (tgt := 46) B dX22_does_36 (by decide) ?_
    exact w_X22_does_46 hSF B Z hn x0 (-3) (hl.sub [3] rfl) e hp
theorem mt_X22_does (l : Launch) (G : ax_G) (hSF : ax_SF G) (x0 : Option Nat) (h : ax_H) (w : Int × ax_H) (e : f_X22_does G.2.2 x0 h = some w) : ax_Met l G yX22_does cX22_does 5 ((some FieldType.int)) 71 1777 [va_rf x0] h w.2 (some (.int (Int32.ofInt w.1))) :=
  ax_enter [.inr (.inr x0)] (y := yX22_does) hSF (plainFor_of_name (by decide +kernel)) (Nat.le_of_ble_eq_true rfl) (fun X ls B Z hn hl => we_X22_does hSF B Z hn x0 hl e rfl)
def dkwX20_run_3 : List UInt8 := [16, 253, 172, 42, 180, 0, 3, 89, 180, 0, 41, 4, 96, 181, 0, 41, 3, 172]
abbrev dktX20_run_3 : List UInt8 := dkwX20_run_3 ++ []
def dkwX20_run_2 : List UInt8 := [181, 0, 51, 42, 182, 0, 72, 60, 27, 156, 0, 17, 27, 16, 251, 160, 0, 8, 16, 251, 167, 0, 5]
abbrev dktX20_run_2 : List UInt8 := dkwX20_run_2 ++ dktX20_run_3
def dkwX20_run_1 : List UInt8 := [182, 0, 67, 153, 0, 16, 42, 180, 0, 3, 180, 0, 19, 180, 0, 47, 153, 0, 5, 3, 172, 42, 3]
abbrev dktX20_run_1 : List UInt8 := dkwX20_run_1 ++ dktX20_run_2
def dkwX20_run_0 : List UInt8 := [42, 182, 0, 54, 42, 180, 0, 63, 198, 0, 35, 42, 180, 0, 63, 42, 180, 0, 3, 180, 0, 19]
abbrev dktX20_run_0 : List UInt8 := dkwX20_run_0 ++ dktX20_run_1
theorem dksX20_run_0 : cX20_run.data.toList.drop 0 = dktX20_run_0 := by decide +kernel
theorem dksX20_run_1 : cX20_run.data.toList.drop 22 = dktX20_run_1 := dk_seg dksX20_run_0 22 rfl rfl
theorem dksX20_run_2 : cX20_run.data.toList.drop 45 = dktX20_run_2 := dk_seg dksX20_run_1 23 rfl rfl
theorem dksX20_run_3 : cX20_run.data.toList.drop 68 = dktX20_run_3 := dk_seg dksX20_run_2 23 rfl rfl
theorem dX20_run_0 : decode cX20_run 0 = .ok (.aload_n 0, 1) := dk_42 (dk_at dksX20_run_0 0 rfl rfl)
theorem dX20_run_1 : decode cX20_run 1 = .ok (.invokevirtual 54, 3) := dk_182 0 54 (dk_at dksX20_run_0 1 rfl rfl)
theorem dX20_run_4 : decode cX20_run 4 = .ok (.aload_n 0, 1) := dk_42 (dk_at dksX20_run_0 4 rfl rfl)
theorem dX20_run_5 : decode cX20_run 5 = .ok (.getfield 63, 3) := dk_180 0 63 (dk_at dksX20_run_0 5 rfl rfl)
theorem dX20_run_8 : decode cX20_run 8 = .ok (.ifnull 35, 3) := dk_198 0 35 (dk_at dksX20_run_0 8 rfl rfl)
theorem dX20_run_11 : decode cX20_run 11 = .ok (.aload_n 0, 1) := dk_42 (dk_at dksX20_run_0 11 rfl rfl)
theorem dX20_run_12 : decode cX20_run 12 = .ok (.getfield 63, 3) := dk_180 0 63 (dk_at dksX20_run_0 12 rfl rfl)
theorem dX20_run_15 : decode cX20_run 15 = .ok (.aload_n 0, 1) := dk_42 (dk_at dksX20_run_0 15 rfl rfl)
theorem dX20_run_16 : decode cX20_run 16 = .ok (.getfield 3, 3) := dk_180 0 3 (dk_at dksX20_run_0 16 rfl rfl)
theorem dX20_run_19 : decode cX20_run 19 = .ok (.getfield 19, 3) := dk_180 0 19 (dk_at dksX20_run_0 19 rfl rfl)
theorem dX20_run_22 : decode cX20_run 22 = .ok (.invokevirtual 67, 3) := dk_182 0 67 (dk_at dksX20_run_1 0 rfl rfl)
theorem dX20_run_25 : decode cX20_run 25 = .ok (.ifCond .eq 16, 3) := dk_153 0 16 (dk_at dksX20_run_1 3 rfl rfl)
theorem dX20_run_28 : decode cX20_run 28 = .ok (.aload_n 0, 1) := dk_42 (dk_at dksX20_run_1 6 rfl rfl)
theorem dX20_run_29 : decode cX20_run 29 = .ok (.getfield 3, 3) := dk_180 0 3 (dk_at dksX20_run_1 7 rfl rfl)
theorem dX20_run_32 : decode cX20_run 32 = .ok (.getfield 19, 3) := dk_180 0 19 (dk_at dksX20_run_1 10 rfl rfl)
theorem dX20_run_35 : decode cX20_run 35 = .ok (.getfield 47, 3) := dk_180 0 47 (dk_at dksX20_run_1 13 rfl rfl)
theorem dX20_run_38 : decode cX20_run 38 = .ok (.ifCond .eq 5, 3) := dk_153 0 5 (dk_at dksX20_run_1 16 rfl rfl)
theorem dX20_run_41 : decode cX20_run 41 = .ok (.iconst 0, 1) := dk_3 (dk_at dksX20_run_1 19 rfl rfl)
theorem dX20_run_42 : decode cX20_run 42 = .ok (.ireturn, 1) := dk_172 (dk_at dksX20_run_1 20 rfl rfl)
theorem dX20_run_43 : decode cX20_run 43 = .ok (.aload_n 0, 1) := dk_42 (dk_at dksX20_run_1 21 rfl rfl)
theorem dX20_run_44 : decode cX20_run 44 = .ok (.iconst 0, 1) := dk_3 (dk_at dksX20_run_1 22 rfl rfl)
theorem dX20_run_45 : decode cX20_run 45 = .ok (.putfield 51, 3) := dk_181 0 51 (dk_at dksX20_run_2 0 rfl rfl)
theorem dX20_run_48 : decode cX20_run 48 = .ok (.aload_n 0, 1) := dk_42 (dk_at dksX20_run_2 3 rfl rfl)
theorem dX20_run_49 : decode cX20_run 49 = .ok (.invokevirtual 72, 3) := dk_182 0 72 (dk_at dksX20_run_2 4 rfl rfl)
theorem dX20_run_52 : decode cX20_run 52 = .ok (.istore_n 1, 1) := dk_60 (dk_at dksX20_run_2 7 rfl rfl)
theorem dX20_run_53 : decode cX20_run 53 = .ok (.iload_n 1, 1) := dk_27 (dk_at dksX20_run_2 8 rfl rfl)
theorem dX20_run_54 : decode cX20_run 54 = .ok (.ifCond .ge 17, 3) := dk_156 0 17 (dk_at dksX20_run_2 9 rfl rfl)
theorem dX20_run_57 : decode cX20_run 57 = .ok (.iload_n 1, 1) := dk_27 (dk_at dksX20_run_2 12 rfl rfl)
theorem dX20_run_58 : decode cX20_run 58 = .ok (.bipush (-5), 2) := dk_16 251 (dk_at dksX20_run_2 13 rfl rfl)
theorem dX20_run_60 : decode cX20_run 60 = .ok (.if_icmp .ne 8, 3) := dk_160 0 8 (dk_at dksX20_run_2 15 rfl rfl)
theorem dX20_run_63 : decode cX20_run 63 = .ok (.bipush (-5), 2) := dk_16 251 (dk_at dksX20_run_2 18 rfl rfl)
theorem dX20_run_65 : decode cX20_run 65 = .ok (.goto 5, 3) := dk_167 0 5 (dk_at dksX20_run_2 20 rfl rfl)
theorem dX20_run_68 : decode cX20_run 68 = .ok (.bipush (-3), 2) := dk_16 253 (dk_at dksX20_run_3 0 rfl rfl)
theorem dX20_run_70 : decode cX20_run 70 = .ok (.ireturn, 1) := dk_172 (dk_at dksX20_run_3 2 rfl rfl)
theorem dX20_run_71 : decode cX20_run 71 = .ok (.aload_n 0, 1) := dk_42 (dk_at dksX20_run_3 3 rfl rfl)
theorem dX20_run_72 : decode cX20_run 72 = .ok (.getfield 3, 3) := dk_180 0 3 (dk_at dksX20_run_3 4 rfl rfl)
theorem dX20_run_75 : decode cX20_run 75 = .ok (.dup, 1) := dk_89 (dk_at dksX20_run_3 7 rfl rfl)
theorem dX20_run_76 : decode cX20_run 76 = .ok (.getfield 41, 3) := dk_180 0 41 (dk_at dksX20_run_3 8 rfl rfl)
theorem dX20_run_79 : decode cX20_run 79 = .ok (.iconst 1, 1) := dk_4 (dk_at dksX20_run_3 11 rfl rfl)
theorem dX20_run_80 : decode cX20_run 80 = .ok (.iadd, 1) := dk_96 (dk_at dksX20_run_3 12 rfl rfl)
theorem dX20_run_81 : decode cX20_run 81 = .ok (.putfield 41, 3) := dk_181 0 41 (dk_at dksX20_run_3 13 rfl rfl)
theorem dX20_run_84 : decode cX20_run 84 = .ok (.iconst 0, 1) := dk_3 (dk_at dksX20_run_3 16 rfl rfl)
theorem dX20_run_85 : decode cX20_run 85 = .ok (.ireturn, 1) := dk_172 (dk_at dksX20_run_3 17 rfl rfl)
noncomputable def f_X20_run_41 (E : ax_E) (h : ax_H) : Option (Int × ax_H) :=
  some (0, h)
noncomputable def f_X20_run_43 (E : ax_E) (x0 : Option Nat) (h : ax_H) : Option (Int × ax_H) :=
  if 0 = 0 ∨ 0 = 1 then (ax_pIs h x0 [(21, 2), (23, 6), (24, 6)] 0).bind fun h1 =>
    (ax_dp E h1 x0 fun t => if t = 21 then f_X21_does E x0 h1 else if t = 23 ∨ t = 24 then f_X22_does E x0 h1 else none).bind fun q2 =>
    if i2 q2.1 < 0 then
      if i2 q2.1 = i2 (-5) then
        some ((-5), q2.2)
      else
        some ((-3), q2.2)
    else
      (ax_gRs E q2.2 x0 [(21, 3), (23, 7), (24, 7)]).bind fun v3 =>
      (ax_gI E q2.2 v3 0 15).bind fun v4 =>
      (ax_pI q2.2 v3 0 15 (v4 + 1)).bind fun h5 =>
      some (0, h5)
  else none
noncomputable def f_X20_run (E : ax_E) (x0 : Option Nat) (h : ax_H) : Option (Int × ax_H) :=
  (ax_dp E h x0 fun t => if t = 21 ∨ t = 23 ∨ t = 24 then f_X20_setNow E x0 h else none).bind fun h1 =>
  (ax_gRs E h1 x0 [(21, 0), (23, 4), (24, 4)]).bind fun v2 =>
  if v2 = none then
    f_X20_run_43 E x0 h1
  else
    (ax_gRs E h1 x0 [(21, 0), (23, 4), (24, 4)]).bind fun v3 =>
    (ax_gRs E h1 x0 [(21, 3), (23, 7), (24, 7)]).bind fun v4 =>
    (ax_gR E h1 v4 0 4).bind fun v5 =>
    (ax_dp E h1 v3 fun t => if t = 17 then f_X17_of E v3 v5 h1 else if t = 18 then fn_X18_of E 64 v3 v5 h1 else if t = 19 then fn_X19_of E 64 v3 v5 h1 else none).bind fun q6 =>
    if i2 q6.1 = 0 then
      f_X20_run_41 E q6.2
    else
      (ax_gRs E q6.2 x0 [(21, 3), (23, 7), (24, 7)]).bind fun v7 =>
      (ax_gR E q6.2 v7 0 4).bind fun v8 =>
      (ax_gI E q6.2 v8 3 1).bind fun v9 =>
      if i2 v9 = 0 then
        f_X20_run_43 E x0 q6.2
      else
        f_X20_run_41 E q6.2
set_option maxHeartbeats 4000000 in
theorem w_X20_run_41 {l : Launch} {G : ax_G} {X : ax_X} {Q : State → Prop} {h0 h : ax_H} {ls : Array Slot} (hSF : ax_SF G) (B : ax_BL l G X cX20_run 2 RX20 143 3631) (Z : ax_Z X h0 ((some FieldType.int))) (hn : X.2.2.2.2.2.2.2.2.1.name = yX20_run.name) {w : Int × ax_H} (hl : ax_hl ls 2 []) (e : f_X20_run_41 G.2.2 h = some w) (hp : (fun w : Int × ax_H => Q = ax_Q G X h0 w.2 (some (.int (Int32.ofInt w.1)))) w) : ax_W G X Q h 41 ls [] := by
  unfold f_X20_run_41 at e
  refine ax_iconst B dX20_run_41 ?_
  have e8 := e
  have hp : Q = _ := hp
  subst hp
  exact ax_ireturn B Z dX20_run_42 e8
set_option maxHeartbeats 4000000 in
theorem w_X20_run_43 {l : Launch} {G : ax_G} {X : ax_X} {Q : State → Prop} {h0 h : ax_H} {ls : Array Slot} (hSF : ax_SF G) (B : ax_BL l G X cX20_run 2 RX20 143 3631) (Z : ax_Z X h0 ((some FieldType.int))) (hn : X.2.2.2.2.2.2.2.2.1.name = yX20_run.name) (x0 : Option Nat) {w : Int × ax_H} (hl : ax_hl ls 2 [(0, .inr (.inr x0))]) (e : f_X20_run_43 G.2.2 x0 h = some w) (hp : (fun w : Int × ax_H => Q = ax_Q G X h0 w.2 (some (.int (Int32.ofInt w.1)))) w) : ax_W G X Q h 43 ls [] := by
  unfold f_X20_run_43 at e
  refine ax_aload_n B dX20_run_43 rfl hl 0 rfl ?_
  refine ax_iconst B dX20_run_44 ?_
  refine ax_putZs B fs_X20_51 (Or.inl rfl) dX20_run_45 e (fun h1 e => ?_)
  refine ax_aload_n B dX20_run_48 rfl hl 0 rfl ?_
  refine ax_iwI (x := ⟨"DebtDoors$Order", "does", "()I"⟩) (n := 0) (As := []) B (fun w1 e1 => ?_) rfl hl.size (by decide) dX20_run_49 e (fun q2 e => ?_)
  · obtain ⟨t, c, e2, e1⟩ := ax_dp_spec e1
    rcases ax_ite e1 with ⟨hk, e1⟩ | ⟨-, e1⟩
    · subst hk
      exact ax_cal B kd21 e2 q1858 q1860 (ax_dcD B q1859) (B.2.1.2.2.2.2 _ q1891) q1892 q161 q1893 (by decide +kernel) ⟨Nat.le_of_ble_eq_true rfl, Nat.le_of_ble_eq_true rfl⟩ (mt_X21_does l G hSF x0 _ w1 e1)
    rcases ax_ite e1 with ⟨hk, e1⟩ | ⟨-, e1⟩
    · rcases hk with rfl | rfl
      · exact ax_cal B kd23 e2 q1858 q1860 (ax_dcD B q1859) (B.2.1.2.2.2.2 _ q1861) q1862 q162 q1863 (by decide +kernel) ⟨Nat.le_of_ble_eq_true rfl, Nat.le_of_ble_eq_true rfl⟩ (mt_X22_does l G hSF x0 _ w1 e1)
      · exact ax_cal B kd24 e2 q1858 q1860 (ax_dcD B q1859) (B.2.1.2.2.2.2 _ q1890) q1862 q162 q1863 (by decide +kernel) ⟨Nat.le_of_ble_eq_true rfl, Nat.le_of_ble_eq_true rfl⟩ (mt_X22_does l G hSF x0 _ w1 e1)
    cases e1
  refine ax_istore_n (L' := [(1, .inl q2.1), (0, .inr (.inr x0))]) B dX20_run_52 rfl hl (by decide) rfl (fun ls hl => ?_)
  refine ax_iload_n B dX20_run_53 rfl hl 0 rfl ?_
  refine ax_if_ge (tgt := 71) B dX20_run_54 (by decide) e (fun e => ?_) (fun e => ?_)
  · refine ax_iload_n B dX20_run_57 rfl hl 0 rfl ?_
    refine ax_bipush B dX20_run_58 (by decide) ?_
    refine ax_icmp_ne (tgt := 68) B dX20_run_60 (by decide) e (fun e => ?_) (fun e => ?_)
    · refine ax_bipush B dX20_run_63 (by decide) ?_
      refine ax_goto (tgt := 70) B dX20_run_65 (by decide) ?_
      have e8 := e
      have hp : Q = _ := hp
      subst hp
      exact ax_ireturn B Z dX20_run_70 e8
    · refine ax_bipush B dX20_run_68 (by decide) ?_
      have e8 := e
      have hp : Q = _ := hp
      subst hp
      exact ax_ireturn B Z dX20_run_70 e8
  · refine ax_aload_n B dX20_run_71 rfl hl 1 rfl ?_
    refine ax_getRs B fs_X20_3 (fun _ _ => rfl) dX20_run_72 e (fun v3 e => ?_)
    refine ax_dup B dX20_run_75 (va_rf_cat _) ?_
    refine ax_getI B ff_X20_41_0 (fun _ _ => rfl) dX20_run_76 e (fun v4 e => ?_)
    refine ax_iconst B dX20_run_79 ?_
    refine ax_iadd' B dX20_run_80 ?_
    refine ax_putI B ff_X20_41_0 (Or.inl rfl) rfl dX20_run_81 e (fun h5 e => ?_)
    refine ax_iconst B dX20_run_84 ?_
    have e8 := e
    have hp : Q = _ := hp
    subst hp
    exact ax_ireturn B Z dX20_run_85 e8
set_option maxHeartbeats 4000000 in
theorem we_X20_run {l : Launch} {G : ax_G} {X : ax_X} {Q : State → Prop} {h0 h : ax_H} {ls : Array Slot} (hSF : ax_SF G) (B : ax_BL l G X cX20_run 2 RX20 143 3631) (Z : ax_Z X h0 ((some FieldType.int))) (hn : X.2.2.2.2.2.2.2.2.1.name = yX20_run.name) (x0 : Option Nat) {w : Int × ax_H} (hl : ax_hl ls 2 [(0, .inr (.inr x0))]) (e : f_X20_run G.2.2 x0 h = some w) (hp : (fun w : Int × ax_H => Q = ax_Q G X h0 w.2 (some (.int (Int32.ofInt w.1)))) w) : ax_W G X Q h 0 ls [] := by
  unfold f_X20_run at e
  refine ax_aload_n B dX20_run_0 rfl hl 0 rfl ?_
  refine ax_iwV (x := ⟨"DebtDoors$Order", "setNow", "()V"⟩) (n := 0) (As := []) B (fun w1 e1 => ?_) rfl hl.size (by decide) dX20_run_1 e (fun h1 e => ?_)
  · obtain ⟨t, c, e2, e1⟩ := ax_dp_spec e1
    rcases ax_ite e1 with ⟨hk, e1⟩ | ⟨-, e1⟩
    · rcases hk with rfl | rfl | rfl
      · exact ax_cal B kd21 e2 q1852 q2739 (ax_dcC B q1854 q1855) (ax_selP B kd21 q2739 q1853 q1854 (by decide +kernel)) q1854 q160 q1855 (by decide +kernel) ⟨Nat.le_of_ble_eq_true rfl, Nat.le_of_ble_eq_true rfl⟩ (mt_X20_setNow l G hSF x0 _ w1 e1)
      · exact ax_cal B kd23 e2 q1852 q2739 (ax_dcC B q1854 q1855) (ax_selP B kd23 q2739 q1853 q1854 (by decide +kernel)) q1854 q160 q1855 (by decide +kernel) ⟨Nat.le_of_ble_eq_true rfl, Nat.le_of_ble_eq_true rfl⟩ (mt_X20_setNow l G hSF x0 _ w1 e1)
      · exact ax_cal B kd24 e2 q1852 q2739 (ax_dcC B q1854 q1855) (ax_selP B kd24 q2739 q1853 q1854 (by decide +kernel)) q1854 q160 q1855 (by decide +kernel) ⟨Nat.le_of_ble_eq_true rfl, Nat.le_of_ble_eq_true rfl⟩ (mt_X20_setNow l G hSF x0 _ w1 e1)
    cases e1
  refine ax_aload_n B dX20_run_4 rfl hl 0 rfl ?_
  refine ax_getRs B fs_X20_63 (fun _ _ => rfl) dX20_run_5 e (fun v2 e => ?_)
  refine ax_ifnull (tgt := 43) B dX20_run_8 (by decide) e (fun e => ?_) (fun e => ?_)
  · exact w_X20_run_43 hSF B Z hn x0 (hl.sub [0] rfl) e hp
  · refine ax_aload_n B dX20_run_11 rfl hl 0 rfl ?_
    refine ax_getRs B fs_X20_63 (fun _ _ => rfl) dX20_run_12 e (fun v3 e => ?_)
    refine ax_aload_n B dX20_run_15 rfl hl 0 rfl ?_
    refine ax_getRs B fs_X20_3 (fun _ _ => rfl) dX20_run_16 e (fun v4 e => ?_)
    refine ax_getR B ff_X20_19_0 (fun _ _ => rfl) dX20_run_19 e (fun v5 e => ?_)
    refine ax_iwI (x := ⟨"DebtDoors$Test", "of", "(LDebtDoors$Asked;)Z"⟩) (n := 1) (As := [va_rf v5]) B (fun w1 e1 => ?_) rfl hl.size (by decide) dX20_run_22 e (fun q6 e => ?_)
    · obtain ⟨t, c, e2, e1⟩ := ax_dp_spec e1
      rcases ax_ite e1 with ⟨hk, e1⟩ | ⟨-, e1⟩
      · subst hk
        exact ax_cal B kd17 e2 q1857 q548 (ax_dcD B q547) (B.2.1.2.2.2.2 _ q549) q550 q157 q551 (by decide +kernel) ⟨Nat.le_of_ble_eq_true rfl, Nat.le_of_ble_eq_true rfl⟩ (mt_X17_of l G hSF v3 v5 _ w1 e1)
      rcases ax_ite e1 with ⟨hk, e1⟩ | ⟨-, e1⟩
      · subst hk
        exact ax_cal B kd18 e2 q1857 q548 (ax_dcD B q547) (B.2.1.2.2.2.2 _ q586) q587 q158 q588 (by decide +kernel) ⟨Nat.le_of_ble_eq_true rfl, Nat.le_of_ble_eq_true rfl⟩ (mf_X18_of l G hSF 64 v3 v5 _ w1 e1)
      rcases ax_ite e1 with ⟨hk, e1⟩ | ⟨-, e1⟩
      · subst hk
        exact ax_cal B kd19 e2 q1857 q548 (ax_dcD B q547) (B.2.1.2.2.2.2 _ q593) q590 q159 q591 (by decide +kernel) ⟨Nat.le_of_ble_eq_true rfl, Nat.le_of_ble_eq_true rfl⟩ (mf_X19_of l G hSF 64 v3 v5 _ w1 e1)
      cases e1
    refine ax_if_eq (tgt := 41) B dX20_run_25 (by decide) e (fun e => ?_) (fun e => ?_)
    · exact w_X20_run_41 hSF B Z hn (hl.sub [] rfl) e hp
    · refine ax_aload_n B dX20_run_28 rfl hl 0 rfl ?_
      refine ax_getRs B fs_X20_3 (fun _ _ => rfl) dX20_run_29 e (fun v7 e => ?_)
      refine ax_getR B ff_X20_19_0 (fun _ _ => rfl) dX20_run_32 e (fun v8 e => ?_)
      refine ax_getI B ff_X20_47_3 (fun _ _ => rfl) dX20_run_35 e (fun v9 e => ?_)
      refine ax_if_eq (tgt := 43) B dX20_run_38 (by decide) e (fun e => ?_) (fun e => ?_)
      · exact w_X20_run_43 hSF B Z hn x0 (hl.sub [0] rfl) e hp
      · exact w_X20_run_41 hSF B Z hn (hl.sub [] rfl) e hp
theorem mt_X20_run (l : Launch) (G : ax_G) (hSF : ax_SF G) (x0 : Option Nat) (h : ax_H) (w : Int × ax_H) (e : f_X20_run G.2.2 x0 h = some w) : ax_Met l G yX20_run cX20_run 2 ((some FieldType.int)) 143 3631 [va_rf x0] h w.2 (some (.int (Int32.ofInt w.1))) :=
  ax_enter [.inr (.inr x0)] (y := yX20_run) hSF (plainFor_of_name (by decide +kernel)) (Nat.le_of_ble_eq_true rfl) (fun X ls B Z hn hl => we_X20_run hSF B Z hn x0 hl e rfl)
def dkwX0_runAll_2 : List UInt8 := [167, 255, 219, 132, 2, 1, 167, 255, 205, 42, 180, 1, 207, 172]
abbrev dktX0_runAll_2 : List UInt8 := dkwX0_runAll_2 ++ []
def dkwX0_runAll_1 : List UInt8 := [182, 1, 204, 54, 4, 21, 4, 154, 0, 6, 167, 0, 11, 42, 28, 181, 0, 64, 21, 4, 172, 132, 3, 1]
abbrev dktX0_runAll_1 : List UInt8 := dkwX0_runAll_1 ++ dktX0_runAll_2
def dkwX0_runAll_0 : List UInt8 := [3, 61, 28, 43, 190, 162, 0, 51, 3, 62, 29, 43, 28, 50, 180, 1, 199, 162, 0, 33, 43, 28, 50]
abbrev dktX0_runAll_0 : List UInt8 := dkwX0_runAll_0 ++ dktX0_runAll_1
theorem dksX0_runAll_0 : cX0_runAll.data.toList.drop 0 = dktX0_runAll_0 := by decide +kernel
theorem dksX0_runAll_1 : cX0_runAll.data.toList.drop 23 = dktX0_runAll_1 := dk_seg dksX0_runAll_0 23 rfl rfl
theorem dksX0_runAll_2 : cX0_runAll.data.toList.drop 47 = dktX0_runAll_2 := dk_seg dksX0_runAll_1 24 rfl rfl
theorem dX0_runAll_0 : decode cX0_runAll 0 = .ok (.iconst 0, 1) := dk_3 (dk_at dksX0_runAll_0 0 rfl rfl)
theorem dX0_runAll_1 : decode cX0_runAll 1 = .ok (.istore_n 2, 1) := dk_61 (dk_at dksX0_runAll_0 1 rfl rfl)
theorem dX0_runAll_2 : decode cX0_runAll 2 = .ok (.iload_n 2, 1) := dk_28 (dk_at dksX0_runAll_0 2 rfl rfl)
theorem dX0_runAll_3 : decode cX0_runAll 3 = .ok (.aload_n 1, 1) := dk_43 (dk_at dksX0_runAll_0 3 rfl rfl)
theorem dX0_runAll_4 : decode cX0_runAll 4 = .ok (.arraylength, 1) := dk_190 (dk_at dksX0_runAll_0 4 rfl rfl)
theorem dX0_runAll_5 : decode cX0_runAll 5 = .ok (.if_icmp .ge 51, 3) := dk_162 0 51 (dk_at dksX0_runAll_0 5 rfl rfl)
theorem dX0_runAll_8 : decode cX0_runAll 8 = .ok (.iconst 0, 1) := dk_3 (dk_at dksX0_runAll_0 8 rfl rfl)
theorem dX0_runAll_9 : decode cX0_runAll 9 = .ok (.istore_n 3, 1) := dk_62 (dk_at dksX0_runAll_0 9 rfl rfl)
theorem dX0_runAll_10 : decode cX0_runAll 10 = .ok (.iload_n 3, 1) := dk_29 (dk_at dksX0_runAll_0 10 rfl rfl)
theorem dX0_runAll_11 : decode cX0_runAll 11 = .ok (.aload_n 1, 1) := dk_43 (dk_at dksX0_runAll_0 11 rfl rfl)
theorem dX0_runAll_12 : decode cX0_runAll 12 = .ok (.iload_n 2, 1) := dk_28 (dk_at dksX0_runAll_0 12 rfl rfl)
theorem dX0_runAll_13 : decode cX0_runAll 13 = .ok (.aaload, 1) := dk_50 (dk_at dksX0_runAll_0 13 rfl rfl)
theorem dX0_runAll_14 : decode cX0_runAll 14 = .ok (.getfield 455, 3) := dk_180 1 199 (dk_at dksX0_runAll_0 14 rfl rfl)
theorem dX0_runAll_17 : decode cX0_runAll 17 = .ok (.if_icmp .ge 33, 3) := dk_162 0 33 (dk_at dksX0_runAll_0 17 rfl rfl)
theorem dX0_runAll_20 : decode cX0_runAll 20 = .ok (.aload_n 1, 1) := dk_43 (dk_at dksX0_runAll_0 20 rfl rfl)
theorem dX0_runAll_21 : decode cX0_runAll 21 = .ok (.iload_n 2, 1) := dk_28 (dk_at dksX0_runAll_0 21 rfl rfl)
theorem dX0_runAll_22 : decode cX0_runAll 22 = .ok (.aaload, 1) := dk_50 (dk_at dksX0_runAll_0 22 rfl rfl)
theorem dX0_runAll_23 : decode cX0_runAll 23 = .ok (.invokevirtual 460, 3) := dk_182 1 204 (dk_at dksX0_runAll_1 0 rfl rfl)
theorem dX0_runAll_26 : decode cX0_runAll 26 = .ok (.istore 4, 2) := dk_54 4 (dk_at dksX0_runAll_1 3 rfl rfl)
theorem dX0_runAll_28 : decode cX0_runAll 28 = .ok (.iload 4, 2) := dk_21 4 (dk_at dksX0_runAll_1 5 rfl rfl)
theorem dX0_runAll_30 : decode cX0_runAll 30 = .ok (.ifCond .ne 6, 3) := dk_154 0 6 (dk_at dksX0_runAll_1 7 rfl rfl)
theorem dX0_runAll_33 : decode cX0_runAll 33 = .ok (.goto 11, 3) := dk_167 0 11 (dk_at dksX0_runAll_1 10 rfl rfl)
theorem dX0_runAll_36 : decode cX0_runAll 36 = .ok (.aload_n 0, 1) := dk_42 (dk_at dksX0_runAll_1 13 rfl rfl)
theorem dX0_runAll_37 : decode cX0_runAll 37 = .ok (.iload_n 2, 1) := dk_28 (dk_at dksX0_runAll_1 14 rfl rfl)
theorem dX0_runAll_38 : decode cX0_runAll 38 = .ok (.putfield 64, 3) := dk_181 0 64 (dk_at dksX0_runAll_1 15 rfl rfl)
theorem dX0_runAll_41 : decode cX0_runAll 41 = .ok (.iload 4, 2) := dk_21 4 (dk_at dksX0_runAll_1 18 rfl rfl)
theorem dX0_runAll_43 : decode cX0_runAll 43 = .ok (.ireturn, 1) := dk_172 (dk_at dksX0_runAll_1 20 rfl rfl)
theorem dX0_runAll_44 : decode cX0_runAll 44 = .ok (.iinc 3 1, 3) := dk_132 3 1 (dk_at dksX0_runAll_1 21 rfl rfl)
theorem dX0_runAll_47 : decode cX0_runAll 47 = .ok (.goto (-37), 3) := dk_167 255 219 (dk_at dksX0_runAll_2 0 rfl rfl)
theorem dX0_runAll_50 : decode cX0_runAll 50 = .ok (.iinc 2 1, 3) := dk_132 2 1 (dk_at dksX0_runAll_2 3 rfl rfl)
theorem dX0_runAll_53 : decode cX0_runAll 53 = .ok (.goto (-51), 3) := dk_167 255 205 (dk_at dksX0_runAll_2 6 rfl rfl)
theorem dX0_runAll_56 : decode cX0_runAll 56 = .ok (.aload_n 0, 1) := dk_42 (dk_at dksX0_runAll_2 9 rfl rfl)
theorem dX0_runAll_57 : decode cX0_runAll 57 = .ok (.getfield 463, 3) := dk_180 1 207 (dk_at dksX0_runAll_2 10 rfl rfl)
theorem dX0_runAll_60 : decode cX0_runAll 60 = .ok (.ireturn, 1) := dk_172 (dk_at dksX0_runAll_2 13 rfl rfl)
noncomputable def lb_X0_runAll_10 (E : ax_E) (x0 : Option Nat) (x1 : Option Nat) (x2 : Int) (x3 : Int) (h : ax_H) : Option ((Int × ax_H) ⊕ ((Int × ax_H) ⊕ (Int × ax_H))) :=
  (ax_ldR E h x1 110 x2).bind fun v1 =>
  (ax_gIs E h v1 [(21, 1), (23, 5), (24, 5)]).bind fun v2 =>
  if i2 x3 < i2 v2 then
    (ax_ldR E h x1 110 x2).bind fun v3 =>
    (ax_dp E h v3 fun t => if t = 21 ∨ t = 23 ∨ t = 24 then f_X20_run E v3 h else none).bind fun q4 =>
    if i2 q4.1 = 0 then
      some (.inl ((x3 + 1), q4.2))
    else
      (((ax_pI q4.2 x0 0 10 x2).bind fun h5 =>
      some (q4.1, h5)).map Sum.inr).map Sum.inr
  else
    (some (.inl ((x2 + 1), h))).map Sum.inr
noncomputable def f_X0_runAll_10 (E : ax_E) (x0 : Option Nat) (x1 : Option Nat) (x2 : Int) (x3 : Int) (h : ax_H) : Option ((Int × ax_H) ⊕ (Int × ax_H)) :=
  ax_iter (fun s : Int × ax_H => lb_X0_runAll_10 E x0 x1 x2 s.1 s.2) (x3, h)
noncomputable def lb_X0_runAll_2 (E : ax_E) (x0 : Option Nat) (x1 : Option Nat) (x2 : Int) (h : ax_H) : Option ((Int × ax_H) ⊕ (Int × ax_H)) :=
  (ax_len E h x1 110).bind fun v1 =>
  if i2 x2 < i2 v1 then
    f_X0_runAll_10 E x0 x1 x2 0 h
  else
    ((ax_gI E h x0 0 15).bind fun v2 =>
    some (v2, h)).map Sum.inr
noncomputable def f_X0_runAll_2 (E : ax_E) (x0 : Option Nat) (x1 : Option Nat) (x2 : Int) (h : ax_H) : Option (Int × ax_H) :=
  ax_iter (fun s : Int × ax_H => lb_X0_runAll_2 E x0 x1 s.1 s.2) (x2, h)
noncomputable def f_X0_runAll (E : ax_E) (x0 : Option Nat) (x1 : Option Nat) (h : ax_H) : Option (Int × ax_H) :=
  f_X0_runAll_2 E x0 x1 0 h
def pi_X0_runAll_10 (G : ax_G) (X : ax_X) (Q : State → Prop) (x0 : Option Nat) (x1 : Option Nat) (x2 : Int) : Int × ax_H → Prop := fun s => ∀ ls : Array Slot, ax_hl ls 5 [(0, .inr (.inr x0)), (1, .inr (.inr x1)), (2, .inl x2), (3, .inl s.1)] → ax_W G X Q s.2 10 ls []
def pi_X0_runAll_2 (G : ax_G) (X : ax_X) (Q : State → Prop) (x0 : Option Nat) (x1 : Option Nat) : Int × ax_H → Prop := fun s => ∀ ls : Array Slot, ax_hl ls 5 [(0, .inr (.inr x0)), (1, .inr (.inr x1)), (2, .inl s.1)] → ax_W G X Q s.2 2 ls []
set_option maxHeartbeats 4000000 in
theorem wb_X0_runAll_10 {l : Launch} {G : ax_G} {X : ax_X} {Q : State → Prop} {h0 h : ax_H} {ls : Array Slot} (hSF : ax_SF G) (B : ax_BL l G X cX0_runAll 5 RX0 144 3652) (Z : ax_Z X h0 ((some FieldType.int))) (hn : X.2.2.2.2.2.2.2.2.1.name = yX0_runAll.name) (x0 : Option Nat) (x1 : Option Nat) (x2 : Int) (x3 : Int) {w : (Int × ax_H) ⊕ ((Int × ax_H) ⊕ (Int × ax_H))} (hl : ax_hl ls 5 [(0, .inr (.inr x0)), (1, .inr (.inr x1)), (2, .inl x2), (3, .inl x3)]) (e : lb_X0_runAll_10 G.2.2 x0 x1 x2 x3 h = some w) (hp : (ax_PL (pi_X0_runAll_10 G X Q x0 x1 x2) (ax_PL (pi_X0_runAll_2 G X Q x0 x1) (fun w : Int × ax_H => Q = ax_Q G X h0 w.2 (some (.int (Int32.ofInt w.1)))))) w) : ax_W G X Q h 10 ls [] := by
  unfold lb_X0_runAll_10 at e
  refine ax_iload_n B dX0_runAll_10 rfl hl 3 rfl ?_
  refine ax_aload_n B dX0_runAll_11 rfl hl 1 rfl ?_
  refine ax_iload_n B dX0_runAll_12 rfl hl 2 rfl ?_
  refine ax_aald rfl B kd110 dX0_runAll_13 e (fun v1 e => ?_)
  refine ax_getIs B fs_X0_455 (fun _ _ => rfl) dX0_runAll_14 e (fun v2 e => ?_)
  refine ax_icmp_ge (tgt := 50) B dX0_runAll_17 (by decide) e (fun e => ?_) (fun e => ?_)
  · refine ax_aload_n B dX0_runAll_20 rfl hl 1 rfl ?_
    refine ax_iload_n B dX0_runAll_21 rfl hl 2 rfl ?_
    refine ax_aald rfl B kd110 dX0_runAll_22 e (fun v3 e => ?_)
    refine ax_iwI (x := ⟨"DebtDoors$Order", "run", "()I"⟩) (n := 0) (As := []) B (fun w1 e1 => ?_) rfl hl.size (by decide) dX0_runAll_23 e (fun q4 e => ?_)
    · obtain ⟨t, c, e2, e1⟩ := ax_dp_spec e1
      rcases ax_ite e1 with ⟨hk, e1⟩ | ⟨-, e1⟩
      · rcases hk with rfl | rfl | rfl
        · exact ax_cal B kd21 e2 q1845 q1847 (ax_dcC B q1846 q1851) (B.2.1.2.2.2.2 _ q1850) q1846 q160 q1851 (by decide +kernel) ⟨Nat.le_of_ble_eq_true rfl, Nat.le_of_ble_eq_true rfl⟩ (mt_X20_run l G hSF v3 _ w1 e1)
        · exact ax_cal B kd23 e2 q1845 q1847 (ax_dcC B q1846 q1851) (B.2.1.2.2.2.2 _ q1848) q1846 q160 q1851 (by decide +kernel) ⟨Nat.le_of_ble_eq_true rfl, Nat.le_of_ble_eq_true rfl⟩ (mt_X20_run l G hSF v3 _ w1 e1)
        · exact ax_cal B kd24 e2 q1845 q1847 (ax_dcC B q1846 q1851) (B.2.1.2.2.2.2 _ q1849) q1846 q160 q1851 (by decide +kernel) ⟨Nat.le_of_ble_eq_true rfl, Nat.le_of_ble_eq_true rfl⟩ (mt_X20_run l G hSF v3 _ w1 e1)
      cases e1
    refine ax_istore (L' := [(4, .inl q4.1), (0, .inr (.inr x0)), (1, .inr (.inr x1)), (2, .inl x2), (3, .inl x3)]) B dX0_runAll_26 hl (by decide) rfl (fun ls hl => ?_)
    refine ax_iload B dX0_runAll_28 hl 0 rfl ?_
    refine ax_if_ne (tgt := 36) B dX0_runAll_30 (by decide) e (fun e => ?_) (fun e => ?_)
    · refine ax_goto (tgt := 44) B dX0_runAll_33 (by decide) ?_
      refine ax_iinc (L' := [(3, .inl (x3 + 1)), (4, .inl q4.1), (0, .inr (.inr x0)), (1, .inr (.inr x1)), (2, .inl x2)]) B dX0_runAll_44 hl 4 rfl (by decide) rfl (fun ls hl => ?_)
      refine ax_goto (tgt := 10) B dX0_runAll_47 (by decide) ?_
      cases e
      exact hp _ (hl.sub [2, 3, 4, 0] rfl)
    · obtain ⟨w, e9_1, rfl⟩ := Option.map_eq_some_iff.mp e
      have e := e9_1
      obtain ⟨w, e9_2, rfl⟩ := Option.map_eq_some_iff.mp e
      have e := e9_2
      refine ax_aload_n B dX0_runAll_36 rfl hl 1 rfl ?_
      refine ax_iload_n B dX0_runAll_37 rfl hl 3 rfl ?_
      refine ax_putI B ff_X0_64_0 (Or.inl rfl) rfl dX0_runAll_38 e (fun h5 e => ?_)
      refine ax_iload B dX0_runAll_41 hl 0 rfl ?_
      have e8 := e
      have hp : Q = _ := hp
      subst hp
      exact ax_ireturn B Z dX0_runAll_43 e8
  · obtain ⟨w, e9_3, rfl⟩ := Option.map_eq_some_iff.mp e
    have e := e9_3
    refine ax_iinc (L' := [(2, .inl (x2 + 1)), (0, .inr (.inr x0)), (1, .inr (.inr x1)), (3, .inl x3)]) B dX0_runAll_50 hl 2 rfl (by decide) rfl (fun ls hl => ?_)
    refine ax_goto (tgt := 2) B dX0_runAll_53 (by decide) ?_
    cases e
    exact hp _ (hl.sub [1, 2, 0] rfl)
theorem w_X0_runAll_10 {l : Launch} {G : ax_G} {X : ax_X} {Q : State → Prop} {h0 h : ax_H} {ls : Array Slot} (hSF : ax_SF G) (B : ax_BL l G X cX0_runAll 5 RX0 144 3652) (Z : ax_Z X h0 ((some FieldType.int))) (hn : X.2.2.2.2.2.2.2.2.1.name = yX0_runAll.name) (x0 : Option Nat) (x1 : Option Nat) (x2 : Int) (x3 : Int) {w : (Int × ax_H) ⊕ (Int × ax_H)} (hl : ax_hl ls 5 [(0, .inr (.inr x0)), (1, .inr (.inr x1)), (2, .inl x2), (3, .inl x3)]) (e : f_X0_runAll_10 G.2.2 x0 x1 x2 x3 h = some w) (hp : (ax_PL (pi_X0_runAll_2 G X Q x0 x1) (fun w : Int × ax_H => Q = ax_Q G X h0 w.2 (some (.int (Int32.ofInt w.1))))) w) : ax_W G X Q h 10 ls [] :=
  ax_iter_W (Pin := pi_X0_runAll_10 G X Q x0 x1 x2) (Pout := (ax_PL (pi_X0_runAll_2 G X Q x0 x1) (fun w : Int × ax_H => Q = ax_Q G X h0 w.2 (some (.int (Int32.ofInt w.1)))))) (fun s w e hp ls hl => wb_X0_runAll_10 hSF B Z hn x0 x1 x2 s.1 hl e hp) _ _ e hp ls hl
set_option maxHeartbeats 4000000 in
theorem wb_X0_runAll_2 {l : Launch} {G : ax_G} {X : ax_X} {Q : State → Prop} {h0 h : ax_H} {ls : Array Slot} (hSF : ax_SF G) (B : ax_BL l G X cX0_runAll 5 RX0 144 3652) (Z : ax_Z X h0 ((some FieldType.int))) (hn : X.2.2.2.2.2.2.2.2.1.name = yX0_runAll.name) (x0 : Option Nat) (x1 : Option Nat) (x2 : Int) {w : (Int × ax_H) ⊕ (Int × ax_H)} (hl : ax_hl ls 5 [(0, .inr (.inr x0)), (1, .inr (.inr x1)), (2, .inl x2)]) (e : lb_X0_runAll_2 G.2.2 x0 x1 x2 h = some w) (hp : (ax_PL (pi_X0_runAll_2 G X Q x0 x1) (fun w : Int × ax_H => Q = ax_Q G X h0 w.2 (some (.int (Int32.ofInt w.1))))) w) : ax_W G X Q h 2 ls [] := by
  unfold lb_X0_runAll_2 at e
  refine ax_iload_n B dX0_runAll_2 rfl hl 2 rfl ?_
  refine ax_aload_n B dX0_runAll_3 rfl hl 1 rfl ?_
  refine ax_alen B kd110 dX0_runAll_4 e (fun v1 e => ?_)
  refine ax_icmp_ge (tgt := 56) B dX0_runAll_5 (by decide) e (fun e => ?_) (fun e => ?_)
  · refine ax_iconst B dX0_runAll_8 ?_
    refine ax_istore_n (L' := [(3, .inl 0), (0, .inr (.inr x0)), (1, .inr (.inr x1)), (2, .inl x2)]) B dX0_runAll_9 rfl hl (by decide) rfl (fun ls hl => ?_)
    exact w_X0_runAll_10 hSF B Z hn x0 x1 x2 0 (hl.sub [1, 2, 3, 0] rfl) e hp
  · obtain ⟨w, e9_4, rfl⟩ := Option.map_eq_some_iff.mp e
    have e := e9_4
    refine ax_aload_n B dX0_runAll_56 rfl hl 0 rfl ?_
    refine ax_getI B ff_X0_463_0 (fun _ _ => rfl) dX0_runAll_57 e (fun v2 e => ?_)
    have e8 := e
    have hp : Q = _ := hp
    subst hp
    exact ax_ireturn B Z dX0_runAll_60 e8
theorem w_X0_runAll_2 {l : Launch} {G : ax_G} {X : ax_X} {Q : State → Prop} {h0 h : ax_H} {ls : Array Slot} (hSF : ax_SF G) (B : ax_BL l G X cX0_runAll 5 RX0 144 3652) (Z : ax_Z X h0 ((some FieldType.int))) (hn : X.2.2.2.2.2.2.2.2.1.name = yX0_runAll.name) (x0 : Option Nat) (x1 : Option Nat) (x2 : Int) {w : Int × ax_H} (hl : ax_hl ls 5 [(0, .inr (.inr x0)), (1, .inr (.inr x1)), (2, .inl x2)]) (e : f_X0_runAll_2 G.2.2 x0 x1 x2 h = some w) (hp : (fun w : Int × ax_H => Q = ax_Q G X h0 w.2 (some (.int (Int32.ofInt w.1)))) w) : ax_W G X Q h 2 ls [] :=
  ax_iter_W (Pin := pi_X0_runAll_2 G X Q x0 x1) (Pout := (fun w : Int × ax_H => Q = ax_Q G X h0 w.2 (some (.int (Int32.ofInt w.1))))) (fun s w e hp ls hl => wb_X0_runAll_2 hSF B Z hn x0 x1 s.1 hl e hp) _ _ e hp ls hl
set_option maxHeartbeats 4000000 in
theorem we_X0_runAll {l : Launch} {G : ax_G} {X : ax_X} {Q : State → Prop} {h0 h : ax_H} {ls : Array Slot} (hSF : ax_SF G) (B : ax_BL l G X cX0_runAll 5 RX0 144 3652) (Z : ax_Z X h0 ((some FieldType.int))) (hn : X.2.2.2.2.2.2.2.2.1.name = yX0_runAll.name) (x0 : Option Nat) (x1 : Option Nat) {w : Int × ax_H} (hl : ax_hl ls 5 [(0, .inr (.inr x0)), (1, .inr (.inr x1))]) (e : f_X0_runAll G.2.2 x0 x1 h = some w) (hp : (fun w : Int × ax_H => Q = ax_Q G X h0 w.2 (some (.int (Int32.ofInt w.1)))) w) : ax_W G X Q h 0 ls [] := by
  unfold f_X0_runAll at e
  refine ax_iconst B dX0_runAll_0 ?_
  refine ax_istore_n (L' := [(2, .inl 0), (0, .inr (.inr x0)), (1, .inr (.inr x1))]) B dX0_runAll_1 rfl hl (by decide) rfl (fun ls hl => ?_)
  exact w_X0_runAll_2 hSF B Z hn x0 x1 0 (hl.sub [1, 2, 0] rfl) e hp
theorem mt_X0_runAll (l : Launch) (G : ax_G) (hSF : ax_SF G) (x0 : Option Nat) (x1 : Option Nat) (h : ax_H) (w : Int × ax_H) (e : f_X0_runAll G.2.2 x0 x1 h = some w) : ax_Met l G yX0_runAll cX0_runAll 5 ((some FieldType.int)) 144 3652 [va_rf x0, va_rf x1] h w.2 (some (.int (Int32.ofInt w.1))) :=
  ax_enter [.inr (.inr x0), .inr (.inr x1)] (y := yX0_runAll) hSF (plainFor_of_name (by decide +kernel)) (Nat.le_of_ble_eq_true rfl) (fun X ls B Z hn hl => we_X0_runAll hSF B Z hn x0 x1 hl e rfl)
def dkwJ2_addAll_3 : List UInt8 := [181, 0, 48, 4, 172]
abbrev dktJ2_addAll_3 : List UInt8 := dkwJ2_addAll_3 ++ []
def dkwJ2_addAll_2 : List UInt8 := [21, 5, 29, 96, 182, 0, 69, 58, 4, 44, 3, 25, 4, 21, 5, 29, 184, 0, 112, 42, 21, 5, 29, 96]
abbrev dktJ2_addAll_2 : List UInt8 := dkwJ2_addAll_2 ++ dktJ2_addAll_3
def dkwJ2_addAll_1 : List UInt8 := [3, 172, 29, 42, 180, 0, 9, 89, 58, 4, 190, 42, 180, 0, 48, 89, 54, 5, 100, 164, 0, 13, 42]
abbrev dktJ2_addAll_1 : List UInt8 := dkwJ2_addAll_1 ++ dktJ2_addAll_2
def dkwJ2_addAll_0 : List UInt8 := [43, 185, 0, 42, 1, 0, 77, 42, 89, 180, 0, 63, 4, 96, 181, 0, 63, 44, 190, 62, 29, 154, 0, 5]
abbrev dktJ2_addAll_0 : List UInt8 := dkwJ2_addAll_0 ++ dktJ2_addAll_1
theorem dksJ2_addAll_0 : cJ2_addAll.data.toList.drop 0 = dktJ2_addAll_0 := by decide +kernel
theorem dksJ2_addAll_1 : cJ2_addAll.data.toList.drop 24 = dktJ2_addAll_1 := dk_seg dksJ2_addAll_0 24 rfl rfl
theorem dksJ2_addAll_2 : cJ2_addAll.data.toList.drop 47 = dktJ2_addAll_2 := dk_seg dksJ2_addAll_1 23 rfl rfl
theorem dksJ2_addAll_3 : cJ2_addAll.data.toList.drop 71 = dktJ2_addAll_3 := dk_seg dksJ2_addAll_2 24 rfl rfl
theorem dJ2_addAll_0 : decode cJ2_addAll 0 = .ok (.aload_n 1, 1) := dk_43 (dk_at dksJ2_addAll_0 0 rfl rfl)
theorem dJ2_addAll_1 : decode cJ2_addAll 1 = .ok (.invokeinterface 42 1, 5) := by decide +kernel
theorem dJ2_addAll_6 : decode cJ2_addAll 6 = .ok (.astore_n 2, 1) := dk_77 (dk_at dksJ2_addAll_0 6 rfl rfl)
theorem dJ2_addAll_7 : decode cJ2_addAll 7 = .ok (.aload_n 0, 1) := dk_42 (dk_at dksJ2_addAll_0 7 rfl rfl)
theorem dJ2_addAll_8 : decode cJ2_addAll 8 = .ok (.dup, 1) := dk_89 (dk_at dksJ2_addAll_0 8 rfl rfl)
theorem dJ2_addAll_9 : decode cJ2_addAll 9 = .ok (.getfield 63, 3) := dk_180 0 63 (dk_at dksJ2_addAll_0 9 rfl rfl)
theorem dJ2_addAll_12 : decode cJ2_addAll 12 = .ok (.iconst 1, 1) := dk_4 (dk_at dksJ2_addAll_0 12 rfl rfl)
theorem dJ2_addAll_13 : decode cJ2_addAll 13 = .ok (.iadd, 1) := dk_96 (dk_at dksJ2_addAll_0 13 rfl rfl)
theorem dJ2_addAll_14 : decode cJ2_addAll 14 = .ok (.putfield 63, 3) := dk_181 0 63 (dk_at dksJ2_addAll_0 14 rfl rfl)
theorem dJ2_addAll_17 : decode cJ2_addAll 17 = .ok (.aload_n 2, 1) := dk_44 (dk_at dksJ2_addAll_0 17 rfl rfl)
theorem dJ2_addAll_18 : decode cJ2_addAll 18 = .ok (.arraylength, 1) := dk_190 (dk_at dksJ2_addAll_0 18 rfl rfl)
theorem dJ2_addAll_19 : decode cJ2_addAll 19 = .ok (.istore_n 3, 1) := dk_62 (dk_at dksJ2_addAll_0 19 rfl rfl)
theorem dJ2_addAll_20 : decode cJ2_addAll 20 = .ok (.iload_n 3, 1) := dk_29 (dk_at dksJ2_addAll_0 20 rfl rfl)
theorem dJ2_addAll_21 : decode cJ2_addAll 21 = .ok (.ifCond .ne 5, 3) := dk_154 0 5 (dk_at dksJ2_addAll_0 21 rfl rfl)
theorem dJ2_addAll_24 : decode cJ2_addAll 24 = .ok (.iconst 0, 1) := dk_3 (dk_at dksJ2_addAll_1 0 rfl rfl)
theorem dJ2_addAll_25 : decode cJ2_addAll 25 = .ok (.ireturn, 1) := dk_172 (dk_at dksJ2_addAll_1 1 rfl rfl)
theorem dJ2_addAll_26 : decode cJ2_addAll 26 = .ok (.iload_n 3, 1) := dk_29 (dk_at dksJ2_addAll_1 2 rfl rfl)
theorem dJ2_addAll_27 : decode cJ2_addAll 27 = .ok (.aload_n 0, 1) := dk_42 (dk_at dksJ2_addAll_1 3 rfl rfl)
theorem dJ2_addAll_28 : decode cJ2_addAll 28 = .ok (.getfield 9, 3) := dk_180 0 9 (dk_at dksJ2_addAll_1 4 rfl rfl)
theorem dJ2_addAll_31 : decode cJ2_addAll 31 = .ok (.dup, 1) := dk_89 (dk_at dksJ2_addAll_1 7 rfl rfl)
theorem dJ2_addAll_32 : decode cJ2_addAll 32 = .ok (.astore 4, 2) := dk_58 4 (dk_at dksJ2_addAll_1 8 rfl rfl)
theorem dJ2_addAll_34 : decode cJ2_addAll 34 = .ok (.arraylength, 1) := dk_190 (dk_at dksJ2_addAll_1 10 rfl rfl)
theorem dJ2_addAll_35 : decode cJ2_addAll 35 = .ok (.aload_n 0, 1) := dk_42 (dk_at dksJ2_addAll_1 11 rfl rfl)
theorem dJ2_addAll_36 : decode cJ2_addAll 36 = .ok (.getfield 48, 3) := dk_180 0 48 (dk_at dksJ2_addAll_1 12 rfl rfl)
theorem dJ2_addAll_39 : decode cJ2_addAll 39 = .ok (.dup, 1) := dk_89 (dk_at dksJ2_addAll_1 15 rfl rfl)
theorem dJ2_addAll_40 : decode cJ2_addAll 40 = .ok (.istore 5, 2) := dk_54 5 (dk_at dksJ2_addAll_1 16 rfl rfl)
theorem dJ2_addAll_42 : decode cJ2_addAll 42 = .ok (.isub, 1) := dk_100 (dk_at dksJ2_addAll_1 18 rfl rfl)
theorem dJ2_addAll_43 : decode cJ2_addAll 43 = .ok (.if_icmp .le 13, 3) := dk_164 0 13 (dk_at dksJ2_addAll_1 19 rfl rfl)
theorem dJ2_addAll_46 : decode cJ2_addAll 46 = .ok (.aload_n 0, 1) := dk_42 (dk_at dksJ2_addAll_1 22 rfl rfl)
theorem dJ2_addAll_47 : decode cJ2_addAll 47 = .ok (.iload 5, 2) := dk_21 5 (dk_at dksJ2_addAll_2 0 rfl rfl)
theorem dJ2_addAll_49 : decode cJ2_addAll 49 = .ok (.iload_n 3, 1) := dk_29 (dk_at dksJ2_addAll_2 2 rfl rfl)
theorem dJ2_addAll_50 : decode cJ2_addAll 50 = .ok (.iadd, 1) := dk_96 (dk_at dksJ2_addAll_2 3 rfl rfl)
theorem dJ2_addAll_51 : decode cJ2_addAll 51 = .ok (.invokevirtual 69, 3) := dk_182 0 69 (dk_at dksJ2_addAll_2 4 rfl rfl)
theorem dJ2_addAll_54 : decode cJ2_addAll 54 = .ok (.astore 4, 2) := dk_58 4 (dk_at dksJ2_addAll_2 7 rfl rfl)
theorem dJ2_addAll_56 : decode cJ2_addAll 56 = .ok (.aload_n 2, 1) := dk_44 (dk_at dksJ2_addAll_2 9 rfl rfl)
theorem dJ2_addAll_57 : decode cJ2_addAll 57 = .ok (.iconst 0, 1) := dk_3 (dk_at dksJ2_addAll_2 10 rfl rfl)
theorem dJ2_addAll_58 : decode cJ2_addAll 58 = .ok (.aload 4, 2) := dk_25 4 (dk_at dksJ2_addAll_2 11 rfl rfl)
theorem dJ2_addAll_60 : decode cJ2_addAll 60 = .ok (.iload 5, 2) := dk_21 5 (dk_at dksJ2_addAll_2 13 rfl rfl)
theorem dJ2_addAll_62 : decode cJ2_addAll 62 = .ok (.iload_n 3, 1) := dk_29 (dk_at dksJ2_addAll_2 15 rfl rfl)
theorem dJ2_addAll_63 : decode cJ2_addAll 63 = .ok (.invokestatic 112, 3) := dk_184 0 112 (dk_at dksJ2_addAll_2 16 rfl rfl)
theorem dJ2_addAll_66 : decode cJ2_addAll 66 = .ok (.aload_n 0, 1) := dk_42 (dk_at dksJ2_addAll_2 19 rfl rfl)
theorem dJ2_addAll_67 : decode cJ2_addAll 67 = .ok (.iload 5, 2) := dk_21 5 (dk_at dksJ2_addAll_2 20 rfl rfl)
theorem dJ2_addAll_69 : decode cJ2_addAll 69 = .ok (.iload_n 3, 1) := dk_29 (dk_at dksJ2_addAll_2 22 rfl rfl)
theorem dJ2_addAll_70 : decode cJ2_addAll 70 = .ok (.iadd, 1) := dk_96 (dk_at dksJ2_addAll_2 23 rfl rfl)
theorem dJ2_addAll_71 : decode cJ2_addAll 71 = .ok (.putfield 48, 3) := dk_181 0 48 (dk_at dksJ2_addAll_3 0 rfl rfl)
theorem dJ2_addAll_74 : decode cJ2_addAll 74 = .ok (.iconst 1, 1) := dk_4 (dk_at dksJ2_addAll_3 3 rfl rfl)
theorem dJ2_addAll_75 : decode cJ2_addAll 75 = .ok (.ireturn, 1) := dk_172 (dk_at dksJ2_addAll_3 4 rfl rfl)
noncomputable def f_J2_addAll_56 (E : ax_E) (x0 : Option Nat) (x2 : Option Nat) (x3 : Int) (x4 : Option Nat) (x5 : Int) (h : ax_H) : Option (Int × ax_H) :=
  (ax_cp E h (ax_refP E h oj_104) x2 104 0 x4 x5 x3).bind fun h1 =>
  (ax_pI h1 x0 42 2 (x5 + x3)).bind fun h2 =>
  some (1, h2)
noncomputable def f_J2_addAll (E : ax_E) (x0 : Option Nat) (x1 : Option Nat) (h : ax_H) : Option (Int × ax_H) :=
  (ax_ce E h x1 42).bind fun _ => (f_J2_toArray E x1 h).bind fun q1 =>
  (ax_gI E q1.2 x0 42 0).bind fun v2 =>
  (ax_pI q1.2 x0 42 0 (v2 + 1)).bind fun h3 =>
  (ax_len E h3 q1.1 104).bind fun v4 =>
  if i2 v4 = 0 then
    some (0, h3)
  else
    (ax_gR E h3 x0 42 1).bind fun v5 =>
    (ax_len E h3 v5 104).bind fun v6 =>
    (ax_gI E h3 x0 42 2).bind fun v7 =>
    if i2 (v6 - v7) < i2 v4 then
      (ax_ce E h3 x0 42).bind fun _ => (f_J2_grow_2 E x0 (v7 + v4) h3).bind fun q8 =>
      f_J2_addAll_56 E x0 q1.1 v4 q8.1 v7 q8.2
    else
      f_J2_addAll_56 E x0 q1.1 v4 v5 v7 h3
set_option maxHeartbeats 4000000 in
theorem w_J2_addAll_56 {l : Launch} {G : ax_G} {X : ax_X} {Q : State → Prop} {h0 h : ax_H} {ls : Array Slot} (hSF : ax_SF G) (B : ax_BL l G X cJ2_addAll 6 RJ2 5 128) (Z : ax_Z X h0 ((some FieldType.boolean))) (hn : X.2.2.2.2.2.2.2.2.1.name = yJ2_addAll.name) (x0 : Option Nat) (x2 : Option Nat) (x3 : Int) (x4 : Option Nat) (x5 : Int) {w : Int × ax_H} (hl : ax_hl ls 6 [(0, .inr (.inr x0)), (2, .inr (.inr x2)), (3, .inl x3), (4, .inr (.inr x4)), (5, .inl x5)]) (e : f_J2_addAll_56 G.2.2 x0 x2 x3 x4 x5 h = some w) (hp : (fun w : Int × ax_H => Q = ax_Q G X h0 w.2 (some (.int (Int32.ofInt w.1)))) w) : ax_W G X Q h 56 ls [] := by
  unfold f_J2_addAll_56 at e
  refine ax_aload_n B dJ2_addAll_56 rfl hl 1 rfl ?_
  refine ax_iconst B dJ2_addAll_57 ?_
  refine ax_aload B dJ2_addAll_58 hl 3 rfl ?_
  refine ax_iload B dJ2_addAll_60 hl 4 rfl ?_
  refine ax_iload_n B dJ2_addAll_62 rfl hl 2 rfl ?_
  refine ax_copyR B kd104 (ok_104 B) q1374 q696 q695 q143 hl.size (by decide) (by decide) dJ2_addAll_63 e (fun h1 e => ?_)
  refine ax_aload_n B dJ2_addAll_66 rfl hl 0 rfl ?_
  refine ax_iload B dJ2_addAll_67 hl 4 rfl ?_
  refine ax_iload_n B dJ2_addAll_69 rfl hl 2 rfl ?_
  refine ax_iadd' B dJ2_addAll_70 ?_
  refine ax_putI B ff_J2_48_42 (Or.inl rfl) rfl dJ2_addAll_71 e (fun h2 e => ?_)
  refine ax_iconst B dJ2_addAll_74 ?_
  have e8 := e
  have hp : Q = _ := hp
  subst hp
  exact ax_zreturnL (by decide) B Z dJ2_addAll_75 e8
set_option maxHeartbeats 4000000 in
theorem we_J2_addAll {l : Launch} {G : ax_G} {X : ax_X} {Q : State → Prop} {h0 h : ax_H} {ls : Array Slot} (hSF : ax_SF G) (B : ax_BL l G X cJ2_addAll 6 RJ2 5 128) (Z : ax_Z X h0 ((some FieldType.boolean))) (hn : X.2.2.2.2.2.2.2.2.1.name = yJ2_addAll.name) (x0 : Option Nat) (x1 : Option Nat) {w : Int × ax_H} (hl : ax_hl ls 6 [(0, .inr (.inr x0)), (1, .inr (.inr x1))]) (e : f_J2_addAll G.2.2 x0 x1 h = some w) (hp : (fun w : Int × ax_H => Q = ax_Q G X h0 w.2 (some (.int (Int32.ofInt w.1)))) w) : ax_W G X Q h 0 ls [] := by
  unfold f_J2_addAll at e
  refine ax_aload_n B dJ2_addAll_0 rfl hl 1 rfl ?_
  refine ax_iFR (y := yJ2_toArray) (n := 0) (As := []) B kd42 q1821 q1825 q1827 q129 q1829 q1823 q1822 q1828 q1826 q1824 (by decide +kernel) ⟨Nat.le_of_ble_eq_true rfl, Nat.le_of_ble_eq_true rfl⟩ (fun w1 e1 => mt_J2_toArray l G hSF x1 _ w1 e1) rfl hl.size (by decide) dJ2_addAll_1 e (fun q1 e => ?_)
  refine ax_astore_n (L' := [(2, .inr (.inr q1.1)), (0, .inr (.inr x0)), (1, .inr (.inr x1))]) B dJ2_addAll_6 rfl hl (by decide) rfl (fun ls hl => ?_)
  refine ax_aload_n B dJ2_addAll_7 rfl hl 1 rfl ?_
  refine ax_dup B dJ2_addAll_8 (va_rf_cat _) ?_
  refine ax_getI B ff_J2_63_42 (fun _ _ => rfl) dJ2_addAll_9 e (fun v2 e => ?_)
  refine ax_iconst B dJ2_addAll_12 ?_
  refine ax_iadd' B dJ2_addAll_13 ?_
  refine ax_putI B ff_J2_63_42 (Or.inl rfl) rfl dJ2_addAll_14 e (fun h3 e => ?_)
  refine ax_aload_n B dJ2_addAll_17 rfl hl 0 rfl ?_
  refine ax_alen B kd104 dJ2_addAll_18 e (fun v4 e => ?_)
  refine ax_istore_n (L' := [(3, .inl v4), (2, .inr (.inr q1.1)), (0, .inr (.inr x0)), (1, .inr (.inr x1))]) B dJ2_addAll_19 rfl hl (by decide) rfl (fun ls hl => ?_)
  refine ax_iload_n B dJ2_addAll_20 rfl hl 0 rfl ?_
  refine ax_if_ne (tgt := 26) B dJ2_addAll_21 (by decide) e (fun e => ?_) (fun e => ?_)
  · refine ax_iconst B dJ2_addAll_24 ?_
    have e8 := e
    have hp : Q = _ := hp
    subst hp
    exact ax_zreturnL (by decide) B Z dJ2_addAll_25 e8
  · refine ax_iload_n B dJ2_addAll_26 rfl hl 0 rfl ?_
    refine ax_aload_n B dJ2_addAll_27 rfl hl 2 rfl ?_
    refine ax_getR B ff_J2_9_42 (fun _ _ => rfl) dJ2_addAll_28 e (fun v5 e => ?_)
    refine ax_dup B dJ2_addAll_31 (va_rf_cat _) ?_
    refine ax_astore (L' := [(4, .inr (.inr v5)), (3, .inl v4), (2, .inr (.inr q1.1)), (0, .inr (.inr x0)), (1, .inr (.inr x1))]) B dJ2_addAll_32 hl (by decide) rfl (fun ls hl => ?_)
    refine ax_alen B kd104 dJ2_addAll_34 e (fun v6 e => ?_)
    refine ax_aload_n B dJ2_addAll_35 rfl hl 3 rfl ?_
    refine ax_getI B ff_J2_48_42 (fun _ _ => rfl) dJ2_addAll_36 e (fun v7 e => ?_)
    refine ax_dup B dJ2_addAll_39 (rfl) ?_
    refine ax_istore (L' := [(5, .inl v7), (4, .inr (.inr v5)), (3, .inl v4), (2, .inr (.inr q1.1)), (0, .inr (.inr x0)), (1, .inr (.inr x1))]) B dJ2_addAll_40 hl (by decide) rfl (fun ls hl => ?_)
    refine ax_isub' B dJ2_addAll_42 ?_
    refine ax_icmp_le (tgt := 56) B dJ2_addAll_43 (by decide) e (fun e => ?_) (fun e => ?_)
    · refine ax_aload_n B dJ2_addAll_46 rfl hl 4 rfl ?_
      refine ax_iload B dJ2_addAll_47 hl 0 rfl ?_
      refine ax_iload_n B dJ2_addAll_49 rfl hl 2 rfl ?_
      refine ax_iadd' B dJ2_addAll_50 ?_
      refine ax_ivR (y := yJ2_grow_2) (n := 1) (As := [.int (Int32.ofInt (v7 + v4))]) B kd42 (lw_V q1257 q1259 qs21 q129 q1260) (by decide +kernel) ⟨Nat.le_of_ble_eq_true rfl, Nat.le_of_ble_eq_true rfl⟩ (fun w1 e1 => mt_J2_grow_2 l G hSF x0 (v7 + v4) _ w1 e1) rfl hl.size (by decide) dJ2_addAll_51 e (fun q8 e => ?_)
      refine ax_astore (L' := [(4, .inr (.inr q8.1)), (5, .inl v7), (3, .inl v4), (2, .inr (.inr q1.1)), (0, .inr (.inr x0)), (1, .inr (.inr x1))]) B dJ2_addAll_54 hl (by decide) rfl (fun ls hl => ?_)
      exact w_J2_addAll_56 hSF B Z hn x0 q1.1 v4 q8.1 v7 (hl.sub [4, 3, 2, 0, 1] rfl) e hp
    · exact w_J2_addAll_56 hSF B Z hn x0 q1.1 v4 v5 v7 (hl.sub [4, 3, 2, 1, 0] rfl) e hp
theorem mt_J2_addAll (l : Launch) (G : ax_G) (hSF : ax_SF G) (x0 : Option Nat) (x1 : Option Nat) (h : ax_H) (w : Int × ax_H) (e : f_J2_addAll G.2.2 x0 x1 h = some w) : ax_Met l G yJ2_addAll cJ2_addAll 6 ((some FieldType.boolean)) 5 128 [va_rf x0, va_rf x1] h w.2 (some (.int (Int32.ofInt w.1))) :=
  ax_enter [.inr (.inr x0), .inr (.inr x1)] (y := yJ2_addAll) hSF (plainFor_of_name (by decide +kernel)) (Nat.le_of_ble_eq_true rfl) (fun X ls B Z hn hl => we_J2_addAll hSF B Z hn x0 x1 hl e rfl)
theorem dX0_stopped_0 : decode cX0_stopped 0 = .ok (.aload_n 0, 1) := by decide +kernel
theorem dX0_stopped_1 : decode cX0_stopped 1 = .ok (.getfield 64, 3) := by decide +kernel
theorem dX0_stopped_4 : decode cX0_stopped 4 = .ok (.ireturn, 1) := by decide +kernel
noncomputable def f_X0_stopped (E : ax_E) (x0 : Option Nat) (h : ax_H) : Option (Int × ax_H) :=
  (ax_gI E h x0 0 10).bind fun v1 =>
  some (v1, h)
set_option maxHeartbeats 4000000 in
theorem we_X0_stopped {l : Launch} {G : ax_G} {X : ax_X} {Q : State → Prop} {h0 h : ax_H} {ls : Array Slot} (hSF : ax_SF G) (B : ax_BL l G X cX0_stopped 1 RX0 1 40) (Z : ax_Z X h0 ((some FieldType.int))) (hn : X.2.2.2.2.2.2.2.2.1.name = yX0_stopped.name) (x0 : Option Nat) {w : Int × ax_H} (hl : ax_hl ls 1 [(0, .inr (.inr x0))]) (e : f_X0_stopped G.2.2 x0 h = some w) (hp : (fun w : Int × ax_H => Q = ax_Q G X h0 w.2 (some (.int (Int32.ofInt w.1)))) w) : ax_W G X Q h 0 ls [] := by
  unfold f_X0_stopped at e
  refine ax_aload_n B dX0_stopped_0 rfl hl 0 rfl ?_
  refine ax_getI B ff_X0_64_0 (fun _ _ => rfl) dX0_stopped_1 e (fun v1 e => ?_)
  have e8 := e
  have hp : Q = _ := hp
  subst hp
  exact ax_ireturn B Z dX0_stopped_4 e8
theorem mt_X0_stopped (l : Launch) (G : ax_G) (hSF : ax_SF G) (x0 : Option Nat) (h : ax_H) (w : Int × ax_H) (e : f_X0_stopped G.2.2 x0 h = some w) : ax_Met l G yX0_stopped cX0_stopped 1 ((some FieldType.int)) 1 40 [va_rf x0] h w.2 (some (.int (Int32.ofInt w.1))) :=
  ax_enter [.inr (.inr x0)] (y := yX0_stopped) hSF (plainFor_of_name (by decide +kernel)) (Nat.le_of_ble_eq_true rfl) (fun X ls B Z hn hl => we_X0_stopped hSF B Z hn x0 hl e rfl)
def dkwX33_init_0 : List UInt8 := [42, 183, 0, 1, 42, 27, 133, 181, 0, 7, 177]
abbrev dktX33_init_0 : List UInt8 := dkwX33_init_0 ++ []
theorem dksX33_init_0 : cX33_init.data.toList.drop 0 = dktX33_init_0 := by decide +kernel
theorem dX33_init_0 : decode cX33_init 0 = .ok (.aload_n 0, 1) := dk_42 (dk_at dksX33_init_0 0 rfl rfl)
theorem dX33_init_1 : decode cX33_init 1 = .ok (.invokespecial 1, 3) := dk_183 0 1 (dk_at dksX33_init_0 1 rfl rfl)
theorem dX33_init_4 : decode cX33_init 4 = .ok (.aload_n 0, 1) := dk_42 (dk_at dksX33_init_0 4 rfl rfl)
theorem dX33_init_5 : decode cX33_init 5 = .ok (.iload_n 1, 1) := dk_27 (dk_at dksX33_init_0 5 rfl rfl)
theorem dX33_init_6 : decode cX33_init 6 = .ok (.i2l, 1) := dk_133 (dk_at dksX33_init_0 6 rfl rfl)
theorem dX33_init_7 : decode cX33_init 7 = .ok (.putfield 7, 3) := dk_181 0 7 (dk_at dksX33_init_0 7 rfl rfl)
theorem dX33_init_10 : decode cX33_init 10 = .ok (.return_, 1) := dk_177 (dk_at dksX33_init_0 10 rfl rfl)
noncomputable def f_X33_init (E : ax_E) (x0 : Option Nat) (x1 : Int) (h : ax_H) : Option (ax_H) :=
  x0.bind fun _ =>
  (ax_pI h x0 33 0 (i2 x1)).bind fun h1 =>
  some h1
set_option maxHeartbeats 4000000 in
theorem we_X33_init {l : Launch} {G : ax_G} {X : ax_X} {Q : State → Prop} {h0 h : ax_H} {ls : Array Slot} (hSF : ax_SF G) (B : ax_BL l G X cX33_init 2 RX33 1 40) (Z : ax_Z X h0 none) (hn : X.2.2.2.2.2.2.2.2.1.name = yX33_init.name) (x0 : Option Nat) (x1 : Int) {w : ax_H} (hl : ax_hl ls 2 [(0, .inr (.inr x0)), (1, .inl x1)]) (e : f_X33_init G.2.2 x0 x1 h = some w) (hp : (fun w : ax_H => Q = ax_Q G X h0 w none) w) : ax_W G X Q h 0 ls [] := by
  unfold f_X33_init at e
  refine ax_aload_n B dX33_init_0 rfl hl 0 rfl ?_
  refine ax_oiR B q1914 q183 q184 hl.size (by decide) (by decide) dX33_init_1 e (fun e => ?_)
  refine ax_aload_n B dX33_init_4 rfl hl 0 rfl ?_
  refine ax_iload_n B dX33_init_5 rfl hl 1 rfl ?_
  refine ax_i2l' B dX33_init_6 ?_
  refine ax_putL B ff_X33_7_33 (Or.inl rfl) rfl dX33_init_7 e (fun h1 e => ?_)
  have e8 := e
  have hp : Q = _ := hp
  subst hp
  exact ax_return B Z dX33_init_10 e8
theorem mt_X33_init (l : Launch) (G : ax_G) (hSF : ax_SF G) (x0 : Option Nat) (x1 : Int) (h : ax_H) (w : ax_H) (e : f_X33_init G.2.2 x0 x1 h = some w) : ax_Met l G yX33_init cX33_init 2 none 1 40 [va_rf x0, .int (Int32.ofInt x1)] h w none :=
  ax_enter [.inr (.inr x0), .inl x1] (y := yX33_init) hSF (plainFor_of_name (by decide +kernel)) (Nat.le_of_ble_eq_true rfl) (fun X ls B Z hn hl => we_X33_init hSF B Z hn x0 x1 hl e rfl)
def dkwX33_of_1 : List UInt8 := [27, 133, 113, 136, 172]
abbrev dktX33_of_1 : List UInt8 := dkwX33_of_1 ++ []
def dkwX33_of_0 : List UInt8 := [42, 42, 180, 0, 7, 20, 0, 13, 105, 20, 0, 15, 97, 20, 0, 17, 113, 181, 0, 7, 42, 180, 0, 7]
abbrev dktX33_of_0 : List UInt8 := dkwX33_of_0 ++ dktX33_of_1
theorem dksX33_of_0 : cX33_of.data.toList.drop 0 = dktX33_of_0 := by decide +kernel
theorem dksX33_of_1 : cX33_of.data.toList.drop 24 = dktX33_of_1 := dk_seg dksX33_of_0 24 rfl rfl
theorem dX33_of_0 : decode cX33_of 0 = .ok (.aload_n 0, 1) := dk_42 (dk_at dksX33_of_0 0 rfl rfl)
theorem dX33_of_1 : decode cX33_of 1 = .ok (.aload_n 0, 1) := dk_42 (dk_at dksX33_of_0 1 rfl rfl)
theorem dX33_of_2 : decode cX33_of 2 = .ok (.getfield 7, 3) := dk_180 0 7 (dk_at dksX33_of_0 2 rfl rfl)
theorem dX33_of_5 : decode cX33_of 5 = .ok (.ldc2_w 13, 3) := dk_20 0 13 (dk_at dksX33_of_0 5 rfl rfl)
theorem dX33_of_8 : decode cX33_of 8 = .ok (.lmul, 1) := dk_105 (dk_at dksX33_of_0 8 rfl rfl)
theorem dX33_of_9 : decode cX33_of 9 = .ok (.ldc2_w 15, 3) := dk_20 0 15 (dk_at dksX33_of_0 9 rfl rfl)
theorem dX33_of_12 : decode cX33_of 12 = .ok (.ladd, 1) := dk_97 (dk_at dksX33_of_0 12 rfl rfl)
theorem dX33_of_13 : decode cX33_of 13 = .ok (.ldc2_w 17, 3) := dk_20 0 17 (dk_at dksX33_of_0 13 rfl rfl)
theorem dX33_of_16 : decode cX33_of 16 = .ok (.lrem, 1) := dk_113 (dk_at dksX33_of_0 16 rfl rfl)
theorem dX33_of_17 : decode cX33_of 17 = .ok (.putfield 7, 3) := dk_181 0 7 (dk_at dksX33_of_0 17 rfl rfl)
theorem dX33_of_20 : decode cX33_of 20 = .ok (.aload_n 0, 1) := dk_42 (dk_at dksX33_of_0 20 rfl rfl)
theorem dX33_of_21 : decode cX33_of 21 = .ok (.getfield 7, 3) := dk_180 0 7 (dk_at dksX33_of_0 21 rfl rfl)
theorem dX33_of_24 : decode cX33_of 24 = .ok (.iload_n 1, 1) := dk_27 (dk_at dksX33_of_1 0 rfl rfl)
theorem dX33_of_25 : decode cX33_of 25 = .ok (.i2l, 1) := dk_133 (dk_at dksX33_of_1 1 rfl rfl)
theorem dX33_of_26 : decode cX33_of 26 = .ok (.lrem, 1) := dk_113 (dk_at dksX33_of_1 2 rfl rfl)
theorem dX33_of_27 : decode cX33_of 27 = .ok (.l2i, 1) := dk_136 (dk_at dksX33_of_1 3 rfl rfl)
theorem dX33_of_28 : decode cX33_of 28 = .ok (.ireturn, 1) := dk_172 (dk_at dksX33_of_1 4 rfl rfl)
noncomputable def f_X33_of (E : ax_E) (x0 : Option Nat) (x1 : Int) (h : ax_H) : Option (Int × ax_H) :=
  (ax_gI E h x0 33 0).bind fun v1 =>
  if l2 1000003 = 0 then none else
  (ax_pI h x0 33 0 ((l2 ((v1 * 1103) + 12345)).tmod (l2 1000003))).bind fun h2 =>
  (ax_gI E h2 x0 33 0).bind fun v3 =>
  if l2 (i2 x1) = 0 then none else
  some (((l2 v3).tmod (l2 (i2 x1))), h2)
set_option maxHeartbeats 4000000 in
theorem we_X33_of {l : Launch} {G : ax_G} {X : ax_X} {Q : State → Prop} {h0 h : ax_H} {ls : Array Slot} (hSF : ax_SF G) (B : ax_BL l G X cX33_of 2 RX33 1 40) (Z : ax_Z X h0 ((some FieldType.int))) (hn : X.2.2.2.2.2.2.2.2.1.name = yX33_of.name) (x0 : Option Nat) (x1 : Int) {w : Int × ax_H} (hl : ax_hl ls 2 [(0, .inr (.inr x0)), (1, .inl x1)]) (e : f_X33_of G.2.2 x0 x1 h = some w) (hp : (fun w : Int × ax_H => Q = ax_Q G X h0 w.2 (some (.int (Int32.ofInt w.1)))) w) : ax_W G X Q h 0 ls [] := by
  unfold f_X33_of at e
  refine ax_aload_n B dX33_of_0 rfl hl 0 rfl ?_
  refine ax_aload_n B dX33_of_1 rfl hl 0 rfl ?_
  refine ax_getL B ff_X33_7_33 (fun _ _ => rfl) dX33_of_2 e (fun v1 e => ?_)
  refine ax_ldc2 B cn_X33_13 dX33_of_5 ?_
  refine ax_lmul' B dX33_of_8 ?_
  refine ax_ldc2 B cn_X33_15 dX33_of_9 ?_
  refine ax_ladd' B dX33_of_12 ?_
  refine ax_ldc2 B cn_X33_17 dX33_of_13 ?_
  refine ax_lrem' B dX33_of_16 e (fun e => ?_)
  refine ax_putL B ff_X33_7_33 (Or.inl rfl) rfl dX33_of_17 e (fun h2 e => ?_)
  refine ax_aload_n B dX33_of_20 rfl hl 0 rfl ?_
  refine ax_getL B ff_X33_7_33 (fun _ _ => rfl) dX33_of_21 e (fun v3 e => ?_)
  refine ax_iload_n B dX33_of_24 rfl hl 1 rfl ?_
  refine ax_i2l' B dX33_of_25 ?_
  refine ax_lrem' B dX33_of_26 e (fun e => ?_)
  refine ax_l2i' B dX33_of_27 ?_
  have e8 := e
  have hp : Q = _ := hp
  subst hp
  exact ax_ireturn B Z dX33_of_28 e8
theorem mt_X33_of (l : Launch) (G : ax_G) (hSF : ax_SF G) (x0 : Option Nat) (x1 : Int) (h : ax_H) (w : Int × ax_H) (e : f_X33_of G.2.2 x0 x1 h = some w) : ax_Met l G yX33_of cX33_of 2 ((some FieldType.int)) 1 40 [va_rf x0, .int (Int32.ofInt x1)] h w.2 (some (.int (Int32.ofInt w.1))) :=
  ax_enter [.inr (.inr x0), .inl x1] (y := yX33_of) hSF (plainFor_of_name (by decide +kernel)) (Nat.le_of_ble_eq_true rfl) (fun X ls B Z hn hl => we_X33_of hSF B Z hn x0 x1 hl e rfl)
def dkwX0_month_14 : List UInt8 := [182, 0, 94, 172]
abbrev dktX0_month_14 : List UInt8 := dkwX0_month_14 ++ []
def dkwX0_month_13 : List UInt8 := [89, 5, 42, 25, 4, 21, 7, 182, 1, 28, 184, 1, 145, 79, 83, 132, 7, 1, 167, 255, 196, 42, 21, 5]
abbrev dktX0_month_13 : List UInt8 := dkwX0_month_13 ++ dktX0_month_14
def dkwX0_month_12 : List UInt8 := [6, 188, 10, 89, 3, 25, 4, 180, 0, 130, 21, 7, 46, 79, 89, 4, 25, 4, 21, 7, 182, 1, 174, 79]
abbrev dktX0_month_12 : List UInt8 := dkwX0_month_12 ++ dktX0_month_13
def dkwX0_month_11 : List UInt8 := [181, 1, 242, 3, 54, 7, 21, 7, 42, 180, 0, 20, 180, 0, 101, 162, 0, 54, 42, 180, 1, 242, 21, 7]
abbrev dktX0_month_11 : List UInt8 := dkwX0_month_11 ++ dktX0_month_12
def dkwX0_month_10 : List UInt8 := [25, 4, 182, 1, 69, 87, 132, 7, 1, 167, 255, 92, 42, 42, 180, 0, 20, 180, 0, 101, 189, 1, 241]
abbrev dktX0_month_10 : List UInt8 := dkwX0_month_10 ++ dktX0_month_11
def dkwX0_month_9 : List UInt8 := [25, 4, 180, 0, 194, 17, 3, 231, 162, 0, 7, 4, 167, 0, 4, 3, 54, 6, 21, 6, 153, 0, 10, 42]
abbrev dktX0_month_9 : List UInt8 := dkwX0_month_9 ++ dktX0_month_10
def dkwX0_month_8 : List UInt8 := [54, 11, 25, 4, 21, 11, 45, 42, 180, 0, 20, 180, 0, 101, 182, 1, 238, 17, 39, 15, 182, 1, 57, 87]
abbrev dktX0_month_8 : List UInt8 := dkwX0_month_8 ++ dktX0_month_9
def dkwX0_month_7 : List UInt8 := [21, 10, 184, 1, 50, 21, 5, 21, 10, 96, 54, 5, 45, 42, 180, 0, 20, 180, 0, 101, 182, 1, 238]
abbrev dktX0_month_7 : List UInt8 := dkwX0_month_7 ++ dktX0_month_8
def dkwX0_month_6 : List UInt8 := [21, 10, 182, 1, 43, 153, 0, 31, 25, 4, 180, 0, 107, 16, 16, 162, 0, 21, 25, 4, 21, 8, 21, 9]
abbrev dktX0_month_6 : List UInt8 := dkwX0_month_6 ++ dktX0_month_7
def dkwX0_month_5 : List UInt8 := [4, 45, 16, 50, 182, 1, 238, 96, 54, 10, 21, 8, 21, 9, 159, 0, 45, 25, 4, 21, 8, 21, 9]
abbrev dktX0_month_5 : List UInt8 := dkwX0_month_5 ++ dktX0_month_6
def dkwX0_month_4 : List UInt8 := [180, 0, 20, 180, 0, 101, 182, 1, 238, 54, 8, 45, 42, 180, 0, 20, 180, 0, 101, 182, 1, 238, 54, 9]
abbrev dktX0_month_4 : List UInt8 := dkwX0_month_4 ++ dktX0_month_5
def dkwX0_month_3 : List UInt8 := [58, 4, 3, 54, 5, 4, 54, 6, 3, 54, 7, 21, 7, 28, 162, 0, 164, 21, 6, 153, 0, 159, 45, 42]
abbrev dktX0_month_3 : List UInt8 := dkwX0_month_3 ++ dktX0_month_4
def dkwX0_month_2 : List UInt8 := [187, 1, 234, 89, 27, 183, 1, 236, 78, 187, 0, 71, 89, 183, 0, 73, 42, 182, 0, 104, 182, 1, 36]
abbrev dktX0_month_2 : List UInt8 := dkwX0_month_2 ++ dktX0_month_3
def dkwX0_month_1 : List UInt8 := [42, 2, 182, 0, 94, 172, 42, 180, 0, 20, 180, 0, 101, 154, 0, 10, 42, 16, 253, 182, 0, 94, 172]
abbrev dktX0_month_1 : List UInt8 := dkwX0_month_1 ++ dktX0_month_2
def dkwX0_month_0 : List UInt8 := [27, 133, 9, 20, 1, 230, 184, 0, 5, 153, 0, 15, 28, 133, 10, 20, 1, 232, 184, 0, 5, 154, 0, 9]
abbrev dktX0_month_0 : List UInt8 := dkwX0_month_0 ++ dktX0_month_1
theorem dksX0_month_0 : cX0_month.data.toList.drop 0 = dktX0_month_0 := by decide +kernel
theorem dksX0_month_1 : cX0_month.data.toList.drop 24 = dktX0_month_1 := dk_seg dksX0_month_0 24 rfl rfl
theorem dksX0_month_2 : cX0_month.data.toList.drop 47 = dktX0_month_2 := dk_seg dksX0_month_1 23 rfl rfl
theorem dksX0_month_3 : cX0_month.data.toList.drop 70 = dktX0_month_3 := dk_seg dksX0_month_2 23 rfl rfl
theorem dksX0_month_4 : cX0_month.data.toList.drop 94 = dktX0_month_4 := dk_seg dksX0_month_3 24 rfl rfl
theorem dksX0_month_5 : cX0_month.data.toList.drop 118 = dktX0_month_5 := dk_seg dksX0_month_4 24 rfl rfl
theorem dksX0_month_6 : cX0_month.data.toList.drop 141 = dktX0_month_6 := dk_seg dksX0_month_5 23 rfl rfl
theorem dksX0_month_7 : cX0_month.data.toList.drop 165 = dktX0_month_7 := dk_seg dksX0_month_6 24 rfl rfl
theorem dksX0_month_8 : cX0_month.data.toList.drop 188 = dktX0_month_8 := dk_seg dksX0_month_7 23 rfl rfl
theorem dksX0_month_9 : cX0_month.data.toList.drop 212 = dktX0_month_9 := dk_seg dksX0_month_8 24 rfl rfl
theorem dksX0_month_10 : cX0_month.data.toList.drop 236 = dktX0_month_10 := dk_seg dksX0_month_9 24 rfl rfl
theorem dksX0_month_11 : cX0_month.data.toList.drop 259 = dktX0_month_11 := dk_seg dksX0_month_10 23 rfl rfl
theorem dksX0_month_12 : cX0_month.data.toList.drop 283 = dktX0_month_12 := dk_seg dksX0_month_11 24 rfl rfl
theorem dksX0_month_13 : cX0_month.data.toList.drop 307 = dktX0_month_13 := dk_seg dksX0_month_12 24 rfl rfl
theorem dksX0_month_14 : cX0_month.data.toList.drop 331 = dktX0_month_14 := dk_seg dksX0_month_13 24 rfl rfl
theorem dX0_month_0 : decode cX0_month 0 = .ok (.iload_n 1, 1) := dk_27 (dk_at dksX0_month_0 0 rfl rfl)
theorem dX0_month_1 : decode cX0_month 1 = .ok (.i2l, 1) := dk_133 (dk_at dksX0_month_0 1 rfl rfl)
theorem dX0_month_2 : decode cX0_month 2 = .ok (.lconst 0, 1) := dk_9 (dk_at dksX0_month_0 2 rfl rfl)
theorem dX0_month_3 : decode cX0_month 3 = .ok (.ldc2_w 486, 3) := dk_20 1 230 (dk_at dksX0_month_0 3 rfl rfl)
theorem dX0_month_6 : decode cX0_month 6 = .ok (.invokestatic 5, 3) := dk_184 0 5 (dk_at dksX0_month_0 6 rfl rfl)
theorem dX0_month_9 : decode cX0_month 9 = .ok (.ifCond .eq 15, 3) := dk_153 0 15 (dk_at dksX0_month_0 9 rfl rfl)
theorem dX0_month_12 : decode cX0_month 12 = .ok (.iload_n 2, 1) := dk_28 (dk_at dksX0_month_0 12 rfl rfl)
theorem dX0_month_13 : decode cX0_month 13 = .ok (.i2l, 1) := dk_133 (dk_at dksX0_month_0 13 rfl rfl)
theorem dX0_month_14 : decode cX0_month 14 = .ok (.lconst 1, 1) := dk_10 (dk_at dksX0_month_0 14 rfl rfl)
theorem dX0_month_15 : decode cX0_month 15 = .ok (.ldc2_w 488, 3) := dk_20 1 232 (dk_at dksX0_month_0 15 rfl rfl)
theorem dX0_month_18 : decode cX0_month 18 = .ok (.invokestatic 5, 3) := dk_184 0 5 (dk_at dksX0_month_0 18 rfl rfl)
theorem dX0_month_21 : decode cX0_month 21 = .ok (.ifCond .ne 9, 3) := dk_154 0 9 (dk_at dksX0_month_0 21 rfl rfl)
theorem dX0_month_24 : decode cX0_month 24 = .ok (.aload_n 0, 1) := dk_42 (dk_at dksX0_month_1 0 rfl rfl)
theorem dX0_month_25 : decode cX0_month 25 = .ok (.iconst (-1), 1) := dk_2 (dk_at dksX0_month_1 1 rfl rfl)
theorem dX0_month_26 : decode cX0_month 26 = .ok (.invokevirtual 94, 3) := dk_182 0 94 (dk_at dksX0_month_1 2 rfl rfl)
theorem dX0_month_29 : decode cX0_month 29 = .ok (.ireturn, 1) := dk_172 (dk_at dksX0_month_1 5 rfl rfl)
theorem dX0_month_30 : decode cX0_month 30 = .ok (.aload_n 0, 1) := dk_42 (dk_at dksX0_month_1 6 rfl rfl)
theorem dX0_month_31 : decode cX0_month 31 = .ok (.getfield 20, 3) := dk_180 0 20 (dk_at dksX0_month_1 7 rfl rfl)
theorem dX0_month_34 : decode cX0_month 34 = .ok (.getfield 101, 3) := dk_180 0 101 (dk_at dksX0_month_1 10 rfl rfl)
theorem dX0_month_37 : decode cX0_month 37 = .ok (.ifCond .ne 10, 3) := dk_154 0 10 (dk_at dksX0_month_1 13 rfl rfl)
theorem dX0_month_40 : decode cX0_month 40 = .ok (.aload_n 0, 1) := dk_42 (dk_at dksX0_month_1 16 rfl rfl)
theorem dX0_month_41 : decode cX0_month 41 = .ok (.bipush (-3), 2) := dk_16 253 (dk_at dksX0_month_1 17 rfl rfl)
theorem dX0_month_43 : decode cX0_month 43 = .ok (.invokevirtual 94, 3) := dk_182 0 94 (dk_at dksX0_month_1 19 rfl rfl)
theorem dX0_month_46 : decode cX0_month 46 = .ok (.ireturn, 1) := dk_172 (dk_at dksX0_month_1 22 rfl rfl)
theorem dX0_month_47 : decode cX0_month 47 = .ok (.new 490, 3) := dk_187 1 234 (dk_at dksX0_month_2 0 rfl rfl)
theorem dX0_month_50 : decode cX0_month 50 = .ok (.dup, 1) := dk_89 (dk_at dksX0_month_2 3 rfl rfl)
theorem dX0_month_51 : decode cX0_month 51 = .ok (.iload_n 1, 1) := dk_27 (dk_at dksX0_month_2 4 rfl rfl)
theorem dX0_month_52 : decode cX0_month 52 = .ok (.invokespecial 492, 3) := dk_183 1 236 (dk_at dksX0_month_2 5 rfl rfl)
theorem dX0_month_55 : decode cX0_month 55 = .ok (.astore_n 3, 1) := dk_78 (dk_at dksX0_month_2 8 rfl rfl)
theorem dX0_month_56 : decode cX0_month 56 = .ok (.new 71, 3) := dk_187 0 71 (dk_at dksX0_month_2 9 rfl rfl)
theorem dX0_month_59 : decode cX0_month 59 = .ok (.dup, 1) := dk_89 (dk_at dksX0_month_2 12 rfl rfl)
theorem dX0_month_60 : decode cX0_month 60 = .ok (.invokespecial 73, 3) := dk_183 0 73 (dk_at dksX0_month_2 13 rfl rfl)
theorem dX0_month_63 : decode cX0_month 63 = .ok (.aload_n 0, 1) := dk_42 (dk_at dksX0_month_2 16 rfl rfl)
theorem dX0_month_64 : decode cX0_month 64 = .ok (.invokevirtual 104, 3) := dk_182 0 104 (dk_at dksX0_month_2 17 rfl rfl)
theorem dX0_month_67 : decode cX0_month 67 = .ok (.invokevirtual 292, 3) := dk_182 1 36 (dk_at dksX0_month_2 20 rfl rfl)
theorem dX0_month_70 : decode cX0_month 70 = .ok (.astore 4, 2) := dk_58 4 (dk_at dksX0_month_3 0 rfl rfl)
theorem dX0_month_72 : decode cX0_month 72 = .ok (.iconst 0, 1) := dk_3 (dk_at dksX0_month_3 2 rfl rfl)
theorem dX0_month_73 : decode cX0_month 73 = .ok (.istore 5, 2) := dk_54 5 (dk_at dksX0_month_3 3 rfl rfl)
theorem dX0_month_75 : decode cX0_month 75 = .ok (.iconst 1, 1) := dk_4 (dk_at dksX0_month_3 5 rfl rfl)
theorem dX0_month_76 : decode cX0_month 76 = .ok (.istore 6, 2) := dk_54 6 (dk_at dksX0_month_3 6 rfl rfl)
theorem dX0_month_78 : decode cX0_month 78 = .ok (.iconst 0, 1) := dk_3 (dk_at dksX0_month_3 8 rfl rfl)
theorem dX0_month_79 : decode cX0_month 79 = .ok (.istore 7, 2) := dk_54 7 (dk_at dksX0_month_3 9 rfl rfl)
theorem dX0_month_81 : decode cX0_month 81 = .ok (.iload 7, 2) := dk_21 7 (dk_at dksX0_month_3 11 rfl rfl)
theorem dX0_month_83 : decode cX0_month 83 = .ok (.iload_n 2, 1) := dk_28 (dk_at dksX0_month_3 13 rfl rfl)
theorem dX0_month_84 : decode cX0_month 84 = .ok (.if_icmp .ge 164, 3) := dk_162 0 164 (dk_at dksX0_month_3 14 rfl rfl)
theorem dX0_month_87 : decode cX0_month 87 = .ok (.iload 6, 2) := dk_21 6 (dk_at dksX0_month_3 17 rfl rfl)
theorem dX0_month_89 : decode cX0_month 89 = .ok (.ifCond .eq 159, 3) := dk_153 0 159 (dk_at dksX0_month_3 19 rfl rfl)
theorem dX0_month_92 : decode cX0_month 92 = .ok (.aload_n 3, 1) := dk_45 (dk_at dksX0_month_3 22 rfl rfl)
theorem dX0_month_93 : decode cX0_month 93 = .ok (.aload_n 0, 1) := dk_42 (dk_at dksX0_month_3 23 rfl rfl)
theorem dX0_month_94 : decode cX0_month 94 = .ok (.getfield 20, 3) := dk_180 0 20 (dk_at dksX0_month_4 0 rfl rfl)
theorem dX0_month_97 : decode cX0_month 97 = .ok (.getfield 101, 3) := dk_180 0 101 (dk_at dksX0_month_4 3 rfl rfl)
theorem dX0_month_100 : decode cX0_month 100 = .ok (.invokevirtual 494, 3) := dk_182 1 238 (dk_at dksX0_month_4 6 rfl rfl)
theorem dX0_month_103 : decode cX0_month 103 = .ok (.istore 8, 2) := dk_54 8 (dk_at dksX0_month_4 9 rfl rfl)
theorem dX0_month_105 : decode cX0_month 105 = .ok (.aload_n 3, 1) := dk_45 (dk_at dksX0_month_4 11 rfl rfl)
theorem dX0_month_106 : decode cX0_month 106 = .ok (.aload_n 0, 1) := dk_42 (dk_at dksX0_month_4 12 rfl rfl)
theorem dX0_month_107 : decode cX0_month 107 = .ok (.getfield 20, 3) := dk_180 0 20 (dk_at dksX0_month_4 13 rfl rfl)
theorem dX0_month_110 : decode cX0_month 110 = .ok (.getfield 101, 3) := dk_180 0 101 (dk_at dksX0_month_4 16 rfl rfl)
theorem dX0_month_113 : decode cX0_month 113 = .ok (.invokevirtual 494, 3) := dk_182 1 238 (dk_at dksX0_month_4 19 rfl rfl)
theorem dX0_month_116 : decode cX0_month 116 = .ok (.istore 9, 2) := dk_54 9 (dk_at dksX0_month_4 22 rfl rfl)
theorem dX0_month_118 : decode cX0_month 118 = .ok (.iconst 1, 1) := dk_4 (dk_at dksX0_month_5 0 rfl rfl)
theorem dX0_month_119 : decode cX0_month 119 = .ok (.aload_n 3, 1) := dk_45 (dk_at dksX0_month_5 1 rfl rfl)
theorem dX0_month_120 : decode cX0_month 120 = .ok (.bipush 50, 2) := dk_16 50 (dk_at dksX0_month_5 2 rfl rfl)
theorem dX0_month_122 : decode cX0_month 122 = .ok (.invokevirtual 494, 3) := dk_182 1 238 (dk_at dksX0_month_5 4 rfl rfl)
theorem dX0_month_125 : decode cX0_month 125 = .ok (.iadd, 1) := dk_96 (dk_at dksX0_month_5 7 rfl rfl)
theorem dX0_month_126 : decode cX0_month 126 = .ok (.istore 10, 2) := dk_54 10 (dk_at dksX0_month_5 8 rfl rfl)
theorem dX0_month_128 : decode cX0_month 128 = .ok (.iload 8, 2) := dk_21 8 (dk_at dksX0_month_5 10 rfl rfl)
theorem dX0_month_130 : decode cX0_month 130 = .ok (.iload 9, 2) := dk_21 9 (dk_at dksX0_month_5 12 rfl rfl)
theorem dX0_month_132 : decode cX0_month 132 = .ok (.if_icmp .eq 45, 3) := dk_159 0 45 (dk_at dksX0_month_5 14 rfl rfl)
theorem dX0_month_135 : decode cX0_month 135 = .ok (.aload 4, 2) := dk_25 4 (dk_at dksX0_month_5 17 rfl rfl)
theorem dX0_month_137 : decode cX0_month 137 = .ok (.iload 8, 2) := dk_21 8 (dk_at dksX0_month_5 19 rfl rfl)
theorem dX0_month_139 : decode cX0_month 139 = .ok (.iload 9, 2) := dk_21 9 (dk_at dksX0_month_5 21 rfl rfl)
theorem dX0_month_141 : decode cX0_month 141 = .ok (.iload 10, 2) := dk_21 10 (dk_at dksX0_month_6 0 rfl rfl)
theorem dX0_month_143 : decode cX0_month 143 = .ok (.invokevirtual 299, 3) := dk_182 1 43 (dk_at dksX0_month_6 2 rfl rfl)
theorem dX0_month_146 : decode cX0_month 146 = .ok (.ifCond .eq 31, 3) := dk_153 0 31 (dk_at dksX0_month_6 5 rfl rfl)
theorem dX0_month_149 : decode cX0_month 149 = .ok (.aload 4, 2) := dk_25 4 (dk_at dksX0_month_6 8 rfl rfl)
theorem dX0_month_151 : decode cX0_month 151 = .ok (.getfield 107, 3) := dk_180 0 107 (dk_at dksX0_month_6 10 rfl rfl)
theorem dX0_month_154 : decode cX0_month 154 = .ok (.bipush 16, 2) := dk_16 16 (dk_at dksX0_month_6 13 rfl rfl)
theorem dX0_month_156 : decode cX0_month 156 = .ok (.if_icmp .ge 21, 3) := dk_162 0 21 (dk_at dksX0_month_6 15 rfl rfl)
theorem dX0_month_159 : decode cX0_month 159 = .ok (.aload 4, 2) := dk_25 4 (dk_at dksX0_month_6 18 rfl rfl)
theorem dX0_month_161 : decode cX0_month 161 = .ok (.iload 8, 2) := dk_21 8 (dk_at dksX0_month_6 20 rfl rfl)
theorem dX0_month_163 : decode cX0_month 163 = .ok (.iload 9, 2) := dk_21 9 (dk_at dksX0_month_6 22 rfl rfl)
theorem dX0_month_165 : decode cX0_month 165 = .ok (.iload 10, 2) := dk_21 10 (dk_at dksX0_month_7 0 rfl rfl)
theorem dX0_month_167 : decode cX0_month 167 = .ok (.invokestatic 306, 3) := dk_184 1 50 (dk_at dksX0_month_7 2 rfl rfl)
theorem dX0_month_170 : decode cX0_month 170 = .ok (.iload 5, 2) := dk_21 5 (dk_at dksX0_month_7 5 rfl rfl)
theorem dX0_month_172 : decode cX0_month 172 = .ok (.iload 10, 2) := dk_21 10 (dk_at dksX0_month_7 7 rfl rfl)
theorem dX0_month_174 : decode cX0_month 174 = .ok (.iadd, 1) := dk_96 (dk_at dksX0_month_7 9 rfl rfl)
theorem dX0_month_175 : decode cX0_month 175 = .ok (.istore 5, 2) := dk_54 5 (dk_at dksX0_month_7 10 rfl rfl)
theorem dX0_month_177 : decode cX0_month 177 = .ok (.aload_n 3, 1) := dk_45 (dk_at dksX0_month_7 12 rfl rfl)
theorem dX0_month_178 : decode cX0_month 178 = .ok (.aload_n 0, 1) := dk_42 (dk_at dksX0_month_7 13 rfl rfl)
theorem dX0_month_179 : decode cX0_month 179 = .ok (.getfield 20, 3) := dk_180 0 20 (dk_at dksX0_month_7 14 rfl rfl)
theorem dX0_month_182 : decode cX0_month 182 = .ok (.getfield 101, 3) := dk_180 0 101 (dk_at dksX0_month_7 17 rfl rfl)
theorem dX0_month_185 : decode cX0_month 185 = .ok (.invokevirtual 494, 3) := dk_182 1 238 (dk_at dksX0_month_7 20 rfl rfl)
theorem dX0_month_188 : decode cX0_month 188 = .ok (.istore 11, 2) := dk_54 11 (dk_at dksX0_month_8 0 rfl rfl)
theorem dX0_month_190 : decode cX0_month 190 = .ok (.aload 4, 2) := dk_25 4 (dk_at dksX0_month_8 2 rfl rfl)
theorem dX0_month_192 : decode cX0_month 192 = .ok (.iload 11, 2) := dk_21 11 (dk_at dksX0_month_8 4 rfl rfl)
theorem dX0_month_194 : decode cX0_month 194 = .ok (.aload_n 3, 1) := dk_45 (dk_at dksX0_month_8 6 rfl rfl)
theorem dX0_month_195 : decode cX0_month 195 = .ok (.aload_n 0, 1) := dk_42 (dk_at dksX0_month_8 7 rfl rfl)
theorem dX0_month_196 : decode cX0_month 196 = .ok (.getfield 20, 3) := dk_180 0 20 (dk_at dksX0_month_8 8 rfl rfl)
theorem dX0_month_199 : decode cX0_month 199 = .ok (.getfield 101, 3) := dk_180 0 101 (dk_at dksX0_month_8 11 rfl rfl)
theorem dX0_month_202 : decode cX0_month 202 = .ok (.invokevirtual 494, 3) := dk_182 1 238 (dk_at dksX0_month_8 14 rfl rfl)
theorem dX0_month_205 : decode cX0_month 205 = .ok (.sipush 9999, 3) := dk_17 39 15 (dk_at dksX0_month_8 17 rfl rfl)
theorem dX0_month_208 : decode cX0_month 208 = .ok (.invokevirtual 313, 3) := dk_182 1 57 (dk_at dksX0_month_8 20 rfl rfl)
theorem dX0_month_211 : decode cX0_month 211 = .ok (.pop, 1) := dk_87 (dk_at dksX0_month_8 23 rfl rfl)
theorem dX0_month_212 : decode cX0_month 212 = .ok (.aload 4, 2) := dk_25 4 (dk_at dksX0_month_9 0 rfl rfl)
theorem dX0_month_214 : decode cX0_month 214 = .ok (.getfield 194, 3) := dk_180 0 194 (dk_at dksX0_month_9 2 rfl rfl)
theorem dX0_month_217 : decode cX0_month 217 = .ok (.sipush 999, 3) := dk_17 3 231 (dk_at dksX0_month_9 5 rfl rfl)
theorem dX0_month_220 : decode cX0_month 220 = .ok (.if_icmp .ge 7, 3) := dk_162 0 7 (dk_at dksX0_month_9 8 rfl rfl)
theorem dX0_month_223 : decode cX0_month 223 = .ok (.iconst 1, 1) := dk_4 (dk_at dksX0_month_9 11 rfl rfl)
theorem dX0_month_224 : decode cX0_month 224 = .ok (.goto 4, 3) := dk_167 0 4 (dk_at dksX0_month_9 12 rfl rfl)
theorem dX0_month_227 : decode cX0_month 227 = .ok (.iconst 0, 1) := dk_3 (dk_at dksX0_month_9 15 rfl rfl)
theorem dX0_month_228 : decode cX0_month 228 = .ok (.istore 6, 2) := dk_54 6 (dk_at dksX0_month_9 16 rfl rfl)
theorem dX0_month_230 : decode cX0_month 230 = .ok (.iload 6, 2) := dk_21 6 (dk_at dksX0_month_9 18 rfl rfl)
theorem dX0_month_232 : decode cX0_month 232 = .ok (.ifCond .eq 10, 3) := dk_153 0 10 (dk_at dksX0_month_9 20 rfl rfl)
theorem dX0_month_235 : decode cX0_month 235 = .ok (.aload_n 0, 1) := dk_42 (dk_at dksX0_month_9 23 rfl rfl)
theorem dX0_month_236 : decode cX0_month 236 = .ok (.aload 4, 2) := dk_25 4 (dk_at dksX0_month_10 0 rfl rfl)
theorem dX0_month_238 : decode cX0_month 238 = .ok (.invokevirtual 325, 3) := dk_182 1 69 (dk_at dksX0_month_10 2 rfl rfl)
theorem dX0_month_241 : decode cX0_month 241 = .ok (.pop, 1) := dk_87 (dk_at dksX0_month_10 5 rfl rfl)
theorem dX0_month_242 : decode cX0_month 242 = .ok (.iinc 7 1, 3) := dk_132 7 1 (dk_at dksX0_month_10 6 rfl rfl)
theorem dX0_month_245 : decode cX0_month 245 = .ok (.goto (-164), 3) := dk_167 255 92 (dk_at dksX0_month_10 9 rfl rfl)
theorem dX0_month_248 : decode cX0_month 248 = .ok (.aload_n 0, 1) := dk_42 (dk_at dksX0_month_10 12 rfl rfl)
theorem dX0_month_249 : decode cX0_month 249 = .ok (.aload_n 0, 1) := dk_42 (dk_at dksX0_month_10 13 rfl rfl)
theorem dX0_month_250 : decode cX0_month 250 = .ok (.getfield 20, 3) := dk_180 0 20 (dk_at dksX0_month_10 14 rfl rfl)
theorem dX0_month_253 : decode cX0_month 253 = .ok (.getfield 101, 3) := dk_180 0 101 (dk_at dksX0_month_10 17 rfl rfl)
theorem dX0_month_256 : decode cX0_month 256 = .ok (.anewarray 497, 3) := dk_189 1 241 (dk_at dksX0_month_10 20 rfl rfl)
theorem dX0_month_259 : decode cX0_month 259 = .ok (.putfield 498, 3) := dk_181 1 242 (dk_at dksX0_month_11 0 rfl rfl)
theorem dX0_month_262 : decode cX0_month 262 = .ok (.iconst 0, 1) := dk_3 (dk_at dksX0_month_11 3 rfl rfl)
theorem dX0_month_263 : decode cX0_month 263 = .ok (.istore 7, 2) := dk_54 7 (dk_at dksX0_month_11 4 rfl rfl)
theorem dX0_month_265 : decode cX0_month 265 = .ok (.iload 7, 2) := dk_21 7 (dk_at dksX0_month_11 6 rfl rfl)
theorem dX0_month_267 : decode cX0_month 267 = .ok (.aload_n 0, 1) := dk_42 (dk_at dksX0_month_11 8 rfl rfl)
theorem dX0_month_268 : decode cX0_month 268 = .ok (.getfield 20, 3) := dk_180 0 20 (dk_at dksX0_month_11 9 rfl rfl)
theorem dX0_month_271 : decode cX0_month 271 = .ok (.getfield 101, 3) := dk_180 0 101 (dk_at dksX0_month_11 12 rfl rfl)
theorem dX0_month_274 : decode cX0_month 274 = .ok (.if_icmp .ge 54, 3) := dk_162 0 54 (dk_at dksX0_month_11 15 rfl rfl)
theorem dX0_month_277 : decode cX0_month 277 = .ok (.aload_n 0, 1) := dk_42 (dk_at dksX0_month_11 18 rfl rfl)
theorem dX0_month_278 : decode cX0_month 278 = .ok (.getfield 498, 3) := dk_180 1 242 (dk_at dksX0_month_11 19 rfl rfl)
theorem dX0_month_281 : decode cX0_month 281 = .ok (.iload 7, 2) := dk_21 7 (dk_at dksX0_month_11 22 rfl rfl)
theorem dX0_month_283 : decode cX0_month 283 = .ok (.iconst 3, 1) := dk_6 (dk_at dksX0_month_12 0 rfl rfl)
theorem dX0_month_284 : decode cX0_month 284 = .ok (.newarray .int, 2) := dk_188_10 (dk_at dksX0_month_12 1 rfl rfl)
theorem dX0_month_286 : decode cX0_month 286 = .ok (.dup, 1) := dk_89 (dk_at dksX0_month_12 3 rfl rfl)
theorem dX0_month_287 : decode cX0_month 287 = .ok (.iconst 0, 1) := dk_3 (dk_at dksX0_month_12 4 rfl rfl)
theorem dX0_month_288 : decode cX0_month 288 = .ok (.aload 4, 2) := dk_25 4 (dk_at dksX0_month_12 5 rfl rfl)
theorem dX0_month_290 : decode cX0_month 290 = .ok (.getfield 130, 3) := dk_180 0 130 (dk_at dksX0_month_12 7 rfl rfl)
theorem dX0_month_293 : decode cX0_month 293 = .ok (.iload 7, 2) := dk_21 7 (dk_at dksX0_month_12 10 rfl rfl)
theorem dX0_month_295 : decode cX0_month 295 = .ok (.iaload, 1) := dk_46 (dk_at dksX0_month_12 12 rfl rfl)
theorem dX0_month_296 : decode cX0_month 296 = .ok (.iastore, 1) := dk_79 (dk_at dksX0_month_12 13 rfl rfl)
theorem dX0_month_297 : decode cX0_month 297 = .ok (.dup, 1) := dk_89 (dk_at dksX0_month_12 14 rfl rfl)
theorem dX0_month_298 : decode cX0_month 298 = .ok (.iconst 1, 1) := dk_4 (dk_at dksX0_month_12 15 rfl rfl)
theorem dX0_month_299 : decode cX0_month 299 = .ok (.aload 4, 2) := dk_25 4 (dk_at dksX0_month_12 16 rfl rfl)
theorem dX0_month_301 : decode cX0_month 301 = .ok (.iload 7, 2) := dk_21 7 (dk_at dksX0_month_12 18 rfl rfl)
theorem dX0_month_303 : decode cX0_month 303 = .ok (.invokevirtual 430, 3) := dk_182 1 174 (dk_at dksX0_month_12 20 rfl rfl)
theorem dX0_month_306 : decode cX0_month 306 = .ok (.iastore, 1) := dk_79 (dk_at dksX0_month_12 23 rfl rfl)
theorem dX0_month_307 : decode cX0_month 307 = .ok (.dup, 1) := dk_89 (dk_at dksX0_month_13 0 rfl rfl)
theorem dX0_month_308 : decode cX0_month 308 = .ok (.iconst 2, 1) := dk_5 (dk_at dksX0_month_13 1 rfl rfl)
theorem dX0_month_309 : decode cX0_month 309 = .ok (.aload_n 0, 1) := dk_42 (dk_at dksX0_month_13 2 rfl rfl)
theorem dX0_month_310 : decode cX0_month 310 = .ok (.aload 4, 2) := dk_25 4 (dk_at dksX0_month_13 3 rfl rfl)
theorem dX0_month_312 : decode cX0_month 312 = .ok (.iload 7, 2) := dk_21 7 (dk_at dksX0_month_13 5 rfl rfl)
theorem dX0_month_314 : decode cX0_month 314 = .ok (.invokevirtual 284, 3) := dk_182 1 28 (dk_at dksX0_month_13 7 rfl rfl)
theorem dX0_month_317 : decode cX0_month 317 = .ok (.invokestatic 401, 3) := dk_184 1 145 (dk_at dksX0_month_13 10 rfl rfl)
theorem dX0_month_320 : decode cX0_month 320 = .ok (.iastore, 1) := dk_79 (dk_at dksX0_month_13 13 rfl rfl)
theorem dX0_month_321 : decode cX0_month 321 = .ok (.aastore, 1) := dk_83 (dk_at dksX0_month_13 14 rfl rfl)
theorem dX0_month_322 : decode cX0_month 322 = .ok (.iinc 7 1, 3) := dk_132 7 1 (dk_at dksX0_month_13 15 rfl rfl)
theorem dX0_month_325 : decode cX0_month 325 = .ok (.goto (-60), 3) := dk_167 255 196 (dk_at dksX0_month_13 18 rfl rfl)
theorem dX0_month_328 : decode cX0_month 328 = .ok (.aload_n 0, 1) := dk_42 (dk_at dksX0_month_13 21 rfl rfl)
theorem dX0_month_329 : decode cX0_month 329 = .ok (.iload 5, 2) := dk_21 5 (dk_at dksX0_month_13 22 rfl rfl)
theorem dX0_month_331 : decode cX0_month 331 = .ok (.invokevirtual 94, 3) := dk_182 0 94 (dk_at dksX0_month_14 0 rfl rfl)
theorem dX0_month_334 : decode cX0_month 334 = .ok (.ireturn, 1) := dk_172 (dk_at dksX0_month_14 3 rfl rfl)
noncomputable def f_X0_month_24 (E : ax_E) (x0 : Option Nat) (h : ax_H) : Option (Int × ax_H) :=
  (ax_ce E h x0 0).bind fun _ => (f_X0_tell E x0 (-1) h).bind fun q1 =>
  some (q1.1, q1.2)
noncomputable def f_X0_month_242 (E : ax_E) (x0 : Option Nat) (x2 : Int) (x3 : Option Nat) (x4 : Option Nat) (x5 : Int) (x6 : Int) (x7 : Int) (h : ax_H) : Option ((Int × Int × Int × ax_H) ⊕ (Int × ax_H)) :=
  some (.inl (x5, x6, (x7 + 1), h))
noncomputable def f_X0_month_228 (E : ax_E) (x0 : Option Nat) (x2 : Int) (x3 : Option Nat) (x4 : Option Nat) (x5 : Int) (x7 : Int) (s0 : Int) (h : ax_H) : Option ((Int × Int × Int × ax_H) ⊕ (Int × ax_H)) :=
  if i2 s0 = 0 then
    f_X0_month_242 E x0 x2 x3 x4 x5 s0 x7 h
  else
    (ax_ce E h x0 0).bind fun _ => (f_X0_waitIn E x0 x4 h).bind fun q1 =>
    f_X0_month_242 E x0 x2 x3 x4 x5 s0 x7 q1.2
noncomputable def f_X0_month_177 (E : ax_E) (x0 : Option Nat) (x2 : Int) (x3 : Option Nat) (x4 : Option Nat) (x5 : Int) (x7 : Int) (h : ax_H) : Option ((Int × Int × Int × ax_H) ⊕ (Int × ax_H)) :=
  (ax_gR E h x0 0 0).bind fun v1 =>
  (ax_gI E h v1 1 6).bind fun v2 =>
  (ax_ce E h x3 33).bind fun _ => (f_X33_of E x3 v2 h).bind fun q3 =>
  (ax_gR E q3.2 x0 0 0).bind fun v4 =>
  (ax_gI E q3.2 v4 1 6).bind fun v5 =>
  (ax_ce E q3.2 x3 33).bind fun _ => (f_X33_of E x3 v5 q3.2).bind fun q6 =>
  (ax_ce E q6.2 x4 2).bind fun _ => (f_X2_repay E x4 q3.1 q6.1 9999 q6.2).bind fun q7 =>
  (ax_gI E q7.2 x4 2 6).bind fun v8 =>
  if i2 v8 < i2 999 then
    f_X0_month_228 E x0 x2 x3 x4 x5 x7 1 q7.2
  else
    f_X0_month_228 E x0 x2 x3 x4 x5 x7 0 q7.2
noncomputable def lb_X0_month_265 (E : ax_E) (x0 : Option Nat) (x4 : Option Nat) (x5 : Int) (x7 : Int) (h : ax_H) : Option ((Int × ax_H) ⊕ (Int × ax_H)) :=
  (ax_gR E h x0 0 0).bind fun v1 =>
  (ax_gI E h v1 1 6).bind fun v2 =>
  if i2 x7 < i2 v2 then
    (ax_gR E h x0 0 17).bind fun v3 =>
    (ax_na E h 100 3).bind fun q4 =>
    (ax_gR E q4.2 x4 2 0).bind fun v5 =>
    (ax_ld E q4.2 v5 100 x7).bind fun v6 =>
    (ax_sto q4.2 (some q4.1) 100 0 v6).bind fun h7 =>
    (ax_ce E h7 x4 2).bind fun _ => (f_X2_balance E x4 x7 h7).bind fun q8 =>
    (ax_sto q8.2 (some q4.1) 100 1 q8.1).bind fun h9 =>
    (ax_ce E h9 x0 0).bind fun _ => (f_X0_doorsOf E x0 x4 x7 h9).bind fun q10 =>
    (f_J16_bitCount E q10.1 q10.2).bind fun q11 =>
    (ax_sto q11.2 (some q4.1) 100 2 q11.1).bind fun h12 =>
    (ax_stR E ax_ok1 h12 v3 111 x7 (some q4.1)).bind fun h13 =>
    some (.inl ((x7 + 1), h13))
  else
    ((ax_ce E h x0 0).bind fun _ => (f_X0_tell E x0 x5 h).bind fun q14 =>
    some (q14.1, q14.2)).map Sum.inr
noncomputable def f_X0_month_265 (E : ax_E) (x0 : Option Nat) (x4 : Option Nat) (x5 : Int) (x7 : Int) (h : ax_H) : Option (Int × ax_H) :=
  ax_iter (fun s : Int × ax_H => lb_X0_month_265 E x0 x4 x5 s.1 s.2) (x7, h)
noncomputable def f_X0_month_248 (E : ax_E) (x0 : Option Nat) (x4 : Option Nat) (x5 : Int) (h : ax_H) : Option (Int × ax_H) :=
  (ax_gR E h x0 0 0).bind fun v1 =>
  (ax_gI E h v1 1 6).bind fun v2 =>
  (ax_na E h 111 v2).bind fun q3 =>
  (ax_pR q3.2 x0 0 17 (some q3.1)).bind fun h4 =>
  f_X0_month_265 E x0 x4 x5 0 h4
noncomputable def lb_X0_month_81 (E : ax_E) (x0 : Option Nat) (x2 : Int) (x3 : Option Nat) (x4 : Option Nat) (x5 : Int) (x6 : Int) (x7 : Int) (h : ax_H) : Option ((Int × Int × Int × ax_H) ⊕ (Int × ax_H)) :=
  if i2 x7 < i2 x2 then
    if i2 x6 = 0 then
      (f_X0_month_248 E x0 x4 x5 h).map Sum.inr
    else
      (ax_gR E h x0 0 0).bind fun v1 =>
      (ax_gI E h v1 1 6).bind fun v2 =>
      (ax_ce E h x3 33).bind fun _ => (f_X33_of E x3 v2 h).bind fun q3 =>
      (ax_gR E q3.2 x0 0 0).bind fun v4 =>
      (ax_gI E q3.2 v4 1 6).bind fun v5 =>
      (ax_ce E q3.2 x3 33).bind fun _ => (f_X33_of E x3 v5 q3.2).bind fun q6 =>
      (ax_ce E q6.2 x3 33).bind fun _ => (f_X33_of E x3 50 q6.2).bind fun q7 =>
      if i2 q3.1 = i2 q6.1 then
        f_X0_month_177 E x0 x2 x3 x4 x5 x7 q7.2
      else
        (ax_ce E q7.2 x4 2).bind fun _ => (f_X2_canPay E x4 q3.1 q6.1 (1 + q7.1) q7.2).bind fun q8 =>
        if i2 q8.1 = 0 then
          f_X0_month_177 E x0 x2 x3 x4 x5 x7 q8.2
        else
          (ax_gI E q8.2 x4 2 5).bind fun v9 =>
          if i2 v9 < i2 16 then
            (f_X0_lendIn E x4 q3.1 q6.1 (1 + q7.1) q8.2).bind fun h10 =>
            f_X0_month_177 E x0 x2 x3 x4 (x5 + (1 + q7.1)) x7 h10
          else
            f_X0_month_177 E x0 x2 x3 x4 x5 x7 q8.2
  else
    (f_X0_month_248 E x0 x4 x5 h).map Sum.inr
noncomputable def f_X0_month_81 (E : ax_E) (x0 : Option Nat) (x2 : Int) (x3 : Option Nat) (x4 : Option Nat) (x5 : Int) (x6 : Int) (x7 : Int) (h : ax_H) : Option (Int × ax_H) :=
  ax_iter (fun s : Int × Int × Int × ax_H => lb_X0_month_81 E x0 x2 x3 x4 s.1 s.2.1 s.2.2.1 s.2.2.2) (x5, x6, x7, h)
noncomputable def f_X0_month (E : ax_E) (x0 : Option Nat) (x1 : Int) (x2 : Int) (h : ax_H) : Option (Int × ax_H) :=
  (f_X0_in E (i2 x1) 0 1000000 h).bind fun q1 =>
  if i2 q1.1 = 0 then
    f_X0_month_24 E x0 q1.2
  else
    (f_X0_in E (i2 x2) 1 30 q1.2).bind fun q2 =>
    if i2 q2.1 = 0 then
      f_X0_month_24 E x0 q2.2
    else
      (ax_gR E q2.2 x0 0 0).bind fun v3 =>
      (ax_gI E q2.2 v3 1 6).bind fun v4 =>
      if i2 v4 = 0 then
        (ax_ce E q2.2 x0 0).bind fun _ => (f_X0_tell E x0 (-3) q2.2).bind fun q5 =>
        some (q5.1, q5.2)
      else
        (ax_nw E q2.2 33 0 1).bind fun q6 =>
        (some q6.1).bind fun _ => (f_X33_init E (some q6.1) x1 q6.2).bind fun h7 =>
        (ax_nw E h7 2 0 7).bind fun q8 =>
        (some q8.1).bind fun _ => (f_X2_init E (some q8.1) q8.2).bind fun h9 =>
        (ax_ce E h9 x0 0).bind fun _ => (f_X0_books E x0 h9).bind fun q10 =>
        (ax_ce E q10.2 (some q8.1) 2).bind fun _ => (f_X2_as E (some q8.1) q10.1 q10.2).bind fun q11 =>
        f_X0_month_81 E x0 x2 (some q6.1) q11.1 0 1 0 q11.2
def pi_X0_month_265 (G : ax_G) (X : ax_X) (Q : State → Prop) (x0 : Option Nat) (x4 : Option Nat) (x5 : Int) : Int × ax_H → Prop := fun s => ∀ ls : Array Slot, ax_hl ls 12 [(0, .inr (.inr x0)), (4, .inr (.inr x4)), (5, .inl x5), (7, .inl s.1)] → ax_W G X Q s.2 265 ls []
def pi_X0_month_81 (G : ax_G) (X : ax_X) (Q : State → Prop) (x0 : Option Nat) (x2 : Int) (x3 : Option Nat) (x4 : Option Nat) : Int × Int × Int × ax_H → Prop := fun s => ∀ ls : Array Slot, ax_hl ls 12 [(0, .inr (.inr x0)), (2, .inl x2), (3, .inr (.inr x3)), (4, .inr (.inr x4)), (5, .inl s.1), (6, .inl s.2.1), (7, .inl s.2.2.1)] → ax_W G X Q s.2.2.2 81 ls []
set_option maxHeartbeats 4000000 in
theorem w_X0_month_24 {l : Launch} {G : ax_G} {X : ax_X} {Q : State → Prop} {h0 h : ax_H} {ls : Array Slot} (hSF : ax_SF G) (B : ax_BL l G X cX0_month 12 RX0 141 3592) (Z : ax_Z X h0 ((some FieldType.int))) (hn : X.2.2.2.2.2.2.2.2.1.name = yX0_month.name) (x0 : Option Nat) {w : Int × ax_H} (hl : ax_hl ls 12 [(0, .inr (.inr x0))]) (e : f_X0_month_24 G.2.2 x0 h = some w) (hp : (fun w : Int × ax_H => Q = ax_Q G X h0 w.2 (some (.int (Int32.ofInt w.1)))) w) : ax_W G X Q h 24 ls [] := by
  unfold f_X0_month_24 at e
  refine ax_aload_n B dX0_month_24 rfl hl 0 rfl ?_
  refine ax_iconst B dX0_month_25 ?_
  refine ax_ivI (y := yX0_tell) (n := 1) (As := [.int (Int32.ofInt (-1))]) B kd0 (lw_V q436 q438 qs1 q125 q439) (by decide +kernel) ⟨Nat.le_of_ble_eq_true rfl, Nat.le_of_ble_eq_true rfl⟩ (fun w1 e1 => mt_X0_tell l G hSF x0 (-1) _ w1 e1) rfl hl.size (by decide) dX0_month_26 e (fun q1 e => ?_)
  have e8 := e
  have hp : Q = _ := hp
  subst hp
  exact ax_ireturn B Z dX0_month_29 e8
set_option maxHeartbeats 4000000 in
theorem w_X0_month_242 {l : Launch} {G : ax_G} {X : ax_X} {Q : State → Prop} {h0 h : ax_H} {ls : Array Slot} (hSF : ax_SF G) (B : ax_BL l G X cX0_month 12 RX0 141 3592) (Z : ax_Z X h0 ((some FieldType.int))) (hn : X.2.2.2.2.2.2.2.2.1.name = yX0_month.name) (x0 : Option Nat) (x2 : Int) (x3 : Option Nat) (x4 : Option Nat) (x5 : Int) (x6 : Int) (x7 : Int) {w : (Int × Int × Int × ax_H) ⊕ (Int × ax_H)} (hl : ax_hl ls 12 [(0, .inr (.inr x0)), (2, .inl x2), (3, .inr (.inr x3)), (4, .inr (.inr x4)), (5, .inl x5), (6, .inl x6), (7, .inl x7)]) (e : f_X0_month_242 G.2.2 x0 x2 x3 x4 x5 x6 x7 h = some w) (hp : (ax_PL (pi_X0_month_81 G X Q x0 x2 x3 x4) (fun w : Int × ax_H => Q = ax_Q G X h0 w.2 (some (.int (Int32.ofInt w.1))))) w) : ax_W G X Q h 242 ls [] := by
  unfold f_X0_month_242 at e
  refine ax_iinc (L' := [(7, .inl (x7 + 1)), (0, .inr (.inr x0)), (2, .inl x2), (3, .inr (.inr x3)), (4, .inr (.inr x4)), (5, .inl x5), (6, .inl x6)]) B dX0_month_242 hl 6 rfl (by decide) rfl (fun ls hl => ?_)
  refine ax_goto (tgt := 81) B dX0_month_245 (by decide) ?_
  cases e
  exact hp _ (hl.sub [1, 2, 3, 4, 5, 6, 0] rfl)
set_option maxHeartbeats 4000000 in
theorem w_X0_month_228 {l : Launch} {G : ax_G} {X : ax_X} {Q : State → Prop} {h0 h : ax_H} {ls : Array Slot} (hSF : ax_SF G) (B : ax_BL l G X cX0_month 12 RX0 141 3592) (Z : ax_Z X h0 ((some FieldType.int))) (hn : X.2.2.2.2.2.2.2.2.1.name = yX0_month.name) (x0 : Option Nat) (x2 : Int) (x3 : Option Nat) (x4 : Option Nat) (x5 : Int) (x7 : Int) (s0 : Int) {w : (Int × Int × Int × ax_H) ⊕ (Int × ax_H)} (hl : ax_hl ls 12 [(0, .inr (.inr x0)), (2, .inl x2), (3, .inr (.inr x3)), (4, .inr (.inr x4)), (5, .inl x5), (7, .inl x7)]) (e : f_X0_month_228 G.2.2 x0 x2 x3 x4 x5 x7 s0 h = some w) (hp : (ax_PL (pi_X0_month_81 G X Q x0 x2 x3 x4) (fun w : Int × ax_H => Q = ax_Q G X h0 w.2 (some (.int (Int32.ofInt w.1))))) w) : ax_W G X Q h 228 ls [.int (Int32.ofInt s0)] := by
  unfold f_X0_month_228 at e
  refine ax_istore (L' := [(6, .inl s0), (0, .inr (.inr x0)), (2, .inl x2), (3, .inr (.inr x3)), (4, .inr (.inr x4)), (5, .inl x5), (7, .inl x7)]) B dX0_month_228 hl (by decide) rfl (fun ls hl => ?_)
  refine ax_iload B dX0_month_230 hl 0 rfl ?_
  refine ax_if_eq (tgt := 242) B dX0_month_232 (by decide) e (fun e => ?_) (fun e => ?_)
  · exact w_X0_month_242 hSF B Z hn x0 x2 x3 x4 x5 s0 x7 (hl.sub [1, 2, 3, 4, 5, 0, 6] rfl) e hp
  · refine ax_aload_n B dX0_month_235 rfl hl 1 rfl ?_
    refine ax_aload B dX0_month_236 hl 4 rfl ?_
    refine ax_ivI (y := yX0_waitIn) (n := 1) (As := [va_rf x4]) B kd0 (lw_V q1446 q1448 qs31 q125 q1449) (by decide +kernel) ⟨Nat.le_of_ble_eq_true rfl, Nat.le_of_ble_eq_true rfl⟩ (fun w1 e1 => mt_X0_waitIn l G hSF x0 x4 _ w1 e1) rfl hl.size (by decide) dX0_month_238 e (fun q1 e => ?_)
    refine ax_pop B dX0_month_241 (rfl) ?_
    exact w_X0_month_242 hSF B Z hn x0 x2 x3 x4 x5 s0 x7 (hl.sub [1, 2, 3, 4, 5, 0, 6] rfl) e hp
set_option maxHeartbeats 4000000 in
theorem w_X0_month_177 {l : Launch} {G : ax_G} {X : ax_X} {Q : State → Prop} {h0 h : ax_H} {ls : Array Slot} (hSF : ax_SF G) (B : ax_BL l G X cX0_month 12 RX0 141 3592) (Z : ax_Z X h0 ((some FieldType.int))) (hn : X.2.2.2.2.2.2.2.2.1.name = yX0_month.name) (x0 : Option Nat) (x2 : Int) (x3 : Option Nat) (x4 : Option Nat) (x5 : Int) (x7 : Int) {w : (Int × Int × Int × ax_H) ⊕ (Int × ax_H)} (hl : ax_hl ls 12 [(0, .inr (.inr x0)), (2, .inl x2), (3, .inr (.inr x3)), (4, .inr (.inr x4)), (5, .inl x5), (7, .inl x7)]) (e : f_X0_month_177 G.2.2 x0 x2 x3 x4 x5 x7 h = some w) (hp : (ax_PL (pi_X0_month_81 G X Q x0 x2 x3 x4) (fun w : Int × ax_H => Q = ax_Q G X h0 w.2 (some (.int (Int32.ofInt w.1))))) w) : ax_W G X Q h 177 ls [] := by
  unfold f_X0_month_177 at e
  refine ax_aload_n B dX0_month_177 rfl hl 2 rfl ?_
  refine ax_aload_n B dX0_month_178 rfl hl 0 rfl ?_
  refine ax_getR B ff_X0_20_0 (fun _ _ => rfl) dX0_month_179 e (fun v1 e => ?_)
  refine ax_getI B ff_X0_101_1 (fun _ _ => rfl) dX0_month_182 e (fun v2 e => ?_)
  refine ax_ivI (y := yX33_of) (n := 1) (As := [.int (Int32.ofInt v2)]) B kd33 (lw_V q1919 q1920 q1921 q176 q1922) (by decide +kernel) ⟨Nat.le_of_ble_eq_true rfl, Nat.le_of_ble_eq_true rfl⟩ (fun w1 e1 => mt_X33_of l G hSF x3 v2 _ w1 e1) rfl hl.size (by decide) dX0_month_185 e (fun q3 e => ?_)
  refine ax_istore (L' := [(11, .inl q3.1), (0, .inr (.inr x0)), (2, .inl x2), (3, .inr (.inr x3)), (4, .inr (.inr x4)), (5, .inl x5), (7, .inl x7)]) B dX0_month_188 hl (by decide) rfl (fun ls hl => ?_)
  refine ax_aload B dX0_month_190 hl 4 rfl ?_
  refine ax_iload B dX0_month_192 hl 0 rfl ?_
  refine ax_aload_n B dX0_month_194 rfl hl 3 rfl ?_
  refine ax_aload_n B dX0_month_195 rfl hl 1 rfl ?_
  refine ax_getR B ff_X0_20_0 (fun _ _ => rfl) dX0_month_196 e (fun v4 e => ?_)
  refine ax_getI B ff_X0_101_1 (fun _ _ => rfl) dX0_month_199 e (fun v5 e => ?_)
  refine ax_ivI (y := yX33_of) (n := 1) (As := [.int (Int32.ofInt v5)]) B kd33 (lw_V q1919 q1920 q1921 q176 q1922) (by decide +kernel) ⟨Nat.le_of_ble_eq_true rfl, Nat.le_of_ble_eq_true rfl⟩ (fun w1 e1 => mt_X33_of l G hSF x3 v5 _ w1 e1) rfl hl.size (by simp only [List.map_cons, List.map_nil, List.sum_cons, List.sum_nil, va_rf_cat, ax_catI, ax_catL]; decide) dX0_month_202 e (fun q6 e => ?_)
  refine ax_sipush B dX0_month_205 (by decide) ?_
  refine ax_ivI (y := yX2_repay) (n := 3) (As := [.int (Int32.ofInt q3.1), .int (Int32.ofInt q6.1), .int (Int32.ofInt 9999)]) B kd2 (lw_V q1414 q1415 q1416 q130 q1417) (by decide +kernel) ⟨Nat.le_of_ble_eq_true rfl, Nat.le_of_ble_eq_true rfl⟩ (fun w1 e1 => mt_X2_repay l G hSF x4 q3.1 q6.1 9999 _ w1 e1) rfl hl.size (by decide) dX0_month_208 e (fun q7 e => ?_)
  refine ax_pop B dX0_month_211 (rfl) ?_
  refine ax_aload B dX0_month_212 hl 4 rfl ?_
  refine ax_getI B ff_X0_194_2 (fun _ _ => rfl) dX0_month_214 e (fun v8 e => ?_)
  refine ax_sipush B dX0_month_217 (by decide) ?_
  refine ax_icmp_ge (tgt := 227) B dX0_month_220 (by decide) e (fun e => ?_) (fun e => ?_)
  · refine ax_iconst B dX0_month_223 ?_
    refine ax_goto (tgt := 228) B dX0_month_224 (by decide) ?_
    exact w_X0_month_228 hSF B Z hn x0 x2 x3 x4 x5 x7 1 (hl.sub [1, 2, 3, 4, 5, 6] rfl) e hp
  · refine ax_iconst B dX0_month_227 ?_
    exact w_X0_month_228 hSF B Z hn x0 x2 x3 x4 x5 x7 0 (hl.sub [1, 2, 3, 4, 5, 6] rfl) e hp
set_option maxHeartbeats 4000000 in
theorem wb_X0_month_265 {l : Launch} {G : ax_G} {X : ax_X} {Q : State → Prop} {h0 h : ax_H} {ls : Array Slot} (hSF : ax_SF G) (B : ax_BL l G X cX0_month 12 RX0 141 3592) (Z : ax_Z X h0 ((some FieldType.int))) (hn : X.2.2.2.2.2.2.2.2.1.name = yX0_month.name) (x0 : Option Nat) (x4 : Option Nat) (x5 : Int) (x7 : Int) {w : (Int × ax_H) ⊕ (Int × ax_H)} (hl : ax_hl ls 12 [(0, .inr (.inr x0)), (4, .inr (.inr x4)), (5, .inl x5), (7, .inl x7)]) (e : lb_X0_month_265 G.2.2 x0 x4 x5 x7 h = some w) (hp : (ax_PL (pi_X0_month_265 G X Q x0 x4 x5) (fun w : Int × ax_H => Q = ax_Q G X h0 w.2 (some (.int (Int32.ofInt w.1))))) w) : ax_W G X Q h 265 ls [] := by
  unfold lb_X0_month_265 at e
  refine ax_iload B dX0_month_265 hl 3 rfl ?_
  refine ax_aload_n B dX0_month_267 rfl hl 0 rfl ?_
  refine ax_getR B ff_X0_20_0 (fun _ _ => rfl) dX0_month_268 e (fun v1 e => ?_)
  refine ax_getI B ff_X0_101_1 (fun _ _ => rfl) dX0_month_271 e (fun v2 e => ?_)
  refine ax_icmp_ge (tgt := 328) B dX0_month_274 (by decide) e (fun e => ?_) (fun e => ?_)
  · refine ax_aload_n B dX0_month_277 rfl hl 0 rfl ?_
    refine ax_getR B ff_X0_498_0 (fun _ _ => rfl) dX0_month_278 e (fun v3 e => ?_)
    refine ax_iload B dX0_month_281 hl 3 rfl ?_
    refine ax_iconst B dX0_month_283 ?_
    refine ax_newa (atype := .int) B kd100 q259 rfl (by decide) dX0_month_284 e (fun q4 e => ?_)
    refine ax_dup B dX0_month_286 (va_rf_cat _) ?_
    refine ax_iconst B dX0_month_287 ?_
    refine ax_aload B dX0_month_288 hl 1 rfl ?_
    refine ax_getR B ff_X0_130_2 (fun _ _ => rfl) dX0_month_290 e (fun v5 e => ?_)
    refine ax_iload B dX0_month_293 hl 3 rfl ?_
    refine ax_iald B kd100 dX0_month_295 e (fun v6 e => ?_)
    refine ax_iast B kd100 dX0_month_296 e (fun h7 e => ?_)
    refine ax_dup B dX0_month_297 (va_rf_cat _) ?_
    refine ax_iconst B dX0_month_298 ?_
    refine ax_aload B dX0_month_299 hl 1 rfl ?_
    refine ax_iload B dX0_month_301 hl 3 rfl ?_
    refine ax_ivI (y := yX2_balance) (n := 1) (As := [.int (Int32.ofInt x7)]) B kd2 (lw_V q1720 q1721 q1722 q130 q1723) (by decide +kernel) ⟨Nat.le_of_ble_eq_true rfl, Nat.le_of_ble_eq_true rfl⟩ (fun w1 e1 => mt_X2_balance l G hSF x4 x7 _ w1 e1) rfl hl.size (by simp only [List.map_cons, List.map_nil, List.sum_cons, List.sum_nil, va_rf_cat, ax_catI, ax_catL]; decide) dX0_month_303 e (fun q8 e => ?_)
    refine ax_iast B kd100 dX0_month_306 e (fun h9 e => ?_)
    refine ax_dup B dX0_month_307 (va_rf_cat _) ?_
    refine ax_iconst B dX0_month_308 ?_
    refine ax_aload_n B dX0_month_309 rfl hl 0 rfl ?_
    refine ax_aload B dX0_month_310 hl 1 rfl ?_
    refine ax_iload B dX0_month_312 hl 3 rfl ?_
    refine ax_ivI (y := yX0_doorsOf) (n := 2) (As := [va_rf x4, .int (Int32.ofInt x7)]) B kd0 (lw_V q1346 q1348 qs24 q125 q1349) (by decide +kernel) ⟨Nat.le_of_ble_eq_true rfl, Nat.le_of_ble_eq_true rfl⟩ (fun w1 e1 => mt_X0_doorsOf l G hSF x0 x4 x7 _ w1 e1) rfl hl.size (by simp only [List.map_cons, List.map_nil, List.sum_cons, List.sum_nil, va_rf_cat, ax_catI, ax_catL]; decide) dX0_month_314 e (fun q10 e => ?_)
    refine ax_isI (y := yJ16_bitCount) (n := 1) (As := [.int (Int32.ofInt q10.1)]) B (lw_S q1623 q1624 q174 q1625) (by decide +kernel) ⟨Nat.le_of_ble_eq_true rfl, Nat.le_of_ble_eq_true rfl⟩ (fun w1 e1 => mt_J16_bitCount l G hSF q10.1 _ w1 e1) rfl hl.size (by simp only [List.map_cons, List.map_nil, List.sum_cons, List.sum_nil, va_rf_cat, ax_catI, ax_catL]; decide) dX0_month_317 e (fun q11 e => ?_)
    refine ax_iast B kd100 dX0_month_320 e (fun h12 e => ?_)
    refine ax_aastA B q1660 dX0_month_321 e (fun h13 e => ?_)
    refine ax_iinc (L' := [(7, .inl (x7 + 1)), (0, .inr (.inr x0)), (4, .inr (.inr x4)), (5, .inl x5)]) B dX0_month_322 hl 3 rfl (by decide) rfl (fun ls hl => ?_)
    refine ax_goto (tgt := 265) B dX0_month_325 (by decide) ?_
    cases e
    exact hp _ (hl.sub [1, 2, 3, 0] rfl)
  · obtain ⟨w, e9_1, rfl⟩ := Option.map_eq_some_iff.mp e
    have e := e9_1
    refine ax_aload_n B dX0_month_328 rfl hl 0 rfl ?_
    refine ax_iload B dX0_month_329 hl 2 rfl ?_
    refine ax_ivI (y := yX0_tell) (n := 1) (As := [.int (Int32.ofInt x5)]) B kd0 (lw_V q436 q438 qs1 q125 q439) (by decide +kernel) ⟨Nat.le_of_ble_eq_true rfl, Nat.le_of_ble_eq_true rfl⟩ (fun w1 e1 => mt_X0_tell l G hSF x0 x5 _ w1 e1) rfl hl.size (by decide) dX0_month_331 e (fun q14 e => ?_)
    have e8 := e
    have hp : Q = _ := hp
    subst hp
    exact ax_ireturn B Z dX0_month_334 e8
theorem w_X0_month_265 {l : Launch} {G : ax_G} {X : ax_X} {Q : State → Prop} {h0 h : ax_H} {ls : Array Slot} (hSF : ax_SF G) (B : ax_BL l G X cX0_month 12 RX0 141 3592) (Z : ax_Z X h0 ((some FieldType.int))) (hn : X.2.2.2.2.2.2.2.2.1.name = yX0_month.name) (x0 : Option Nat) (x4 : Option Nat) (x5 : Int) (x7 : Int) {w : Int × ax_H} (hl : ax_hl ls 12 [(0, .inr (.inr x0)), (4, .inr (.inr x4)), (5, .inl x5), (7, .inl x7)]) (e : f_X0_month_265 G.2.2 x0 x4 x5 x7 h = some w) (hp : (fun w : Int × ax_H => Q = ax_Q G X h0 w.2 (some (.int (Int32.ofInt w.1)))) w) : ax_W G X Q h 265 ls [] :=
  ax_iter_W (Pin := pi_X0_month_265 G X Q x0 x4 x5) (Pout := (fun w : Int × ax_H => Q = ax_Q G X h0 w.2 (some (.int (Int32.ofInt w.1))))) (fun s w e hp ls hl => wb_X0_month_265 hSF B Z hn x0 x4 x5 s.1 hl e hp) _ _ e hp ls hl
set_option maxHeartbeats 4000000 in
theorem w_X0_month_248 {l : Launch} {G : ax_G} {X : ax_X} {Q : State → Prop} {h0 h : ax_H} {ls : Array Slot} (hSF : ax_SF G) (B : ax_BL l G X cX0_month 12 RX0 141 3592) (Z : ax_Z X h0 ((some FieldType.int))) (hn : X.2.2.2.2.2.2.2.2.1.name = yX0_month.name) (x0 : Option Nat) (x4 : Option Nat) (x5 : Int) {w : Int × ax_H} (hl : ax_hl ls 12 [(0, .inr (.inr x0)), (4, .inr (.inr x4)), (5, .inl x5)]) (e : f_X0_month_248 G.2.2 x0 x4 x5 h = some w) (hp : (fun w : Int × ax_H => Q = ax_Q G X h0 w.2 (some (.int (Int32.ofInt w.1)))) w) : ax_W G X Q h 248 ls [] := by
  unfold f_X0_month_248 at e
  refine ax_aload_n B dX0_month_248 rfl hl 0 rfl ?_
  refine ax_aload_n B dX0_month_249 rfl hl 0 rfl ?_
  refine ax_getR B ff_X0_20_0 (fun _ _ => rfl) dX0_month_250 e (fun v1 e => ?_)
  refine ax_getI B ff_X0_101_1 (fun _ _ => rfl) dX0_month_253 e (fun v2 e => ?_)
  refine ax_anewA B q1926 q1660 dX0_month_256 e (fun q3 e => ?_)
  refine ax_putR B ff_X0_498_0 (Or.inl rfl) rfl dX0_month_259 e (fun h4 e => ?_)
  refine ax_iconst B dX0_month_262 ?_
  refine ax_istore (L' := [(7, .inl 0), (0, .inr (.inr x0)), (4, .inr (.inr x4)), (5, .inl x5)]) B dX0_month_263 hl (by decide) rfl (fun ls hl => ?_)
  exact w_X0_month_265 hSF B Z hn x0 x4 x5 0 (hl.sub [1, 2, 3, 0] rfl) e hp
set_option maxHeartbeats 4000000 in
theorem wb_X0_month_81 {l : Launch} {G : ax_G} {X : ax_X} {Q : State → Prop} {h0 h : ax_H} {ls : Array Slot} (hSF : ax_SF G) (B : ax_BL l G X cX0_month 12 RX0 141 3592) (Z : ax_Z X h0 ((some FieldType.int))) (hn : X.2.2.2.2.2.2.2.2.1.name = yX0_month.name) (x0 : Option Nat) (x2 : Int) (x3 : Option Nat) (x4 : Option Nat) (x5 : Int) (x6 : Int) (x7 : Int) {w : (Int × Int × Int × ax_H) ⊕ (Int × ax_H)} (hl : ax_hl ls 12 [(0, .inr (.inr x0)), (2, .inl x2), (3, .inr (.inr x3)), (4, .inr (.inr x4)), (5, .inl x5), (6, .inl x6), (7, .inl x7)]) (e : lb_X0_month_81 G.2.2 x0 x2 x3 x4 x5 x6 x7 h = some w) (hp : (ax_PL (pi_X0_month_81 G X Q x0 x2 x3 x4) (fun w : Int × ax_H => Q = ax_Q G X h0 w.2 (some (.int (Int32.ofInt w.1))))) w) : ax_W G X Q h 81 ls [] := by
  unfold lb_X0_month_81 at e
  refine ax_iload B dX0_month_81 hl 6 rfl ?_
  refine ax_iload_n B dX0_month_83 rfl hl 1 rfl ?_
  refine ax_icmp_ge (tgt := 248) B dX0_month_84 (by decide) e (fun e => ?_) (fun e => ?_)
  · refine ax_iload B dX0_month_87 hl 5 rfl ?_
    refine ax_if_eq (tgt := 248) B dX0_month_89 (by decide) e (fun e => ?_) (fun e => ?_)
    · obtain ⟨w, e9_2, rfl⟩ := Option.map_eq_some_iff.mp e
      have e := e9_2
      exact w_X0_month_248 hSF B Z hn x0 x4 x5 (hl.sub [0, 3, 4] rfl) e hp
    · refine ax_aload_n B dX0_month_92 rfl hl 2 rfl ?_
      refine ax_aload_n B dX0_month_93 rfl hl 0 rfl ?_
      refine ax_getR B ff_X0_20_0 (fun _ _ => rfl) dX0_month_94 e (fun v1 e => ?_)
      refine ax_getI B ff_X0_101_1 (fun _ _ => rfl) dX0_month_97 e (fun v2 e => ?_)
      refine ax_ivI (y := yX33_of) (n := 1) (As := [.int (Int32.ofInt v2)]) B kd33 (lw_V q1919 q1920 q1921 q176 q1922) (by decide +kernel) ⟨Nat.le_of_ble_eq_true rfl, Nat.le_of_ble_eq_true rfl⟩ (fun w1 e1 => mt_X33_of l G hSF x3 v2 _ w1 e1) rfl hl.size (by decide) dX0_month_100 e (fun q3 e => ?_)
      refine ax_istore (L' := [(8, .inl q3.1), (0, .inr (.inr x0)), (2, .inl x2), (3, .inr (.inr x3)), (4, .inr (.inr x4)), (5, .inl x5), (6, .inl x6), (7, .inl x7)]) B dX0_month_103 hl (by decide) rfl (fun ls hl => ?_)
      refine ax_aload_n B dX0_month_105 rfl hl 3 rfl ?_
      refine ax_aload_n B dX0_month_106 rfl hl 1 rfl ?_
      refine ax_getR B ff_X0_20_0 (fun _ _ => rfl) dX0_month_107 e (fun v4 e => ?_)
      refine ax_getI B ff_X0_101_1 (fun _ _ => rfl) dX0_month_110 e (fun v5 e => ?_)
      refine ax_ivI (y := yX33_of) (n := 1) (As := [.int (Int32.ofInt v5)]) B kd33 (lw_V q1919 q1920 q1921 q176 q1922) (by decide +kernel) ⟨Nat.le_of_ble_eq_true rfl, Nat.le_of_ble_eq_true rfl⟩ (fun w1 e1 => mt_X33_of l G hSF x3 v5 _ w1 e1) rfl hl.size (by decide) dX0_month_113 e (fun q6 e => ?_)
      refine ax_istore (L' := [(9, .inl q6.1), (8, .inl q3.1), (0, .inr (.inr x0)), (2, .inl x2), (3, .inr (.inr x3)), (4, .inr (.inr x4)), (5, .inl x5), (6, .inl x6), (7, .inl x7)]) B dX0_month_116 hl (by decide) rfl (fun ls hl => ?_)
      refine ax_iconst B dX0_month_118 ?_
      refine ax_aload_n B dX0_month_119 rfl hl 4 rfl ?_
      refine ax_bipush B dX0_month_120 (by decide) ?_
      refine ax_ivI (y := yX33_of) (n := 1) (As := [.int (Int32.ofInt 50)]) B kd33 (lw_V q1919 q1920 q1921 q176 q1922) (by decide +kernel) ⟨Nat.le_of_ble_eq_true rfl, Nat.le_of_ble_eq_true rfl⟩ (fun w1 e1 => mt_X33_of l G hSF x3 50 _ w1 e1) rfl hl.size (by simp only [List.map_cons, List.map_nil, List.sum_cons, List.sum_nil, va_rf_cat, ax_catI, ax_catL]; decide) dX0_month_122 e (fun q7 e => ?_)
      refine ax_iadd' B dX0_month_125 ?_
      refine ax_istore (L' := [(10, .inl (1 + q7.1)), (9, .inl q6.1), (8, .inl q3.1), (0, .inr (.inr x0)), (2, .inl x2), (3, .inr (.inr x3)), (4, .inr (.inr x4)), (5, .inl x5), (6, .inl x6), (7, .inl x7)]) B dX0_month_126 hl (by decide) rfl (fun ls hl => ?_)
      refine ax_iload B dX0_month_128 hl 2 rfl ?_
      refine ax_iload B dX0_month_130 hl 1 rfl ?_
      refine ax_icmp_eq (tgt := 177) B dX0_month_132 (by decide) e (fun e => ?_) (fun e => ?_)
      · exact w_X0_month_177 hSF B Z hn x0 x2 x3 x4 x5 x7 (hl.sub [3, 4, 5, 6, 7, 9] rfl) e hp
      · refine ax_aload B dX0_month_135 hl 6 rfl ?_
        refine ax_iload B dX0_month_137 hl 2 rfl ?_
        refine ax_iload B dX0_month_139 hl 1 rfl ?_
        refine ax_iload B dX0_month_141 hl 0 rfl ?_
        refine ax_ivI (y := yX2_canPay) (n := 3) (As := [.int (Int32.ofInt q3.1), .int (Int32.ofInt q6.1), .int (Int32.ofInt (1 + q7.1))]) B kd2 (lw_V q1358 q1359 q1360 q130 q1361) (by decide +kernel) ⟨Nat.le_of_ble_eq_true rfl, Nat.le_of_ble_eq_true rfl⟩ (fun w1 e1 => mt_X2_canPay l G hSF x4 q3.1 q6.1 (1 + q7.1) _ w1 e1) rfl hl.size (by decide) dX0_month_143 e (fun q8 e => ?_)
        refine ax_if_eq (tgt := 177) B dX0_month_146 (by decide) e (fun e => ?_) (fun e => ?_)
        · exact w_X0_month_177 hSF B Z hn x0 x2 x3 x4 x5 x7 (hl.sub [3, 4, 5, 6, 7, 9] rfl) e hp
        · refine ax_aload B dX0_month_149 hl 6 rfl ?_
          refine ax_getI B ff_X0_107_2 (fun _ _ => rfl) dX0_month_151 e (fun v9 e => ?_)
          refine ax_bipush B dX0_month_154 (by decide) ?_
          refine ax_icmp_ge (tgt := 177) B dX0_month_156 (by decide) e (fun e => ?_) (fun e => ?_)
          · refine ax_aload B dX0_month_159 hl 6 rfl ?_
            refine ax_iload B dX0_month_161 hl 2 rfl ?_
            refine ax_iload B dX0_month_163 hl 1 rfl ?_
            refine ax_iload B dX0_month_165 hl 0 rfl ?_
            refine ax_isV (y := yX0_lendIn) (n := 4) (As := [va_rf x4, .int (Int32.ofInt q3.1), .int (Int32.ofInt q6.1), .int (Int32.ofInt (1 + q7.1))]) B (lw_S q1399 q1400 q125 q1401) (by decide +kernel) ⟨Nat.le_of_ble_eq_true rfl, Nat.le_of_ble_eq_true rfl⟩ (fun w1 e1 => mt_X0_lendIn l G hSF x4 q3.1 q6.1 (1 + q7.1) _ w1 e1) rfl hl.size (by decide) dX0_month_167 e (fun h10 e => ?_)
            refine ax_iload B dX0_month_170 hl 7 rfl ?_
            refine ax_iload B dX0_month_172 hl 0 rfl ?_
            refine ax_iadd' B dX0_month_174 ?_
            refine ax_istore (L' := [(5, .inl (x5 + (1 + q7.1))), (10, .inl (1 + q7.1)), (9, .inl q6.1), (8, .inl q3.1), (0, .inr (.inr x0)), (2, .inl x2), (3, .inr (.inr x3)), (4, .inr (.inr x4)), (6, .inl x6), (7, .inl x7)]) B dX0_month_175 hl (by decide) rfl (fun ls hl => ?_)
            exact w_X0_month_177 hSF B Z hn x0 x2 x3 x4 (x5 + (1 + q7.1)) x7 (hl.sub [4, 5, 6, 7, 0, 9] rfl) e hp
          · exact w_X0_month_177 hSF B Z hn x0 x2 x3 x4 x5 x7 (hl.sub [3, 4, 5, 6, 7, 9] rfl) e hp
  · obtain ⟨w, e9_3, rfl⟩ := Option.map_eq_some_iff.mp e
    have e := e9_3
    exact w_X0_month_248 hSF B Z hn x0 x4 x5 (hl.sub [0, 3, 4] rfl) e hp
theorem w_X0_month_81 {l : Launch} {G : ax_G} {X : ax_X} {Q : State → Prop} {h0 h : ax_H} {ls : Array Slot} (hSF : ax_SF G) (B : ax_BL l G X cX0_month 12 RX0 141 3592) (Z : ax_Z X h0 ((some FieldType.int))) (hn : X.2.2.2.2.2.2.2.2.1.name = yX0_month.name) (x0 : Option Nat) (x2 : Int) (x3 : Option Nat) (x4 : Option Nat) (x5 : Int) (x6 : Int) (x7 : Int) {w : Int × ax_H} (hl : ax_hl ls 12 [(0, .inr (.inr x0)), (2, .inl x2), (3, .inr (.inr x3)), (4, .inr (.inr x4)), (5, .inl x5), (6, .inl x6), (7, .inl x7)]) (e : f_X0_month_81 G.2.2 x0 x2 x3 x4 x5 x6 x7 h = some w) (hp : (fun w : Int × ax_H => Q = ax_Q G X h0 w.2 (some (.int (Int32.ofInt w.1)))) w) : ax_W G X Q h 81 ls [] :=
  ax_iter_W (Pin := pi_X0_month_81 G X Q x0 x2 x3 x4) (Pout := (fun w : Int × ax_H => Q = ax_Q G X h0 w.2 (some (.int (Int32.ofInt w.1))))) (fun s w e hp ls hl => wb_X0_month_81 hSF B Z hn x0 x2 x3 x4 s.1 s.2.1 s.2.2.1 hl e hp) _ _ e hp ls hl
set_option maxHeartbeats 4000000 in
theorem we_X0_month {l : Launch} {G : ax_G} {X : ax_X} {Q : State → Prop} {h0 h : ax_H} {ls : Array Slot} (hSF : ax_SF G) (B : ax_BL l G X cX0_month 12 RX0 141 3592) (Z : ax_Z X h0 ((some FieldType.int))) (hn : X.2.2.2.2.2.2.2.2.1.name = yX0_month.name) (x0 : Option Nat) (x1 : Int) (x2 : Int) {w : Int × ax_H} (hl : ax_hl ls 12 [(0, .inr (.inr x0)), (1, .inl x1), (2, .inl x2)]) (e : f_X0_month G.2.2 x0 x1 x2 h = some w) (hp : (fun w : Int × ax_H => Q = ax_Q G X h0 w.2 (some (.int (Int32.ofInt w.1)))) w) : ax_W G X Q h 0 ls [] := by
  unfold f_X0_month at e
  refine ax_iload_n B dX0_month_0 rfl hl 1 rfl ?_
  refine ax_i2l' B dX0_month_1 ?_
  refine ax_lconst (v := 0) B dX0_month_2 rfl ?_
  refine ax_ldc2 B cn_X0_486 dX0_month_3 ?_
  refine ax_isI (y := yX0_in) (n := 3) (As := [.long (Int64.ofInt (i2 x1)), .long (Int64.ofInt 0), .long (Int64.ofInt 1000000)]) B (lw_S q420 q421 q125 q422) (by decide +kernel) ⟨Nat.le_of_ble_eq_true rfl, Nat.le_of_ble_eq_true rfl⟩ (fun w1 e1 => mt_X0_in l G hSF (i2 x1) 0 1000000 _ w1 e1) rfl hl.size (by decide) dX0_month_6 e (fun q1 e => ?_)
  refine ax_if_eq (tgt := 24) B dX0_month_9 (by decide) e (fun e => ?_) (fun e => ?_)
  · exact w_X0_month_24 hSF B Z hn x0 (hl.sub [0] rfl) e hp
  · refine ax_iload_n B dX0_month_12 rfl hl 2 rfl ?_
    refine ax_i2l' B dX0_month_13 ?_
    refine ax_lconst (v := 1) B dX0_month_14 rfl ?_
    refine ax_ldc2 B cn_X0_488 dX0_month_15 ?_
    refine ax_isI (y := yX0_in) (n := 3) (As := [.long (Int64.ofInt (i2 x2)), .long (Int64.ofInt 1), .long (Int64.ofInt 30)]) B (lw_S q420 q421 q125 q422) (by decide +kernel) ⟨Nat.le_of_ble_eq_true rfl, Nat.le_of_ble_eq_true rfl⟩ (fun w1 e1 => mt_X0_in l G hSF (i2 x2) 1 30 _ w1 e1) rfl hl.size (by decide) dX0_month_18 e (fun q2 e => ?_)
    refine ax_if_ne (tgt := 30) B dX0_month_21 (by decide) e (fun e => ?_) (fun e => ?_)
    · exact w_X0_month_24 hSF B Z hn x0 (hl.sub [0] rfl) e hp
    · refine ax_aload_n B dX0_month_30 rfl hl 0 rfl ?_
      refine ax_getR B ff_X0_20_0 (fun _ _ => rfl) dX0_month_31 e (fun v3 e => ?_)
      refine ax_getI B ff_X0_101_1 (fun _ _ => rfl) dX0_month_34 e (fun v4 e => ?_)
      refine ax_if_ne (tgt := 47) B dX0_month_37 (by decide) e (fun e => ?_) (fun e => ?_)
      · refine ax_aload_n B dX0_month_40 rfl hl 0 rfl ?_
        refine ax_bipush B dX0_month_41 (by decide) ?_
        refine ax_ivI (y := yX0_tell) (n := 1) (As := [.int (Int32.ofInt (-3))]) B kd0 (lw_V q436 q438 qs1 q125 q439) (by decide +kernel) ⟨Nat.le_of_ble_eq_true rfl, Nat.le_of_ble_eq_true rfl⟩ (fun w1 e1 => mt_X0_tell l G hSF x0 (-3) _ w1 e1) rfl hl.size (by decide) dX0_month_43 e (fun q5 e => ?_)
        have e8 := e
        have hp : Q = _ := hp
        subst hp
        exact ax_ireturn B Z dX0_month_46 e8
      · refine ax_new B kd33 in_X33 tyX33_ok (fun k hk => ax_dv _ (dfX33 k hk)) q1909 q1910 q176 dX0_month_47 e (fun q6 e => ?_)
        refine ax_dup B dX0_month_50 (va_rf_cat _) ?_
        refine ax_iload_n B dX0_month_51 rfl hl 1 rfl ?_
        refine ax_iiR (y := yX33_init) (n := 1) (As := [.int (Int32.ofInt x1)]) B q1911 q1912 q176 q1913 rfl (by decide +kernel) ⟨Nat.le_of_ble_eq_true rfl, Nat.le_of_ble_eq_true rfl⟩ (fun w1 e1 => mt_X33_init l G hSF (some q6.1) x1 _ w1 e1) rfl hl.size (by simp only [List.map_cons, List.map_nil, List.sum_cons, List.sum_nil, va_rf_cat, ax_catI, ax_catL]; decide) dX0_month_52 e (fun h7 e => ?_)
        refine ax_astore_n (L' := [(3, .inr (.inr (some q6.1))), (0, .inr (.inr x0)), (1, .inl x1), (2, .inl x2)]) B dX0_month_55 rfl hl (by decide) rfl (fun ls hl => ?_)
        refine ax_new B kd2 in_X2 tyX2_ok (fun k hk => ax_dv _ (dfX2 k hk)) q338 q218 q130 dX0_month_56 e (fun q8 e => ?_)
        refine ax_dup B dX0_month_59 (va_rf_cat _) ?_
        refine ax_iiNR (y := yX2_init) (n := 0) (As := []) B q339 q220 q130 q221 rfl (by decide +kernel) ⟨Nat.le_of_ble_eq_true rfl, Nat.le_of_ble_eq_true rfl⟩ (fun w1 e1 => mt_X2_init l G hSF (some q8.1) _ w1 e1) rfl hl.size (by simp only [List.map_cons, List.map_nil, List.sum_cons, List.sum_nil, va_rf_cat, ax_catI, ax_catL]; decide) dX0_month_60 e (fun h9 e => ?_)
        refine ax_aload_n B dX0_month_63 rfl hl 1 rfl ?_
        refine ax_ivR (y := yX0_books) (n := 0) (As := []) B kd0 (lw_V q443 q445 qs2 q125 q446) (by decide +kernel) ⟨Nat.le_of_ble_eq_true rfl, Nat.le_of_ble_eq_true rfl⟩ (fun w1 e1 => mt_X0_books l G hSF x0 _ w1 e1) rfl hl.size (by simp only [List.map_cons, List.map_nil, List.sum_cons, List.sum_nil, va_rf_cat, ax_catI, ax_catL]; decide) dX0_month_64 e (fun q10 e => ?_)
        refine ax_ivR (y := yX2_as) (n := 1) (As := [va_rf q10.1]) B kd2 (lw_V q1377 q1378 q1379 q130 q1380) (by decide +kernel) ⟨Nat.le_of_ble_eq_true rfl, Nat.le_of_ble_eq_true rfl⟩ (fun w1 e1 => mt_X2_as l G hSF (some q8.1) q10.1 _ w1 e1) rfl hl.size (by decide) dX0_month_67 e (fun q11 e => ?_)
        refine ax_astore (L' := [(4, .inr (.inr q11.1)), (3, .inr (.inr (some q6.1))), (0, .inr (.inr x0)), (1, .inl x1), (2, .inl x2)]) B dX0_month_70 hl (by decide) rfl (fun ls hl => ?_)
        refine ax_iconst B dX0_month_72 ?_
        refine ax_istore (L' := [(5, .inl 0), (4, .inr (.inr q11.1)), (3, .inr (.inr (some q6.1))), (0, .inr (.inr x0)), (1, .inl x1), (2, .inl x2)]) B dX0_month_73 hl (by decide) rfl (fun ls hl => ?_)
        refine ax_iconst B dX0_month_75 ?_
        refine ax_istore (L' := [(6, .inl 1), (5, .inl 0), (4, .inr (.inr q11.1)), (3, .inr (.inr (some q6.1))), (0, .inr (.inr x0)), (1, .inl x1), (2, .inl x2)]) B dX0_month_76 hl (by decide) rfl (fun ls hl => ?_)
        refine ax_iconst B dX0_month_78 ?_
        refine ax_istore (L' := [(7, .inl 0), (6, .inl 1), (5, .inl 0), (4, .inr (.inr q11.1)), (3, .inr (.inr (some q6.1))), (0, .inr (.inr x0)), (1, .inl x1), (2, .inl x2)]) B dX0_month_79 hl (by decide) rfl (fun ls hl => ?_)
        exact w_X0_month_81 hSF B Z hn x0 x2 (some q6.1) q11.1 0 1 0 (hl.sub [5, 7, 4, 3, 2, 1, 0] rfl) e hp
theorem mt_X0_month (l : Launch) (G : ax_G) (hSF : ax_SF G) (x0 : Option Nat) (x1 : Int) (x2 : Int) (h : ax_H) (w : Int × ax_H) (e : f_X0_month G.2.2 x0 x1 x2 h = some w) : ax_Met l G yX0_month cX0_month 12 ((some FieldType.int)) 141 3592 [va_rf x0, .int (Int32.ofInt x1), .int (Int32.ofInt x2)] h w.2 (some (.int (Int32.ofInt w.1))) :=
  ax_enter [.inr (.inr x0), .inl x1, .inl x2] (y := yX0_month) hSF (plainFor_of_name (by decide +kernel)) (Nat.le_of_ble_eq_true rfl) (fun X ls B Z hn hl => we_X0_month hSF B Z hn x0 x1 x2 hl e rfl)
def dkwX0_drawn_2 : List UInt8 := [19, 1, 177, 172]
abbrev dktX0_drawn_2 : List UInt8 := dkwX0_drawn_2 ++ []
def dkwX0_drawn_1 : List UInt8 := [28, 133, 9, 20, 0, 149, 184, 0, 5, 153, 0, 14, 42, 180, 1, 242, 27, 50, 28, 46, 167, 0, 6]
abbrev dktX0_drawn_1 : List UInt8 := dkwX0_drawn_1 ++ dktX0_drawn_2
def dkwX0_drawn_0 : List UInt8 := [42, 180, 1, 242, 198, 0, 43, 27, 133, 9, 42, 180, 1, 242, 190, 4, 100, 133, 184, 0, 5, 153, 0, 26]
abbrev dktX0_drawn_0 : List UInt8 := dkwX0_drawn_0 ++ dktX0_drawn_1
theorem dksX0_drawn_0 : cX0_drawn.data.toList.drop 0 = dktX0_drawn_0 := by decide +kernel
theorem dksX0_drawn_1 : cX0_drawn.data.toList.drop 24 = dktX0_drawn_1 := dk_seg dksX0_drawn_0 24 rfl rfl
theorem dksX0_drawn_2 : cX0_drawn.data.toList.drop 47 = dktX0_drawn_2 := dk_seg dksX0_drawn_1 23 rfl rfl
theorem dX0_drawn_0 : decode cX0_drawn 0 = .ok (.aload_n 0, 1) := dk_42 (dk_at dksX0_drawn_0 0 rfl rfl)
theorem dX0_drawn_1 : decode cX0_drawn 1 = .ok (.getfield 498, 3) := dk_180 1 242 (dk_at dksX0_drawn_0 1 rfl rfl)
theorem dX0_drawn_4 : decode cX0_drawn 4 = .ok (.ifnull 43, 3) := dk_198 0 43 (dk_at dksX0_drawn_0 4 rfl rfl)
theorem dX0_drawn_7 : decode cX0_drawn 7 = .ok (.iload_n 1, 1) := dk_27 (dk_at dksX0_drawn_0 7 rfl rfl)
theorem dX0_drawn_8 : decode cX0_drawn 8 = .ok (.i2l, 1) := dk_133 (dk_at dksX0_drawn_0 8 rfl rfl)
theorem dX0_drawn_9 : decode cX0_drawn 9 = .ok (.lconst 0, 1) := dk_9 (dk_at dksX0_drawn_0 9 rfl rfl)
theorem dX0_drawn_10 : decode cX0_drawn 10 = .ok (.aload_n 0, 1) := dk_42 (dk_at dksX0_drawn_0 10 rfl rfl)
theorem dX0_drawn_11 : decode cX0_drawn 11 = .ok (.getfield 498, 3) := dk_180 1 242 (dk_at dksX0_drawn_0 11 rfl rfl)
theorem dX0_drawn_14 : decode cX0_drawn 14 = .ok (.arraylength, 1) := dk_190 (dk_at dksX0_drawn_0 14 rfl rfl)
theorem dX0_drawn_15 : decode cX0_drawn 15 = .ok (.iconst 1, 1) := dk_4 (dk_at dksX0_drawn_0 15 rfl rfl)
theorem dX0_drawn_16 : decode cX0_drawn 16 = .ok (.isub, 1) := dk_100 (dk_at dksX0_drawn_0 16 rfl rfl)
theorem dX0_drawn_17 : decode cX0_drawn 17 = .ok (.i2l, 1) := dk_133 (dk_at dksX0_drawn_0 17 rfl rfl)
theorem dX0_drawn_18 : decode cX0_drawn 18 = .ok (.invokestatic 5, 3) := dk_184 0 5 (dk_at dksX0_drawn_0 18 rfl rfl)
theorem dX0_drawn_21 : decode cX0_drawn 21 = .ok (.ifCond .eq 26, 3) := dk_153 0 26 (dk_at dksX0_drawn_0 21 rfl rfl)
theorem dX0_drawn_24 : decode cX0_drawn 24 = .ok (.iload_n 2, 1) := dk_28 (dk_at dksX0_drawn_1 0 rfl rfl)
theorem dX0_drawn_25 : decode cX0_drawn 25 = .ok (.i2l, 1) := dk_133 (dk_at dksX0_drawn_1 1 rfl rfl)
theorem dX0_drawn_26 : decode cX0_drawn 26 = .ok (.lconst 0, 1) := dk_9 (dk_at dksX0_drawn_1 2 rfl rfl)
theorem dX0_drawn_27 : decode cX0_drawn 27 = .ok (.ldc2_w 149, 3) := dk_20 0 149 (dk_at dksX0_drawn_1 3 rfl rfl)
theorem dX0_drawn_30 : decode cX0_drawn 30 = .ok (.invokestatic 5, 3) := dk_184 0 5 (dk_at dksX0_drawn_1 6 rfl rfl)
theorem dX0_drawn_33 : decode cX0_drawn 33 = .ok (.ifCond .eq 14, 3) := dk_153 0 14 (dk_at dksX0_drawn_1 9 rfl rfl)
theorem dX0_drawn_36 : decode cX0_drawn 36 = .ok (.aload_n 0, 1) := dk_42 (dk_at dksX0_drawn_1 12 rfl rfl)
theorem dX0_drawn_37 : decode cX0_drawn 37 = .ok (.getfield 498, 3) := dk_180 1 242 (dk_at dksX0_drawn_1 13 rfl rfl)
theorem dX0_drawn_40 : decode cX0_drawn 40 = .ok (.iload_n 1, 1) := dk_27 (dk_at dksX0_drawn_1 16 rfl rfl)
theorem dX0_drawn_41 : decode cX0_drawn 41 = .ok (.aaload, 1) := dk_50 (dk_at dksX0_drawn_1 17 rfl rfl)
theorem dX0_drawn_42 : decode cX0_drawn 42 = .ok (.iload_n 2, 1) := dk_28 (dk_at dksX0_drawn_1 18 rfl rfl)
theorem dX0_drawn_43 : decode cX0_drawn 43 = .ok (.iaload, 1) := dk_46 (dk_at dksX0_drawn_1 19 rfl rfl)
theorem dX0_drawn_44 : decode cX0_drawn 44 = .ok (.goto 6, 3) := dk_167 0 6 (dk_at dksX0_drawn_1 20 rfl rfl)
theorem dX0_drawn_47 : decode cX0_drawn 47 = .ok (.ldc_w 433, 3) := dk_19 1 177 (dk_at dksX0_drawn_2 0 rfl rfl)
theorem dX0_drawn_50 : decode cX0_drawn 50 = .ok (.ireturn, 1) := dk_172 (dk_at dksX0_drawn_2 3 rfl rfl)
noncomputable def f_X0_drawn_47 (E : ax_E) (h : ax_H) : Option (Int × ax_H) :=
  some ((-1000000), h)
noncomputable def f_X0_drawn (E : ax_E) (x0 : Option Nat) (x1 : Int) (x2 : Int) (h : ax_H) : Option (Int × ax_H) :=
  (ax_gR E h x0 0 17).bind fun v1 =>
  if v1 = none then
    f_X0_drawn_47 E h
  else
    (ax_gR E h x0 0 17).bind fun v2 =>
    (ax_len E h v2 111).bind fun v3 =>
    (f_X0_in E (i2 x1) 0 (i2 (v3 - 1)) h).bind fun q4 =>
    if i2 q4.1 = 0 then
      f_X0_drawn_47 E q4.2
    else
      (f_X0_in E (i2 x2) 0 2 q4.2).bind fun q5 =>
      if i2 q5.1 = 0 then
        f_X0_drawn_47 E q5.2
      else
        (ax_gR E q5.2 x0 0 17).bind fun v6 =>
        (ax_ldR E q5.2 v6 111 x1).bind fun v7 =>
        (ax_ld E q5.2 v7 100 x2).bind fun v8 =>
        some (v8, q5.2)
set_option maxHeartbeats 4000000 in
theorem w_X0_drawn_47 {l : Launch} {G : ax_G} {X : ax_X} {Q : State → Prop} {h0 h : ax_H} {ls : Array Slot} (hSF : ax_SF G) (B : ax_BL l G X cX0_drawn 3 RX0 2 65) (Z : ax_Z X h0 ((some FieldType.int))) (hn : X.2.2.2.2.2.2.2.2.1.name = yX0_drawn.name) {w : Int × ax_H} (hl : ax_hl ls 3 []) (e : f_X0_drawn_47 G.2.2 h = some w) (hp : (fun w : Int × ax_H => Q = ax_Q G X h0 w.2 (some (.int (Int32.ofInt w.1)))) w) : ax_W G X Q h 47 ls [] := by
  unfold f_X0_drawn_47 at e
  refine ax_ldcw B cn_X0_433 dX0_drawn_47 ?_
  have e8 := e
  have hp : Q = _ := hp
  subst hp
  exact ax_ireturn B Z dX0_drawn_50 e8
set_option maxHeartbeats 4000000 in
theorem we_X0_drawn {l : Launch} {G : ax_G} {X : ax_X} {Q : State → Prop} {h0 h : ax_H} {ls : Array Slot} (hSF : ax_SF G) (B : ax_BL l G X cX0_drawn 3 RX0 2 65) (Z : ax_Z X h0 ((some FieldType.int))) (hn : X.2.2.2.2.2.2.2.2.1.name = yX0_drawn.name) (x0 : Option Nat) (x1 : Int) (x2 : Int) {w : Int × ax_H} (hl : ax_hl ls 3 [(0, .inr (.inr x0)), (1, .inl x1), (2, .inl x2)]) (e : f_X0_drawn G.2.2 x0 x1 x2 h = some w) (hp : (fun w : Int × ax_H => Q = ax_Q G X h0 w.2 (some (.int (Int32.ofInt w.1)))) w) : ax_W G X Q h 0 ls [] := by
  unfold f_X0_drawn at e
  refine ax_aload_n B dX0_drawn_0 rfl hl 0 rfl ?_
  refine ax_getR B ff_X0_498_0 (fun _ _ => rfl) dX0_drawn_1 e (fun v1 e => ?_)
  refine ax_ifnull (tgt := 47) B dX0_drawn_4 (by decide) e (fun e => ?_) (fun e => ?_)
  · exact w_X0_drawn_47 hSF B Z hn (hl.sub [] rfl) e hp
  · refine ax_iload_n B dX0_drawn_7 rfl hl 1 rfl ?_
    refine ax_i2l' B dX0_drawn_8 ?_
    refine ax_lconst (v := 0) B dX0_drawn_9 rfl ?_
    refine ax_aload_n B dX0_drawn_10 rfl hl 0 rfl ?_
    refine ax_getR B ff_X0_498_0 (fun _ _ => rfl) dX0_drawn_11 e (fun v2 e => ?_)
    refine ax_alen B kd111 dX0_drawn_14 e (fun v3 e => ?_)
    refine ax_iconst B dX0_drawn_15 ?_
    refine ax_isub' B dX0_drawn_16 ?_
    refine ax_i2l' B dX0_drawn_17 ?_
    refine ax_isI (y := yX0_in) (n := 3) (As := [.long (Int64.ofInt (i2 x1)), .long (Int64.ofInt 0), .long (Int64.ofInt (i2 (v3 - 1)))]) B (lw_S q420 q421 q125 q422) (by decide +kernel) ⟨Nat.le_of_ble_eq_true rfl, Nat.le_of_ble_eq_true rfl⟩ (fun w1 e1 => mt_X0_in l G hSF (i2 x1) 0 (i2 (v3 - 1)) _ w1 e1) rfl hl.size (by decide) dX0_drawn_18 e (fun q4 e => ?_)
    refine ax_if_eq (tgt := 47) B dX0_drawn_21 (by decide) e (fun e => ?_) (fun e => ?_)
    · exact w_X0_drawn_47 hSF B Z hn (hl.sub [] rfl) e hp
    · refine ax_iload_n B dX0_drawn_24 rfl hl 2 rfl ?_
      refine ax_i2l' B dX0_drawn_25 ?_
      refine ax_lconst (v := 0) B dX0_drawn_26 rfl ?_
      refine ax_ldc2 B cn_X0_149 dX0_drawn_27 ?_
      refine ax_isI (y := yX0_in) (n := 3) (As := [.long (Int64.ofInt (i2 x2)), .long (Int64.ofInt 0), .long (Int64.ofInt 2)]) B (lw_S q420 q421 q125 q422) (by decide +kernel) ⟨Nat.le_of_ble_eq_true rfl, Nat.le_of_ble_eq_true rfl⟩ (fun w1 e1 => mt_X0_in l G hSF (i2 x2) 0 2 _ w1 e1) rfl hl.size (by decide) dX0_drawn_30 e (fun q5 e => ?_)
      refine ax_if_eq (tgt := 47) B dX0_drawn_33 (by decide) e (fun e => ?_) (fun e => ?_)
      · exact w_X0_drawn_47 hSF B Z hn (hl.sub [] rfl) e hp
      · refine ax_aload_n B dX0_drawn_36 rfl hl 0 rfl ?_
        refine ax_getR B ff_X0_498_0 (fun _ _ => rfl) dX0_drawn_37 e (fun v6 e => ?_)
        refine ax_iload_n B dX0_drawn_40 rfl hl 1 rfl ?_
        refine ax_aald rfl B kd111 dX0_drawn_41 e (fun v7 e => ?_)
        refine ax_iload_n B dX0_drawn_42 rfl hl 2 rfl ?_
        refine ax_iald B kd100 dX0_drawn_43 e (fun v8 e => ?_)
        refine ax_goto (tgt := 50) B dX0_drawn_44 (by decide) ?_
        have e8 := e
        have hp : Q = _ := hp
        subst hp
        exact ax_ireturn B Z dX0_drawn_50 e8
theorem mt_X0_drawn (l : Launch) (G : ax_G) (hSF : ax_SF G) (x0 : Option Nat) (x1 : Int) (x2 : Int) (h : ax_H) (w : Int × ax_H) (e : f_X0_drawn G.2.2 x0 x1 x2 h = some w) : ax_Met l G yX0_drawn cX0_drawn 3 ((some FieldType.int)) 2 65 [va_rf x0, .int (Int32.ofInt x1), .int (Int32.ofInt x2)] h w.2 (some (.int (Int32.ofInt w.1))) :=
  ax_enter [.inr (.inr x0), .inl x1, .inl x2] (y := yX0_drawn) hSF (plainFor_of_name (by decide +kernel)) (Nat.le_of_ble_eq_true rfl) (fun X ls B Z hn hl => we_X0_drawn hSF B Z hn x0 x1 x2 hl e rfl)
def dkwX1_copy_4 : List UInt8 := [180, 0, 60, 181, 0, 60, 43, 42, 180, 0, 38, 181, 0, 38, 43, 176]
abbrev dktX1_copy_4 : List UInt8 := dkwX1_copy_4 ++ []
def dkwX1_copy_3 : List UInt8 := [180, 0, 35, 3, 43, 180, 0, 35, 3, 16, 7, 184, 0, 51, 43, 42, 180, 0, 57, 181, 0, 57, 43, 42]
abbrev dktX1_copy_3 : List UInt8 := dkwX1_copy_3 ++ dktX1_copy_4
def dkwX1_copy_2 : List UInt8 := [42, 180, 0, 27, 182, 0, 47, 87, 42, 180, 0, 31, 3, 43, 180, 0, 31, 3, 16, 7, 184, 0, 51, 42]
abbrev dktX1_copy_2 : List UInt8 := dkwX1_copy_2 ++ dktX1_copy_3
def dkwX1_copy_1 : List UInt8 := [42, 180, 0, 18, 182, 0, 43, 87, 43, 180, 0, 21, 42, 180, 0, 21, 182, 0, 43, 87, 43, 180, 0, 27]
abbrev dktX1_copy_1 : List UInt8 := dkwX1_copy_1 ++ dktX1_copy_2
def dkwX1_copy_0 : List UInt8 := [187, 0, 13, 89, 183, 0, 42, 76, 43, 180, 0, 12, 42, 180, 0, 12, 182, 0, 43, 87, 43, 180, 0, 18]
abbrev dktX1_copy_0 : List UInt8 := dkwX1_copy_0 ++ dktX1_copy_1
theorem dksX1_copy_0 : cX1_copy.data.toList.drop 0 = dktX1_copy_0 := by decide +kernel
theorem dksX1_copy_1 : cX1_copy.data.toList.drop 24 = dktX1_copy_1 := dk_seg dksX1_copy_0 24 rfl rfl
theorem dksX1_copy_2 : cX1_copy.data.toList.drop 48 = dktX1_copy_2 := dk_seg dksX1_copy_1 24 rfl rfl
theorem dksX1_copy_3 : cX1_copy.data.toList.drop 72 = dktX1_copy_3 := dk_seg dksX1_copy_2 24 rfl rfl
theorem dksX1_copy_4 : cX1_copy.data.toList.drop 96 = dktX1_copy_4 := dk_seg dksX1_copy_3 24 rfl rfl
theorem dX1_copy_0 : decode cX1_copy 0 = .ok (.new 13, 3) := dk_187 0 13 (dk_at dksX1_copy_0 0 rfl rfl)
theorem dX1_copy_3 : decode cX1_copy 3 = .ok (.dup, 1) := dk_89 (dk_at dksX1_copy_0 3 rfl rfl)
theorem dX1_copy_4 : decode cX1_copy 4 = .ok (.invokespecial 42, 3) := dk_183 0 42 (dk_at dksX1_copy_0 4 rfl rfl)
theorem dX1_copy_7 : decode cX1_copy 7 = .ok (.astore_n 1, 1) := dk_76 (dk_at dksX1_copy_0 7 rfl rfl)
theorem dX1_copy_8 : decode cX1_copy 8 = .ok (.aload_n 1, 1) := dk_43 (dk_at dksX1_copy_0 8 rfl rfl)
theorem dX1_copy_9 : decode cX1_copy 9 = .ok (.getfield 12, 3) := dk_180 0 12 (dk_at dksX1_copy_0 9 rfl rfl)
theorem dX1_copy_12 : decode cX1_copy 12 = .ok (.aload_n 0, 1) := dk_42 (dk_at dksX1_copy_0 12 rfl rfl)
theorem dX1_copy_13 : decode cX1_copy 13 = .ok (.getfield 12, 3) := dk_180 0 12 (dk_at dksX1_copy_0 13 rfl rfl)
theorem dX1_copy_16 : decode cX1_copy 16 = .ok (.invokevirtual 43, 3) := dk_182 0 43 (dk_at dksX1_copy_0 16 rfl rfl)
theorem dX1_copy_19 : decode cX1_copy 19 = .ok (.pop, 1) := dk_87 (dk_at dksX1_copy_0 19 rfl rfl)
theorem dX1_copy_20 : decode cX1_copy 20 = .ok (.aload_n 1, 1) := dk_43 (dk_at dksX1_copy_0 20 rfl rfl)
theorem dX1_copy_21 : decode cX1_copy 21 = .ok (.getfield 18, 3) := dk_180 0 18 (dk_at dksX1_copy_0 21 rfl rfl)
theorem dX1_copy_24 : decode cX1_copy 24 = .ok (.aload_n 0, 1) := dk_42 (dk_at dksX1_copy_1 0 rfl rfl)
theorem dX1_copy_25 : decode cX1_copy 25 = .ok (.getfield 18, 3) := dk_180 0 18 (dk_at dksX1_copy_1 1 rfl rfl)
theorem dX1_copy_28 : decode cX1_copy 28 = .ok (.invokevirtual 43, 3) := dk_182 0 43 (dk_at dksX1_copy_1 4 rfl rfl)
theorem dX1_copy_31 : decode cX1_copy 31 = .ok (.pop, 1) := dk_87 (dk_at dksX1_copy_1 7 rfl rfl)
theorem dX1_copy_32 : decode cX1_copy 32 = .ok (.aload_n 1, 1) := dk_43 (dk_at dksX1_copy_1 8 rfl rfl)
theorem dX1_copy_33 : decode cX1_copy 33 = .ok (.getfield 21, 3) := dk_180 0 21 (dk_at dksX1_copy_1 9 rfl rfl)
theorem dX1_copy_36 : decode cX1_copy 36 = .ok (.aload_n 0, 1) := dk_42 (dk_at dksX1_copy_1 12 rfl rfl)
theorem dX1_copy_37 : decode cX1_copy 37 = .ok (.getfield 21, 3) := dk_180 0 21 (dk_at dksX1_copy_1 13 rfl rfl)
theorem dX1_copy_40 : decode cX1_copy 40 = .ok (.invokevirtual 43, 3) := dk_182 0 43 (dk_at dksX1_copy_1 16 rfl rfl)
theorem dX1_copy_43 : decode cX1_copy 43 = .ok (.pop, 1) := dk_87 (dk_at dksX1_copy_1 19 rfl rfl)
theorem dX1_copy_44 : decode cX1_copy 44 = .ok (.aload_n 1, 1) := dk_43 (dk_at dksX1_copy_1 20 rfl rfl)
theorem dX1_copy_45 : decode cX1_copy 45 = .ok (.getfield 27, 3) := dk_180 0 27 (dk_at dksX1_copy_1 21 rfl rfl)
theorem dX1_copy_48 : decode cX1_copy 48 = .ok (.aload_n 0, 1) := dk_42 (dk_at dksX1_copy_2 0 rfl rfl)
theorem dX1_copy_49 : decode cX1_copy 49 = .ok (.getfield 27, 3) := dk_180 0 27 (dk_at dksX1_copy_2 1 rfl rfl)
theorem dX1_copy_52 : decode cX1_copy 52 = .ok (.invokevirtual 47, 3) := dk_182 0 47 (dk_at dksX1_copy_2 4 rfl rfl)
theorem dX1_copy_55 : decode cX1_copy 55 = .ok (.pop, 1) := dk_87 (dk_at dksX1_copy_2 7 rfl rfl)
theorem dX1_copy_56 : decode cX1_copy 56 = .ok (.aload_n 0, 1) := dk_42 (dk_at dksX1_copy_2 8 rfl rfl)
theorem dX1_copy_57 : decode cX1_copy 57 = .ok (.getfield 31, 3) := dk_180 0 31 (dk_at dksX1_copy_2 9 rfl rfl)
theorem dX1_copy_60 : decode cX1_copy 60 = .ok (.iconst 0, 1) := dk_3 (dk_at dksX1_copy_2 12 rfl rfl)
theorem dX1_copy_61 : decode cX1_copy 61 = .ok (.aload_n 1, 1) := dk_43 (dk_at dksX1_copy_2 13 rfl rfl)
theorem dX1_copy_62 : decode cX1_copy 62 = .ok (.getfield 31, 3) := dk_180 0 31 (dk_at dksX1_copy_2 14 rfl rfl)
theorem dX1_copy_65 : decode cX1_copy 65 = .ok (.iconst 0, 1) := dk_3 (dk_at dksX1_copy_2 17 rfl rfl)
theorem dX1_copy_66 : decode cX1_copy 66 = .ok (.bipush 7, 2) := dk_16 7 (dk_at dksX1_copy_2 18 rfl rfl)
theorem dX1_copy_68 : decode cX1_copy 68 = .ok (.invokestatic 51, 3) := dk_184 0 51 (dk_at dksX1_copy_2 20 rfl rfl)
theorem dX1_copy_71 : decode cX1_copy 71 = .ok (.aload_n 0, 1) := dk_42 (dk_at dksX1_copy_2 23 rfl rfl)
theorem dX1_copy_72 : decode cX1_copy 72 = .ok (.getfield 35, 3) := dk_180 0 35 (dk_at dksX1_copy_3 0 rfl rfl)
theorem dX1_copy_75 : decode cX1_copy 75 = .ok (.iconst 0, 1) := dk_3 (dk_at dksX1_copy_3 3 rfl rfl)
theorem dX1_copy_76 : decode cX1_copy 76 = .ok (.aload_n 1, 1) := dk_43 (dk_at dksX1_copy_3 4 rfl rfl)
theorem dX1_copy_77 : decode cX1_copy 77 = .ok (.getfield 35, 3) := dk_180 0 35 (dk_at dksX1_copy_3 5 rfl rfl)
theorem dX1_copy_80 : decode cX1_copy 80 = .ok (.iconst 0, 1) := dk_3 (dk_at dksX1_copy_3 8 rfl rfl)
theorem dX1_copy_81 : decode cX1_copy 81 = .ok (.bipush 7, 2) := dk_16 7 (dk_at dksX1_copy_3 9 rfl rfl)
theorem dX1_copy_83 : decode cX1_copy 83 = .ok (.invokestatic 51, 3) := dk_184 0 51 (dk_at dksX1_copy_3 11 rfl rfl)
theorem dX1_copy_86 : decode cX1_copy 86 = .ok (.aload_n 1, 1) := dk_43 (dk_at dksX1_copy_3 14 rfl rfl)
theorem dX1_copy_87 : decode cX1_copy 87 = .ok (.aload_n 0, 1) := dk_42 (dk_at dksX1_copy_3 15 rfl rfl)
theorem dX1_copy_88 : decode cX1_copy 88 = .ok (.getfield 57, 3) := dk_180 0 57 (dk_at dksX1_copy_3 16 rfl rfl)
theorem dX1_copy_91 : decode cX1_copy 91 = .ok (.putfield 57, 3) := dk_181 0 57 (dk_at dksX1_copy_3 19 rfl rfl)
theorem dX1_copy_94 : decode cX1_copy 94 = .ok (.aload_n 1, 1) := dk_43 (dk_at dksX1_copy_3 22 rfl rfl)
theorem dX1_copy_95 : decode cX1_copy 95 = .ok (.aload_n 0, 1) := dk_42 (dk_at dksX1_copy_3 23 rfl rfl)
theorem dX1_copy_96 : decode cX1_copy 96 = .ok (.getfield 60, 3) := dk_180 0 60 (dk_at dksX1_copy_4 0 rfl rfl)
theorem dX1_copy_99 : decode cX1_copy 99 = .ok (.putfield 60, 3) := dk_181 0 60 (dk_at dksX1_copy_4 3 rfl rfl)
theorem dX1_copy_102 : decode cX1_copy 102 = .ok (.aload_n 1, 1) := dk_43 (dk_at dksX1_copy_4 6 rfl rfl)
theorem dX1_copy_103 : decode cX1_copy 103 = .ok (.aload_n 0, 1) := dk_42 (dk_at dksX1_copy_4 7 rfl rfl)
theorem dX1_copy_104 : decode cX1_copy 104 = .ok (.getfield 38, 3) := dk_180 0 38 (dk_at dksX1_copy_4 8 rfl rfl)
theorem dX1_copy_107 : decode cX1_copy 107 = .ok (.putfield 38, 3) := dk_181 0 38 (dk_at dksX1_copy_4 11 rfl rfl)
theorem dX1_copy_110 : decode cX1_copy 110 = .ok (.aload_n 1, 1) := dk_43 (dk_at dksX1_copy_4 14 rfl rfl)
theorem dX1_copy_111 : decode cX1_copy 111 = .ok (.areturn, 1) := dk_176 (dk_at dksX1_copy_4 15 rfl rfl)
noncomputable def f_X1_copy (E : ax_E) (x0 : Option Nat) (h : ax_H) : Option (Option Nat × ax_H) :=
  (ax_nw E h 1 0 9).bind fun q1 =>
  (some q1.1).bind fun _ => (f_X1_init E (some q1.1) q1.2).bind fun h2 =>
  (ax_gR E h2 (some q1.1) 1 0).bind fun v3 =>
  (ax_gR E h2 x0 1 0).bind fun v4 =>
  (ax_ce E h2 v3 42).bind fun _ => (f_J2_addAll E v3 v4 h2).bind fun q5 =>
  (ax_gR E q5.2 (some q1.1) 1 1).bind fun v6 =>
  (ax_gR E q5.2 x0 1 1).bind fun v7 =>
  (ax_ce E q5.2 v6 42).bind fun _ => (f_J2_addAll E v6 v7 q5.2).bind fun q8 =>
  (ax_gR E q8.2 (some q1.1) 1 2).bind fun v9 =>
  (ax_gR E q8.2 x0 1 2).bind fun v10 =>
  (ax_ce E q8.2 v9 42).bind fun _ => (f_J2_addAll E v9 v10 q8.2).bind fun q11 =>
  (ax_gR E q11.2 (some q1.1) 1 3).bind fun v12 =>
  (ax_gR E q11.2 x0 1 3).bind fun v13 =>
  (ax_ce E q11.2 v12 2).bind fun _ => (f_X2_as E v12 v13 q11.2).bind fun q14 =>
  (ax_gR E q14.2 x0 1 4).bind fun v15 =>
  (ax_gR E q14.2 (some q1.1) 1 4).bind fun v16 =>
  (ax_cp E q14.2 ax_anyP v15 100 0 v16 0 7).bind fun h17 =>
  (ax_gR E h17 x0 1 5).bind fun v18 =>
  (ax_gR E h17 (some q1.1) 1 5).bind fun v19 =>
  (ax_cp E h17 ax_anyP v18 100 0 v19 0 7).bind fun h20 =>
  (ax_gI E h20 x0 1 6).bind fun v21 =>
  (ax_pI h20 (some q1.1) 1 6 v21).bind fun h22 =>
  (ax_gI E h22 x0 1 7).bind fun v23 =>
  (ax_pI h22 (some q1.1) 1 7 v23).bind fun h24 =>
  (ax_gI E h24 x0 1 8).bind fun v25 =>
  (ax_pI h24 (some q1.1) 1 8 v25).bind fun h26 =>
  some ((some q1.1), h26)
set_option maxHeartbeats 4000000 in
theorem we_X1_copy {l : Launch} {G : ax_G} {X : ax_X} {Q : State → Prop} {h0 h : ax_H} {ls : Array Slot} (hSF : ax_SF G) (B : ax_BL l G X cX1_copy 2 RX1 6 153) (Z : ax_Z X h0 ((some (FieldType.object "DebtDoors$Street")))) (hn : X.2.2.2.2.2.2.2.2.1.name = yX1_copy.name) (x0 : Option Nat) {w : Option Nat × ax_H} (hl : ax_hl ls 2 [(0, .inr (.inr x0))]) (e : f_X1_copy G.2.2 x0 h = some w) (hp : (fun w : Option Nat × ax_H => Q = ax_Q G X h0 w.2 (some (va_rf w.1))) w) : ax_W G X Q h 0 ls [] := by
  unfold f_X1_copy at e
  refine ax_new B kd1 in_X1 tyX1_ok (fun k hk => ax_dv _ (dfX1 k hk)) q1939 q186 q126 dX1_copy_0 e (fun q1 e => ?_)
  refine ax_dup B dX1_copy_3 (va_rf_cat _) ?_
  refine ax_iiR (y := yX1_init) (n := 0) (As := []) B q1940 q188 q126 q189 rfl (by decide +kernel) ⟨Nat.le_of_ble_eq_true rfl, Nat.le_of_ble_eq_true rfl⟩ (fun w1 e1 => mt_X1_init l G hSF (some q1.1) _ w1 e1) rfl hl.size (by simp only [List.map_cons, List.map_nil, List.sum_cons, List.sum_nil, va_rf_cat, ax_catI, ax_catL]; decide) dX1_copy_4 e (fun h2 e => ?_)
  refine ax_astore_n (L' := [(1, .inr (.inr (some q1.1))), (0, .inr (.inr x0))]) B dX1_copy_7 rfl hl (by decide) rfl (fun ls hl => ?_)
  refine ax_aload_n B dX1_copy_8 rfl hl 0 rfl ?_
  refine ax_getR B ff_X1_12_1 (fun _ _ => rfl) dX1_copy_9 e (fun v3 e => ?_)
  refine ax_aload_n B dX1_copy_12 rfl hl 1 rfl ?_
  refine ax_getR B ff_X1_12_1 (fun _ _ => rfl) dX1_copy_13 e (fun v4 e => ?_)
  refine ax_ivI (y := yJ2_addAll) (n := 1) (As := [va_rf v4]) B kd42 (lw_V q1941 q1896 q1897 q129 q1898) (by decide +kernel) ⟨Nat.le_of_ble_eq_true rfl, Nat.le_of_ble_eq_true rfl⟩ (fun w1 e1 => mt_J2_addAll l G hSF v3 v4 _ w1 e1) rfl hl.size (by decide) dX1_copy_16 e (fun q5 e => ?_)
  refine ax_pop B dX1_copy_19 (rfl) ?_
  refine ax_aload_n B dX1_copy_20 rfl hl 0 rfl ?_
  refine ax_getR B ff_X1_18_1 (fun _ _ => rfl) dX1_copy_21 e (fun v6 e => ?_)
  refine ax_aload_n B dX1_copy_24 rfl hl 1 rfl ?_
  refine ax_getR B ff_X1_18_1 (fun _ _ => rfl) dX1_copy_25 e (fun v7 e => ?_)
  refine ax_ivI (y := yJ2_addAll) (n := 1) (As := [va_rf v7]) B kd42 (lw_V q1941 q1896 q1897 q129 q1898) (by decide +kernel) ⟨Nat.le_of_ble_eq_true rfl, Nat.le_of_ble_eq_true rfl⟩ (fun w1 e1 => mt_J2_addAll l G hSF v6 v7 _ w1 e1) rfl hl.size (by decide) dX1_copy_28 e (fun q8 e => ?_)
  refine ax_pop B dX1_copy_31 (rfl) ?_
  refine ax_aload_n B dX1_copy_32 rfl hl 0 rfl ?_
  refine ax_getR B ff_X1_21_1 (fun _ _ => rfl) dX1_copy_33 e (fun v9 e => ?_)
  refine ax_aload_n B dX1_copy_36 rfl hl 1 rfl ?_
  refine ax_getR B ff_X1_21_1 (fun _ _ => rfl) dX1_copy_37 e (fun v10 e => ?_)
  refine ax_ivI (y := yJ2_addAll) (n := 1) (As := [va_rf v10]) B kd42 (lw_V q1941 q1896 q1897 q129 q1898) (by decide +kernel) ⟨Nat.le_of_ble_eq_true rfl, Nat.le_of_ble_eq_true rfl⟩ (fun w1 e1 => mt_J2_addAll l G hSF v9 v10 _ w1 e1) rfl hl.size (by decide) dX1_copy_40 e (fun q11 e => ?_)
  refine ax_pop B dX1_copy_43 (rfl) ?_
  refine ax_aload_n B dX1_copy_44 rfl hl 0 rfl ?_
  refine ax_getR B ff_X1_27_1 (fun _ _ => rfl) dX1_copy_45 e (fun v12 e => ?_)
  refine ax_aload_n B dX1_copy_48 rfl hl 1 rfl ?_
  refine ax_getR B ff_X1_27_1 (fun _ _ => rfl) dX1_copy_49 e (fun v13 e => ?_)
  refine ax_ivR (y := yX2_as) (n := 1) (As := [va_rf v13]) B kd2 (lw_V q1942 q1378 q1379 q130 q1380) (by decide +kernel) ⟨Nat.le_of_ble_eq_true rfl, Nat.le_of_ble_eq_true rfl⟩ (fun w1 e1 => mt_X2_as l G hSF v12 v13 _ w1 e1) rfl hl.size (by decide) dX1_copy_52 e (fun q14 e => ?_)
  refine ax_pop B dX1_copy_55 (va_rf_cat _) ?_
  refine ax_aload_n B dX1_copy_56 rfl hl 1 rfl ?_
  refine ax_getR B ff_X1_31_1 (fun _ _ => rfl) dX1_copy_57 e (fun v15 e => ?_)
  refine ax_iconst B dX1_copy_60 ?_
  refine ax_aload_n B dX1_copy_61 rfl hl 0 rfl ?_
  refine ax_getR B ff_X1_31_1 (fun _ _ => rfl) dX1_copy_62 e (fun v16 e => ?_)
  refine ax_iconst B dX1_copy_65 ?_
  refine ax_bipush B dX1_copy_66 (by decide) ?_
  refine ax_copyI B q1943 q696 q695 q143 hl.size (by decide) (by decide) dX1_copy_68 e (fun h17 e => ?_)
  refine ax_aload_n B dX1_copy_71 rfl hl 1 rfl ?_
  refine ax_getR B ff_X1_35_1 (fun _ _ => rfl) dX1_copy_72 e (fun v18 e => ?_)
  refine ax_iconst B dX1_copy_75 ?_
  refine ax_aload_n B dX1_copy_76 rfl hl 0 rfl ?_
  refine ax_getR B ff_X1_35_1 (fun _ _ => rfl) dX1_copy_77 e (fun v19 e => ?_)
  refine ax_iconst B dX1_copy_80 ?_
  refine ax_bipush B dX1_copy_81 (by decide) ?_
  refine ax_copyI B q1943 q696 q695 q143 hl.size (by decide) (by decide) dX1_copy_83 e (fun h20 e => ?_)
  refine ax_aload_n B dX1_copy_86 rfl hl 0 rfl ?_
  refine ax_aload_n B dX1_copy_87 rfl hl 1 rfl ?_
  refine ax_getI B ff_X1_57_1 (fun _ _ => rfl) dX1_copy_88 e (fun v21 e => ?_)
  refine ax_putI B ff_X1_57_1 (Or.inl rfl) rfl dX1_copy_91 e (fun h22 e => ?_)
  refine ax_aload_n B dX1_copy_94 rfl hl 0 rfl ?_
  refine ax_aload_n B dX1_copy_95 rfl hl 1 rfl ?_
  refine ax_getI B ff_X1_60_1 (fun _ _ => rfl) dX1_copy_96 e (fun v23 e => ?_)
  refine ax_putI B ff_X1_60_1 (Or.inl rfl) rfl dX1_copy_99 e (fun h24 e => ?_)
  refine ax_aload_n B dX1_copy_102 rfl hl 0 rfl ?_
  refine ax_aload_n B dX1_copy_103 rfl hl 1 rfl ?_
  refine ax_getI B ff_X1_38_1 (fun _ _ => rfl) dX1_copy_104 e (fun v25 e => ?_)
  refine ax_putI B ff_X1_38_1 (Or.inl rfl) rfl dX1_copy_107 e (fun h26 e => ?_)
  refine ax_aload_n B dX1_copy_110 rfl hl 0 rfl ?_
  have e8 := e
  have hp : Q = _ := hp
  subst hp
  exact ax_areturn B Z (Or.inl ⟨_, rfl⟩) dX1_copy_111 e8
theorem mt_X1_copy (l : Launch) (G : ax_G) (hSF : ax_SF G) (x0 : Option Nat) (h : ax_H) (w : Option Nat × ax_H) (e : f_X1_copy G.2.2 x0 h = some w) : ax_Met l G yX1_copy cX1_copy 2 ((some (FieldType.object "DebtDoors$Street"))) 6 153 [va_rf x0] h w.2 (some (va_rf w.1)) :=
  ax_enter [.inr (.inr x0)] (y := yX1_copy) hSF (plainFor_of_name (by decide +kernel)) (Nat.le_of_ble_eq_true rfl) (fun X ls B Z hn hl => we_X1_copy hSF B Z hn x0 hl e rfl)
def dkwX0_image_1 : List UInt8 := [180, 0, 20, 182, 1, 246, 83, 42, 3, 182, 0, 94, 172]
abbrev dktX0_image_1 : List UInt8 := dkwX0_image_1 ++ []
def dkwX0_image_0 : List UInt8 := [27, 133, 9, 10, 184, 0, 5, 154, 0, 9, 42, 2, 182, 0, 94, 172, 42, 180, 0, 24, 27, 42]
abbrev dktX0_image_0 : List UInt8 := dkwX0_image_0 ++ dktX0_image_1
theorem dksX0_image_0 : cX0_image.data.toList.drop 0 = dktX0_image_0 := by decide +kernel
theorem dksX0_image_1 : cX0_image.data.toList.drop 22 = dktX0_image_1 := dk_seg dksX0_image_0 22 rfl rfl
theorem dX0_image_0 : decode cX0_image 0 = .ok (.iload_n 1, 1) := dk_27 (dk_at dksX0_image_0 0 rfl rfl)
theorem dX0_image_1 : decode cX0_image 1 = .ok (.i2l, 1) := dk_133 (dk_at dksX0_image_0 1 rfl rfl)
theorem dX0_image_2 : decode cX0_image 2 = .ok (.lconst 0, 1) := dk_9 (dk_at dksX0_image_0 2 rfl rfl)
theorem dX0_image_3 : decode cX0_image 3 = .ok (.lconst 1, 1) := dk_10 (dk_at dksX0_image_0 3 rfl rfl)
theorem dX0_image_4 : decode cX0_image 4 = .ok (.invokestatic 5, 3) := dk_184 0 5 (dk_at dksX0_image_0 4 rfl rfl)
theorem dX0_image_7 : decode cX0_image 7 = .ok (.ifCond .ne 9, 3) := dk_154 0 9 (dk_at dksX0_image_0 7 rfl rfl)
theorem dX0_image_10 : decode cX0_image 10 = .ok (.aload_n 0, 1) := dk_42 (dk_at dksX0_image_0 10 rfl rfl)
theorem dX0_image_11 : decode cX0_image 11 = .ok (.iconst (-1), 1) := dk_2 (dk_at dksX0_image_0 11 rfl rfl)
theorem dX0_image_12 : decode cX0_image 12 = .ok (.invokevirtual 94, 3) := dk_182 0 94 (dk_at dksX0_image_0 12 rfl rfl)
theorem dX0_image_15 : decode cX0_image 15 = .ok (.ireturn, 1) := dk_172 (dk_at dksX0_image_0 15 rfl rfl)
theorem dX0_image_16 : decode cX0_image 16 = .ok (.aload_n 0, 1) := dk_42 (dk_at dksX0_image_0 16 rfl rfl)
theorem dX0_image_17 : decode cX0_image 17 = .ok (.getfield 24, 3) := dk_180 0 24 (dk_at dksX0_image_0 17 rfl rfl)
theorem dX0_image_20 : decode cX0_image 20 = .ok (.iload_n 1, 1) := dk_27 (dk_at dksX0_image_0 20 rfl rfl)
theorem dX0_image_21 : decode cX0_image 21 = .ok (.aload_n 0, 1) := dk_42 (dk_at dksX0_image_0 21 rfl rfl)
theorem dX0_image_22 : decode cX0_image 22 = .ok (.getfield 20, 3) := dk_180 0 20 (dk_at dksX0_image_1 0 rfl rfl)
theorem dX0_image_25 : decode cX0_image 25 = .ok (.invokevirtual 502, 3) := dk_182 1 246 (dk_at dksX0_image_1 3 rfl rfl)
theorem dX0_image_28 : decode cX0_image 28 = .ok (.aastore, 1) := dk_83 (dk_at dksX0_image_1 6 rfl rfl)
theorem dX0_image_29 : decode cX0_image 29 = .ok (.aload_n 0, 1) := dk_42 (dk_at dksX0_image_1 7 rfl rfl)
theorem dX0_image_30 : decode cX0_image 30 = .ok (.iconst 0, 1) := dk_3 (dk_at dksX0_image_1 8 rfl rfl)
theorem dX0_image_31 : decode cX0_image 31 = .ok (.invokevirtual 94, 3) := dk_182 0 94 (dk_at dksX0_image_1 9 rfl rfl)
theorem dX0_image_34 : decode cX0_image 34 = .ok (.ireturn, 1) := dk_172 (dk_at dksX0_image_1 12 rfl rfl)
noncomputable def f_X0_image (E : ax_E) (x0 : Option Nat) (x1 : Int) (h : ax_H) : Option (Int × ax_H) :=
  (f_X0_in E (i2 x1) 0 1 h).bind fun q1 =>
  if i2 q1.1 = 0 then
    (ax_ce E q1.2 x0 0).bind fun _ => (f_X0_tell E x0 (-1) q1.2).bind fun q2 =>
    some (q2.1, q2.2)
  else
    (ax_gR E q1.2 x0 0 1).bind fun v3 =>
    (ax_gR E q1.2 x0 0 0).bind fun v4 =>
    (ax_ce E q1.2 v4 1).bind fun _ => (f_X1_copy E v4 q1.2).bind fun q5 =>
    (ax_stR E oj_105 q5.2 v3 105 x1 q5.1).bind fun h6 =>
    (ax_ce E h6 x0 0).bind fun _ => (f_X0_tell E x0 0 h6).bind fun q7 =>
    some (q7.1, q7.2)
set_option maxHeartbeats 4000000 in
theorem we_X0_image {l : Launch} {G : ax_G} {X : ax_X} {Q : State → Prop} {h0 h : ax_H} {ls : Array Slot} (hSF : ax_SF G) (B : ax_BL l G X cX0_image 2 RX0 7 174) (Z : ax_Z X h0 ((some FieldType.int))) (hn : X.2.2.2.2.2.2.2.2.1.name = yX0_image.name) (x0 : Option Nat) (x1 : Int) {w : Int × ax_H} (hl : ax_hl ls 2 [(0, .inr (.inr x0)), (1, .inl x1)]) (e : f_X0_image G.2.2 x0 x1 h = some w) (hp : (fun w : Int × ax_H => Q = ax_Q G X h0 w.2 (some (.int (Int32.ofInt w.1)))) w) : ax_W G X Q h 0 ls [] := by
  unfold f_X0_image at e
  refine ax_iload_n B dX0_image_0 rfl hl 1 rfl ?_
  refine ax_i2l' B dX0_image_1 ?_
  refine ax_lconst (v := 0) B dX0_image_2 rfl ?_
  refine ax_lconst (v := 1) B dX0_image_3 rfl ?_
  refine ax_isI (y := yX0_in) (n := 3) (As := [.long (Int64.ofInt (i2 x1)), .long (Int64.ofInt 0), .long (Int64.ofInt 1)]) B (lw_S q420 q421 q125 q422) (by decide +kernel) ⟨Nat.le_of_ble_eq_true rfl, Nat.le_of_ble_eq_true rfl⟩ (fun w1 e1 => mt_X0_in l G hSF (i2 x1) 0 1 _ w1 e1) rfl hl.size (by decide) dX0_image_4 e (fun q1 e => ?_)
  refine ax_if_ne (tgt := 16) B dX0_image_7 (by decide) e (fun e => ?_) (fun e => ?_)
  · refine ax_aload_n B dX0_image_10 rfl hl 0 rfl ?_
    refine ax_iconst B dX0_image_11 ?_
    refine ax_ivI (y := yX0_tell) (n := 1) (As := [.int (Int32.ofInt (-1))]) B kd0 (lw_V q436 q438 qs1 q125 q439) (by decide +kernel) ⟨Nat.le_of_ble_eq_true rfl, Nat.le_of_ble_eq_true rfl⟩ (fun w1 e1 => mt_X0_tell l G hSF x0 (-1) _ w1 e1) rfl hl.size (by decide) dX0_image_12 e (fun q2 e => ?_)
    have e8 := e
    have hp : Q = _ := hp
    subst hp
    exact ax_ireturn B Z dX0_image_15 e8
  · refine ax_aload_n B dX0_image_16 rfl hl 0 rfl ?_
    refine ax_getR B ff_X0_24_0 (fun _ _ => rfl) dX0_image_17 e (fun v3 e => ?_)
    refine ax_iload_n B dX0_image_20 rfl hl 1 rfl ?_
    refine ax_aload_n B dX0_image_21 rfl hl 0 rfl ?_
    refine ax_getR B ff_X0_20_0 (fun _ _ => rfl) dX0_image_22 e (fun v4 e => ?_)
    refine ax_ivR (y := yX1_copy) (n := 0) (As := []) B kd1 (lw_V q1935 q1936 q1937 q126 q1938) (by decide +kernel) ⟨Nat.le_of_ble_eq_true rfl, Nat.le_of_ble_eq_true rfl⟩ (fun w1 e1 => mt_X1_copy l G hSF v4 _ w1 e1) rfl hl.size (by simp only [List.map_cons, List.map_nil, List.sum_cons, List.sum_nil, va_rf_cat, ax_catI, ax_catL]; decide) dX0_image_25 e (fun q5 e => ?_)
    refine ax_aast B kd105 (ok_105 B) dX0_image_28 e (fun h6 e => ?_)
    refine ax_aload_n B dX0_image_29 rfl hl 0 rfl ?_
    refine ax_iconst B dX0_image_30 ?_
    refine ax_ivI (y := yX0_tell) (n := 1) (As := [.int (Int32.ofInt 0)]) B kd0 (lw_V q436 q438 qs1 q125 q439) (by decide +kernel) ⟨Nat.le_of_ble_eq_true rfl, Nat.le_of_ble_eq_true rfl⟩ (fun w1 e1 => mt_X0_tell l G hSF x0 0 _ w1 e1) rfl hl.size (by decide) dX0_image_31 e (fun q7 e => ?_)
    have e8 := e
    have hp : Q = _ := hp
    subst hp
    exact ax_ireturn B Z dX0_image_34 e8
theorem mt_X0_image (l : Launch) (G : ax_G) (hSF : ax_SF G) (x0 : Option Nat) (x1 : Int) (h : ax_H) (w : Int × ax_H) (e : f_X0_image G.2.2 x0 x1 h = some w) : ax_Met l G yX0_image cX0_image 2 ((some FieldType.int)) 7 174 [va_rf x0, .int (Int32.ofInt x1)] h w.2 (some (.int (Int32.ofInt w.1))) :=
  ax_enter [.inr (.inr x0), .inl x1] (y := yX0_image) hSF (plainFor_of_name (by decide +kernel)) (Nat.le_of_ble_eq_true rfl) (fun X ls B Z hn hl => we_X0_image hSF B Z hn x0 x1 hl e rfl)
def dkwX0_back_2 : List UInt8 := [3, 182, 0, 139, 172]
abbrev dktX0_back_2 : List UInt8 := dkwX0_back_2 ++ []
def dkwX0_back_1 : List UInt8 := [199, 0, 10, 42, 16, 254, 182, 0, 94, 172, 42, 42, 180, 0, 24, 27, 50, 182, 1, 246, 181, 0, 20, 42]
abbrev dktX0_back_1 : List UInt8 := dkwX0_back_1 ++ dktX0_back_2
def dkwX0_back_0 : List UInt8 := [27, 133, 9, 10, 184, 0, 5, 154, 0, 9, 42, 2, 182, 0, 94, 172, 42, 180, 0, 24, 27, 50]
abbrev dktX0_back_0 : List UInt8 := dkwX0_back_0 ++ dktX0_back_1
theorem dksX0_back_0 : cX0_back.data.toList.drop 0 = dktX0_back_0 := by decide +kernel
theorem dksX0_back_1 : cX0_back.data.toList.drop 22 = dktX0_back_1 := dk_seg dksX0_back_0 22 rfl rfl
theorem dksX0_back_2 : cX0_back.data.toList.drop 46 = dktX0_back_2 := dk_seg dksX0_back_1 24 rfl rfl
theorem dX0_back_0 : decode cX0_back 0 = .ok (.iload_n 1, 1) := dk_27 (dk_at dksX0_back_0 0 rfl rfl)
theorem dX0_back_1 : decode cX0_back 1 = .ok (.i2l, 1) := dk_133 (dk_at dksX0_back_0 1 rfl rfl)
theorem dX0_back_2 : decode cX0_back 2 = .ok (.lconst 0, 1) := dk_9 (dk_at dksX0_back_0 2 rfl rfl)
theorem dX0_back_3 : decode cX0_back 3 = .ok (.lconst 1, 1) := dk_10 (dk_at dksX0_back_0 3 rfl rfl)
theorem dX0_back_4 : decode cX0_back 4 = .ok (.invokestatic 5, 3) := dk_184 0 5 (dk_at dksX0_back_0 4 rfl rfl)
theorem dX0_back_7 : decode cX0_back 7 = .ok (.ifCond .ne 9, 3) := dk_154 0 9 (dk_at dksX0_back_0 7 rfl rfl)
theorem dX0_back_10 : decode cX0_back 10 = .ok (.aload_n 0, 1) := dk_42 (dk_at dksX0_back_0 10 rfl rfl)
theorem dX0_back_11 : decode cX0_back 11 = .ok (.iconst (-1), 1) := dk_2 (dk_at dksX0_back_0 11 rfl rfl)
theorem dX0_back_12 : decode cX0_back 12 = .ok (.invokevirtual 94, 3) := dk_182 0 94 (dk_at dksX0_back_0 12 rfl rfl)
theorem dX0_back_15 : decode cX0_back 15 = .ok (.ireturn, 1) := dk_172 (dk_at dksX0_back_0 15 rfl rfl)
theorem dX0_back_16 : decode cX0_back 16 = .ok (.aload_n 0, 1) := dk_42 (dk_at dksX0_back_0 16 rfl rfl)
theorem dX0_back_17 : decode cX0_back 17 = .ok (.getfield 24, 3) := dk_180 0 24 (dk_at dksX0_back_0 17 rfl rfl)
theorem dX0_back_20 : decode cX0_back 20 = .ok (.iload_n 1, 1) := dk_27 (dk_at dksX0_back_0 20 rfl rfl)
theorem dX0_back_21 : decode cX0_back 21 = .ok (.aaload, 1) := dk_50 (dk_at dksX0_back_0 21 rfl rfl)
theorem dX0_back_22 : decode cX0_back 22 = .ok (.ifnonnull 10, 3) := dk_199 0 10 (dk_at dksX0_back_1 0 rfl rfl)
theorem dX0_back_25 : decode cX0_back 25 = .ok (.aload_n 0, 1) := dk_42 (dk_at dksX0_back_1 3 rfl rfl)
theorem dX0_back_26 : decode cX0_back 26 = .ok (.bipush (-2), 2) := dk_16 254 (dk_at dksX0_back_1 4 rfl rfl)
theorem dX0_back_28 : decode cX0_back 28 = .ok (.invokevirtual 94, 3) := dk_182 0 94 (dk_at dksX0_back_1 6 rfl rfl)
theorem dX0_back_31 : decode cX0_back 31 = .ok (.ireturn, 1) := dk_172 (dk_at dksX0_back_1 9 rfl rfl)
theorem dX0_back_32 : decode cX0_back 32 = .ok (.aload_n 0, 1) := dk_42 (dk_at dksX0_back_1 10 rfl rfl)
theorem dX0_back_33 : decode cX0_back 33 = .ok (.aload_n 0, 1) := dk_42 (dk_at dksX0_back_1 11 rfl rfl)
theorem dX0_back_34 : decode cX0_back 34 = .ok (.getfield 24, 3) := dk_180 0 24 (dk_at dksX0_back_1 12 rfl rfl)
theorem dX0_back_37 : decode cX0_back 37 = .ok (.iload_n 1, 1) := dk_27 (dk_at dksX0_back_1 15 rfl rfl)
theorem dX0_back_38 : decode cX0_back 38 = .ok (.aaload, 1) := dk_50 (dk_at dksX0_back_1 16 rfl rfl)
theorem dX0_back_39 : decode cX0_back 39 = .ok (.invokevirtual 502, 3) := dk_182 1 246 (dk_at dksX0_back_1 17 rfl rfl)
theorem dX0_back_42 : decode cX0_back 42 = .ok (.putfield 20, 3) := dk_181 0 20 (dk_at dksX0_back_1 20 rfl rfl)
theorem dX0_back_45 : decode cX0_back 45 = .ok (.aload_n 0, 1) := dk_42 (dk_at dksX0_back_1 23 rfl rfl)
theorem dX0_back_46 : decode cX0_back 46 = .ok (.iconst 0, 1) := dk_3 (dk_at dksX0_back_2 0 rfl rfl)
theorem dX0_back_47 : decode cX0_back 47 = .ok (.invokevirtual 139, 3) := dk_182 0 139 (dk_at dksX0_back_2 1 rfl rfl)
theorem dX0_back_50 : decode cX0_back 50 = .ok (.ireturn, 1) := dk_172 (dk_at dksX0_back_2 4 rfl rfl)
noncomputable def f_X0_back (E : ax_E) (x0 : Option Nat) (x1 : Int) (h : ax_H) : Option (Int × ax_H) :=
  (f_X0_in E (i2 x1) 0 1 h).bind fun q1 =>
  if i2 q1.1 = 0 then
    (ax_ce E q1.2 x0 0).bind fun _ => (f_X0_tell E x0 (-1) q1.2).bind fun q2 =>
    some (q2.1, q2.2)
  else
    (ax_gR E q1.2 x0 0 1).bind fun v3 =>
    (ax_ldR E q1.2 v3 105 x1).bind fun v4 =>
    if v4 = none then
      (ax_ce E q1.2 x0 0).bind fun _ => (f_X0_tell E x0 (-2) q1.2).bind fun q5 =>
      some (q5.1, q5.2)
    else
      (ax_gR E q1.2 x0 0 1).bind fun v6 =>
      (ax_ldR E q1.2 v6 105 x1).bind fun v7 =>
      (ax_ce E q1.2 v7 1).bind fun _ => (f_X1_copy E v7 q1.2).bind fun q8 =>
      (ax_pR q8.2 x0 0 0 q8.1).bind fun h9 =>
      (ax_ce E h9 x0 0).bind fun _ => (f_X0_settled E x0 0 h9).bind fun q10 =>
      some (q10.1, q10.2)
set_option maxHeartbeats 4000000 in
theorem we_X0_back {l : Launch} {G : ax_G} {X : ax_X} {Q : State → Prop} {h0 h : ax_H} {ls : Array Slot} (hSF : ax_SF G) (B : ax_BL l G X cX0_back 2 RX0 7 174) (Z : ax_Z X h0 ((some FieldType.int))) (hn : X.2.2.2.2.2.2.2.2.1.name = yX0_back.name) (x0 : Option Nat) (x1 : Int) {w : Int × ax_H} (hl : ax_hl ls 2 [(0, .inr (.inr x0)), (1, .inl x1)]) (e : f_X0_back G.2.2 x0 x1 h = some w) (hp : (fun w : Int × ax_H => Q = ax_Q G X h0 w.2 (some (.int (Int32.ofInt w.1)))) w) : ax_W G X Q h 0 ls [] := by
  unfold f_X0_back at e
  refine ax_iload_n B dX0_back_0 rfl hl 1 rfl ?_
  refine ax_i2l' B dX0_back_1 ?_
  refine ax_lconst (v := 0) B dX0_back_2 rfl ?_
  refine ax_lconst (v := 1) B dX0_back_3 rfl ?_
  refine ax_isI (y := yX0_in) (n := 3) (As := [.long (Int64.ofInt (i2 x1)), .long (Int64.ofInt 0), .long (Int64.ofInt 1)]) B (lw_S q420 q421 q125 q422) (by decide +kernel) ⟨Nat.le_of_ble_eq_true rfl, Nat.le_of_ble_eq_true rfl⟩ (fun w1 e1 => mt_X0_in l G hSF (i2 x1) 0 1 _ w1 e1) rfl hl.size (by decide) dX0_back_4 e (fun q1 e => ?_)
  refine ax_if_ne (tgt := 16) B dX0_back_7 (by decide) e (fun e => ?_) (fun e => ?_)
  · refine ax_aload_n B dX0_back_10 rfl hl 0 rfl ?_
    refine ax_iconst B dX0_back_11 ?_
    refine ax_ivI (y := yX0_tell) (n := 1) (As := [.int (Int32.ofInt (-1))]) B kd0 (lw_V q436 q438 qs1 q125 q439) (by decide +kernel) ⟨Nat.le_of_ble_eq_true rfl, Nat.le_of_ble_eq_true rfl⟩ (fun w1 e1 => mt_X0_tell l G hSF x0 (-1) _ w1 e1) rfl hl.size (by decide) dX0_back_12 e (fun q2 e => ?_)
    have e8 := e
    have hp : Q = _ := hp
    subst hp
    exact ax_ireturn B Z dX0_back_15 e8
  · refine ax_aload_n B dX0_back_16 rfl hl 0 rfl ?_
    refine ax_getR B ff_X0_24_0 (fun _ _ => rfl) dX0_back_17 e (fun v3 e => ?_)
    refine ax_iload_n B dX0_back_20 rfl hl 1 rfl ?_
    refine ax_aald rfl B kd105 dX0_back_21 e (fun v4 e => ?_)
    refine ax_ifnonnull (tgt := 32) B dX0_back_22 (by decide) e (fun e => ?_) (fun e => ?_)
    · refine ax_aload_n B dX0_back_25 rfl hl 0 rfl ?_
      refine ax_bipush B dX0_back_26 (by decide) ?_
      refine ax_ivI (y := yX0_tell) (n := 1) (As := [.int (Int32.ofInt (-2))]) B kd0 (lw_V q436 q438 qs1 q125 q439) (by decide +kernel) ⟨Nat.le_of_ble_eq_true rfl, Nat.le_of_ble_eq_true rfl⟩ (fun w1 e1 => mt_X0_tell l G hSF x0 (-2) _ w1 e1) rfl hl.size (by decide) dX0_back_28 e (fun q5 e => ?_)
      have e8 := e
      have hp : Q = _ := hp
      subst hp
      exact ax_ireturn B Z dX0_back_31 e8
    · refine ax_aload_n B dX0_back_32 rfl hl 0 rfl ?_
      refine ax_aload_n B dX0_back_33 rfl hl 0 rfl ?_
      refine ax_getR B ff_X0_24_0 (fun _ _ => rfl) dX0_back_34 e (fun v6 e => ?_)
      refine ax_iload_n B dX0_back_37 rfl hl 1 rfl ?_
      refine ax_aald rfl B kd105 dX0_back_38 e (fun v7 e => ?_)
      refine ax_ivR (y := yX1_copy) (n := 0) (As := []) B kd1 (lw_V q1935 q1936 q1937 q126 q1938) (by decide +kernel) ⟨Nat.le_of_ble_eq_true rfl, Nat.le_of_ble_eq_true rfl⟩ (fun w1 e1 => mt_X1_copy l G hSF v7 _ w1 e1) rfl hl.size (by simp only [List.map_cons, List.map_nil, List.sum_cons, List.sum_nil, va_rf_cat, ax_catI, ax_catL]; decide) dX0_back_39 e (fun q8 e => ?_)
      refine ax_putR B ff_X0_20_0 (Or.inl rfl) rfl dX0_back_42 e (fun h9 e => ?_)
      refine ax_aload_n B dX0_back_45 rfl hl 0 rfl ?_
      refine ax_iconst B dX0_back_46 ?_
      refine ax_ivI (y := yX0_settled) (n := 1) (As := [.int (Int32.ofInt 0)]) B kd0 (lw_V q447 q449 qs3 q125 q450) (by decide +kernel) ⟨Nat.le_of_ble_eq_true rfl, Nat.le_of_ble_eq_true rfl⟩ (fun w1 e1 => mt_X0_settled l G hSF x0 0 _ w1 e1) rfl hl.size (by decide) dX0_back_47 e (fun q10 e => ?_)
      have e8 := e
      have hp : Q = _ := hp
      subst hp
      exact ax_ireturn B Z dX0_back_50 e8
theorem mt_X0_back (l : Launch) (G : ax_G) (hSF : ax_SF G) (x0 : Option Nat) (x1 : Int) (h : ax_H) (w : Int × ax_H) (e : f_X0_back G.2.2 x0 x1 h = some w) : ax_Met l G yX0_back cX0_back 2 ((some FieldType.int)) 7 174 [va_rf x0, .int (Int32.ofInt x1)] h w.2 (some (.int (Int32.ofInt w.1))) :=
  ax_enter [.inr (.inr x0), .inl x1] (y := yX0_back) hSF (plainFor_of_name (by decide +kernel)) (Nat.le_of_ble_eq_true rfl) (fun X ls B Z hn hl => we_X0_back hSF B Z hn x0 x1 hl e rfl)
def dkwX0_count_7 : List UInt8 := [180, 0, 20, 180, 0, 197, 172, 2, 172]
abbrev dktX0_count_7 : List UInt8 := dkwX0_count_7 ++ []
def dkwX0_count_6 : List UInt8 := [180, 0, 56, 16, 6, 46, 172, 42, 180, 0, 20, 180, 0, 239, 172, 42, 182, 0, 104, 180, 0, 194, 172, 42]
abbrev dktX0_count_6 : List UInt8 := dkwX0_count_6 ++ dktX0_count_7
def dkwX0_count_5 : List UInt8 := [42, 180, 0, 56, 5, 46, 172, 42, 180, 0, 56, 6, 46, 172, 42, 180, 0, 56, 8, 46, 172, 42]
abbrev dktX0_count_5 : List UInt8 := dkwX0_count_5 ++ dktX0_count_6
def dkwX0_count_4 : List UInt8 := [182, 0, 218, 172, 42, 180, 0, 31, 182, 0, 218, 172, 42, 180, 0, 114, 172, 42, 180, 0, 56, 4, 46, 172]
abbrev dktX0_count_4 : List UInt8 := dkwX0_count_4 ++ dktX0_count_5
def dkwX0_count_3 : List UInt8 := [182, 0, 218, 172, 42, 180, 0, 20, 180, 1, 181, 182, 0, 218, 172, 42, 180, 0, 20, 180, 0, 215]
abbrev dktX0_count_3 : List UInt8 := dkwX0_count_3 ++ dktX0_count_4
def dkwX0_count_2 : List UInt8 := [42, 180, 0, 20, 180, 0, 101, 172, 42, 182, 0, 104, 180, 0, 107, 172, 42, 180, 0, 20, 180, 1, 87]
abbrev dktX0_count_2 : List UInt8 := dkwX0_count_2 ++ dktX0_count_3
def dkwX0_count_1 : List UInt8 := [170, 0, 0, 0, 0, 0, 197, 0, 0, 0, 0, 0, 0, 0, 14, 0, 0, 0, 75, 0, 0, 0, 83, 0, 0, 0, 91, 0, 0, 0, 102, 0, 0, 0, 113, 0, 0, 0, 124, 0, 0, 0, 132, 0, 0, 0, 137, 0, 0, 0, 144, 0, 0, 0, 151, 0, 0, 0, 158, 0, 0, 0, 165, 0, 0, 0, 173, 0, 0, 0, 181, 0, 0, 0, 189]
abbrev dktX0_count_1 : List UInt8 := dkwX0_count_1 ++ dktX0_count_2
def dkwX0_count_0 : List UInt8 := [27]
abbrev dktX0_count_0 : List UInt8 := dkwX0_count_0 ++ dktX0_count_1
theorem dksX0_count_0 : cX0_count.data.toList.drop 0 = dktX0_count_0 := by decide +kernel
theorem dksX0_count_1 : cX0_count.data.toList.drop 1 = dktX0_count_1 := dk_seg dksX0_count_0 1 rfl rfl
theorem dksX0_count_2 : cX0_count.data.toList.drop 76 = dktX0_count_2 := dk_seg dksX0_count_1 75 rfl rfl
theorem dksX0_count_3 : cX0_count.data.toList.drop 99 = dktX0_count_3 := dk_seg dksX0_count_2 23 rfl rfl
theorem dksX0_count_4 : cX0_count.data.toList.drop 121 = dktX0_count_4 := dk_seg dksX0_count_3 22 rfl rfl
theorem dksX0_count_5 : cX0_count.data.toList.drop 145 = dktX0_count_5 := dk_seg dksX0_count_4 24 rfl rfl
theorem dksX0_count_6 : cX0_count.data.toList.drop 167 = dktX0_count_6 := dk_seg dksX0_count_5 22 rfl rfl
theorem dksX0_count_7 : cX0_count.data.toList.drop 191 = dktX0_count_7 := dk_seg dksX0_count_6 24 rfl rfl
theorem dX0_count_0 : decode cX0_count 0 = .ok (.iload_n 1, 1) := dk_27 (dk_at dksX0_count_0 0 rfl rfl)
theorem dX0_count_1 : decode cX0_count 1 = .ok (.tableswitch 197 0 14 #[75, 83, 91, 102, 113, 124, 132, 137, 144, 151, 158, 165, 173, 181, 189], 75) := by decide +kernel
theorem dX0_count_76 : decode cX0_count 76 = .ok (.aload_n 0, 1) := dk_42 (dk_at dksX0_count_2 0 rfl rfl)
theorem dX0_count_77 : decode cX0_count 77 = .ok (.getfield 20, 3) := dk_180 0 20 (dk_at dksX0_count_2 1 rfl rfl)
theorem dX0_count_80 : decode cX0_count 80 = .ok (.getfield 101, 3) := dk_180 0 101 (dk_at dksX0_count_2 4 rfl rfl)
theorem dX0_count_83 : decode cX0_count 83 = .ok (.ireturn, 1) := dk_172 (dk_at dksX0_count_2 7 rfl rfl)
theorem dX0_count_84 : decode cX0_count 84 = .ok (.aload_n 0, 1) := dk_42 (dk_at dksX0_count_2 8 rfl rfl)
theorem dX0_count_85 : decode cX0_count 85 = .ok (.invokevirtual 104, 3) := dk_182 0 104 (dk_at dksX0_count_2 9 rfl rfl)
theorem dX0_count_88 : decode cX0_count 88 = .ok (.getfield 107, 3) := dk_180 0 107 (dk_at dksX0_count_2 12 rfl rfl)
theorem dX0_count_91 : decode cX0_count 91 = .ok (.ireturn, 1) := dk_172 (dk_at dksX0_count_2 15 rfl rfl)
theorem dX0_count_92 : decode cX0_count 92 = .ok (.aload_n 0, 1) := dk_42 (dk_at dksX0_count_2 16 rfl rfl)
theorem dX0_count_93 : decode cX0_count 93 = .ok (.getfield 20, 3) := dk_180 0 20 (dk_at dksX0_count_2 17 rfl rfl)
theorem dX0_count_96 : decode cX0_count 96 = .ok (.getfield 343, 3) := dk_180 1 87 (dk_at dksX0_count_2 20 rfl rfl)
theorem dX0_count_99 : decode cX0_count 99 = .ok (.invokevirtual 218, 3) := dk_182 0 218 (dk_at dksX0_count_3 0 rfl rfl)
theorem dX0_count_102 : decode cX0_count 102 = .ok (.ireturn, 1) := dk_172 (dk_at dksX0_count_3 3 rfl rfl)
theorem dX0_count_103 : decode cX0_count 103 = .ok (.aload_n 0, 1) := dk_42 (dk_at dksX0_count_3 4 rfl rfl)
theorem dX0_count_104 : decode cX0_count 104 = .ok (.getfield 20, 3) := dk_180 0 20 (dk_at dksX0_count_3 5 rfl rfl)
theorem dX0_count_107 : decode cX0_count 107 = .ok (.getfield 437, 3) := dk_180 1 181 (dk_at dksX0_count_3 8 rfl rfl)
theorem dX0_count_110 : decode cX0_count 110 = .ok (.invokevirtual 218, 3) := dk_182 0 218 (dk_at dksX0_count_3 11 rfl rfl)
theorem dX0_count_113 : decode cX0_count 113 = .ok (.ireturn, 1) := dk_172 (dk_at dksX0_count_3 14 rfl rfl)
theorem dX0_count_114 : decode cX0_count 114 = .ok (.aload_n 0, 1) := dk_42 (dk_at dksX0_count_3 15 rfl rfl)
theorem dX0_count_115 : decode cX0_count 115 = .ok (.getfield 20, 3) := dk_180 0 20 (dk_at dksX0_count_3 16 rfl rfl)
theorem dX0_count_118 : decode cX0_count 118 = .ok (.getfield 215, 3) := dk_180 0 215 (dk_at dksX0_count_3 19 rfl rfl)
theorem dX0_count_121 : decode cX0_count 121 = .ok (.invokevirtual 218, 3) := dk_182 0 218 (dk_at dksX0_count_4 0 rfl rfl)
theorem dX0_count_124 : decode cX0_count 124 = .ok (.ireturn, 1) := dk_172 (dk_at dksX0_count_4 3 rfl rfl)
theorem dX0_count_125 : decode cX0_count 125 = .ok (.aload_n 0, 1) := dk_42 (dk_at dksX0_count_4 4 rfl rfl)
theorem dX0_count_126 : decode cX0_count 126 = .ok (.getfield 31, 3) := dk_180 0 31 (dk_at dksX0_count_4 5 rfl rfl)
theorem dX0_count_129 : decode cX0_count 129 = .ok (.invokevirtual 218, 3) := dk_182 0 218 (dk_at dksX0_count_4 8 rfl rfl)
theorem dX0_count_132 : decode cX0_count 132 = .ok (.ireturn, 1) := dk_172 (dk_at dksX0_count_4 11 rfl rfl)
theorem dX0_count_133 : decode cX0_count 133 = .ok (.aload_n 0, 1) := dk_42 (dk_at dksX0_count_4 12 rfl rfl)
theorem dX0_count_134 : decode cX0_count 134 = .ok (.getfield 114, 3) := dk_180 0 114 (dk_at dksX0_count_4 13 rfl rfl)
theorem dX0_count_137 : decode cX0_count 137 = .ok (.ireturn, 1) := dk_172 (dk_at dksX0_count_4 16 rfl rfl)
theorem dX0_count_138 : decode cX0_count 138 = .ok (.aload_n 0, 1) := dk_42 (dk_at dksX0_count_4 17 rfl rfl)
theorem dX0_count_139 : decode cX0_count 139 = .ok (.getfield 56, 3) := dk_180 0 56 (dk_at dksX0_count_4 18 rfl rfl)
theorem dX0_count_142 : decode cX0_count 142 = .ok (.iconst 1, 1) := dk_4 (dk_at dksX0_count_4 21 rfl rfl)
theorem dX0_count_143 : decode cX0_count 143 = .ok (.iaload, 1) := dk_46 (dk_at dksX0_count_4 22 rfl rfl)
theorem dX0_count_144 : decode cX0_count 144 = .ok (.ireturn, 1) := dk_172 (dk_at dksX0_count_4 23 rfl rfl)
theorem dX0_count_145 : decode cX0_count 145 = .ok (.aload_n 0, 1) := dk_42 (dk_at dksX0_count_5 0 rfl rfl)
theorem dX0_count_146 : decode cX0_count 146 = .ok (.getfield 56, 3) := dk_180 0 56 (dk_at dksX0_count_5 1 rfl rfl)
theorem dX0_count_149 : decode cX0_count 149 = .ok (.iconst 2, 1) := dk_5 (dk_at dksX0_count_5 4 rfl rfl)
theorem dX0_count_150 : decode cX0_count 150 = .ok (.iaload, 1) := dk_46 (dk_at dksX0_count_5 5 rfl rfl)
theorem dX0_count_151 : decode cX0_count 151 = .ok (.ireturn, 1) := dk_172 (dk_at dksX0_count_5 6 rfl rfl)
theorem dX0_count_152 : decode cX0_count 152 = .ok (.aload_n 0, 1) := dk_42 (dk_at dksX0_count_5 7 rfl rfl)
theorem dX0_count_153 : decode cX0_count 153 = .ok (.getfield 56, 3) := dk_180 0 56 (dk_at dksX0_count_5 8 rfl rfl)
theorem dX0_count_156 : decode cX0_count 156 = .ok (.iconst 3, 1) := dk_6 (dk_at dksX0_count_5 11 rfl rfl)
theorem dX0_count_157 : decode cX0_count 157 = .ok (.iaload, 1) := dk_46 (dk_at dksX0_count_5 12 rfl rfl)
theorem dX0_count_158 : decode cX0_count 158 = .ok (.ireturn, 1) := dk_172 (dk_at dksX0_count_5 13 rfl rfl)
theorem dX0_count_159 : decode cX0_count 159 = .ok (.aload_n 0, 1) := dk_42 (dk_at dksX0_count_5 14 rfl rfl)
theorem dX0_count_160 : decode cX0_count 160 = .ok (.getfield 56, 3) := dk_180 0 56 (dk_at dksX0_count_5 15 rfl rfl)
theorem dX0_count_163 : decode cX0_count 163 = .ok (.iconst 5, 1) := dk_8 (dk_at dksX0_count_5 18 rfl rfl)
theorem dX0_count_164 : decode cX0_count 164 = .ok (.iaload, 1) := dk_46 (dk_at dksX0_count_5 19 rfl rfl)
theorem dX0_count_165 : decode cX0_count 165 = .ok (.ireturn, 1) := dk_172 (dk_at dksX0_count_5 20 rfl rfl)
theorem dX0_count_166 : decode cX0_count 166 = .ok (.aload_n 0, 1) := dk_42 (dk_at dksX0_count_5 21 rfl rfl)
theorem dX0_count_167 : decode cX0_count 167 = .ok (.getfield 56, 3) := dk_180 0 56 (dk_at dksX0_count_6 0 rfl rfl)
theorem dX0_count_170 : decode cX0_count 170 = .ok (.bipush 6, 2) := dk_16 6 (dk_at dksX0_count_6 3 rfl rfl)
theorem dX0_count_172 : decode cX0_count 172 = .ok (.iaload, 1) := dk_46 (dk_at dksX0_count_6 5 rfl rfl)
theorem dX0_count_173 : decode cX0_count 173 = .ok (.ireturn, 1) := dk_172 (dk_at dksX0_count_6 6 rfl rfl)
theorem dX0_count_174 : decode cX0_count 174 = .ok (.aload_n 0, 1) := dk_42 (dk_at dksX0_count_6 7 rfl rfl)
theorem dX0_count_175 : decode cX0_count 175 = .ok (.getfield 20, 3) := dk_180 0 20 (dk_at dksX0_count_6 8 rfl rfl)
theorem dX0_count_178 : decode cX0_count 178 = .ok (.getfield 239, 3) := dk_180 0 239 (dk_at dksX0_count_6 11 rfl rfl)
theorem dX0_count_181 : decode cX0_count 181 = .ok (.ireturn, 1) := dk_172 (dk_at dksX0_count_6 14 rfl rfl)
theorem dX0_count_182 : decode cX0_count 182 = .ok (.aload_n 0, 1) := dk_42 (dk_at dksX0_count_6 15 rfl rfl)
theorem dX0_count_183 : decode cX0_count 183 = .ok (.invokevirtual 104, 3) := dk_182 0 104 (dk_at dksX0_count_6 16 rfl rfl)
theorem dX0_count_186 : decode cX0_count 186 = .ok (.getfield 194, 3) := dk_180 0 194 (dk_at dksX0_count_6 19 rfl rfl)
theorem dX0_count_189 : decode cX0_count 189 = .ok (.ireturn, 1) := dk_172 (dk_at dksX0_count_6 22 rfl rfl)
theorem dX0_count_190 : decode cX0_count 190 = .ok (.aload_n 0, 1) := dk_42 (dk_at dksX0_count_6 23 rfl rfl)
theorem dX0_count_191 : decode cX0_count 191 = .ok (.getfield 20, 3) := dk_180 0 20 (dk_at dksX0_count_7 0 rfl rfl)
theorem dX0_count_194 : decode cX0_count 194 = .ok (.getfield 197, 3) := dk_180 0 197 (dk_at dksX0_count_7 3 rfl rfl)
theorem dX0_count_197 : decode cX0_count 197 = .ok (.ireturn, 1) := dk_172 (dk_at dksX0_count_7 6 rfl rfl)
theorem dX0_count_198 : decode cX0_count 198 = .ok (.iconst (-1), 1) := dk_2 (dk_at dksX0_count_7 7 rfl rfl)
theorem dX0_count_199 : decode cX0_count 199 = .ok (.ireturn, 1) := dk_172 (dk_at dksX0_count_7 8 rfl rfl)
noncomputable def f_X0_count (E : ax_E) (x0 : Option Nat) (x1 : Int) (h : ax_H) : Option (Int × ax_H) :=
  if i2 x1 = 0 then
    (ax_gR E h x0 0 0).bind fun v1 =>
    (ax_gI E h v1 1 6).bind fun v2 =>
    some (v2, h)
  else if i2 x1 = 1 then
    (ax_ce E h x0 0).bind fun _ => (f_X0_books E x0 h).bind fun q3 =>
    (ax_gI E q3.2 q3.1 2 5).bind fun v4 =>
    some (v4, q3.2)
  else if i2 x1 = 2 then
    (ax_gR E h x0 0 0).bind fun v5 =>
    (ax_gR E h v5 1 1).bind fun v6 =>
    (ax_ce E h v6 42).bind fun _ => (f_J2_size E v6 h).bind fun q7 =>
    some (q7.1, q7.2)
  else if i2 x1 = 3 then
    (ax_gR E h x0 0 0).bind fun v8 =>
    (ax_gR E h v8 1 2).bind fun v9 =>
    (ax_ce E h v9 42).bind fun _ => (f_J2_size E v9 h).bind fun q10 =>
    some (q10.1, q10.2)
  else if i2 x1 = 4 then
    (ax_gR E h x0 0 0).bind fun v11 =>
    (ax_gR E h v11 1 0).bind fun v12 =>
    (ax_ce E h v12 42).bind fun _ => (f_J2_size E v12 h).bind fun q13 =>
    some (q13.1, q13.2)
  else if i2 x1 = 5 then
    (ax_gR E h x0 0 2).bind fun v14 =>
    (ax_ce E h v14 42).bind fun _ => (f_J2_size E v14 h).bind fun q15 =>
    some (q15.1, q15.2)
  else if i2 x1 = 6 then
    (ax_gI E h x0 0 12).bind fun v16 =>
    some (v16, h)
  else if i2 x1 = 7 then
    (ax_gR E h x0 0 6).bind fun v17 =>
    (ax_ld E h v17 100 1).bind fun v18 =>
    some (v18, h)
  else if i2 x1 = 8 then
    (ax_gR E h x0 0 6).bind fun v19 =>
    (ax_ld E h v19 100 2).bind fun v20 =>
    some (v20, h)
  else if i2 x1 = 9 then
    (ax_gR E h x0 0 6).bind fun v21 =>
    (ax_ld E h v21 100 3).bind fun v22 =>
    some (v22, h)
  else if i2 x1 = 10 then
    (ax_gR E h x0 0 6).bind fun v23 =>
    (ax_ld E h v23 100 5).bind fun v24 =>
    some (v24, h)
  else if i2 x1 = 11 then
    (ax_gR E h x0 0 6).bind fun v25 =>
    (ax_ld E h v25 100 6).bind fun v26 =>
    some (v26, h)
  else if i2 x1 = 12 then
    (ax_gR E h x0 0 0).bind fun v27 =>
    (ax_gI E h v27 1 8).bind fun v28 =>
    some (v28, h)
  else if i2 x1 = 13 then
    (ax_ce E h x0 0).bind fun _ => (f_X0_books E x0 h).bind fun q29 =>
    (ax_gI E q29.2 q29.1 2 6).bind fun v30 =>
    some (v30, q29.2)
  else if i2 x1 = 14 then
    (ax_gR E h x0 0 0).bind fun v31 =>
    (ax_gI E h v31 1 7).bind fun v32 =>
    some (v32, h)
  else 
    some ((-1), h)
set_option maxHeartbeats 4000000 in
theorem we_X0_count {l : Launch} {G : ax_G} {X : ax_X} {Q : State → Prop} {h0 h : ax_H} {ls : Array Slot} (hSF : ax_SF G) (B : ax_BL l G X cX0_count 2 RX0 2 60) (Z : ax_Z X h0 ((some FieldType.int))) (hn : X.2.2.2.2.2.2.2.2.1.name = yX0_count.name) (x0 : Option Nat) (x1 : Int) {w : Int × ax_H} (hl : ax_hl ls 2 [(0, .inr (.inr x0)), (1, .inl x1)]) (e : f_X0_count G.2.2 x0 x1 h = some w) (hp : (fun w : Int × ax_H => Q = ax_Q G X h0 w.2 (some (.int (Int32.ofInt w.1)))) w) : ax_W G X Q h 0 ls [] := by
  unfold f_X0_count at e
  refine ax_iload_n B dX0_count_0 rfl hl 1 rfl ?_
  rcases ax_ite e with ⟨hk0, e⟩ | ⟨hk0, e⟩
  · refine ax_tswIn (tgt := 76) (off := 75) B dX0_count_1 (by omega) (by omega) (by rw [hk0]; rfl) (by decide) ?_
    refine ax_aload_n B dX0_count_76 rfl hl 0 rfl ?_
    refine ax_getR B ff_X0_20_0 (fun _ _ => rfl) dX0_count_77 e (fun v1 e => ?_)
    refine ax_getI B ff_X0_101_1 (fun _ _ => rfl) dX0_count_80 e (fun v2 e => ?_)
    have e8 := e
    have hp : Q = _ := hp
    subst hp
    exact ax_ireturn B Z dX0_count_83 e8
  rcases ax_ite e with ⟨hk1, e⟩ | ⟨hk1, e⟩
  · refine ax_tswIn (tgt := 84) (off := 83) B dX0_count_1 (by omega) (by omega) (by rw [hk1]; rfl) (by decide) ?_
    refine ax_aload_n B dX0_count_84 rfl hl 0 rfl ?_
    refine ax_ivR (y := yX0_books) (n := 0) (As := []) B kd0 (lw_V q443 q445 qs2 q125 q446) (by decide +kernel) ⟨Nat.le_of_ble_eq_true rfl, Nat.le_of_ble_eq_true rfl⟩ (fun w1 e1 => mt_X0_books l G hSF x0 _ w1 e1) rfl hl.size (by decide) dX0_count_85 e (fun q3 e => ?_)
    refine ax_getI B ff_X0_107_2 (fun _ _ => rfl) dX0_count_88 e (fun v4 e => ?_)
    have e8 := e
    have hp : Q = _ := hp
    subst hp
    exact ax_ireturn B Z dX0_count_91 e8
  rcases ax_ite e with ⟨hk2, e⟩ | ⟨hk2, e⟩
  · refine ax_tswIn (tgt := 92) (off := 91) B dX0_count_1 (by omega) (by omega) (by rw [hk2]; rfl) (by decide) ?_
    refine ax_aload_n B dX0_count_92 rfl hl 0 rfl ?_
    refine ax_getR B ff_X0_20_0 (fun _ _ => rfl) dX0_count_93 e (fun v5 e => ?_)
    refine ax_getR B ff_X0_343_1 (fun _ _ => rfl) dX0_count_96 e (fun v6 e => ?_)
    refine ax_ivI (y := yJ2_size) (n := 0) (As := []) B kd42 (lw_V q709 q710 q711 q129 q712) (by decide +kernel) ⟨Nat.le_of_ble_eq_true rfl, Nat.le_of_ble_eq_true rfl⟩ (fun w1 e1 => mt_J2_size l G hSF v6 _ w1 e1) rfl hl.size (by decide) dX0_count_99 e (fun q7 e => ?_)
    have e8 := e
    have hp : Q = _ := hp
    subst hp
    exact ax_ireturn B Z dX0_count_102 e8
  rcases ax_ite e with ⟨hk3, e⟩ | ⟨hk3, e⟩
  · refine ax_tswIn (tgt := 103) (off := 102) B dX0_count_1 (by omega) (by omega) (by rw [hk3]; rfl) (by decide) ?_
    refine ax_aload_n B dX0_count_103 rfl hl 0 rfl ?_
    refine ax_getR B ff_X0_20_0 (fun _ _ => rfl) dX0_count_104 e (fun v8 e => ?_)
    refine ax_getR B ff_X0_437_1 (fun _ _ => rfl) dX0_count_107 e (fun v9 e => ?_)
    refine ax_ivI (y := yJ2_size) (n := 0) (As := []) B kd42 (lw_V q709 q710 q711 q129 q712) (by decide +kernel) ⟨Nat.le_of_ble_eq_true rfl, Nat.le_of_ble_eq_true rfl⟩ (fun w1 e1 => mt_J2_size l G hSF v9 _ w1 e1) rfl hl.size (by decide) dX0_count_110 e (fun q10 e => ?_)
    have e8 := e
    have hp : Q = _ := hp
    subst hp
    exact ax_ireturn B Z dX0_count_113 e8
  rcases ax_ite e with ⟨hk4, e⟩ | ⟨hk4, e⟩
  · refine ax_tswIn (tgt := 114) (off := 113) B dX0_count_1 (by omega) (by omega) (by rw [hk4]; rfl) (by decide) ?_
    refine ax_aload_n B dX0_count_114 rfl hl 0 rfl ?_
    refine ax_getR B ff_X0_20_0 (fun _ _ => rfl) dX0_count_115 e (fun v11 e => ?_)
    refine ax_getR B ff_X0_215_1 (fun _ _ => rfl) dX0_count_118 e (fun v12 e => ?_)
    refine ax_ivI (y := yJ2_size) (n := 0) (As := []) B kd42 (lw_V q709 q710 q711 q129 q712) (by decide +kernel) ⟨Nat.le_of_ble_eq_true rfl, Nat.le_of_ble_eq_true rfl⟩ (fun w1 e1 => mt_J2_size l G hSF v12 _ w1 e1) rfl hl.size (by decide) dX0_count_121 e (fun q13 e => ?_)
    have e8 := e
    have hp : Q = _ := hp
    subst hp
    exact ax_ireturn B Z dX0_count_124 e8
  rcases ax_ite e with ⟨hk5, e⟩ | ⟨hk5, e⟩
  · refine ax_tswIn (tgt := 125) (off := 124) B dX0_count_1 (by omega) (by omega) (by rw [hk5]; rfl) (by decide) ?_
    refine ax_aload_n B dX0_count_125 rfl hl 0 rfl ?_
    refine ax_getR B ff_X0_31_0 (fun _ _ => rfl) dX0_count_126 e (fun v14 e => ?_)
    refine ax_ivI (y := yJ2_size) (n := 0) (As := []) B kd42 (lw_V q709 q710 q711 q129 q712) (by decide +kernel) ⟨Nat.le_of_ble_eq_true rfl, Nat.le_of_ble_eq_true rfl⟩ (fun w1 e1 => mt_J2_size l G hSF v14 _ w1 e1) rfl hl.size (by decide) dX0_count_129 e (fun q15 e => ?_)
    have e8 := e
    have hp : Q = _ := hp
    subst hp
    exact ax_ireturn B Z dX0_count_132 e8
  rcases ax_ite e with ⟨hk6, e⟩ | ⟨hk6, e⟩
  · refine ax_tswIn (tgt := 133) (off := 132) B dX0_count_1 (by omega) (by omega) (by rw [hk6]; rfl) (by decide) ?_
    refine ax_aload_n B dX0_count_133 rfl hl 0 rfl ?_
    refine ax_getI B ff_X0_114_0 (fun _ _ => rfl) dX0_count_134 e (fun v16 e => ?_)
    have e8 := e
    have hp : Q = _ := hp
    subst hp
    exact ax_ireturn B Z dX0_count_137 e8
  rcases ax_ite e with ⟨hk7, e⟩ | ⟨hk7, e⟩
  · refine ax_tswIn (tgt := 138) (off := 137) B dX0_count_1 (by omega) (by omega) (by rw [hk7]; rfl) (by decide) ?_
    refine ax_aload_n B dX0_count_138 rfl hl 0 rfl ?_
    refine ax_getR B ff_X0_56_0 (fun _ _ => rfl) dX0_count_139 e (fun v17 e => ?_)
    refine ax_iconst B dX0_count_142 ?_
    refine ax_iald B kd100 dX0_count_143 e (fun v18 e => ?_)
    have e8 := e
    have hp : Q = _ := hp
    subst hp
    exact ax_ireturn B Z dX0_count_144 e8
  rcases ax_ite e with ⟨hk8, e⟩ | ⟨hk8, e⟩
  · refine ax_tswIn (tgt := 145) (off := 144) B dX0_count_1 (by omega) (by omega) (by rw [hk8]; rfl) (by decide) ?_
    refine ax_aload_n B dX0_count_145 rfl hl 0 rfl ?_
    refine ax_getR B ff_X0_56_0 (fun _ _ => rfl) dX0_count_146 e (fun v19 e => ?_)
    refine ax_iconst B dX0_count_149 ?_
    refine ax_iald B kd100 dX0_count_150 e (fun v20 e => ?_)
    have e8 := e
    have hp : Q = _ := hp
    subst hp
    exact ax_ireturn B Z dX0_count_151 e8
  rcases ax_ite e with ⟨hk9, e⟩ | ⟨hk9, e⟩
  · refine ax_tswIn (tgt := 152) (off := 151) B dX0_count_1 (by omega) (by omega) (by rw [hk9]; rfl) (by decide) ?_
    refine ax_aload_n B dX0_count_152 rfl hl 0 rfl ?_
    refine ax_getR B ff_X0_56_0 (fun _ _ => rfl) dX0_count_153 e (fun v21 e => ?_)
    refine ax_iconst B dX0_count_156 ?_
    refine ax_iald B kd100 dX0_count_157 e (fun v22 e => ?_)
    have e8 := e
    have hp : Q = _ := hp
    subst hp
    exact ax_ireturn B Z dX0_count_158 e8
  rcases ax_ite e with ⟨hk10, e⟩ | ⟨hk10, e⟩
  · refine ax_tswIn (tgt := 159) (off := 158) B dX0_count_1 (by omega) (by omega) (by rw [hk10]; rfl) (by decide) ?_
    refine ax_aload_n B dX0_count_159 rfl hl 0 rfl ?_
    refine ax_getR B ff_X0_56_0 (fun _ _ => rfl) dX0_count_160 e (fun v23 e => ?_)
    refine ax_iconst B dX0_count_163 ?_
    refine ax_iald B kd100 dX0_count_164 e (fun v24 e => ?_)
    have e8 := e
    have hp : Q = _ := hp
    subst hp
    exact ax_ireturn B Z dX0_count_165 e8
  rcases ax_ite e with ⟨hk11, e⟩ | ⟨hk11, e⟩
  · refine ax_tswIn (tgt := 166) (off := 165) B dX0_count_1 (by omega) (by omega) (by rw [hk11]; rfl) (by decide) ?_
    refine ax_aload_n B dX0_count_166 rfl hl 0 rfl ?_
    refine ax_getR B ff_X0_56_0 (fun _ _ => rfl) dX0_count_167 e (fun v25 e => ?_)
    refine ax_bipush B dX0_count_170 (by decide) ?_
    refine ax_iald B kd100 dX0_count_172 e (fun v26 e => ?_)
    have e8 := e
    have hp : Q = _ := hp
    subst hp
    exact ax_ireturn B Z dX0_count_173 e8
  rcases ax_ite e with ⟨hk12, e⟩ | ⟨hk12, e⟩
  · refine ax_tswIn (tgt := 174) (off := 173) B dX0_count_1 (by omega) (by omega) (by rw [hk12]; rfl) (by decide) ?_
    refine ax_aload_n B dX0_count_174 rfl hl 0 rfl ?_
    refine ax_getR B ff_X0_20_0 (fun _ _ => rfl) dX0_count_175 e (fun v27 e => ?_)
    refine ax_getI B ff_X0_239_1 (fun _ _ => rfl) dX0_count_178 e (fun v28 e => ?_)
    have e8 := e
    have hp : Q = _ := hp
    subst hp
    exact ax_ireturn B Z dX0_count_181 e8
  rcases ax_ite e with ⟨hk13, e⟩ | ⟨hk13, e⟩
  · refine ax_tswIn (tgt := 182) (off := 181) B dX0_count_1 (by omega) (by omega) (by rw [hk13]; rfl) (by decide) ?_
    refine ax_aload_n B dX0_count_182 rfl hl 0 rfl ?_
    refine ax_ivR (y := yX0_books) (n := 0) (As := []) B kd0 (lw_V q443 q445 qs2 q125 q446) (by decide +kernel) ⟨Nat.le_of_ble_eq_true rfl, Nat.le_of_ble_eq_true rfl⟩ (fun w1 e1 => mt_X0_books l G hSF x0 _ w1 e1) rfl hl.size (by decide) dX0_count_183 e (fun q29 e => ?_)
    refine ax_getI B ff_X0_194_2 (fun _ _ => rfl) dX0_count_186 e (fun v30 e => ?_)
    have e8 := e
    have hp : Q = _ := hp
    subst hp
    exact ax_ireturn B Z dX0_count_189 e8
  rcases ax_ite e with ⟨hk14, e⟩ | ⟨hk14, e⟩
  · refine ax_tswIn (tgt := 190) (off := 189) B dX0_count_1 (by omega) (by omega) (by rw [hk14]; rfl) (by decide) ?_
    refine ax_aload_n B dX0_count_190 rfl hl 0 rfl ?_
    refine ax_getR B ff_X0_20_0 (fun _ _ => rfl) dX0_count_191 e (fun v31 e => ?_)
    refine ax_getI B ff_X0_197_1 (fun _ _ => rfl) dX0_count_194 e (fun v32 e => ?_)
    have e8 := e
    have hp : Q = _ := hp
    subst hp
    exact ax_ireturn B Z dX0_count_197 e8
  refine ax_tswOut (tgt := 198) B dX0_count_1 (by omega) (by decide) ?_
  refine ax_iconst B dX0_count_198 ?_
  have e8 := e
  have hp : Q = _ := hp
  subst hp
  exact ax_ireturn B Z dX0_count_199 e8
theorem mt_X0_count (l : Launch) (G : ax_G) (hSF : ax_SF G) (x0 : Option Nat) (x1 : Int) (h : ax_H) (w : Int × ax_H) (e : f_X0_count G.2.2 x0 x1 h = some w) : ax_Met l G yX0_count cX0_count 2 ((some FieldType.int)) 2 60 [va_rf x0, .int (Int32.ofInt x1)] h w.2 (some (.int (Int32.ofInt w.1))) :=
  ax_enter [.inr (.inr x0), .inl x1] (y := yX0_count) hSF (plainFor_of_name (by decide +kernel)) (Nat.le_of_ble_eq_true rfl) (fun X ls B Z hn hl => we_X0_count hSF B Z hn x0 x1 hl e rfl)
theorem dX0_status_0 : decode cX0_status 0 = .ok (.aload_n 0, 1) := by decide +kernel
theorem dX0_status_1 : decode cX0_status 1 = .ok (.getfield 88, 3) := by decide +kernel
theorem dX0_status_4 : decode cX0_status 4 = .ok (.ireturn, 1) := by decide +kernel
noncomputable def f_X0_status (E : ax_E) (x0 : Option Nat) (h : ax_H) : Option (Int × ax_H) :=
  (ax_gI E h x0 0 7).bind fun v1 =>
  some (v1, h)
set_option maxHeartbeats 4000000 in
theorem we_X0_status {l : Launch} {G : ax_G} {X : ax_X} {Q : State → Prop} {h0 h : ax_H} {ls : Array Slot} (hSF : ax_SF G) (B : ax_BL l G X cX0_status 1 RX0 1 40) (Z : ax_Z X h0 ((some FieldType.int))) (hn : X.2.2.2.2.2.2.2.2.1.name = yX0_status.name) (x0 : Option Nat) {w : Int × ax_H} (hl : ax_hl ls 1 [(0, .inr (.inr x0))]) (e : f_X0_status G.2.2 x0 h = some w) (hp : (fun w : Int × ax_H => Q = ax_Q G X h0 w.2 (some (.int (Int32.ofInt w.1)))) w) : ax_W G X Q h 0 ls [] := by
  unfold f_X0_status at e
  refine ax_aload_n B dX0_status_0 rfl hl 0 rfl ?_
  refine ax_getI B ff_X0_88_0 (fun _ _ => rfl) dX0_status_1 e (fun v1 e => ?_)
  have e8 := e
  have hp : Q = _ := hp
  subst hp
  exact ax_ireturn B Z dX0_status_4 e8
theorem mt_X0_status (l : Launch) (G : ax_G) (hSF : ax_SF G) (x0 : Option Nat) (h : ax_H) (w : Int × ax_H) (e : f_X0_status G.2.2 x0 h = some w) : ax_Met l G yX0_status cX0_status 1 ((some FieldType.int)) 1 40 [va_rf x0] h w.2 (some (.int (Int32.ofInt w.1))) :=
  ax_enter [.inr (.inr x0)] (y := yX0_status) hSF (plainFor_of_name (by decide +kernel)) (Nat.le_of_ble_eq_true rfl) (fun X ls B Z hn hl => we_X0_status hSF B Z hn x0 hl e rfl)
