set_option maxRecDepth 100000
def dkwX5_ring_1 : List UInt8 := [3, 42, 180, 1, 190, 4, 100, 184, 0, 123, 153, 0, 12, 42, 180, 0, 98, 27, 46, 167, 0, 4, 2, 172]
abbrev dktX5_ring_1 : List UInt8 := dkwX5_ring_1 ++ []
def dkwX5_ring_0 : List UInt8 := [42, 182, 1, 199, 27, 2, 160, 0, 17, 42, 180, 1, 190, 158, 0, 10, 42, 180, 1, 190, 167, 0, 27, 27]
abbrev dktX5_ring_0 : List UInt8 := dkwX5_ring_0 ++ dktX5_ring_1
theorem dksX5_ring_0 : cX5_ring.data.toList.drop 0 = dktX5_ring_0 := by decide +kernel
theorem dksX5_ring_1 : cX5_ring.data.toList.drop 24 = dktX5_ring_1 := dk_seg dksX5_ring_0 24 rfl rfl
theorem dX5_ring_0 : decode cX5_ring 0 = .ok (.aload_n 0, 1) := dk_42 (dk_at dksX5_ring_0 0 rfl rfl)
theorem dX5_ring_1 : decode cX5_ring 1 = .ok (.invokevirtual 455, 3) := dk_182 1 199 (dk_at dksX5_ring_0 1 rfl rfl)
theorem dX5_ring_4 : decode cX5_ring 4 = .ok (.iload_n 1, 1) := dk_27 (dk_at dksX5_ring_0 4 rfl rfl)
theorem dX5_ring_5 : decode cX5_ring 5 = .ok (.iconst (-1), 1) := dk_2 (dk_at dksX5_ring_0 5 rfl rfl)
theorem dX5_ring_6 : decode cX5_ring 6 = .ok (.if_icmp .ne 17, 3) := dk_160 0 17 (dk_at dksX5_ring_0 6 rfl rfl)
theorem dX5_ring_9 : decode cX5_ring 9 = .ok (.aload_n 0, 1) := dk_42 (dk_at dksX5_ring_0 9 rfl rfl)
theorem dX5_ring_10 : decode cX5_ring 10 = .ok (.getfield 446, 3) := dk_180 1 190 (dk_at dksX5_ring_0 10 rfl rfl)
theorem dX5_ring_13 : decode cX5_ring 13 = .ok (.ifCond .le 10, 3) := dk_158 0 10 (dk_at dksX5_ring_0 13 rfl rfl)
theorem dX5_ring_16 : decode cX5_ring 16 = .ok (.aload_n 0, 1) := dk_42 (dk_at dksX5_ring_0 16 rfl rfl)
theorem dX5_ring_17 : decode cX5_ring 17 = .ok (.getfield 446, 3) := dk_180 1 190 (dk_at dksX5_ring_0 17 rfl rfl)
theorem dX5_ring_20 : decode cX5_ring 20 = .ok (.goto 27, 3) := dk_167 0 27 (dk_at dksX5_ring_0 20 rfl rfl)
theorem dX5_ring_23 : decode cX5_ring 23 = .ok (.iload_n 1, 1) := dk_27 (dk_at dksX5_ring_0 23 rfl rfl)
theorem dX5_ring_24 : decode cX5_ring 24 = .ok (.iconst 0, 1) := dk_3 (dk_at dksX5_ring_1 0 rfl rfl)
theorem dX5_ring_25 : decode cX5_ring 25 = .ok (.aload_n 0, 1) := dk_42 (dk_at dksX5_ring_1 1 rfl rfl)
theorem dX5_ring_26 : decode cX5_ring 26 = .ok (.getfield 446, 3) := dk_180 1 190 (dk_at dksX5_ring_1 2 rfl rfl)
theorem dX5_ring_29 : decode cX5_ring 29 = .ok (.iconst 1, 1) := dk_4 (dk_at dksX5_ring_1 5 rfl rfl)
theorem dX5_ring_30 : decode cX5_ring 30 = .ok (.isub, 1) := dk_100 (dk_at dksX5_ring_1 6 rfl rfl)
theorem dX5_ring_31 : decode cX5_ring 31 = .ok (.invokestatic 123, 3) := dk_184 0 123 (dk_at dksX5_ring_1 7 rfl rfl)
theorem dX5_ring_34 : decode cX5_ring 34 = .ok (.ifCond .eq 12, 3) := dk_153 0 12 (dk_at dksX5_ring_1 10 rfl rfl)
theorem dX5_ring_37 : decode cX5_ring 37 = .ok (.aload_n 0, 1) := dk_42 (dk_at dksX5_ring_1 13 rfl rfl)
theorem dX5_ring_38 : decode cX5_ring 38 = .ok (.getfield 98, 3) := dk_180 0 98 (dk_at dksX5_ring_1 14 rfl rfl)
theorem dX5_ring_41 : decode cX5_ring 41 = .ok (.iload_n 1, 1) := dk_27 (dk_at dksX5_ring_1 17 rfl rfl)
theorem dX5_ring_42 : decode cX5_ring 42 = .ok (.iaload, 1) := dk_46 (dk_at dksX5_ring_1 18 rfl rfl)
theorem dX5_ring_43 : decode cX5_ring 43 = .ok (.goto 4, 3) := dk_167 0 4 (dk_at dksX5_ring_1 19 rfl rfl)
theorem dX5_ring_46 : decode cX5_ring 46 = .ok (.iconst (-1), 1) := dk_2 (dk_at dksX5_ring_1 22 rfl rfl)
theorem dX5_ring_47 : decode cX5_ring 47 = .ok (.ireturn, 1) := dk_172 (dk_at dksX5_ring_1 23 rfl rfl)
noncomputable def f_X5_ring_23 (E : ax_E) (x0 : Option Nat) (x1 : Int) (h : ax_H) : Option (Int × ax_H) :=
  (ax_gI E h x0 5 43).bind fun v1 =>
  (f_X5_lies E x1 0 (v1 - 1) h).bind fun q2 =>
  if i2 q2.1 = 0 then
    some ((-1), q2.2)
  else
    (ax_gR E q2.2 x0 5 42).bind fun v3 =>
    (ax_ld E q2.2 v3 100 x1).bind fun v4 =>
    some (v4, q2.2)
noncomputable def f_X5_ring (E : ax_E) (x0 : Option Nat) (x1 : Int) (h : ax_H) : Option (Int × ax_H) :=
  (ax_ce E h x0 5).bind fun _ => (f_X5_findsRing E x0 h).bind fun h1 =>
  if i2 x1 = i2 (-1) then
    (ax_gI E h1 x0 5 43).bind fun v2 =>
    if 0 < i2 v2 then
      (ax_gI E h1 x0 5 43).bind fun v3 =>
      some (v3, h1)
    else
      f_X5_ring_23 E x0 x1 h1
  else
    f_X5_ring_23 E x0 x1 h1
set_option maxHeartbeats 4000000 in
theorem w_X5_ring_23 {l : Launch} {G : ax_G} {X : ax_X} {Q : State → Prop} {h0 h : ax_H} {ls : Array Slot} (hSF : ax_SF G) (B : ax_BL l G X cX5_ring 2 RX5 69 1668) (Z : ax_Z X h0 ((some FieldType.int))) (hn : X.2.2.2.2.2.2.2.2.1.name = yX5_ring.name) (x0 : Option Nat) (x1 : Int) {w : Int × ax_H} (hl : ax_hl ls 2 [(0, .inr (.inr x0)), (1, .inl x1)]) (e : f_X5_ring_23 G.2.2 x0 x1 h = some w) (hp : (fun w : Int × ax_H => Q = ax_Q G X h0 w.2 (some (.int (Int32.ofInt w.1)))) w) : ax_W G X Q h 23 ls [] := by
  unfold f_X5_ring_23 at e
  refine ax_iload_n B dX5_ring_23 rfl hl 1 rfl ?_
  refine ax_iconst B dX5_ring_24 ?_
  refine ax_aload_n B dX5_ring_25 rfl hl 0 rfl ?_
  refine ax_getI B ff_X5_446_5 (fun _ _ => rfl) dX5_ring_26 e (fun v1 e => ?_)
  refine ax_iconst B dX5_ring_29 ?_
  refine ax_isub' B dX5_ring_30 ?_
  refine ax_isI (y := yX5_lies) (n := 3) (As := [.int (Int32.ofInt x1), .int (Int32.ofInt 0), .int (Int32.ofInt (v1 - 1))]) B (lw_S q2151 q2152 q133 q2153) (by decide +kernel) ⟨Nat.le_of_ble_eq_true rfl, Nat.le_of_ble_eq_true rfl⟩ (fun w1 e1 => mt_X5_lies l G hSF x1 0 (v1 - 1) _ w1 e1) rfl hl.size (by decide) dX5_ring_31 e (fun q2 e => ?_)
  refine ax_if_eq (tgt := 46) B dX5_ring_34 (by decide) e (fun e => ?_) (fun e => ?_)
  · refine ax_iconst B dX5_ring_46 ?_
    have e8 := e
    have hp : Q = _ := hp
    subst hp
    exact ax_ireturn B Z dX5_ring_47 e8
  · refine ax_aload_n B dX5_ring_37 rfl hl 0 rfl ?_
    refine ax_getR B ff_X5_98_5 (fun _ _ => rfl) dX5_ring_38 e (fun v3 e => ?_)
    refine ax_iload_n B dX5_ring_41 rfl hl 1 rfl ?_
    refine ax_iald B kd100 dX5_ring_42 e (fun v4 e => ?_)
    refine ax_goto (tgt := 47) B dX5_ring_43 (by decide) ?_
    have e8 := e
    have hp : Q = _ := hp
    subst hp
    exact ax_ireturn B Z dX5_ring_47 e8
set_option maxHeartbeats 4000000 in
theorem we_X5_ring {l : Launch} {G : ax_G} {X : ax_X} {Q : State → Prop} {h0 h : ax_H} {ls : Array Slot} (hSF : ax_SF G) (B : ax_BL l G X cX5_ring 2 RX5 69 1668) (Z : ax_Z X h0 ((some FieldType.int))) (hn : X.2.2.2.2.2.2.2.2.1.name = yX5_ring.name) (x0 : Option Nat) (x1 : Int) {w : Int × ax_H} (hl : ax_hl ls 2 [(0, .inr (.inr x0)), (1, .inl x1)]) (e : f_X5_ring G.2.2 x0 x1 h = some w) (hp : (fun w : Int × ax_H => Q = ax_Q G X h0 w.2 (some (.int (Int32.ofInt w.1)))) w) : ax_W G X Q h 0 ls [] := by
  unfold f_X5_ring at e
  refine ax_aload_n B dX5_ring_0 rfl hl 0 rfl ?_
  refine ax_ivV (y := yX5_findsRing) (n := 0) (As := []) B kd5 (lw_V q2617 q2619 qs115 q133 q2620) (by decide +kernel) ⟨Nat.le_of_ble_eq_true rfl, Nat.le_of_ble_eq_true rfl⟩ (fun w1 e1 => mt_X5_findsRing l G hSF x0 _ w1 e1) rfl hl.size (by decide) dX5_ring_1 e (fun h1 e => ?_)
  refine ax_iload_n B dX5_ring_4 rfl hl 1 rfl ?_
  refine ax_iconst B dX5_ring_5 ?_
  refine ax_icmp_ne (tgt := 23) B dX5_ring_6 (by decide) e (fun e => ?_) (fun e => ?_)
  · refine ax_aload_n B dX5_ring_9 rfl hl 0 rfl ?_
    refine ax_getI B ff_X5_446_5 (fun _ _ => rfl) dX5_ring_10 e (fun v2 e => ?_)
    refine ax_if_le (tgt := 23) B dX5_ring_13 (by decide) e (fun e => ?_) (fun e => ?_)
    · refine ax_aload_n B dX5_ring_16 rfl hl 0 rfl ?_
      refine ax_getI B ff_X5_446_5 (fun _ _ => rfl) dX5_ring_17 e (fun v3 e => ?_)
      refine ax_goto (tgt := 47) B dX5_ring_20 (by decide) ?_
      have e8 := e
      have hp : Q = _ := hp
      subst hp
      exact ax_ireturn B Z dX5_ring_47 e8
    · exact w_X5_ring_23 hSF B Z hn x0 x1 (hl.sub [0, 1] rfl) e hp
  · exact w_X5_ring_23 hSF B Z hn x0 x1 (hl.sub [0, 1] rfl) e hp
theorem mt_X5_ring (l : Launch) (G : ax_G) (hSF : ax_SF G) (x0 : Option Nat) (x1 : Int) (h : ax_H) (w : Int × ax_H) (e : f_X5_ring G.2.2 x0 x1 h = some w) : ax_Met l G yX5_ring cX5_ring 2 ((some FieldType.int)) 69 1668 [va_rf x0, .int (Int32.ofInt x1)] h w.2 (some (.int (Int32.ofInt w.1))) :=
  ax_enter [.inr (.inr x0), .inl x1] (y := yX5_ring) hSF (plainFor_of_name (by decide +kernel)) (Nat.le_of_ble_eq_true rfl) (fun X ls B Z hn hl => we_X5_ring hSF B Z hn x0 x1 hl e rfl)
def dkwX5_ringLeast_2 : List UInt8 := [167, 255, 217, 27, 172]
abbrev dktX5_ringLeast_2 : List UInt8 := dkwX5_ringLeast_2 ++ []
def dkwX5_ringLeast_1 : List UInt8 := [180, 0, 98, 28, 4, 96, 42, 180, 1, 190, 112, 46, 182, 0, 178, 184, 1, 79, 60, 132, 2, 1]
abbrev dktX5_ringLeast_1 : List UInt8 := dkwX5_ringLeast_1 ++ dktX5_ringLeast_2
def dkwX5_ringLeast_0 : List UInt8 := [19, 1, 189, 60, 3, 61, 28, 42, 180, 1, 190, 162, 0, 37, 27, 42, 42, 180, 0, 98, 28, 46, 42]
abbrev dktX5_ringLeast_0 : List UInt8 := dkwX5_ringLeast_0 ++ dktX5_ringLeast_1
theorem dksX5_ringLeast_0 : cX5_ringLeast.data.toList.drop 0 = dktX5_ringLeast_0 := by decide +kernel
theorem dksX5_ringLeast_1 : cX5_ringLeast.data.toList.drop 23 = dktX5_ringLeast_1 := dk_seg dksX5_ringLeast_0 23 rfl rfl
theorem dksX5_ringLeast_2 : cX5_ringLeast.data.toList.drop 45 = dktX5_ringLeast_2 := dk_seg dksX5_ringLeast_1 22 rfl rfl
theorem dX5_ringLeast_0 : decode cX5_ringLeast 0 = .ok (.ldc_w 445, 3) := dk_19 1 189 (dk_at dksX5_ringLeast_0 0 rfl rfl)
theorem dX5_ringLeast_3 : decode cX5_ringLeast 3 = .ok (.istore_n 1, 1) := dk_60 (dk_at dksX5_ringLeast_0 3 rfl rfl)
theorem dX5_ringLeast_4 : decode cX5_ringLeast 4 = .ok (.iconst 0, 1) := dk_3 (dk_at dksX5_ringLeast_0 4 rfl rfl)
theorem dX5_ringLeast_5 : decode cX5_ringLeast 5 = .ok (.istore_n 2, 1) := dk_61 (dk_at dksX5_ringLeast_0 5 rfl rfl)
theorem dX5_ringLeast_6 : decode cX5_ringLeast 6 = .ok (.iload_n 2, 1) := dk_28 (dk_at dksX5_ringLeast_0 6 rfl rfl)
theorem dX5_ringLeast_7 : decode cX5_ringLeast 7 = .ok (.aload_n 0, 1) := dk_42 (dk_at dksX5_ringLeast_0 7 rfl rfl)
theorem dX5_ringLeast_8 : decode cX5_ringLeast 8 = .ok (.getfield 446, 3) := dk_180 1 190 (dk_at dksX5_ringLeast_0 8 rfl rfl)
theorem dX5_ringLeast_11 : decode cX5_ringLeast 11 = .ok (.if_icmp .ge 37, 3) := dk_162 0 37 (dk_at dksX5_ringLeast_0 11 rfl rfl)
theorem dX5_ringLeast_14 : decode cX5_ringLeast 14 = .ok (.iload_n 1, 1) := dk_27 (dk_at dksX5_ringLeast_0 14 rfl rfl)
theorem dX5_ringLeast_15 : decode cX5_ringLeast 15 = .ok (.aload_n 0, 1) := dk_42 (dk_at dksX5_ringLeast_0 15 rfl rfl)
theorem dX5_ringLeast_16 : decode cX5_ringLeast 16 = .ok (.aload_n 0, 1) := dk_42 (dk_at dksX5_ringLeast_0 16 rfl rfl)
theorem dX5_ringLeast_17 : decode cX5_ringLeast 17 = .ok (.getfield 98, 3) := dk_180 0 98 (dk_at dksX5_ringLeast_0 17 rfl rfl)
theorem dX5_ringLeast_20 : decode cX5_ringLeast 20 = .ok (.iload_n 2, 1) := dk_28 (dk_at dksX5_ringLeast_0 20 rfl rfl)
theorem dX5_ringLeast_21 : decode cX5_ringLeast 21 = .ok (.iaload, 1) := dk_46 (dk_at dksX5_ringLeast_0 21 rfl rfl)
theorem dX5_ringLeast_22 : decode cX5_ringLeast 22 = .ok (.aload_n 0, 1) := dk_42 (dk_at dksX5_ringLeast_0 22 rfl rfl)
theorem dX5_ringLeast_23 : decode cX5_ringLeast 23 = .ok (.getfield 98, 3) := dk_180 0 98 (dk_at dksX5_ringLeast_1 0 rfl rfl)
theorem dX5_ringLeast_26 : decode cX5_ringLeast 26 = .ok (.iload_n 2, 1) := dk_28 (dk_at dksX5_ringLeast_1 3 rfl rfl)
theorem dX5_ringLeast_27 : decode cX5_ringLeast 27 = .ok (.iconst 1, 1) := dk_4 (dk_at dksX5_ringLeast_1 4 rfl rfl)
theorem dX5_ringLeast_28 : decode cX5_ringLeast 28 = .ok (.iadd, 1) := dk_96 (dk_at dksX5_ringLeast_1 5 rfl rfl)
theorem dX5_ringLeast_29 : decode cX5_ringLeast 29 = .ok (.aload_n 0, 1) := dk_42 (dk_at dksX5_ringLeast_1 6 rfl rfl)
theorem dX5_ringLeast_30 : decode cX5_ringLeast 30 = .ok (.getfield 446, 3) := dk_180 1 190 (dk_at dksX5_ringLeast_1 7 rfl rfl)
theorem dX5_ringLeast_33 : decode cX5_ringLeast 33 = .ok (.irem, 1) := dk_112 (dk_at dksX5_ringLeast_1 10 rfl rfl)
theorem dX5_ringLeast_34 : decode cX5_ringLeast 34 = .ok (.iaload, 1) := dk_46 (dk_at dksX5_ringLeast_1 11 rfl rfl)
theorem dX5_ringLeast_35 : decode cX5_ringLeast 35 = .ok (.invokevirtual 178, 3) := dk_182 0 178 (dk_at dksX5_ringLeast_1 12 rfl rfl)
theorem dX5_ringLeast_38 : decode cX5_ringLeast 38 = .ok (.invokestatic 335, 3) := dk_184 1 79 (dk_at dksX5_ringLeast_1 15 rfl rfl)
theorem dX5_ringLeast_41 : decode cX5_ringLeast 41 = .ok (.istore_n 1, 1) := dk_60 (dk_at dksX5_ringLeast_1 18 rfl rfl)
theorem dX5_ringLeast_42 : decode cX5_ringLeast 42 = .ok (.iinc 2 1, 3) := dk_132 2 1 (dk_at dksX5_ringLeast_1 19 rfl rfl)
theorem dX5_ringLeast_45 : decode cX5_ringLeast 45 = .ok (.goto (-39), 3) := dk_167 255 217 (dk_at dksX5_ringLeast_2 0 rfl rfl)
theorem dX5_ringLeast_48 : decode cX5_ringLeast 48 = .ok (.iload_n 1, 1) := dk_27 (dk_at dksX5_ringLeast_2 3 rfl rfl)
theorem dX5_ringLeast_49 : decode cX5_ringLeast 49 = .ok (.ireturn, 1) := dk_172 (dk_at dksX5_ringLeast_2 4 rfl rfl)
noncomputable def lb_X5_ringLeast_6 (E : ax_E) (x0 : Option Nat) (x1 : Int) (x2 : Int) (h : ax_H) : Option ((Int × Int × ax_H) ⊕ (Int × ax_H)) :=
  (ax_gI E h x0 5 43).bind fun v1 =>
  if i2 x2 < i2 v1 then
    (ax_gR E h x0 5 42).bind fun v2 =>
    (ax_ld E h v2 100 x2).bind fun v3 =>
    (ax_gR E h x0 5 42).bind fun v4 =>
    (ax_gI E h x0 5 43).bind fun v5 =>
    if i2 v5 = 0 then none else
    (ax_ld E h v4 100 ((i2 (x2 + 1)).tmod (i2 v5))).bind fun v6 =>
    (ax_ce E h x0 5).bind fun _ => (f_X5_owed E x0 v3 v6 h).bind fun q7 =>
    (f_X5_lesser E x1 q7.1 q7.2).bind fun q8 =>
    some (.inl (q8.1, (x2 + 1), q8.2))
  else
    (some (x1, h)).map Sum.inr
noncomputable def f_X5_ringLeast_6 (E : ax_E) (x0 : Option Nat) (x1 : Int) (x2 : Int) (h : ax_H) : Option (Int × ax_H) :=
  ax_iter (fun s : Int × Int × ax_H => lb_X5_ringLeast_6 E x0 s.1 s.2.1 s.2.2) (x1, x2, h)
noncomputable def f_X5_ringLeast (E : ax_E) (x0 : Option Nat) (h : ax_H) : Option (Int × ax_H) :=
  f_X5_ringLeast_6 E x0 1000000000 0 h
def pi_X5_ringLeast_6 (G : ax_G) (X : ax_X) (Q : State → Prop) (x0 : Option Nat) : Int × Int × ax_H → Prop := fun s => ∀ ls : Array Slot, ax_hl ls 3 [(0, .inr (.inr x0)), (1, .inl s.1), (2, .inl s.2.1)] → ax_W G X Q s.2.2 6 ls []
set_option maxHeartbeats 4000000 in
theorem wb_X5_ringLeast_6 {l : Launch} {G : ax_G} {X : ax_X} {Q : State → Prop} {h0 h : ax_H} {ls : Array Slot} (hSF : ax_SF G) (B : ax_BL l G X cX5_ringLeast 3 RX5 3 87) (Z : ax_Z X h0 ((some FieldType.int))) (hn : X.2.2.2.2.2.2.2.2.1.name = yX5_ringLeast.name) (x0 : Option Nat) (x1 : Int) (x2 : Int) {w : (Int × Int × ax_H) ⊕ (Int × ax_H)} (hl : ax_hl ls 3 [(0, .inr (.inr x0)), (1, .inl x1), (2, .inl x2)]) (e : lb_X5_ringLeast_6 G.2.2 x0 x1 x2 h = some w) (hp : (ax_PL (pi_X5_ringLeast_6 G X Q x0) (fun w : Int × ax_H => Q = ax_Q G X h0 w.2 (some (.int (Int32.ofInt w.1))))) w) : ax_W G X Q h 6 ls [] := by
  unfold lb_X5_ringLeast_6 at e
  refine ax_iload_n B dX5_ringLeast_6 rfl hl 2 rfl ?_
  refine ax_aload_n B dX5_ringLeast_7 rfl hl 0 rfl ?_
  refine ax_getI B ff_X5_446_5 (fun _ _ => rfl) dX5_ringLeast_8 e (fun v1 e => ?_)
  refine ax_icmp_ge (tgt := 48) B dX5_ringLeast_11 (by decide) e (fun e => ?_) (fun e => ?_)
  · refine ax_iload_n B dX5_ringLeast_14 rfl hl 1 rfl ?_
    refine ax_aload_n B dX5_ringLeast_15 rfl hl 0 rfl ?_
    refine ax_aload_n B dX5_ringLeast_16 rfl hl 0 rfl ?_
    refine ax_getR B ff_X5_98_5 (fun _ _ => rfl) dX5_ringLeast_17 e (fun v2 e => ?_)
    refine ax_iload_n B dX5_ringLeast_20 rfl hl 2 rfl ?_
    refine ax_iald B kd100 dX5_ringLeast_21 e (fun v3 e => ?_)
    refine ax_aload_n B dX5_ringLeast_22 rfl hl 0 rfl ?_
    refine ax_getR B ff_X5_98_5 (fun _ _ => rfl) dX5_ringLeast_23 e (fun v4 e => ?_)
    refine ax_iload_n B dX5_ringLeast_26 rfl hl 2 rfl ?_
    refine ax_iconst B dX5_ringLeast_27 ?_
    refine ax_iadd' B dX5_ringLeast_28 ?_
    refine ax_aload_n B dX5_ringLeast_29 rfl hl 0 rfl ?_
    refine ax_getI B ff_X5_446_5 (fun _ _ => rfl) dX5_ringLeast_30 e (fun v5 e => ?_)
    refine ax_irem' B dX5_ringLeast_33 e (fun e => ?_)
    refine ax_iald B kd100 dX5_ringLeast_34 e (fun v6 e => ?_)
    refine ax_ivI (y := yX5_owed) (n := 2) (As := [.int (Int32.ofInt v3), .int (Int32.ofInt v6)]) B kd5 (lw_V q2234 q2236 qs52 q133 q2237) (by decide +kernel) ⟨Nat.le_of_ble_eq_true rfl, Nat.le_of_ble_eq_true rfl⟩ (fun w1 e1 => mt_X5_owed l G hSF x0 v3 v6 _ w1 e1) rfl hl.size (by simp only [List.map_cons, List.map_nil, List.sum_cons, List.sum_nil, va_rf_cat, ax_catI, ax_catL]; decide) dX5_ringLeast_35 e (fun q7 e => ?_)
    refine ax_isI (y := yX5_lesser) (n := 2) (As := [.int (Int32.ofInt x1), .int (Int32.ofInt q7.1)]) B (lw_S q2439 q2440 q133 q2441) (by decide +kernel) ⟨Nat.le_of_ble_eq_true rfl, Nat.le_of_ble_eq_true rfl⟩ (fun w1 e1 => mt_X5_lesser l G hSF x1 q7.1 _ w1 e1) rfl hl.size (by decide) dX5_ringLeast_38 e (fun q8 e => ?_)
    refine ax_istore_n (L' := [(1, .inl q8.1), (0, .inr (.inr x0)), (2, .inl x2)]) B dX5_ringLeast_41 rfl hl (by decide) rfl (fun ls hl => ?_)
    refine ax_iinc (L' := [(2, .inl (x2 + 1)), (1, .inl q8.1), (0, .inr (.inr x0))]) B dX5_ringLeast_42 hl 2 rfl (by decide) rfl (fun ls hl => ?_)
    refine ax_goto (tgt := 6) B dX5_ringLeast_45 (by decide) ?_
    cases e
    exact hp _ (hl.sub [2, 1, 0] rfl)
  · obtain ⟨w, e9_1, rfl⟩ := Option.map_eq_some_iff.mp e
    have e := e9_1
    refine ax_iload_n B dX5_ringLeast_48 rfl hl 1 rfl ?_
    have e8 := e
    have hp : Q = _ := hp
    subst hp
    exact ax_ireturn B Z dX5_ringLeast_49 e8
theorem w_X5_ringLeast_6 {l : Launch} {G : ax_G} {X : ax_X} {Q : State → Prop} {h0 h : ax_H} {ls : Array Slot} (hSF : ax_SF G) (B : ax_BL l G X cX5_ringLeast 3 RX5 3 87) (Z : ax_Z X h0 ((some FieldType.int))) (hn : X.2.2.2.2.2.2.2.2.1.name = yX5_ringLeast.name) (x0 : Option Nat) (x1 : Int) (x2 : Int) {w : Int × ax_H} (hl : ax_hl ls 3 [(0, .inr (.inr x0)), (1, .inl x1), (2, .inl x2)]) (e : f_X5_ringLeast_6 G.2.2 x0 x1 x2 h = some w) (hp : (fun w : Int × ax_H => Q = ax_Q G X h0 w.2 (some (.int (Int32.ofInt w.1)))) w) : ax_W G X Q h 6 ls [] :=
  ax_iter_W (Pin := pi_X5_ringLeast_6 G X Q x0) (Pout := (fun w : Int × ax_H => Q = ax_Q G X h0 w.2 (some (.int (Int32.ofInt w.1))))) (fun s w e hp ls hl => wb_X5_ringLeast_6 hSF B Z hn x0 s.1 s.2.1 hl e hp) _ _ e hp ls hl
set_option maxHeartbeats 4000000 in
theorem we_X5_ringLeast {l : Launch} {G : ax_G} {X : ax_X} {Q : State → Prop} {h0 h : ax_H} {ls : Array Slot} (hSF : ax_SF G) (B : ax_BL l G X cX5_ringLeast 3 RX5 3 87) (Z : ax_Z X h0 ((some FieldType.int))) (hn : X.2.2.2.2.2.2.2.2.1.name = yX5_ringLeast.name) (x0 : Option Nat) {w : Int × ax_H} (hl : ax_hl ls 3 [(0, .inr (.inr x0))]) (e : f_X5_ringLeast G.2.2 x0 h = some w) (hp : (fun w : Int × ax_H => Q = ax_Q G X h0 w.2 (some (.int (Int32.ofInt w.1)))) w) : ax_W G X Q h 0 ls [] := by
  unfold f_X5_ringLeast at e
  refine ax_ldcw B cn_X5_445 dX5_ringLeast_0 ?_
  refine ax_istore_n (L' := [(1, .inl 1000000000), (0, .inr (.inr x0))]) B dX5_ringLeast_3 rfl hl (by decide) rfl (fun ls hl => ?_)
  refine ax_iconst B dX5_ringLeast_4 ?_
  refine ax_istore_n (L' := [(2, .inl 0), (1, .inl 1000000000), (0, .inr (.inr x0))]) B dX5_ringLeast_5 rfl hl (by decide) rfl (fun ls hl => ?_)
  exact w_X5_ringLeast_6 hSF B Z hn x0 1000000000 0 (hl.sub [2, 1, 0] rfl) e hp
theorem mt_X5_ringLeast (l : Launch) (G : ax_G) (hSF : ax_SF G) (x0 : Option Nat) (h : ax_H) (w : Int × ax_H) (e : f_X5_ringLeast G.2.2 x0 h = some w) : ax_Met l G yX5_ringLeast cX5_ringLeast 3 ((some FieldType.int)) 3 87 [va_rf x0] h w.2 (some (.int (Int32.ofInt w.1))) :=
  ax_enter [.inr (.inr x0)] (y := yX5_ringLeast) hSF (plainFor_of_name (by decide +kernel)) (Nat.le_of_ble_eq_true rfl) (fun X ls B Z hn hl => we_X5_ringLeast hSF B Z hn x0 hl e rfl)
def dkwX5_clears_1 : List UInt8 := [42, 180, 1, 190, 112, 46, 27, 182, 1, 110, 132, 2, 1, 167, 255, 221, 177]
abbrev dktX5_clears_1 : List UInt8 := dkwX5_clears_1 ++ []
def dkwX5_clears_0 : List UInt8 := [3, 61, 28, 42, 180, 1, 190, 162, 0, 33, 42, 42, 180, 0, 98, 28, 46, 42, 180, 0, 98, 28, 4, 96]
abbrev dktX5_clears_0 : List UInt8 := dkwX5_clears_0 ++ dktX5_clears_1
theorem dksX5_clears_0 : cX5_clears.data.toList.drop 0 = dktX5_clears_0 := by decide +kernel
theorem dksX5_clears_1 : cX5_clears.data.toList.drop 24 = dktX5_clears_1 := dk_seg dksX5_clears_0 24 rfl rfl
theorem dX5_clears_0 : decode cX5_clears 0 = .ok (.iconst 0, 1) := dk_3 (dk_at dksX5_clears_0 0 rfl rfl)
theorem dX5_clears_1 : decode cX5_clears 1 = .ok (.istore_n 2, 1) := dk_61 (dk_at dksX5_clears_0 1 rfl rfl)
theorem dX5_clears_2 : decode cX5_clears 2 = .ok (.iload_n 2, 1) := dk_28 (dk_at dksX5_clears_0 2 rfl rfl)
theorem dX5_clears_3 : decode cX5_clears 3 = .ok (.aload_n 0, 1) := dk_42 (dk_at dksX5_clears_0 3 rfl rfl)
theorem dX5_clears_4 : decode cX5_clears 4 = .ok (.getfield 446, 3) := dk_180 1 190 (dk_at dksX5_clears_0 4 rfl rfl)
theorem dX5_clears_7 : decode cX5_clears 7 = .ok (.if_icmp .ge 33, 3) := dk_162 0 33 (dk_at dksX5_clears_0 7 rfl rfl)
theorem dX5_clears_10 : decode cX5_clears 10 = .ok (.aload_n 0, 1) := dk_42 (dk_at dksX5_clears_0 10 rfl rfl)
theorem dX5_clears_11 : decode cX5_clears 11 = .ok (.aload_n 0, 1) := dk_42 (dk_at dksX5_clears_0 11 rfl rfl)
theorem dX5_clears_12 : decode cX5_clears 12 = .ok (.getfield 98, 3) := dk_180 0 98 (dk_at dksX5_clears_0 12 rfl rfl)
theorem dX5_clears_15 : decode cX5_clears 15 = .ok (.iload_n 2, 1) := dk_28 (dk_at dksX5_clears_0 15 rfl rfl)
theorem dX5_clears_16 : decode cX5_clears 16 = .ok (.iaload, 1) := dk_46 (dk_at dksX5_clears_0 16 rfl rfl)
theorem dX5_clears_17 : decode cX5_clears 17 = .ok (.aload_n 0, 1) := dk_42 (dk_at dksX5_clears_0 17 rfl rfl)
theorem dX5_clears_18 : decode cX5_clears 18 = .ok (.getfield 98, 3) := dk_180 0 98 (dk_at dksX5_clears_0 18 rfl rfl)
theorem dX5_clears_21 : decode cX5_clears 21 = .ok (.iload_n 2, 1) := dk_28 (dk_at dksX5_clears_0 21 rfl rfl)
theorem dX5_clears_22 : decode cX5_clears 22 = .ok (.iconst 1, 1) := dk_4 (dk_at dksX5_clears_0 22 rfl rfl)
theorem dX5_clears_23 : decode cX5_clears 23 = .ok (.iadd, 1) := dk_96 (dk_at dksX5_clears_0 23 rfl rfl)
theorem dX5_clears_24 : decode cX5_clears 24 = .ok (.aload_n 0, 1) := dk_42 (dk_at dksX5_clears_1 0 rfl rfl)
theorem dX5_clears_25 : decode cX5_clears 25 = .ok (.getfield 446, 3) := dk_180 1 190 (dk_at dksX5_clears_1 1 rfl rfl)
theorem dX5_clears_28 : decode cX5_clears 28 = .ok (.irem, 1) := dk_112 (dk_at dksX5_clears_1 4 rfl rfl)
theorem dX5_clears_29 : decode cX5_clears 29 = .ok (.iaload, 1) := dk_46 (dk_at dksX5_clears_1 5 rfl rfl)
theorem dX5_clears_30 : decode cX5_clears 30 = .ok (.iload_n 1, 1) := dk_27 (dk_at dksX5_clears_1 6 rfl rfl)
theorem dX5_clears_31 : decode cX5_clears 31 = .ok (.invokevirtual 366, 3) := dk_182 1 110 (dk_at dksX5_clears_1 7 rfl rfl)
theorem dX5_clears_34 : decode cX5_clears 34 = .ok (.iinc 2 1, 3) := dk_132 2 1 (dk_at dksX5_clears_1 10 rfl rfl)
theorem dX5_clears_37 : decode cX5_clears 37 = .ok (.goto (-35), 3) := dk_167 255 221 (dk_at dksX5_clears_1 13 rfl rfl)
theorem dX5_clears_40 : decode cX5_clears 40 = .ok (.return_, 1) := dk_177 (dk_at dksX5_clears_1 16 rfl rfl)
noncomputable def lb_X5_clears_2 (E : ax_E) (x0 : Option Nat) (x1 : Int) (x2 : Int) (h : ax_H) : Option ((Int × ax_H) ⊕ (ax_H)) :=
  (ax_gI E h x0 5 43).bind fun v1 =>
  if i2 x2 < i2 v1 then
    (ax_gR E h x0 5 42).bind fun v2 =>
    (ax_ld E h v2 100 x2).bind fun v3 =>
    (ax_gR E h x0 5 42).bind fun v4 =>
    (ax_gI E h x0 5 43).bind fun v5 =>
    if i2 v5 = 0 then none else
    (ax_ld E h v4 100 ((i2 (x2 + 1)).tmod (i2 v5))).bind fun v6 =>
    (ax_ce E h x0 5).bind fun _ => (f_X5_lowers E x0 v3 v6 x1 h).bind fun h7 =>
    some (.inl ((x2 + 1), h7))
  else
    (some h).map Sum.inr
noncomputable def f_X5_clears_2 (E : ax_E) (x0 : Option Nat) (x1 : Int) (x2 : Int) (h : ax_H) : Option (ax_H) :=
  ax_iter (fun s : Int × ax_H => lb_X5_clears_2 E x0 x1 s.1 s.2) (x2, h)
noncomputable def f_X5_clears (E : ax_E) (x0 : Option Nat) (x1 : Int) (h : ax_H) : Option (ax_H) :=
  f_X5_clears_2 E x0 x1 0 h
def pi_X5_clears_2 (G : ax_G) (X : ax_X) (Q : State → Prop) (x0 : Option Nat) (x1 : Int) : Int × ax_H → Prop := fun s => ∀ ls : Array Slot, ax_hl ls 3 [(0, .inr (.inr x0)), (1, .inl x1), (2, .inl s.1)] → ax_W G X Q s.2 2 ls []
set_option maxHeartbeats 4000000 in
theorem wb_X5_clears_2 {l : Launch} {G : ax_G} {X : ax_X} {Q : State → Prop} {h0 h : ax_H} {ls : Array Slot} (hSF : ax_SF G) (B : ax_BL l G X cX5_clears 3 RX5 4 108) (Z : ax_Z X h0 none) (hn : X.2.2.2.2.2.2.2.2.1.name = yX5_clears.name) (x0 : Option Nat) (x1 : Int) (x2 : Int) {w : (Int × ax_H) ⊕ (ax_H)} (hl : ax_hl ls 3 [(0, .inr (.inr x0)), (1, .inl x1), (2, .inl x2)]) (e : lb_X5_clears_2 G.2.2 x0 x1 x2 h = some w) (hp : (ax_PL (pi_X5_clears_2 G X Q x0 x1) (fun w : ax_H => Q = ax_Q G X h0 w none)) w) : ax_W G X Q h 2 ls [] := by
  unfold lb_X5_clears_2 at e
  refine ax_iload_n B dX5_clears_2 rfl hl 2 rfl ?_
  refine ax_aload_n B dX5_clears_3 rfl hl 0 rfl ?_
  refine ax_getI B ff_X5_446_5 (fun _ _ => rfl) dX5_clears_4 e (fun v1 e => ?_)
  refine ax_icmp_ge (tgt := 40) B dX5_clears_7 (by decide) e (fun e => ?_) (fun e => ?_)
  · refine ax_aload_n B dX5_clears_10 rfl hl 0 rfl ?_
    refine ax_aload_n B dX5_clears_11 rfl hl 0 rfl ?_
    refine ax_getR B ff_X5_98_5 (fun _ _ => rfl) dX5_clears_12 e (fun v2 e => ?_)
    refine ax_iload_n B dX5_clears_15 rfl hl 2 rfl ?_
    refine ax_iald B kd100 dX5_clears_16 e (fun v3 e => ?_)
    refine ax_aload_n B dX5_clears_17 rfl hl 0 rfl ?_
    refine ax_getR B ff_X5_98_5 (fun _ _ => rfl) dX5_clears_18 e (fun v4 e => ?_)
    refine ax_iload_n B dX5_clears_21 rfl hl 2 rfl ?_
    refine ax_iconst B dX5_clears_22 ?_
    refine ax_iadd' B dX5_clears_23 ?_
    refine ax_aload_n B dX5_clears_24 rfl hl 0 rfl ?_
    refine ax_getI B ff_X5_446_5 (fun _ _ => rfl) dX5_clears_25 e (fun v5 e => ?_)
    refine ax_irem' B dX5_clears_28 e (fun e => ?_)
    refine ax_iald B kd100 dX5_clears_29 e (fun v6 e => ?_)
    refine ax_iload_n B dX5_clears_30 rfl hl 1 rfl ?_
    refine ax_ivV (y := yX5_lowers) (n := 3) (As := [.int (Int32.ofInt v3), .int (Int32.ofInt v6), .int (Int32.ofInt x1)]) B kd5 (lw_V q2494 q2496 qs99 q133 q2497) (by decide +kernel) ⟨Nat.le_of_ble_eq_true rfl, Nat.le_of_ble_eq_true rfl⟩ (fun w1 e1 => mt_X5_lowers l G hSF x0 v3 v6 x1 _ w1 e1) rfl hl.size (by decide) dX5_clears_31 e (fun h7 e => ?_)
    refine ax_iinc (L' := [(2, .inl (x2 + 1)), (0, .inr (.inr x0)), (1, .inl x1)]) B dX5_clears_34 hl 2 rfl (by decide) rfl (fun ls hl => ?_)
    refine ax_goto (tgt := 2) B dX5_clears_37 (by decide) ?_
    cases e
    exact hp _ (hl.sub [1, 2, 0] rfl)
  · obtain ⟨w, e9_1, rfl⟩ := Option.map_eq_some_iff.mp e
    have e := e9_1
    have e8 := e
    have hp : Q = _ := hp
    subst hp
    exact ax_return B Z dX5_clears_40 e8
theorem w_X5_clears_2 {l : Launch} {G : ax_G} {X : ax_X} {Q : State → Prop} {h0 h : ax_H} {ls : Array Slot} (hSF : ax_SF G) (B : ax_BL l G X cX5_clears 3 RX5 4 108) (Z : ax_Z X h0 none) (hn : X.2.2.2.2.2.2.2.2.1.name = yX5_clears.name) (x0 : Option Nat) (x1 : Int) (x2 : Int) {w : ax_H} (hl : ax_hl ls 3 [(0, .inr (.inr x0)), (1, .inl x1), (2, .inl x2)]) (e : f_X5_clears_2 G.2.2 x0 x1 x2 h = some w) (hp : (fun w : ax_H => Q = ax_Q G X h0 w none) w) : ax_W G X Q h 2 ls [] :=
  ax_iter_W (Pin := pi_X5_clears_2 G X Q x0 x1) (Pout := (fun w : ax_H => Q = ax_Q G X h0 w none)) (fun s w e hp ls hl => wb_X5_clears_2 hSF B Z hn x0 x1 s.1 hl e hp) _ _ e hp ls hl
set_option maxHeartbeats 4000000 in
theorem we_X5_clears {l : Launch} {G : ax_G} {X : ax_X} {Q : State → Prop} {h0 h : ax_H} {ls : Array Slot} (hSF : ax_SF G) (B : ax_BL l G X cX5_clears 3 RX5 4 108) (Z : ax_Z X h0 none) (hn : X.2.2.2.2.2.2.2.2.1.name = yX5_clears.name) (x0 : Option Nat) (x1 : Int) {w : ax_H} (hl : ax_hl ls 3 [(0, .inr (.inr x0)), (1, .inl x1)]) (e : f_X5_clears G.2.2 x0 x1 h = some w) (hp : (fun w : ax_H => Q = ax_Q G X h0 w none) w) : ax_W G X Q h 0 ls [] := by
  unfold f_X5_clears at e
  refine ax_iconst B dX5_clears_0 ?_
  refine ax_istore_n (L' := [(2, .inl 0), (0, .inr (.inr x0)), (1, .inl x1)]) B dX5_clears_1 rfl hl (by decide) rfl (fun ls hl => ?_)
  exact w_X5_clears_2 hSF B Z hn x0 x1 0 (hl.sub [1, 2, 0] rfl) e hp
theorem mt_X5_clears (l : Launch) (G : ax_G) (hSF : ax_SF G) (x0 : Option Nat) (x1 : Int) (h : ax_H) (w : ax_H) (e : f_X5_clears G.2.2 x0 x1 h = some w) : ax_Met l G yX5_clears cX5_clears 3 none 4 108 [va_rf x0, .int (Int32.ofInt x1)] h w none :=
  ax_enter [.inr (.inr x0), .inl x1] (y := yX5_clears) hSF (plainFor_of_name (by decide +kernel)) (Nat.le_of_ble_eq_true rfl) (fun X ls B Z hn hl => we_X5_clears hSF B Z hn x0 x1 hl e rfl)
def dkwX5_clear_1 : List UInt8 := [8, 182, 1, 101, 42, 27, 182, 1, 205, 42, 27, 182, 0, 14, 172]
abbrev dktX5_clear_1 : List UInt8 := dkwX5_clear_1 ++ []
def dkwX5_clear_0 : List UInt8 := [42, 182, 1, 199, 42, 180, 1, 190, 154, 0, 10, 42, 16, 253, 182, 0, 127, 172, 42, 182, 1, 202, 60, 42]
abbrev dktX5_clear_0 : List UInt8 := dkwX5_clear_0 ++ dktX5_clear_1
theorem dksX5_clear_0 : cX5_clear.data.toList.drop 0 = dktX5_clear_0 := by decide +kernel
theorem dksX5_clear_1 : cX5_clear.data.toList.drop 24 = dktX5_clear_1 := dk_seg dksX5_clear_0 24 rfl rfl
theorem dX5_clear_0 : decode cX5_clear 0 = .ok (.aload_n 0, 1) := dk_42 (dk_at dksX5_clear_0 0 rfl rfl)
theorem dX5_clear_1 : decode cX5_clear 1 = .ok (.invokevirtual 455, 3) := dk_182 1 199 (dk_at dksX5_clear_0 1 rfl rfl)
theorem dX5_clear_4 : decode cX5_clear 4 = .ok (.aload_n 0, 1) := dk_42 (dk_at dksX5_clear_0 4 rfl rfl)
theorem dX5_clear_5 : decode cX5_clear 5 = .ok (.getfield 446, 3) := dk_180 1 190 (dk_at dksX5_clear_0 5 rfl rfl)
theorem dX5_clear_8 : decode cX5_clear 8 = .ok (.ifCond .ne 10, 3) := dk_154 0 10 (dk_at dksX5_clear_0 8 rfl rfl)
theorem dX5_clear_11 : decode cX5_clear 11 = .ok (.aload_n 0, 1) := dk_42 (dk_at dksX5_clear_0 11 rfl rfl)
theorem dX5_clear_12 : decode cX5_clear 12 = .ok (.bipush (-3), 2) := dk_16 253 (dk_at dksX5_clear_0 12 rfl rfl)
theorem dX5_clear_14 : decode cX5_clear 14 = .ok (.invokevirtual 127, 3) := dk_182 0 127 (dk_at dksX5_clear_0 14 rfl rfl)
theorem dX5_clear_17 : decode cX5_clear 17 = .ok (.ireturn, 1) := dk_172 (dk_at dksX5_clear_0 17 rfl rfl)
theorem dX5_clear_18 : decode cX5_clear 18 = .ok (.aload_n 0, 1) := dk_42 (dk_at dksX5_clear_0 18 rfl rfl)
theorem dX5_clear_19 : decode cX5_clear 19 = .ok (.invokevirtual 458, 3) := dk_182 1 202 (dk_at dksX5_clear_0 19 rfl rfl)
theorem dX5_clear_22 : decode cX5_clear 22 = .ok (.istore_n 1, 1) := dk_60 (dk_at dksX5_clear_0 22 rfl rfl)
theorem dX5_clear_23 : decode cX5_clear 23 = .ok (.aload_n 0, 1) := dk_42 (dk_at dksX5_clear_0 23 rfl rfl)
theorem dX5_clear_24 : decode cX5_clear 24 = .ok (.iconst 5, 1) := dk_8 (dk_at dksX5_clear_1 0 rfl rfl)
theorem dX5_clear_25 : decode cX5_clear 25 = .ok (.invokevirtual 357, 3) := dk_182 1 101 (dk_at dksX5_clear_1 1 rfl rfl)
theorem dX5_clear_28 : decode cX5_clear 28 = .ok (.aload_n 0, 1) := dk_42 (dk_at dksX5_clear_1 4 rfl rfl)
theorem dX5_clear_29 : decode cX5_clear 29 = .ok (.iload_n 1, 1) := dk_27 (dk_at dksX5_clear_1 5 rfl rfl)
theorem dX5_clear_30 : decode cX5_clear 30 = .ok (.invokevirtual 461, 3) := dk_182 1 205 (dk_at dksX5_clear_1 6 rfl rfl)
theorem dX5_clear_33 : decode cX5_clear 33 = .ok (.aload_n 0, 1) := dk_42 (dk_at dksX5_clear_1 9 rfl rfl)
theorem dX5_clear_34 : decode cX5_clear 34 = .ok (.iload_n 1, 1) := dk_27 (dk_at dksX5_clear_1 10 rfl rfl)
theorem dX5_clear_35 : decode cX5_clear 35 = .ok (.invokevirtual 14, 3) := dk_182 0 14 (dk_at dksX5_clear_1 11 rfl rfl)
theorem dX5_clear_38 : decode cX5_clear 38 = .ok (.ireturn, 1) := dk_172 (dk_at dksX5_clear_1 14 rfl rfl)
noncomputable def f_X5_clear (E : ax_E) (x0 : Option Nat) (h : ax_H) : Option (Int × ax_H) :=
  (ax_ce E h x0 5).bind fun _ => (f_X5_findsRing E x0 h).bind fun h1 =>
  (ax_gI E h1 x0 5 43).bind fun v2 =>
  if i2 v2 = 0 then
    (ax_ce E h1 x0 5).bind fun _ => (f_X5_refuses E x0 (-3) h1).bind fun q3 =>
    some (q3.1, q3.2)
  else
    (ax_ce E h1 x0 5).bind fun _ => (f_X5_ringLeast E x0 h1).bind fun q4 =>
    (ax_ce E q4.2 x0 5).bind fun _ => (f_X5_keeps E x0 5 q4.2).bind fun h5 =>
    (ax_ce E h5 x0 5).bind fun _ => (f_X5_clears E x0 q4.1 h5).bind fun h6 =>
    (ax_ce E h6 x0 5).bind fun _ => (f_X5_good E x0 q4.1 h6).bind fun q7 =>
    some (q7.1, q7.2)
set_option maxHeartbeats 4000000 in
theorem we_X5_clear {l : Launch} {G : ax_G} {X : ax_X} {Q : State → Prop} {h0 h : ax_H} {ls : Array Slot} (hSF : ax_SF G) (B : ax_BL l G X cX5_clear 2 RX5 69 1668) (Z : ax_Z X h0 ((some FieldType.int))) (hn : X.2.2.2.2.2.2.2.2.1.name = yX5_clear.name) (x0 : Option Nat) {w : Int × ax_H} (hl : ax_hl ls 2 [(0, .inr (.inr x0))]) (e : f_X5_clear G.2.2 x0 h = some w) (hp : (fun w : Int × ax_H => Q = ax_Q G X h0 w.2 (some (.int (Int32.ofInt w.1)))) w) : ax_W G X Q h 0 ls [] := by
  unfold f_X5_clear at e
  refine ax_aload_n B dX5_clear_0 rfl hl 0 rfl ?_
  refine ax_ivV (y := yX5_findsRing) (n := 0) (As := []) B kd5 (lw_V q2617 q2619 qs115 q133 q2620) (by decide +kernel) ⟨Nat.le_of_ble_eq_true rfl, Nat.le_of_ble_eq_true rfl⟩ (fun w1 e1 => mt_X5_findsRing l G hSF x0 _ w1 e1) rfl hl.size (by decide) dX5_clear_1 e (fun h1 e => ?_)
  refine ax_aload_n B dX5_clear_4 rfl hl 0 rfl ?_
  refine ax_getI B ff_X5_446_5 (fun _ _ => rfl) dX5_clear_5 e (fun v2 e => ?_)
  refine ax_if_ne (tgt := 18) B dX5_clear_8 (by decide) e (fun e => ?_) (fun e => ?_)
  · refine ax_aload_n B dX5_clear_11 rfl hl 0 rfl ?_
    refine ax_bipush B dX5_clear_12 (by decide) ?_
    refine ax_ivI (y := yX5_refuses) (n := 1) (As := [.int (Int32.ofInt (-3))]) B kd5 (lw_V q2154 q2156 qs41 q133 q2157) (by decide +kernel) ⟨Nat.le_of_ble_eq_true rfl, Nat.le_of_ble_eq_true rfl⟩ (fun w1 e1 => mt_X5_refuses l G hSF x0 (-3) _ w1 e1) rfl hl.size (by decide) dX5_clear_14 e (fun q3 e => ?_)
    have e8 := e
    have hp : Q = _ := hp
    subst hp
    exact ax_ireturn B Z dX5_clear_17 e8
  · refine ax_aload_n B dX5_clear_18 rfl hl 0 rfl ?_
    refine ax_ivI (y := yX5_ringLeast) (n := 0) (As := []) B kd5 (lw_V q2629 q2631 qs117 q133 q2632) (by decide +kernel) ⟨Nat.le_of_ble_eq_true rfl, Nat.le_of_ble_eq_true rfl⟩ (fun w1 e1 => mt_X5_ringLeast l G hSF x0 _ w1 e1) rfl hl.size (by decide) dX5_clear_19 e (fun q4 e => ?_)
    refine ax_istore_n (L' := [(1, .inl q4.1), (0, .inr (.inr x0))]) B dX5_clear_22 rfl hl (by decide) rfl (fun ls hl => ?_)
    refine ax_aload_n B dX5_clear_23 rfl hl 1 rfl ?_
    refine ax_iconst B dX5_clear_24 ?_
    refine ax_ivV (y := yX5_keeps) (n := 1) (As := [.int (Int32.ofInt 5)]) B kd5 (lw_V q2466 q2468 qs93 q133 q2469) (by decide +kernel) ⟨Nat.le_of_ble_eq_true rfl, Nat.le_of_ble_eq_true rfl⟩ (fun w1 e1 => mt_X5_keeps l G hSF x0 5 _ w1 e1) rfl hl.size (by decide) dX5_clear_25 e (fun h5 e => ?_)
    refine ax_aload_n B dX5_clear_28 rfl hl 1 rfl ?_
    refine ax_iload_n B dX5_clear_29 rfl hl 0 rfl ?_
    refine ax_ivV (y := yX5_clears) (n := 1) (As := [.int (Int32.ofInt q4.1)]) B kd5 (lw_V q2633 q2635 qs118 q133 q2636) (by decide +kernel) ⟨Nat.le_of_ble_eq_true rfl, Nat.le_of_ble_eq_true rfl⟩ (fun w1 e1 => mt_X5_clears l G hSF x0 q4.1 _ w1 e1) rfl hl.size (by decide) dX5_clear_30 e (fun h6 e => ?_)
    refine ax_aload_n B dX5_clear_33 rfl hl 1 rfl ?_
    refine ax_iload_n B dX5_clear_34 rfl hl 0 rfl ?_
    refine ax_ivI (y := yX5_good) (n := 1) (As := [.int (Int32.ofInt q4.1)]) B kd5 (lw_V q2158 q2160 qs42 q133 q2161) (by decide +kernel) ⟨Nat.le_of_ble_eq_true rfl, Nat.le_of_ble_eq_true rfl⟩ (fun w1 e1 => mt_X5_good l G hSF x0 q4.1 _ w1 e1) rfl hl.size (by decide) dX5_clear_35 e (fun q7 e => ?_)
    have e8 := e
    have hp : Q = _ := hp
    subst hp
    exact ax_ireturn B Z dX5_clear_38 e8
theorem mt_X5_clear (l : Launch) (G : ax_G) (hSF : ax_SF G) (x0 : Option Nat) (h : ax_H) (w : Int × ax_H) (e : f_X5_clear G.2.2 x0 h = some w) : ax_Met l G yX5_clear cX5_clear 2 ((some FieldType.int)) 69 1668 [va_rf x0] h w.2 (some (.int (Int32.ofInt w.1))) :=
  ax_enter [.inr (.inr x0)] (y := yX5_clear) hSF (plainFor_of_name (by decide +kernel)) (Nat.le_of_ble_eq_true rfl) (fun X ls B Z hn hl => we_X5_clear hSF B Z hn x0 hl e rfl)
def dkwX5_cleared_8 : List UInt8 := [16, 9, 182, 1, 171, 29, 172]
abbrev dktX5_cleared_8 : List UInt8 := dkwX5_cleared_8 ++ []
def dkwX5_cleared_7 : List UInt8 := [162, 0, 7, 4, 167, 0, 4, 3, 96, 62, 132, 5, 1, 167, 255, 205, 132, 4, 1, 167, 255, 187, 42]
abbrev dktX5_cleared_7 : List UInt8 := dkwX5_cleared_7 ++ dktX5_cleared_8
def dkwX5_cleared_6 : List UInt8 := [159, 0, 31, 42, 21, 4, 21, 5, 182, 1, 92, 42, 180, 0, 101, 16, 7, 21, 4, 104, 21, 5, 96, 46]
abbrev dktX5_cleared_6 : List UInt8 := dkwX5_cleared_6 ++ dktX5_cleared_7
def dkwX5_cleared_5 : List UInt8 := [182, 0, 133, 162, 0, 66, 3, 54, 5, 21, 5, 42, 182, 0, 133, 162, 0, 48, 29, 21, 4, 21, 5]
abbrev dktX5_cleared_5 : List UInt8 := dkwX5_cleared_5 ++ dktX5_cleared_6
def dkwX5_cleared_4 : List UInt8 := [167, 255, 198, 42, 16, 9, 182, 1, 165, 42, 28, 182, 1, 205, 3, 62, 3, 54, 4, 21, 4, 42]
abbrev dktX5_cleared_4 : List UInt8 := dkwX5_cleared_4 ++ dktX5_cleared_5
def dkwX5_cleared_3 : List UInt8 := [160, 0, 7, 3, 167, 0, 10, 42, 29, 21, 4, 182, 1, 92, 79, 132, 4, 1, 167, 255, 215, 132, 3, 1]
abbrev dktX5_cleared_3 : List UInt8 := dkwX5_cleared_3 ++ dktX5_cleared_4
def dkwX5_cleared_2 : List UInt8 := [21, 4, 42, 182, 0, 133, 162, 0, 38, 42, 180, 0, 101, 16, 7, 29, 104, 21, 4, 96, 29, 21, 4]
abbrev dktX5_cleared_2 : List UInt8 := dkwX5_cleared_2 ++ dktX5_cleared_3
def dkwX5_cleared_1 : List UInt8 := [182, 1, 202, 61, 27, 154, 0, 5, 28, 172, 3, 62, 29, 42, 182, 0, 133, 162, 0, 56, 3, 54, 4]
abbrev dktX5_cleared_1 : List UInt8 := dkwX5_cleared_1 ++ dktX5_cleared_2
def dkwX5_cleared_0 : List UInt8 := [42, 182, 1, 199, 42, 180, 1, 190, 153, 0, 12, 27, 3, 4, 184, 0, 123, 154, 0, 5, 2, 172, 42]
abbrev dktX5_cleared_0 : List UInt8 := dkwX5_cleared_0 ++ dktX5_cleared_1
theorem dksX5_cleared_0 : cX5_cleared.data.toList.drop 0 = dktX5_cleared_0 := by decide +kernel
theorem dksX5_cleared_1 : cX5_cleared.data.toList.drop 23 = dktX5_cleared_1 := dk_seg dksX5_cleared_0 23 rfl rfl
theorem dksX5_cleared_2 : cX5_cleared.data.toList.drop 46 = dktX5_cleared_2 := dk_seg dksX5_cleared_1 23 rfl rfl
theorem dksX5_cleared_3 : cX5_cleared.data.toList.drop 69 = dktX5_cleared_3 := dk_seg dksX5_cleared_2 23 rfl rfl
theorem dksX5_cleared_4 : cX5_cleared.data.toList.drop 93 = dktX5_cleared_4 := dk_seg dksX5_cleared_3 24 rfl rfl
theorem dksX5_cleared_5 : cX5_cleared.data.toList.drop 115 = dktX5_cleared_5 := dk_seg dksX5_cleared_4 22 rfl rfl
theorem dksX5_cleared_6 : cX5_cleared.data.toList.drop 138 = dktX5_cleared_6 := dk_seg dksX5_cleared_5 23 rfl rfl
theorem dksX5_cleared_7 : cX5_cleared.data.toList.drop 162 = dktX5_cleared_7 := dk_seg dksX5_cleared_6 24 rfl rfl
theorem dksX5_cleared_8 : cX5_cleared.data.toList.drop 185 = dktX5_cleared_8 := dk_seg dksX5_cleared_7 23 rfl rfl
theorem dX5_cleared_0 : decode cX5_cleared 0 = .ok (.aload_n 0, 1) := dk_42 (dk_at dksX5_cleared_0 0 rfl rfl)
theorem dX5_cleared_1 : decode cX5_cleared 1 = .ok (.invokevirtual 455, 3) := dk_182 1 199 (dk_at dksX5_cleared_0 1 rfl rfl)
theorem dX5_cleared_4 : decode cX5_cleared 4 = .ok (.aload_n 0, 1) := dk_42 (dk_at dksX5_cleared_0 4 rfl rfl)
theorem dX5_cleared_5 : decode cX5_cleared 5 = .ok (.getfield 446, 3) := dk_180 1 190 (dk_at dksX5_cleared_0 5 rfl rfl)
theorem dX5_cleared_8 : decode cX5_cleared 8 = .ok (.ifCond .eq 12, 3) := dk_153 0 12 (dk_at dksX5_cleared_0 8 rfl rfl)
theorem dX5_cleared_11 : decode cX5_cleared 11 = .ok (.iload_n 1, 1) := dk_27 (dk_at dksX5_cleared_0 11 rfl rfl)
theorem dX5_cleared_12 : decode cX5_cleared 12 = .ok (.iconst 0, 1) := dk_3 (dk_at dksX5_cleared_0 12 rfl rfl)
theorem dX5_cleared_13 : decode cX5_cleared 13 = .ok (.iconst 1, 1) := dk_4 (dk_at dksX5_cleared_0 13 rfl rfl)
theorem dX5_cleared_14 : decode cX5_cleared 14 = .ok (.invokestatic 123, 3) := dk_184 0 123 (dk_at dksX5_cleared_0 14 rfl rfl)
theorem dX5_cleared_17 : decode cX5_cleared 17 = .ok (.ifCond .ne 5, 3) := dk_154 0 5 (dk_at dksX5_cleared_0 17 rfl rfl)
theorem dX5_cleared_20 : decode cX5_cleared 20 = .ok (.iconst (-1), 1) := dk_2 (dk_at dksX5_cleared_0 20 rfl rfl)
theorem dX5_cleared_21 : decode cX5_cleared 21 = .ok (.ireturn, 1) := dk_172 (dk_at dksX5_cleared_0 21 rfl rfl)
theorem dX5_cleared_22 : decode cX5_cleared 22 = .ok (.aload_n 0, 1) := dk_42 (dk_at dksX5_cleared_0 22 rfl rfl)
theorem dX5_cleared_23 : decode cX5_cleared 23 = .ok (.invokevirtual 458, 3) := dk_182 1 202 (dk_at dksX5_cleared_1 0 rfl rfl)
theorem dX5_cleared_26 : decode cX5_cleared 26 = .ok (.istore_n 2, 1) := dk_61 (dk_at dksX5_cleared_1 3 rfl rfl)
theorem dX5_cleared_27 : decode cX5_cleared 27 = .ok (.iload_n 1, 1) := dk_27 (dk_at dksX5_cleared_1 4 rfl rfl)
theorem dX5_cleared_28 : decode cX5_cleared 28 = .ok (.ifCond .ne 5, 3) := dk_154 0 5 (dk_at dksX5_cleared_1 5 rfl rfl)
theorem dX5_cleared_31 : decode cX5_cleared 31 = .ok (.iload_n 2, 1) := dk_28 (dk_at dksX5_cleared_1 8 rfl rfl)
theorem dX5_cleared_32 : decode cX5_cleared 32 = .ok (.ireturn, 1) := dk_172 (dk_at dksX5_cleared_1 9 rfl rfl)
theorem dX5_cleared_33 : decode cX5_cleared 33 = .ok (.iconst 0, 1) := dk_3 (dk_at dksX5_cleared_1 10 rfl rfl)
theorem dX5_cleared_34 : decode cX5_cleared 34 = .ok (.istore_n 3, 1) := dk_62 (dk_at dksX5_cleared_1 11 rfl rfl)
theorem dX5_cleared_35 : decode cX5_cleared 35 = .ok (.iload_n 3, 1) := dk_29 (dk_at dksX5_cleared_1 12 rfl rfl)
theorem dX5_cleared_36 : decode cX5_cleared 36 = .ok (.aload_n 0, 1) := dk_42 (dk_at dksX5_cleared_1 13 rfl rfl)
theorem dX5_cleared_37 : decode cX5_cleared 37 = .ok (.invokevirtual 133, 3) := dk_182 0 133 (dk_at dksX5_cleared_1 14 rfl rfl)
theorem dX5_cleared_40 : decode cX5_cleared 40 = .ok (.if_icmp .ge 56, 3) := dk_162 0 56 (dk_at dksX5_cleared_1 17 rfl rfl)
theorem dX5_cleared_43 : decode cX5_cleared 43 = .ok (.iconst 0, 1) := dk_3 (dk_at dksX5_cleared_1 20 rfl rfl)
theorem dX5_cleared_44 : decode cX5_cleared 44 = .ok (.istore 4, 2) := dk_54 4 (dk_at dksX5_cleared_1 21 rfl rfl)
theorem dX5_cleared_46 : decode cX5_cleared 46 = .ok (.iload 4, 2) := dk_21 4 (dk_at dksX5_cleared_2 0 rfl rfl)
theorem dX5_cleared_48 : decode cX5_cleared 48 = .ok (.aload_n 0, 1) := dk_42 (dk_at dksX5_cleared_2 2 rfl rfl)
theorem dX5_cleared_49 : decode cX5_cleared 49 = .ok (.invokevirtual 133, 3) := dk_182 0 133 (dk_at dksX5_cleared_2 3 rfl rfl)
theorem dX5_cleared_52 : decode cX5_cleared 52 = .ok (.if_icmp .ge 38, 3) := dk_162 0 38 (dk_at dksX5_cleared_2 6 rfl rfl)
theorem dX5_cleared_55 : decode cX5_cleared 55 = .ok (.aload_n 0, 1) := dk_42 (dk_at dksX5_cleared_2 9 rfl rfl)
theorem dX5_cleared_56 : decode cX5_cleared 56 = .ok (.getfield 101, 3) := dk_180 0 101 (dk_at dksX5_cleared_2 10 rfl rfl)
theorem dX5_cleared_59 : decode cX5_cleared 59 = .ok (.bipush 7, 2) := dk_16 7 (dk_at dksX5_cleared_2 13 rfl rfl)
theorem dX5_cleared_61 : decode cX5_cleared 61 = .ok (.iload_n 3, 1) := dk_29 (dk_at dksX5_cleared_2 15 rfl rfl)
theorem dX5_cleared_62 : decode cX5_cleared 62 = .ok (.imul, 1) := dk_104 (dk_at dksX5_cleared_2 16 rfl rfl)
theorem dX5_cleared_63 : decode cX5_cleared 63 = .ok (.iload 4, 2) := dk_21 4 (dk_at dksX5_cleared_2 17 rfl rfl)
theorem dX5_cleared_65 : decode cX5_cleared 65 = .ok (.iadd, 1) := dk_96 (dk_at dksX5_cleared_2 19 rfl rfl)
theorem dX5_cleared_66 : decode cX5_cleared 66 = .ok (.iload_n 3, 1) := dk_29 (dk_at dksX5_cleared_2 20 rfl rfl)
theorem dX5_cleared_67 : decode cX5_cleared 67 = .ok (.iload 4, 2) := dk_21 4 (dk_at dksX5_cleared_2 21 rfl rfl)
theorem dX5_cleared_69 : decode cX5_cleared 69 = .ok (.if_icmp .ne 7, 3) := dk_160 0 7 (dk_at dksX5_cleared_3 0 rfl rfl)
theorem dX5_cleared_72 : decode cX5_cleared 72 = .ok (.iconst 0, 1) := dk_3 (dk_at dksX5_cleared_3 3 rfl rfl)
theorem dX5_cleared_73 : decode cX5_cleared 73 = .ok (.goto 10, 3) := dk_167 0 10 (dk_at dksX5_cleared_3 4 rfl rfl)
theorem dX5_cleared_76 : decode cX5_cleared 76 = .ok (.aload_n 0, 1) := dk_42 (dk_at dksX5_cleared_3 7 rfl rfl)
theorem dX5_cleared_77 : decode cX5_cleared 77 = .ok (.iload_n 3, 1) := dk_29 (dk_at dksX5_cleared_3 8 rfl rfl)
theorem dX5_cleared_78 : decode cX5_cleared 78 = .ok (.iload 4, 2) := dk_21 4 (dk_at dksX5_cleared_3 9 rfl rfl)
theorem dX5_cleared_80 : decode cX5_cleared 80 = .ok (.invokevirtual 348, 3) := dk_182 1 92 (dk_at dksX5_cleared_3 11 rfl rfl)
theorem dX5_cleared_83 : decode cX5_cleared 83 = .ok (.iastore, 1) := dk_79 (dk_at dksX5_cleared_3 14 rfl rfl)
theorem dX5_cleared_84 : decode cX5_cleared 84 = .ok (.iinc 4 1, 3) := dk_132 4 1 (dk_at dksX5_cleared_3 15 rfl rfl)
theorem dX5_cleared_87 : decode cX5_cleared 87 = .ok (.goto (-41), 3) := dk_167 255 215 (dk_at dksX5_cleared_3 18 rfl rfl)
theorem dX5_cleared_90 : decode cX5_cleared 90 = .ok (.iinc 3 1, 3) := dk_132 3 1 (dk_at dksX5_cleared_3 21 rfl rfl)
theorem dX5_cleared_93 : decode cX5_cleared 93 = .ok (.goto (-58), 3) := dk_167 255 198 (dk_at dksX5_cleared_4 0 rfl rfl)
theorem dX5_cleared_96 : decode cX5_cleared 96 = .ok (.aload_n 0, 1) := dk_42 (dk_at dksX5_cleared_4 3 rfl rfl)
theorem dX5_cleared_97 : decode cX5_cleared 97 = .ok (.bipush 9, 2) := dk_16 9 (dk_at dksX5_cleared_4 4 rfl rfl)
theorem dX5_cleared_99 : decode cX5_cleared 99 = .ok (.invokevirtual 421, 3) := dk_182 1 165 (dk_at dksX5_cleared_4 6 rfl rfl)
theorem dX5_cleared_102 : decode cX5_cleared 102 = .ok (.aload_n 0, 1) := dk_42 (dk_at dksX5_cleared_4 9 rfl rfl)
theorem dX5_cleared_103 : decode cX5_cleared 103 = .ok (.iload_n 2, 1) := dk_28 (dk_at dksX5_cleared_4 10 rfl rfl)
theorem dX5_cleared_104 : decode cX5_cleared 104 = .ok (.invokevirtual 461, 3) := dk_182 1 205 (dk_at dksX5_cleared_4 11 rfl rfl)
theorem dX5_cleared_107 : decode cX5_cleared 107 = .ok (.iconst 0, 1) := dk_3 (dk_at dksX5_cleared_4 14 rfl rfl)
theorem dX5_cleared_108 : decode cX5_cleared 108 = .ok (.istore_n 3, 1) := dk_62 (dk_at dksX5_cleared_4 15 rfl rfl)
theorem dX5_cleared_109 : decode cX5_cleared 109 = .ok (.iconst 0, 1) := dk_3 (dk_at dksX5_cleared_4 16 rfl rfl)
theorem dX5_cleared_110 : decode cX5_cleared 110 = .ok (.istore 4, 2) := dk_54 4 (dk_at dksX5_cleared_4 17 rfl rfl)
theorem dX5_cleared_112 : decode cX5_cleared 112 = .ok (.iload 4, 2) := dk_21 4 (dk_at dksX5_cleared_4 19 rfl rfl)
theorem dX5_cleared_114 : decode cX5_cleared 114 = .ok (.aload_n 0, 1) := dk_42 (dk_at dksX5_cleared_4 21 rfl rfl)
theorem dX5_cleared_115 : decode cX5_cleared 115 = .ok (.invokevirtual 133, 3) := dk_182 0 133 (dk_at dksX5_cleared_5 0 rfl rfl)
theorem dX5_cleared_118 : decode cX5_cleared 118 = .ok (.if_icmp .ge 66, 3) := dk_162 0 66 (dk_at dksX5_cleared_5 3 rfl rfl)
theorem dX5_cleared_121 : decode cX5_cleared 121 = .ok (.iconst 0, 1) := dk_3 (dk_at dksX5_cleared_5 6 rfl rfl)
theorem dX5_cleared_122 : decode cX5_cleared 122 = .ok (.istore 5, 2) := dk_54 5 (dk_at dksX5_cleared_5 7 rfl rfl)
theorem dX5_cleared_124 : decode cX5_cleared 124 = .ok (.iload 5, 2) := dk_21 5 (dk_at dksX5_cleared_5 9 rfl rfl)
theorem dX5_cleared_126 : decode cX5_cleared 126 = .ok (.aload_n 0, 1) := dk_42 (dk_at dksX5_cleared_5 11 rfl rfl)
theorem dX5_cleared_127 : decode cX5_cleared 127 = .ok (.invokevirtual 133, 3) := dk_182 0 133 (dk_at dksX5_cleared_5 12 rfl rfl)
theorem dX5_cleared_130 : decode cX5_cleared 130 = .ok (.if_icmp .ge 48, 3) := dk_162 0 48 (dk_at dksX5_cleared_5 15 rfl rfl)
theorem dX5_cleared_133 : decode cX5_cleared 133 = .ok (.iload_n 3, 1) := dk_29 (dk_at dksX5_cleared_5 18 rfl rfl)
theorem dX5_cleared_134 : decode cX5_cleared 134 = .ok (.iload 4, 2) := dk_21 4 (dk_at dksX5_cleared_5 19 rfl rfl)
theorem dX5_cleared_136 : decode cX5_cleared 136 = .ok (.iload 5, 2) := dk_21 5 (dk_at dksX5_cleared_5 21 rfl rfl)
theorem dX5_cleared_138 : decode cX5_cleared 138 = .ok (.if_icmp .eq 31, 3) := dk_159 0 31 (dk_at dksX5_cleared_6 0 rfl rfl)
theorem dX5_cleared_141 : decode cX5_cleared 141 = .ok (.aload_n 0, 1) := dk_42 (dk_at dksX5_cleared_6 3 rfl rfl)
theorem dX5_cleared_142 : decode cX5_cleared 142 = .ok (.iload 4, 2) := dk_21 4 (dk_at dksX5_cleared_6 4 rfl rfl)
theorem dX5_cleared_144 : decode cX5_cleared 144 = .ok (.iload 5, 2) := dk_21 5 (dk_at dksX5_cleared_6 6 rfl rfl)
theorem dX5_cleared_146 : decode cX5_cleared 146 = .ok (.invokevirtual 348, 3) := dk_182 1 92 (dk_at dksX5_cleared_6 8 rfl rfl)
theorem dX5_cleared_149 : decode cX5_cleared 149 = .ok (.aload_n 0, 1) := dk_42 (dk_at dksX5_cleared_6 11 rfl rfl)
theorem dX5_cleared_150 : decode cX5_cleared 150 = .ok (.getfield 101, 3) := dk_180 0 101 (dk_at dksX5_cleared_6 12 rfl rfl)
theorem dX5_cleared_153 : decode cX5_cleared 153 = .ok (.bipush 7, 2) := dk_16 7 (dk_at dksX5_cleared_6 15 rfl rfl)
theorem dX5_cleared_155 : decode cX5_cleared 155 = .ok (.iload 4, 2) := dk_21 4 (dk_at dksX5_cleared_6 17 rfl rfl)
theorem dX5_cleared_157 : decode cX5_cleared 157 = .ok (.imul, 1) := dk_104 (dk_at dksX5_cleared_6 19 rfl rfl)
theorem dX5_cleared_158 : decode cX5_cleared 158 = .ok (.iload 5, 2) := dk_21 5 (dk_at dksX5_cleared_6 20 rfl rfl)
theorem dX5_cleared_160 : decode cX5_cleared 160 = .ok (.iadd, 1) := dk_96 (dk_at dksX5_cleared_6 22 rfl rfl)
theorem dX5_cleared_161 : decode cX5_cleared 161 = .ok (.iaload, 1) := dk_46 (dk_at dksX5_cleared_6 23 rfl rfl)
theorem dX5_cleared_162 : decode cX5_cleared 162 = .ok (.if_icmp .ge 7, 3) := dk_162 0 7 (dk_at dksX5_cleared_7 0 rfl rfl)
theorem dX5_cleared_165 : decode cX5_cleared 165 = .ok (.iconst 1, 1) := dk_4 (dk_at dksX5_cleared_7 3 rfl rfl)
theorem dX5_cleared_166 : decode cX5_cleared 166 = .ok (.goto 4, 3) := dk_167 0 4 (dk_at dksX5_cleared_7 4 rfl rfl)
theorem dX5_cleared_169 : decode cX5_cleared 169 = .ok (.iconst 0, 1) := dk_3 (dk_at dksX5_cleared_7 7 rfl rfl)
theorem dX5_cleared_170 : decode cX5_cleared 170 = .ok (.iadd, 1) := dk_96 (dk_at dksX5_cleared_7 8 rfl rfl)
theorem dX5_cleared_171 : decode cX5_cleared 171 = .ok (.istore_n 3, 1) := dk_62 (dk_at dksX5_cleared_7 9 rfl rfl)
theorem dX5_cleared_172 : decode cX5_cleared 172 = .ok (.iinc 5 1, 3) := dk_132 5 1 (dk_at dksX5_cleared_7 10 rfl rfl)
theorem dX5_cleared_175 : decode cX5_cleared 175 = .ok (.goto (-51), 3) := dk_167 255 205 (dk_at dksX5_cleared_7 13 rfl rfl)
theorem dX5_cleared_178 : decode cX5_cleared 178 = .ok (.iinc 4 1, 3) := dk_132 4 1 (dk_at dksX5_cleared_7 16 rfl rfl)
theorem dX5_cleared_181 : decode cX5_cleared 181 = .ok (.goto (-69), 3) := dk_167 255 187 (dk_at dksX5_cleared_7 19 rfl rfl)
theorem dX5_cleared_184 : decode cX5_cleared 184 = .ok (.aload_n 0, 1) := dk_42 (dk_at dksX5_cleared_7 22 rfl rfl)
theorem dX5_cleared_185 : decode cX5_cleared 185 = .ok (.bipush 9, 2) := dk_16 9 (dk_at dksX5_cleared_8 0 rfl rfl)
theorem dX5_cleared_187 : decode cX5_cleared 187 = .ok (.invokevirtual 427, 3) := dk_182 1 171 (dk_at dksX5_cleared_8 2 rfl rfl)
theorem dX5_cleared_190 : decode cX5_cleared 190 = .ok (.iload_n 3, 1) := dk_29 (dk_at dksX5_cleared_8 5 rfl rfl)
theorem dX5_cleared_191 : decode cX5_cleared 191 = .ok (.ireturn, 1) := dk_172 (dk_at dksX5_cleared_8 6 rfl rfl)
noncomputable def f_X5_cleared_20 (E : ax_E) (h : ax_H) : Option (Int × ax_H) :=
  some ((-1), h)
noncomputable def f_X5_cleared_83 (E : ax_E) (x0 : Option Nat) (x2 : Int) (x3 : Int) (x4 : Int) (s0 : Option Nat) (s1 : Int) (s2 : Int) (h : ax_H) : Option ((Int × ax_H) ⊕ ((Int × ax_H) ⊕ (Int × ax_H))) :=
  (ax_sto h s0 100 s1 s2).bind fun h1 =>
  some (.inl ((x4 + 1), h1))
noncomputable def lb_X5_cleared_46 (E : ax_E) (x0 : Option Nat) (x2 : Int) (x3 : Int) (x4 : Int) (h : ax_H) : Option ((Int × ax_H) ⊕ ((Int × ax_H) ⊕ (Int × ax_H))) :=
  (ax_ce E h x0 5).bind fun _ => (f_X5_people E x0 h).bind fun q1 =>
  if i2 x4 < i2 q1.1 then
    (ax_gR E q1.2 x0 5 45).bind fun v2 =>
    if i2 x3 = i2 x4 then
      f_X5_cleared_83 E x0 x2 x3 x4 v2 ((7 * x3) + x4) 0 q1.2
    else
      (ax_ce E q1.2 x0 5).bind fun _ => (f_X5_deepNow E x0 x3 x4 q1.2).bind fun q3 =>
      f_X5_cleared_83 E x0 x2 x3 x4 v2 ((7 * x3) + x4) q3.1 q3.2
  else
    (some (.inl ((x3 + 1), q1.2))).map Sum.inr
noncomputable def f_X5_cleared_46 (E : ax_E) (x0 : Option Nat) (x2 : Int) (x3 : Int) (x4 : Int) (h : ax_H) : Option ((Int × ax_H) ⊕ (Int × ax_H)) :=
  ax_iter (fun s : Int × ax_H => lb_X5_cleared_46 E x0 x2 x3 s.1 s.2) (x4, h)
noncomputable def f_X5_cleared_170 (E : ax_E) (x0 : Option Nat) (x4 : Int) (x5 : Int) (s0 : Int) (s1 : Int) (h : ax_H) : Option ((Int × Int × ax_H) ⊕ ((Int × Int × ax_H) ⊕ (Int × ax_H))) :=
  some (.inl ((s0 + s1), (x5 + 1), h))
noncomputable def f_X5_cleared_169 (E : ax_E) (x0 : Option Nat) (x4 : Int) (x5 : Int) (s0 : Int) (h : ax_H) : Option ((Int × Int × ax_H) ⊕ ((Int × Int × ax_H) ⊕ (Int × ax_H))) :=
  f_X5_cleared_170 E x0 x4 x5 s0 0 h
noncomputable def lb_X5_cleared_124 (E : ax_E) (x0 : Option Nat) (x3 : Int) (x4 : Int) (x5 : Int) (h : ax_H) : Option ((Int × Int × ax_H) ⊕ ((Int × Int × ax_H) ⊕ (Int × ax_H))) :=
  (ax_ce E h x0 5).bind fun _ => (f_X5_people E x0 h).bind fun q1 =>
  if i2 x5 < i2 q1.1 then
    if i2 x4 = i2 x5 then
      f_X5_cleared_169 E x0 x4 x5 x3 q1.2
    else
      (ax_ce E q1.2 x0 5).bind fun _ => (f_X5_deepNow E x0 x4 x5 q1.2).bind fun q2 =>
      (ax_gR E q2.2 x0 5 45).bind fun v3 =>
      (ax_ld E q2.2 v3 100 ((7 * x4) + x5)).bind fun v4 =>
      if i2 q2.1 < i2 v4 then
        f_X5_cleared_170 E x0 x4 x5 x3 1 q2.2
      else
        f_X5_cleared_169 E x0 x4 x5 x3 q2.2
  else
    (some (.inl (x3, (x4 + 1), q1.2))).map Sum.inr
noncomputable def f_X5_cleared_124 (E : ax_E) (x0 : Option Nat) (x3 : Int) (x4 : Int) (x5 : Int) (h : ax_H) : Option ((Int × Int × ax_H) ⊕ (Int × ax_H)) :=
  ax_iter (fun s : Int × Int × ax_H => lb_X5_cleared_124 E x0 s.1 x4 s.2.1 s.2.2) (x3, x5, h)
noncomputable def lb_X5_cleared_112 (E : ax_E) (x0 : Option Nat) (x3 : Int) (x4 : Int) (h : ax_H) : Option ((Int × Int × ax_H) ⊕ (Int × ax_H)) :=
  (ax_ce E h x0 5).bind fun _ => (f_X5_people E x0 h).bind fun q1 =>
  if i2 x4 < i2 q1.1 then
    f_X5_cleared_124 E x0 x3 x4 0 q1.2
  else
    ((ax_ce E q1.2 x0 5).bind fun _ => (f_X5_takesBack E x0 9 q1.2).bind fun h2 =>
    some (x3, h2)).map Sum.inr
noncomputable def f_X5_cleared_112 (E : ax_E) (x0 : Option Nat) (x3 : Int) (x4 : Int) (h : ax_H) : Option (Int × ax_H) :=
  ax_iter (fun s : Int × Int × ax_H => lb_X5_cleared_112 E x0 s.1 s.2.1 s.2.2) (x3, x4, h)
noncomputable def lb_X5_cleared_35 (E : ax_E) (x0 : Option Nat) (x2 : Int) (x3 : Int) (h : ax_H) : Option ((Int × ax_H) ⊕ (Int × ax_H)) :=
  (ax_ce E h x0 5).bind fun _ => (f_X5_people E x0 h).bind fun q1 =>
  if i2 x3 < i2 q1.1 then
    f_X5_cleared_46 E x0 x2 x3 0 q1.2
  else
    ((ax_ce E q1.2 x0 5).bind fun _ => (f_X5_laysAside E x0 9 q1.2).bind fun h2 =>
    (ax_ce E h2 x0 5).bind fun _ => (f_X5_clears E x0 x2 h2).bind fun h3 =>
    f_X5_cleared_112 E x0 0 0 h3).map Sum.inr
noncomputable def f_X5_cleared_35 (E : ax_E) (x0 : Option Nat) (x2 : Int) (x3 : Int) (h : ax_H) : Option (Int × ax_H) :=
  ax_iter (fun s : Int × ax_H => lb_X5_cleared_35 E x0 x2 s.1 s.2) (x3, h)
noncomputable def f_X5_cleared (E : ax_E) (x0 : Option Nat) (x1 : Int) (h : ax_H) : Option (Int × ax_H) :=
  (ax_ce E h x0 5).bind fun _ => (f_X5_findsRing E x0 h).bind fun h1 =>
  (ax_gI E h1 x0 5 43).bind fun v2 =>
  if i2 v2 = 0 then
    f_X5_cleared_20 E h1
  else
    (f_X5_lies E x1 0 1 h1).bind fun q3 =>
    if i2 q3.1 = 0 then
      f_X5_cleared_20 E q3.2
    else
      (ax_ce E q3.2 x0 5).bind fun _ => (f_X5_ringLeast E x0 q3.2).bind fun q4 =>
      if i2 x1 = 0 then
        some (q4.1, q4.2)
      else
        f_X5_cleared_35 E x0 q4.1 0 q4.2
def pi_X5_cleared_46 (G : ax_G) (X : ax_X) (Q : State → Prop) (x0 : Option Nat) (x2 : Int) (x3 : Int) : Int × ax_H → Prop := fun s => ∀ ls : Array Slot, ax_hl ls 6 [(0, .inr (.inr x0)), (2, .inl x2), (3, .inl x3), (4, .inl s.1)] → ax_W G X Q s.2 46 ls []
def pi_X5_cleared_124 (G : ax_G) (X : ax_X) (Q : State → Prop) (x0 : Option Nat) (x4 : Int) : Int × Int × ax_H → Prop := fun s => ∀ ls : Array Slot, ax_hl ls 6 [(0, .inr (.inr x0)), (3, .inl s.1), (4, .inl x4), (5, .inl s.2.1)] → ax_W G X Q s.2.2 124 ls []
def pi_X5_cleared_112 (G : ax_G) (X : ax_X) (Q : State → Prop) (x0 : Option Nat) : Int × Int × ax_H → Prop := fun s => ∀ ls : Array Slot, ax_hl ls 6 [(0, .inr (.inr x0)), (3, .inl s.1), (4, .inl s.2.1)] → ax_W G X Q s.2.2 112 ls []
def pi_X5_cleared_35 (G : ax_G) (X : ax_X) (Q : State → Prop) (x0 : Option Nat) (x2 : Int) : Int × ax_H → Prop := fun s => ∀ ls : Array Slot, ax_hl ls 6 [(0, .inr (.inr x0)), (2, .inl x2), (3, .inl s.1)] → ax_W G X Q s.2 35 ls []
set_option maxHeartbeats 4000000 in
theorem w_X5_cleared_20 {l : Launch} {G : ax_G} {X : ax_X} {Q : State → Prop} {h0 h : ax_H} {ls : Array Slot} (hSF : ax_SF G) (B : ax_BL l G X cX5_cleared 6 RX5 136 3541) (Z : ax_Z X h0 ((some FieldType.int))) (hn : X.2.2.2.2.2.2.2.2.1.name = yX5_cleared.name) {w : Int × ax_H} (hl : ax_hl ls 6 []) (e : f_X5_cleared_20 G.2.2 h = some w) (hp : (fun w : Int × ax_H => Q = ax_Q G X h0 w.2 (some (.int (Int32.ofInt w.1)))) w) : ax_W G X Q h 20 ls [] := by
  unfold f_X5_cleared_20 at e
  refine ax_iconst B dX5_cleared_20 ?_
  have e8 := e
  have hp : Q = _ := hp
  subst hp
  exact ax_ireturn B Z dX5_cleared_21 e8
set_option maxHeartbeats 4000000 in
theorem w_X5_cleared_83 {l : Launch} {G : ax_G} {X : ax_X} {Q : State → Prop} {h0 h : ax_H} {ls : Array Slot} (hSF : ax_SF G) (B : ax_BL l G X cX5_cleared 6 RX5 136 3541) (Z : ax_Z X h0 ((some FieldType.int))) (hn : X.2.2.2.2.2.2.2.2.1.name = yX5_cleared.name) (x0 : Option Nat) (x2 : Int) (x3 : Int) (x4 : Int) (s0 : Option Nat) (s1 : Int) (s2 : Int) {w : (Int × ax_H) ⊕ ((Int × ax_H) ⊕ (Int × ax_H))} (hl : ax_hl ls 6 [(0, .inr (.inr x0)), (2, .inl x2), (3, .inl x3), (4, .inl x4)]) (e : f_X5_cleared_83 G.2.2 x0 x2 x3 x4 s0 s1 s2 h = some w) (hp : (ax_PL (pi_X5_cleared_46 G X Q x0 x2 x3) (ax_PL (pi_X5_cleared_35 G X Q x0 x2) (fun w : Int × ax_H => Q = ax_Q G X h0 w.2 (some (.int (Int32.ofInt w.1)))))) w) : ax_W G X Q h 83 ls [.int (Int32.ofInt s2), .int (Int32.ofInt s1), va_rf s0] := by
  unfold f_X5_cleared_83 at e
  refine ax_iast B kd100 dX5_cleared_83 e (fun h1 e => ?_)
  refine ax_iinc (L' := [(4, .inl (x4 + 1)), (0, .inr (.inr x0)), (2, .inl x2), (3, .inl x3)]) B dX5_cleared_84 hl 3 rfl (by decide) rfl (fun ls hl => ?_)
  refine ax_goto (tgt := 46) B dX5_cleared_87 (by decide) ?_
  cases e
  exact hp _ (hl.sub [1, 2, 3, 0] rfl)
set_option maxHeartbeats 4000000 in
theorem wb_X5_cleared_46 {l : Launch} {G : ax_G} {X : ax_X} {Q : State → Prop} {h0 h : ax_H} {ls : Array Slot} (hSF : ax_SF G) (B : ax_BL l G X cX5_cleared 6 RX5 136 3541) (Z : ax_Z X h0 ((some FieldType.int))) (hn : X.2.2.2.2.2.2.2.2.1.name = yX5_cleared.name) (x0 : Option Nat) (x2 : Int) (x3 : Int) (x4 : Int) {w : (Int × ax_H) ⊕ ((Int × ax_H) ⊕ (Int × ax_H))} (hl : ax_hl ls 6 [(0, .inr (.inr x0)), (2, .inl x2), (3, .inl x3), (4, .inl x4)]) (e : lb_X5_cleared_46 G.2.2 x0 x2 x3 x4 h = some w) (hp : (ax_PL (pi_X5_cleared_46 G X Q x0 x2 x3) (ax_PL (pi_X5_cleared_35 G X Q x0 x2) (fun w : Int × ax_H => Q = ax_Q G X h0 w.2 (some (.int (Int32.ofInt w.1)))))) w) : ax_W G X Q h 46 ls [] := by
  unfold lb_X5_cleared_46 at e
  refine ax_iload B dX5_cleared_46 hl 3 rfl ?_
  refine ax_aload_n B dX5_cleared_48 rfl hl 0 rfl ?_
  refine ax_ivI (y := yX5_people) (n := 0) (As := []) B kd5 (lw_V q2180 q2182 qs44 q133 q2183) (by decide +kernel) ⟨Nat.le_of_ble_eq_true rfl, Nat.le_of_ble_eq_true rfl⟩ (fun w1 e1 => mt_X5_people l G hSF x0 _ w1 e1) rfl hl.size (by simp only [List.map_cons, List.map_nil, List.sum_cons, List.sum_nil, va_rf_cat, ax_catI, ax_catL]; decide) dX5_cleared_49 e (fun q1 e => ?_)
  refine ax_icmp_ge (tgt := 90) B dX5_cleared_52 (by decide) e (fun e => ?_) (fun e => ?_)
  · refine ax_aload_n B dX5_cleared_55 rfl hl 0 rfl ?_
    refine ax_getR B ff_X5_101_5 (fun _ _ => rfl) dX5_cleared_56 e (fun v2 e => ?_)
    refine ax_bipush B dX5_cleared_59 (by decide) ?_
    refine ax_iload_n B dX5_cleared_61 rfl hl 2 rfl ?_
    refine ax_imul' B dX5_cleared_62 ?_
    refine ax_iload B dX5_cleared_63 hl 3 rfl ?_
    refine ax_iadd' B dX5_cleared_65 ?_
    refine ax_iload_n B dX5_cleared_66 rfl hl 2 rfl ?_
    refine ax_iload B dX5_cleared_67 hl 3 rfl ?_
    refine ax_icmp_ne (tgt := 76) B dX5_cleared_69 (by decide) e (fun e => ?_) (fun e => ?_)
    · refine ax_iconst B dX5_cleared_72 ?_
      refine ax_goto (tgt := 83) B dX5_cleared_73 (by decide) ?_
      exact w_X5_cleared_83 hSF B Z hn x0 x2 x3 x4 v2 ((7 * x3) + x4) 0 (hl.sub [0, 1, 2, 3] rfl) e hp
    · refine ax_aload_n B dX5_cleared_76 rfl hl 0 rfl ?_
      refine ax_iload_n B dX5_cleared_77 rfl hl 2 rfl ?_
      refine ax_iload B dX5_cleared_78 hl 3 rfl ?_
      refine ax_ivI (y := yX5_deepNow) (n := 2) (As := [.int (Int32.ofInt x3), .int (Int32.ofInt x4)]) B kd5 (lw_V q2431 q2433 qs88 q133 q2434) (by decide +kernel) ⟨Nat.le_of_ble_eq_true rfl, Nat.le_of_ble_eq_true rfl⟩ (fun w1 e1 => mt_X5_deepNow l G hSF x0 x3 x4 _ w1 e1) rfl hl.size (by simp only [List.map_cons, List.map_nil, List.sum_cons, List.sum_nil, va_rf_cat, ax_catI, ax_catL]; decide) dX5_cleared_80 e (fun q3 e => ?_)
      exact w_X5_cleared_83 hSF B Z hn x0 x2 x3 x4 v2 ((7 * x3) + x4) q3.1 (hl.sub [0, 1, 2, 3] rfl) e hp
  · obtain ⟨w, e9_1, rfl⟩ := Option.map_eq_some_iff.mp e
    have e := e9_1
    refine ax_iinc (L' := [(3, .inl (x3 + 1)), (0, .inr (.inr x0)), (2, .inl x2), (4, .inl x4)]) B dX5_cleared_90 hl 2 rfl (by decide) rfl (fun ls hl => ?_)
    refine ax_goto (tgt := 35) B dX5_cleared_93 (by decide) ?_
    cases e
    exact hp _ (hl.sub [1, 2, 0] rfl)
theorem w_X5_cleared_46 {l : Launch} {G : ax_G} {X : ax_X} {Q : State → Prop} {h0 h : ax_H} {ls : Array Slot} (hSF : ax_SF G) (B : ax_BL l G X cX5_cleared 6 RX5 136 3541) (Z : ax_Z X h0 ((some FieldType.int))) (hn : X.2.2.2.2.2.2.2.2.1.name = yX5_cleared.name) (x0 : Option Nat) (x2 : Int) (x3 : Int) (x4 : Int) {w : (Int × ax_H) ⊕ (Int × ax_H)} (hl : ax_hl ls 6 [(0, .inr (.inr x0)), (2, .inl x2), (3, .inl x3), (4, .inl x4)]) (e : f_X5_cleared_46 G.2.2 x0 x2 x3 x4 h = some w) (hp : (ax_PL (pi_X5_cleared_35 G X Q x0 x2) (fun w : Int × ax_H => Q = ax_Q G X h0 w.2 (some (.int (Int32.ofInt w.1))))) w) : ax_W G X Q h 46 ls [] :=
  ax_iter_W (Pin := pi_X5_cleared_46 G X Q x0 x2 x3) (Pout := (ax_PL (pi_X5_cleared_35 G X Q x0 x2) (fun w : Int × ax_H => Q = ax_Q G X h0 w.2 (some (.int (Int32.ofInt w.1)))))) (fun s w e hp ls hl => wb_X5_cleared_46 hSF B Z hn x0 x2 x3 s.1 hl e hp) _ _ e hp ls hl
set_option maxHeartbeats 4000000 in
theorem w_X5_cleared_170 {l : Launch} {G : ax_G} {X : ax_X} {Q : State → Prop} {h0 h : ax_H} {ls : Array Slot} (hSF : ax_SF G) (B : ax_BL l G X cX5_cleared 6 RX5 136 3541) (Z : ax_Z X h0 ((some FieldType.int))) (hn : X.2.2.2.2.2.2.2.2.1.name = yX5_cleared.name) (x0 : Option Nat) (x4 : Int) (x5 : Int) (s0 : Int) (s1 : Int) {w : (Int × Int × ax_H) ⊕ ((Int × Int × ax_H) ⊕ (Int × ax_H))} (hl : ax_hl ls 6 [(0, .inr (.inr x0)), (4, .inl x4), (5, .inl x5)]) (e : f_X5_cleared_170 G.2.2 x0 x4 x5 s0 s1 h = some w) (hp : (ax_PL (pi_X5_cleared_124 G X Q x0 x4) (ax_PL (pi_X5_cleared_112 G X Q x0) (fun w : Int × ax_H => Q = ax_Q G X h0 w.2 (some (.int (Int32.ofInt w.1)))))) w) : ax_W G X Q h 170 ls [.int (Int32.ofInt s1), .int (Int32.ofInt s0)] := by
  unfold f_X5_cleared_170 at e
  refine ax_iadd' B dX5_cleared_170 ?_
  refine ax_istore_n (L' := [(3, .inl (s0 + s1)), (0, .inr (.inr x0)), (4, .inl x4), (5, .inl x5)]) B dX5_cleared_171 rfl hl (by decide) rfl (fun ls hl => ?_)
  refine ax_iinc (L' := [(5, .inl (x5 + 1)), (3, .inl (s0 + s1)), (0, .inr (.inr x0)), (4, .inl x4)]) B dX5_cleared_172 hl 3 rfl (by decide) rfl (fun ls hl => ?_)
  refine ax_goto (tgt := 124) B dX5_cleared_175 (by decide) ?_
  cases e
  exact hp _ (hl.sub [2, 1, 3, 0] rfl)
set_option maxHeartbeats 4000000 in
theorem w_X5_cleared_169 {l : Launch} {G : ax_G} {X : ax_X} {Q : State → Prop} {h0 h : ax_H} {ls : Array Slot} (hSF : ax_SF G) (B : ax_BL l G X cX5_cleared 6 RX5 136 3541) (Z : ax_Z X h0 ((some FieldType.int))) (hn : X.2.2.2.2.2.2.2.2.1.name = yX5_cleared.name) (x0 : Option Nat) (x4 : Int) (x5 : Int) (s0 : Int) {w : (Int × Int × ax_H) ⊕ ((Int × Int × ax_H) ⊕ (Int × ax_H))} (hl : ax_hl ls 6 [(0, .inr (.inr x0)), (4, .inl x4), (5, .inl x5)]) (e : f_X5_cleared_169 G.2.2 x0 x4 x5 s0 h = some w) (hp : (ax_PL (pi_X5_cleared_124 G X Q x0 x4) (ax_PL (pi_X5_cleared_112 G X Q x0) (fun w : Int × ax_H => Q = ax_Q G X h0 w.2 (some (.int (Int32.ofInt w.1)))))) w) : ax_W G X Q h 169 ls [.int (Int32.ofInt s0)] := by
  unfold f_X5_cleared_169 at e
  refine ax_iconst B dX5_cleared_169 ?_
  exact w_X5_cleared_170 hSF B Z hn x0 x4 x5 s0 0 (hl.sub [0, 1, 2] rfl) e hp
set_option maxHeartbeats 4000000 in
theorem wb_X5_cleared_124 {l : Launch} {G : ax_G} {X : ax_X} {Q : State → Prop} {h0 h : ax_H} {ls : Array Slot} (hSF : ax_SF G) (B : ax_BL l G X cX5_cleared 6 RX5 136 3541) (Z : ax_Z X h0 ((some FieldType.int))) (hn : X.2.2.2.2.2.2.2.2.1.name = yX5_cleared.name) (x0 : Option Nat) (x3 : Int) (x4 : Int) (x5 : Int) {w : (Int × Int × ax_H) ⊕ ((Int × Int × ax_H) ⊕ (Int × ax_H))} (hl : ax_hl ls 6 [(0, .inr (.inr x0)), (3, .inl x3), (4, .inl x4), (5, .inl x5)]) (e : lb_X5_cleared_124 G.2.2 x0 x3 x4 x5 h = some w) (hp : (ax_PL (pi_X5_cleared_124 G X Q x0 x4) (ax_PL (pi_X5_cleared_112 G X Q x0) (fun w : Int × ax_H => Q = ax_Q G X h0 w.2 (some (.int (Int32.ofInt w.1)))))) w) : ax_W G X Q h 124 ls [] := by
  unfold lb_X5_cleared_124 at e
  refine ax_iload B dX5_cleared_124 hl 3 rfl ?_
  refine ax_aload_n B dX5_cleared_126 rfl hl 0 rfl ?_
  refine ax_ivI (y := yX5_people) (n := 0) (As := []) B kd5 (lw_V q2180 q2182 qs44 q133 q2183) (by decide +kernel) ⟨Nat.le_of_ble_eq_true rfl, Nat.le_of_ble_eq_true rfl⟩ (fun w1 e1 => mt_X5_people l G hSF x0 _ w1 e1) rfl hl.size (by simp only [List.map_cons, List.map_nil, List.sum_cons, List.sum_nil, va_rf_cat, ax_catI, ax_catL]; decide) dX5_cleared_127 e (fun q1 e => ?_)
  refine ax_icmp_ge (tgt := 178) B dX5_cleared_130 (by decide) e (fun e => ?_) (fun e => ?_)
  · refine ax_iload_n B dX5_cleared_133 rfl hl 1 rfl ?_
    refine ax_iload B dX5_cleared_134 hl 2 rfl ?_
    refine ax_iload B dX5_cleared_136 hl 3 rfl ?_
    refine ax_icmp_eq (tgt := 169) B dX5_cleared_138 (by decide) e (fun e => ?_) (fun e => ?_)
    · exact w_X5_cleared_169 hSF B Z hn x0 x4 x5 x3 (hl.sub [0, 2, 3] rfl) e hp
    · refine ax_aload_n B dX5_cleared_141 rfl hl 0 rfl ?_
      refine ax_iload B dX5_cleared_142 hl 2 rfl ?_
      refine ax_iload B dX5_cleared_144 hl 3 rfl ?_
      refine ax_ivI (y := yX5_deepNow) (n := 2) (As := [.int (Int32.ofInt x4), .int (Int32.ofInt x5)]) B kd5 (lw_V q2431 q2433 qs88 q133 q2434) (by decide +kernel) ⟨Nat.le_of_ble_eq_true rfl, Nat.le_of_ble_eq_true rfl⟩ (fun w1 e1 => mt_X5_deepNow l G hSF x0 x4 x5 _ w1 e1) rfl hl.size (by simp only [List.map_cons, List.map_nil, List.sum_cons, List.sum_nil, va_rf_cat, ax_catI, ax_catL]; decide) dX5_cleared_146 e (fun q2 e => ?_)
      refine ax_aload_n B dX5_cleared_149 rfl hl 0 rfl ?_
      refine ax_getR B ff_X5_101_5 (fun _ _ => rfl) dX5_cleared_150 e (fun v3 e => ?_)
      refine ax_bipush B dX5_cleared_153 (by decide) ?_
      refine ax_iload B dX5_cleared_155 hl 2 rfl ?_
      refine ax_imul' B dX5_cleared_157 ?_
      refine ax_iload B dX5_cleared_158 hl 3 rfl ?_
      refine ax_iadd' B dX5_cleared_160 ?_
      refine ax_iald B kd100 dX5_cleared_161 e (fun v4 e => ?_)
      refine ax_icmp_ge (tgt := 169) B dX5_cleared_162 (by decide) e (fun e => ?_) (fun e => ?_)
      · refine ax_iconst B dX5_cleared_165 ?_
        refine ax_goto (tgt := 170) B dX5_cleared_166 (by decide) ?_
        exact w_X5_cleared_170 hSF B Z hn x0 x4 x5 x3 1 (hl.sub [0, 2, 3] rfl) e hp
      · exact w_X5_cleared_169 hSF B Z hn x0 x4 x5 x3 (hl.sub [0, 2, 3] rfl) e hp
  · obtain ⟨w, e9_2, rfl⟩ := Option.map_eq_some_iff.mp e
    have e := e9_2
    refine ax_iinc (L' := [(4, .inl (x4 + 1)), (0, .inr (.inr x0)), (3, .inl x3), (5, .inl x5)]) B dX5_cleared_178 hl 2 rfl (by decide) rfl (fun ls hl => ?_)
    refine ax_goto (tgt := 112) B dX5_cleared_181 (by decide) ?_
    cases e
    exact hp _ (hl.sub [1, 2, 0] rfl)
theorem w_X5_cleared_124 {l : Launch} {G : ax_G} {X : ax_X} {Q : State → Prop} {h0 h : ax_H} {ls : Array Slot} (hSF : ax_SF G) (B : ax_BL l G X cX5_cleared 6 RX5 136 3541) (Z : ax_Z X h0 ((some FieldType.int))) (hn : X.2.2.2.2.2.2.2.2.1.name = yX5_cleared.name) (x0 : Option Nat) (x3 : Int) (x4 : Int) (x5 : Int) {w : (Int × Int × ax_H) ⊕ (Int × ax_H)} (hl : ax_hl ls 6 [(0, .inr (.inr x0)), (3, .inl x3), (4, .inl x4), (5, .inl x5)]) (e : f_X5_cleared_124 G.2.2 x0 x3 x4 x5 h = some w) (hp : (ax_PL (pi_X5_cleared_112 G X Q x0) (fun w : Int × ax_H => Q = ax_Q G X h0 w.2 (some (.int (Int32.ofInt w.1))))) w) : ax_W G X Q h 124 ls [] :=
  ax_iter_W (Pin := pi_X5_cleared_124 G X Q x0 x4) (Pout := (ax_PL (pi_X5_cleared_112 G X Q x0) (fun w : Int × ax_H => Q = ax_Q G X h0 w.2 (some (.int (Int32.ofInt w.1)))))) (fun s w e hp ls hl => wb_X5_cleared_124 hSF B Z hn x0 s.1 x4 s.2.1 hl e hp) _ _ e hp ls hl
set_option maxHeartbeats 4000000 in
theorem wb_X5_cleared_112 {l : Launch} {G : ax_G} {X : ax_X} {Q : State → Prop} {h0 h : ax_H} {ls : Array Slot} (hSF : ax_SF G) (B : ax_BL l G X cX5_cleared 6 RX5 136 3541) (Z : ax_Z X h0 ((some FieldType.int))) (hn : X.2.2.2.2.2.2.2.2.1.name = yX5_cleared.name) (x0 : Option Nat) (x3 : Int) (x4 : Int) {w : (Int × Int × ax_H) ⊕ (Int × ax_H)} (hl : ax_hl ls 6 [(0, .inr (.inr x0)), (3, .inl x3), (4, .inl x4)]) (e : lb_X5_cleared_112 G.2.2 x0 x3 x4 h = some w) (hp : (ax_PL (pi_X5_cleared_112 G X Q x0) (fun w : Int × ax_H => Q = ax_Q G X h0 w.2 (some (.int (Int32.ofInt w.1))))) w) : ax_W G X Q h 112 ls [] := by
  unfold lb_X5_cleared_112 at e
  refine ax_iload B dX5_cleared_112 hl 2 rfl ?_
  refine ax_aload_n B dX5_cleared_114 rfl hl 0 rfl ?_
  refine ax_ivI (y := yX5_people) (n := 0) (As := []) B kd5 (lw_V q2180 q2182 qs44 q133 q2183) (by decide +kernel) ⟨Nat.le_of_ble_eq_true rfl, Nat.le_of_ble_eq_true rfl⟩ (fun w1 e1 => mt_X5_people l G hSF x0 _ w1 e1) rfl hl.size (by simp only [List.map_cons, List.map_nil, List.sum_cons, List.sum_nil, va_rf_cat, ax_catI, ax_catL]; decide) dX5_cleared_115 e (fun q1 e => ?_)
  refine ax_icmp_ge (tgt := 184) B dX5_cleared_118 (by decide) e (fun e => ?_) (fun e => ?_)
  · refine ax_iconst B dX5_cleared_121 ?_
    refine ax_istore (L' := [(5, .inl 0), (0, .inr (.inr x0)), (3, .inl x3), (4, .inl x4)]) B dX5_cleared_122 hl (by decide) rfl (fun ls hl => ?_)
    exact w_X5_cleared_124 hSF B Z hn x0 x3 x4 0 (hl.sub [1, 2, 3, 0] rfl) e hp
  · obtain ⟨w, e9_3, rfl⟩ := Option.map_eq_some_iff.mp e
    have e := e9_3
    refine ax_aload_n B dX5_cleared_184 rfl hl 0 rfl ?_
    refine ax_bipush B dX5_cleared_185 (by decide) ?_
    refine ax_ivV (y := yX5_takesBack) (n := 1) (As := [.int (Int32.ofInt 9)]) B kd5 (lw_V q2581 q2583 qs112 q133 q2584) (by decide +kernel) ⟨Nat.le_of_ble_eq_true rfl, Nat.le_of_ble_eq_true rfl⟩ (fun w1 e1 => mt_X5_takesBack l G hSF x0 9 _ w1 e1) rfl hl.size (by decide) dX5_cleared_187 e (fun h2 e => ?_)
    refine ax_iload_n B dX5_cleared_190 rfl hl 1 rfl ?_
    have e8 := e
    have hp : Q = _ := hp
    subst hp
    exact ax_ireturn B Z dX5_cleared_191 e8
theorem w_X5_cleared_112 {l : Launch} {G : ax_G} {X : ax_X} {Q : State → Prop} {h0 h : ax_H} {ls : Array Slot} (hSF : ax_SF G) (B : ax_BL l G X cX5_cleared 6 RX5 136 3541) (Z : ax_Z X h0 ((some FieldType.int))) (hn : X.2.2.2.2.2.2.2.2.1.name = yX5_cleared.name) (x0 : Option Nat) (x3 : Int) (x4 : Int) {w : Int × ax_H} (hl : ax_hl ls 6 [(0, .inr (.inr x0)), (3, .inl x3), (4, .inl x4)]) (e : f_X5_cleared_112 G.2.2 x0 x3 x4 h = some w) (hp : (fun w : Int × ax_H => Q = ax_Q G X h0 w.2 (some (.int (Int32.ofInt w.1)))) w) : ax_W G X Q h 112 ls [] :=
  ax_iter_W (Pin := pi_X5_cleared_112 G X Q x0) (Pout := (fun w : Int × ax_H => Q = ax_Q G X h0 w.2 (some (.int (Int32.ofInt w.1))))) (fun s w e hp ls hl => wb_X5_cleared_112 hSF B Z hn x0 s.1 s.2.1 hl e hp) _ _ e hp ls hl
set_option maxHeartbeats 4000000 in
theorem wb_X5_cleared_35 {l : Launch} {G : ax_G} {X : ax_X} {Q : State → Prop} {h0 h : ax_H} {ls : Array Slot} (hSF : ax_SF G) (B : ax_BL l G X cX5_cleared 6 RX5 136 3541) (Z : ax_Z X h0 ((some FieldType.int))) (hn : X.2.2.2.2.2.2.2.2.1.name = yX5_cleared.name) (x0 : Option Nat) (x2 : Int) (x3 : Int) {w : (Int × ax_H) ⊕ (Int × ax_H)} (hl : ax_hl ls 6 [(0, .inr (.inr x0)), (2, .inl x2), (3, .inl x3)]) (e : lb_X5_cleared_35 G.2.2 x0 x2 x3 h = some w) (hp : (ax_PL (pi_X5_cleared_35 G X Q x0 x2) (fun w : Int × ax_H => Q = ax_Q G X h0 w.2 (some (.int (Int32.ofInt w.1))))) w) : ax_W G X Q h 35 ls [] := by
  unfold lb_X5_cleared_35 at e
  refine ax_iload_n B dX5_cleared_35 rfl hl 2 rfl ?_
  refine ax_aload_n B dX5_cleared_36 rfl hl 0 rfl ?_
  refine ax_ivI (y := yX5_people) (n := 0) (As := []) B kd5 (lw_V q2180 q2182 qs44 q133 q2183) (by decide +kernel) ⟨Nat.le_of_ble_eq_true rfl, Nat.le_of_ble_eq_true rfl⟩ (fun w1 e1 => mt_X5_people l G hSF x0 _ w1 e1) rfl hl.size (by simp only [List.map_cons, List.map_nil, List.sum_cons, List.sum_nil, va_rf_cat, ax_catI, ax_catL]; decide) dX5_cleared_37 e (fun q1 e => ?_)
  refine ax_icmp_ge (tgt := 96) B dX5_cleared_40 (by decide) e (fun e => ?_) (fun e => ?_)
  · refine ax_iconst B dX5_cleared_43 ?_
    refine ax_istore (L' := [(4, .inl 0), (0, .inr (.inr x0)), (2, .inl x2), (3, .inl x3)]) B dX5_cleared_44 hl (by decide) rfl (fun ls hl => ?_)
    exact w_X5_cleared_46 hSF B Z hn x0 x2 x3 0 (hl.sub [1, 2, 3, 0] rfl) e hp
  · obtain ⟨w, e9_4, rfl⟩ := Option.map_eq_some_iff.mp e
    have e := e9_4
    refine ax_aload_n B dX5_cleared_96 rfl hl 0 rfl ?_
    refine ax_bipush B dX5_cleared_97 (by decide) ?_
    refine ax_ivV (y := yX5_laysAside) (n := 1) (As := [.int (Int32.ofInt 9)]) B kd5 (lw_V q2577 q2579 qs111 q133 q2580) (by decide +kernel) ⟨Nat.le_of_ble_eq_true rfl, Nat.le_of_ble_eq_true rfl⟩ (fun w1 e1 => mt_X5_laysAside l G hSF x0 9 _ w1 e1) rfl hl.size (by decide) dX5_cleared_99 e (fun h2 e => ?_)
    refine ax_aload_n B dX5_cleared_102 rfl hl 0 rfl ?_
    refine ax_iload_n B dX5_cleared_103 rfl hl 1 rfl ?_
    refine ax_ivV (y := yX5_clears) (n := 1) (As := [.int (Int32.ofInt x2)]) B kd5 (lw_V q2633 q2635 qs118 q133 q2636) (by decide +kernel) ⟨Nat.le_of_ble_eq_true rfl, Nat.le_of_ble_eq_true rfl⟩ (fun w1 e1 => mt_X5_clears l G hSF x0 x2 _ w1 e1) rfl hl.size (by decide) dX5_cleared_104 e (fun h3 e => ?_)
    refine ax_iconst B dX5_cleared_107 ?_
    refine ax_istore_n (L' := [(3, .inl 0), (0, .inr (.inr x0)), (2, .inl x2)]) B dX5_cleared_108 rfl hl (by decide) rfl (fun ls hl => ?_)
    refine ax_iconst B dX5_cleared_109 ?_
    refine ax_istore (L' := [(4, .inl 0), (3, .inl 0), (0, .inr (.inr x0)), (2, .inl x2)]) B dX5_cleared_110 hl (by decide) rfl (fun ls hl => ?_)
    exact w_X5_cleared_112 hSF B Z hn x0 0 0 (hl.sub [2, 1, 0] rfl) e hp
theorem w_X5_cleared_35 {l : Launch} {G : ax_G} {X : ax_X} {Q : State → Prop} {h0 h : ax_H} {ls : Array Slot} (hSF : ax_SF G) (B : ax_BL l G X cX5_cleared 6 RX5 136 3541) (Z : ax_Z X h0 ((some FieldType.int))) (hn : X.2.2.2.2.2.2.2.2.1.name = yX5_cleared.name) (x0 : Option Nat) (x2 : Int) (x3 : Int) {w : Int × ax_H} (hl : ax_hl ls 6 [(0, .inr (.inr x0)), (2, .inl x2), (3, .inl x3)]) (e : f_X5_cleared_35 G.2.2 x0 x2 x3 h = some w) (hp : (fun w : Int × ax_H => Q = ax_Q G X h0 w.2 (some (.int (Int32.ofInt w.1)))) w) : ax_W G X Q h 35 ls [] :=
  ax_iter_W (Pin := pi_X5_cleared_35 G X Q x0 x2) (Pout := (fun w : Int × ax_H => Q = ax_Q G X h0 w.2 (some (.int (Int32.ofInt w.1))))) (fun s w e hp ls hl => wb_X5_cleared_35 hSF B Z hn x0 x2 s.1 hl e hp) _ _ e hp ls hl
set_option maxHeartbeats 4000000 in
theorem we_X5_cleared {l : Launch} {G : ax_G} {X : ax_X} {Q : State → Prop} {h0 h : ax_H} {ls : Array Slot} (hSF : ax_SF G) (B : ax_BL l G X cX5_cleared 6 RX5 136 3541) (Z : ax_Z X h0 ((some FieldType.int))) (hn : X.2.2.2.2.2.2.2.2.1.name = yX5_cleared.name) (x0 : Option Nat) (x1 : Int) {w : Int × ax_H} (hl : ax_hl ls 6 [(0, .inr (.inr x0)), (1, .inl x1)]) (e : f_X5_cleared G.2.2 x0 x1 h = some w) (hp : (fun w : Int × ax_H => Q = ax_Q G X h0 w.2 (some (.int (Int32.ofInt w.1)))) w) : ax_W G X Q h 0 ls [] := by
  unfold f_X5_cleared at e
  refine ax_aload_n B dX5_cleared_0 rfl hl 0 rfl ?_
  refine ax_ivV (y := yX5_findsRing) (n := 0) (As := []) B kd5 (lw_V q2617 q2619 qs115 q133 q2620) (by decide +kernel) ⟨Nat.le_of_ble_eq_true rfl, Nat.le_of_ble_eq_true rfl⟩ (fun w1 e1 => mt_X5_findsRing l G hSF x0 _ w1 e1) rfl hl.size (by decide) dX5_cleared_1 e (fun h1 e => ?_)
  refine ax_aload_n B dX5_cleared_4 rfl hl 0 rfl ?_
  refine ax_getI B ff_X5_446_5 (fun _ _ => rfl) dX5_cleared_5 e (fun v2 e => ?_)
  refine ax_if_eq (tgt := 20) B dX5_cleared_8 (by decide) e (fun e => ?_) (fun e => ?_)
  · exact w_X5_cleared_20 hSF B Z hn (hl.sub [] rfl) e hp
  · refine ax_iload_n B dX5_cleared_11 rfl hl 1 rfl ?_
    refine ax_iconst B dX5_cleared_12 ?_
    refine ax_iconst B dX5_cleared_13 ?_
    refine ax_isI (y := yX5_lies) (n := 3) (As := [.int (Int32.ofInt x1), .int (Int32.ofInt 0), .int (Int32.ofInt 1)]) B (lw_S q2151 q2152 q133 q2153) (by decide +kernel) ⟨Nat.le_of_ble_eq_true rfl, Nat.le_of_ble_eq_true rfl⟩ (fun w1 e1 => mt_X5_lies l G hSF x1 0 1 _ w1 e1) rfl hl.size (by decide) dX5_cleared_14 e (fun q3 e => ?_)
    refine ax_if_ne (tgt := 22) B dX5_cleared_17 (by decide) e (fun e => ?_) (fun e => ?_)
    · exact w_X5_cleared_20 hSF B Z hn (hl.sub [] rfl) e hp
    · refine ax_aload_n B dX5_cleared_22 rfl hl 0 rfl ?_
      refine ax_ivI (y := yX5_ringLeast) (n := 0) (As := []) B kd5 (lw_V q2629 q2631 qs117 q133 q2632) (by decide +kernel) ⟨Nat.le_of_ble_eq_true rfl, Nat.le_of_ble_eq_true rfl⟩ (fun w1 e1 => mt_X5_ringLeast l G hSF x0 _ w1 e1) rfl hl.size (by decide) dX5_cleared_23 e (fun q4 e => ?_)
      refine ax_istore_n (L' := [(2, .inl q4.1), (0, .inr (.inr x0)), (1, .inl x1)]) B dX5_cleared_26 rfl hl (by decide) rfl (fun ls hl => ?_)
      refine ax_iload_n B dX5_cleared_27 rfl hl 2 rfl ?_
      refine ax_if_ne (tgt := 33) B dX5_cleared_28 (by decide) e (fun e => ?_) (fun e => ?_)
      · refine ax_iload_n B dX5_cleared_31 rfl hl 0 rfl ?_
        have e8 := e
        have hp : Q = _ := hp
        subst hp
        exact ax_ireturn B Z dX5_cleared_32 e8
      · refine ax_iconst B dX5_cleared_33 ?_
        refine ax_istore_n (L' := [(3, .inl 0), (2, .inl q4.1), (0, .inr (.inr x0)), (1, .inl x1)]) B dX5_cleared_34 rfl hl (by decide) rfl (fun ls hl => ?_)
        exact w_X5_cleared_35 hSF B Z hn x0 q4.1 0 (hl.sub [2, 1, 0] rfl) e hp
theorem mt_X5_cleared (l : Launch) (G : ax_G) (hSF : ax_SF G) (x0 : Option Nat) (x1 : Int) (h : ax_H) (w : Int × ax_H) (e : f_X5_cleared G.2.2 x0 x1 h = some w) : ax_Met l G yX5_cleared cX5_cleared 6 ((some FieldType.int)) 136 3541 [va_rf x0, .int (Int32.ofInt x1)] h w.2 (some (.int (Int32.ofInt w.1))) :=
  ax_enter [.inr (.inr x0), .inl x1] (y := yX5_cleared) hSF (plainFor_of_name (by decide +kernel)) (Nat.le_of_ble_eq_true rfl) (fun X ls B Z hn hl => we_X5_cleared hSF B Z hn x0 x1 hl e rfl)
def dkwX5_balanceOf_3 : List UInt8 := [5, 96, 46, 116, 167, 0, 4, 3, 96, 61, 132, 3, 1, 167, 255, 176, 28, 172]
abbrev dktX5_balanceOf_3 : List UInt8 := dkwX5_balanceOf_3 ++ []
def dkwX5_balanceOf_2 : List UInt8 := [180, 0, 24, 16, 7, 7, 29, 104, 96, 46, 27, 160, 0, 20, 42, 180, 0, 24, 16, 7, 7, 29, 104, 96]
abbrev dktX5_balanceOf_2 : List UInt8 := dkwX5_balanceOf_2 ++ dktX5_balanceOf_3
def dkwX5_balanceOf_1 : List UInt8 := [96, 46, 27, 160, 0, 19, 42, 180, 0, 24, 16, 7, 7, 29, 104, 96, 5, 96, 46, 167, 0, 36, 42]
abbrev dktX5_balanceOf_1 : List UInt8 := dkwX5_balanceOf_1 ++ dktX5_balanceOf_2
def dkwX5_balanceOf_0 : List UInt8 := [3, 61, 3, 62, 29, 42, 182, 0, 137, 162, 0, 78, 28, 42, 180, 0, 24, 16, 7, 7, 29, 104, 96, 4]
abbrev dktX5_balanceOf_0 : List UInt8 := dkwX5_balanceOf_0 ++ dktX5_balanceOf_1
theorem dksX5_balanceOf_0 : cX5_balanceOf.data.toList.drop 0 = dktX5_balanceOf_0 := by decide +kernel
theorem dksX5_balanceOf_1 : cX5_balanceOf.data.toList.drop 24 = dktX5_balanceOf_1 := dk_seg dksX5_balanceOf_0 24 rfl rfl
theorem dksX5_balanceOf_2 : cX5_balanceOf.data.toList.drop 47 = dktX5_balanceOf_2 := dk_seg dksX5_balanceOf_1 23 rfl rfl
theorem dksX5_balanceOf_3 : cX5_balanceOf.data.toList.drop 71 = dktX5_balanceOf_3 := dk_seg dksX5_balanceOf_2 24 rfl rfl
theorem dX5_balanceOf_0 : decode cX5_balanceOf 0 = .ok (.iconst 0, 1) := dk_3 (dk_at dksX5_balanceOf_0 0 rfl rfl)
theorem dX5_balanceOf_1 : decode cX5_balanceOf 1 = .ok (.istore_n 2, 1) := dk_61 (dk_at dksX5_balanceOf_0 1 rfl rfl)
theorem dX5_balanceOf_2 : decode cX5_balanceOf 2 = .ok (.iconst 0, 1) := dk_3 (dk_at dksX5_balanceOf_0 2 rfl rfl)
theorem dX5_balanceOf_3 : decode cX5_balanceOf 3 = .ok (.istore_n 3, 1) := dk_62 (dk_at dksX5_balanceOf_0 3 rfl rfl)
theorem dX5_balanceOf_4 : decode cX5_balanceOf 4 = .ok (.iload_n 3, 1) := dk_29 (dk_at dksX5_balanceOf_0 4 rfl rfl)
theorem dX5_balanceOf_5 : decode cX5_balanceOf 5 = .ok (.aload_n 0, 1) := dk_42 (dk_at dksX5_balanceOf_0 5 rfl rfl)
theorem dX5_balanceOf_6 : decode cX5_balanceOf 6 = .ok (.invokevirtual 137, 3) := dk_182 0 137 (dk_at dksX5_balanceOf_0 6 rfl rfl)
theorem dX5_balanceOf_9 : decode cX5_balanceOf 9 = .ok (.if_icmp .ge 78, 3) := dk_162 0 78 (dk_at dksX5_balanceOf_0 9 rfl rfl)
theorem dX5_balanceOf_12 : decode cX5_balanceOf 12 = .ok (.iload_n 2, 1) := dk_28 (dk_at dksX5_balanceOf_0 12 rfl rfl)
theorem dX5_balanceOf_13 : decode cX5_balanceOf 13 = .ok (.aload_n 0, 1) := dk_42 (dk_at dksX5_balanceOf_0 13 rfl rfl)
theorem dX5_balanceOf_14 : decode cX5_balanceOf 14 = .ok (.getfield 24, 3) := dk_180 0 24 (dk_at dksX5_balanceOf_0 14 rfl rfl)
theorem dX5_balanceOf_17 : decode cX5_balanceOf 17 = .ok (.bipush 7, 2) := dk_16 7 (dk_at dksX5_balanceOf_0 17 rfl rfl)
theorem dX5_balanceOf_19 : decode cX5_balanceOf 19 = .ok (.iconst 4, 1) := dk_7 (dk_at dksX5_balanceOf_0 19 rfl rfl)
theorem dX5_balanceOf_20 : decode cX5_balanceOf 20 = .ok (.iload_n 3, 1) := dk_29 (dk_at dksX5_balanceOf_0 20 rfl rfl)
theorem dX5_balanceOf_21 : decode cX5_balanceOf 21 = .ok (.imul, 1) := dk_104 (dk_at dksX5_balanceOf_0 21 rfl rfl)
theorem dX5_balanceOf_22 : decode cX5_balanceOf 22 = .ok (.iadd, 1) := dk_96 (dk_at dksX5_balanceOf_0 22 rfl rfl)
theorem dX5_balanceOf_23 : decode cX5_balanceOf 23 = .ok (.iconst 1, 1) := dk_4 (dk_at dksX5_balanceOf_0 23 rfl rfl)
theorem dX5_balanceOf_24 : decode cX5_balanceOf 24 = .ok (.iadd, 1) := dk_96 (dk_at dksX5_balanceOf_1 0 rfl rfl)
theorem dX5_balanceOf_25 : decode cX5_balanceOf 25 = .ok (.iaload, 1) := dk_46 (dk_at dksX5_balanceOf_1 1 rfl rfl)
theorem dX5_balanceOf_26 : decode cX5_balanceOf 26 = .ok (.iload_n 1, 1) := dk_27 (dk_at dksX5_balanceOf_1 2 rfl rfl)
theorem dX5_balanceOf_27 : decode cX5_balanceOf 27 = .ok (.if_icmp .ne 19, 3) := dk_160 0 19 (dk_at dksX5_balanceOf_1 3 rfl rfl)
theorem dX5_balanceOf_30 : decode cX5_balanceOf 30 = .ok (.aload_n 0, 1) := dk_42 (dk_at dksX5_balanceOf_1 6 rfl rfl)
theorem dX5_balanceOf_31 : decode cX5_balanceOf 31 = .ok (.getfield 24, 3) := dk_180 0 24 (dk_at dksX5_balanceOf_1 7 rfl rfl)
theorem dX5_balanceOf_34 : decode cX5_balanceOf 34 = .ok (.bipush 7, 2) := dk_16 7 (dk_at dksX5_balanceOf_1 10 rfl rfl)
theorem dX5_balanceOf_36 : decode cX5_balanceOf 36 = .ok (.iconst 4, 1) := dk_7 (dk_at dksX5_balanceOf_1 12 rfl rfl)
theorem dX5_balanceOf_37 : decode cX5_balanceOf 37 = .ok (.iload_n 3, 1) := dk_29 (dk_at dksX5_balanceOf_1 13 rfl rfl)
theorem dX5_balanceOf_38 : decode cX5_balanceOf 38 = .ok (.imul, 1) := dk_104 (dk_at dksX5_balanceOf_1 14 rfl rfl)
theorem dX5_balanceOf_39 : decode cX5_balanceOf 39 = .ok (.iadd, 1) := dk_96 (dk_at dksX5_balanceOf_1 15 rfl rfl)
theorem dX5_balanceOf_40 : decode cX5_balanceOf 40 = .ok (.iconst 2, 1) := dk_5 (dk_at dksX5_balanceOf_1 16 rfl rfl)
theorem dX5_balanceOf_41 : decode cX5_balanceOf 41 = .ok (.iadd, 1) := dk_96 (dk_at dksX5_balanceOf_1 17 rfl rfl)
theorem dX5_balanceOf_42 : decode cX5_balanceOf 42 = .ok (.iaload, 1) := dk_46 (dk_at dksX5_balanceOf_1 18 rfl rfl)
theorem dX5_balanceOf_43 : decode cX5_balanceOf 43 = .ok (.goto 36, 3) := dk_167 0 36 (dk_at dksX5_balanceOf_1 19 rfl rfl)
theorem dX5_balanceOf_46 : decode cX5_balanceOf 46 = .ok (.aload_n 0, 1) := dk_42 (dk_at dksX5_balanceOf_1 22 rfl rfl)
theorem dX5_balanceOf_47 : decode cX5_balanceOf 47 = .ok (.getfield 24, 3) := dk_180 0 24 (dk_at dksX5_balanceOf_2 0 rfl rfl)
theorem dX5_balanceOf_50 : decode cX5_balanceOf 50 = .ok (.bipush 7, 2) := dk_16 7 (dk_at dksX5_balanceOf_2 3 rfl rfl)
theorem dX5_balanceOf_52 : decode cX5_balanceOf 52 = .ok (.iconst 4, 1) := dk_7 (dk_at dksX5_balanceOf_2 5 rfl rfl)
theorem dX5_balanceOf_53 : decode cX5_balanceOf 53 = .ok (.iload_n 3, 1) := dk_29 (dk_at dksX5_balanceOf_2 6 rfl rfl)
theorem dX5_balanceOf_54 : decode cX5_balanceOf 54 = .ok (.imul, 1) := dk_104 (dk_at dksX5_balanceOf_2 7 rfl rfl)
theorem dX5_balanceOf_55 : decode cX5_balanceOf 55 = .ok (.iadd, 1) := dk_96 (dk_at dksX5_balanceOf_2 8 rfl rfl)
theorem dX5_balanceOf_56 : decode cX5_balanceOf 56 = .ok (.iaload, 1) := dk_46 (dk_at dksX5_balanceOf_2 9 rfl rfl)
theorem dX5_balanceOf_57 : decode cX5_balanceOf 57 = .ok (.iload_n 1, 1) := dk_27 (dk_at dksX5_balanceOf_2 10 rfl rfl)
theorem dX5_balanceOf_58 : decode cX5_balanceOf 58 = .ok (.if_icmp .ne 20, 3) := dk_160 0 20 (dk_at dksX5_balanceOf_2 11 rfl rfl)
theorem dX5_balanceOf_61 : decode cX5_balanceOf 61 = .ok (.aload_n 0, 1) := dk_42 (dk_at dksX5_balanceOf_2 14 rfl rfl)
theorem dX5_balanceOf_62 : decode cX5_balanceOf 62 = .ok (.getfield 24, 3) := dk_180 0 24 (dk_at dksX5_balanceOf_2 15 rfl rfl)
theorem dX5_balanceOf_65 : decode cX5_balanceOf 65 = .ok (.bipush 7, 2) := dk_16 7 (dk_at dksX5_balanceOf_2 18 rfl rfl)
theorem dX5_balanceOf_67 : decode cX5_balanceOf 67 = .ok (.iconst 4, 1) := dk_7 (dk_at dksX5_balanceOf_2 20 rfl rfl)
theorem dX5_balanceOf_68 : decode cX5_balanceOf 68 = .ok (.iload_n 3, 1) := dk_29 (dk_at dksX5_balanceOf_2 21 rfl rfl)
theorem dX5_balanceOf_69 : decode cX5_balanceOf 69 = .ok (.imul, 1) := dk_104 (dk_at dksX5_balanceOf_2 22 rfl rfl)
theorem dX5_balanceOf_70 : decode cX5_balanceOf 70 = .ok (.iadd, 1) := dk_96 (dk_at dksX5_balanceOf_2 23 rfl rfl)
theorem dX5_balanceOf_71 : decode cX5_balanceOf 71 = .ok (.iconst 2, 1) := dk_5 (dk_at dksX5_balanceOf_3 0 rfl rfl)
theorem dX5_balanceOf_72 : decode cX5_balanceOf 72 = .ok (.iadd, 1) := dk_96 (dk_at dksX5_balanceOf_3 1 rfl rfl)
theorem dX5_balanceOf_73 : decode cX5_balanceOf 73 = .ok (.iaload, 1) := dk_46 (dk_at dksX5_balanceOf_3 2 rfl rfl)
theorem dX5_balanceOf_74 : decode cX5_balanceOf 74 = .ok (.ineg, 1) := dk_116 (dk_at dksX5_balanceOf_3 3 rfl rfl)
theorem dX5_balanceOf_75 : decode cX5_balanceOf 75 = .ok (.goto 4, 3) := dk_167 0 4 (dk_at dksX5_balanceOf_3 4 rfl rfl)
theorem dX5_balanceOf_78 : decode cX5_balanceOf 78 = .ok (.iconst 0, 1) := dk_3 (dk_at dksX5_balanceOf_3 7 rfl rfl)
theorem dX5_balanceOf_79 : decode cX5_balanceOf 79 = .ok (.iadd, 1) := dk_96 (dk_at dksX5_balanceOf_3 8 rfl rfl)
theorem dX5_balanceOf_80 : decode cX5_balanceOf 80 = .ok (.istore_n 2, 1) := dk_61 (dk_at dksX5_balanceOf_3 9 rfl rfl)
theorem dX5_balanceOf_81 : decode cX5_balanceOf 81 = .ok (.iinc 3 1, 3) := dk_132 3 1 (dk_at dksX5_balanceOf_3 10 rfl rfl)
theorem dX5_balanceOf_84 : decode cX5_balanceOf 84 = .ok (.goto (-80), 3) := dk_167 255 176 (dk_at dksX5_balanceOf_3 13 rfl rfl)
theorem dX5_balanceOf_87 : decode cX5_balanceOf 87 = .ok (.iload_n 2, 1) := dk_28 (dk_at dksX5_balanceOf_3 16 rfl rfl)
theorem dX5_balanceOf_88 : decode cX5_balanceOf 88 = .ok (.ireturn, 1) := dk_172 (dk_at dksX5_balanceOf_3 17 rfl rfl)
noncomputable def f_X5_balanceOf_79 (E : ax_E) (x0 : Option Nat) (x1 : Int) (x3 : Int) (s0 : Int) (s1 : Int) (h : ax_H) : Option ((Int × Int × ax_H) ⊕ (Int × ax_H)) :=
  some (.inl ((s0 + s1), (x3 + 1), h))
noncomputable def lb_X5_balanceOf_4 (E : ax_E) (x0 : Option Nat) (x1 : Int) (x2 : Int) (x3 : Int) (h : ax_H) : Option ((Int × Int × ax_H) ⊕ (Int × ax_H)) :=
  (ax_ce E h x0 5).bind fun _ => (f_X5_debts E x0 h).bind fun q1 =>
  if i2 x3 < i2 q1.1 then
    (ax_gR E q1.2 x0 5 2).bind fun v2 =>
    (ax_ld E q1.2 v2 100 ((7 + (4 * x3)) + 1)).bind fun v3 =>
    if i2 v3 = i2 x1 then
      (ax_gR E q1.2 x0 5 2).bind fun v4 =>
      (ax_ld E q1.2 v4 100 ((7 + (4 * x3)) + 2)).bind fun v5 =>
      f_X5_balanceOf_79 E x0 x1 x3 x2 v5 q1.2
    else
      (ax_gR E q1.2 x0 5 2).bind fun v6 =>
      (ax_ld E q1.2 v6 100 (7 + (4 * x3))).bind fun v7 =>
      if i2 v7 = i2 x1 then
        (ax_gR E q1.2 x0 5 2).bind fun v8 =>
        (ax_ld E q1.2 v8 100 ((7 + (4 * x3)) + 2)).bind fun v9 =>
        f_X5_balanceOf_79 E x0 x1 x3 x2 (-v9) q1.2
      else
        f_X5_balanceOf_79 E x0 x1 x3 x2 0 q1.2
  else
    (some (x2, q1.2)).map Sum.inr
noncomputable def f_X5_balanceOf_4 (E : ax_E) (x0 : Option Nat) (x1 : Int) (x2 : Int) (x3 : Int) (h : ax_H) : Option (Int × ax_H) :=
  ax_iter (fun s : Int × Int × ax_H => lb_X5_balanceOf_4 E x0 x1 s.1 s.2.1 s.2.2) (x2, x3, h)
noncomputable def f_X5_balanceOf (E : ax_E) (x0 : Option Nat) (x1 : Int) (h : ax_H) : Option (Int × ax_H) :=
  f_X5_balanceOf_4 E x0 x1 0 0 h
def pi_X5_balanceOf_4 (G : ax_G) (X : ax_X) (Q : State → Prop) (x0 : Option Nat) (x1 : Int) : Int × Int × ax_H → Prop := fun s => ∀ ls : Array Slot, ax_hl ls 4 [(0, .inr (.inr x0)), (1, .inl x1), (2, .inl s.1), (3, .inl s.2.1)] → ax_W G X Q s.2.2 4 ls []
set_option maxHeartbeats 4000000 in
theorem w_X5_balanceOf_79 {l : Launch} {G : ax_G} {X : ax_X} {Q : State → Prop} {h0 h : ax_H} {ls : Array Slot} (hSF : ax_SF G) (B : ax_BL l G X cX5_balanceOf 4 RX5 2 60) (Z : ax_Z X h0 ((some FieldType.int))) (hn : X.2.2.2.2.2.2.2.2.1.name = yX5_balanceOf.name) (x0 : Option Nat) (x1 : Int) (x3 : Int) (s0 : Int) (s1 : Int) {w : (Int × Int × ax_H) ⊕ (Int × ax_H)} (hl : ax_hl ls 4 [(0, .inr (.inr x0)), (1, .inl x1), (3, .inl x3)]) (e : f_X5_balanceOf_79 G.2.2 x0 x1 x3 s0 s1 h = some w) (hp : (ax_PL (pi_X5_balanceOf_4 G X Q x0 x1) (fun w : Int × ax_H => Q = ax_Q G X h0 w.2 (some (.int (Int32.ofInt w.1))))) w) : ax_W G X Q h 79 ls [.int (Int32.ofInt s1), .int (Int32.ofInt s0)] := by
  unfold f_X5_balanceOf_79 at e
  refine ax_iadd' B dX5_balanceOf_79 ?_
  refine ax_istore_n (L' := [(2, .inl (s0 + s1)), (0, .inr (.inr x0)), (1, .inl x1), (3, .inl x3)]) B dX5_balanceOf_80 rfl hl (by decide) rfl (fun ls hl => ?_)
  refine ax_iinc (L' := [(3, .inl (x3 + 1)), (2, .inl (s0 + s1)), (0, .inr (.inr x0)), (1, .inl x1)]) B dX5_balanceOf_81 hl 3 rfl (by decide) rfl (fun ls hl => ?_)
  refine ax_goto (tgt := 4) B dX5_balanceOf_84 (by decide) ?_
  cases e
  exact hp _ (hl.sub [2, 3, 1, 0] rfl)
set_option maxHeartbeats 4000000 in
theorem wb_X5_balanceOf_4 {l : Launch} {G : ax_G} {X : ax_X} {Q : State → Prop} {h0 h : ax_H} {ls : Array Slot} (hSF : ax_SF G) (B : ax_BL l G X cX5_balanceOf 4 RX5 2 60) (Z : ax_Z X h0 ((some FieldType.int))) (hn : X.2.2.2.2.2.2.2.2.1.name = yX5_balanceOf.name) (x0 : Option Nat) (x1 : Int) (x2 : Int) (x3 : Int) {w : (Int × Int × ax_H) ⊕ (Int × ax_H)} (hl : ax_hl ls 4 [(0, .inr (.inr x0)), (1, .inl x1), (2, .inl x2), (3, .inl x3)]) (e : lb_X5_balanceOf_4 G.2.2 x0 x1 x2 x3 h = some w) (hp : (ax_PL (pi_X5_balanceOf_4 G X Q x0 x1) (fun w : Int × ax_H => Q = ax_Q G X h0 w.2 (some (.int (Int32.ofInt w.1))))) w) : ax_W G X Q h 4 ls [] := by
  unfold lb_X5_balanceOf_4 at e
  refine ax_iload_n B dX5_balanceOf_4 rfl hl 3 rfl ?_
  refine ax_aload_n B dX5_balanceOf_5 rfl hl 0 rfl ?_
  refine ax_ivI (y := yX5_debts) (n := 0) (As := []) B kd5 (lw_V q2210 q2212 qs47 q133 q2213) (by decide +kernel) ⟨Nat.le_of_ble_eq_true rfl, Nat.le_of_ble_eq_true rfl⟩ (fun w1 e1 => mt_X5_debts l G hSF x0 _ w1 e1) rfl hl.size (by simp only [List.map_cons, List.map_nil, List.sum_cons, List.sum_nil, va_rf_cat, ax_catI, ax_catL]; decide) dX5_balanceOf_6 e (fun q1 e => ?_)
  refine ax_icmp_ge (tgt := 87) B dX5_balanceOf_9 (by decide) e (fun e => ?_) (fun e => ?_)
  · refine ax_iload_n B dX5_balanceOf_12 rfl hl 2 rfl ?_
    refine ax_aload_n B dX5_balanceOf_13 rfl hl 0 rfl ?_
    refine ax_getR B ff_X5_24_5 (fun _ _ => rfl) dX5_balanceOf_14 e (fun v2 e => ?_)
    refine ax_bipush B dX5_balanceOf_17 (by decide) ?_
    refine ax_iconst B dX5_balanceOf_19 ?_
    refine ax_iload_n B dX5_balanceOf_20 rfl hl 3 rfl ?_
    refine ax_imul' B dX5_balanceOf_21 ?_
    refine ax_iadd' B dX5_balanceOf_22 ?_
    refine ax_iconst B dX5_balanceOf_23 ?_
    refine ax_iadd' B dX5_balanceOf_24 ?_
    refine ax_iald B kd100 dX5_balanceOf_25 e (fun v3 e => ?_)
    refine ax_iload_n B dX5_balanceOf_26 rfl hl 1 rfl ?_
    refine ax_icmp_ne (tgt := 46) B dX5_balanceOf_27 (by decide) e (fun e => ?_) (fun e => ?_)
    · refine ax_aload_n B dX5_balanceOf_30 rfl hl 0 rfl ?_
      refine ax_getR B ff_X5_24_5 (fun _ _ => rfl) dX5_balanceOf_31 e (fun v4 e => ?_)
      refine ax_bipush B dX5_balanceOf_34 (by decide) ?_
      refine ax_iconst B dX5_balanceOf_36 ?_
      refine ax_iload_n B dX5_balanceOf_37 rfl hl 3 rfl ?_
      refine ax_imul' B dX5_balanceOf_38 ?_
      refine ax_iadd' B dX5_balanceOf_39 ?_
      refine ax_iconst B dX5_balanceOf_40 ?_
      refine ax_iadd' B dX5_balanceOf_41 ?_
      refine ax_iald B kd100 dX5_balanceOf_42 e (fun v5 e => ?_)
      refine ax_goto (tgt := 79) B dX5_balanceOf_43 (by decide) ?_
      exact w_X5_balanceOf_79 hSF B Z hn x0 x1 x3 x2 v5 (hl.sub [0, 1, 3] rfl) e hp
    · refine ax_aload_n B dX5_balanceOf_46 rfl hl 0 rfl ?_
      refine ax_getR B ff_X5_24_5 (fun _ _ => rfl) dX5_balanceOf_47 e (fun v6 e => ?_)
      refine ax_bipush B dX5_balanceOf_50 (by decide) ?_
      refine ax_iconst B dX5_balanceOf_52 ?_
      refine ax_iload_n B dX5_balanceOf_53 rfl hl 3 rfl ?_
      refine ax_imul' B dX5_balanceOf_54 ?_
      refine ax_iadd' B dX5_balanceOf_55 ?_
      refine ax_iald B kd100 dX5_balanceOf_56 e (fun v7 e => ?_)
      refine ax_iload_n B dX5_balanceOf_57 rfl hl 1 rfl ?_
      refine ax_icmp_ne (tgt := 78) B dX5_balanceOf_58 (by decide) e (fun e => ?_) (fun e => ?_)
      · refine ax_aload_n B dX5_balanceOf_61 rfl hl 0 rfl ?_
        refine ax_getR B ff_X5_24_5 (fun _ _ => rfl) dX5_balanceOf_62 e (fun v8 e => ?_)
        refine ax_bipush B dX5_balanceOf_65 (by decide) ?_
        refine ax_iconst B dX5_balanceOf_67 ?_
        refine ax_iload_n B dX5_balanceOf_68 rfl hl 3 rfl ?_
        refine ax_imul' B dX5_balanceOf_69 ?_
        refine ax_iadd' B dX5_balanceOf_70 ?_
        refine ax_iconst B dX5_balanceOf_71 ?_
        refine ax_iadd' B dX5_balanceOf_72 ?_
        refine ax_iald B kd100 dX5_balanceOf_73 e (fun v9 e => ?_)
        refine ax_ineg' B dX5_balanceOf_74 ?_
        refine ax_goto (tgt := 79) B dX5_balanceOf_75 (by decide) ?_
        exact w_X5_balanceOf_79 hSF B Z hn x0 x1 x3 x2 (-v9) (hl.sub [0, 1, 3] rfl) e hp
      · refine ax_iconst B dX5_balanceOf_78 ?_
        exact w_X5_balanceOf_79 hSF B Z hn x0 x1 x3 x2 0 (hl.sub [0, 1, 3] rfl) e hp
  · obtain ⟨w, e9_1, rfl⟩ := Option.map_eq_some_iff.mp e
    have e := e9_1
    refine ax_iload_n B dX5_balanceOf_87 rfl hl 2 rfl ?_
    have e8 := e
    have hp : Q = _ := hp
    subst hp
    exact ax_ireturn B Z dX5_balanceOf_88 e8
theorem w_X5_balanceOf_4 {l : Launch} {G : ax_G} {X : ax_X} {Q : State → Prop} {h0 h : ax_H} {ls : Array Slot} (hSF : ax_SF G) (B : ax_BL l G X cX5_balanceOf 4 RX5 2 60) (Z : ax_Z X h0 ((some FieldType.int))) (hn : X.2.2.2.2.2.2.2.2.1.name = yX5_balanceOf.name) (x0 : Option Nat) (x1 : Int) (x2 : Int) (x3 : Int) {w : Int × ax_H} (hl : ax_hl ls 4 [(0, .inr (.inr x0)), (1, .inl x1), (2, .inl x2), (3, .inl x3)]) (e : f_X5_balanceOf_4 G.2.2 x0 x1 x2 x3 h = some w) (hp : (fun w : Int × ax_H => Q = ax_Q G X h0 w.2 (some (.int (Int32.ofInt w.1)))) w) : ax_W G X Q h 4 ls [] :=
  ax_iter_W (Pin := pi_X5_balanceOf_4 G X Q x0 x1) (Pout := (fun w : Int × ax_H => Q = ax_Q G X h0 w.2 (some (.int (Int32.ofInt w.1))))) (fun s w e hp ls hl => wb_X5_balanceOf_4 hSF B Z hn x0 x1 s.1 s.2.1 hl e hp) _ _ e hp ls hl
set_option maxHeartbeats 4000000 in
theorem we_X5_balanceOf {l : Launch} {G : ax_G} {X : ax_X} {Q : State → Prop} {h0 h : ax_H} {ls : Array Slot} (hSF : ax_SF G) (B : ax_BL l G X cX5_balanceOf 4 RX5 2 60) (Z : ax_Z X h0 ((some FieldType.int))) (hn : X.2.2.2.2.2.2.2.2.1.name = yX5_balanceOf.name) (x0 : Option Nat) (x1 : Int) {w : Int × ax_H} (hl : ax_hl ls 4 [(0, .inr (.inr x0)), (1, .inl x1)]) (e : f_X5_balanceOf G.2.2 x0 x1 h = some w) (hp : (fun w : Int × ax_H => Q = ax_Q G X h0 w.2 (some (.int (Int32.ofInt w.1)))) w) : ax_W G X Q h 0 ls [] := by
  unfold f_X5_balanceOf at e
  refine ax_iconst B dX5_balanceOf_0 ?_
  refine ax_istore_n (L' := [(2, .inl 0), (0, .inr (.inr x0)), (1, .inl x1)]) B dX5_balanceOf_1 rfl hl (by decide) rfl (fun ls hl => ?_)
  refine ax_iconst B dX5_balanceOf_2 ?_
  refine ax_istore_n (L' := [(3, .inl 0), (2, .inl 0), (0, .inr (.inr x0)), (1, .inl x1)]) B dX5_balanceOf_3 rfl hl (by decide) rfl (fun ls hl => ?_)
  exact w_X5_balanceOf_4 hSF B Z hn x0 x1 0 0 (hl.sub [2, 3, 1, 0] rfl) e hp
theorem mt_X5_balanceOf (l : Launch) (G : ax_G) (hSF : ax_SF G) (x0 : Option Nat) (x1 : Int) (h : ax_H) (w : Int × ax_H) (e : f_X5_balanceOf G.2.2 x0 x1 h = some w) : ax_Met l G yX5_balanceOf cX5_balanceOf 4 ((some FieldType.int)) 2 60 [va_rf x0, .int (Int32.ofInt x1)] h w.2 (some (.int (Int32.ofInt w.1))) :=
  ax_enter [.inr (.inr x0), .inl x1] (y := yX5_balanceOf) hSF (plainFor_of_name (by decide +kernel)) (Nat.le_of_ble_eq_true rfl) (fun X ls B Z hn hl => we_X5_balanceOf hSF B Z hn x0 x1 hl e rfl)
def dkwX5_balance_0 : List UInt8 := [42, 27, 182, 0, 152, 153, 0, 11, 42, 27, 182, 1, 208, 167, 0, 6, 19, 1, 211, 172]
abbrev dktX5_balance_0 : List UInt8 := dkwX5_balance_0 ++ []
theorem dksX5_balance_0 : cX5_balance.data.toList.drop 0 = dktX5_balance_0 := by decide +kernel
theorem dX5_balance_0 : decode cX5_balance 0 = .ok (.aload_n 0, 1) := dk_42 (dk_at dksX5_balance_0 0 rfl rfl)
theorem dX5_balance_1 : decode cX5_balance 1 = .ok (.iload_n 1, 1) := dk_27 (dk_at dksX5_balance_0 1 rfl rfl)
theorem dX5_balance_2 : decode cX5_balance 2 = .ok (.invokevirtual 152, 3) := dk_182 0 152 (dk_at dksX5_balance_0 2 rfl rfl)
theorem dX5_balance_5 : decode cX5_balance 5 = .ok (.ifCond .eq 11, 3) := dk_153 0 11 (dk_at dksX5_balance_0 5 rfl rfl)
theorem dX5_balance_8 : decode cX5_balance 8 = .ok (.aload_n 0, 1) := dk_42 (dk_at dksX5_balance_0 8 rfl rfl)
theorem dX5_balance_9 : decode cX5_balance 9 = .ok (.iload_n 1, 1) := dk_27 (dk_at dksX5_balance_0 9 rfl rfl)
theorem dX5_balance_10 : decode cX5_balance 10 = .ok (.invokevirtual 464, 3) := dk_182 1 208 (dk_at dksX5_balance_0 10 rfl rfl)
theorem dX5_balance_13 : decode cX5_balance 13 = .ok (.goto 6, 3) := dk_167 0 6 (dk_at dksX5_balance_0 13 rfl rfl)
theorem dX5_balance_16 : decode cX5_balance 16 = .ok (.ldc_w 467, 3) := dk_19 1 211 (dk_at dksX5_balance_0 16 rfl rfl)
theorem dX5_balance_19 : decode cX5_balance 19 = .ok (.ireturn, 1) := dk_172 (dk_at dksX5_balance_0 19 rfl rfl)
theorem cn_X5_467 : Jvm.Cond.constant RX5 467 (Int32.ofInt (-1000000)) ∈ lw_all := by rw [show Int32.ofInt (-1000000) = (-1000000 : Int32) by decide]; exact q2649
noncomputable def f_X5_balance (E : ax_E) (x0 : Option Nat) (x1 : Int) (h : ax_H) : Option (Int × ax_H) :=
  (ax_ce E h x0 5).bind fun _ => (f_X5_isPerson E x0 x1 h).bind fun q1 =>
  if i2 q1.1 = 0 then
    some ((-1000000), q1.2)
  else
    (ax_ce E q1.2 x0 5).bind fun _ => (f_X5_balanceOf E x0 x1 q1.2).bind fun q2 =>
    some (q2.1, q2.2)
set_option maxHeartbeats 4000000 in
theorem we_X5_balance {l : Launch} {G : ax_G} {X : ax_X} {Q : State → Prop} {h0 h : ax_H} {ls : Array Slot} (hSF : ax_SF G) (B : ax_BL l G X cX5_balance 2 RX5 3 83) (Z : ax_Z X h0 ((some FieldType.int))) (hn : X.2.2.2.2.2.2.2.2.1.name = yX5_balance.name) (x0 : Option Nat) (x1 : Int) {w : Int × ax_H} (hl : ax_hl ls 2 [(0, .inr (.inr x0)), (1, .inl x1)]) (e : f_X5_balance G.2.2 x0 x1 h = some w) (hp : (fun w : Int × ax_H => Q = ax_Q G X h0 w.2 (some (.int (Int32.ofInt w.1)))) w) : ax_W G X Q h 0 ls [] := by
  unfold f_X5_balance at e
  refine ax_aload_n B dX5_balance_0 rfl hl 0 rfl ?_
  refine ax_iload_n B dX5_balance_1 rfl hl 1 rfl ?_
  refine ax_ivI (y := yX5_isPerson) (n := 1) (As := [.int (Int32.ofInt x1)]) B kd5 (lw_V q2191 q2193 qs45 q133 q2194) (by decide +kernel) ⟨Nat.le_of_ble_eq_true rfl, Nat.le_of_ble_eq_true rfl⟩ (fun w1 e1 => mt_X5_isPerson l G hSF x0 x1 _ w1 e1) rfl hl.size (by decide) dX5_balance_2 e (fun q1 e => ?_)
  refine ax_if_eq (tgt := 16) B dX5_balance_5 (by decide) e (fun e => ?_) (fun e => ?_)
  · refine ax_ldcw B cn_X5_467 dX5_balance_16 ?_
    have e8 := e
    have hp : Q = _ := hp
    subst hp
    exact ax_ireturn B Z dX5_balance_19 e8
  · refine ax_aload_n B dX5_balance_8 rfl hl 0 rfl ?_
    refine ax_iload_n B dX5_balance_9 rfl hl 1 rfl ?_
    refine ax_ivI (y := yX5_balanceOf) (n := 1) (As := [.int (Int32.ofInt x1)]) B kd5 (lw_V q2645 q2647 qs119 q133 q2648) (by decide +kernel) ⟨Nat.le_of_ble_eq_true rfl, Nat.le_of_ble_eq_true rfl⟩ (fun w1 e1 => mt_X5_balanceOf l G hSF x0 x1 _ w1 e1) rfl hl.size (by decide) dX5_balance_10 e (fun q2 e => ?_)
    refine ax_goto (tgt := 19) B dX5_balance_13 (by decide) ?_
    have e8 := e
    have hp : Q = _ := hp
    subst hp
    exact ax_ireturn B Z dX5_balance_19 e8
theorem mt_X5_balance (l : Launch) (G : ax_G) (hSF : ax_SF G) (x0 : Option Nat) (x1 : Int) (h : ax_H) (w : Int × ax_H) (e : f_X5_balance G.2.2 x0 x1 h = some w) : ax_Met l G yX5_balance cX5_balance 2 ((some FieldType.int)) 3 83 [va_rf x0, .int (Int32.ofInt x1)] h w.2 (some (.int (Int32.ofInt w.1))) :=
  ax_enter [.inr (.inr x0), .inl x1] (y := yX5_balance) hSF (plainFor_of_name (by decide +kernel)) (Nat.le_of_ble_eq_true rfl) (fun X ls B Z hn hl => we_X5_balance hSF B Z hn x0 x1 hl e rfl)
def dkwX5_payments_8 : List UInt8 := [172]
abbrev dktX5_payments_8 : List UInt8 := dkwX5_payments_8 ++ []
def dkwX5_payments_7 : List UInt8 := [132, 3, 1, 167, 255, 136, 27, 28, 100, 62, 28, 42, 180, 0, 104, 4, 27, 120, 4, 100, 46, 29, 100, 100]
abbrev dktX5_payments_7 : List UInt8 := dkwX5_payments_7 ++ dktX5_payments_8
def dkwX5_payments_6 : List UInt8 := [167, 255, 181, 42, 180, 0, 104, 29, 92, 46, 21, 4, 154, 0, 7, 4, 167, 0, 4, 3, 96, 79]
abbrev dktX5_payments_6 : List UInt8 := dkwX5_payments_6 ++ dktX5_payments_7
def dkwX5_payments_5 : List UInt8 := [180, 0, 104, 29, 46, 164, 0, 8, 21, 6, 167, 0, 9, 42, 180, 0, 104, 29, 46, 79, 132, 5, 1]
abbrev dktX5_payments_5 : List UInt8 := dkwX5_payments_5 ++ dktX5_payments_6
def dkwX5_payments_4 : List UInt8 := [180, 0, 104, 29, 4, 21, 5, 120, 2, 130, 126, 46, 54, 6, 42, 180, 0, 104, 29, 21, 6, 42]
abbrev dktX5_payments_4 : List UInt8 := dkwX5_payments_4 ++ dktX5_payments_5
def dkwX5_payments_3 : List UInt8 := [21, 5, 184, 1, 150, 154, 0, 6, 167, 0, 57, 21, 4, 42, 21, 5, 182, 1, 208, 96, 54, 4, 42]
abbrev dktX5_payments_3 : List UInt8 := dkwX5_payments_3 ++ dktX5_payments_4
def dkwX5_payments_2 : List UInt8 := [120, 162, 0, 119, 3, 54, 4, 42, 180, 0, 104, 29, 3, 79, 3, 54, 5, 21, 5, 27, 162, 0, 75, 29]
abbrev dktX5_payments_2 : List UInt8 := dkwX5_payments_2 ++ dktX5_payments_3
def dkwX5_payments_1 : List UInt8 := [167, 0, 4, 3, 96, 61, 132, 3, 1, 167, 255, 232, 42, 180, 0, 104, 3, 3, 79, 4, 62, 29, 4, 27]
abbrev dktX5_payments_1 : List UInt8 := dkwX5_payments_1 ++ dktX5_payments_2
def dkwX5_payments_0 : List UInt8 := [42, 182, 0, 133, 60, 3, 61, 3, 62, 29, 27, 162, 0, 25, 28, 42, 29, 182, 1, 208, 153, 0, 7, 4]
abbrev dktX5_payments_0 : List UInt8 := dkwX5_payments_0 ++ dktX5_payments_1
theorem dksX5_payments_0 : cX5_payments.data.toList.drop 0 = dktX5_payments_0 := by decide +kernel
theorem dksX5_payments_1 : cX5_payments.data.toList.drop 24 = dktX5_payments_1 := dk_seg dksX5_payments_0 24 rfl rfl
theorem dksX5_payments_2 : cX5_payments.data.toList.drop 48 = dktX5_payments_2 := dk_seg dksX5_payments_1 24 rfl rfl
theorem dksX5_payments_3 : cX5_payments.data.toList.drop 72 = dktX5_payments_3 := dk_seg dksX5_payments_2 24 rfl rfl
theorem dksX5_payments_4 : cX5_payments.data.toList.drop 95 = dktX5_payments_4 := dk_seg dksX5_payments_3 23 rfl rfl
theorem dksX5_payments_5 : cX5_payments.data.toList.drop 117 = dktX5_payments_5 := dk_seg dksX5_payments_4 22 rfl rfl
theorem dksX5_payments_6 : cX5_payments.data.toList.drop 140 = dktX5_payments_6 := dk_seg dksX5_payments_5 23 rfl rfl
theorem dksX5_payments_7 : cX5_payments.data.toList.drop 162 = dktX5_payments_7 := dk_seg dksX5_payments_6 22 rfl rfl
theorem dksX5_payments_8 : cX5_payments.data.toList.drop 186 = dktX5_payments_8 := dk_seg dksX5_payments_7 24 rfl rfl
theorem dX5_payments_0 : decode cX5_payments 0 = .ok (.aload_n 0, 1) := dk_42 (dk_at dksX5_payments_0 0 rfl rfl)
theorem dX5_payments_1 : decode cX5_payments 1 = .ok (.invokevirtual 133, 3) := dk_182 0 133 (dk_at dksX5_payments_0 1 rfl rfl)
theorem dX5_payments_4 : decode cX5_payments 4 = .ok (.istore_n 1, 1) := dk_60 (dk_at dksX5_payments_0 4 rfl rfl)
theorem dX5_payments_5 : decode cX5_payments 5 = .ok (.iconst 0, 1) := dk_3 (dk_at dksX5_payments_0 5 rfl rfl)
theorem dX5_payments_6 : decode cX5_payments 6 = .ok (.istore_n 2, 1) := dk_61 (dk_at dksX5_payments_0 6 rfl rfl)
theorem dX5_payments_7 : decode cX5_payments 7 = .ok (.iconst 0, 1) := dk_3 (dk_at dksX5_payments_0 7 rfl rfl)
theorem dX5_payments_8 : decode cX5_payments 8 = .ok (.istore_n 3, 1) := dk_62 (dk_at dksX5_payments_0 8 rfl rfl)
theorem dX5_payments_9 : decode cX5_payments 9 = .ok (.iload_n 3, 1) := dk_29 (dk_at dksX5_payments_0 9 rfl rfl)
theorem dX5_payments_10 : decode cX5_payments 10 = .ok (.iload_n 1, 1) := dk_27 (dk_at dksX5_payments_0 10 rfl rfl)
theorem dX5_payments_11 : decode cX5_payments 11 = .ok (.if_icmp .ge 25, 3) := dk_162 0 25 (dk_at dksX5_payments_0 11 rfl rfl)
theorem dX5_payments_14 : decode cX5_payments 14 = .ok (.iload_n 2, 1) := dk_28 (dk_at dksX5_payments_0 14 rfl rfl)
theorem dX5_payments_15 : decode cX5_payments 15 = .ok (.aload_n 0, 1) := dk_42 (dk_at dksX5_payments_0 15 rfl rfl)
theorem dX5_payments_16 : decode cX5_payments 16 = .ok (.iload_n 3, 1) := dk_29 (dk_at dksX5_payments_0 16 rfl rfl)
theorem dX5_payments_17 : decode cX5_payments 17 = .ok (.invokevirtual 464, 3) := dk_182 1 208 (dk_at dksX5_payments_0 17 rfl rfl)
theorem dX5_payments_20 : decode cX5_payments 20 = .ok (.ifCond .eq 7, 3) := dk_153 0 7 (dk_at dksX5_payments_0 20 rfl rfl)
theorem dX5_payments_23 : decode cX5_payments 23 = .ok (.iconst 1, 1) := dk_4 (dk_at dksX5_payments_0 23 rfl rfl)
theorem dX5_payments_24 : decode cX5_payments 24 = .ok (.goto 4, 3) := dk_167 0 4 (dk_at dksX5_payments_1 0 rfl rfl)
theorem dX5_payments_27 : decode cX5_payments 27 = .ok (.iconst 0, 1) := dk_3 (dk_at dksX5_payments_1 3 rfl rfl)
theorem dX5_payments_28 : decode cX5_payments 28 = .ok (.iadd, 1) := dk_96 (dk_at dksX5_payments_1 4 rfl rfl)
theorem dX5_payments_29 : decode cX5_payments 29 = .ok (.istore_n 2, 1) := dk_61 (dk_at dksX5_payments_1 5 rfl rfl)
theorem dX5_payments_30 : decode cX5_payments 30 = .ok (.iinc 3 1, 3) := dk_132 3 1 (dk_at dksX5_payments_1 6 rfl rfl)
theorem dX5_payments_33 : decode cX5_payments 33 = .ok (.goto (-24), 3) := dk_167 255 232 (dk_at dksX5_payments_1 9 rfl rfl)
theorem dX5_payments_36 : decode cX5_payments 36 = .ok (.aload_n 0, 1) := dk_42 (dk_at dksX5_payments_1 12 rfl rfl)
theorem dX5_payments_37 : decode cX5_payments 37 = .ok (.getfield 104, 3) := dk_180 0 104 (dk_at dksX5_payments_1 13 rfl rfl)
theorem dX5_payments_40 : decode cX5_payments 40 = .ok (.iconst 0, 1) := dk_3 (dk_at dksX5_payments_1 16 rfl rfl)
theorem dX5_payments_41 : decode cX5_payments 41 = .ok (.iconst 0, 1) := dk_3 (dk_at dksX5_payments_1 17 rfl rfl)
theorem dX5_payments_42 : decode cX5_payments 42 = .ok (.iastore, 1) := dk_79 (dk_at dksX5_payments_1 18 rfl rfl)
theorem dX5_payments_43 : decode cX5_payments 43 = .ok (.iconst 1, 1) := dk_4 (dk_at dksX5_payments_1 19 rfl rfl)
theorem dX5_payments_44 : decode cX5_payments 44 = .ok (.istore_n 3, 1) := dk_62 (dk_at dksX5_payments_1 20 rfl rfl)
theorem dX5_payments_45 : decode cX5_payments 45 = .ok (.iload_n 3, 1) := dk_29 (dk_at dksX5_payments_1 21 rfl rfl)
theorem dX5_payments_46 : decode cX5_payments 46 = .ok (.iconst 1, 1) := dk_4 (dk_at dksX5_payments_1 22 rfl rfl)
theorem dX5_payments_47 : decode cX5_payments 47 = .ok (.iload_n 1, 1) := dk_27 (dk_at dksX5_payments_1 23 rfl rfl)
theorem dX5_payments_48 : decode cX5_payments 48 = .ok (.ishl, 1) := dk_120 (dk_at dksX5_payments_2 0 rfl rfl)
theorem dX5_payments_49 : decode cX5_payments 49 = .ok (.if_icmp .ge 119, 3) := dk_162 0 119 (dk_at dksX5_payments_2 1 rfl rfl)
theorem dX5_payments_52 : decode cX5_payments 52 = .ok (.iconst 0, 1) := dk_3 (dk_at dksX5_payments_2 4 rfl rfl)
theorem dX5_payments_53 : decode cX5_payments 53 = .ok (.istore 4, 2) := dk_54 4 (dk_at dksX5_payments_2 5 rfl rfl)
theorem dX5_payments_55 : decode cX5_payments 55 = .ok (.aload_n 0, 1) := dk_42 (dk_at dksX5_payments_2 7 rfl rfl)
theorem dX5_payments_56 : decode cX5_payments 56 = .ok (.getfield 104, 3) := dk_180 0 104 (dk_at dksX5_payments_2 8 rfl rfl)
theorem dX5_payments_59 : decode cX5_payments 59 = .ok (.iload_n 3, 1) := dk_29 (dk_at dksX5_payments_2 11 rfl rfl)
theorem dX5_payments_60 : decode cX5_payments 60 = .ok (.iconst 0, 1) := dk_3 (dk_at dksX5_payments_2 12 rfl rfl)
theorem dX5_payments_61 : decode cX5_payments 61 = .ok (.iastore, 1) := dk_79 (dk_at dksX5_payments_2 13 rfl rfl)
theorem dX5_payments_62 : decode cX5_payments 62 = .ok (.iconst 0, 1) := dk_3 (dk_at dksX5_payments_2 14 rfl rfl)
theorem dX5_payments_63 : decode cX5_payments 63 = .ok (.istore 5, 2) := dk_54 5 (dk_at dksX5_payments_2 15 rfl rfl)
theorem dX5_payments_65 : decode cX5_payments 65 = .ok (.iload 5, 2) := dk_21 5 (dk_at dksX5_payments_2 17 rfl rfl)
theorem dX5_payments_67 : decode cX5_payments 67 = .ok (.iload_n 1, 1) := dk_27 (dk_at dksX5_payments_2 19 rfl rfl)
theorem dX5_payments_68 : decode cX5_payments 68 = .ok (.if_icmp .ge 75, 3) := dk_162 0 75 (dk_at dksX5_payments_2 20 rfl rfl)
theorem dX5_payments_71 : decode cX5_payments 71 = .ok (.iload_n 3, 1) := dk_29 (dk_at dksX5_payments_2 23 rfl rfl)
theorem dX5_payments_72 : decode cX5_payments 72 = .ok (.iload 5, 2) := dk_21 5 (dk_at dksX5_payments_3 0 rfl rfl)
theorem dX5_payments_74 : decode cX5_payments 74 = .ok (.invokestatic 406, 3) := dk_184 1 150 (dk_at dksX5_payments_3 2 rfl rfl)
theorem dX5_payments_77 : decode cX5_payments 77 = .ok (.ifCond .ne 6, 3) := dk_154 0 6 (dk_at dksX5_payments_3 5 rfl rfl)
theorem dX5_payments_80 : decode cX5_payments 80 = .ok (.goto 57, 3) := dk_167 0 57 (dk_at dksX5_payments_3 8 rfl rfl)
theorem dX5_payments_83 : decode cX5_payments 83 = .ok (.iload 4, 2) := dk_21 4 (dk_at dksX5_payments_3 11 rfl rfl)
theorem dX5_payments_85 : decode cX5_payments 85 = .ok (.aload_n 0, 1) := dk_42 (dk_at dksX5_payments_3 13 rfl rfl)
theorem dX5_payments_86 : decode cX5_payments 86 = .ok (.iload 5, 2) := dk_21 5 (dk_at dksX5_payments_3 14 rfl rfl)
theorem dX5_payments_88 : decode cX5_payments 88 = .ok (.invokevirtual 464, 3) := dk_182 1 208 (dk_at dksX5_payments_3 16 rfl rfl)
theorem dX5_payments_91 : decode cX5_payments 91 = .ok (.iadd, 1) := dk_96 (dk_at dksX5_payments_3 19 rfl rfl)
theorem dX5_payments_92 : decode cX5_payments 92 = .ok (.istore 4, 2) := dk_54 4 (dk_at dksX5_payments_3 20 rfl rfl)
theorem dX5_payments_94 : decode cX5_payments 94 = .ok (.aload_n 0, 1) := dk_42 (dk_at dksX5_payments_3 22 rfl rfl)
theorem dX5_payments_95 : decode cX5_payments 95 = .ok (.getfield 104, 3) := dk_180 0 104 (dk_at dksX5_payments_4 0 rfl rfl)
theorem dX5_payments_98 : decode cX5_payments 98 = .ok (.iload_n 3, 1) := dk_29 (dk_at dksX5_payments_4 3 rfl rfl)
theorem dX5_payments_99 : decode cX5_payments 99 = .ok (.iconst 1, 1) := dk_4 (dk_at dksX5_payments_4 4 rfl rfl)
theorem dX5_payments_100 : decode cX5_payments 100 = .ok (.iload 5, 2) := dk_21 5 (dk_at dksX5_payments_4 5 rfl rfl)
theorem dX5_payments_102 : decode cX5_payments 102 = .ok (.ishl, 1) := dk_120 (dk_at dksX5_payments_4 7 rfl rfl)
theorem dX5_payments_103 : decode cX5_payments 103 = .ok (.iconst (-1), 1) := dk_2 (dk_at dksX5_payments_4 8 rfl rfl)
theorem dX5_payments_104 : decode cX5_payments 104 = .ok (.ixor, 1) := dk_130 (dk_at dksX5_payments_4 9 rfl rfl)
theorem dX5_payments_105 : decode cX5_payments 105 = .ok (.iand, 1) := dk_126 (dk_at dksX5_payments_4 10 rfl rfl)
theorem dX5_payments_106 : decode cX5_payments 106 = .ok (.iaload, 1) := dk_46 (dk_at dksX5_payments_4 11 rfl rfl)
theorem dX5_payments_107 : decode cX5_payments 107 = .ok (.istore 6, 2) := dk_54 6 (dk_at dksX5_payments_4 12 rfl rfl)
theorem dX5_payments_109 : decode cX5_payments 109 = .ok (.aload_n 0, 1) := dk_42 (dk_at dksX5_payments_4 14 rfl rfl)
theorem dX5_payments_110 : decode cX5_payments 110 = .ok (.getfield 104, 3) := dk_180 0 104 (dk_at dksX5_payments_4 15 rfl rfl)
theorem dX5_payments_113 : decode cX5_payments 113 = .ok (.iload_n 3, 1) := dk_29 (dk_at dksX5_payments_4 18 rfl rfl)
theorem dX5_payments_114 : decode cX5_payments 114 = .ok (.iload 6, 2) := dk_21 6 (dk_at dksX5_payments_4 19 rfl rfl)
theorem dX5_payments_116 : decode cX5_payments 116 = .ok (.aload_n 0, 1) := dk_42 (dk_at dksX5_payments_4 21 rfl rfl)
theorem dX5_payments_117 : decode cX5_payments 117 = .ok (.getfield 104, 3) := dk_180 0 104 (dk_at dksX5_payments_5 0 rfl rfl)
theorem dX5_payments_120 : decode cX5_payments 120 = .ok (.iload_n 3, 1) := dk_29 (dk_at dksX5_payments_5 3 rfl rfl)
theorem dX5_payments_121 : decode cX5_payments 121 = .ok (.iaload, 1) := dk_46 (dk_at dksX5_payments_5 4 rfl rfl)
theorem dX5_payments_122 : decode cX5_payments 122 = .ok (.if_icmp .le 8, 3) := dk_164 0 8 (dk_at dksX5_payments_5 5 rfl rfl)
theorem dX5_payments_125 : decode cX5_payments 125 = .ok (.iload 6, 2) := dk_21 6 (dk_at dksX5_payments_5 8 rfl rfl)
theorem dX5_payments_127 : decode cX5_payments 127 = .ok (.goto 9, 3) := dk_167 0 9 (dk_at dksX5_payments_5 10 rfl rfl)
theorem dX5_payments_130 : decode cX5_payments 130 = .ok (.aload_n 0, 1) := dk_42 (dk_at dksX5_payments_5 13 rfl rfl)
theorem dX5_payments_131 : decode cX5_payments 131 = .ok (.getfield 104, 3) := dk_180 0 104 (dk_at dksX5_payments_5 14 rfl rfl)
theorem dX5_payments_134 : decode cX5_payments 134 = .ok (.iload_n 3, 1) := dk_29 (dk_at dksX5_payments_5 17 rfl rfl)
theorem dX5_payments_135 : decode cX5_payments 135 = .ok (.iaload, 1) := dk_46 (dk_at dksX5_payments_5 18 rfl rfl)
theorem dX5_payments_136 : decode cX5_payments 136 = .ok (.iastore, 1) := dk_79 (dk_at dksX5_payments_5 19 rfl rfl)
theorem dX5_payments_137 : decode cX5_payments 137 = .ok (.iinc 5 1, 3) := dk_132 5 1 (dk_at dksX5_payments_5 20 rfl rfl)
theorem dX5_payments_140 : decode cX5_payments 140 = .ok (.goto (-75), 3) := dk_167 255 181 (dk_at dksX5_payments_6 0 rfl rfl)
theorem dX5_payments_143 : decode cX5_payments 143 = .ok (.aload_n 0, 1) := dk_42 (dk_at dksX5_payments_6 3 rfl rfl)
theorem dX5_payments_144 : decode cX5_payments 144 = .ok (.getfield 104, 3) := dk_180 0 104 (dk_at dksX5_payments_6 4 rfl rfl)
theorem dX5_payments_147 : decode cX5_payments 147 = .ok (.iload_n 3, 1) := dk_29 (dk_at dksX5_payments_6 7 rfl rfl)
theorem dX5_payments_148 : decode cX5_payments 148 = .ok (.dup2, 1) := dk_92 (dk_at dksX5_payments_6 8 rfl rfl)
theorem dX5_payments_149 : decode cX5_payments 149 = .ok (.iaload, 1) := dk_46 (dk_at dksX5_payments_6 9 rfl rfl)
theorem dX5_payments_150 : decode cX5_payments 150 = .ok (.iload 4, 2) := dk_21 4 (dk_at dksX5_payments_6 10 rfl rfl)
theorem dX5_payments_152 : decode cX5_payments 152 = .ok (.ifCond .ne 7, 3) := dk_154 0 7 (dk_at dksX5_payments_6 12 rfl rfl)
theorem dX5_payments_155 : decode cX5_payments 155 = .ok (.iconst 1, 1) := dk_4 (dk_at dksX5_payments_6 15 rfl rfl)
theorem dX5_payments_156 : decode cX5_payments 156 = .ok (.goto 4, 3) := dk_167 0 4 (dk_at dksX5_payments_6 16 rfl rfl)
theorem dX5_payments_159 : decode cX5_payments 159 = .ok (.iconst 0, 1) := dk_3 (dk_at dksX5_payments_6 19 rfl rfl)
theorem dX5_payments_160 : decode cX5_payments 160 = .ok (.iadd, 1) := dk_96 (dk_at dksX5_payments_6 20 rfl rfl)
theorem dX5_payments_161 : decode cX5_payments 161 = .ok (.iastore, 1) := dk_79 (dk_at dksX5_payments_6 21 rfl rfl)
theorem dX5_payments_162 : decode cX5_payments 162 = .ok (.iinc 3 1, 3) := dk_132 3 1 (dk_at dksX5_payments_7 0 rfl rfl)
theorem dX5_payments_165 : decode cX5_payments 165 = .ok (.goto (-120), 3) := dk_167 255 136 (dk_at dksX5_payments_7 3 rfl rfl)
theorem dX5_payments_168 : decode cX5_payments 168 = .ok (.iload_n 1, 1) := dk_27 (dk_at dksX5_payments_7 6 rfl rfl)
theorem dX5_payments_169 : decode cX5_payments 169 = .ok (.iload_n 2, 1) := dk_28 (dk_at dksX5_payments_7 7 rfl rfl)
theorem dX5_payments_170 : decode cX5_payments 170 = .ok (.isub, 1) := dk_100 (dk_at dksX5_payments_7 8 rfl rfl)
theorem dX5_payments_171 : decode cX5_payments 171 = .ok (.istore_n 3, 1) := dk_62 (dk_at dksX5_payments_7 9 rfl rfl)
theorem dX5_payments_172 : decode cX5_payments 172 = .ok (.iload_n 2, 1) := dk_28 (dk_at dksX5_payments_7 10 rfl rfl)
theorem dX5_payments_173 : decode cX5_payments 173 = .ok (.aload_n 0, 1) := dk_42 (dk_at dksX5_payments_7 11 rfl rfl)
theorem dX5_payments_174 : decode cX5_payments 174 = .ok (.getfield 104, 3) := dk_180 0 104 (dk_at dksX5_payments_7 12 rfl rfl)
theorem dX5_payments_177 : decode cX5_payments 177 = .ok (.iconst 1, 1) := dk_4 (dk_at dksX5_payments_7 15 rfl rfl)
theorem dX5_payments_178 : decode cX5_payments 178 = .ok (.iload_n 1, 1) := dk_27 (dk_at dksX5_payments_7 16 rfl rfl)
theorem dX5_payments_179 : decode cX5_payments 179 = .ok (.ishl, 1) := dk_120 (dk_at dksX5_payments_7 17 rfl rfl)
theorem dX5_payments_180 : decode cX5_payments 180 = .ok (.iconst 1, 1) := dk_4 (dk_at dksX5_payments_7 18 rfl rfl)
theorem dX5_payments_181 : decode cX5_payments 181 = .ok (.isub, 1) := dk_100 (dk_at dksX5_payments_7 19 rfl rfl)
theorem dX5_payments_182 : decode cX5_payments 182 = .ok (.iaload, 1) := dk_46 (dk_at dksX5_payments_7 20 rfl rfl)
theorem dX5_payments_183 : decode cX5_payments 183 = .ok (.iload_n 3, 1) := dk_29 (dk_at dksX5_payments_7 21 rfl rfl)
theorem dX5_payments_184 : decode cX5_payments 184 = .ok (.isub, 1) := dk_100 (dk_at dksX5_payments_7 22 rfl rfl)
theorem dX5_payments_185 : decode cX5_payments 185 = .ok (.isub, 1) := dk_100 (dk_at dksX5_payments_7 23 rfl rfl)
theorem dX5_payments_186 : decode cX5_payments 186 = .ok (.ireturn, 1) := dk_172 (dk_at dksX5_payments_8 0 rfl rfl)
noncomputable def f_X5_payments_28 (E : ax_E) (x0 : Option Nat) (x1 : Int) (x3 : Int) (s0 : Int) (s1 : Int) (h : ax_H) : Option ((Int × Int × ax_H) ⊕ (Int × ax_H)) :=
  some (.inl ((s0 + s1), (x3 + 1), h))
noncomputable def f_X5_payments_137 (E : ax_E) (x0 : Option Nat) (x1 : Int) (x2 : Int) (x3 : Int) (x4 : Int) (x5 : Int) (h : ax_H) : Option ((Int × Int × ax_H) ⊕ ((Int × ax_H) ⊕ (Int × ax_H))) :=
  some (.inl (x4, (x5 + 1), h))
noncomputable def f_X5_payments_136 (E : ax_E) (x0 : Option Nat) (x1 : Int) (x2 : Int) (x3 : Int) (x4 : Int) (x5 : Int) (s0 : Option Nat) (s1 : Int) (s2 : Int) (h : ax_H) : Option ((Int × Int × ax_H) ⊕ ((Int × ax_H) ⊕ (Int × ax_H))) :=
  (ax_sto h s0 100 s1 s2).bind fun h1 =>
  f_X5_payments_137 E x0 x1 x2 x3 x4 x5 h1
noncomputable def f_X5_payments_160 (E : ax_E) (x0 : Option Nat) (x1 : Int) (x2 : Int) (x3 : Int) (s0 : Option Nat) (s1 : Int) (s2 : Int) (s3 : Int) (h : ax_H) : Option ((Int × ax_H) ⊕ (Int × ax_H)) :=
  (ax_sto h s0 100 s1 (s2 + s3)).bind fun h1 =>
  some (.inl ((x3 + 1), h1))
noncomputable def lb_X5_payments_65 (E : ax_E) (x0 : Option Nat) (x1 : Int) (x2 : Int) (x3 : Int) (x4 : Int) (x5 : Int) (h : ax_H) : Option ((Int × Int × ax_H) ⊕ ((Int × ax_H) ⊕ (Int × ax_H))) :=
  if i2 x5 < i2 x1 then
    (f_X5_isIn E x3 x5 h).bind fun q1 =>
    if i2 q1.1 = 0 then
      f_X5_payments_137 E x0 x1 x2 x3 x4 x5 q1.2
    else
      (ax_ce E q1.2 x0 5).bind fun _ => (f_X5_balanceOf E x0 x5 q1.2).bind fun q2 =>
      (ax_gR E q2.2 x0 5 46).bind fun v3 =>
      (ax_ld E q2.2 v3 100 (ax_and x3 (ax_xor (ax_shl 1 x5) (-1)))).bind fun v4 =>
      (ax_gR E q2.2 x0 5 46).bind fun v5 =>
      (ax_gR E q2.2 x0 5 46).bind fun v6 =>
      (ax_ld E q2.2 v6 100 x3).bind fun v7 =>
      if i2 v7 < i2 v4 then
        f_X5_payments_136 E x0 x1 x2 x3 (x4 + q2.1) x5 v5 x3 v4 q2.2
      else
        (ax_gR E q2.2 x0 5 46).bind fun v8 =>
        (ax_ld E q2.2 v8 100 x3).bind fun v9 =>
        f_X5_payments_136 E x0 x1 x2 x3 (x4 + q2.1) x5 v5 x3 v9 q2.2
  else
    ((ax_gR E h x0 5 46).bind fun v10 =>
    (ax_ld E h v10 100 x3).bind fun v11 =>
    if i2 x4 = 0 then
      f_X5_payments_160 E x0 x1 x2 x3 v10 x3 v11 1 h
    else
      f_X5_payments_160 E x0 x1 x2 x3 v10 x3 v11 0 h).map Sum.inr
noncomputable def f_X5_payments_65 (E : ax_E) (x0 : Option Nat) (x1 : Int) (x2 : Int) (x3 : Int) (x4 : Int) (x5 : Int) (h : ax_H) : Option ((Int × ax_H) ⊕ (Int × ax_H)) :=
  ax_iter (fun s : Int × Int × ax_H => lb_X5_payments_65 E x0 x1 x2 x3 s.1 s.2.1 s.2.2) (x4, x5, h)
noncomputable def lb_X5_payments_45 (E : ax_E) (x0 : Option Nat) (x1 : Int) (x2 : Int) (x3 : Int) (h : ax_H) : Option ((Int × ax_H) ⊕ (Int × ax_H)) :=
  if i2 x3 < i2 (ax_shl 1 x1) then
    (ax_gR E h x0 5 46).bind fun v1 =>
    (ax_sto h v1 100 x3 0).bind fun h2 =>
    f_X5_payments_65 E x0 x1 x2 x3 0 0 h2
  else
    ((ax_gR E h x0 5 46).bind fun v3 =>
    (ax_ld E h v3 100 ((ax_shl 1 x1) - 1)).bind fun v4 =>
    some ((x2 - (v4 - (x1 - x2))), h)).map Sum.inr
noncomputable def f_X5_payments_45 (E : ax_E) (x0 : Option Nat) (x1 : Int) (x2 : Int) (x3 : Int) (h : ax_H) : Option (Int × ax_H) :=
  ax_iter (fun s : Int × ax_H => lb_X5_payments_45 E x0 x1 x2 s.1 s.2) (x3, h)
noncomputable def lb_X5_payments_9 (E : ax_E) (x0 : Option Nat) (x1 : Int) (x2 : Int) (x3 : Int) (h : ax_H) : Option ((Int × Int × ax_H) ⊕ (Int × ax_H)) :=
  if i2 x3 < i2 x1 then
    (ax_ce E h x0 5).bind fun _ => (f_X5_balanceOf E x0 x3 h).bind fun q1 =>
    if i2 q1.1 = 0 then
      f_X5_payments_28 E x0 x1 x3 x2 0 q1.2
    else
      f_X5_payments_28 E x0 x1 x3 x2 1 q1.2
  else
    ((ax_gR E h x0 5 46).bind fun v2 =>
    (ax_sto h v2 100 0 0).bind fun h3 =>
    f_X5_payments_45 E x0 x1 x2 1 h3).map Sum.inr
noncomputable def f_X5_payments_9 (E : ax_E) (x0 : Option Nat) (x1 : Int) (x2 : Int) (x3 : Int) (h : ax_H) : Option (Int × ax_H) :=
  ax_iter (fun s : Int × Int × ax_H => lb_X5_payments_9 E x0 x1 s.1 s.2.1 s.2.2) (x2, x3, h)
noncomputable def f_X5_payments (E : ax_E) (x0 : Option Nat) (h : ax_H) : Option (Int × ax_H) :=
  (ax_ce E h x0 5).bind fun _ => (f_X5_people E x0 h).bind fun q1 =>
  f_X5_payments_9 E x0 q1.1 0 0 q1.2
def pi_X5_payments_65 (G : ax_G) (X : ax_X) (Q : State → Prop) (x0 : Option Nat) (x1 : Int) (x2 : Int) (x3 : Int) : Int × Int × ax_H → Prop := fun s => ∀ ls : Array Slot, ax_hl ls 7 [(0, .inr (.inr x0)), (1, .inl x1), (2, .inl x2), (3, .inl x3), (4, .inl s.1), (5, .inl s.2.1)] → ax_W G X Q s.2.2 65 ls []
def pi_X5_payments_45 (G : ax_G) (X : ax_X) (Q : State → Prop) (x0 : Option Nat) (x1 : Int) (x2 : Int) : Int × ax_H → Prop := fun s => ∀ ls : Array Slot, ax_hl ls 7 [(0, .inr (.inr x0)), (1, .inl x1), (2, .inl x2), (3, .inl s.1)] → ax_W G X Q s.2 45 ls []
def pi_X5_payments_9 (G : ax_G) (X : ax_X) (Q : State → Prop) (x0 : Option Nat) (x1 : Int) : Int × Int × ax_H → Prop := fun s => ∀ ls : Array Slot, ax_hl ls 7 [(0, .inr (.inr x0)), (1, .inl x1), (2, .inl s.1), (3, .inl s.2.1)] → ax_W G X Q s.2.2 9 ls []
set_option maxHeartbeats 4000000 in
theorem w_X5_payments_28 {l : Launch} {G : ax_G} {X : ax_X} {Q : State → Prop} {h0 h : ax_H} {ls : Array Slot} (hSF : ax_SF G) (B : ax_BL l G X cX5_payments 7 RX5 3 83) (Z : ax_Z X h0 ((some FieldType.int))) (hn : X.2.2.2.2.2.2.2.2.1.name = yX5_payments.name) (x0 : Option Nat) (x1 : Int) (x3 : Int) (s0 : Int) (s1 : Int) {w : (Int × Int × ax_H) ⊕ (Int × ax_H)} (hl : ax_hl ls 7 [(0, .inr (.inr x0)), (1, .inl x1), (3, .inl x3)]) (e : f_X5_payments_28 G.2.2 x0 x1 x3 s0 s1 h = some w) (hp : (ax_PL (pi_X5_payments_9 G X Q x0 x1) (fun w : Int × ax_H => Q = ax_Q G X h0 w.2 (some (.int (Int32.ofInt w.1))))) w) : ax_W G X Q h 28 ls [.int (Int32.ofInt s1), .int (Int32.ofInt s0)] := by
  unfold f_X5_payments_28 at e
  refine ax_iadd' B dX5_payments_28 ?_
  refine ax_istore_n (L' := [(2, .inl (s0 + s1)), (0, .inr (.inr x0)), (1, .inl x1), (3, .inl x3)]) B dX5_payments_29 rfl hl (by decide) rfl (fun ls hl => ?_)
  refine ax_iinc (L' := [(3, .inl (x3 + 1)), (2, .inl (s0 + s1)), (0, .inr (.inr x0)), (1, .inl x1)]) B dX5_payments_30 hl 3 rfl (by decide) rfl (fun ls hl => ?_)
  refine ax_goto (tgt := 9) B dX5_payments_33 (by decide) ?_
  cases e
  exact hp _ (hl.sub [2, 3, 1, 0] rfl)
set_option maxHeartbeats 4000000 in
theorem w_X5_payments_137 {l : Launch} {G : ax_G} {X : ax_X} {Q : State → Prop} {h0 h : ax_H} {ls : Array Slot} (hSF : ax_SF G) (B : ax_BL l G X cX5_payments 7 RX5 3 83) (Z : ax_Z X h0 ((some FieldType.int))) (hn : X.2.2.2.2.2.2.2.2.1.name = yX5_payments.name) (x0 : Option Nat) (x1 : Int) (x2 : Int) (x3 : Int) (x4 : Int) (x5 : Int) {w : (Int × Int × ax_H) ⊕ ((Int × ax_H) ⊕ (Int × ax_H))} (hl : ax_hl ls 7 [(0, .inr (.inr x0)), (1, .inl x1), (2, .inl x2), (3, .inl x3), (4, .inl x4), (5, .inl x5)]) (e : f_X5_payments_137 G.2.2 x0 x1 x2 x3 x4 x5 h = some w) (hp : (ax_PL (pi_X5_payments_65 G X Q x0 x1 x2 x3) (ax_PL (pi_X5_payments_45 G X Q x0 x1 x2) (fun w : Int × ax_H => Q = ax_Q G X h0 w.2 (some (.int (Int32.ofInt w.1)))))) w) : ax_W G X Q h 137 ls [] := by
  unfold f_X5_payments_137 at e
  refine ax_iinc (L' := [(5, .inl (x5 + 1)), (0, .inr (.inr x0)), (1, .inl x1), (2, .inl x2), (3, .inl x3), (4, .inl x4)]) B dX5_payments_137 hl 5 rfl (by decide) rfl (fun ls hl => ?_)
  refine ax_goto (tgt := 65) B dX5_payments_140 (by decide) ?_
  cases e
  exact hp _ (hl.sub [1, 2, 3, 4, 5, 0] rfl)
set_option maxHeartbeats 4000000 in
theorem w_X5_payments_136 {l : Launch} {G : ax_G} {X : ax_X} {Q : State → Prop} {h0 h : ax_H} {ls : Array Slot} (hSF : ax_SF G) (B : ax_BL l G X cX5_payments 7 RX5 3 83) (Z : ax_Z X h0 ((some FieldType.int))) (hn : X.2.2.2.2.2.2.2.2.1.name = yX5_payments.name) (x0 : Option Nat) (x1 : Int) (x2 : Int) (x3 : Int) (x4 : Int) (x5 : Int) (s0 : Option Nat) (s1 : Int) (s2 : Int) {w : (Int × Int × ax_H) ⊕ ((Int × ax_H) ⊕ (Int × ax_H))} (hl : ax_hl ls 7 [(0, .inr (.inr x0)), (1, .inl x1), (2, .inl x2), (3, .inl x3), (4, .inl x4), (5, .inl x5)]) (e : f_X5_payments_136 G.2.2 x0 x1 x2 x3 x4 x5 s0 s1 s2 h = some w) (hp : (ax_PL (pi_X5_payments_65 G X Q x0 x1 x2 x3) (ax_PL (pi_X5_payments_45 G X Q x0 x1 x2) (fun w : Int × ax_H => Q = ax_Q G X h0 w.2 (some (.int (Int32.ofInt w.1)))))) w) : ax_W G X Q h 136 ls [.int (Int32.ofInt s2), .int (Int32.ofInt s1), va_rf s0] := by
  unfold f_X5_payments_136 at e
  refine ax_iast B kd100 dX5_payments_136 e (fun h1 e => ?_)
  exact w_X5_payments_137 hSF B Z hn x0 x1 x2 x3 x4 x5 (hl.sub [0, 1, 2, 3, 4, 5] rfl) e hp
set_option maxHeartbeats 4000000 in
theorem w_X5_payments_160 {l : Launch} {G : ax_G} {X : ax_X} {Q : State → Prop} {h0 h : ax_H} {ls : Array Slot} (hSF : ax_SF G) (B : ax_BL l G X cX5_payments 7 RX5 3 83) (Z : ax_Z X h0 ((some FieldType.int))) (hn : X.2.2.2.2.2.2.2.2.1.name = yX5_payments.name) (x0 : Option Nat) (x1 : Int) (x2 : Int) (x3 : Int) (s0 : Option Nat) (s1 : Int) (s2 : Int) (s3 : Int) {w : (Int × ax_H) ⊕ (Int × ax_H)} (hl : ax_hl ls 7 [(0, .inr (.inr x0)), (1, .inl x1), (2, .inl x2), (3, .inl x3)]) (e : f_X5_payments_160 G.2.2 x0 x1 x2 x3 s0 s1 s2 s3 h = some w) (hp : (ax_PL (pi_X5_payments_45 G X Q x0 x1 x2) (fun w : Int × ax_H => Q = ax_Q G X h0 w.2 (some (.int (Int32.ofInt w.1))))) w) : ax_W G X Q h 160 ls [.int (Int32.ofInt s3), .int (Int32.ofInt s2), .int (Int32.ofInt s1), va_rf s0] := by
  unfold f_X5_payments_160 at e
  refine ax_iadd' B dX5_payments_160 ?_
  refine ax_iast B kd100 dX5_payments_161 e (fun h1 e => ?_)
  refine ax_iinc (L' := [(3, .inl (x3 + 1)), (0, .inr (.inr x0)), (1, .inl x1), (2, .inl x2)]) B dX5_payments_162 hl 3 rfl (by decide) rfl (fun ls hl => ?_)
  refine ax_goto (tgt := 45) B dX5_payments_165 (by decide) ?_
  cases e
  exact hp _ (hl.sub [1, 2, 3, 0] rfl)
set_option maxHeartbeats 4000000 in
theorem wb_X5_payments_65 {l : Launch} {G : ax_G} {X : ax_X} {Q : State → Prop} {h0 h : ax_H} {ls : Array Slot} (hSF : ax_SF G) (B : ax_BL l G X cX5_payments 7 RX5 3 83) (Z : ax_Z X h0 ((some FieldType.int))) (hn : X.2.2.2.2.2.2.2.2.1.name = yX5_payments.name) (x0 : Option Nat) (x1 : Int) (x2 : Int) (x3 : Int) (x4 : Int) (x5 : Int) {w : (Int × Int × ax_H) ⊕ ((Int × ax_H) ⊕ (Int × ax_H))} (hl : ax_hl ls 7 [(0, .inr (.inr x0)), (1, .inl x1), (2, .inl x2), (3, .inl x3), (4, .inl x4), (5, .inl x5)]) (e : lb_X5_payments_65 G.2.2 x0 x1 x2 x3 x4 x5 h = some w) (hp : (ax_PL (pi_X5_payments_65 G X Q x0 x1 x2 x3) (ax_PL (pi_X5_payments_45 G X Q x0 x1 x2) (fun w : Int × ax_H => Q = ax_Q G X h0 w.2 (some (.int (Int32.ofInt w.1)))))) w) : ax_W G X Q h 65 ls [] := by
  unfold lb_X5_payments_65 at e
  refine ax_iload B dX5_payments_65 hl 5 rfl ?_
  refine ax_iload_n B dX5_payments_67 rfl hl 1 rfl ?_
  refine ax_icmp_ge (tgt := 143) B dX5_payments_68 (by decide) e (fun e => ?_) (fun e => ?_)
  · refine ax_iload_n B dX5_payments_71 rfl hl 3 rfl ?_
    refine ax_iload B dX5_payments_72 hl 5 rfl ?_
    refine ax_isI (y := yX5_isIn) (n := 2) (As := [.int (Int32.ofInt x3), .int (Int32.ofInt x5)]) B (lw_S q2562 q2563 q133 q2564) (by decide +kernel) ⟨Nat.le_of_ble_eq_true rfl, Nat.le_of_ble_eq_true rfl⟩ (fun w1 e1 => mt_X5_isIn l G hSF x3 x5 _ w1 e1) rfl hl.size (by decide) dX5_payments_74 e (fun q1 e => ?_)
    refine ax_if_ne (tgt := 83) B dX5_payments_77 (by decide) e (fun e => ?_) (fun e => ?_)
    · refine ax_goto (tgt := 137) B dX5_payments_80 (by decide) ?_
      exact w_X5_payments_137 hSF B Z hn x0 x1 x2 x3 x4 x5 (hl.sub [0, 1, 2, 3, 4, 5] rfl) e hp
    · refine ax_iload B dX5_payments_83 hl 4 rfl ?_
      refine ax_aload_n B dX5_payments_85 rfl hl 0 rfl ?_
      refine ax_iload B dX5_payments_86 hl 5 rfl ?_
      refine ax_ivI (y := yX5_balanceOf) (n := 1) (As := [.int (Int32.ofInt x5)]) B kd5 (lw_V q2645 q2647 qs119 q133 q2648) (by decide +kernel) ⟨Nat.le_of_ble_eq_true rfl, Nat.le_of_ble_eq_true rfl⟩ (fun w1 e1 => mt_X5_balanceOf l G hSF x0 x5 _ w1 e1) rfl hl.size (by simp only [List.map_cons, List.map_nil, List.sum_cons, List.sum_nil, va_rf_cat, ax_catI, ax_catL]; decide) dX5_payments_88 e (fun q2 e => ?_)
      refine ax_iadd' B dX5_payments_91 ?_
      refine ax_istore (L' := [(4, .inl (x4 + q2.1)), (0, .inr (.inr x0)), (1, .inl x1), (2, .inl x2), (3, .inl x3), (5, .inl x5)]) B dX5_payments_92 hl (by decide) rfl (fun ls hl => ?_)
      refine ax_aload_n B dX5_payments_94 rfl hl 1 rfl ?_
      refine ax_getR B ff_X5_104_5 (fun _ _ => rfl) dX5_payments_95 e (fun v3 e => ?_)
      refine ax_iload_n B dX5_payments_98 rfl hl 4 rfl ?_
      refine ax_iconst B dX5_payments_99 ?_
      refine ax_iload B dX5_payments_100 hl 5 rfl ?_
      refine ax_ishl' B dX5_payments_102 ?_
      refine ax_iconst B dX5_payments_103 ?_
      refine ax_ixor' B dX5_payments_104 ?_
      refine ax_iand' B dX5_payments_105 ?_
      refine ax_iald B kd100 dX5_payments_106 e (fun v4 e => ?_)
      refine ax_istore (L' := [(6, .inl v4), (4, .inl (x4 + q2.1)), (0, .inr (.inr x0)), (1, .inl x1), (2, .inl x2), (3, .inl x3), (5, .inl x5)]) B dX5_payments_107 hl (by decide) rfl (fun ls hl => ?_)
      refine ax_aload_n B dX5_payments_109 rfl hl 2 rfl ?_
      refine ax_getR B ff_X5_104_5 (fun _ _ => rfl) dX5_payments_110 e (fun v5 e => ?_)
      refine ax_iload_n B dX5_payments_113 rfl hl 5 rfl ?_
      refine ax_iload B dX5_payments_114 hl 0 rfl ?_
      refine ax_aload_n B dX5_payments_116 rfl hl 2 rfl ?_
      refine ax_getR B ff_X5_104_5 (fun _ _ => rfl) dX5_payments_117 e (fun v6 e => ?_)
      refine ax_iload_n B dX5_payments_120 rfl hl 5 rfl ?_
      refine ax_iald B kd100 dX5_payments_121 e (fun v7 e => ?_)
      refine ax_icmp_le (tgt := 130) B dX5_payments_122 (by decide) e (fun e => ?_) (fun e => ?_)
      · refine ax_iload B dX5_payments_125 hl 0 rfl ?_
        refine ax_goto (tgt := 136) B dX5_payments_127 (by decide) ?_
        exact w_X5_payments_136 hSF B Z hn x0 x1 x2 x3 (x4 + q2.1) x5 v5 x3 v4 (hl.sub [2, 3, 4, 5, 1, 6] rfl) e hp
      · refine ax_aload_n B dX5_payments_130 rfl hl 2 rfl ?_
        refine ax_getR B ff_X5_104_5 (fun _ _ => rfl) dX5_payments_131 e (fun v8 e => ?_)
        refine ax_iload_n B dX5_payments_134 rfl hl 5 rfl ?_
        refine ax_iald B kd100 dX5_payments_135 e (fun v9 e => ?_)
        exact w_X5_payments_136 hSF B Z hn x0 x1 x2 x3 (x4 + q2.1) x5 v5 x3 v9 (hl.sub [2, 3, 4, 5, 1, 6] rfl) e hp
  · obtain ⟨w, e9_1, rfl⟩ := Option.map_eq_some_iff.mp e
    have e := e9_1
    refine ax_aload_n B dX5_payments_143 rfl hl 0 rfl ?_
    refine ax_getR B ff_X5_104_5 (fun _ _ => rfl) dX5_payments_144 e (fun v10 e => ?_)
    refine ax_iload_n B dX5_payments_147 rfl hl 3 rfl ?_
    refine ax_dup2 B dX5_payments_148 (rfl) (va_rf_cat _) ?_
    refine ax_iald B kd100 dX5_payments_149 e (fun v11 e => ?_)
    refine ax_iload B dX5_payments_150 hl 4 rfl ?_
    refine ax_if_ne (tgt := 159) B dX5_payments_152 (by decide) e (fun e => ?_) (fun e => ?_)
    · refine ax_iconst B dX5_payments_155 ?_
      refine ax_goto (tgt := 160) B dX5_payments_156 (by decide) ?_
      exact w_X5_payments_160 hSF B Z hn x0 x1 x2 x3 v10 x3 v11 1 (hl.sub [0, 1, 2, 3] rfl) e hp
    · refine ax_iconst B dX5_payments_159 ?_
      exact w_X5_payments_160 hSF B Z hn x0 x1 x2 x3 v10 x3 v11 0 (hl.sub [0, 1, 2, 3] rfl) e hp
theorem w_X5_payments_65 {l : Launch} {G : ax_G} {X : ax_X} {Q : State → Prop} {h0 h : ax_H} {ls : Array Slot} (hSF : ax_SF G) (B : ax_BL l G X cX5_payments 7 RX5 3 83) (Z : ax_Z X h0 ((some FieldType.int))) (hn : X.2.2.2.2.2.2.2.2.1.name = yX5_payments.name) (x0 : Option Nat) (x1 : Int) (x2 : Int) (x3 : Int) (x4 : Int) (x5 : Int) {w : (Int × ax_H) ⊕ (Int × ax_H)} (hl : ax_hl ls 7 [(0, .inr (.inr x0)), (1, .inl x1), (2, .inl x2), (3, .inl x3), (4, .inl x4), (5, .inl x5)]) (e : f_X5_payments_65 G.2.2 x0 x1 x2 x3 x4 x5 h = some w) (hp : (ax_PL (pi_X5_payments_45 G X Q x0 x1 x2) (fun w : Int × ax_H => Q = ax_Q G X h0 w.2 (some (.int (Int32.ofInt w.1))))) w) : ax_W G X Q h 65 ls [] :=
  ax_iter_W (Pin := pi_X5_payments_65 G X Q x0 x1 x2 x3) (Pout := (ax_PL (pi_X5_payments_45 G X Q x0 x1 x2) (fun w : Int × ax_H => Q = ax_Q G X h0 w.2 (some (.int (Int32.ofInt w.1)))))) (fun s w e hp ls hl => wb_X5_payments_65 hSF B Z hn x0 x1 x2 x3 s.1 s.2.1 hl e hp) _ _ e hp ls hl
set_option maxHeartbeats 4000000 in
theorem wb_X5_payments_45 {l : Launch} {G : ax_G} {X : ax_X} {Q : State → Prop} {h0 h : ax_H} {ls : Array Slot} (hSF : ax_SF G) (B : ax_BL l G X cX5_payments 7 RX5 3 83) (Z : ax_Z X h0 ((some FieldType.int))) (hn : X.2.2.2.2.2.2.2.2.1.name = yX5_payments.name) (x0 : Option Nat) (x1 : Int) (x2 : Int) (x3 : Int) {w : (Int × ax_H) ⊕ (Int × ax_H)} (hl : ax_hl ls 7 [(0, .inr (.inr x0)), (1, .inl x1), (2, .inl x2), (3, .inl x3)]) (e : lb_X5_payments_45 G.2.2 x0 x1 x2 x3 h = some w) (hp : (ax_PL (pi_X5_payments_45 G X Q x0 x1 x2) (fun w : Int × ax_H => Q = ax_Q G X h0 w.2 (some (.int (Int32.ofInt w.1))))) w) : ax_W G X Q h 45 ls [] := by
  unfold lb_X5_payments_45 at e
  refine ax_iload_n B dX5_payments_45 rfl hl 3 rfl ?_
  refine ax_iconst B dX5_payments_46 ?_
  refine ax_iload_n B dX5_payments_47 rfl hl 1 rfl ?_
  refine ax_ishl' B dX5_payments_48 ?_
  refine ax_icmp_ge (tgt := 168) B dX5_payments_49 (by decide) e (fun e => ?_) (fun e => ?_)
  · refine ax_iconst B dX5_payments_52 ?_
    refine ax_istore (L' := [(4, .inl 0), (0, .inr (.inr x0)), (1, .inl x1), (2, .inl x2), (3, .inl x3)]) B dX5_payments_53 hl (by decide) rfl (fun ls hl => ?_)
    refine ax_aload_n B dX5_payments_55 rfl hl 1 rfl ?_
    refine ax_getR B ff_X5_104_5 (fun _ _ => rfl) dX5_payments_56 e (fun v1 e => ?_)
    refine ax_iload_n B dX5_payments_59 rfl hl 4 rfl ?_
    refine ax_iconst B dX5_payments_60 ?_
    refine ax_iast B kd100 dX5_payments_61 e (fun h2 e => ?_)
    refine ax_iconst B dX5_payments_62 ?_
    refine ax_istore (L' := [(5, .inl 0), (4, .inl 0), (0, .inr (.inr x0)), (1, .inl x1), (2, .inl x2), (3, .inl x3)]) B dX5_payments_63 hl (by decide) rfl (fun ls hl => ?_)
    exact w_X5_payments_65 hSF B Z hn x0 x1 x2 x3 0 0 (hl.sub [2, 3, 4, 5, 1, 0] rfl) e hp
  · obtain ⟨w, e9_2, rfl⟩ := Option.map_eq_some_iff.mp e
    have e := e9_2
    refine ax_iload_n B dX5_payments_168 rfl hl 1 rfl ?_
    refine ax_iload_n B dX5_payments_169 rfl hl 2 rfl ?_
    refine ax_isub' B dX5_payments_170 ?_
    refine ax_istore_n (L' := [(3, .inl (x1 - x2)), (0, .inr (.inr x0)), (1, .inl x1), (2, .inl x2)]) B dX5_payments_171 rfl hl (by decide) rfl (fun ls hl => ?_)
    refine ax_iload_n B dX5_payments_172 rfl hl 3 rfl ?_
    refine ax_aload_n B dX5_payments_173 rfl hl 1 rfl ?_
    refine ax_getR B ff_X5_104_5 (fun _ _ => rfl) dX5_payments_174 e (fun v3 e => ?_)
    refine ax_iconst B dX5_payments_177 ?_
    refine ax_iload_n B dX5_payments_178 rfl hl 2 rfl ?_
    refine ax_ishl' B dX5_payments_179 ?_
    refine ax_iconst B dX5_payments_180 ?_
    refine ax_isub' B dX5_payments_181 ?_
    refine ax_iald B kd100 dX5_payments_182 e (fun v4 e => ?_)
    refine ax_iload_n B dX5_payments_183 rfl hl 0 rfl ?_
    refine ax_isub' B dX5_payments_184 ?_
    refine ax_isub' B dX5_payments_185 ?_
    have e8 := e
    have hp : Q = _ := hp
    subst hp
    exact ax_ireturn B Z dX5_payments_186 e8
theorem w_X5_payments_45 {l : Launch} {G : ax_G} {X : ax_X} {Q : State → Prop} {h0 h : ax_H} {ls : Array Slot} (hSF : ax_SF G) (B : ax_BL l G X cX5_payments 7 RX5 3 83) (Z : ax_Z X h0 ((some FieldType.int))) (hn : X.2.2.2.2.2.2.2.2.1.name = yX5_payments.name) (x0 : Option Nat) (x1 : Int) (x2 : Int) (x3 : Int) {w : Int × ax_H} (hl : ax_hl ls 7 [(0, .inr (.inr x0)), (1, .inl x1), (2, .inl x2), (3, .inl x3)]) (e : f_X5_payments_45 G.2.2 x0 x1 x2 x3 h = some w) (hp : (fun w : Int × ax_H => Q = ax_Q G X h0 w.2 (some (.int (Int32.ofInt w.1)))) w) : ax_W G X Q h 45 ls [] :=
  ax_iter_W (Pin := pi_X5_payments_45 G X Q x0 x1 x2) (Pout := (fun w : Int × ax_H => Q = ax_Q G X h0 w.2 (some (.int (Int32.ofInt w.1))))) (fun s w e hp ls hl => wb_X5_payments_45 hSF B Z hn x0 x1 x2 s.1 hl e hp) _ _ e hp ls hl
set_option maxHeartbeats 4000000 in
theorem wb_X5_payments_9 {l : Launch} {G : ax_G} {X : ax_X} {Q : State → Prop} {h0 h : ax_H} {ls : Array Slot} (hSF : ax_SF G) (B : ax_BL l G X cX5_payments 7 RX5 3 83) (Z : ax_Z X h0 ((some FieldType.int))) (hn : X.2.2.2.2.2.2.2.2.1.name = yX5_payments.name) (x0 : Option Nat) (x1 : Int) (x2 : Int) (x3 : Int) {w : (Int × Int × ax_H) ⊕ (Int × ax_H)} (hl : ax_hl ls 7 [(0, .inr (.inr x0)), (1, .inl x1), (2, .inl x2), (3, .inl x3)]) (e : lb_X5_payments_9 G.2.2 x0 x1 x2 x3 h = some w) (hp : (ax_PL (pi_X5_payments_9 G X Q x0 x1) (fun w : Int × ax_H => Q = ax_Q G X h0 w.2 (some (.int (Int32.ofInt w.1))))) w) : ax_W G X Q h 9 ls [] := by
  unfold lb_X5_payments_9 at e
  refine ax_iload_n B dX5_payments_9 rfl hl 3 rfl ?_
  refine ax_iload_n B dX5_payments_10 rfl hl 1 rfl ?_
  refine ax_icmp_ge (tgt := 36) B dX5_payments_11 (by decide) e (fun e => ?_) (fun e => ?_)
  · refine ax_iload_n B dX5_payments_14 rfl hl 2 rfl ?_
    refine ax_aload_n B dX5_payments_15 rfl hl 0 rfl ?_
    refine ax_iload_n B dX5_payments_16 rfl hl 3 rfl ?_
    refine ax_ivI (y := yX5_balanceOf) (n := 1) (As := [.int (Int32.ofInt x3)]) B kd5 (lw_V q2645 q2647 qs119 q133 q2648) (by decide +kernel) ⟨Nat.le_of_ble_eq_true rfl, Nat.le_of_ble_eq_true rfl⟩ (fun w1 e1 => mt_X5_balanceOf l G hSF x0 x3 _ w1 e1) rfl hl.size (by simp only [List.map_cons, List.map_nil, List.sum_cons, List.sum_nil, va_rf_cat, ax_catI, ax_catL]; decide) dX5_payments_17 e (fun q1 e => ?_)
    refine ax_if_eq (tgt := 27) B dX5_payments_20 (by decide) e (fun e => ?_) (fun e => ?_)
    · refine ax_iconst B dX5_payments_27 ?_
      exact w_X5_payments_28 hSF B Z hn x0 x1 x3 x2 0 (hl.sub [0, 1, 3] rfl) e hp
    · refine ax_iconst B dX5_payments_23 ?_
      refine ax_goto (tgt := 28) B dX5_payments_24 (by decide) ?_
      exact w_X5_payments_28 hSF B Z hn x0 x1 x3 x2 1 (hl.sub [0, 1, 3] rfl) e hp
  · obtain ⟨w, e9_3, rfl⟩ := Option.map_eq_some_iff.mp e
    have e := e9_3
    refine ax_aload_n B dX5_payments_36 rfl hl 0 rfl ?_
    refine ax_getR B ff_X5_104_5 (fun _ _ => rfl) dX5_payments_37 e (fun v2 e => ?_)
    refine ax_iconst B dX5_payments_40 ?_
    refine ax_iconst B dX5_payments_41 ?_
    refine ax_iast B kd100 dX5_payments_42 e (fun h3 e => ?_)
    refine ax_iconst B dX5_payments_43 ?_
    refine ax_istore_n (L' := [(3, .inl 1), (0, .inr (.inr x0)), (1, .inl x1), (2, .inl x2)]) B dX5_payments_44 rfl hl (by decide) rfl (fun ls hl => ?_)
    exact w_X5_payments_45 hSF B Z hn x0 x1 x2 1 (hl.sub [1, 2, 3, 0] rfl) e hp
theorem w_X5_payments_9 {l : Launch} {G : ax_G} {X : ax_X} {Q : State → Prop} {h0 h : ax_H} {ls : Array Slot} (hSF : ax_SF G) (B : ax_BL l G X cX5_payments 7 RX5 3 83) (Z : ax_Z X h0 ((some FieldType.int))) (hn : X.2.2.2.2.2.2.2.2.1.name = yX5_payments.name) (x0 : Option Nat) (x1 : Int) (x2 : Int) (x3 : Int) {w : Int × ax_H} (hl : ax_hl ls 7 [(0, .inr (.inr x0)), (1, .inl x1), (2, .inl x2), (3, .inl x3)]) (e : f_X5_payments_9 G.2.2 x0 x1 x2 x3 h = some w) (hp : (fun w : Int × ax_H => Q = ax_Q G X h0 w.2 (some (.int (Int32.ofInt w.1)))) w) : ax_W G X Q h 9 ls [] :=
  ax_iter_W (Pin := pi_X5_payments_9 G X Q x0 x1) (Pout := (fun w : Int × ax_H => Q = ax_Q G X h0 w.2 (some (.int (Int32.ofInt w.1))))) (fun s w e hp ls hl => wb_X5_payments_9 hSF B Z hn x0 x1 s.1 s.2.1 hl e hp) _ _ e hp ls hl
set_option maxHeartbeats 4000000 in
theorem we_X5_payments {l : Launch} {G : ax_G} {X : ax_X} {Q : State → Prop} {h0 h : ax_H} {ls : Array Slot} (hSF : ax_SF G) (B : ax_BL l G X cX5_payments 7 RX5 3 83) (Z : ax_Z X h0 ((some FieldType.int))) (hn : X.2.2.2.2.2.2.2.2.1.name = yX5_payments.name) (x0 : Option Nat) {w : Int × ax_H} (hl : ax_hl ls 7 [(0, .inr (.inr x0))]) (e : f_X5_payments G.2.2 x0 h = some w) (hp : (fun w : Int × ax_H => Q = ax_Q G X h0 w.2 (some (.int (Int32.ofInt w.1)))) w) : ax_W G X Q h 0 ls [] := by
  unfold f_X5_payments at e
  refine ax_aload_n B dX5_payments_0 rfl hl 0 rfl ?_
  refine ax_ivI (y := yX5_people) (n := 0) (As := []) B kd5 (lw_V q2180 q2182 qs44 q133 q2183) (by decide +kernel) ⟨Nat.le_of_ble_eq_true rfl, Nat.le_of_ble_eq_true rfl⟩ (fun w1 e1 => mt_X5_people l G hSF x0 _ w1 e1) rfl hl.size (by decide) dX5_payments_1 e (fun q1 e => ?_)
  refine ax_istore_n (L' := [(1, .inl q1.1), (0, .inr (.inr x0))]) B dX5_payments_4 rfl hl (by decide) rfl (fun ls hl => ?_)
  refine ax_iconst B dX5_payments_5 ?_
  refine ax_istore_n (L' := [(2, .inl 0), (1, .inl q1.1), (0, .inr (.inr x0))]) B dX5_payments_6 rfl hl (by decide) rfl (fun ls hl => ?_)
  refine ax_iconst B dX5_payments_7 ?_
  refine ax_istore_n (L' := [(3, .inl 0), (2, .inl 0), (1, .inl q1.1), (0, .inr (.inr x0))]) B dX5_payments_8 rfl hl (by decide) rfl (fun ls hl => ?_)
  exact w_X5_payments_9 hSF B Z hn x0 q1.1 0 0 (hl.sub [3, 2, 1, 0] rfl) e hp
theorem mt_X5_payments (l : Launch) (G : ax_G) (hSF : ax_SF G) (x0 : Option Nat) (h : ax_H) (w : Int × ax_H) (e : f_X5_payments G.2.2 x0 h = some w) : ax_Met l G yX5_payments cX5_payments 7 ((some FieldType.int)) 3 83 [va_rf x0] h w.2 (some (.int (Int32.ofInt w.1))) :=
  ax_enter [.inr (.inr x0)] (y := yX5_payments) hSF (plainFor_of_name (by decide +kernel)) (Nat.le_of_ble_eq_true rfl) (fun X ls B Z hn hl => we_X5_payments hSF B Z hn x0 hl e rfl)
def dkwX5_scuff_1 : List UInt8 := [182, 0, 127, 172, 42, 16, 119, 17, 0, 154, 16, 8, 27, 28, 29, 21, 4, 182, 1, 137, 172]
abbrev dktX5_scuff_1 : List UInt8 := dkwX5_scuff_1 ++ []
def dkwX5_scuff_0 : List UInt8 := [27, 28, 159, 0, 20, 29, 184, 0, 140, 153, 0, 13, 21, 4, 3, 4, 184, 0, 123, 154, 0, 9, 42, 2]
abbrev dktX5_scuff_0 : List UInt8 := dkwX5_scuff_0 ++ dktX5_scuff_1
theorem dksX5_scuff_0 : cX5_scuff.data.toList.drop 0 = dktX5_scuff_0 := by decide +kernel
theorem dksX5_scuff_1 : cX5_scuff.data.toList.drop 24 = dktX5_scuff_1 := dk_seg dksX5_scuff_0 24 rfl rfl
theorem dX5_scuff_0 : decode cX5_scuff 0 = .ok (.iload_n 1, 1) := dk_27 (dk_at dksX5_scuff_0 0 rfl rfl)
theorem dX5_scuff_1 : decode cX5_scuff 1 = .ok (.iload_n 2, 1) := dk_28 (dk_at dksX5_scuff_0 1 rfl rfl)
theorem dX5_scuff_2 : decode cX5_scuff 2 = .ok (.if_icmp .eq 20, 3) := dk_159 0 20 (dk_at dksX5_scuff_0 2 rfl rfl)
theorem dX5_scuff_5 : decode cX5_scuff 5 = .ok (.iload_n 3, 1) := dk_29 (dk_at dksX5_scuff_0 5 rfl rfl)
theorem dX5_scuff_6 : decode cX5_scuff 6 = .ok (.invokestatic 140, 3) := dk_184 0 140 (dk_at dksX5_scuff_0 6 rfl rfl)
theorem dX5_scuff_9 : decode cX5_scuff 9 = .ok (.ifCond .eq 13, 3) := dk_153 0 13 (dk_at dksX5_scuff_0 9 rfl rfl)
theorem dX5_scuff_12 : decode cX5_scuff 12 = .ok (.iload 4, 2) := dk_21 4 (dk_at dksX5_scuff_0 12 rfl rfl)
theorem dX5_scuff_14 : decode cX5_scuff 14 = .ok (.iconst 0, 1) := dk_3 (dk_at dksX5_scuff_0 14 rfl rfl)
theorem dX5_scuff_15 : decode cX5_scuff 15 = .ok (.iconst 1, 1) := dk_4 (dk_at dksX5_scuff_0 15 rfl rfl)
theorem dX5_scuff_16 : decode cX5_scuff 16 = .ok (.invokestatic 123, 3) := dk_184 0 123 (dk_at dksX5_scuff_0 16 rfl rfl)
theorem dX5_scuff_19 : decode cX5_scuff 19 = .ok (.ifCond .ne 9, 3) := dk_154 0 9 (dk_at dksX5_scuff_0 19 rfl rfl)
theorem dX5_scuff_22 : decode cX5_scuff 22 = .ok (.aload_n 0, 1) := dk_42 (dk_at dksX5_scuff_0 22 rfl rfl)
theorem dX5_scuff_23 : decode cX5_scuff 23 = .ok (.iconst (-1), 1) := dk_2 (dk_at dksX5_scuff_0 23 rfl rfl)
theorem dX5_scuff_24 : decode cX5_scuff 24 = .ok (.invokevirtual 127, 3) := dk_182 0 127 (dk_at dksX5_scuff_1 0 rfl rfl)
theorem dX5_scuff_27 : decode cX5_scuff 27 = .ok (.ireturn, 1) := dk_172 (dk_at dksX5_scuff_1 3 rfl rfl)
theorem dX5_scuff_28 : decode cX5_scuff 28 = .ok (.aload_n 0, 1) := dk_42 (dk_at dksX5_scuff_1 4 rfl rfl)
theorem dX5_scuff_29 : decode cX5_scuff 29 = .ok (.bipush 119, 2) := dk_16 119 (dk_at dksX5_scuff_1 5 rfl rfl)
theorem dX5_scuff_31 : decode cX5_scuff 31 = .ok (.sipush 154, 3) := dk_17 0 154 (dk_at dksX5_scuff_1 7 rfl rfl)
theorem dX5_scuff_34 : decode cX5_scuff 34 = .ok (.bipush 8, 2) := dk_16 8 (dk_at dksX5_scuff_1 10 rfl rfl)
theorem dX5_scuff_36 : decode cX5_scuff 36 = .ok (.iload_n 1, 1) := dk_27 (dk_at dksX5_scuff_1 12 rfl rfl)
theorem dX5_scuff_37 : decode cX5_scuff 37 = .ok (.iload_n 2, 1) := dk_28 (dk_at dksX5_scuff_1 13 rfl rfl)
theorem dX5_scuff_38 : decode cX5_scuff 38 = .ok (.iload_n 3, 1) := dk_29 (dk_at dksX5_scuff_1 14 rfl rfl)
theorem dX5_scuff_39 : decode cX5_scuff 39 = .ok (.iload 4, 2) := dk_21 4 (dk_at dksX5_scuff_1 15 rfl rfl)
theorem dX5_scuff_41 : decode cX5_scuff 41 = .ok (.invokevirtual 393, 3) := dk_182 1 137 (dk_at dksX5_scuff_1 17 rfl rfl)
theorem dX5_scuff_44 : decode cX5_scuff 44 = .ok (.ireturn, 1) := dk_172 (dk_at dksX5_scuff_1 20 rfl rfl)
noncomputable def f_X5_scuff_22 (E : ax_E) (x0 : Option Nat) (h : ax_H) : Option (Int × ax_H) :=
  (ax_ce E h x0 5).bind fun _ => (f_X5_refuses E x0 (-1) h).bind fun q1 =>
  some (q1.1, q1.2)
noncomputable def f_X5_scuff (E : ax_E) (x0 : Option Nat) (x1 : Int) (x2 : Int) (x3 : Int) (x4 : Int) (h : ax_H) : Option (Int × ax_H) :=
  if i2 x1 = i2 x2 then
    f_X5_scuff_22 E x0 h
  else
    (f_X5_isRoom E x3 h).bind fun q1 =>
    if i2 q1.1 = 0 then
      f_X5_scuff_22 E x0 q1.2
    else
      (f_X5_lies E x4 0 1 q1.2).bind fun q2 =>
      if i2 q2.1 = 0 then
        f_X5_scuff_22 E x0 q2.2
      else
        (ax_ce E q2.2 x0 5).bind fun _ => (f_X5_tellsFour E x0 119 154 8 x1 x2 x3 x4 q2.2).bind fun q3 =>
        some (q3.1, q3.2)
set_option maxHeartbeats 4000000 in
theorem w_X5_scuff_22 {l : Launch} {G : ax_G} {X : ax_X} {Q : State → Prop} {h0 h : ax_H} {ls : Array Slot} (hSF : ax_SF G) (B : ax_BL l G X cX5_scuff 5 RX5 4 111) (Z : ax_Z X h0 ((some FieldType.int))) (hn : X.2.2.2.2.2.2.2.2.1.name = yX5_scuff.name) (x0 : Option Nat) {w : Int × ax_H} (hl : ax_hl ls 5 [(0, .inr (.inr x0))]) (e : f_X5_scuff_22 G.2.2 x0 h = some w) (hp : (fun w : Int × ax_H => Q = ax_Q G X h0 w.2 (some (.int (Int32.ofInt w.1)))) w) : ax_W G X Q h 22 ls [] := by
  unfold f_X5_scuff_22 at e
  refine ax_aload_n B dX5_scuff_22 rfl hl 0 rfl ?_
  refine ax_iconst B dX5_scuff_23 ?_
  refine ax_ivI (y := yX5_refuses) (n := 1) (As := [.int (Int32.ofInt (-1))]) B kd5 (lw_V q2154 q2156 qs41 q133 q2157) (by decide +kernel) ⟨Nat.le_of_ble_eq_true rfl, Nat.le_of_ble_eq_true rfl⟩ (fun w1 e1 => mt_X5_refuses l G hSF x0 (-1) _ w1 e1) rfl hl.size (by decide) dX5_scuff_24 e (fun q1 e => ?_)
  have e8 := e
  have hp : Q = _ := hp
  subst hp
  exact ax_ireturn B Z dX5_scuff_27 e8
set_option maxHeartbeats 4000000 in
theorem we_X5_scuff {l : Launch} {G : ax_G} {X : ax_X} {Q : State → Prop} {h0 h : ax_H} {ls : Array Slot} (hSF : ax_SF G) (B : ax_BL l G X cX5_scuff 5 RX5 4 111) (Z : ax_Z X h0 ((some FieldType.int))) (hn : X.2.2.2.2.2.2.2.2.1.name = yX5_scuff.name) (x0 : Option Nat) (x1 : Int) (x2 : Int) (x3 : Int) (x4 : Int) {w : Int × ax_H} (hl : ax_hl ls 5 [(0, .inr (.inr x0)), (1, .inl x1), (2, .inl x2), (3, .inl x3), (4, .inl x4)]) (e : f_X5_scuff G.2.2 x0 x1 x2 x3 x4 h = some w) (hp : (fun w : Int × ax_H => Q = ax_Q G X h0 w.2 (some (.int (Int32.ofInt w.1)))) w) : ax_W G X Q h 0 ls [] := by
  unfold f_X5_scuff at e
  refine ax_iload_n B dX5_scuff_0 rfl hl 1 rfl ?_
  refine ax_iload_n B dX5_scuff_1 rfl hl 2 rfl ?_
  refine ax_icmp_eq (tgt := 22) B dX5_scuff_2 (by decide) e (fun e => ?_) (fun e => ?_)
  · exact w_X5_scuff_22 hSF B Z hn x0 (hl.sub [0] rfl) e hp
  · refine ax_iload_n B dX5_scuff_5 rfl hl 3 rfl ?_
    refine ax_isI (y := yX5_isRoom) (n := 1) (As := [.int (Int32.ofInt x3)]) B (lw_S q2177 q2178 q133 q2179) (by decide +kernel) ⟨Nat.le_of_ble_eq_true rfl, Nat.le_of_ble_eq_true rfl⟩ (fun w1 e1 => mt_X5_isRoom l G hSF x3 _ w1 e1) rfl hl.size (by decide) dX5_scuff_6 e (fun q1 e => ?_)
    refine ax_if_eq (tgt := 22) B dX5_scuff_9 (by decide) e (fun e => ?_) (fun e => ?_)
    · exact w_X5_scuff_22 hSF B Z hn x0 (hl.sub [0] rfl) e hp
    · refine ax_iload B dX5_scuff_12 hl 4 rfl ?_
      refine ax_iconst B dX5_scuff_14 ?_
      refine ax_iconst B dX5_scuff_15 ?_
      refine ax_isI (y := yX5_lies) (n := 3) (As := [.int (Int32.ofInt x4), .int (Int32.ofInt 0), .int (Int32.ofInt 1)]) B (lw_S q2151 q2152 q133 q2153) (by decide +kernel) ⟨Nat.le_of_ble_eq_true rfl, Nat.le_of_ble_eq_true rfl⟩ (fun w1 e1 => mt_X5_lies l G hSF x4 0 1 _ w1 e1) rfl hl.size (by decide) dX5_scuff_16 e (fun q2 e => ?_)
      refine ax_if_ne (tgt := 28) B dX5_scuff_19 (by decide) e (fun e => ?_) (fun e => ?_)
      · exact w_X5_scuff_22 hSF B Z hn x0 (hl.sub [0] rfl) e hp
      · refine ax_aload_n B dX5_scuff_28 rfl hl 0 rfl ?_
        refine ax_bipush B dX5_scuff_29 (by decide) ?_
        refine ax_sipush B dX5_scuff_31 (by decide) ?_
        refine ax_bipush B dX5_scuff_34 (by decide) ?_
        refine ax_iload_n B dX5_scuff_36 rfl hl 1 rfl ?_
        refine ax_iload_n B dX5_scuff_37 rfl hl 2 rfl ?_
        refine ax_iload_n B dX5_scuff_38 rfl hl 3 rfl ?_
        refine ax_iload B dX5_scuff_39 hl 4 rfl ?_
        refine ax_ivI (y := yX5_tellsFour) (n := 7) (As := [.int (Int32.ofInt 119), .int (Int32.ofInt 154), .int (Int32.ofInt 8), .int (Int32.ofInt x1), .int (Int32.ofInt x2), .int (Int32.ofInt x3), .int (Int32.ofInt x4)]) B kd5 (lw_V q2534 q2536 qs104 q133 q2537) (by decide +kernel) ⟨Nat.le_of_ble_eq_true rfl, Nat.le_of_ble_eq_true rfl⟩ (fun w1 e1 => mt_X5_tellsFour l G hSF x0 119 154 8 x1 x2 x3 x4 _ w1 e1) rfl hl.size (by decide) dX5_scuff_41 e (fun q3 e => ?_)
        have e8 := e
        have hp : Q = _ := hp
        subst hp
        exact ax_ireturn B Z dX5_scuff_44 e8
theorem mt_X5_scuff (l : Launch) (G : ax_G) (hSF : ax_SF G) (x0 : Option Nat) (x1 : Int) (x2 : Int) (x3 : Int) (x4 : Int) (h : ax_H) (w : Int × ax_H) (e : f_X5_scuff G.2.2 x0 x1 x2 x3 x4 h = some w) : ax_Met l G yX5_scuff cX5_scuff 5 ((some FieldType.int)) 4 111 [va_rf x0, .int (Int32.ofInt x1), .int (Int32.ofInt x2), .int (Int32.ofInt x3), .int (Int32.ofInt x4)] h w.2 (some (.int (Int32.ofInt w.1))) :=
  ax_enter [.inr (.inr x0), .inl x1, .inl x2, .inl x3, .inl x4] (y := yX5_scuff) hSF (plainFor_of_name (by decide +kernel)) (Nat.le_of_ble_eq_true rfl) (fun X ls B Z hn hl => we_X5_scuff hSF B Z hn x0 x1 x2 x3 x4 hl e rfl)
def dkwX5_sweep_0 : List UInt8 := [42, 17, 0, 154, 182, 1, 141, 172]
abbrev dktX5_sweep_0 : List UInt8 := dkwX5_sweep_0 ++ []
theorem dksX5_sweep_0 : cX5_sweep.data.toList.drop 0 = dktX5_sweep_0 := by decide +kernel
theorem dX5_sweep_0 : decode cX5_sweep 0 = .ok (.aload_n 0, 1) := dk_42 (dk_at dksX5_sweep_0 0 rfl rfl)
theorem dX5_sweep_1 : decode cX5_sweep 1 = .ok (.sipush 154, 3) := dk_17 0 154 (dk_at dksX5_sweep_0 1 rfl rfl)
theorem dX5_sweep_4 : decode cX5_sweep 4 = .ok (.invokevirtual 397, 3) := dk_182 1 141 (dk_at dksX5_sweep_0 4 rfl rfl)
theorem dX5_sweep_7 : decode cX5_sweep 7 = .ok (.ireturn, 1) := dk_172 (dk_at dksX5_sweep_0 7 rfl rfl)
noncomputable def f_X5_sweep (E : ax_E) (x0 : Option Nat) (h : ax_H) : Option (Int × ax_H) :=
  (ax_ce E h x0 5).bind fun _ => (f_X5_goAll E x0 154 h).bind fun q1 =>
  some (q1.1, q1.2)
set_option maxHeartbeats 4000000 in
theorem we_X5_sweep {l : Launch} {G : ax_G} {X : ax_X} {Q : State → Prop} {h0 h : ax_H} {ls : Array Slot} (hSF : ax_SF G) (B : ax_BL l G X cX5_sweep 1 RX5 2 62) (Z : ax_Z X h0 ((some FieldType.int))) (hn : X.2.2.2.2.2.2.2.2.1.name = yX5_sweep.name) (x0 : Option Nat) {w : Int × ax_H} (hl : ax_hl ls 1 [(0, .inr (.inr x0))]) (e : f_X5_sweep G.2.2 x0 h = some w) (hp : (fun w : Int × ax_H => Q = ax_Q G X h0 w.2 (some (.int (Int32.ofInt w.1)))) w) : ax_W G X Q h 0 ls [] := by
  unfold f_X5_sweep at e
  refine ax_aload_n B dX5_sweep_0 rfl hl 0 rfl ?_
  refine ax_sipush B dX5_sweep_1 (by decide) ?_
  refine ax_ivI (y := yX5_goAll) (n := 1) (As := [.int (Int32.ofInt 154)]) B kd5 (lw_V q2542 q2544 qs105 q133 q2545) (by decide +kernel) ⟨Nat.le_of_ble_eq_true rfl, Nat.le_of_ble_eq_true rfl⟩ (fun w1 e1 => mt_X5_goAll l G hSF x0 154 _ w1 e1) rfl hl.size (by decide) dX5_sweep_4 e (fun q1 e => ?_)
  have e8 := e
  have hp : Q = _ := hp
  subst hp
  exact ax_ireturn B Z dX5_sweep_7 e8
theorem mt_X5_sweep (l : Launch) (G : ax_G) (hSF : ax_SF G) (x0 : Option Nat) (h : ax_H) (w : Int × ax_H) (e : f_X5_sweep G.2.2 x0 h = some w) : ax_Met l G yX5_sweep cX5_sweep 1 ((some FieldType.int)) 2 62 [va_rf x0] h w.2 (some (.int (Int32.ofInt w.1))) :=
  ax_enter [.inr (.inr x0)] (y := yX5_sweep) hSF (plainFor_of_name (by decide +kernel)) (Nat.le_of_ble_eq_true rfl) (fun X ls B Z hn hl => we_X5_sweep hSF B Z hn x0 hl e rfl)
def dkwX5_areSo_7 : List UInt8 := [132, 4, 1, 167, 255, 92, 4, 172]
abbrev dktX5_areSo_7 : List UInt8 := dkwX5_areSo_7 ++ []
def dkwX5_areSo_6 : List UInt8 := [7, 21, 4, 104, 96, 6, 96, 46, 4, 160, 0, 7, 4, 167, 0, 4, 3, 159, 0, 5, 3, 172]
abbrev dktX5_areSo_6 : List UInt8 := dkwX5_areSo_6 ++ dktX5_areSo_7
def dkwX5_areSo_5 : List UInt8 := [16, 119, 7, 21, 4, 104, 96, 5, 96, 46, 161, 0, 7, 4, 167, 0, 4, 3, 42, 180, 0, 24, 16, 119]
abbrev dktX5_areSo_5 : List UInt8 := dkwX5_areSo_5 ++ dktX5_areSo_6
def dkwX5_areSo_4 : List UInt8 := [167, 0, 4, 3, 96, 54, 8, 42, 21, 6, 21, 5, 21, 7, 21, 8, 182, 1, 82, 42, 180, 0, 24]
abbrev dktX5_areSo_4 : List UInt8 := dkwX5_areSo_4 ++ dktX5_areSo_5
def dkwX5_areSo_3 : List UInt8 := [96, 54, 7, 42, 21, 5, 21, 6, 182, 0, 178, 27, 21, 5, 160, 0, 13, 28, 21, 6, 160, 0, 7, 29]
abbrev dktX5_areSo_3 : List UInt8 := dkwX5_areSo_3 ++ dktX5_areSo_4
def dkwX5_areSo_2 : List UInt8 := [21, 6, 21, 5, 182, 0, 178, 27, 21, 6, 160, 0, 13, 28, 21, 5, 160, 0, 7, 29, 167, 0, 4, 3]
abbrev dktX5_areSo_2 : List UInt8 := dkwX5_areSo_2 ++ dktX5_areSo_3
def dkwX5_areSo_1 : List UInt8 := [21, 4, 104, 96, 46, 54, 5, 42, 180, 0, 24, 16, 119, 7, 21, 4, 104, 96, 4, 96, 46, 54, 6, 42]
abbrev dktX5_areSo_1 : List UInt8 := dkwX5_areSo_1 ++ dktX5_areSo_2
def dkwX5_areSo_0 : List UInt8 := [3, 54, 4, 21, 4, 42, 180, 0, 24, 17, 0, 154, 46, 162, 0, 157, 42, 180, 0, 24, 16, 119, 7]
abbrev dktX5_areSo_0 : List UInt8 := dkwX5_areSo_0 ++ dktX5_areSo_1
theorem dksX5_areSo_0 : cX5_areSo.data.toList.drop 0 = dktX5_areSo_0 := by decide +kernel
theorem dksX5_areSo_1 : cX5_areSo.data.toList.drop 23 = dktX5_areSo_1 := dk_seg dksX5_areSo_0 23 rfl rfl
theorem dksX5_areSo_2 : cX5_areSo.data.toList.drop 47 = dktX5_areSo_2 := dk_seg dksX5_areSo_1 24 rfl rfl
theorem dksX5_areSo_3 : cX5_areSo.data.toList.drop 71 = dktX5_areSo_3 := dk_seg dksX5_areSo_2 24 rfl rfl
theorem dksX5_areSo_4 : cX5_areSo.data.toList.drop 95 = dktX5_areSo_4 := dk_seg dksX5_areSo_3 24 rfl rfl
theorem dksX5_areSo_5 : cX5_areSo.data.toList.drop 118 = dktX5_areSo_5 := dk_seg dksX5_areSo_4 23 rfl rfl
theorem dksX5_areSo_6 : cX5_areSo.data.toList.drop 142 = dktX5_areSo_6 := dk_seg dksX5_areSo_5 24 rfl rfl
theorem dksX5_areSo_7 : cX5_areSo.data.toList.drop 164 = dktX5_areSo_7 := dk_seg dksX5_areSo_6 22 rfl rfl
theorem dX5_areSo_0 : decode cX5_areSo 0 = .ok (.iconst 0, 1) := dk_3 (dk_at dksX5_areSo_0 0 rfl rfl)
theorem dX5_areSo_1 : decode cX5_areSo 1 = .ok (.istore 4, 2) := dk_54 4 (dk_at dksX5_areSo_0 1 rfl rfl)
theorem dX5_areSo_3 : decode cX5_areSo 3 = .ok (.iload 4, 2) := dk_21 4 (dk_at dksX5_areSo_0 3 rfl rfl)
theorem dX5_areSo_5 : decode cX5_areSo 5 = .ok (.aload_n 0, 1) := dk_42 (dk_at dksX5_areSo_0 5 rfl rfl)
theorem dX5_areSo_6 : decode cX5_areSo 6 = .ok (.getfield 24, 3) := dk_180 0 24 (dk_at dksX5_areSo_0 6 rfl rfl)
theorem dX5_areSo_9 : decode cX5_areSo 9 = .ok (.sipush 154, 3) := dk_17 0 154 (dk_at dksX5_areSo_0 9 rfl rfl)
theorem dX5_areSo_12 : decode cX5_areSo 12 = .ok (.iaload, 1) := dk_46 (dk_at dksX5_areSo_0 12 rfl rfl)
theorem dX5_areSo_13 : decode cX5_areSo 13 = .ok (.if_icmp .ge 157, 3) := dk_162 0 157 (dk_at dksX5_areSo_0 13 rfl rfl)
theorem dX5_areSo_16 : decode cX5_areSo 16 = .ok (.aload_n 0, 1) := dk_42 (dk_at dksX5_areSo_0 16 rfl rfl)
theorem dX5_areSo_17 : decode cX5_areSo 17 = .ok (.getfield 24, 3) := dk_180 0 24 (dk_at dksX5_areSo_0 17 rfl rfl)
theorem dX5_areSo_20 : decode cX5_areSo 20 = .ok (.bipush 119, 2) := dk_16 119 (dk_at dksX5_areSo_0 20 rfl rfl)
theorem dX5_areSo_22 : decode cX5_areSo 22 = .ok (.iconst 4, 1) := dk_7 (dk_at dksX5_areSo_0 22 rfl rfl)
theorem dX5_areSo_23 : decode cX5_areSo 23 = .ok (.iload 4, 2) := dk_21 4 (dk_at dksX5_areSo_1 0 rfl rfl)
theorem dX5_areSo_25 : decode cX5_areSo 25 = .ok (.imul, 1) := dk_104 (dk_at dksX5_areSo_1 2 rfl rfl)
theorem dX5_areSo_26 : decode cX5_areSo 26 = .ok (.iadd, 1) := dk_96 (dk_at dksX5_areSo_1 3 rfl rfl)
theorem dX5_areSo_27 : decode cX5_areSo 27 = .ok (.iaload, 1) := dk_46 (dk_at dksX5_areSo_1 4 rfl rfl)
theorem dX5_areSo_28 : decode cX5_areSo 28 = .ok (.istore 5, 2) := dk_54 5 (dk_at dksX5_areSo_1 5 rfl rfl)
theorem dX5_areSo_30 : decode cX5_areSo 30 = .ok (.aload_n 0, 1) := dk_42 (dk_at dksX5_areSo_1 7 rfl rfl)
theorem dX5_areSo_31 : decode cX5_areSo 31 = .ok (.getfield 24, 3) := dk_180 0 24 (dk_at dksX5_areSo_1 8 rfl rfl)
theorem dX5_areSo_34 : decode cX5_areSo 34 = .ok (.bipush 119, 2) := dk_16 119 (dk_at dksX5_areSo_1 11 rfl rfl)
theorem dX5_areSo_36 : decode cX5_areSo 36 = .ok (.iconst 4, 1) := dk_7 (dk_at dksX5_areSo_1 13 rfl rfl)
theorem dX5_areSo_37 : decode cX5_areSo 37 = .ok (.iload 4, 2) := dk_21 4 (dk_at dksX5_areSo_1 14 rfl rfl)
theorem dX5_areSo_39 : decode cX5_areSo 39 = .ok (.imul, 1) := dk_104 (dk_at dksX5_areSo_1 16 rfl rfl)
theorem dX5_areSo_40 : decode cX5_areSo 40 = .ok (.iadd, 1) := dk_96 (dk_at dksX5_areSo_1 17 rfl rfl)
theorem dX5_areSo_41 : decode cX5_areSo 41 = .ok (.iconst 1, 1) := dk_4 (dk_at dksX5_areSo_1 18 rfl rfl)
theorem dX5_areSo_42 : decode cX5_areSo 42 = .ok (.iadd, 1) := dk_96 (dk_at dksX5_areSo_1 19 rfl rfl)
theorem dX5_areSo_43 : decode cX5_areSo 43 = .ok (.iaload, 1) := dk_46 (dk_at dksX5_areSo_1 20 rfl rfl)
theorem dX5_areSo_44 : decode cX5_areSo 44 = .ok (.istore 6, 2) := dk_54 6 (dk_at dksX5_areSo_1 21 rfl rfl)
theorem dX5_areSo_46 : decode cX5_areSo 46 = .ok (.aload_n 0, 1) := dk_42 (dk_at dksX5_areSo_1 23 rfl rfl)
theorem dX5_areSo_47 : decode cX5_areSo 47 = .ok (.iload 6, 2) := dk_21 6 (dk_at dksX5_areSo_2 0 rfl rfl)
theorem dX5_areSo_49 : decode cX5_areSo 49 = .ok (.iload 5, 2) := dk_21 5 (dk_at dksX5_areSo_2 2 rfl rfl)
theorem dX5_areSo_51 : decode cX5_areSo 51 = .ok (.invokevirtual 178, 3) := dk_182 0 178 (dk_at dksX5_areSo_2 4 rfl rfl)
theorem dX5_areSo_54 : decode cX5_areSo 54 = .ok (.iload_n 1, 1) := dk_27 (dk_at dksX5_areSo_2 7 rfl rfl)
theorem dX5_areSo_55 : decode cX5_areSo 55 = .ok (.iload 6, 2) := dk_21 6 (dk_at dksX5_areSo_2 8 rfl rfl)
theorem dX5_areSo_57 : decode cX5_areSo 57 = .ok (.if_icmp .ne 13, 3) := dk_160 0 13 (dk_at dksX5_areSo_2 10 rfl rfl)
theorem dX5_areSo_60 : decode cX5_areSo 60 = .ok (.iload_n 2, 1) := dk_28 (dk_at dksX5_areSo_2 13 rfl rfl)
theorem dX5_areSo_61 : decode cX5_areSo 61 = .ok (.iload 5, 2) := dk_21 5 (dk_at dksX5_areSo_2 14 rfl rfl)
theorem dX5_areSo_63 : decode cX5_areSo 63 = .ok (.if_icmp .ne 7, 3) := dk_160 0 7 (dk_at dksX5_areSo_2 16 rfl rfl)
theorem dX5_areSo_66 : decode cX5_areSo 66 = .ok (.iload_n 3, 1) := dk_29 (dk_at dksX5_areSo_2 19 rfl rfl)
theorem dX5_areSo_67 : decode cX5_areSo 67 = .ok (.goto 4, 3) := dk_167 0 4 (dk_at dksX5_areSo_2 20 rfl rfl)
theorem dX5_areSo_70 : decode cX5_areSo 70 = .ok (.iconst 0, 1) := dk_3 (dk_at dksX5_areSo_2 23 rfl rfl)
theorem dX5_areSo_71 : decode cX5_areSo 71 = .ok (.iadd, 1) := dk_96 (dk_at dksX5_areSo_3 0 rfl rfl)
theorem dX5_areSo_72 : decode cX5_areSo 72 = .ok (.istore 7, 2) := dk_54 7 (dk_at dksX5_areSo_3 1 rfl rfl)
theorem dX5_areSo_74 : decode cX5_areSo 74 = .ok (.aload_n 0, 1) := dk_42 (dk_at dksX5_areSo_3 3 rfl rfl)
theorem dX5_areSo_75 : decode cX5_areSo 75 = .ok (.iload 5, 2) := dk_21 5 (dk_at dksX5_areSo_3 4 rfl rfl)
theorem dX5_areSo_77 : decode cX5_areSo 77 = .ok (.iload 6, 2) := dk_21 6 (dk_at dksX5_areSo_3 6 rfl rfl)
theorem dX5_areSo_79 : decode cX5_areSo 79 = .ok (.invokevirtual 178, 3) := dk_182 0 178 (dk_at dksX5_areSo_3 8 rfl rfl)
theorem dX5_areSo_82 : decode cX5_areSo 82 = .ok (.iload_n 1, 1) := dk_27 (dk_at dksX5_areSo_3 11 rfl rfl)
theorem dX5_areSo_83 : decode cX5_areSo 83 = .ok (.iload 5, 2) := dk_21 5 (dk_at dksX5_areSo_3 12 rfl rfl)
theorem dX5_areSo_85 : decode cX5_areSo 85 = .ok (.if_icmp .ne 13, 3) := dk_160 0 13 (dk_at dksX5_areSo_3 14 rfl rfl)
theorem dX5_areSo_88 : decode cX5_areSo 88 = .ok (.iload_n 2, 1) := dk_28 (dk_at dksX5_areSo_3 17 rfl rfl)
theorem dX5_areSo_89 : decode cX5_areSo 89 = .ok (.iload 6, 2) := dk_21 6 (dk_at dksX5_areSo_3 18 rfl rfl)
theorem dX5_areSo_91 : decode cX5_areSo 91 = .ok (.if_icmp .ne 7, 3) := dk_160 0 7 (dk_at dksX5_areSo_3 20 rfl rfl)
theorem dX5_areSo_94 : decode cX5_areSo 94 = .ok (.iload_n 3, 1) := dk_29 (dk_at dksX5_areSo_3 23 rfl rfl)
theorem dX5_areSo_95 : decode cX5_areSo 95 = .ok (.goto 4, 3) := dk_167 0 4 (dk_at dksX5_areSo_4 0 rfl rfl)
theorem dX5_areSo_98 : decode cX5_areSo 98 = .ok (.iconst 0, 1) := dk_3 (dk_at dksX5_areSo_4 3 rfl rfl)
theorem dX5_areSo_99 : decode cX5_areSo 99 = .ok (.iadd, 1) := dk_96 (dk_at dksX5_areSo_4 4 rfl rfl)
theorem dX5_areSo_100 : decode cX5_areSo 100 = .ok (.istore 8, 2) := dk_54 8 (dk_at dksX5_areSo_4 5 rfl rfl)
theorem dX5_areSo_102 : decode cX5_areSo 102 = .ok (.aload_n 0, 1) := dk_42 (dk_at dksX5_areSo_4 7 rfl rfl)
theorem dX5_areSo_103 : decode cX5_areSo 103 = .ok (.iload 6, 2) := dk_21 6 (dk_at dksX5_areSo_4 8 rfl rfl)
theorem dX5_areSo_105 : decode cX5_areSo 105 = .ok (.iload 5, 2) := dk_21 5 (dk_at dksX5_areSo_4 10 rfl rfl)
theorem dX5_areSo_107 : decode cX5_areSo 107 = .ok (.iload 7, 2) := dk_21 7 (dk_at dksX5_areSo_4 12 rfl rfl)
theorem dX5_areSo_109 : decode cX5_areSo 109 = .ok (.iload 8, 2) := dk_21 8 (dk_at dksX5_areSo_4 14 rfl rfl)
theorem dX5_areSo_111 : decode cX5_areSo 111 = .ok (.invokevirtual 338, 3) := dk_182 1 82 (dk_at dksX5_areSo_4 16 rfl rfl)
theorem dX5_areSo_114 : decode cX5_areSo 114 = .ok (.aload_n 0, 1) := dk_42 (dk_at dksX5_areSo_4 19 rfl rfl)
theorem dX5_areSo_115 : decode cX5_areSo 115 = .ok (.getfield 24, 3) := dk_180 0 24 (dk_at dksX5_areSo_4 20 rfl rfl)
theorem dX5_areSo_118 : decode cX5_areSo 118 = .ok (.bipush 119, 2) := dk_16 119 (dk_at dksX5_areSo_5 0 rfl rfl)
theorem dX5_areSo_120 : decode cX5_areSo 120 = .ok (.iconst 4, 1) := dk_7 (dk_at dksX5_areSo_5 2 rfl rfl)
theorem dX5_areSo_121 : decode cX5_areSo 121 = .ok (.iload 4, 2) := dk_21 4 (dk_at dksX5_areSo_5 3 rfl rfl)
theorem dX5_areSo_123 : decode cX5_areSo 123 = .ok (.imul, 1) := dk_104 (dk_at dksX5_areSo_5 5 rfl rfl)
theorem dX5_areSo_124 : decode cX5_areSo 124 = .ok (.iadd, 1) := dk_96 (dk_at dksX5_areSo_5 6 rfl rfl)
theorem dX5_areSo_125 : decode cX5_areSo 125 = .ok (.iconst 2, 1) := dk_5 (dk_at dksX5_areSo_5 7 rfl rfl)
theorem dX5_areSo_126 : decode cX5_areSo 126 = .ok (.iadd, 1) := dk_96 (dk_at dksX5_areSo_5 8 rfl rfl)
theorem dX5_areSo_127 : decode cX5_areSo 127 = .ok (.iaload, 1) := dk_46 (dk_at dksX5_areSo_5 9 rfl rfl)
theorem dX5_areSo_128 : decode cX5_areSo 128 = .ok (.if_icmp .lt 7, 3) := dk_161 0 7 (dk_at dksX5_areSo_5 10 rfl rfl)
theorem dX5_areSo_131 : decode cX5_areSo 131 = .ok (.iconst 1, 1) := dk_4 (dk_at dksX5_areSo_5 13 rfl rfl)
theorem dX5_areSo_132 : decode cX5_areSo 132 = .ok (.goto 4, 3) := dk_167 0 4 (dk_at dksX5_areSo_5 14 rfl rfl)
theorem dX5_areSo_135 : decode cX5_areSo 135 = .ok (.iconst 0, 1) := dk_3 (dk_at dksX5_areSo_5 17 rfl rfl)
theorem dX5_areSo_136 : decode cX5_areSo 136 = .ok (.aload_n 0, 1) := dk_42 (dk_at dksX5_areSo_5 18 rfl rfl)
theorem dX5_areSo_137 : decode cX5_areSo 137 = .ok (.getfield 24, 3) := dk_180 0 24 (dk_at dksX5_areSo_5 19 rfl rfl)
theorem dX5_areSo_140 : decode cX5_areSo 140 = .ok (.bipush 119, 2) := dk_16 119 (dk_at dksX5_areSo_5 22 rfl rfl)
theorem dX5_areSo_142 : decode cX5_areSo 142 = .ok (.iconst 4, 1) := dk_7 (dk_at dksX5_areSo_6 0 rfl rfl)
theorem dX5_areSo_143 : decode cX5_areSo 143 = .ok (.iload 4, 2) := dk_21 4 (dk_at dksX5_areSo_6 1 rfl rfl)
theorem dX5_areSo_145 : decode cX5_areSo 145 = .ok (.imul, 1) := dk_104 (dk_at dksX5_areSo_6 3 rfl rfl)
theorem dX5_areSo_146 : decode cX5_areSo 146 = .ok (.iadd, 1) := dk_96 (dk_at dksX5_areSo_6 4 rfl rfl)
theorem dX5_areSo_147 : decode cX5_areSo 147 = .ok (.iconst 3, 1) := dk_6 (dk_at dksX5_areSo_6 5 rfl rfl)
theorem dX5_areSo_148 : decode cX5_areSo 148 = .ok (.iadd, 1) := dk_96 (dk_at dksX5_areSo_6 6 rfl rfl)
theorem dX5_areSo_149 : decode cX5_areSo 149 = .ok (.iaload, 1) := dk_46 (dk_at dksX5_areSo_6 7 rfl rfl)
theorem dX5_areSo_150 : decode cX5_areSo 150 = .ok (.iconst 1, 1) := dk_4 (dk_at dksX5_areSo_6 8 rfl rfl)
theorem dX5_areSo_151 : decode cX5_areSo 151 = .ok (.if_icmp .ne 7, 3) := dk_160 0 7 (dk_at dksX5_areSo_6 9 rfl rfl)
theorem dX5_areSo_154 : decode cX5_areSo 154 = .ok (.iconst 1, 1) := dk_4 (dk_at dksX5_areSo_6 12 rfl rfl)
theorem dX5_areSo_155 : decode cX5_areSo 155 = .ok (.goto 4, 3) := dk_167 0 4 (dk_at dksX5_areSo_6 13 rfl rfl)
theorem dX5_areSo_158 : decode cX5_areSo 158 = .ok (.iconst 0, 1) := dk_3 (dk_at dksX5_areSo_6 16 rfl rfl)
theorem dX5_areSo_159 : decode cX5_areSo 159 = .ok (.if_icmp .eq 5, 3) := dk_159 0 5 (dk_at dksX5_areSo_6 17 rfl rfl)
theorem dX5_areSo_162 : decode cX5_areSo 162 = .ok (.iconst 0, 1) := dk_3 (dk_at dksX5_areSo_6 20 rfl rfl)
theorem dX5_areSo_163 : decode cX5_areSo 163 = .ok (.ireturn, 1) := dk_172 (dk_at dksX5_areSo_6 21 rfl rfl)
theorem dX5_areSo_164 : decode cX5_areSo 164 = .ok (.iinc 4 1, 3) := dk_132 4 1 (dk_at dksX5_areSo_7 0 rfl rfl)
theorem dX5_areSo_167 : decode cX5_areSo 167 = .ok (.goto (-164), 3) := dk_167 255 92 (dk_at dksX5_areSo_7 3 rfl rfl)
theorem dX5_areSo_170 : decode cX5_areSo 170 = .ok (.iconst 1, 1) := dk_4 (dk_at dksX5_areSo_7 6 rfl rfl)
theorem dX5_areSo_171 : decode cX5_areSo 171 = .ok (.ireturn, 1) := dk_172 (dk_at dksX5_areSo_7 7 rfl rfl)
noncomputable def f_X5_areSo_159 (E : ax_E) (x0 : Option Nat) (x1 : Int) (x2 : Int) (x3 : Int) (x4 : Int) (s0 : Int) (s1 : Int) (h : ax_H) : Option ((Int × ax_H) ⊕ (Int × ax_H)) :=
  if i2 s0 = i2 s1 then
    some (.inl ((x4 + 1), h))
  else
    (some (0, h)).map Sum.inr
noncomputable def f_X5_areSo_136 (E : ax_E) (x0 : Option Nat) (x1 : Int) (x2 : Int) (x3 : Int) (x4 : Int) (s0 : Int) (h : ax_H) : Option ((Int × ax_H) ⊕ (Int × ax_H)) :=
  (ax_gR E h x0 5 2).bind fun v1 =>
  (ax_ld E h v1 100 ((119 + (4 * x4)) + 3)).bind fun v2 =>
  if i2 v2 = i2 1 then
    f_X5_areSo_159 E x0 x1 x2 x3 x4 s0 1 h
  else
    f_X5_areSo_159 E x0 x1 x2 x3 x4 s0 0 h
noncomputable def f_X5_areSo_99 (E : ax_E) (x0 : Option Nat) (x1 : Int) (x2 : Int) (x3 : Int) (x4 : Int) (x5 : Int) (x6 : Int) (x7 : Int) (s0 : Int) (s1 : Int) (h : ax_H) : Option ((Int × ax_H) ⊕ (Int × ax_H)) :=
  (ax_ce E h x0 5).bind fun _ => (f_X5_deepBy E x0 x6 x5 x7 (s0 + s1) h).bind fun q1 =>
  (ax_gR E q1.2 x0 5 2).bind fun v2 =>
  (ax_ld E q1.2 v2 100 ((119 + (4 * x4)) + 2)).bind fun v3 =>
  if i2 q1.1 < i2 v3 then
    f_X5_areSo_136 E x0 x1 x2 x3 x4 0 q1.2
  else
    f_X5_areSo_136 E x0 x1 x2 x3 x4 1 q1.2
noncomputable def f_X5_areSo_98 (E : ax_E) (x0 : Option Nat) (x1 : Int) (x2 : Int) (x3 : Int) (x4 : Int) (x5 : Int) (x6 : Int) (x7 : Int) (s0 : Int) (h : ax_H) : Option ((Int × ax_H) ⊕ (Int × ax_H)) :=
  f_X5_areSo_99 E x0 x1 x2 x3 x4 x5 x6 x7 s0 0 h
noncomputable def f_X5_areSo_71 (E : ax_E) (x0 : Option Nat) (x1 : Int) (x2 : Int) (x3 : Int) (x4 : Int) (x5 : Int) (x6 : Int) (s0 : Int) (s1 : Int) (h : ax_H) : Option ((Int × ax_H) ⊕ (Int × ax_H)) :=
  (ax_ce E h x0 5).bind fun _ => (f_X5_owed E x0 x5 x6 h).bind fun q1 =>
  if i2 x1 = i2 x5 then
    if i2 x2 = i2 x6 then
      f_X5_areSo_99 E x0 x1 x2 x3 x4 x5 x6 (s0 + s1) q1.1 x3 q1.2
    else
      f_X5_areSo_98 E x0 x1 x2 x3 x4 x5 x6 (s0 + s1) q1.1 q1.2
  else
    f_X5_areSo_98 E x0 x1 x2 x3 x4 x5 x6 (s0 + s1) q1.1 q1.2
noncomputable def f_X5_areSo_70 (E : ax_E) (x0 : Option Nat) (x1 : Int) (x2 : Int) (x3 : Int) (x4 : Int) (x5 : Int) (x6 : Int) (s0 : Int) (h : ax_H) : Option ((Int × ax_H) ⊕ (Int × ax_H)) :=
  f_X5_areSo_71 E x0 x1 x2 x3 x4 x5 x6 s0 0 h
noncomputable def lb_X5_areSo_3 (E : ax_E) (x0 : Option Nat) (x1 : Int) (x2 : Int) (x3 : Int) (x4 : Int) (h : ax_H) : Option ((Int × ax_H) ⊕ (Int × ax_H)) :=
  (ax_gR E h x0 5 2).bind fun v1 =>
  (ax_ld E h v1 100 154).bind fun v2 =>
  if i2 x4 < i2 v2 then
    (ax_gR E h x0 5 2).bind fun v3 =>
    (ax_ld E h v3 100 (119 + (4 * x4))).bind fun v4 =>
    (ax_gR E h x0 5 2).bind fun v5 =>
    (ax_ld E h v5 100 ((119 + (4 * x4)) + 1)).bind fun v6 =>
    (ax_ce E h x0 5).bind fun _ => (f_X5_owed E x0 v6 v4 h).bind fun q7 =>
    if i2 x1 = i2 v6 then
      if i2 x2 = i2 v4 then
        f_X5_areSo_71 E x0 x1 x2 x3 x4 v4 v6 q7.1 x3 q7.2
      else
        f_X5_areSo_70 E x0 x1 x2 x3 x4 v4 v6 q7.1 q7.2
    else
      f_X5_areSo_70 E x0 x1 x2 x3 x4 v4 v6 q7.1 q7.2
  else
    (some (1, h)).map Sum.inr
noncomputable def f_X5_areSo_3 (E : ax_E) (x0 : Option Nat) (x1 : Int) (x2 : Int) (x3 : Int) (x4 : Int) (h : ax_H) : Option (Int × ax_H) :=
  ax_iter (fun s : Int × ax_H => lb_X5_areSo_3 E x0 x1 x2 x3 s.1 s.2) (x4, h)
noncomputable def f_X5_areSo (E : ax_E) (x0 : Option Nat) (x1 : Int) (x2 : Int) (x3 : Int) (h : ax_H) : Option (Int × ax_H) :=
  f_X5_areSo_3 E x0 x1 x2 x3 0 h
def pi_X5_areSo_3 (G : ax_G) (X : ax_X) (Q : State → Prop) (x0 : Option Nat) (x1 : Int) (x2 : Int) (x3 : Int) : Int × ax_H → Prop := fun s => ∀ ls : Array Slot, ax_hl ls 9 [(0, .inr (.inr x0)), (1, .inl x1), (2, .inl x2), (3, .inl x3), (4, .inl s.1)] → ax_W G X Q s.2 3 ls []
set_option maxHeartbeats 4000000 in
theorem w_X5_areSo_159 {l : Launch} {G : ax_G} {X : ax_X} {Q : State → Prop} {h0 h : ax_H} {ls : Array Slot} (hSF : ax_SF G) (B : ax_BL l G X cX5_areSo 9 RX5 135 3519) (Z : ax_Z X h0 ((some FieldType.boolean))) (hn : X.2.2.2.2.2.2.2.2.1.name = yX5_areSo.name) (x0 : Option Nat) (x1 : Int) (x2 : Int) (x3 : Int) (x4 : Int) (s0 : Int) (s1 : Int) {w : (Int × ax_H) ⊕ (Int × ax_H)} (hl : ax_hl ls 9 [(0, .inr (.inr x0)), (1, .inl x1), (2, .inl x2), (3, .inl x3), (4, .inl x4)]) (e : f_X5_areSo_159 G.2.2 x0 x1 x2 x3 x4 s0 s1 h = some w) (hp : (ax_PL (pi_X5_areSo_3 G X Q x0 x1 x2 x3) (fun w : Int × ax_H => Q = ax_Q G X h0 w.2 (some (.int (Int32.ofInt w.1))))) w) : ax_W G X Q h 159 ls [.int (Int32.ofInt s1), .int (Int32.ofInt s0)] := by
  unfold f_X5_areSo_159 at e
  refine ax_icmp_eq (tgt := 164) B dX5_areSo_159 (by decide) e (fun e => ?_) (fun e => ?_)
  · refine ax_iinc (L' := [(4, .inl (x4 + 1)), (0, .inr (.inr x0)), (1, .inl x1), (2, .inl x2), (3, .inl x3)]) B dX5_areSo_164 hl 4 rfl (by decide) rfl (fun ls hl => ?_)
    refine ax_goto (tgt := 3) B dX5_areSo_167 (by decide) ?_
    cases e
    exact hp _ (hl.sub [1, 2, 3, 4, 0] rfl)
  · obtain ⟨w, e9_1, rfl⟩ := Option.map_eq_some_iff.mp e
    have e := e9_1
    refine ax_iconst B dX5_areSo_162 ?_
    have e8 := e
    have hp : Q = _ := hp
    subst hp
    exact ax_zreturnL (by decide) B Z dX5_areSo_163 e8
set_option maxHeartbeats 4000000 in
theorem w_X5_areSo_136 {l : Launch} {G : ax_G} {X : ax_X} {Q : State → Prop} {h0 h : ax_H} {ls : Array Slot} (hSF : ax_SF G) (B : ax_BL l G X cX5_areSo 9 RX5 135 3519) (Z : ax_Z X h0 ((some FieldType.boolean))) (hn : X.2.2.2.2.2.2.2.2.1.name = yX5_areSo.name) (x0 : Option Nat) (x1 : Int) (x2 : Int) (x3 : Int) (x4 : Int) (s0 : Int) {w : (Int × ax_H) ⊕ (Int × ax_H)} (hl : ax_hl ls 9 [(0, .inr (.inr x0)), (1, .inl x1), (2, .inl x2), (3, .inl x3), (4, .inl x4)]) (e : f_X5_areSo_136 G.2.2 x0 x1 x2 x3 x4 s0 h = some w) (hp : (ax_PL (pi_X5_areSo_3 G X Q x0 x1 x2 x3) (fun w : Int × ax_H => Q = ax_Q G X h0 w.2 (some (.int (Int32.ofInt w.1))))) w) : ax_W G X Q h 136 ls [.int (Int32.ofInt s0)] := by
  unfold f_X5_areSo_136 at e
  refine ax_aload_n B dX5_areSo_136 rfl hl 0 rfl ?_
  refine ax_getR B ff_X5_24_5 (fun _ _ => rfl) dX5_areSo_137 e (fun v1 e => ?_)
  refine ax_bipush B dX5_areSo_140 (by decide) ?_
  refine ax_iconst B dX5_areSo_142 ?_
  refine ax_iload B dX5_areSo_143 hl 4 rfl ?_
  refine ax_imul' B dX5_areSo_145 ?_
  refine ax_iadd' B dX5_areSo_146 ?_
  refine ax_iconst B dX5_areSo_147 ?_
  refine ax_iadd' B dX5_areSo_148 ?_
  refine ax_iald B kd100 dX5_areSo_149 e (fun v2 e => ?_)
  refine ax_iconst B dX5_areSo_150 ?_
  refine ax_icmp_ne (tgt := 158) B dX5_areSo_151 (by decide) e (fun e => ?_) (fun e => ?_)
  · refine ax_iconst B dX5_areSo_154 ?_
    refine ax_goto (tgt := 159) B dX5_areSo_155 (by decide) ?_
    exact w_X5_areSo_159 hSF B Z hn x0 x1 x2 x3 x4 s0 1 (hl.sub [0, 1, 2, 3, 4] rfl) e hp
  · refine ax_iconst B dX5_areSo_158 ?_
    exact w_X5_areSo_159 hSF B Z hn x0 x1 x2 x3 x4 s0 0 (hl.sub [0, 1, 2, 3, 4] rfl) e hp
set_option maxHeartbeats 4000000 in
theorem w_X5_areSo_99 {l : Launch} {G : ax_G} {X : ax_X} {Q : State → Prop} {h0 h : ax_H} {ls : Array Slot} (hSF : ax_SF G) (B : ax_BL l G X cX5_areSo 9 RX5 135 3519) (Z : ax_Z X h0 ((some FieldType.boolean))) (hn : X.2.2.2.2.2.2.2.2.1.name = yX5_areSo.name) (x0 : Option Nat) (x1 : Int) (x2 : Int) (x3 : Int) (x4 : Int) (x5 : Int) (x6 : Int) (x7 : Int) (s0 : Int) (s1 : Int) {w : (Int × ax_H) ⊕ (Int × ax_H)} (hl : ax_hl ls 9 [(0, .inr (.inr x0)), (1, .inl x1), (2, .inl x2), (3, .inl x3), (4, .inl x4), (5, .inl x5), (6, .inl x6), (7, .inl x7)]) (e : f_X5_areSo_99 G.2.2 x0 x1 x2 x3 x4 x5 x6 x7 s0 s1 h = some w) (hp : (ax_PL (pi_X5_areSo_3 G X Q x0 x1 x2 x3) (fun w : Int × ax_H => Q = ax_Q G X h0 w.2 (some (.int (Int32.ofInt w.1))))) w) : ax_W G X Q h 99 ls [.int (Int32.ofInt s1), .int (Int32.ofInt s0)] := by
  unfold f_X5_areSo_99 at e
  refine ax_iadd' B dX5_areSo_99 ?_
  refine ax_istore (L' := [(8, .inl (s0 + s1)), (0, .inr (.inr x0)), (1, .inl x1), (2, .inl x2), (3, .inl x3), (4, .inl x4), (5, .inl x5), (6, .inl x6), (7, .inl x7)]) B dX5_areSo_100 hl (by decide) rfl (fun ls hl => ?_)
  refine ax_aload_n B dX5_areSo_102 rfl hl 1 rfl ?_
  refine ax_iload B dX5_areSo_103 hl 7 rfl ?_
  refine ax_iload B dX5_areSo_105 hl 6 rfl ?_
  refine ax_iload B dX5_areSo_107 hl 8 rfl ?_
  refine ax_iload B dX5_areSo_109 hl 0 rfl ?_
  refine ax_ivI (y := yX5_deepBy) (n := 4) (As := [.int (Int32.ofInt x6), .int (Int32.ofInt x5), .int (Int32.ofInt x7), .int (Int32.ofInt (s0 + s1))]) B kd5 (lw_V q2435 q2437 qs89 q133 q2438) (by decide +kernel) ⟨Nat.le_of_ble_eq_true rfl, Nat.le_of_ble_eq_true rfl⟩ (fun w1 e1 => mt_X5_deepBy l G hSF x0 x6 x5 x7 (s0 + s1) _ w1 e1) rfl hl.size (by decide) dX5_areSo_111 e (fun q1 e => ?_)
  refine ax_aload_n B dX5_areSo_114 rfl hl 1 rfl ?_
  refine ax_getR B ff_X5_24_5 (fun _ _ => rfl) dX5_areSo_115 e (fun v2 e => ?_)
  refine ax_bipush B dX5_areSo_118 (by decide) ?_
  refine ax_iconst B dX5_areSo_120 ?_
  refine ax_iload B dX5_areSo_121 hl 5 rfl ?_
  refine ax_imul' B dX5_areSo_123 ?_
  refine ax_iadd' B dX5_areSo_124 ?_
  refine ax_iconst B dX5_areSo_125 ?_
  refine ax_iadd' B dX5_areSo_126 ?_
  refine ax_iald B kd100 dX5_areSo_127 e (fun v3 e => ?_)
  refine ax_icmp_lt (tgt := 135) B dX5_areSo_128 (by decide) e (fun e => ?_) (fun e => ?_)
  · refine ax_iconst B dX5_areSo_135 ?_
    exact w_X5_areSo_136 hSF B Z hn x0 x1 x2 x3 x4 0 (hl.sub [1, 2, 3, 4, 5] rfl) e hp
  · refine ax_iconst B dX5_areSo_131 ?_
    refine ax_goto (tgt := 136) B dX5_areSo_132 (by decide) ?_
    exact w_X5_areSo_136 hSF B Z hn x0 x1 x2 x3 x4 1 (hl.sub [1, 2, 3, 4, 5] rfl) e hp
set_option maxHeartbeats 4000000 in
theorem w_X5_areSo_98 {l : Launch} {G : ax_G} {X : ax_X} {Q : State → Prop} {h0 h : ax_H} {ls : Array Slot} (hSF : ax_SF G) (B : ax_BL l G X cX5_areSo 9 RX5 135 3519) (Z : ax_Z X h0 ((some FieldType.boolean))) (hn : X.2.2.2.2.2.2.2.2.1.name = yX5_areSo.name) (x0 : Option Nat) (x1 : Int) (x2 : Int) (x3 : Int) (x4 : Int) (x5 : Int) (x6 : Int) (x7 : Int) (s0 : Int) {w : (Int × ax_H) ⊕ (Int × ax_H)} (hl : ax_hl ls 9 [(0, .inr (.inr x0)), (1, .inl x1), (2, .inl x2), (3, .inl x3), (4, .inl x4), (5, .inl x5), (6, .inl x6), (7, .inl x7)]) (e : f_X5_areSo_98 G.2.2 x0 x1 x2 x3 x4 x5 x6 x7 s0 h = some w) (hp : (ax_PL (pi_X5_areSo_3 G X Q x0 x1 x2 x3) (fun w : Int × ax_H => Q = ax_Q G X h0 w.2 (some (.int (Int32.ofInt w.1))))) w) : ax_W G X Q h 98 ls [.int (Int32.ofInt s0)] := by
  unfold f_X5_areSo_98 at e
  refine ax_iconst B dX5_areSo_98 ?_
  exact w_X5_areSo_99 hSF B Z hn x0 x1 x2 x3 x4 x5 x6 x7 s0 0 (hl.sub [0, 1, 2, 3, 4, 5, 6, 7] rfl) e hp
set_option maxHeartbeats 4000000 in
theorem w_X5_areSo_71 {l : Launch} {G : ax_G} {X : ax_X} {Q : State → Prop} {h0 h : ax_H} {ls : Array Slot} (hSF : ax_SF G) (B : ax_BL l G X cX5_areSo 9 RX5 135 3519) (Z : ax_Z X h0 ((some FieldType.boolean))) (hn : X.2.2.2.2.2.2.2.2.1.name = yX5_areSo.name) (x0 : Option Nat) (x1 : Int) (x2 : Int) (x3 : Int) (x4 : Int) (x5 : Int) (x6 : Int) (s0 : Int) (s1 : Int) {w : (Int × ax_H) ⊕ (Int × ax_H)} (hl : ax_hl ls 9 [(0, .inr (.inr x0)), (1, .inl x1), (2, .inl x2), (3, .inl x3), (4, .inl x4), (5, .inl x5), (6, .inl x6)]) (e : f_X5_areSo_71 G.2.2 x0 x1 x2 x3 x4 x5 x6 s0 s1 h = some w) (hp : (ax_PL (pi_X5_areSo_3 G X Q x0 x1 x2 x3) (fun w : Int × ax_H => Q = ax_Q G X h0 w.2 (some (.int (Int32.ofInt w.1))))) w) : ax_W G X Q h 71 ls [.int (Int32.ofInt s1), .int (Int32.ofInt s0)] := by
  unfold f_X5_areSo_71 at e
  refine ax_iadd' B dX5_areSo_71 ?_
  refine ax_istore (L' := [(7, .inl (s0 + s1)), (0, .inr (.inr x0)), (1, .inl x1), (2, .inl x2), (3, .inl x3), (4, .inl x4), (5, .inl x5), (6, .inl x6)]) B dX5_areSo_72 hl (by decide) rfl (fun ls hl => ?_)
  refine ax_aload_n B dX5_areSo_74 rfl hl 1 rfl ?_
  refine ax_iload B dX5_areSo_75 hl 6 rfl ?_
  refine ax_iload B dX5_areSo_77 hl 7 rfl ?_
  refine ax_ivI (y := yX5_owed) (n := 2) (As := [.int (Int32.ofInt x5), .int (Int32.ofInt x6)]) B kd5 (lw_V q2234 q2236 qs52 q133 q2237) (by decide +kernel) ⟨Nat.le_of_ble_eq_true rfl, Nat.le_of_ble_eq_true rfl⟩ (fun w1 e1 => mt_X5_owed l G hSF x0 x5 x6 _ w1 e1) rfl hl.size (by decide) dX5_areSo_79 e (fun q1 e => ?_)
  refine ax_iload_n B dX5_areSo_82 rfl hl 2 rfl ?_
  refine ax_iload B dX5_areSo_83 hl 6 rfl ?_
  refine ax_icmp_ne (tgt := 98) B dX5_areSo_85 (by decide) e (fun e => ?_) (fun e => ?_)
  · refine ax_iload_n B dX5_areSo_88 rfl hl 3 rfl ?_
    refine ax_iload B dX5_areSo_89 hl 7 rfl ?_
    refine ax_icmp_ne (tgt := 98) B dX5_areSo_91 (by decide) e (fun e => ?_) (fun e => ?_)
    · refine ax_iload_n B dX5_areSo_94 rfl hl 4 rfl ?_
      refine ax_goto (tgt := 99) B dX5_areSo_95 (by decide) ?_
      exact w_X5_areSo_99 hSF B Z hn x0 x1 x2 x3 x4 x5 x6 (s0 + s1) q1.1 x3 (hl.sub [1, 2, 3, 4, 5, 6, 7, 0] rfl) e hp
    · exact w_X5_areSo_98 hSF B Z hn x0 x1 x2 x3 x4 x5 x6 (s0 + s1) q1.1 (hl.sub [1, 2, 3, 4, 5, 6, 7, 0] rfl) e hp
  · exact w_X5_areSo_98 hSF B Z hn x0 x1 x2 x3 x4 x5 x6 (s0 + s1) q1.1 (hl.sub [1, 2, 3, 4, 5, 6, 7, 0] rfl) e hp
set_option maxHeartbeats 4000000 in
theorem w_X5_areSo_70 {l : Launch} {G : ax_G} {X : ax_X} {Q : State → Prop} {h0 h : ax_H} {ls : Array Slot} (hSF : ax_SF G) (B : ax_BL l G X cX5_areSo 9 RX5 135 3519) (Z : ax_Z X h0 ((some FieldType.boolean))) (hn : X.2.2.2.2.2.2.2.2.1.name = yX5_areSo.name) (x0 : Option Nat) (x1 : Int) (x2 : Int) (x3 : Int) (x4 : Int) (x5 : Int) (x6 : Int) (s0 : Int) {w : (Int × ax_H) ⊕ (Int × ax_H)} (hl : ax_hl ls 9 [(0, .inr (.inr x0)), (1, .inl x1), (2, .inl x2), (3, .inl x3), (4, .inl x4), (5, .inl x5), (6, .inl x6)]) (e : f_X5_areSo_70 G.2.2 x0 x1 x2 x3 x4 x5 x6 s0 h = some w) (hp : (ax_PL (pi_X5_areSo_3 G X Q x0 x1 x2 x3) (fun w : Int × ax_H => Q = ax_Q G X h0 w.2 (some (.int (Int32.ofInt w.1))))) w) : ax_W G X Q h 70 ls [.int (Int32.ofInt s0)] := by
  unfold f_X5_areSo_70 at e
  refine ax_iconst B dX5_areSo_70 ?_
  exact w_X5_areSo_71 hSF B Z hn x0 x1 x2 x3 x4 x5 x6 s0 0 (hl.sub [0, 1, 2, 3, 4, 5, 6] rfl) e hp
set_option maxHeartbeats 4000000 in
theorem wb_X5_areSo_3 {l : Launch} {G : ax_G} {X : ax_X} {Q : State → Prop} {h0 h : ax_H} {ls : Array Slot} (hSF : ax_SF G) (B : ax_BL l G X cX5_areSo 9 RX5 135 3519) (Z : ax_Z X h0 ((some FieldType.boolean))) (hn : X.2.2.2.2.2.2.2.2.1.name = yX5_areSo.name) (x0 : Option Nat) (x1 : Int) (x2 : Int) (x3 : Int) (x4 : Int) {w : (Int × ax_H) ⊕ (Int × ax_H)} (hl : ax_hl ls 9 [(0, .inr (.inr x0)), (1, .inl x1), (2, .inl x2), (3, .inl x3), (4, .inl x4)]) (e : lb_X5_areSo_3 G.2.2 x0 x1 x2 x3 x4 h = some w) (hp : (ax_PL (pi_X5_areSo_3 G X Q x0 x1 x2 x3) (fun w : Int × ax_H => Q = ax_Q G X h0 w.2 (some (.int (Int32.ofInt w.1))))) w) : ax_W G X Q h 3 ls [] := by
  unfold lb_X5_areSo_3 at e
  refine ax_iload B dX5_areSo_3 hl 4 rfl ?_
  refine ax_aload_n B dX5_areSo_5 rfl hl 0 rfl ?_
  refine ax_getR B ff_X5_24_5 (fun _ _ => rfl) dX5_areSo_6 e (fun v1 e => ?_)
  refine ax_sipush B dX5_areSo_9 (by decide) ?_
  refine ax_iald B kd100 dX5_areSo_12 e (fun v2 e => ?_)
  refine ax_icmp_ge (tgt := 170) B dX5_areSo_13 (by decide) e (fun e => ?_) (fun e => ?_)
  · refine ax_aload_n B dX5_areSo_16 rfl hl 0 rfl ?_
    refine ax_getR B ff_X5_24_5 (fun _ _ => rfl) dX5_areSo_17 e (fun v3 e => ?_)
    refine ax_bipush B dX5_areSo_20 (by decide) ?_
    refine ax_iconst B dX5_areSo_22 ?_
    refine ax_iload B dX5_areSo_23 hl 4 rfl ?_
    refine ax_imul' B dX5_areSo_25 ?_
    refine ax_iadd' B dX5_areSo_26 ?_
    refine ax_iald B kd100 dX5_areSo_27 e (fun v4 e => ?_)
    refine ax_istore (L' := [(5, .inl v4), (0, .inr (.inr x0)), (1, .inl x1), (2, .inl x2), (3, .inl x3), (4, .inl x4)]) B dX5_areSo_28 hl (by decide) rfl (fun ls hl => ?_)
    refine ax_aload_n B dX5_areSo_30 rfl hl 1 rfl ?_
    refine ax_getR B ff_X5_24_5 (fun _ _ => rfl) dX5_areSo_31 e (fun v5 e => ?_)
    refine ax_bipush B dX5_areSo_34 (by decide) ?_
    refine ax_iconst B dX5_areSo_36 ?_
    refine ax_iload B dX5_areSo_37 hl 5 rfl ?_
    refine ax_imul' B dX5_areSo_39 ?_
    refine ax_iadd' B dX5_areSo_40 ?_
    refine ax_iconst B dX5_areSo_41 ?_
    refine ax_iadd' B dX5_areSo_42 ?_
    refine ax_iald B kd100 dX5_areSo_43 e (fun v6 e => ?_)
    refine ax_istore (L' := [(6, .inl v6), (5, .inl v4), (0, .inr (.inr x0)), (1, .inl x1), (2, .inl x2), (3, .inl x3), (4, .inl x4)]) B dX5_areSo_44 hl (by decide) rfl (fun ls hl => ?_)
    refine ax_aload_n B dX5_areSo_46 rfl hl 2 rfl ?_
    refine ax_iload B dX5_areSo_47 hl 0 rfl ?_
    refine ax_iload B dX5_areSo_49 hl 1 rfl ?_
    refine ax_ivI (y := yX5_owed) (n := 2) (As := [.int (Int32.ofInt v6), .int (Int32.ofInt v4)]) B kd5 (lw_V q2234 q2236 qs52 q133 q2237) (by decide +kernel) ⟨Nat.le_of_ble_eq_true rfl, Nat.le_of_ble_eq_true rfl⟩ (fun w1 e1 => mt_X5_owed l G hSF x0 v6 v4 _ w1 e1) rfl hl.size (by decide) dX5_areSo_51 e (fun q7 e => ?_)
    refine ax_iload_n B dX5_areSo_54 rfl hl 3 rfl ?_
    refine ax_iload B dX5_areSo_55 hl 0 rfl ?_
    refine ax_icmp_ne (tgt := 70) B dX5_areSo_57 (by decide) e (fun e => ?_) (fun e => ?_)
    · refine ax_iload_n B dX5_areSo_60 rfl hl 4 rfl ?_
      refine ax_iload B dX5_areSo_61 hl 1 rfl ?_
      refine ax_icmp_ne (tgt := 70) B dX5_areSo_63 (by decide) e (fun e => ?_) (fun e => ?_)
      · refine ax_iload_n B dX5_areSo_66 rfl hl 5 rfl ?_
        refine ax_goto (tgt := 71) B dX5_areSo_67 (by decide) ?_
        exact w_X5_areSo_71 hSF B Z hn x0 x1 x2 x3 x4 v4 v6 q7.1 x3 (hl.sub [2, 3, 4, 5, 6, 1, 0] rfl) e hp
      · exact w_X5_areSo_70 hSF B Z hn x0 x1 x2 x3 x4 v4 v6 q7.1 (hl.sub [2, 3, 4, 5, 6, 1, 0] rfl) e hp
    · exact w_X5_areSo_70 hSF B Z hn x0 x1 x2 x3 x4 v4 v6 q7.1 (hl.sub [2, 3, 4, 5, 6, 1, 0] rfl) e hp
  · obtain ⟨w, e9_2, rfl⟩ := Option.map_eq_some_iff.mp e
    have e := e9_2
    refine ax_iconst B dX5_areSo_170 ?_
    have e8 := e
    have hp : Q = _ := hp
    subst hp
    exact ax_zreturnL (by decide) B Z dX5_areSo_171 e8
theorem w_X5_areSo_3 {l : Launch} {G : ax_G} {X : ax_X} {Q : State → Prop} {h0 h : ax_H} {ls : Array Slot} (hSF : ax_SF G) (B : ax_BL l G X cX5_areSo 9 RX5 135 3519) (Z : ax_Z X h0 ((some FieldType.boolean))) (hn : X.2.2.2.2.2.2.2.2.1.name = yX5_areSo.name) (x0 : Option Nat) (x1 : Int) (x2 : Int) (x3 : Int) (x4 : Int) {w : Int × ax_H} (hl : ax_hl ls 9 [(0, .inr (.inr x0)), (1, .inl x1), (2, .inl x2), (3, .inl x3), (4, .inl x4)]) (e : f_X5_areSo_3 G.2.2 x0 x1 x2 x3 x4 h = some w) (hp : (fun w : Int × ax_H => Q = ax_Q G X h0 w.2 (some (.int (Int32.ofInt w.1)))) w) : ax_W G X Q h 3 ls [] :=
  ax_iter_W (Pin := pi_X5_areSo_3 G X Q x0 x1 x2 x3) (Pout := (fun w : Int × ax_H => Q = ax_Q G X h0 w.2 (some (.int (Int32.ofInt w.1))))) (fun s w e hp ls hl => wb_X5_areSo_3 hSF B Z hn x0 x1 x2 x3 s.1 hl e hp) _ _ e hp ls hl
set_option maxHeartbeats 4000000 in
theorem we_X5_areSo {l : Launch} {G : ax_G} {X : ax_X} {Q : State → Prop} {h0 h : ax_H} {ls : Array Slot} (hSF : ax_SF G) (B : ax_BL l G X cX5_areSo 9 RX5 135 3519) (Z : ax_Z X h0 ((some FieldType.boolean))) (hn : X.2.2.2.2.2.2.2.2.1.name = yX5_areSo.name) (x0 : Option Nat) (x1 : Int) (x2 : Int) (x3 : Int) {w : Int × ax_H} (hl : ax_hl ls 9 [(0, .inr (.inr x0)), (1, .inl x1), (2, .inl x2), (3, .inl x3)]) (e : f_X5_areSo G.2.2 x0 x1 x2 x3 h = some w) (hp : (fun w : Int × ax_H => Q = ax_Q G X h0 w.2 (some (.int (Int32.ofInt w.1)))) w) : ax_W G X Q h 0 ls [] := by
  unfold f_X5_areSo at e
  refine ax_iconst B dX5_areSo_0 ?_
  refine ax_istore (L' := [(4, .inl 0), (0, .inr (.inr x0)), (1, .inl x1), (2, .inl x2), (3, .inl x3)]) B dX5_areSo_1 hl (by decide) rfl (fun ls hl => ?_)
  exact w_X5_areSo_3 hSF B Z hn x0 x1 x2 x3 0 (hl.sub [1, 2, 3, 4, 0] rfl) e hp
theorem mt_X5_areSo (l : Launch) (G : ax_G) (hSF : ax_SF G) (x0 : Option Nat) (x1 : Int) (x2 : Int) (x3 : Int) (h : ax_H) (w : Int × ax_H) (e : f_X5_areSo G.2.2 x0 x1 x2 x3 h = some w) : ax_Met l G yX5_areSo cX5_areSo 9 ((some FieldType.boolean)) 135 3519 [va_rf x0, .int (Int32.ofInt x1), .int (Int32.ofInt x2), .int (Int32.ofInt x3)] h w.2 (some (.int (Int32.ofInt w.1))) :=
  ax_enter [.inr (.inr x0), .inl x1, .inl x2, .inl x3] (y := yX5_areSo) hSF (plainFor_of_name (by decide +kernel)) (Nat.le_of_ble_eq_true rfl) (fun X ls B Z hn hl => we_X5_areSo hSF B Z hn x0 x1 x2 x3 hl e rfl)
def dkwX5_secret_4 : List UInt8 := [172]
abbrev dktX5_secret_4 : List UInt8 := dkwX5_secret_4 ++ []
def dkwX5_secret_3 : List UInt8 := [160, 0, 5, 29, 172, 132, 2, 1, 132, 3, 1, 167, 255, 187, 27, 2, 160, 0, 7, 28, 167, 0, 4, 2]
abbrev dktX5_secret_3 : List UInt8 := dkwX5_secret_3 ++ dktX5_secret_4
def dkwX5_secret_2 : List UInt8 := [21, 5, 16, 20, 29, 16, 10, 112, 4, 96, 104, 182, 1, 212, 154, 0, 6, 167, 0, 13, 28, 27]
abbrev dktX5_secret_2 : List UInt8 := dkwX5_secret_2 ++ dktX5_secret_3
def dkwX5_secret_1 : List UInt8 := [29, 16, 10, 108, 16, 7, 112, 54, 5, 42, 21, 4, 21, 5, 182, 1, 89, 153, 0, 36, 42, 21, 4]
abbrev dktX5_secret_1 : List UInt8 := dkwX5_secret_1 ++ dktX5_secret_2
def dkwX5_secret_0 : List UInt8 := [27, 2, 162, 0, 5, 2, 172, 3, 61, 3, 62, 29, 17, 1, 234, 162, 0, 68, 29, 16, 70, 108, 54, 4]
abbrev dktX5_secret_0 : List UInt8 := dkwX5_secret_0 ++ dktX5_secret_1
theorem dksX5_secret_0 : cX5_secret.data.toList.drop 0 = dktX5_secret_0 := by decide +kernel
theorem dksX5_secret_1 : cX5_secret.data.toList.drop 24 = dktX5_secret_1 := dk_seg dksX5_secret_0 24 rfl rfl
theorem dksX5_secret_2 : cX5_secret.data.toList.drop 47 = dktX5_secret_2 := dk_seg dksX5_secret_1 23 rfl rfl
theorem dksX5_secret_3 : cX5_secret.data.toList.drop 69 = dktX5_secret_3 := dk_seg dksX5_secret_2 22 rfl rfl
theorem dksX5_secret_4 : cX5_secret.data.toList.drop 93 = dktX5_secret_4 := dk_seg dksX5_secret_3 24 rfl rfl
theorem dX5_secret_0 : decode cX5_secret 0 = .ok (.iload_n 1, 1) := dk_27 (dk_at dksX5_secret_0 0 rfl rfl)
theorem dX5_secret_1 : decode cX5_secret 1 = .ok (.iconst (-1), 1) := dk_2 (dk_at dksX5_secret_0 1 rfl rfl)
theorem dX5_secret_2 : decode cX5_secret 2 = .ok (.if_icmp .ge 5, 3) := dk_162 0 5 (dk_at dksX5_secret_0 2 rfl rfl)
theorem dX5_secret_5 : decode cX5_secret 5 = .ok (.iconst (-1), 1) := dk_2 (dk_at dksX5_secret_0 5 rfl rfl)
theorem dX5_secret_6 : decode cX5_secret 6 = .ok (.ireturn, 1) := dk_172 (dk_at dksX5_secret_0 6 rfl rfl)
theorem dX5_secret_7 : decode cX5_secret 7 = .ok (.iconst 0, 1) := dk_3 (dk_at dksX5_secret_0 7 rfl rfl)
theorem dX5_secret_8 : decode cX5_secret 8 = .ok (.istore_n 2, 1) := dk_61 (dk_at dksX5_secret_0 8 rfl rfl)
theorem dX5_secret_9 : decode cX5_secret 9 = .ok (.iconst 0, 1) := dk_3 (dk_at dksX5_secret_0 9 rfl rfl)
theorem dX5_secret_10 : decode cX5_secret 10 = .ok (.istore_n 3, 1) := dk_62 (dk_at dksX5_secret_0 10 rfl rfl)
theorem dX5_secret_11 : decode cX5_secret 11 = .ok (.iload_n 3, 1) := dk_29 (dk_at dksX5_secret_0 11 rfl rfl)
theorem dX5_secret_12 : decode cX5_secret 12 = .ok (.sipush 490, 3) := dk_17 1 234 (dk_at dksX5_secret_0 12 rfl rfl)
theorem dX5_secret_15 : decode cX5_secret 15 = .ok (.if_icmp .ge 68, 3) := dk_162 0 68 (dk_at dksX5_secret_0 15 rfl rfl)
theorem dX5_secret_18 : decode cX5_secret 18 = .ok (.iload_n 3, 1) := dk_29 (dk_at dksX5_secret_0 18 rfl rfl)
theorem dX5_secret_19 : decode cX5_secret 19 = .ok (.bipush 70, 2) := dk_16 70 (dk_at dksX5_secret_0 19 rfl rfl)
theorem dX5_secret_21 : decode cX5_secret 21 = .ok (.idiv, 1) := dk_108 (dk_at dksX5_secret_0 21 rfl rfl)
theorem dX5_secret_22 : decode cX5_secret 22 = .ok (.istore 4, 2) := dk_54 4 (dk_at dksX5_secret_0 22 rfl rfl)
theorem dX5_secret_24 : decode cX5_secret 24 = .ok (.iload_n 3, 1) := dk_29 (dk_at dksX5_secret_1 0 rfl rfl)
theorem dX5_secret_25 : decode cX5_secret 25 = .ok (.bipush 10, 2) := dk_16 10 (dk_at dksX5_secret_1 1 rfl rfl)
theorem dX5_secret_27 : decode cX5_secret 27 = .ok (.idiv, 1) := dk_108 (dk_at dksX5_secret_1 3 rfl rfl)
theorem dX5_secret_28 : decode cX5_secret 28 = .ok (.bipush 7, 2) := dk_16 7 (dk_at dksX5_secret_1 4 rfl rfl)
theorem dX5_secret_30 : decode cX5_secret 30 = .ok (.irem, 1) := dk_112 (dk_at dksX5_secret_1 6 rfl rfl)
theorem dX5_secret_31 : decode cX5_secret 31 = .ok (.istore 5, 2) := dk_54 5 (dk_at dksX5_secret_1 7 rfl rfl)
theorem dX5_secret_33 : decode cX5_secret 33 = .ok (.aload_n 0, 1) := dk_42 (dk_at dksX5_secret_1 9 rfl rfl)
theorem dX5_secret_34 : decode cX5_secret 34 = .ok (.iload 4, 2) := dk_21 4 (dk_at dksX5_secret_1 10 rfl rfl)
theorem dX5_secret_36 : decode cX5_secret 36 = .ok (.iload 5, 2) := dk_21 5 (dk_at dksX5_secret_1 12 rfl rfl)
theorem dX5_secret_38 : decode cX5_secret 38 = .ok (.invokevirtual 345, 3) := dk_182 1 89 (dk_at dksX5_secret_1 14 rfl rfl)
theorem dX5_secret_41 : decode cX5_secret 41 = .ok (.ifCond .eq 36, 3) := dk_153 0 36 (dk_at dksX5_secret_1 17 rfl rfl)
theorem dX5_secret_44 : decode cX5_secret 44 = .ok (.aload_n 0, 1) := dk_42 (dk_at dksX5_secret_1 20 rfl rfl)
theorem dX5_secret_45 : decode cX5_secret 45 = .ok (.iload 4, 2) := dk_21 4 (dk_at dksX5_secret_1 21 rfl rfl)
theorem dX5_secret_47 : decode cX5_secret 47 = .ok (.iload 5, 2) := dk_21 5 (dk_at dksX5_secret_2 0 rfl rfl)
theorem dX5_secret_49 : decode cX5_secret 49 = .ok (.bipush 20, 2) := dk_16 20 (dk_at dksX5_secret_2 2 rfl rfl)
theorem dX5_secret_51 : decode cX5_secret 51 = .ok (.iload_n 3, 1) := dk_29 (dk_at dksX5_secret_2 4 rfl rfl)
theorem dX5_secret_52 : decode cX5_secret 52 = .ok (.bipush 10, 2) := dk_16 10 (dk_at dksX5_secret_2 5 rfl rfl)
theorem dX5_secret_54 : decode cX5_secret 54 = .ok (.irem, 1) := dk_112 (dk_at dksX5_secret_2 7 rfl rfl)
theorem dX5_secret_55 : decode cX5_secret 55 = .ok (.iconst 1, 1) := dk_4 (dk_at dksX5_secret_2 8 rfl rfl)
theorem dX5_secret_56 : decode cX5_secret 56 = .ok (.iadd, 1) := dk_96 (dk_at dksX5_secret_2 9 rfl rfl)
theorem dX5_secret_57 : decode cX5_secret 57 = .ok (.imul, 1) := dk_104 (dk_at dksX5_secret_2 10 rfl rfl)
theorem dX5_secret_58 : decode cX5_secret 58 = .ok (.invokevirtual 468, 3) := dk_182 1 212 (dk_at dksX5_secret_2 11 rfl rfl)
theorem dX5_secret_61 : decode cX5_secret 61 = .ok (.ifCond .ne 6, 3) := dk_154 0 6 (dk_at dksX5_secret_2 14 rfl rfl)
theorem dX5_secret_64 : decode cX5_secret 64 = .ok (.goto 13, 3) := dk_167 0 13 (dk_at dksX5_secret_2 17 rfl rfl)
theorem dX5_secret_67 : decode cX5_secret 67 = .ok (.iload_n 2, 1) := dk_28 (dk_at dksX5_secret_2 20 rfl rfl)
theorem dX5_secret_68 : decode cX5_secret 68 = .ok (.iload_n 1, 1) := dk_27 (dk_at dksX5_secret_2 21 rfl rfl)
theorem dX5_secret_69 : decode cX5_secret 69 = .ok (.if_icmp .ne 5, 3) := dk_160 0 5 (dk_at dksX5_secret_3 0 rfl rfl)
theorem dX5_secret_72 : decode cX5_secret 72 = .ok (.iload_n 3, 1) := dk_29 (dk_at dksX5_secret_3 3 rfl rfl)
theorem dX5_secret_73 : decode cX5_secret 73 = .ok (.ireturn, 1) := dk_172 (dk_at dksX5_secret_3 4 rfl rfl)
theorem dX5_secret_74 : decode cX5_secret 74 = .ok (.iinc 2 1, 3) := dk_132 2 1 (dk_at dksX5_secret_3 5 rfl rfl)
theorem dX5_secret_77 : decode cX5_secret 77 = .ok (.iinc 3 1, 3) := dk_132 3 1 (dk_at dksX5_secret_3 8 rfl rfl)
theorem dX5_secret_80 : decode cX5_secret 80 = .ok (.goto (-69), 3) := dk_167 255 187 (dk_at dksX5_secret_3 11 rfl rfl)
theorem dX5_secret_83 : decode cX5_secret 83 = .ok (.iload_n 1, 1) := dk_27 (dk_at dksX5_secret_3 14 rfl rfl)
theorem dX5_secret_84 : decode cX5_secret 84 = .ok (.iconst (-1), 1) := dk_2 (dk_at dksX5_secret_3 15 rfl rfl)
theorem dX5_secret_85 : decode cX5_secret 85 = .ok (.if_icmp .ne 7, 3) := dk_160 0 7 (dk_at dksX5_secret_3 16 rfl rfl)
theorem dX5_secret_88 : decode cX5_secret 88 = .ok (.iload_n 2, 1) := dk_28 (dk_at dksX5_secret_3 19 rfl rfl)
theorem dX5_secret_89 : decode cX5_secret 89 = .ok (.goto 4, 3) := dk_167 0 4 (dk_at dksX5_secret_3 20 rfl rfl)
theorem dX5_secret_92 : decode cX5_secret 92 = .ok (.iconst (-1), 1) := dk_2 (dk_at dksX5_secret_3 23 rfl rfl)
theorem dX5_secret_93 : decode cX5_secret 93 = .ok (.ireturn, 1) := dk_172 (dk_at dksX5_secret_4 0 rfl rfl)
noncomputable def f_X5_secret_77 (E : ax_E) (x0 : Option Nat) (x1 : Int) (x2 : Int) (x3 : Int) (h : ax_H) : Option ((Int × Int × ax_H) ⊕ (Int × ax_H)) :=
  some (.inl (x2, (x3 + 1), h))
noncomputable def lb_X5_secret_11 (E : ax_E) (x0 : Option Nat) (x1 : Int) (x2 : Int) (x3 : Int) (h : ax_H) : Option ((Int × Int × ax_H) ⊕ (Int × ax_H)) :=
  if i2 x3 < i2 490 then
    if i2 70 = 0 then none else
    if i2 10 = 0 then none else
    if i2 7 = 0 then none else
    (ax_ce E h x0 5).bind fun _ => (f_X5_areTwo E x0 ((i2 x3).tdiv (i2 70)) ((i2 ((i2 x3).tdiv (i2 10))).tmod (i2 7)) h).bind fun q1 =>
    if i2 q1.1 = 0 then
      f_X5_secret_77 E x0 x1 x2 x3 q1.2
    else
      if i2 10 = 0 then none else
      (ax_ce E q1.2 x0 5).bind fun _ => (f_X5_areSo E x0 ((i2 x3).tdiv (i2 70)) ((i2 ((i2 x3).tdiv (i2 10))).tmod (i2 7)) (20 * (((i2 x3).tmod (i2 10)) + 1)) q1.2).bind fun q2 =>
      if i2 q2.1 = 0 then
        f_X5_secret_77 E x0 x1 x2 x3 q2.2
      else
        if i2 x2 = i2 x1 then
          (some (x3, q2.2)).map Sum.inr
        else
          f_X5_secret_77 E x0 x1 (x2 + 1) x3 q2.2
  else
    (if i2 x1 = i2 (-1) then
      some (x2, h)
    else
      some ((-1), h)).map Sum.inr
noncomputable def f_X5_secret_11 (E : ax_E) (x0 : Option Nat) (x1 : Int) (x2 : Int) (x3 : Int) (h : ax_H) : Option (Int × ax_H) :=
  ax_iter (fun s : Int × Int × ax_H => lb_X5_secret_11 E x0 x1 s.1 s.2.1 s.2.2) (x2, x3, h)
noncomputable def f_X5_secret (E : ax_E) (x0 : Option Nat) (x1 : Int) (h : ax_H) : Option (Int × ax_H) :=
  if i2 x1 < i2 (-1) then
    some ((-1), h)
  else
    f_X5_secret_11 E x0 x1 0 0 h
def pi_X5_secret_11 (G : ax_G) (X : ax_X) (Q : State → Prop) (x0 : Option Nat) (x1 : Int) : Int × Int × ax_H → Prop := fun s => ∀ ls : Array Slot, ax_hl ls 6 [(0, .inr (.inr x0)), (1, .inl x1), (2, .inl s.1), (3, .inl s.2.1)] → ax_W G X Q s.2.2 11 ls []
set_option maxHeartbeats 4000000 in
theorem w_X5_secret_77 {l : Launch} {G : ax_G} {X : ax_X} {Q : State → Prop} {h0 h : ax_H} {ls : Array Slot} (hSF : ax_SF G) (B : ax_BL l G X cX5_secret 6 RX5 136 3547) (Z : ax_Z X h0 ((some FieldType.int))) (hn : X.2.2.2.2.2.2.2.2.1.name = yX5_secret.name) (x0 : Option Nat) (x1 : Int) (x2 : Int) (x3 : Int) {w : (Int × Int × ax_H) ⊕ (Int × ax_H)} (hl : ax_hl ls 6 [(0, .inr (.inr x0)), (1, .inl x1), (2, .inl x2), (3, .inl x3)]) (e : f_X5_secret_77 G.2.2 x0 x1 x2 x3 h = some w) (hp : (ax_PL (pi_X5_secret_11 G X Q x0 x1) (fun w : Int × ax_H => Q = ax_Q G X h0 w.2 (some (.int (Int32.ofInt w.1))))) w) : ax_W G X Q h 77 ls [] := by
  unfold f_X5_secret_77 at e
  refine ax_iinc (L' := [(3, .inl (x3 + 1)), (0, .inr (.inr x0)), (1, .inl x1), (2, .inl x2)]) B dX5_secret_77 hl 3 rfl (by decide) rfl (fun ls hl => ?_)
  refine ax_goto (tgt := 11) B dX5_secret_80 (by decide) ?_
  cases e
  exact hp _ (hl.sub [1, 2, 3, 0] rfl)
set_option maxHeartbeats 4000000 in
theorem wb_X5_secret_11 {l : Launch} {G : ax_G} {X : ax_X} {Q : State → Prop} {h0 h : ax_H} {ls : Array Slot} (hSF : ax_SF G) (B : ax_BL l G X cX5_secret 6 RX5 136 3547) (Z : ax_Z X h0 ((some FieldType.int))) (hn : X.2.2.2.2.2.2.2.2.1.name = yX5_secret.name) (x0 : Option Nat) (x1 : Int) (x2 : Int) (x3 : Int) {w : (Int × Int × ax_H) ⊕ (Int × ax_H)} (hl : ax_hl ls 6 [(0, .inr (.inr x0)), (1, .inl x1), (2, .inl x2), (3, .inl x3)]) (e : lb_X5_secret_11 G.2.2 x0 x1 x2 x3 h = some w) (hp : (ax_PL (pi_X5_secret_11 G X Q x0 x1) (fun w : Int × ax_H => Q = ax_Q G X h0 w.2 (some (.int (Int32.ofInt w.1))))) w) : ax_W G X Q h 11 ls [] := by
  unfold lb_X5_secret_11 at e
  refine ax_iload_n B dX5_secret_11 rfl hl 3 rfl ?_
  refine ax_sipush B dX5_secret_12 (by decide) ?_
  refine ax_icmp_ge (tgt := 83) B dX5_secret_15 (by decide) e (fun e => ?_) (fun e => ?_)
  · refine ax_iload_n B dX5_secret_18 rfl hl 3 rfl ?_
    refine ax_bipush B dX5_secret_19 (by decide) ?_
    refine ax_idiv' B dX5_secret_21 e (fun e => ?_)
    refine ax_istore (L' := [(4, .inl ((i2 x3).tdiv (i2 70))), (0, .inr (.inr x0)), (1, .inl x1), (2, .inl x2), (3, .inl x3)]) B dX5_secret_22 hl (by decide) rfl (fun ls hl => ?_)
    refine ax_iload_n B dX5_secret_24 rfl hl 4 rfl ?_
    refine ax_bipush B dX5_secret_25 (by decide) ?_
    refine ax_idiv' B dX5_secret_27 e (fun e => ?_)
    refine ax_bipush B dX5_secret_28 (by decide) ?_
    refine ax_irem' B dX5_secret_30 e (fun e => ?_)
    refine ax_istore (L' := [(5, .inl ((i2 ((i2 x3).tdiv (i2 10))).tmod (i2 7))), (4, .inl ((i2 x3).tdiv (i2 70))), (0, .inr (.inr x0)), (1, .inl x1), (2, .inl x2), (3, .inl x3)]) B dX5_secret_31 hl (by decide) rfl (fun ls hl => ?_)
    refine ax_aload_n B dX5_secret_33 rfl hl 2 rfl ?_
    refine ax_iload B dX5_secret_34 hl 1 rfl ?_
    refine ax_iload B dX5_secret_36 hl 0 rfl ?_
    refine ax_ivI (y := yX5_areTwo) (n := 2) (As := [.int (Int32.ofInt ((i2 x3).tdiv (i2 70))), .int (Int32.ofInt ((i2 ((i2 x3).tdiv (i2 10))).tmod (i2 7)))]) B kd5 (lw_V q2427 q2429 qs87 q133 q2430) (by decide +kernel) ⟨Nat.le_of_ble_eq_true rfl, Nat.le_of_ble_eq_true rfl⟩ (fun w1 e1 => mt_X5_areTwo l G hSF x0 ((i2 x3).tdiv (i2 70)) ((i2 ((i2 x3).tdiv (i2 10))).tmod (i2 7)) _ w1 e1) rfl hl.size (by decide) dX5_secret_38 e (fun q1 e => ?_)
    refine ax_if_eq (tgt := 77) B dX5_secret_41 (by decide) e (fun e => ?_) (fun e => ?_)
    · exact w_X5_secret_77 hSF B Z hn x0 x1 x2 x3 (hl.sub [2, 3, 4, 5] rfl) e hp
    · refine ax_aload_n B dX5_secret_44 rfl hl 2 rfl ?_
      refine ax_iload B dX5_secret_45 hl 1 rfl ?_
      refine ax_iload B dX5_secret_47 hl 0 rfl ?_
      refine ax_bipush B dX5_secret_49 (by decide) ?_
      refine ax_iload_n B dX5_secret_51 rfl hl 5 rfl ?_
      refine ax_bipush B dX5_secret_52 (by decide) ?_
      refine ax_irem' B dX5_secret_54 e (fun e => ?_)
      refine ax_iconst B dX5_secret_55 ?_
      refine ax_iadd' B dX5_secret_56 ?_
      refine ax_imul' B dX5_secret_57 ?_
      refine ax_ivI (y := yX5_areSo) (n := 3) (As := [.int (Int32.ofInt ((i2 x3).tdiv (i2 70))), .int (Int32.ofInt ((i2 ((i2 x3).tdiv (i2 10))).tmod (i2 7))), .int (Int32.ofInt (20 * (((i2 x3).tmod (i2 10)) + 1)))]) B kd5 (lw_V q2666 q2668 qs120 q133 q2669) (by decide +kernel) ⟨Nat.le_of_ble_eq_true rfl, Nat.le_of_ble_eq_true rfl⟩ (fun w1 e1 => mt_X5_areSo l G hSF x0 ((i2 x3).tdiv (i2 70)) ((i2 ((i2 x3).tdiv (i2 10))).tmod (i2 7)) (20 * (((i2 x3).tmod (i2 10)) + 1)) _ w1 e1) rfl hl.size (by decide) dX5_secret_58 e (fun q2 e => ?_)
      refine ax_if_ne (tgt := 67) B dX5_secret_61 (by decide) e (fun e => ?_) (fun e => ?_)
      · refine ax_goto (tgt := 77) B dX5_secret_64 (by decide) ?_
        exact w_X5_secret_77 hSF B Z hn x0 x1 x2 x3 (hl.sub [2, 3, 4, 5] rfl) e hp
      · refine ax_iload_n B dX5_secret_67 rfl hl 4 rfl ?_
        refine ax_iload_n B dX5_secret_68 rfl hl 3 rfl ?_
        refine ax_icmp_ne (tgt := 74) B dX5_secret_69 (by decide) e (fun e => ?_) (fun e => ?_)
        · obtain ⟨w, e9_1, rfl⟩ := Option.map_eq_some_iff.mp e
          have e := e9_1
          refine ax_iload_n B dX5_secret_72 rfl hl 5 rfl ?_
          have e8 := e
          have hp : Q = _ := hp
          subst hp
          exact ax_ireturn B Z dX5_secret_73 e8
        · refine ax_iinc (L' := [(2, .inl (x2 + 1)), (5, .inl ((i2 ((i2 x3).tdiv (i2 10))).tmod (i2 7))), (4, .inl ((i2 x3).tdiv (i2 70))), (0, .inr (.inr x0)), (1, .inl x1), (3, .inl x3)]) B dX5_secret_74 hl 4 rfl (by decide) rfl (fun ls hl => ?_)
          exact w_X5_secret_77 hSF B Z hn x0 x1 (x2 + 1) x3 (hl.sub [3, 4, 0, 5] rfl) e hp
  · obtain ⟨w, e9_2, rfl⟩ := Option.map_eq_some_iff.mp e
    have e := e9_2
    refine ax_iload_n B dX5_secret_83 rfl hl 1 rfl ?_
    refine ax_iconst B dX5_secret_84 ?_
    refine ax_icmp_ne (tgt := 92) B dX5_secret_85 (by decide) e (fun e => ?_) (fun e => ?_)
    · refine ax_iload_n B dX5_secret_88 rfl hl 2 rfl ?_
      refine ax_goto (tgt := 93) B dX5_secret_89 (by decide) ?_
      have e8 := e
      have hp : Q = _ := hp
      subst hp
      exact ax_ireturn B Z dX5_secret_93 e8
    · refine ax_iconst B dX5_secret_92 ?_
      have e8 := e
      have hp : Q = _ := hp
      subst hp
      exact ax_ireturn B Z dX5_secret_93 e8
theorem w_X5_secret_11 {l : Launch} {G : ax_G} {X : ax_X} {Q : State → Prop} {h0 h : ax_H} {ls : Array Slot} (hSF : ax_SF G) (B : ax_BL l G X cX5_secret 6 RX5 136 3547) (Z : ax_Z X h0 ((some FieldType.int))) (hn : X.2.2.2.2.2.2.2.2.1.name = yX5_secret.name) (x0 : Option Nat) (x1 : Int) (x2 : Int) (x3 : Int) {w : Int × ax_H} (hl : ax_hl ls 6 [(0, .inr (.inr x0)), (1, .inl x1), (2, .inl x2), (3, .inl x3)]) (e : f_X5_secret_11 G.2.2 x0 x1 x2 x3 h = some w) (hp : (fun w : Int × ax_H => Q = ax_Q G X h0 w.2 (some (.int (Int32.ofInt w.1)))) w) : ax_W G X Q h 11 ls [] :=
  ax_iter_W (Pin := pi_X5_secret_11 G X Q x0 x1) (Pout := (fun w : Int × ax_H => Q = ax_Q G X h0 w.2 (some (.int (Int32.ofInt w.1))))) (fun s w e hp ls hl => wb_X5_secret_11 hSF B Z hn x0 x1 s.1 s.2.1 hl e hp) _ _ e hp ls hl
set_option maxHeartbeats 4000000 in
theorem we_X5_secret {l : Launch} {G : ax_G} {X : ax_X} {Q : State → Prop} {h0 h : ax_H} {ls : Array Slot} (hSF : ax_SF G) (B : ax_BL l G X cX5_secret 6 RX5 136 3547) (Z : ax_Z X h0 ((some FieldType.int))) (hn : X.2.2.2.2.2.2.2.2.1.name = yX5_secret.name) (x0 : Option Nat) (x1 : Int) {w : Int × ax_H} (hl : ax_hl ls 6 [(0, .inr (.inr x0)), (1, .inl x1)]) (e : f_X5_secret G.2.2 x0 x1 h = some w) (hp : (fun w : Int × ax_H => Q = ax_Q G X h0 w.2 (some (.int (Int32.ofInt w.1)))) w) : ax_W G X Q h 0 ls [] := by
  unfold f_X5_secret at e
  refine ax_iload_n B dX5_secret_0 rfl hl 1 rfl ?_
  refine ax_iconst B dX5_secret_1 ?_
  refine ax_icmp_ge (tgt := 7) B dX5_secret_2 (by decide) e (fun e => ?_) (fun e => ?_)
  · refine ax_iconst B dX5_secret_5 ?_
    have e8 := e
    have hp : Q = _ := hp
    subst hp
    exact ax_ireturn B Z dX5_secret_6 e8
  · refine ax_iconst B dX5_secret_7 ?_
    refine ax_istore_n (L' := [(2, .inl 0), (0, .inr (.inr x0)), (1, .inl x1)]) B dX5_secret_8 rfl hl (by decide) rfl (fun ls hl => ?_)
    refine ax_iconst B dX5_secret_9 ?_
    refine ax_istore_n (L' := [(3, .inl 0), (2, .inl 0), (0, .inr (.inr x0)), (1, .inl x1)]) B dX5_secret_10 rfl hl (by decide) rfl (fun ls hl => ?_)
    exact w_X5_secret_11 hSF B Z hn x0 x1 0 0 (hl.sub [2, 3, 1, 0] rfl) e hp
theorem mt_X5_secret (l : Launch) (G : ax_G) (hSF : ax_SF G) (x0 : Option Nat) (x1 : Int) (h : ax_H) (w : Int × ax_H) (e : f_X5_secret G.2.2 x0 x1 h = some w) : ax_Met l G yX5_secret cX5_secret 6 ((some FieldType.int)) 136 3547 [va_rf x0, .int (Int32.ofInt x1)] h w.2 (some (.int (Int32.ofInt w.1))) :=
  ax_enter [.inr (.inr x0), .inl x1] (y := yX5_secret) hSF (plainFor_of_name (by decide +kernel)) (Nat.le_of_ble_eq_true rfl) (fun X ls B Z hn hl => we_X5_secret hSF B Z hn x0 x1 hl e rfl)
def dkwX5_denied_3 : List UInt8 := [167, 255, 190, 27, 172]
abbrev dktX5_denied_3 : List UInt8 := dkwX5_denied_3 ++ []
def dkwX5_denied_2 : List UInt8 := [5, 96, 46, 116, 182, 1, 212, 153, 0, 9, 4, 28, 120, 167, 0, 4, 3, 128, 60, 132, 2, 1]
abbrev dktX5_denied_2 : List UInt8 := dkwX5_denied_2 ++ dktX5_denied_3
def dkwX5_denied_1 : List UInt8 := [46, 42, 180, 0, 24, 16, 7, 7, 28, 104, 96, 4, 96, 46, 42, 180, 0, 24, 16, 7, 7, 28, 104, 96]
abbrev dktX5_denied_1 : List UInt8 := dkwX5_denied_1 ++ dktX5_denied_2
def dkwX5_denied_0 : List UInt8 := [3, 60, 3, 61, 28, 42, 182, 0, 137, 162, 0, 64, 27, 42, 42, 180, 0, 24, 16, 7, 7, 28, 104, 96]
abbrev dktX5_denied_0 : List UInt8 := dkwX5_denied_0 ++ dktX5_denied_1
theorem dksX5_denied_0 : cX5_denied.data.toList.drop 0 = dktX5_denied_0 := by decide +kernel
theorem dksX5_denied_1 : cX5_denied.data.toList.drop 24 = dktX5_denied_1 := dk_seg dksX5_denied_0 24 rfl rfl
theorem dksX5_denied_2 : cX5_denied.data.toList.drop 48 = dktX5_denied_2 := dk_seg dksX5_denied_1 24 rfl rfl
theorem dksX5_denied_3 : cX5_denied.data.toList.drop 70 = dktX5_denied_3 := dk_seg dksX5_denied_2 22 rfl rfl
theorem dX5_denied_0 : decode cX5_denied 0 = .ok (.iconst 0, 1) := dk_3 (dk_at dksX5_denied_0 0 rfl rfl)
theorem dX5_denied_1 : decode cX5_denied 1 = .ok (.istore_n 1, 1) := dk_60 (dk_at dksX5_denied_0 1 rfl rfl)
theorem dX5_denied_2 : decode cX5_denied 2 = .ok (.iconst 0, 1) := dk_3 (dk_at dksX5_denied_0 2 rfl rfl)
theorem dX5_denied_3 : decode cX5_denied 3 = .ok (.istore_n 2, 1) := dk_61 (dk_at dksX5_denied_0 3 rfl rfl)
theorem dX5_denied_4 : decode cX5_denied 4 = .ok (.iload_n 2, 1) := dk_28 (dk_at dksX5_denied_0 4 rfl rfl)
theorem dX5_denied_5 : decode cX5_denied 5 = .ok (.aload_n 0, 1) := dk_42 (dk_at dksX5_denied_0 5 rfl rfl)
theorem dX5_denied_6 : decode cX5_denied 6 = .ok (.invokevirtual 137, 3) := dk_182 0 137 (dk_at dksX5_denied_0 6 rfl rfl)
theorem dX5_denied_9 : decode cX5_denied 9 = .ok (.if_icmp .ge 64, 3) := dk_162 0 64 (dk_at dksX5_denied_0 9 rfl rfl)
theorem dX5_denied_12 : decode cX5_denied 12 = .ok (.iload_n 1, 1) := dk_27 (dk_at dksX5_denied_0 12 rfl rfl)
theorem dX5_denied_13 : decode cX5_denied 13 = .ok (.aload_n 0, 1) := dk_42 (dk_at dksX5_denied_0 13 rfl rfl)
theorem dX5_denied_14 : decode cX5_denied 14 = .ok (.aload_n 0, 1) := dk_42 (dk_at dksX5_denied_0 14 rfl rfl)
theorem dX5_denied_15 : decode cX5_denied 15 = .ok (.getfield 24, 3) := dk_180 0 24 (dk_at dksX5_denied_0 15 rfl rfl)
theorem dX5_denied_18 : decode cX5_denied 18 = .ok (.bipush 7, 2) := dk_16 7 (dk_at dksX5_denied_0 18 rfl rfl)
theorem dX5_denied_20 : decode cX5_denied 20 = .ok (.iconst 4, 1) := dk_7 (dk_at dksX5_denied_0 20 rfl rfl)
theorem dX5_denied_21 : decode cX5_denied 21 = .ok (.iload_n 2, 1) := dk_28 (dk_at dksX5_denied_0 21 rfl rfl)
theorem dX5_denied_22 : decode cX5_denied 22 = .ok (.imul, 1) := dk_104 (dk_at dksX5_denied_0 22 rfl rfl)
theorem dX5_denied_23 : decode cX5_denied 23 = .ok (.iadd, 1) := dk_96 (dk_at dksX5_denied_0 23 rfl rfl)
theorem dX5_denied_24 : decode cX5_denied 24 = .ok (.iaload, 1) := dk_46 (dk_at dksX5_denied_1 0 rfl rfl)
theorem dX5_denied_25 : decode cX5_denied 25 = .ok (.aload_n 0, 1) := dk_42 (dk_at dksX5_denied_1 1 rfl rfl)
theorem dX5_denied_26 : decode cX5_denied 26 = .ok (.getfield 24, 3) := dk_180 0 24 (dk_at dksX5_denied_1 2 rfl rfl)
theorem dX5_denied_29 : decode cX5_denied 29 = .ok (.bipush 7, 2) := dk_16 7 (dk_at dksX5_denied_1 5 rfl rfl)
theorem dX5_denied_31 : decode cX5_denied 31 = .ok (.iconst 4, 1) := dk_7 (dk_at dksX5_denied_1 7 rfl rfl)
theorem dX5_denied_32 : decode cX5_denied 32 = .ok (.iload_n 2, 1) := dk_28 (dk_at dksX5_denied_1 8 rfl rfl)
theorem dX5_denied_33 : decode cX5_denied 33 = .ok (.imul, 1) := dk_104 (dk_at dksX5_denied_1 9 rfl rfl)
theorem dX5_denied_34 : decode cX5_denied 34 = .ok (.iadd, 1) := dk_96 (dk_at dksX5_denied_1 10 rfl rfl)
theorem dX5_denied_35 : decode cX5_denied 35 = .ok (.iconst 1, 1) := dk_4 (dk_at dksX5_denied_1 11 rfl rfl)
theorem dX5_denied_36 : decode cX5_denied 36 = .ok (.iadd, 1) := dk_96 (dk_at dksX5_denied_1 12 rfl rfl)
theorem dX5_denied_37 : decode cX5_denied 37 = .ok (.iaload, 1) := dk_46 (dk_at dksX5_denied_1 13 rfl rfl)
theorem dX5_denied_38 : decode cX5_denied 38 = .ok (.aload_n 0, 1) := dk_42 (dk_at dksX5_denied_1 14 rfl rfl)
theorem dX5_denied_39 : decode cX5_denied 39 = .ok (.getfield 24, 3) := dk_180 0 24 (dk_at dksX5_denied_1 15 rfl rfl)
theorem dX5_denied_42 : decode cX5_denied 42 = .ok (.bipush 7, 2) := dk_16 7 (dk_at dksX5_denied_1 18 rfl rfl)
theorem dX5_denied_44 : decode cX5_denied 44 = .ok (.iconst 4, 1) := dk_7 (dk_at dksX5_denied_1 20 rfl rfl)
theorem dX5_denied_45 : decode cX5_denied 45 = .ok (.iload_n 2, 1) := dk_28 (dk_at dksX5_denied_1 21 rfl rfl)
theorem dX5_denied_46 : decode cX5_denied 46 = .ok (.imul, 1) := dk_104 (dk_at dksX5_denied_1 22 rfl rfl)
theorem dX5_denied_47 : decode cX5_denied 47 = .ok (.iadd, 1) := dk_96 (dk_at dksX5_denied_1 23 rfl rfl)
theorem dX5_denied_48 : decode cX5_denied 48 = .ok (.iconst 2, 1) := dk_5 (dk_at dksX5_denied_2 0 rfl rfl)
theorem dX5_denied_49 : decode cX5_denied 49 = .ok (.iadd, 1) := dk_96 (dk_at dksX5_denied_2 1 rfl rfl)
theorem dX5_denied_50 : decode cX5_denied 50 = .ok (.iaload, 1) := dk_46 (dk_at dksX5_denied_2 2 rfl rfl)
theorem dX5_denied_51 : decode cX5_denied 51 = .ok (.ineg, 1) := dk_116 (dk_at dksX5_denied_2 3 rfl rfl)
theorem dX5_denied_52 : decode cX5_denied 52 = .ok (.invokevirtual 468, 3) := dk_182 1 212 (dk_at dksX5_denied_2 4 rfl rfl)
theorem dX5_denied_55 : decode cX5_denied 55 = .ok (.ifCond .eq 9, 3) := dk_153 0 9 (dk_at dksX5_denied_2 7 rfl rfl)
theorem dX5_denied_58 : decode cX5_denied 58 = .ok (.iconst 1, 1) := dk_4 (dk_at dksX5_denied_2 10 rfl rfl)
theorem dX5_denied_59 : decode cX5_denied 59 = .ok (.iload_n 2, 1) := dk_28 (dk_at dksX5_denied_2 11 rfl rfl)
theorem dX5_denied_60 : decode cX5_denied 60 = .ok (.ishl, 1) := dk_120 (dk_at dksX5_denied_2 12 rfl rfl)
theorem dX5_denied_61 : decode cX5_denied 61 = .ok (.goto 4, 3) := dk_167 0 4 (dk_at dksX5_denied_2 13 rfl rfl)
theorem dX5_denied_64 : decode cX5_denied 64 = .ok (.iconst 0, 1) := dk_3 (dk_at dksX5_denied_2 16 rfl rfl)
theorem dX5_denied_65 : decode cX5_denied 65 = .ok (.ior, 1) := dk_128 (dk_at dksX5_denied_2 17 rfl rfl)
theorem dX5_denied_66 : decode cX5_denied 66 = .ok (.istore_n 1, 1) := dk_60 (dk_at dksX5_denied_2 18 rfl rfl)
theorem dX5_denied_67 : decode cX5_denied 67 = .ok (.iinc 2 1, 3) := dk_132 2 1 (dk_at dksX5_denied_2 19 rfl rfl)
theorem dX5_denied_70 : decode cX5_denied 70 = .ok (.goto (-66), 3) := dk_167 255 190 (dk_at dksX5_denied_3 0 rfl rfl)
theorem dX5_denied_73 : decode cX5_denied 73 = .ok (.iload_n 1, 1) := dk_27 (dk_at dksX5_denied_3 3 rfl rfl)
theorem dX5_denied_74 : decode cX5_denied 74 = .ok (.ireturn, 1) := dk_172 (dk_at dksX5_denied_3 4 rfl rfl)
noncomputable def f_X5_denied_65 (E : ax_E) (x0 : Option Nat) (x2 : Int) (s0 : Int) (s1 : Int) (h : ax_H) : Option ((Int × Int × ax_H) ⊕ (Int × ax_H)) :=
  some (.inl ((ax_or s0 s1), (x2 + 1), h))
noncomputable def lb_X5_denied_4 (E : ax_E) (x0 : Option Nat) (x1 : Int) (x2 : Int) (h : ax_H) : Option ((Int × Int × ax_H) ⊕ (Int × ax_H)) :=
  (ax_ce E h x0 5).bind fun _ => (f_X5_debts E x0 h).bind fun q1 =>
  if i2 x2 < i2 q1.1 then
    (ax_gR E q1.2 x0 5 2).bind fun v2 =>
    (ax_ld E q1.2 v2 100 (7 + (4 * x2))).bind fun v3 =>
    (ax_gR E q1.2 x0 5 2).bind fun v4 =>
    (ax_ld E q1.2 v4 100 ((7 + (4 * x2)) + 1)).bind fun v5 =>
    (ax_gR E q1.2 x0 5 2).bind fun v6 =>
    (ax_ld E q1.2 v6 100 ((7 + (4 * x2)) + 2)).bind fun v7 =>
    (ax_ce E q1.2 x0 5).bind fun _ => (f_X5_areSo E x0 v3 v5 (-v7) q1.2).bind fun q8 =>
    if i2 q8.1 = 0 then
      f_X5_denied_65 E x0 x2 x1 0 q8.2
    else
      f_X5_denied_65 E x0 x2 x1 (ax_shl 1 x2) q8.2
  else
    (some (x1, q1.2)).map Sum.inr
noncomputable def f_X5_denied_4 (E : ax_E) (x0 : Option Nat) (x1 : Int) (x2 : Int) (h : ax_H) : Option (Int × ax_H) :=
  ax_iter (fun s : Int × Int × ax_H => lb_X5_denied_4 E x0 s.1 s.2.1 s.2.2) (x1, x2, h)
noncomputable def f_X5_denied (E : ax_E) (x0 : Option Nat) (h : ax_H) : Option (Int × ax_H) :=
  f_X5_denied_4 E x0 0 0 h
def pi_X5_denied_4 (G : ax_G) (X : ax_X) (Q : State → Prop) (x0 : Option Nat) : Int × Int × ax_H → Prop := fun s => ∀ ls : Array Slot, ax_hl ls 3 [(0, .inr (.inr x0)), (1, .inl s.1), (2, .inl s.2.1)] → ax_W G X Q s.2.2 4 ls []
set_option maxHeartbeats 4000000 in
theorem w_X5_denied_65 {l : Launch} {G : ax_G} {X : ax_X} {Q : State → Prop} {h0 h : ax_H} {ls : Array Slot} (hSF : ax_SF G) (B : ax_BL l G X cX5_denied 3 RX5 136 3547) (Z : ax_Z X h0 ((some FieldType.int))) (hn : X.2.2.2.2.2.2.2.2.1.name = yX5_denied.name) (x0 : Option Nat) (x2 : Int) (s0 : Int) (s1 : Int) {w : (Int × Int × ax_H) ⊕ (Int × ax_H)} (hl : ax_hl ls 3 [(0, .inr (.inr x0)), (2, .inl x2)]) (e : f_X5_denied_65 G.2.2 x0 x2 s0 s1 h = some w) (hp : (ax_PL (pi_X5_denied_4 G X Q x0) (fun w : Int × ax_H => Q = ax_Q G X h0 w.2 (some (.int (Int32.ofInt w.1))))) w) : ax_W G X Q h 65 ls [.int (Int32.ofInt s1), .int (Int32.ofInt s0)] := by
  unfold f_X5_denied_65 at e
  refine ax_ior' B dX5_denied_65 ?_
  refine ax_istore_n (L' := [(1, .inl (ax_or s0 s1)), (0, .inr (.inr x0)), (2, .inl x2)]) B dX5_denied_66 rfl hl (by decide) rfl (fun ls hl => ?_)
  refine ax_iinc (L' := [(2, .inl (x2 + 1)), (1, .inl (ax_or s0 s1)), (0, .inr (.inr x0))]) B dX5_denied_67 hl 2 rfl (by decide) rfl (fun ls hl => ?_)
  refine ax_goto (tgt := 4) B dX5_denied_70 (by decide) ?_
  cases e
  exact hp _ (hl.sub [2, 1, 0] rfl)
set_option maxHeartbeats 4000000 in
theorem wb_X5_denied_4 {l : Launch} {G : ax_G} {X : ax_X} {Q : State → Prop} {h0 h : ax_H} {ls : Array Slot} (hSF : ax_SF G) (B : ax_BL l G X cX5_denied 3 RX5 136 3547) (Z : ax_Z X h0 ((some FieldType.int))) (hn : X.2.2.2.2.2.2.2.2.1.name = yX5_denied.name) (x0 : Option Nat) (x1 : Int) (x2 : Int) {w : (Int × Int × ax_H) ⊕ (Int × ax_H)} (hl : ax_hl ls 3 [(0, .inr (.inr x0)), (1, .inl x1), (2, .inl x2)]) (e : lb_X5_denied_4 G.2.2 x0 x1 x2 h = some w) (hp : (ax_PL (pi_X5_denied_4 G X Q x0) (fun w : Int × ax_H => Q = ax_Q G X h0 w.2 (some (.int (Int32.ofInt w.1))))) w) : ax_W G X Q h 4 ls [] := by
  unfold lb_X5_denied_4 at e
  refine ax_iload_n B dX5_denied_4 rfl hl 2 rfl ?_
  refine ax_aload_n B dX5_denied_5 rfl hl 0 rfl ?_
  refine ax_ivI (y := yX5_debts) (n := 0) (As := []) B kd5 (lw_V q2210 q2212 qs47 q133 q2213) (by decide +kernel) ⟨Nat.le_of_ble_eq_true rfl, Nat.le_of_ble_eq_true rfl⟩ (fun w1 e1 => mt_X5_debts l G hSF x0 _ w1 e1) rfl hl.size (by simp only [List.map_cons, List.map_nil, List.sum_cons, List.sum_nil, va_rf_cat, ax_catI, ax_catL]; decide) dX5_denied_6 e (fun q1 e => ?_)
  refine ax_icmp_ge (tgt := 73) B dX5_denied_9 (by decide) e (fun e => ?_) (fun e => ?_)
  · refine ax_iload_n B dX5_denied_12 rfl hl 1 rfl ?_
    refine ax_aload_n B dX5_denied_13 rfl hl 0 rfl ?_
    refine ax_aload_n B dX5_denied_14 rfl hl 0 rfl ?_
    refine ax_getR B ff_X5_24_5 (fun _ _ => rfl) dX5_denied_15 e (fun v2 e => ?_)
    refine ax_bipush B dX5_denied_18 (by decide) ?_
    refine ax_iconst B dX5_denied_20 ?_
    refine ax_iload_n B dX5_denied_21 rfl hl 2 rfl ?_
    refine ax_imul' B dX5_denied_22 ?_
    refine ax_iadd' B dX5_denied_23 ?_
    refine ax_iald B kd100 dX5_denied_24 e (fun v3 e => ?_)
    refine ax_aload_n B dX5_denied_25 rfl hl 0 rfl ?_
    refine ax_getR B ff_X5_24_5 (fun _ _ => rfl) dX5_denied_26 e (fun v4 e => ?_)
    refine ax_bipush B dX5_denied_29 (by decide) ?_
    refine ax_iconst B dX5_denied_31 ?_
    refine ax_iload_n B dX5_denied_32 rfl hl 2 rfl ?_
    refine ax_imul' B dX5_denied_33 ?_
    refine ax_iadd' B dX5_denied_34 ?_
    refine ax_iconst B dX5_denied_35 ?_
    refine ax_iadd' B dX5_denied_36 ?_
    refine ax_iald B kd100 dX5_denied_37 e (fun v5 e => ?_)
    refine ax_aload_n B dX5_denied_38 rfl hl 0 rfl ?_
    refine ax_getR B ff_X5_24_5 (fun _ _ => rfl) dX5_denied_39 e (fun v6 e => ?_)
    refine ax_bipush B dX5_denied_42 (by decide) ?_
    refine ax_iconst B dX5_denied_44 ?_
    refine ax_iload_n B dX5_denied_45 rfl hl 2 rfl ?_
    refine ax_imul' B dX5_denied_46 ?_
    refine ax_iadd' B dX5_denied_47 ?_
    refine ax_iconst B dX5_denied_48 ?_
    refine ax_iadd' B dX5_denied_49 ?_
    refine ax_iald B kd100 dX5_denied_50 e (fun v7 e => ?_)
    refine ax_ineg' B dX5_denied_51 ?_
    refine ax_ivI (y := yX5_areSo) (n := 3) (As := [.int (Int32.ofInt v3), .int (Int32.ofInt v5), .int (Int32.ofInt (-v7))]) B kd5 (lw_V q2666 q2668 qs120 q133 q2669) (by decide +kernel) ⟨Nat.le_of_ble_eq_true rfl, Nat.le_of_ble_eq_true rfl⟩ (fun w1 e1 => mt_X5_areSo l G hSF x0 v3 v5 (-v7) _ w1 e1) rfl hl.size (by simp only [List.map_cons, List.map_nil, List.sum_cons, List.sum_nil, va_rf_cat, ax_catI, ax_catL]; decide) dX5_denied_52 e (fun q8 e => ?_)
    refine ax_if_eq (tgt := 64) B dX5_denied_55 (by decide) e (fun e => ?_) (fun e => ?_)
    · refine ax_iconst B dX5_denied_64 ?_
      exact w_X5_denied_65 hSF B Z hn x0 x2 x1 0 (hl.sub [0, 2] rfl) e hp
    · refine ax_iconst B dX5_denied_58 ?_
      refine ax_iload_n B dX5_denied_59 rfl hl 2 rfl ?_
      refine ax_ishl' B dX5_denied_60 ?_
      refine ax_goto (tgt := 65) B dX5_denied_61 (by decide) ?_
      exact w_X5_denied_65 hSF B Z hn x0 x2 x1 (ax_shl 1 x2) (hl.sub [0, 2] rfl) e hp
  · obtain ⟨w, e9_1, rfl⟩ := Option.map_eq_some_iff.mp e
    have e := e9_1
    refine ax_iload_n B dX5_denied_73 rfl hl 1 rfl ?_
    have e8 := e
    have hp : Q = _ := hp
    subst hp
    exact ax_ireturn B Z dX5_denied_74 e8
theorem w_X5_denied_4 {l : Launch} {G : ax_G} {X : ax_X} {Q : State → Prop} {h0 h : ax_H} {ls : Array Slot} (hSF : ax_SF G) (B : ax_BL l G X cX5_denied 3 RX5 136 3547) (Z : ax_Z X h0 ((some FieldType.int))) (hn : X.2.2.2.2.2.2.2.2.1.name = yX5_denied.name) (x0 : Option Nat) (x1 : Int) (x2 : Int) {w : Int × ax_H} (hl : ax_hl ls 3 [(0, .inr (.inr x0)), (1, .inl x1), (2, .inl x2)]) (e : f_X5_denied_4 G.2.2 x0 x1 x2 h = some w) (hp : (fun w : Int × ax_H => Q = ax_Q G X h0 w.2 (some (.int (Int32.ofInt w.1)))) w) : ax_W G X Q h 4 ls [] :=
  ax_iter_W (Pin := pi_X5_denied_4 G X Q x0) (Pout := (fun w : Int × ax_H => Q = ax_Q G X h0 w.2 (some (.int (Int32.ofInt w.1))))) (fun s w e hp ls hl => wb_X5_denied_4 hSF B Z hn x0 s.1 s.2.1 hl e hp) _ _ e hp ls hl
set_option maxHeartbeats 4000000 in
theorem we_X5_denied {l : Launch} {G : ax_G} {X : ax_X} {Q : State → Prop} {h0 h : ax_H} {ls : Array Slot} (hSF : ax_SF G) (B : ax_BL l G X cX5_denied 3 RX5 136 3547) (Z : ax_Z X h0 ((some FieldType.int))) (hn : X.2.2.2.2.2.2.2.2.1.name = yX5_denied.name) (x0 : Option Nat) {w : Int × ax_H} (hl : ax_hl ls 3 [(0, .inr (.inr x0))]) (e : f_X5_denied G.2.2 x0 h = some w) (hp : (fun w : Int × ax_H => Q = ax_Q G X h0 w.2 (some (.int (Int32.ofInt w.1)))) w) : ax_W G X Q h 0 ls [] := by
  unfold f_X5_denied at e
  refine ax_iconst B dX5_denied_0 ?_
  refine ax_istore_n (L' := [(1, .inl 0), (0, .inr (.inr x0))]) B dX5_denied_1 rfl hl (by decide) rfl (fun ls hl => ?_)
  refine ax_iconst B dX5_denied_2 ?_
  refine ax_istore_n (L' := [(2, .inl 0), (1, .inl 0), (0, .inr (.inr x0))]) B dX5_denied_3 rfl hl (by decide) rfl (fun ls hl => ?_)
  exact w_X5_denied_4 hSF B Z hn x0 0 0 (hl.sub [2, 1, 0] rfl) e hp
theorem mt_X5_denied (l : Launch) (G : ax_G) (hSF : ax_SF G) (x0 : Option Nat) (h : ax_H) (w : Int × ax_H) (e : f_X5_denied G.2.2 x0 h = some w) : ax_Met l G yX5_denied cX5_denied 3 ((some FieldType.int)) 136 3547 [va_rf x0] h w.2 (some (.int (Int32.ofInt w.1))) :=
  ax_enter [.inr (.inr x0)] (y := yX5_denied) hSF (plainFor_of_name (by decide +kernel)) (Nat.le_of_ble_eq_true rfl) (fun X ls B Z hn hl => we_X5_denied hSF B Z hn x0 hl e rfl)
theorem dX5_stopped_0 : decode cX5_stopped 0 = .ok (.aload_n 0, 1) := by decide +kernel
theorem dX5_stopped_1 : decode cX5_stopped 1 = .ok (.getfield 107, 3) := by decide +kernel
theorem dX5_stopped_4 : decode cX5_stopped 4 = .ok (.ireturn, 1) := by decide +kernel
noncomputable def f_X5_stopped (E : ax_E) (x0 : Option Nat) (h : ax_H) : Option (Int × ax_H) :=
  (ax_gI E h x0 5 47).bind fun v1 =>
  some (v1, h)
set_option maxHeartbeats 4000000 in
theorem we_X5_stopped {l : Launch} {G : ax_G} {X : ax_X} {Q : State → Prop} {h0 h : ax_H} {ls : Array Slot} (hSF : ax_SF G) (B : ax_BL l G X cX5_stopped 1 RX5 1 40) (Z : ax_Z X h0 ((some FieldType.int))) (hn : X.2.2.2.2.2.2.2.2.1.name = yX5_stopped.name) (x0 : Option Nat) {w : Int × ax_H} (hl : ax_hl ls 1 [(0, .inr (.inr x0))]) (e : f_X5_stopped G.2.2 x0 h = some w) (hp : (fun w : Int × ax_H => Q = ax_Q G X h0 w.2 (some (.int (Int32.ofInt w.1)))) w) : ax_W G X Q h 0 ls [] := by
  unfold f_X5_stopped at e
  refine ax_aload_n B dX5_stopped_0 rfl hl 0 rfl ?_
  refine ax_getI B ff_X5_107_5 (fun _ _ => rfl) dX5_stopped_1 e (fun v1 e => ?_)
  have e8 := e
  have hp : Q = _ := hp
  subst hp
  exact ax_ireturn B Z dX5_stopped_4 e8
theorem mt_X5_stopped (l : Launch) (G : ax_G) (hSF : ax_SF G) (x0 : Option Nat) (h : ax_H) (w : Int × ax_H) (e : f_X5_stopped G.2.2 x0 h = some w) : ax_Met l G yX5_stopped cX5_stopped 1 ((some FieldType.int)) 1 40 [va_rf x0] h w.2 (some (.int (Int32.ofInt w.1))) :=
  ax_enter [.inr (.inr x0)] (y := yX5_stopped) hSF (plainFor_of_name (by decide +kernel)) (Nat.le_of_ble_eq_true rfl) (fun X ls B Z hn hl => we_X5_stopped hSF B Z hn x0 hl e rfl)
def dkwX5_goesAlong_11 : List UInt8 := [154, 0, 7, 4, 167, 0, 4, 3, 181, 1, 236, 42, 89, 180, 1, 24, 4, 96, 181, 1, 24, 177]
abbrev dktX5_goesAlong_11 : List UInt8 := dkwX5_goesAlong_11 ++ []
def dkwX5_goesAlong_10 : List UInt8 := [153, 0, 7, 4, 167, 0, 4, 3, 181, 1, 236, 42, 42, 180, 1, 236, 153, 0, 14, 42, 180, 1, 34]
abbrev dktX5_goesAlong_10 : List UInt8 := dkwX5_goesAlong_10 ++ dktX5_goesAlong_11
def dkwX5_goesAlong_9 : List UInt8 := [181, 1, 24, 42, 3, 181, 1, 34, 42, 42, 8, 182, 1, 48, 153, 0, 11, 42, 28, 182, 1, 69]
abbrev dktX5_goesAlong_9 : List UInt8 := dkwX5_goesAlong_9 ++ dktX5_goesAlong_10
def dkwX5_goesAlong_8 : List UInt8 := [42, 180, 0, 24, 17, 11, 148, 42, 180, 1, 24, 96, 46, 181, 1, 233, 42, 89, 180, 1, 24, 4, 96]
abbrev dktX5_goesAlong_8 : List UInt8 := dkwX5_goesAlong_8 ++ dktX5_goesAlong_9
def dkwX5_goesAlong_7 : List UInt8 := [181, 1, 230, 132, 4, 1, 167, 255, 192, 42, 4, 181, 1, 233, 42, 16, 29, 182, 1, 48, 153, 0, 30, 42]
abbrev dktX5_goesAlong_7 : List UInt8 := dkwX5_goesAlong_7 ++ dktX5_goesAlong_8
def dkwX5_goesAlong_6 : List UInt8 := [182, 1, 51, 80, 42, 42, 180, 1, 230, 153, 0, 14, 42, 180, 1, 34, 154, 0, 7, 4, 167, 0, 4, 3]
abbrev dktX5_goesAlong_6 : List UInt8 := dkwX5_goesAlong_6 ++ dktX5_goesAlong_7
def dkwX5_goesAlong_5 : List UInt8 := [89, 180, 1, 24, 4, 96, 181, 1, 24, 42, 3, 181, 1, 34, 42, 180, 0, 110, 21, 4, 42, 28]
abbrev dktX5_goesAlong_5 : List UInt8 := dkwX5_goesAlong_5 ++ dktX5_goesAlong_6
def dkwX5_goesAlong_4 : List UInt8 := [160, 0, 7, 3, 167, 0, 4, 6, 62, 3, 54, 4, 21, 4, 29, 162, 0, 64, 21, 4, 158, 0, 13, 42]
abbrev dktX5_goesAlong_4 : List UInt8 := dkwX5_goesAlong_4 ++ dktX5_goesAlong_5
def dkwX5_goesAlong_3 : List UInt8 := [181, 1, 227, 42, 89, 180, 1, 24, 4, 96, 181, 1, 24, 42, 4, 181, 1, 230, 42, 180, 1, 227, 16, 26]
abbrev dktX5_goesAlong_3 : List UInt8 := dkwX5_goesAlong_3 ++ dktX5_goesAlong_4
def dkwX5_goesAlong_2 : List UInt8 := [42, 180, 1, 218, 79, 42, 42, 180, 1, 221, 181, 1, 24, 42, 42, 42, 180, 1, 24, 182, 1, 27]
abbrev dktX5_goesAlong_2 : List UInt8 := dkwX5_goesAlong_2 ++ dktX5_goesAlong_3
def dkwX5_goesAlong_1 : List UInt8 := [180, 0, 62, 4, 42, 182, 0, 137, 79, 42, 180, 0, 62, 5, 42, 180, 1, 215, 79, 42, 180, 0, 62, 6]
abbrev dktX5_goesAlong_1 : List UInt8 := dkwX5_goesAlong_1 ++ dktX5_goesAlong_2
def dkwX5_goesAlong_0 : List UInt8 := [42, 4, 181, 1, 54, 42, 27, 181, 1, 21, 42, 180, 0, 62, 3, 42, 180, 0, 24, 16, 72, 46, 79, 42]
abbrev dktX5_goesAlong_0 : List UInt8 := dkwX5_goesAlong_0 ++ dktX5_goesAlong_1
theorem dksX5_goesAlong_0 : cX5_goesAlong.data.toList.drop 0 = dktX5_goesAlong_0 := by decide +kernel
theorem dksX5_goesAlong_1 : cX5_goesAlong.data.toList.drop 24 = dktX5_goesAlong_1 := dk_seg dksX5_goesAlong_0 24 rfl rfl
theorem dksX5_goesAlong_2 : cX5_goesAlong.data.toList.drop 48 = dktX5_goesAlong_2 := dk_seg dksX5_goesAlong_1 24 rfl rfl
theorem dksX5_goesAlong_3 : cX5_goesAlong.data.toList.drop 70 = dktX5_goesAlong_3 := dk_seg dksX5_goesAlong_2 22 rfl rfl
theorem dksX5_goesAlong_4 : cX5_goesAlong.data.toList.drop 94 = dktX5_goesAlong_4 := dk_seg dksX5_goesAlong_3 24 rfl rfl
theorem dksX5_goesAlong_5 : cX5_goesAlong.data.toList.drop 118 = dktX5_goesAlong_5 := dk_seg dksX5_goesAlong_4 24 rfl rfl
theorem dksX5_goesAlong_6 : cX5_goesAlong.data.toList.drop 140 = dktX5_goesAlong_6 := dk_seg dksX5_goesAlong_5 22 rfl rfl
theorem dksX5_goesAlong_7 : cX5_goesAlong.data.toList.drop 164 = dktX5_goesAlong_7 := dk_seg dksX5_goesAlong_6 24 rfl rfl
theorem dksX5_goesAlong_8 : cX5_goesAlong.data.toList.drop 188 = dktX5_goesAlong_8 := dk_seg dksX5_goesAlong_7 24 rfl rfl
theorem dksX5_goesAlong_9 : cX5_goesAlong.data.toList.drop 211 = dktX5_goesAlong_9 := dk_seg dksX5_goesAlong_8 23 rfl rfl
theorem dksX5_goesAlong_10 : cX5_goesAlong.data.toList.drop 233 = dktX5_goesAlong_10 := dk_seg dksX5_goesAlong_9 22 rfl rfl
theorem dksX5_goesAlong_11 : cX5_goesAlong.data.toList.drop 256 = dktX5_goesAlong_11 := dk_seg dksX5_goesAlong_10 23 rfl rfl
theorem dX5_goesAlong_0 : decode cX5_goesAlong 0 = .ok (.aload_n 0, 1) := dk_42 (dk_at dksX5_goesAlong_0 0 rfl rfl)
theorem dX5_goesAlong_1 : decode cX5_goesAlong 1 = .ok (.iconst 1, 1) := dk_4 (dk_at dksX5_goesAlong_0 1 rfl rfl)
theorem dX5_goesAlong_2 : decode cX5_goesAlong 2 = .ok (.putfield 310, 3) := dk_181 1 54 (dk_at dksX5_goesAlong_0 2 rfl rfl)
theorem dX5_goesAlong_5 : decode cX5_goesAlong 5 = .ok (.aload_n 0, 1) := dk_42 (dk_at dksX5_goesAlong_0 5 rfl rfl)
theorem dX5_goesAlong_6 : decode cX5_goesAlong 6 = .ok (.iload_n 1, 1) := dk_27 (dk_at dksX5_goesAlong_0 6 rfl rfl)
theorem dX5_goesAlong_7 : decode cX5_goesAlong 7 = .ok (.putfield 277, 3) := dk_181 1 21 (dk_at dksX5_goesAlong_0 7 rfl rfl)
theorem dX5_goesAlong_10 : decode cX5_goesAlong 10 = .ok (.aload_n 0, 1) := dk_42 (dk_at dksX5_goesAlong_0 10 rfl rfl)
theorem dX5_goesAlong_11 : decode cX5_goesAlong 11 = .ok (.getfield 62, 3) := dk_180 0 62 (dk_at dksX5_goesAlong_0 11 rfl rfl)
theorem dX5_goesAlong_14 : decode cX5_goesAlong 14 = .ok (.iconst 0, 1) := dk_3 (dk_at dksX5_goesAlong_0 14 rfl rfl)
theorem dX5_goesAlong_15 : decode cX5_goesAlong 15 = .ok (.aload_n 0, 1) := dk_42 (dk_at dksX5_goesAlong_0 15 rfl rfl)
theorem dX5_goesAlong_16 : decode cX5_goesAlong 16 = .ok (.getfield 24, 3) := dk_180 0 24 (dk_at dksX5_goesAlong_0 16 rfl rfl)
theorem dX5_goesAlong_19 : decode cX5_goesAlong 19 = .ok (.bipush 72, 2) := dk_16 72 (dk_at dksX5_goesAlong_0 19 rfl rfl)
theorem dX5_goesAlong_21 : decode cX5_goesAlong 21 = .ok (.iaload, 1) := dk_46 (dk_at dksX5_goesAlong_0 21 rfl rfl)
theorem dX5_goesAlong_22 : decode cX5_goesAlong 22 = .ok (.iastore, 1) := dk_79 (dk_at dksX5_goesAlong_0 22 rfl rfl)
theorem dX5_goesAlong_23 : decode cX5_goesAlong 23 = .ok (.aload_n 0, 1) := dk_42 (dk_at dksX5_goesAlong_0 23 rfl rfl)
theorem dX5_goesAlong_24 : decode cX5_goesAlong 24 = .ok (.getfield 62, 3) := dk_180 0 62 (dk_at dksX5_goesAlong_1 0 rfl rfl)
theorem dX5_goesAlong_27 : decode cX5_goesAlong 27 = .ok (.iconst 1, 1) := dk_4 (dk_at dksX5_goesAlong_1 3 rfl rfl)
theorem dX5_goesAlong_28 : decode cX5_goesAlong 28 = .ok (.aload_n 0, 1) := dk_42 (dk_at dksX5_goesAlong_1 4 rfl rfl)
theorem dX5_goesAlong_29 : decode cX5_goesAlong 29 = .ok (.invokevirtual 137, 3) := dk_182 0 137 (dk_at dksX5_goesAlong_1 5 rfl rfl)
theorem dX5_goesAlong_32 : decode cX5_goesAlong 32 = .ok (.iastore, 1) := dk_79 (dk_at dksX5_goesAlong_1 8 rfl rfl)
theorem dX5_goesAlong_33 : decode cX5_goesAlong 33 = .ok (.aload_n 0, 1) := dk_42 (dk_at dksX5_goesAlong_1 9 rfl rfl)
theorem dX5_goesAlong_34 : decode cX5_goesAlong 34 = .ok (.getfield 62, 3) := dk_180 0 62 (dk_at dksX5_goesAlong_1 10 rfl rfl)
theorem dX5_goesAlong_37 : decode cX5_goesAlong 37 = .ok (.iconst 2, 1) := dk_5 (dk_at dksX5_goesAlong_1 13 rfl rfl)
theorem dX5_goesAlong_38 : decode cX5_goesAlong 38 = .ok (.aload_n 0, 1) := dk_42 (dk_at dksX5_goesAlong_1 14 rfl rfl)
theorem dX5_goesAlong_39 : decode cX5_goesAlong 39 = .ok (.getfield 471, 3) := dk_180 1 215 (dk_at dksX5_goesAlong_1 15 rfl rfl)
theorem dX5_goesAlong_42 : decode cX5_goesAlong 42 = .ok (.iastore, 1) := dk_79 (dk_at dksX5_goesAlong_1 18 rfl rfl)
theorem dX5_goesAlong_43 : decode cX5_goesAlong 43 = .ok (.aload_n 0, 1) := dk_42 (dk_at dksX5_goesAlong_1 19 rfl rfl)
theorem dX5_goesAlong_44 : decode cX5_goesAlong 44 = .ok (.getfield 62, 3) := dk_180 0 62 (dk_at dksX5_goesAlong_1 20 rfl rfl)
theorem dX5_goesAlong_47 : decode cX5_goesAlong 47 = .ok (.iconst 3, 1) := dk_6 (dk_at dksX5_goesAlong_1 23 rfl rfl)
theorem dX5_goesAlong_48 : decode cX5_goesAlong 48 = .ok (.aload_n 0, 1) := dk_42 (dk_at dksX5_goesAlong_2 0 rfl rfl)
theorem dX5_goesAlong_49 : decode cX5_goesAlong 49 = .ok (.getfield 474, 3) := dk_180 1 218 (dk_at dksX5_goesAlong_2 1 rfl rfl)
theorem dX5_goesAlong_52 : decode cX5_goesAlong 52 = .ok (.iastore, 1) := dk_79 (dk_at dksX5_goesAlong_2 4 rfl rfl)
theorem dX5_goesAlong_53 : decode cX5_goesAlong 53 = .ok (.aload_n 0, 1) := dk_42 (dk_at dksX5_goesAlong_2 5 rfl rfl)
theorem dX5_goesAlong_54 : decode cX5_goesAlong 54 = .ok (.aload_n 0, 1) := dk_42 (dk_at dksX5_goesAlong_2 6 rfl rfl)
theorem dX5_goesAlong_55 : decode cX5_goesAlong 55 = .ok (.getfield 477, 3) := dk_180 1 221 (dk_at dksX5_goesAlong_2 7 rfl rfl)
theorem dX5_goesAlong_58 : decode cX5_goesAlong 58 = .ok (.putfield 280, 3) := dk_181 1 24 (dk_at dksX5_goesAlong_2 10 rfl rfl)
theorem dX5_goesAlong_61 : decode cX5_goesAlong 61 = .ok (.aload_n 0, 1) := dk_42 (dk_at dksX5_goesAlong_2 13 rfl rfl)
theorem dX5_goesAlong_62 : decode cX5_goesAlong 62 = .ok (.aload_n 0, 1) := dk_42 (dk_at dksX5_goesAlong_2 14 rfl rfl)
theorem dX5_goesAlong_63 : decode cX5_goesAlong 63 = .ok (.aload_n 0, 1) := dk_42 (dk_at dksX5_goesAlong_2 15 rfl rfl)
theorem dX5_goesAlong_64 : decode cX5_goesAlong 64 = .ok (.getfield 280, 3) := dk_180 1 24 (dk_at dksX5_goesAlong_2 16 rfl rfl)
theorem dX5_goesAlong_67 : decode cX5_goesAlong 67 = .ok (.invokevirtual 283, 3) := dk_182 1 27 (dk_at dksX5_goesAlong_2 19 rfl rfl)
theorem dX5_goesAlong_70 : decode cX5_goesAlong 70 = .ok (.putfield 483, 3) := dk_181 1 227 (dk_at dksX5_goesAlong_3 0 rfl rfl)
theorem dX5_goesAlong_73 : decode cX5_goesAlong 73 = .ok (.aload_n 0, 1) := dk_42 (dk_at dksX5_goesAlong_3 3 rfl rfl)
theorem dX5_goesAlong_74 : decode cX5_goesAlong 74 = .ok (.dup, 1) := dk_89 (dk_at dksX5_goesAlong_3 4 rfl rfl)
theorem dX5_goesAlong_75 : decode cX5_goesAlong 75 = .ok (.getfield 280, 3) := dk_180 1 24 (dk_at dksX5_goesAlong_3 5 rfl rfl)
theorem dX5_goesAlong_78 : decode cX5_goesAlong 78 = .ok (.iconst 1, 1) := dk_4 (dk_at dksX5_goesAlong_3 8 rfl rfl)
theorem dX5_goesAlong_79 : decode cX5_goesAlong 79 = .ok (.iadd, 1) := dk_96 (dk_at dksX5_goesAlong_3 9 rfl rfl)
theorem dX5_goesAlong_80 : decode cX5_goesAlong 80 = .ok (.putfield 280, 3) := dk_181 1 24 (dk_at dksX5_goesAlong_3 10 rfl rfl)
theorem dX5_goesAlong_83 : decode cX5_goesAlong 83 = .ok (.aload_n 0, 1) := dk_42 (dk_at dksX5_goesAlong_3 13 rfl rfl)
theorem dX5_goesAlong_84 : decode cX5_goesAlong 84 = .ok (.iconst 1, 1) := dk_4 (dk_at dksX5_goesAlong_3 14 rfl rfl)
theorem dX5_goesAlong_85 : decode cX5_goesAlong 85 = .ok (.putfield 486, 3) := dk_181 1 230 (dk_at dksX5_goesAlong_3 15 rfl rfl)
theorem dX5_goesAlong_88 : decode cX5_goesAlong 88 = .ok (.aload_n 0, 1) := dk_42 (dk_at dksX5_goesAlong_3 18 rfl rfl)
theorem dX5_goesAlong_89 : decode cX5_goesAlong 89 = .ok (.getfield 483, 3) := dk_180 1 227 (dk_at dksX5_goesAlong_3 19 rfl rfl)
theorem dX5_goesAlong_92 : decode cX5_goesAlong 92 = .ok (.bipush 26, 2) := dk_16 26 (dk_at dksX5_goesAlong_3 22 rfl rfl)
theorem dX5_goesAlong_94 : decode cX5_goesAlong 94 = .ok (.if_icmp .ne 7, 3) := dk_160 0 7 (dk_at dksX5_goesAlong_4 0 rfl rfl)
theorem dX5_goesAlong_97 : decode cX5_goesAlong 97 = .ok (.iconst 0, 1) := dk_3 (dk_at dksX5_goesAlong_4 3 rfl rfl)
theorem dX5_goesAlong_98 : decode cX5_goesAlong 98 = .ok (.goto 4, 3) := dk_167 0 4 (dk_at dksX5_goesAlong_4 4 rfl rfl)
theorem dX5_goesAlong_101 : decode cX5_goesAlong 101 = .ok (.iconst 3, 1) := dk_6 (dk_at dksX5_goesAlong_4 7 rfl rfl)
theorem dX5_goesAlong_102 : decode cX5_goesAlong 102 = .ok (.istore_n 3, 1) := dk_62 (dk_at dksX5_goesAlong_4 8 rfl rfl)
theorem dX5_goesAlong_103 : decode cX5_goesAlong 103 = .ok (.iconst 0, 1) := dk_3 (dk_at dksX5_goesAlong_4 9 rfl rfl)
theorem dX5_goesAlong_104 : decode cX5_goesAlong 104 = .ok (.istore 4, 2) := dk_54 4 (dk_at dksX5_goesAlong_4 10 rfl rfl)
theorem dX5_goesAlong_106 : decode cX5_goesAlong 106 = .ok (.iload 4, 2) := dk_21 4 (dk_at dksX5_goesAlong_4 12 rfl rfl)
theorem dX5_goesAlong_108 : decode cX5_goesAlong 108 = .ok (.iload_n 3, 1) := dk_29 (dk_at dksX5_goesAlong_4 14 rfl rfl)
theorem dX5_goesAlong_109 : decode cX5_goesAlong 109 = .ok (.if_icmp .ge 64, 3) := dk_162 0 64 (dk_at dksX5_goesAlong_4 15 rfl rfl)
theorem dX5_goesAlong_112 : decode cX5_goesAlong 112 = .ok (.iload 4, 2) := dk_21 4 (dk_at dksX5_goesAlong_4 18 rfl rfl)
theorem dX5_goesAlong_114 : decode cX5_goesAlong 114 = .ok (.ifCond .le 13, 3) := dk_158 0 13 (dk_at dksX5_goesAlong_4 20 rfl rfl)
theorem dX5_goesAlong_117 : decode cX5_goesAlong 117 = .ok (.aload_n 0, 1) := dk_42 (dk_at dksX5_goesAlong_4 23 rfl rfl)
theorem dX5_goesAlong_118 : decode cX5_goesAlong 118 = .ok (.dup, 1) := dk_89 (dk_at dksX5_goesAlong_5 0 rfl rfl)
theorem dX5_goesAlong_119 : decode cX5_goesAlong 119 = .ok (.getfield 280, 3) := dk_180 1 24 (dk_at dksX5_goesAlong_5 1 rfl rfl)
theorem dX5_goesAlong_122 : decode cX5_goesAlong 122 = .ok (.iconst 1, 1) := dk_4 (dk_at dksX5_goesAlong_5 4 rfl rfl)
theorem dX5_goesAlong_123 : decode cX5_goesAlong 123 = .ok (.iadd, 1) := dk_96 (dk_at dksX5_goesAlong_5 5 rfl rfl)
theorem dX5_goesAlong_124 : decode cX5_goesAlong 124 = .ok (.putfield 280, 3) := dk_181 1 24 (dk_at dksX5_goesAlong_5 6 rfl rfl)
theorem dX5_goesAlong_127 : decode cX5_goesAlong 127 = .ok (.aload_n 0, 1) := dk_42 (dk_at dksX5_goesAlong_5 9 rfl rfl)
theorem dX5_goesAlong_128 : decode cX5_goesAlong 128 = .ok (.iconst 0, 1) := dk_3 (dk_at dksX5_goesAlong_5 10 rfl rfl)
theorem dX5_goesAlong_129 : decode cX5_goesAlong 129 = .ok (.putfield 290, 3) := dk_181 1 34 (dk_at dksX5_goesAlong_5 11 rfl rfl)
theorem dX5_goesAlong_132 : decode cX5_goesAlong 132 = .ok (.aload_n 0, 1) := dk_42 (dk_at dksX5_goesAlong_5 14 rfl rfl)
theorem dX5_goesAlong_133 : decode cX5_goesAlong 133 = .ok (.getfield 110, 3) := dk_180 0 110 (dk_at dksX5_goesAlong_5 15 rfl rfl)
theorem dX5_goesAlong_136 : decode cX5_goesAlong 136 = .ok (.iload 4, 2) := dk_21 4 (dk_at dksX5_goesAlong_5 18 rfl rfl)
theorem dX5_goesAlong_138 : decode cX5_goesAlong 138 = .ok (.aload_n 0, 1) := dk_42 (dk_at dksX5_goesAlong_5 20 rfl rfl)
theorem dX5_goesAlong_139 : decode cX5_goesAlong 139 = .ok (.iload_n 2, 1) := dk_28 (dk_at dksX5_goesAlong_5 21 rfl rfl)
theorem dX5_goesAlong_140 : decode cX5_goesAlong 140 = .ok (.invokevirtual 307, 3) := dk_182 1 51 (dk_at dksX5_goesAlong_6 0 rfl rfl)
theorem dX5_goesAlong_143 : decode cX5_goesAlong 143 = .ok (.lastore, 1) := dk_80 (dk_at dksX5_goesAlong_6 3 rfl rfl)
theorem dX5_goesAlong_144 : decode cX5_goesAlong 144 = .ok (.aload_n 0, 1) := dk_42 (dk_at dksX5_goesAlong_6 4 rfl rfl)
theorem dX5_goesAlong_145 : decode cX5_goesAlong 145 = .ok (.aload_n 0, 1) := dk_42 (dk_at dksX5_goesAlong_6 5 rfl rfl)
theorem dX5_goesAlong_146 : decode cX5_goesAlong 146 = .ok (.getfield 486, 3) := dk_180 1 230 (dk_at dksX5_goesAlong_6 6 rfl rfl)
theorem dX5_goesAlong_149 : decode cX5_goesAlong 149 = .ok (.ifCond .eq 14, 3) := dk_153 0 14 (dk_at dksX5_goesAlong_6 9 rfl rfl)
theorem dX5_goesAlong_152 : decode cX5_goesAlong 152 = .ok (.aload_n 0, 1) := dk_42 (dk_at dksX5_goesAlong_6 12 rfl rfl)
theorem dX5_goesAlong_153 : decode cX5_goesAlong 153 = .ok (.getfield 290, 3) := dk_180 1 34 (dk_at dksX5_goesAlong_6 13 rfl rfl)
theorem dX5_goesAlong_156 : decode cX5_goesAlong 156 = .ok (.ifCond .ne 7, 3) := dk_154 0 7 (dk_at dksX5_goesAlong_6 16 rfl rfl)
theorem dX5_goesAlong_159 : decode cX5_goesAlong 159 = .ok (.iconst 1, 1) := dk_4 (dk_at dksX5_goesAlong_6 19 rfl rfl)
theorem dX5_goesAlong_160 : decode cX5_goesAlong 160 = .ok (.goto 4, 3) := dk_167 0 4 (dk_at dksX5_goesAlong_6 20 rfl rfl)
theorem dX5_goesAlong_163 : decode cX5_goesAlong 163 = .ok (.iconst 0, 1) := dk_3 (dk_at dksX5_goesAlong_6 23 rfl rfl)
theorem dX5_goesAlong_164 : decode cX5_goesAlong 164 = .ok (.putfield 486, 3) := dk_181 1 230 (dk_at dksX5_goesAlong_7 0 rfl rfl)
theorem dX5_goesAlong_167 : decode cX5_goesAlong 167 = .ok (.iinc 4 1, 3) := dk_132 4 1 (dk_at dksX5_goesAlong_7 3 rfl rfl)
theorem dX5_goesAlong_170 : decode cX5_goesAlong 170 = .ok (.goto (-64), 3) := dk_167 255 192 (dk_at dksX5_goesAlong_7 6 rfl rfl)
theorem dX5_goesAlong_173 : decode cX5_goesAlong 173 = .ok (.aload_n 0, 1) := dk_42 (dk_at dksX5_goesAlong_7 9 rfl rfl)
theorem dX5_goesAlong_174 : decode cX5_goesAlong 174 = .ok (.iconst 1, 1) := dk_4 (dk_at dksX5_goesAlong_7 10 rfl rfl)
theorem dX5_goesAlong_175 : decode cX5_goesAlong 175 = .ok (.putfield 489, 3) := dk_181 1 233 (dk_at dksX5_goesAlong_7 11 rfl rfl)
theorem dX5_goesAlong_178 : decode cX5_goesAlong 178 = .ok (.aload_n 0, 1) := dk_42 (dk_at dksX5_goesAlong_7 14 rfl rfl)
theorem dX5_goesAlong_179 : decode cX5_goesAlong 179 = .ok (.bipush 29, 2) := dk_16 29 (dk_at dksX5_goesAlong_7 15 rfl rfl)
theorem dX5_goesAlong_181 : decode cX5_goesAlong 181 = .ok (.invokevirtual 304, 3) := dk_182 1 48 (dk_at dksX5_goesAlong_7 17 rfl rfl)
theorem dX5_goesAlong_184 : decode cX5_goesAlong 184 = .ok (.ifCond .eq 30, 3) := dk_153 0 30 (dk_at dksX5_goesAlong_7 20 rfl rfl)
theorem dX5_goesAlong_187 : decode cX5_goesAlong 187 = .ok (.aload_n 0, 1) := dk_42 (dk_at dksX5_goesAlong_7 23 rfl rfl)
theorem dX5_goesAlong_188 : decode cX5_goesAlong 188 = .ok (.aload_n 0, 1) := dk_42 (dk_at dksX5_goesAlong_8 0 rfl rfl)
theorem dX5_goesAlong_189 : decode cX5_goesAlong 189 = .ok (.getfield 24, 3) := dk_180 0 24 (dk_at dksX5_goesAlong_8 1 rfl rfl)
theorem dX5_goesAlong_192 : decode cX5_goesAlong 192 = .ok (.sipush 2964, 3) := dk_17 11 148 (dk_at dksX5_goesAlong_8 4 rfl rfl)
theorem dX5_goesAlong_195 : decode cX5_goesAlong 195 = .ok (.aload_n 0, 1) := dk_42 (dk_at dksX5_goesAlong_8 7 rfl rfl)
theorem dX5_goesAlong_196 : decode cX5_goesAlong 196 = .ok (.getfield 280, 3) := dk_180 1 24 (dk_at dksX5_goesAlong_8 8 rfl rfl)
theorem dX5_goesAlong_199 : decode cX5_goesAlong 199 = .ok (.iadd, 1) := dk_96 (dk_at dksX5_goesAlong_8 11 rfl rfl)
theorem dX5_goesAlong_200 : decode cX5_goesAlong 200 = .ok (.iaload, 1) := dk_46 (dk_at dksX5_goesAlong_8 12 rfl rfl)
theorem dX5_goesAlong_201 : decode cX5_goesAlong 201 = .ok (.putfield 489, 3) := dk_181 1 233 (dk_at dksX5_goesAlong_8 13 rfl rfl)
theorem dX5_goesAlong_204 : decode cX5_goesAlong 204 = .ok (.aload_n 0, 1) := dk_42 (dk_at dksX5_goesAlong_8 16 rfl rfl)
theorem dX5_goesAlong_205 : decode cX5_goesAlong 205 = .ok (.dup, 1) := dk_89 (dk_at dksX5_goesAlong_8 17 rfl rfl)
theorem dX5_goesAlong_206 : decode cX5_goesAlong 206 = .ok (.getfield 280, 3) := dk_180 1 24 (dk_at dksX5_goesAlong_8 18 rfl rfl)
theorem dX5_goesAlong_209 : decode cX5_goesAlong 209 = .ok (.iconst 1, 1) := dk_4 (dk_at dksX5_goesAlong_8 21 rfl rfl)
theorem dX5_goesAlong_210 : decode cX5_goesAlong 210 = .ok (.iadd, 1) := dk_96 (dk_at dksX5_goesAlong_8 22 rfl rfl)
theorem dX5_goesAlong_211 : decode cX5_goesAlong 211 = .ok (.putfield 280, 3) := dk_181 1 24 (dk_at dksX5_goesAlong_9 0 rfl rfl)
theorem dX5_goesAlong_214 : decode cX5_goesAlong 214 = .ok (.aload_n 0, 1) := dk_42 (dk_at dksX5_goesAlong_9 3 rfl rfl)
theorem dX5_goesAlong_215 : decode cX5_goesAlong 215 = .ok (.iconst 0, 1) := dk_3 (dk_at dksX5_goesAlong_9 4 rfl rfl)
theorem dX5_goesAlong_216 : decode cX5_goesAlong 216 = .ok (.putfield 290, 3) := dk_181 1 34 (dk_at dksX5_goesAlong_9 5 rfl rfl)
theorem dX5_goesAlong_219 : decode cX5_goesAlong 219 = .ok (.aload_n 0, 1) := dk_42 (dk_at dksX5_goesAlong_9 8 rfl rfl)
theorem dX5_goesAlong_220 : decode cX5_goesAlong 220 = .ok (.aload_n 0, 1) := dk_42 (dk_at dksX5_goesAlong_9 9 rfl rfl)
theorem dX5_goesAlong_221 : decode cX5_goesAlong 221 = .ok (.iconst 5, 1) := dk_8 (dk_at dksX5_goesAlong_9 10 rfl rfl)
theorem dX5_goesAlong_222 : decode cX5_goesAlong 222 = .ok (.invokevirtual 304, 3) := dk_182 1 48 (dk_at dksX5_goesAlong_9 11 rfl rfl)
theorem dX5_goesAlong_225 : decode cX5_goesAlong 225 = .ok (.ifCond .eq 11, 3) := dk_153 0 11 (dk_at dksX5_goesAlong_9 14 rfl rfl)
theorem dX5_goesAlong_228 : decode cX5_goesAlong 228 = .ok (.aload_n 0, 1) := dk_42 (dk_at dksX5_goesAlong_9 17 rfl rfl)
theorem dX5_goesAlong_229 : decode cX5_goesAlong 229 = .ok (.iload_n 2, 1) := dk_28 (dk_at dksX5_goesAlong_9 18 rfl rfl)
theorem dX5_goesAlong_230 : decode cX5_goesAlong 230 = .ok (.invokevirtual 325, 3) := dk_182 1 69 (dk_at dksX5_goesAlong_9 19 rfl rfl)
theorem dX5_goesAlong_233 : decode cX5_goesAlong 233 = .ok (.ifCond .eq 7, 3) := dk_153 0 7 (dk_at dksX5_goesAlong_10 0 rfl rfl)
theorem dX5_goesAlong_236 : decode cX5_goesAlong 236 = .ok (.iconst 1, 1) := dk_4 (dk_at dksX5_goesAlong_10 3 rfl rfl)
theorem dX5_goesAlong_237 : decode cX5_goesAlong 237 = .ok (.goto 4, 3) := dk_167 0 4 (dk_at dksX5_goesAlong_10 4 rfl rfl)
theorem dX5_goesAlong_240 : decode cX5_goesAlong 240 = .ok (.iconst 0, 1) := dk_3 (dk_at dksX5_goesAlong_10 7 rfl rfl)
theorem dX5_goesAlong_241 : decode cX5_goesAlong 241 = .ok (.putfield 492, 3) := dk_181 1 236 (dk_at dksX5_goesAlong_10 8 rfl rfl)
theorem dX5_goesAlong_244 : decode cX5_goesAlong 244 = .ok (.aload_n 0, 1) := dk_42 (dk_at dksX5_goesAlong_10 11 rfl rfl)
theorem dX5_goesAlong_245 : decode cX5_goesAlong 245 = .ok (.aload_n 0, 1) := dk_42 (dk_at dksX5_goesAlong_10 12 rfl rfl)
theorem dX5_goesAlong_246 : decode cX5_goesAlong 246 = .ok (.getfield 492, 3) := dk_180 1 236 (dk_at dksX5_goesAlong_10 13 rfl rfl)
theorem dX5_goesAlong_249 : decode cX5_goesAlong 249 = .ok (.ifCond .eq 14, 3) := dk_153 0 14 (dk_at dksX5_goesAlong_10 16 rfl rfl)
theorem dX5_goesAlong_252 : decode cX5_goesAlong 252 = .ok (.aload_n 0, 1) := dk_42 (dk_at dksX5_goesAlong_10 19 rfl rfl)
theorem dX5_goesAlong_253 : decode cX5_goesAlong 253 = .ok (.getfield 290, 3) := dk_180 1 34 (dk_at dksX5_goesAlong_10 20 rfl rfl)
theorem dX5_goesAlong_256 : decode cX5_goesAlong 256 = .ok (.ifCond .ne 7, 3) := dk_154 0 7 (dk_at dksX5_goesAlong_11 0 rfl rfl)
theorem dX5_goesAlong_259 : decode cX5_goesAlong 259 = .ok (.iconst 1, 1) := dk_4 (dk_at dksX5_goesAlong_11 3 rfl rfl)
theorem dX5_goesAlong_260 : decode cX5_goesAlong 260 = .ok (.goto 4, 3) := dk_167 0 4 (dk_at dksX5_goesAlong_11 4 rfl rfl)
theorem dX5_goesAlong_263 : decode cX5_goesAlong 263 = .ok (.iconst 0, 1) := dk_3 (dk_at dksX5_goesAlong_11 7 rfl rfl)
theorem dX5_goesAlong_264 : decode cX5_goesAlong 264 = .ok (.putfield 492, 3) := dk_181 1 236 (dk_at dksX5_goesAlong_11 8 rfl rfl)
theorem dX5_goesAlong_267 : decode cX5_goesAlong 267 = .ok (.aload_n 0, 1) := dk_42 (dk_at dksX5_goesAlong_11 11 rfl rfl)
theorem dX5_goesAlong_268 : decode cX5_goesAlong 268 = .ok (.dup, 1) := dk_89 (dk_at dksX5_goesAlong_11 12 rfl rfl)
theorem dX5_goesAlong_269 : decode cX5_goesAlong 269 = .ok (.getfield 280, 3) := dk_180 1 24 (dk_at dksX5_goesAlong_11 13 rfl rfl)
theorem dX5_goesAlong_272 : decode cX5_goesAlong 272 = .ok (.iconst 1, 1) := dk_4 (dk_at dksX5_goesAlong_11 16 rfl rfl)
theorem dX5_goesAlong_273 : decode cX5_goesAlong 273 = .ok (.iadd, 1) := dk_96 (dk_at dksX5_goesAlong_11 17 rfl rfl)
theorem dX5_goesAlong_274 : decode cX5_goesAlong 274 = .ok (.putfield 280, 3) := dk_181 1 24 (dk_at dksX5_goesAlong_11 18 rfl rfl)
theorem dX5_goesAlong_277 : decode cX5_goesAlong 277 = .ok (.return_, 1) := dk_177 (dk_at dksX5_goesAlong_11 21 rfl rfl)
theorem ff_X5_486_5 : ax_FF RX5 486 5 53 (tyX5 53) 0 false := ⟨RX5, TX5, 61, tyX5, "DebtDoorsModel", kd5, in_X5, tyX5_ok, apX5, by decide, rfl, ⟨fun _ => rfl, fun h => absurd h (by decide)⟩, q2015, Or.inl rfl, fun h => absurd h (by decide)⟩
theorem ff_X5_492_5 : ax_FF RX5 492 5 54 (tyX5 54) 0 false := ⟨RX5, TX5, 61, tyX5, "DebtDoorsModel", kd5, in_X5, tyX5_ok, apX5, by decide, rfl, ⟨fun _ => rfl, fun h => absurd h (by decide)⟩, q2016, Or.inl rfl, fun h => absurd h (by decide)⟩
theorem ff_X5_489_5 : ax_FF RX5 489 5 51 (tyX5 51) 0 false := ⟨RX5, TX5, 61, tyX5, "DebtDoorsModel", kd5, in_X5, tyX5_ok, apX5, by decide, rfl, ⟨fun _ => rfl, fun h => absurd h (by decide)⟩, q2013, Or.inl rfl, fun h => absurd h (by decide)⟩
theorem ff_X5_471_5 : ax_FF RX5 471 5 48 (tyX5 48) 0 false := ⟨RX5, TX5, 61, tyX5, "DebtDoorsModel", kd5, in_X5, tyX5_ok, apX5, by decide, rfl, ⟨fun _ => rfl, fun h => absurd h (by decide)⟩, q2010, Or.inl rfl, fun h => absurd h (by decide)⟩
theorem ff_X5_474_5 : ax_FF RX5 474 5 49 (tyX5 49) 0 false := ⟨RX5, TX5, 61, tyX5, "DebtDoorsModel", kd5, in_X5, tyX5_ok, apX5, by decide, rfl, ⟨fun _ => rfl, fun h => absurd h (by decide)⟩, q2011, Or.inl rfl, fun h => absurd h (by decide)⟩
theorem ff_X5_477_5 : ax_FF RX5 477 5 50 (tyX5 50) 0 false := ⟨RX5, TX5, 61, tyX5, "DebtDoorsModel", kd5, in_X5, tyX5_ok, apX5, by decide, rfl, ⟨fun _ => rfl, fun h => absurd h (by decide)⟩, q2012, Or.inl rfl, fun h => absurd h (by decide)⟩
theorem ff_X5_483_5 : ax_FF RX5 483 5 52 (tyX5 52) 0 false := ⟨RX5, TX5, 61, tyX5, "DebtDoorsModel", kd5, in_X5, tyX5_ok, apX5, by decide, rfl, ⟨fun _ => rfl, fun h => absurd h (by decide)⟩, q2014, Or.inl rfl, fun h => absurd h (by decide)⟩
noncomputable def f_X5_goesAlong_164 (E : ax_E) (x0 : Option Nat) (x2 : Int) (x3 : Int) (x4 : Int) (s0 : Option Nat) (s1 : Int) (h : ax_H) : Option ((Int × ax_H) ⊕ (ax_H)) :=
  if s1 = 0 ∨ s1 = 1 then (ax_pI h s0 5 53 s1).bind fun h1 =>
    some (.inl ((x4 + 1), h1))
  else none
noncomputable def f_X5_goesAlong_163 (E : ax_E) (x0 : Option Nat) (x2 : Int) (x3 : Int) (x4 : Int) (s0 : Option Nat) (h : ax_H) : Option ((Int × ax_H) ⊕ (ax_H)) :=
  f_X5_goesAlong_164 E x0 x2 x3 x4 s0 0 h
noncomputable def f_X5_goesAlong_127 (E : ax_E) (x0 : Option Nat) (x2 : Int) (x3 : Int) (x4 : Int) (h : ax_H) : Option ((Int × ax_H) ⊕ (ax_H)) :=
  if 0 = 0 ∨ 0 = 1 then (ax_pI h x0 5 22 0).bind fun h1 =>
    (ax_gR E h1 x0 5 55).bind fun v2 =>
    (ax_ce E h1 x0 5).bind fun _ => (fn_X5_sumOf E 64 x0 x2 h1).bind fun q3 =>
    (ax_sto q3.2 v2 103 x4 q3.1).bind fun h4 =>
    (ax_gI E h4 x0 5 53).bind fun v5 =>
    if i2 v5 = 0 then
      f_X5_goesAlong_163 E x0 x2 x3 x4 x0 h4
    else
      (ax_gI E h4 x0 5 22).bind fun v6 =>
      if i2 v6 = 0 then
        f_X5_goesAlong_164 E x0 x2 x3 x4 x0 1 h4
      else
        f_X5_goesAlong_163 E x0 x2 x3 x4 x0 h4
  else none
noncomputable def f_X5_goesAlong_264 (E : ax_E) (x0 : Option Nat) (s0 : Option Nat) (s1 : Int) (h : ax_H) : Option (ax_H) :=
  if s1 = 0 ∨ s1 = 1 then (ax_pI h s0 5 54 s1).bind fun h1 =>
    (ax_gI E h1 x0 5 20).bind fun v2 =>
    (ax_pI h1 x0 5 20 (v2 + 1)).bind fun h3 =>
    some h3
  else none
noncomputable def f_X5_goesAlong_263 (E : ax_E) (x0 : Option Nat) (s0 : Option Nat) (h : ax_H) : Option (ax_H) :=
  f_X5_goesAlong_264 E x0 s0 0 h
noncomputable def f_X5_goesAlong_241 (E : ax_E) (x0 : Option Nat) (s0 : Option Nat) (s1 : Int) (h : ax_H) : Option (ax_H) :=
  if s1 = 0 ∨ s1 = 1 then (ax_pI h s0 5 54 s1).bind fun h1 =>
    (ax_gI E h1 x0 5 54).bind fun v2 =>
    if i2 v2 = 0 then
      f_X5_goesAlong_263 E x0 x0 h1
    else
      (ax_gI E h1 x0 5 22).bind fun v3 =>
      if i2 v3 = 0 then
        f_X5_goesAlong_264 E x0 x0 1 h1
      else
        f_X5_goesAlong_263 E x0 x0 h1
  else none
noncomputable def f_X5_goesAlong_236 (E : ax_E) (x0 : Option Nat) (s0 : Option Nat) (h : ax_H) : Option (ax_H) :=
  f_X5_goesAlong_241 E x0 s0 1 h
noncomputable def f_X5_goesAlong_214 (E : ax_E) (x0 : Option Nat) (x2 : Int) (h : ax_H) : Option (ax_H) :=
  if 0 = 0 ∨ 0 = 1 then (ax_pI h x0 5 22 0).bind fun h1 =>
    (ax_ce E h1 x0 5).bind fun _ => (f_X5_passes0 E x0 5 h1).bind fun q2 =>
    if i2 q2.1 = 0 then
      f_X5_goesAlong_236 E x0 x0 q2.2
    else
      (ax_ce E q2.2 x0 5).bind fun _ => (fn_X5_testOf E 64 x0 x2 q2.2).bind fun q3 =>
      if i2 q3.1 = 0 then
        f_X5_goesAlong_241 E x0 x0 0 q3.2
      else
        f_X5_goesAlong_236 E x0 x0 q3.2
  else none
noncomputable def lb_X5_goesAlong_106 (E : ax_E) (x0 : Option Nat) (x2 : Int) (x3 : Int) (x4 : Int) (h : ax_H) : Option ((Int × ax_H) ⊕ (ax_H)) :=
  if i2 x4 < i2 x3 then
    if 0 < i2 x4 then
      (ax_gI E h x0 5 20).bind fun v1 =>
      (ax_pI h x0 5 20 (v1 + 1)).bind fun h2 =>
      f_X5_goesAlong_127 E x0 x2 x3 x4 h2
    else
      f_X5_goesAlong_127 E x0 x2 x3 x4 h
  else
    ((ax_pI h x0 5 51 1).bind fun h3 =>
    (ax_ce E h3 x0 5).bind fun _ => (f_X5_passes0 E x0 29 h3).bind fun q4 =>
    if i2 q4.1 = 0 then
      f_X5_goesAlong_214 E x0 x2 q4.2
    else
      (ax_gR E q4.2 x0 5 2).bind fun v5 =>
      (ax_gI E q4.2 x0 5 20).bind fun v6 =>
      (ax_ld E q4.2 v5 100 (2964 + v6)).bind fun v7 =>
      (ax_pI q4.2 x0 5 51 v7).bind fun h8 =>
      (ax_gI E h8 x0 5 20).bind fun v9 =>
      (ax_pI h8 x0 5 20 (v9 + 1)).bind fun h10 =>
      f_X5_goesAlong_214 E x0 x2 h10).map Sum.inr
noncomputable def f_X5_goesAlong_106 (E : ax_E) (x0 : Option Nat) (x2 : Int) (x3 : Int) (x4 : Int) (h : ax_H) : Option (ax_H) :=
  ax_iter (fun s : Int × ax_H => lb_X5_goesAlong_106 E x0 x2 x3 s.1 s.2) (x4, h)
noncomputable def f_X5_goesAlong_102 (E : ax_E) (x0 : Option Nat) (x2 : Int) (s0 : Int) (h : ax_H) : Option (ax_H) :=
  f_X5_goesAlong_106 E x0 x2 s0 0 h
noncomputable def f_X5_goesAlong (E : ax_E) (x0 : Option Nat) (x1 : Int) (x2 : Int) (h : ax_H) : Option (ax_H) :=
  if 1 = 0 ∨ 1 = 1 then (ax_pI h x0 5 23 1).bind fun h1 =>
    (ax_pI h1 x0 5 21 x1).bind fun h2 =>
    (ax_gR E h2 x0 5 25).bind fun v3 =>
    (ax_gR E h2 x0 5 2).bind fun v4 =>
    (ax_ld E h2 v4 100 72).bind fun v5 =>
    (ax_sto h2 v3 100 0 v5).bind fun h6 =>
    (ax_gR E h6 x0 5 25).bind fun v7 =>
    (ax_ce E h6 x0 5).bind fun _ => (f_X5_debts E x0 h6).bind fun q8 =>
    (ax_sto q8.2 v7 100 1 q8.1).bind fun h9 =>
    (ax_gR E h9 x0 5 25).bind fun v10 =>
    (ax_gI E h9 x0 5 48).bind fun v11 =>
    (ax_sto h9 v10 100 2 v11).bind fun h12 =>
    (ax_gR E h12 x0 5 25).bind fun v13 =>
    (ax_gI E h12 x0 5 49).bind fun v14 =>
    (ax_sto h12 v13 100 3 v14).bind fun h15 =>
    (ax_gI E h15 x0 5 50).bind fun v16 =>
    (ax_pI h15 x0 5 20 v16).bind fun h17 =>
    (ax_gI E h17 x0 5 20).bind fun v18 =>
    (ax_ce E h17 x0 5).bind fun _ => (f_X5_codeAt E x0 v18 h17).bind fun q19 =>
    (ax_pI q19.2 x0 5 52 q19.1).bind fun h20 =>
    (ax_gI E h20 x0 5 20).bind fun v21 =>
    (ax_pI h20 x0 5 20 (v21 + 1)).bind fun h22 =>
    if 1 = 0 ∨ 1 = 1 then (ax_pI h22 x0 5 53 1).bind fun h23 =>
      (ax_gI E h23 x0 5 52).bind fun v24 =>
      if i2 v24 = i2 26 then
        f_X5_goesAlong_102 E x0 x2 0 h23
      else
        f_X5_goesAlong_102 E x0 x2 3 h23
    else none
  else none
def pi_X5_goesAlong_106 (G : ax_G) (X : ax_X) (Q : State → Prop) (x0 : Option Nat) (x2 : Int) (x3 : Int) : Int × ax_H → Prop := fun s => ∀ ls : Array Slot, ax_hl ls 5 [(0, .inr (.inr x0)), (2, .inl x2), (3, .inl x3), (4, .inl s.1)] → ax_W G X Q s.2 106 ls []
set_option maxHeartbeats 4000000 in
theorem w_X5_goesAlong_164 {l : Launch} {G : ax_G} {X : ax_X} {Q : State → Prop} {h0 h : ax_H} {ls : Array Slot} (hSF : ax_SF G) (B : ax_BL l G X cX5_goesAlong 5 RX5 133 3464) (Z : ax_Z X h0 none) (hn : X.2.2.2.2.2.2.2.2.1.name = yX5_goesAlong.name) (x0 : Option Nat) (x2 : Int) (x3 : Int) (x4 : Int) (s0 : Option Nat) (s1 : Int) {w : (Int × ax_H) ⊕ (ax_H)} (hl : ax_hl ls 5 [(0, .inr (.inr x0)), (2, .inl x2), (3, .inl x3), (4, .inl x4)]) (e : f_X5_goesAlong_164 G.2.2 x0 x2 x3 x4 s0 s1 h = some w) (hp : (ax_PL (pi_X5_goesAlong_106 G X Q x0 x2 x3) (fun w : ax_H => Q = ax_Q G X h0 w none)) w) : ax_W G X Q h 164 ls [.int (Int32.ofInt s1), va_rf s0] := by
  unfold f_X5_goesAlong_164 at e
  refine ax_putZ B ff_X5_486_5 (Or.inl rfl) dX5_goesAlong_164 e (fun h1 e => ?_)
  refine ax_iinc (L' := [(4, .inl (x4 + 1)), (0, .inr (.inr x0)), (2, .inl x2), (3, .inl x3)]) B dX5_goesAlong_167 hl 3 rfl (by decide) rfl (fun ls hl => ?_)
  refine ax_goto (tgt := 106) B dX5_goesAlong_170 (by decide) ?_
  cases e
  exact hp _ (hl.sub [1, 2, 3, 0] rfl)
set_option maxHeartbeats 4000000 in
theorem w_X5_goesAlong_163 {l : Launch} {G : ax_G} {X : ax_X} {Q : State → Prop} {h0 h : ax_H} {ls : Array Slot} (hSF : ax_SF G) (B : ax_BL l G X cX5_goesAlong 5 RX5 133 3464) (Z : ax_Z X h0 none) (hn : X.2.2.2.2.2.2.2.2.1.name = yX5_goesAlong.name) (x0 : Option Nat) (x2 : Int) (x3 : Int) (x4 : Int) (s0 : Option Nat) {w : (Int × ax_H) ⊕ (ax_H)} (hl : ax_hl ls 5 [(0, .inr (.inr x0)), (2, .inl x2), (3, .inl x3), (4, .inl x4)]) (e : f_X5_goesAlong_163 G.2.2 x0 x2 x3 x4 s0 h = some w) (hp : (ax_PL (pi_X5_goesAlong_106 G X Q x0 x2 x3) (fun w : ax_H => Q = ax_Q G X h0 w none)) w) : ax_W G X Q h 163 ls [va_rf s0] := by
  unfold f_X5_goesAlong_163 at e
  refine ax_iconst B dX5_goesAlong_163 ?_
  exact w_X5_goesAlong_164 hSF B Z hn x0 x2 x3 x4 s0 0 (hl.sub [0, 1, 2, 3] rfl) e hp
set_option maxHeartbeats 4000000 in
theorem w_X5_goesAlong_127 {l : Launch} {G : ax_G} {X : ax_X} {Q : State → Prop} {h0 h : ax_H} {ls : Array Slot} (hSF : ax_SF G) (B : ax_BL l G X cX5_goesAlong 5 RX5 133 3464) (Z : ax_Z X h0 none) (hn : X.2.2.2.2.2.2.2.2.1.name = yX5_goesAlong.name) (x0 : Option Nat) (x2 : Int) (x3 : Int) (x4 : Int) {w : (Int × ax_H) ⊕ (ax_H)} (hl : ax_hl ls 5 [(0, .inr (.inr x0)), (2, .inl x2), (3, .inl x3), (4, .inl x4)]) (e : f_X5_goesAlong_127 G.2.2 x0 x2 x3 x4 h = some w) (hp : (ax_PL (pi_X5_goesAlong_106 G X Q x0 x2 x3) (fun w : ax_H => Q = ax_Q G X h0 w none)) w) : ax_W G X Q h 127 ls [] := by
  unfold f_X5_goesAlong_127 at e
  refine ax_aload_n B dX5_goesAlong_127 rfl hl 0 rfl ?_
  refine ax_iconst B dX5_goesAlong_128 ?_
  refine ax_putZ B ff_X5_290_5 (Or.inl rfl) dX5_goesAlong_129 e (fun h1 e => ?_)
  refine ax_aload_n B dX5_goesAlong_132 rfl hl 0 rfl ?_
  refine ax_getR B ff_X5_110_5 (fun _ _ => rfl) dX5_goesAlong_133 e (fun v2 e => ?_)
  refine ax_iload B dX5_goesAlong_136 hl 3 rfl ?_
  refine ax_aload_n B dX5_goesAlong_138 rfl hl 0 rfl ?_
  refine ax_iload_n B dX5_goesAlong_139 rfl hl 1 rfl ?_
  refine ax_ivL (y := yX5_sumOf) (n := 1) (As := [.int (Int32.ofInt x2)]) B kd5 (lw_V q2254 q2256 qs57 q133 q2257) (by decide +kernel) ⟨Nat.le_of_ble_eq_true rfl, Nat.le_of_ble_eq_true rfl⟩ (fun w1 e1 => mf_X5_sumOf l G hSF 64 x0 x2 _ w1 e1) rfl hl.size (by simp only [List.map_cons, List.map_nil, List.sum_cons, List.sum_nil, va_rf_cat, ax_catI, ax_catL]; decide) dX5_goesAlong_140 e (fun q3 e => ?_)
  refine ax_last B kd103 dX5_goesAlong_143 e (fun h4 e => ?_)
  refine ax_aload_n B dX5_goesAlong_144 rfl hl 0 rfl ?_
  refine ax_aload_n B dX5_goesAlong_145 rfl hl 0 rfl ?_
  refine ax_getI B ff_X5_486_5 (fun _ _ => rfl) dX5_goesAlong_146 e (fun v5 e => ?_)
  refine ax_if_eq (tgt := 163) B dX5_goesAlong_149 (by decide) e (fun e => ?_) (fun e => ?_)
  · exact w_X5_goesAlong_163 hSF B Z hn x0 x2 x3 x4 x0 (hl.sub [0, 1, 2, 3] rfl) e hp
  · refine ax_aload_n B dX5_goesAlong_152 rfl hl 0 rfl ?_
    refine ax_getI B ff_X5_290_5 (fun _ _ => rfl) dX5_goesAlong_153 e (fun v6 e => ?_)
    refine ax_if_ne (tgt := 163) B dX5_goesAlong_156 (by decide) e (fun e => ?_) (fun e => ?_)
    · refine ax_iconst B dX5_goesAlong_159 ?_
      refine ax_goto (tgt := 164) B dX5_goesAlong_160 (by decide) ?_
      exact w_X5_goesAlong_164 hSF B Z hn x0 x2 x3 x4 x0 1 (hl.sub [0, 1, 2, 3] rfl) e hp
    · exact w_X5_goesAlong_163 hSF B Z hn x0 x2 x3 x4 x0 (hl.sub [0, 1, 2, 3] rfl) e hp
set_option maxHeartbeats 4000000 in
theorem w_X5_goesAlong_264 {l : Launch} {G : ax_G} {X : ax_X} {Q : State → Prop} {h0 h : ax_H} {ls : Array Slot} (hSF : ax_SF G) (B : ax_BL l G X cX5_goesAlong 5 RX5 133 3464) (Z : ax_Z X h0 none) (hn : X.2.2.2.2.2.2.2.2.1.name = yX5_goesAlong.name) (x0 : Option Nat) (s0 : Option Nat) (s1 : Int) {w : ax_H} (hl : ax_hl ls 5 [(0, .inr (.inr x0))]) (e : f_X5_goesAlong_264 G.2.2 x0 s0 s1 h = some w) (hp : (fun w : ax_H => Q = ax_Q G X h0 w none) w) : ax_W G X Q h 264 ls [.int (Int32.ofInt s1), va_rf s0] := by
  unfold f_X5_goesAlong_264 at e
  refine ax_putZ B ff_X5_492_5 (Or.inl rfl) dX5_goesAlong_264 e (fun h1 e => ?_)
  refine ax_aload_n B dX5_goesAlong_267 rfl hl 0 rfl ?_
  refine ax_dup B dX5_goesAlong_268 (va_rf_cat _) ?_
  refine ax_getI B ff_X5_280_5 (fun _ _ => rfl) dX5_goesAlong_269 e (fun v2 e => ?_)
  refine ax_iconst B dX5_goesAlong_272 ?_
  refine ax_iadd' B dX5_goesAlong_273 ?_
  refine ax_putI B ff_X5_280_5 (Or.inl rfl) rfl dX5_goesAlong_274 e (fun h3 e => ?_)
  have e8 := e
  have hp : Q = _ := hp
  subst hp
  exact ax_return B Z dX5_goesAlong_277 e8
set_option maxHeartbeats 4000000 in
theorem w_X5_goesAlong_263 {l : Launch} {G : ax_G} {X : ax_X} {Q : State → Prop} {h0 h : ax_H} {ls : Array Slot} (hSF : ax_SF G) (B : ax_BL l G X cX5_goesAlong 5 RX5 133 3464) (Z : ax_Z X h0 none) (hn : X.2.2.2.2.2.2.2.2.1.name = yX5_goesAlong.name) (x0 : Option Nat) (s0 : Option Nat) {w : ax_H} (hl : ax_hl ls 5 [(0, .inr (.inr x0))]) (e : f_X5_goesAlong_263 G.2.2 x0 s0 h = some w) (hp : (fun w : ax_H => Q = ax_Q G X h0 w none) w) : ax_W G X Q h 263 ls [va_rf s0] := by
  unfold f_X5_goesAlong_263 at e
  refine ax_iconst B dX5_goesAlong_263 ?_
  exact w_X5_goesAlong_264 hSF B Z hn x0 s0 0 (hl.sub [0] rfl) e hp
set_option maxHeartbeats 4000000 in
theorem w_X5_goesAlong_241 {l : Launch} {G : ax_G} {X : ax_X} {Q : State → Prop} {h0 h : ax_H} {ls : Array Slot} (hSF : ax_SF G) (B : ax_BL l G X cX5_goesAlong 5 RX5 133 3464) (Z : ax_Z X h0 none) (hn : X.2.2.2.2.2.2.2.2.1.name = yX5_goesAlong.name) (x0 : Option Nat) (s0 : Option Nat) (s1 : Int) {w : ax_H} (hl : ax_hl ls 5 [(0, .inr (.inr x0))]) (e : f_X5_goesAlong_241 G.2.2 x0 s0 s1 h = some w) (hp : (fun w : ax_H => Q = ax_Q G X h0 w none) w) : ax_W G X Q h 241 ls [.int (Int32.ofInt s1), va_rf s0] := by
  unfold f_X5_goesAlong_241 at e
  refine ax_putZ B ff_X5_492_5 (Or.inl rfl) dX5_goesAlong_241 e (fun h1 e => ?_)
  refine ax_aload_n B dX5_goesAlong_244 rfl hl 0 rfl ?_
  refine ax_aload_n B dX5_goesAlong_245 rfl hl 0 rfl ?_
  refine ax_getI B ff_X5_492_5 (fun _ _ => rfl) dX5_goesAlong_246 e (fun v2 e => ?_)
  refine ax_if_eq (tgt := 263) B dX5_goesAlong_249 (by decide) e (fun e => ?_) (fun e => ?_)
  · exact w_X5_goesAlong_263 hSF B Z hn x0 x0 (hl.sub [0] rfl) e hp
  · refine ax_aload_n B dX5_goesAlong_252 rfl hl 0 rfl ?_
    refine ax_getI B ff_X5_290_5 (fun _ _ => rfl) dX5_goesAlong_253 e (fun v3 e => ?_)
    refine ax_if_ne (tgt := 263) B dX5_goesAlong_256 (by decide) e (fun e => ?_) (fun e => ?_)
    · refine ax_iconst B dX5_goesAlong_259 ?_
      refine ax_goto (tgt := 264) B dX5_goesAlong_260 (by decide) ?_
      exact w_X5_goesAlong_264 hSF B Z hn x0 x0 1 (hl.sub [0] rfl) e hp
    · exact w_X5_goesAlong_263 hSF B Z hn x0 x0 (hl.sub [0] rfl) e hp
set_option maxHeartbeats 4000000 in
theorem w_X5_goesAlong_236 {l : Launch} {G : ax_G} {X : ax_X} {Q : State → Prop} {h0 h : ax_H} {ls : Array Slot} (hSF : ax_SF G) (B : ax_BL l G X cX5_goesAlong 5 RX5 133 3464) (Z : ax_Z X h0 none) (hn : X.2.2.2.2.2.2.2.2.1.name = yX5_goesAlong.name) (x0 : Option Nat) (s0 : Option Nat) {w : ax_H} (hl : ax_hl ls 5 [(0, .inr (.inr x0))]) (e : f_X5_goesAlong_236 G.2.2 x0 s0 h = some w) (hp : (fun w : ax_H => Q = ax_Q G X h0 w none) w) : ax_W G X Q h 236 ls [va_rf s0] := by
  unfold f_X5_goesAlong_236 at e
  refine ax_iconst B dX5_goesAlong_236 ?_
  refine ax_goto (tgt := 241) B dX5_goesAlong_237 (by decide) ?_
  exact w_X5_goesAlong_241 hSF B Z hn x0 s0 1 (hl.sub [0] rfl) e hp
set_option maxHeartbeats 4000000 in
theorem w_X5_goesAlong_214 {l : Launch} {G : ax_G} {X : ax_X} {Q : State → Prop} {h0 h : ax_H} {ls : Array Slot} (hSF : ax_SF G) (B : ax_BL l G X cX5_goesAlong 5 RX5 133 3464) (Z : ax_Z X h0 none) (hn : X.2.2.2.2.2.2.2.2.1.name = yX5_goesAlong.name) (x0 : Option Nat) (x2 : Int) {w : ax_H} (hl : ax_hl ls 5 [(0, .inr (.inr x0)), (2, .inl x2)]) (e : f_X5_goesAlong_214 G.2.2 x0 x2 h = some w) (hp : (fun w : ax_H => Q = ax_Q G X h0 w none) w) : ax_W G X Q h 214 ls [] := by
  unfold f_X5_goesAlong_214 at e
  refine ax_aload_n B dX5_goesAlong_214 rfl hl 0 rfl ?_
  refine ax_iconst B dX5_goesAlong_215 ?_
  refine ax_putZ B ff_X5_290_5 (Or.inl rfl) dX5_goesAlong_216 e (fun h1 e => ?_)
  refine ax_aload_n B dX5_goesAlong_219 rfl hl 0 rfl ?_
  refine ax_aload_n B dX5_goesAlong_220 rfl hl 0 rfl ?_
  refine ax_iconst B dX5_goesAlong_221 ?_
  refine ax_ivI (y := yX5_passes0) (n := 1) (As := [.int (Int32.ofInt 5)]) B kd5 (lw_V q2269 q2271 qs60 q133 q2272) (by decide +kernel) ⟨Nat.le_of_ble_eq_true rfl, Nat.le_of_ble_eq_true rfl⟩ (fun w1 e1 => mt_X5_passes0 l G hSF x0 5 _ w1 e1) rfl hl.size (by simp only [List.map_cons, List.map_nil, List.sum_cons, List.sum_nil, va_rf_cat, ax_catI, ax_catL]; decide) dX5_goesAlong_222 e (fun q2 e => ?_)
  refine ax_if_eq (tgt := 236) B dX5_goesAlong_225 (by decide) e (fun e => ?_) (fun e => ?_)
  · exact w_X5_goesAlong_236 hSF B Z hn x0 x0 (hl.sub [0] rfl) e hp
  · refine ax_aload_n B dX5_goesAlong_228 rfl hl 0 rfl ?_
    refine ax_iload_n B dX5_goesAlong_229 rfl hl 1 rfl ?_
    refine ax_ivI (y := yX5_testOf) (n := 1) (As := [.int (Int32.ofInt x2)]) B kd5 (lw_V q2280 q2282 qs62 q133 q2283) (by decide +kernel) ⟨Nat.le_of_ble_eq_true rfl, Nat.le_of_ble_eq_true rfl⟩ (fun w1 e1 => mf_X5_testOf l G hSF 64 x0 x2 _ w1 e1) rfl hl.size (by simp only [List.map_cons, List.map_nil, List.sum_cons, List.sum_nil, va_rf_cat, ax_catI, ax_catL]; decide) dX5_goesAlong_230 e (fun q3 e => ?_)
    refine ax_if_eq (tgt := 240) B dX5_goesAlong_233 (by decide) e (fun e => ?_) (fun e => ?_)
    · refine ax_iconst B dX5_goesAlong_240 ?_
      exact w_X5_goesAlong_241 hSF B Z hn x0 x0 0 (hl.sub [0] rfl) e hp
    · exact w_X5_goesAlong_236 hSF B Z hn x0 x0 (hl.sub [0] rfl) e hp
set_option maxHeartbeats 4000000 in
theorem wb_X5_goesAlong_106 {l : Launch} {G : ax_G} {X : ax_X} {Q : State → Prop} {h0 h : ax_H} {ls : Array Slot} (hSF : ax_SF G) (B : ax_BL l G X cX5_goesAlong 5 RX5 133 3464) (Z : ax_Z X h0 none) (hn : X.2.2.2.2.2.2.2.2.1.name = yX5_goesAlong.name) (x0 : Option Nat) (x2 : Int) (x3 : Int) (x4 : Int) {w : (Int × ax_H) ⊕ (ax_H)} (hl : ax_hl ls 5 [(0, .inr (.inr x0)), (2, .inl x2), (3, .inl x3), (4, .inl x4)]) (e : lb_X5_goesAlong_106 G.2.2 x0 x2 x3 x4 h = some w) (hp : (ax_PL (pi_X5_goesAlong_106 G X Q x0 x2 x3) (fun w : ax_H => Q = ax_Q G X h0 w none)) w) : ax_W G X Q h 106 ls [] := by
  unfold lb_X5_goesAlong_106 at e
  refine ax_iload B dX5_goesAlong_106 hl 3 rfl ?_
  refine ax_iload_n B dX5_goesAlong_108 rfl hl 2 rfl ?_
  refine ax_icmp_ge (tgt := 173) B dX5_goesAlong_109 (by decide) e (fun e => ?_) (fun e => ?_)
  · refine ax_iload B dX5_goesAlong_112 hl 3 rfl ?_
    refine ax_if_le (tgt := 127) B dX5_goesAlong_114 (by decide) e (fun e => ?_) (fun e => ?_)
    · refine ax_aload_n B dX5_goesAlong_117 rfl hl 0 rfl ?_
      refine ax_dup B dX5_goesAlong_118 (va_rf_cat _) ?_
      refine ax_getI B ff_X5_280_5 (fun _ _ => rfl) dX5_goesAlong_119 e (fun v1 e => ?_)
      refine ax_iconst B dX5_goesAlong_122 ?_
      refine ax_iadd' B dX5_goesAlong_123 ?_
      refine ax_putI B ff_X5_280_5 (Or.inl rfl) rfl dX5_goesAlong_124 e (fun h2 e => ?_)
      exact w_X5_goesAlong_127 hSF B Z hn x0 x2 x3 x4 (hl.sub [0, 1, 2, 3] rfl) e hp
    · exact w_X5_goesAlong_127 hSF B Z hn x0 x2 x3 x4 (hl.sub [0, 1, 2, 3] rfl) e hp
  · obtain ⟨w, e9_1, rfl⟩ := Option.map_eq_some_iff.mp e
    have e := e9_1
    refine ax_aload_n B dX5_goesAlong_173 rfl hl 0 rfl ?_
    refine ax_iconst B dX5_goesAlong_174 ?_
    refine ax_putI B ff_X5_489_5 (Or.inl rfl) rfl dX5_goesAlong_175 e (fun h3 e => ?_)
    refine ax_aload_n B dX5_goesAlong_178 rfl hl 0 rfl ?_
    refine ax_bipush B dX5_goesAlong_179 (by decide) ?_
    refine ax_ivI (y := yX5_passes0) (n := 1) (As := [.int (Int32.ofInt 29)]) B kd5 (lw_V q2269 q2271 qs60 q133 q2272) (by decide +kernel) ⟨Nat.le_of_ble_eq_true rfl, Nat.le_of_ble_eq_true rfl⟩ (fun w1 e1 => mt_X5_passes0 l G hSF x0 29 _ w1 e1) rfl hl.size (by decide) dX5_goesAlong_181 e (fun q4 e => ?_)
    refine ax_if_eq (tgt := 214) B dX5_goesAlong_184 (by decide) e (fun e => ?_) (fun e => ?_)
    · exact w_X5_goesAlong_214 hSF B Z hn x0 x2 (hl.sub [0, 1] rfl) e hp
    · refine ax_aload_n B dX5_goesAlong_187 rfl hl 0 rfl ?_
      refine ax_aload_n B dX5_goesAlong_188 rfl hl 0 rfl ?_
      refine ax_getR B ff_X5_24_5 (fun _ _ => rfl) dX5_goesAlong_189 e (fun v5 e => ?_)
      refine ax_sipush B dX5_goesAlong_192 (by decide) ?_
      refine ax_aload_n B dX5_goesAlong_195 rfl hl 0 rfl ?_
      refine ax_getI B ff_X5_280_5 (fun _ _ => rfl) dX5_goesAlong_196 e (fun v6 e => ?_)
      refine ax_iadd' B dX5_goesAlong_199 ?_
      refine ax_iald B kd100 dX5_goesAlong_200 e (fun v7 e => ?_)
      refine ax_putI B ff_X5_489_5 (Or.inl rfl) rfl dX5_goesAlong_201 e (fun h8 e => ?_)
      refine ax_aload_n B dX5_goesAlong_204 rfl hl 0 rfl ?_
      refine ax_dup B dX5_goesAlong_205 (va_rf_cat _) ?_
      refine ax_getI B ff_X5_280_5 (fun _ _ => rfl) dX5_goesAlong_206 e (fun v9 e => ?_)
      refine ax_iconst B dX5_goesAlong_209 ?_
      refine ax_iadd' B dX5_goesAlong_210 ?_
      refine ax_putI B ff_X5_280_5 (Or.inl rfl) rfl dX5_goesAlong_211 e (fun h10 e => ?_)
      exact w_X5_goesAlong_214 hSF B Z hn x0 x2 (hl.sub [0, 1] rfl) e hp
theorem w_X5_goesAlong_106 {l : Launch} {G : ax_G} {X : ax_X} {Q : State → Prop} {h0 h : ax_H} {ls : Array Slot} (hSF : ax_SF G) (B : ax_BL l G X cX5_goesAlong 5 RX5 133 3464) (Z : ax_Z X h0 none) (hn : X.2.2.2.2.2.2.2.2.1.name = yX5_goesAlong.name) (x0 : Option Nat) (x2 : Int) (x3 : Int) (x4 : Int) {w : ax_H} (hl : ax_hl ls 5 [(0, .inr (.inr x0)), (2, .inl x2), (3, .inl x3), (4, .inl x4)]) (e : f_X5_goesAlong_106 G.2.2 x0 x2 x3 x4 h = some w) (hp : (fun w : ax_H => Q = ax_Q G X h0 w none) w) : ax_W G X Q h 106 ls [] :=
  ax_iter_W (Pin := pi_X5_goesAlong_106 G X Q x0 x2 x3) (Pout := (fun w : ax_H => Q = ax_Q G X h0 w none)) (fun s w e hp ls hl => wb_X5_goesAlong_106 hSF B Z hn x0 x2 x3 s.1 hl e hp) _ _ e hp ls hl
set_option maxHeartbeats 4000000 in
theorem w_X5_goesAlong_102 {l : Launch} {G : ax_G} {X : ax_X} {Q : State → Prop} {h0 h : ax_H} {ls : Array Slot} (hSF : ax_SF G) (B : ax_BL l G X cX5_goesAlong 5 RX5 133 3464) (Z : ax_Z X h0 none) (hn : X.2.2.2.2.2.2.2.2.1.name = yX5_goesAlong.name) (x0 : Option Nat) (x2 : Int) (s0 : Int) {w : ax_H} (hl : ax_hl ls 5 [(0, .inr (.inr x0)), (2, .inl x2)]) (e : f_X5_goesAlong_102 G.2.2 x0 x2 s0 h = some w) (hp : (fun w : ax_H => Q = ax_Q G X h0 w none) w) : ax_W G X Q h 102 ls [.int (Int32.ofInt s0)] := by
  unfold f_X5_goesAlong_102 at e
  refine ax_istore_n (L' := [(3, .inl s0), (0, .inr (.inr x0)), (2, .inl x2)]) B dX5_goesAlong_102 rfl hl (by decide) rfl (fun ls hl => ?_)
  refine ax_iconst B dX5_goesAlong_103 ?_
  refine ax_istore (L' := [(4, .inl 0), (3, .inl s0), (0, .inr (.inr x0)), (2, .inl x2)]) B dX5_goesAlong_104 hl (by decide) rfl (fun ls hl => ?_)
  exact w_X5_goesAlong_106 hSF B Z hn x0 x2 s0 0 (hl.sub [2, 3, 1, 0] rfl) e hp
set_option maxHeartbeats 4000000 in
theorem we_X5_goesAlong {l : Launch} {G : ax_G} {X : ax_X} {Q : State → Prop} {h0 h : ax_H} {ls : Array Slot} (hSF : ax_SF G) (B : ax_BL l G X cX5_goesAlong 5 RX5 133 3464) (Z : ax_Z X h0 none) (hn : X.2.2.2.2.2.2.2.2.1.name = yX5_goesAlong.name) (x0 : Option Nat) (x1 : Int) (x2 : Int) {w : ax_H} (hl : ax_hl ls 5 [(0, .inr (.inr x0)), (1, .inl x1), (2, .inl x2)]) (e : f_X5_goesAlong G.2.2 x0 x1 x2 h = some w) (hp : (fun w : ax_H => Q = ax_Q G X h0 w none) w) : ax_W G X Q h 0 ls [] := by
  unfold f_X5_goesAlong at e
  refine ax_aload_n B dX5_goesAlong_0 rfl hl 0 rfl ?_
  refine ax_iconst B dX5_goesAlong_1 ?_
  refine ax_putZ B ff_X5_310_5 (Or.inl rfl) dX5_goesAlong_2 e (fun h1 e => ?_)
  refine ax_aload_n B dX5_goesAlong_5 rfl hl 0 rfl ?_
  refine ax_iload_n B dX5_goesAlong_6 rfl hl 1 rfl ?_
  refine ax_putI B ff_X5_277_5 (Or.inl rfl) rfl dX5_goesAlong_7 e (fun h2 e => ?_)
  refine ax_aload_n B dX5_goesAlong_10 rfl hl 0 rfl ?_
  refine ax_getR B ff_X5_62_5 (fun _ _ => rfl) dX5_goesAlong_11 e (fun v3 e => ?_)
  refine ax_iconst B dX5_goesAlong_14 ?_
  refine ax_aload_n B dX5_goesAlong_15 rfl hl 0 rfl ?_
  refine ax_getR B ff_X5_24_5 (fun _ _ => rfl) dX5_goesAlong_16 e (fun v4 e => ?_)
  refine ax_bipush B dX5_goesAlong_19 (by decide) ?_
  refine ax_iald B kd100 dX5_goesAlong_21 e (fun v5 e => ?_)
  refine ax_iast B kd100 dX5_goesAlong_22 e (fun h6 e => ?_)
  refine ax_aload_n B dX5_goesAlong_23 rfl hl 0 rfl ?_
  refine ax_getR B ff_X5_62_5 (fun _ _ => rfl) dX5_goesAlong_24 e (fun v7 e => ?_)
  refine ax_iconst B dX5_goesAlong_27 ?_
  refine ax_aload_n B dX5_goesAlong_28 rfl hl 0 rfl ?_
  refine ax_ivI (y := yX5_debts) (n := 0) (As := []) B kd5 (lw_V q2210 q2212 qs47 q133 q2213) (by decide +kernel) ⟨Nat.le_of_ble_eq_true rfl, Nat.le_of_ble_eq_true rfl⟩ (fun w1 e1 => mt_X5_debts l G hSF x0 _ w1 e1) rfl hl.size (by simp only [List.map_cons, List.map_nil, List.sum_cons, List.sum_nil, va_rf_cat, ax_catI, ax_catL]; decide) dX5_goesAlong_29 e (fun q8 e => ?_)
  refine ax_iast B kd100 dX5_goesAlong_32 e (fun h9 e => ?_)
  refine ax_aload_n B dX5_goesAlong_33 rfl hl 0 rfl ?_
  refine ax_getR B ff_X5_62_5 (fun _ _ => rfl) dX5_goesAlong_34 e (fun v10 e => ?_)
  refine ax_iconst B dX5_goesAlong_37 ?_
  refine ax_aload_n B dX5_goesAlong_38 rfl hl 0 rfl ?_
  refine ax_getI B ff_X5_471_5 (fun _ _ => rfl) dX5_goesAlong_39 e (fun v11 e => ?_)
  refine ax_iast B kd100 dX5_goesAlong_42 e (fun h12 e => ?_)
  refine ax_aload_n B dX5_goesAlong_43 rfl hl 0 rfl ?_
  refine ax_getR B ff_X5_62_5 (fun _ _ => rfl) dX5_goesAlong_44 e (fun v13 e => ?_)
  refine ax_iconst B dX5_goesAlong_47 ?_
  refine ax_aload_n B dX5_goesAlong_48 rfl hl 0 rfl ?_
  refine ax_getI B ff_X5_474_5 (fun _ _ => rfl) dX5_goesAlong_49 e (fun v14 e => ?_)
  refine ax_iast B kd100 dX5_goesAlong_52 e (fun h15 e => ?_)
  refine ax_aload_n B dX5_goesAlong_53 rfl hl 0 rfl ?_
  refine ax_aload_n B dX5_goesAlong_54 rfl hl 0 rfl ?_
  refine ax_getI B ff_X5_477_5 (fun _ _ => rfl) dX5_goesAlong_55 e (fun v16 e => ?_)
  refine ax_putI B ff_X5_280_5 (Or.inl rfl) rfl dX5_goesAlong_58 e (fun h17 e => ?_)
  refine ax_aload_n B dX5_goesAlong_61 rfl hl 0 rfl ?_
  refine ax_aload_n B dX5_goesAlong_62 rfl hl 0 rfl ?_
  refine ax_aload_n B dX5_goesAlong_63 rfl hl 0 rfl ?_
  refine ax_getI B ff_X5_280_5 (fun _ _ => rfl) dX5_goesAlong_64 e (fun v18 e => ?_)
  refine ax_ivI (y := yX5_codeAt) (n := 1) (As := [.int (Int32.ofInt v18)]) B kd5 (lw_V q2250 q2252 qs56 q133 q2253) (by decide +kernel) ⟨Nat.le_of_ble_eq_true rfl, Nat.le_of_ble_eq_true rfl⟩ (fun w1 e1 => mt_X5_codeAt l G hSF x0 v18 _ w1 e1) rfl hl.size (by simp only [List.map_cons, List.map_nil, List.sum_cons, List.sum_nil, va_rf_cat, ax_catI, ax_catL]; decide) dX5_goesAlong_67 e (fun q19 e => ?_)
  refine ax_putI B ff_X5_483_5 (Or.inl rfl) rfl dX5_goesAlong_70 e (fun h20 e => ?_)
  refine ax_aload_n B dX5_goesAlong_73 rfl hl 0 rfl ?_
  refine ax_dup B dX5_goesAlong_74 (va_rf_cat _) ?_
  refine ax_getI B ff_X5_280_5 (fun _ _ => rfl) dX5_goesAlong_75 e (fun v21 e => ?_)
  refine ax_iconst B dX5_goesAlong_78 ?_
  refine ax_iadd' B dX5_goesAlong_79 ?_
  refine ax_putI B ff_X5_280_5 (Or.inl rfl) rfl dX5_goesAlong_80 e (fun h22 e => ?_)
  refine ax_aload_n B dX5_goesAlong_83 rfl hl 0 rfl ?_
  refine ax_iconst B dX5_goesAlong_84 ?_
  refine ax_putZ B ff_X5_486_5 (Or.inl rfl) dX5_goesAlong_85 e (fun h23 e => ?_)
  refine ax_aload_n B dX5_goesAlong_88 rfl hl 0 rfl ?_
  refine ax_getI B ff_X5_483_5 (fun _ _ => rfl) dX5_goesAlong_89 e (fun v24 e => ?_)
  refine ax_bipush B dX5_goesAlong_92 (by decide) ?_
  refine ax_icmp_ne (tgt := 101) B dX5_goesAlong_94 (by decide) e (fun e => ?_) (fun e => ?_)
  · refine ax_iconst B dX5_goesAlong_97 ?_
    refine ax_goto (tgt := 102) B dX5_goesAlong_98 (by decide) ?_
    exact w_X5_goesAlong_102 hSF B Z hn x0 x2 0 (hl.sub [0, 2] rfl) e hp
  · refine ax_iconst B dX5_goesAlong_101 ?_
    exact w_X5_goesAlong_102 hSF B Z hn x0 x2 3 (hl.sub [0, 2] rfl) e hp
theorem mt_X5_goesAlong (l : Launch) (G : ax_G) (hSF : ax_SF G) (x0 : Option Nat) (x1 : Int) (x2 : Int) (h : ax_H) (w : ax_H) (e : f_X5_goesAlong G.2.2 x0 x1 x2 h = some w) : ax_Met l G yX5_goesAlong cX5_goesAlong 5 none 133 3464 [va_rf x0, .int (Int32.ofInt x1), .int (Int32.ofInt x2)] h w none :=
  ax_enter [.inr (.inr x0), .inl x1, .inl x2] (y := yX5_goesAlong) hSF (plainFor_of_name (by decide +kernel)) (Nat.le_of_ble_eq_true rfl) (fun X ls B Z hn hl => we_X5_goesAlong hSF B Z hn x0 x1 x2 hl e rfl)
def dkwX5_small_0 : List UInt8 := [30, 9, 148, 155, 0, 11, 30, 20, 1, 239, 148, 158, 0, 7, 2, 167, 0, 5, 30, 136, 172]
abbrev dktX5_small_0 : List UInt8 := dkwX5_small_0 ++ []
theorem dksX5_small_0 : cX5_small.data.toList.drop 0 = dktX5_small_0 := by decide +kernel
theorem dX5_small_0 : decode cX5_small 0 = .ok (.lload_n 0, 1) := dk_30 (dk_at dksX5_small_0 0 rfl rfl)
theorem dX5_small_1 : decode cX5_small 1 = .ok (.lconst 0, 1) := dk_9 (dk_at dksX5_small_0 1 rfl rfl)
theorem dX5_small_2 : decode cX5_small 2 = .ok (.lcmp, 1) := dk_148 (dk_at dksX5_small_0 2 rfl rfl)
theorem dX5_small_3 : decode cX5_small 3 = .ok (.ifCond .lt 11, 3) := dk_155 0 11 (dk_at dksX5_small_0 3 rfl rfl)
theorem dX5_small_6 : decode cX5_small 6 = .ok (.lload_n 0, 1) := dk_30 (dk_at dksX5_small_0 6 rfl rfl)
theorem dX5_small_7 : decode cX5_small 7 = .ok (.ldc2_w 495, 3) := dk_20 1 239 (dk_at dksX5_small_0 7 rfl rfl)
theorem dX5_small_10 : decode cX5_small 10 = .ok (.lcmp, 1) := dk_148 (dk_at dksX5_small_0 10 rfl rfl)
theorem dX5_small_11 : decode cX5_small 11 = .ok (.ifCond .le 7, 3) := dk_158 0 7 (dk_at dksX5_small_0 11 rfl rfl)
theorem dX5_small_14 : decode cX5_small 14 = .ok (.iconst (-1), 1) := dk_2 (dk_at dksX5_small_0 14 rfl rfl)
theorem dX5_small_15 : decode cX5_small 15 = .ok (.goto 5, 3) := dk_167 0 5 (dk_at dksX5_small_0 15 rfl rfl)
theorem dX5_small_18 : decode cX5_small 18 = .ok (.lload_n 0, 1) := dk_30 (dk_at dksX5_small_0 18 rfl rfl)
theorem dX5_small_19 : decode cX5_small 19 = .ok (.l2i, 1) := dk_136 (dk_at dksX5_small_0 19 rfl rfl)
theorem dX5_small_20 : decode cX5_small 20 = .ok (.ireturn, 1) := dk_172 (dk_at dksX5_small_0 20 rfl rfl)
theorem cn_X5_495 : Jvm.Cond.constantLong RX5 495 (Int64.ofInt 1000000) ∈ lw_all := by rw [show Int64.ofInt 1000000 = (1000000 : Int64) by decide]; exact q2693
noncomputable def f_X5_small_14 (E : ax_E) (h : ax_H) : Option (Int × ax_H) :=
  some ((-1), h)
noncomputable def f_X5_small (E : ax_E) (x0 : Int) (h : ax_H) : Option (Int × ax_H) :=
  if i2 (ax_cmp x0 0) < 0 then
    f_X5_small_14 E h
  else
    if 0 < i2 (ax_cmp x0 1000000) then
      f_X5_small_14 E h
    else
      some (x0, h)
set_option maxHeartbeats 4000000 in
theorem w_X5_small_14 {l : Launch} {G : ax_G} {X : ax_X} {Q : State → Prop} {h0 h : ax_H} {ls : Array Slot} (hSF : ax_SF G) (B : ax_BL l G X cX5_small 2 RX5 1 40) (Z : ax_Z X h0 ((some FieldType.int))) (hn : X.2.2.2.2.2.2.2.2.1.name = yX5_small.name) {w : Int × ax_H} (hl : ax_hl ls 2 []) (e : f_X5_small_14 G.2.2 h = some w) (hp : (fun w : Int × ax_H => Q = ax_Q G X h0 w.2 (some (.int (Int32.ofInt w.1)))) w) : ax_W G X Q h 14 ls [] := by
  unfold f_X5_small_14 at e
  refine ax_iconst B dX5_small_14 ?_
  refine ax_goto (tgt := 20) B dX5_small_15 (by decide) ?_
  have e8 := e
  have hp : Q = _ := hp
  subst hp
  exact ax_ireturn B Z dX5_small_20 e8
set_option maxHeartbeats 4000000 in
theorem we_X5_small {l : Launch} {G : ax_G} {X : ax_X} {Q : State → Prop} {h0 h : ax_H} {ls : Array Slot} (hSF : ax_SF G) (B : ax_BL l G X cX5_small 2 RX5 1 40) (Z : ax_Z X h0 ((some FieldType.int))) (hn : X.2.2.2.2.2.2.2.2.1.name = yX5_small.name) (x0 : Int) {w : Int × ax_H} (hl : ax_hl ls 2 [(0, .inr (.inl x0))]) (e : f_X5_small G.2.2 x0 h = some w) (hp : (fun w : Int × ax_H => Q = ax_Q G X h0 w.2 (some (.int (Int32.ofInt w.1)))) w) : ax_W G X Q h 0 ls [] := by
  unfold f_X5_small at e
  refine ax_lload_n B dX5_small_0 rfl hl 0 rfl ?_
  refine ax_lconst (v := 0) B dX5_small_1 rfl ?_
  refine ax_lcmp' B dX5_small_2 ?_
  refine ax_if_lt (tgt := 14) B dX5_small_3 (by decide) e (fun e => ?_) (fun e => ?_)
  · exact w_X5_small_14 hSF B Z hn (hl.sub [] rfl) e hp
  · refine ax_lload_n B dX5_small_6 rfl hl 0 rfl ?_
    refine ax_ldc2 B cn_X5_495 dX5_small_7 ?_
    refine ax_lcmp' B dX5_small_10 ?_
    refine ax_if_le (tgt := 18) B dX5_small_11 (by decide) e (fun e => ?_) (fun e => ?_)
    · exact w_X5_small_14 hSF B Z hn (hl.sub [] rfl) e hp
    · refine ax_lload_n B dX5_small_18 rfl hl 0 rfl ?_
      refine ax_l2i' B dX5_small_19 ?_
      have e8 := e
      have hp : Q = _ := hp
      subst hp
      exact ax_ireturn B Z dX5_small_20 e8
theorem mt_X5_small (l : Launch) (G : ax_G) (hSF : ax_SF G) (x0 : Int) (h : ax_H) (w : Int × ax_H) (e : f_X5_small G.2.2 x0 h = some w) : ax_Met l G yX5_small cX5_small 2 ((some FieldType.int)) 1 40 [.long (Int64.ofInt x0)] h w.2 (some (.int (Int32.ofInt w.1))) :=
  ax_enter [.inr (.inl x0)] (y := yX5_small) hSF (plainFor_of_name (by decide +kernel)) (Nat.le_of_ble_eq_true rfl) (fun X ls B Z hn hl => we_X5_small hSF B Z hn x0 hl e rfl)
def dkwX5_runs_8 : List UInt8 := [181, 1, 221, 3, 172]
abbrev dktX5_runs_8 : List UInt8 := dkwX5_runs_8 ++ []
def dkwX5_runs_7 : List UInt8 := [21, 5, 181, 1, 218, 42, 89, 180, 1, 215, 4, 96, 181, 1, 215, 132, 4, 1, 167, 255, 96, 42, 29]
abbrev dktX5_runs_7 : List UInt8 := dkwX5_runs_7 ++ dktX5_runs_8
def dkwX5_runs_6 : List UInt8 := [182, 1, 128, 54, 5, 21, 5, 156, 0, 6, 21, 5, 172, 42, 180, 1, 227, 16, 26, 159, 0, 9, 42]
abbrev dktX5_runs_6 : List UInt8 := dkwX5_runs_6 ++ dktX5_runs_7
def dkwX5_runs_5 : List UInt8 := [47, 184, 1, 245, 42, 180, 0, 110, 4, 47, 184, 1, 245, 42, 180, 0, 110, 5, 47, 184, 1, 245]
abbrev dktX5_runs_5 : List UInt8 := dkwX5_runs_5 ++ dktX5_runs_6
def dkwX5_runs_4 : List UInt8 := [184, 1, 245, 42, 180, 0, 110, 5, 47, 184, 1, 245, 182, 1, 122, 167, 0, 34, 42, 42, 180, 0, 110, 3]
abbrev dktX5_runs_4 : List UInt8 := dkwX5_runs_4 ++ dktX5_runs_5
def dkwX5_runs_3 : List UInt8 := [180, 1, 227, 16, 24, 160, 0, 37, 42, 42, 180, 0, 110, 3, 47, 184, 1, 245, 42, 180, 0, 110, 4, 47]
abbrev dktX5_runs_3 : List UInt8 := dkwX5_runs_3 ++ dktX5_runs_4
def dkwX5_runs_2 : List UInt8 := [154, 0, 6, 16, 253, 172, 42, 180, 1, 227, 16, 26, 160, 0, 10, 42, 182, 1, 131, 167, 0, 77, 42]
abbrev dktX5_runs_2 : List UInt8 := dkwX5_runs_2 ++ dktX5_runs_3
def dkwX5_runs_1 : List UInt8 := [162, 0, 160, 42, 27, 4, 182, 1, 241, 42, 180, 1, 236, 154, 0, 6, 167, 0, 138, 42, 180, 1, 230]
abbrev dktX5_runs_1 : List UInt8 := dkwX5_runs_1 ++ dktX5_runs_2
def dkwX5_runs_0 : List UInt8 := [42, 27, 3, 182, 1, 241, 42, 180, 1, 233, 61, 42, 180, 1, 24, 62, 3, 54, 4, 21, 4, 28]
abbrev dktX5_runs_0 : List UInt8 := dkwX5_runs_0 ++ dktX5_runs_1
theorem dksX5_runs_0 : cX5_runs.data.toList.drop 0 = dktX5_runs_0 := by decide +kernel
theorem dksX5_runs_1 : cX5_runs.data.toList.drop 22 = dktX5_runs_1 := dk_seg dksX5_runs_0 22 rfl rfl
theorem dksX5_runs_2 : cX5_runs.data.toList.drop 45 = dktX5_runs_2 := dk_seg dksX5_runs_1 23 rfl rfl
theorem dksX5_runs_3 : cX5_runs.data.toList.drop 68 = dktX5_runs_3 := dk_seg dksX5_runs_2 23 rfl rfl
theorem dksX5_runs_4 : cX5_runs.data.toList.drop 92 = dktX5_runs_4 := dk_seg dksX5_runs_3 24 rfl rfl
theorem dksX5_runs_5 : cX5_runs.data.toList.drop 116 = dktX5_runs_5 := dk_seg dksX5_runs_4 24 rfl rfl
theorem dksX5_runs_6 : cX5_runs.data.toList.drop 138 = dktX5_runs_6 := dk_seg dksX5_runs_5 22 rfl rfl
theorem dksX5_runs_7 : cX5_runs.data.toList.drop 161 = dktX5_runs_7 := dk_seg dksX5_runs_6 23 rfl rfl
theorem dksX5_runs_8 : cX5_runs.data.toList.drop 184 = dktX5_runs_8 := dk_seg dksX5_runs_7 23 rfl rfl
theorem dX5_runs_0 : decode cX5_runs 0 = .ok (.aload_n 0, 1) := dk_42 (dk_at dksX5_runs_0 0 rfl rfl)
theorem dX5_runs_1 : decode cX5_runs 1 = .ok (.iload_n 1, 1) := dk_27 (dk_at dksX5_runs_0 1 rfl rfl)
theorem dX5_runs_2 : decode cX5_runs 2 = .ok (.iconst 0, 1) := dk_3 (dk_at dksX5_runs_0 2 rfl rfl)
theorem dX5_runs_3 : decode cX5_runs 3 = .ok (.invokevirtual 497, 3) := dk_182 1 241 (dk_at dksX5_runs_0 3 rfl rfl)
theorem dX5_runs_6 : decode cX5_runs 6 = .ok (.aload_n 0, 1) := dk_42 (dk_at dksX5_runs_0 6 rfl rfl)
theorem dX5_runs_7 : decode cX5_runs 7 = .ok (.getfield 489, 3) := dk_180 1 233 (dk_at dksX5_runs_0 7 rfl rfl)
theorem dX5_runs_10 : decode cX5_runs 10 = .ok (.istore_n 2, 1) := dk_61 (dk_at dksX5_runs_0 10 rfl rfl)
theorem dX5_runs_11 : decode cX5_runs 11 = .ok (.aload_n 0, 1) := dk_42 (dk_at dksX5_runs_0 11 rfl rfl)
theorem dX5_runs_12 : decode cX5_runs 12 = .ok (.getfield 280, 3) := dk_180 1 24 (dk_at dksX5_runs_0 12 rfl rfl)
theorem dX5_runs_15 : decode cX5_runs 15 = .ok (.istore_n 3, 1) := dk_62 (dk_at dksX5_runs_0 15 rfl rfl)
theorem dX5_runs_16 : decode cX5_runs 16 = .ok (.iconst 0, 1) := dk_3 (dk_at dksX5_runs_0 16 rfl rfl)
theorem dX5_runs_17 : decode cX5_runs 17 = .ok (.istore 4, 2) := dk_54 4 (dk_at dksX5_runs_0 17 rfl rfl)
theorem dX5_runs_19 : decode cX5_runs 19 = .ok (.iload 4, 2) := dk_21 4 (dk_at dksX5_runs_0 19 rfl rfl)
theorem dX5_runs_21 : decode cX5_runs 21 = .ok (.iload_n 2, 1) := dk_28 (dk_at dksX5_runs_0 21 rfl rfl)
theorem dX5_runs_22 : decode cX5_runs 22 = .ok (.if_icmp .ge 160, 3) := dk_162 0 160 (dk_at dksX5_runs_1 0 rfl rfl)
theorem dX5_runs_25 : decode cX5_runs 25 = .ok (.aload_n 0, 1) := dk_42 (dk_at dksX5_runs_1 3 rfl rfl)
theorem dX5_runs_26 : decode cX5_runs 26 = .ok (.iload_n 1, 1) := dk_27 (dk_at dksX5_runs_1 4 rfl rfl)
theorem dX5_runs_27 : decode cX5_runs 27 = .ok (.iconst 1, 1) := dk_4 (dk_at dksX5_runs_1 5 rfl rfl)
theorem dX5_runs_28 : decode cX5_runs 28 = .ok (.invokevirtual 497, 3) := dk_182 1 241 (dk_at dksX5_runs_1 6 rfl rfl)
theorem dX5_runs_31 : decode cX5_runs 31 = .ok (.aload_n 0, 1) := dk_42 (dk_at dksX5_runs_1 9 rfl rfl)
theorem dX5_runs_32 : decode cX5_runs 32 = .ok (.getfield 492, 3) := dk_180 1 236 (dk_at dksX5_runs_1 10 rfl rfl)
theorem dX5_runs_35 : decode cX5_runs 35 = .ok (.ifCond .ne 6, 3) := dk_154 0 6 (dk_at dksX5_runs_1 13 rfl rfl)
theorem dX5_runs_38 : decode cX5_runs 38 = .ok (.goto 138, 3) := dk_167 0 138 (dk_at dksX5_runs_1 16 rfl rfl)
theorem dX5_runs_41 : decode cX5_runs 41 = .ok (.aload_n 0, 1) := dk_42 (dk_at dksX5_runs_1 19 rfl rfl)
theorem dX5_runs_42 : decode cX5_runs 42 = .ok (.getfield 486, 3) := dk_180 1 230 (dk_at dksX5_runs_1 20 rfl rfl)
theorem dX5_runs_45 : decode cX5_runs 45 = .ok (.ifCond .ne 6, 3) := dk_154 0 6 (dk_at dksX5_runs_2 0 rfl rfl)
theorem dX5_runs_48 : decode cX5_runs 48 = .ok (.bipush (-3), 2) := dk_16 253 (dk_at dksX5_runs_2 3 rfl rfl)
theorem dX5_runs_50 : decode cX5_runs 50 = .ok (.ireturn, 1) := dk_172 (dk_at dksX5_runs_2 5 rfl rfl)
theorem dX5_runs_51 : decode cX5_runs 51 = .ok (.aload_n 0, 1) := dk_42 (dk_at dksX5_runs_2 6 rfl rfl)
theorem dX5_runs_52 : decode cX5_runs 52 = .ok (.getfield 483, 3) := dk_180 1 227 (dk_at dksX5_runs_2 7 rfl rfl)
theorem dX5_runs_55 : decode cX5_runs 55 = .ok (.bipush 26, 2) := dk_16 26 (dk_at dksX5_runs_2 10 rfl rfl)
theorem dX5_runs_57 : decode cX5_runs 57 = .ok (.if_icmp .ne 10, 3) := dk_160 0 10 (dk_at dksX5_runs_2 12 rfl rfl)
theorem dX5_runs_60 : decode cX5_runs 60 = .ok (.aload_n 0, 1) := dk_42 (dk_at dksX5_runs_2 15 rfl rfl)
theorem dX5_runs_61 : decode cX5_runs 61 = .ok (.invokevirtual 387, 3) := dk_182 1 131 (dk_at dksX5_runs_2 16 rfl rfl)
theorem dX5_runs_64 : decode cX5_runs 64 = .ok (.goto 77, 3) := dk_167 0 77 (dk_at dksX5_runs_2 19 rfl rfl)
theorem dX5_runs_67 : decode cX5_runs 67 = .ok (.aload_n 0, 1) := dk_42 (dk_at dksX5_runs_2 22 rfl rfl)
theorem dX5_runs_68 : decode cX5_runs 68 = .ok (.getfield 483, 3) := dk_180 1 227 (dk_at dksX5_runs_3 0 rfl rfl)
theorem dX5_runs_71 : decode cX5_runs 71 = .ok (.bipush 24, 2) := dk_16 24 (dk_at dksX5_runs_3 3 rfl rfl)
theorem dX5_runs_73 : decode cX5_runs 73 = .ok (.if_icmp .ne 37, 3) := dk_160 0 37 (dk_at dksX5_runs_3 5 rfl rfl)
theorem dX5_runs_76 : decode cX5_runs 76 = .ok (.aload_n 0, 1) := dk_42 (dk_at dksX5_runs_3 8 rfl rfl)
theorem dX5_runs_77 : decode cX5_runs 77 = .ok (.aload_n 0, 1) := dk_42 (dk_at dksX5_runs_3 9 rfl rfl)
theorem dX5_runs_78 : decode cX5_runs 78 = .ok (.getfield 110, 3) := dk_180 0 110 (dk_at dksX5_runs_3 10 rfl rfl)
theorem dX5_runs_81 : decode cX5_runs 81 = .ok (.iconst 0, 1) := dk_3 (dk_at dksX5_runs_3 13 rfl rfl)
theorem dX5_runs_82 : decode cX5_runs 82 = .ok (.laload, 1) := dk_47 (dk_at dksX5_runs_3 14 rfl rfl)
theorem dX5_runs_83 : decode cX5_runs 83 = .ok (.invokestatic 501, 3) := dk_184 1 245 (dk_at dksX5_runs_3 15 rfl rfl)
theorem dX5_runs_86 : decode cX5_runs 86 = .ok (.aload_n 0, 1) := dk_42 (dk_at dksX5_runs_3 18 rfl rfl)
theorem dX5_runs_87 : decode cX5_runs 87 = .ok (.getfield 110, 3) := dk_180 0 110 (dk_at dksX5_runs_3 19 rfl rfl)
theorem dX5_runs_90 : decode cX5_runs 90 = .ok (.iconst 1, 1) := dk_4 (dk_at dksX5_runs_3 22 rfl rfl)
theorem dX5_runs_91 : decode cX5_runs 91 = .ok (.laload, 1) := dk_47 (dk_at dksX5_runs_3 23 rfl rfl)
theorem dX5_runs_92 : decode cX5_runs 92 = .ok (.invokestatic 501, 3) := dk_184 1 245 (dk_at dksX5_runs_4 0 rfl rfl)
theorem dX5_runs_95 : decode cX5_runs 95 = .ok (.aload_n 0, 1) := dk_42 (dk_at dksX5_runs_4 3 rfl rfl)
theorem dX5_runs_96 : decode cX5_runs 96 = .ok (.getfield 110, 3) := dk_180 0 110 (dk_at dksX5_runs_4 4 rfl rfl)
theorem dX5_runs_99 : decode cX5_runs 99 = .ok (.iconst 2, 1) := dk_5 (dk_at dksX5_runs_4 7 rfl rfl)
theorem dX5_runs_100 : decode cX5_runs 100 = .ok (.laload, 1) := dk_47 (dk_at dksX5_runs_4 8 rfl rfl)
theorem dX5_runs_101 : decode cX5_runs 101 = .ok (.invokestatic 501, 3) := dk_184 1 245 (dk_at dksX5_runs_4 9 rfl rfl)
theorem dX5_runs_104 : decode cX5_runs 104 = .ok (.invokevirtual 378, 3) := dk_182 1 122 (dk_at dksX5_runs_4 12 rfl rfl)
theorem dX5_runs_107 : decode cX5_runs 107 = .ok (.goto 34, 3) := dk_167 0 34 (dk_at dksX5_runs_4 15 rfl rfl)
theorem dX5_runs_110 : decode cX5_runs 110 = .ok (.aload_n 0, 1) := dk_42 (dk_at dksX5_runs_4 18 rfl rfl)
theorem dX5_runs_111 : decode cX5_runs 111 = .ok (.aload_n 0, 1) := dk_42 (dk_at dksX5_runs_4 19 rfl rfl)
theorem dX5_runs_112 : decode cX5_runs 112 = .ok (.getfield 110, 3) := dk_180 0 110 (dk_at dksX5_runs_4 20 rfl rfl)
theorem dX5_runs_115 : decode cX5_runs 115 = .ok (.iconst 0, 1) := dk_3 (dk_at dksX5_runs_4 23 rfl rfl)
theorem dX5_runs_116 : decode cX5_runs 116 = .ok (.laload, 1) := dk_47 (dk_at dksX5_runs_5 0 rfl rfl)
theorem dX5_runs_117 : decode cX5_runs 117 = .ok (.invokestatic 501, 3) := dk_184 1 245 (dk_at dksX5_runs_5 1 rfl rfl)
theorem dX5_runs_120 : decode cX5_runs 120 = .ok (.aload_n 0, 1) := dk_42 (dk_at dksX5_runs_5 4 rfl rfl)
theorem dX5_runs_121 : decode cX5_runs 121 = .ok (.getfield 110, 3) := dk_180 0 110 (dk_at dksX5_runs_5 5 rfl rfl)
theorem dX5_runs_124 : decode cX5_runs 124 = .ok (.iconst 1, 1) := dk_4 (dk_at dksX5_runs_5 8 rfl rfl)
theorem dX5_runs_125 : decode cX5_runs 125 = .ok (.laload, 1) := dk_47 (dk_at dksX5_runs_5 9 rfl rfl)
theorem dX5_runs_126 : decode cX5_runs 126 = .ok (.invokestatic 501, 3) := dk_184 1 245 (dk_at dksX5_runs_5 10 rfl rfl)
theorem dX5_runs_129 : decode cX5_runs 129 = .ok (.aload_n 0, 1) := dk_42 (dk_at dksX5_runs_5 13 rfl rfl)
theorem dX5_runs_130 : decode cX5_runs 130 = .ok (.getfield 110, 3) := dk_180 0 110 (dk_at dksX5_runs_5 14 rfl rfl)
theorem dX5_runs_133 : decode cX5_runs 133 = .ok (.iconst 2, 1) := dk_5 (dk_at dksX5_runs_5 17 rfl rfl)
theorem dX5_runs_134 : decode cX5_runs 134 = .ok (.laload, 1) := dk_47 (dk_at dksX5_runs_5 18 rfl rfl)
theorem dX5_runs_135 : decode cX5_runs 135 = .ok (.invokestatic 501, 3) := dk_184 1 245 (dk_at dksX5_runs_5 19 rfl rfl)
theorem dX5_runs_138 : decode cX5_runs 138 = .ok (.invokevirtual 384, 3) := dk_182 1 128 (dk_at dksX5_runs_6 0 rfl rfl)
theorem dX5_runs_141 : decode cX5_runs 141 = .ok (.istore 5, 2) := dk_54 5 (dk_at dksX5_runs_6 3 rfl rfl)
theorem dX5_runs_143 : decode cX5_runs 143 = .ok (.iload 5, 2) := dk_21 5 (dk_at dksX5_runs_6 5 rfl rfl)
theorem dX5_runs_145 : decode cX5_runs 145 = .ok (.ifCond .ge 6, 3) := dk_156 0 6 (dk_at dksX5_runs_6 7 rfl rfl)
theorem dX5_runs_148 : decode cX5_runs 148 = .ok (.iload 5, 2) := dk_21 5 (dk_at dksX5_runs_6 10 rfl rfl)
theorem dX5_runs_150 : decode cX5_runs 150 = .ok (.ireturn, 1) := dk_172 (dk_at dksX5_runs_6 12 rfl rfl)
theorem dX5_runs_151 : decode cX5_runs 151 = .ok (.aload_n 0, 1) := dk_42 (dk_at dksX5_runs_6 13 rfl rfl)
theorem dX5_runs_152 : decode cX5_runs 152 = .ok (.getfield 483, 3) := dk_180 1 227 (dk_at dksX5_runs_6 14 rfl rfl)
theorem dX5_runs_155 : decode cX5_runs 155 = .ok (.bipush 26, 2) := dk_16 26 (dk_at dksX5_runs_6 17 rfl rfl)
theorem dX5_runs_157 : decode cX5_runs 157 = .ok (.if_icmp .eq 9, 3) := dk_159 0 9 (dk_at dksX5_runs_6 19 rfl rfl)
theorem dX5_runs_160 : decode cX5_runs 160 = .ok (.aload_n 0, 1) := dk_42 (dk_at dksX5_runs_6 22 rfl rfl)
theorem dX5_runs_161 : decode cX5_runs 161 = .ok (.iload 5, 2) := dk_21 5 (dk_at dksX5_runs_7 0 rfl rfl)
theorem dX5_runs_163 : decode cX5_runs 163 = .ok (.putfield 474, 3) := dk_181 1 218 (dk_at dksX5_runs_7 2 rfl rfl)
theorem dX5_runs_166 : decode cX5_runs 166 = .ok (.aload_n 0, 1) := dk_42 (dk_at dksX5_runs_7 5 rfl rfl)
theorem dX5_runs_167 : decode cX5_runs 167 = .ok (.dup, 1) := dk_89 (dk_at dksX5_runs_7 6 rfl rfl)
theorem dX5_runs_168 : decode cX5_runs 168 = .ok (.getfield 471, 3) := dk_180 1 215 (dk_at dksX5_runs_7 7 rfl rfl)
theorem dX5_runs_171 : decode cX5_runs 171 = .ok (.iconst 1, 1) := dk_4 (dk_at dksX5_runs_7 10 rfl rfl)
theorem dX5_runs_172 : decode cX5_runs 172 = .ok (.iadd, 1) := dk_96 (dk_at dksX5_runs_7 11 rfl rfl)
theorem dX5_runs_173 : decode cX5_runs 173 = .ok (.putfield 471, 3) := dk_181 1 215 (dk_at dksX5_runs_7 12 rfl rfl)
theorem dX5_runs_176 : decode cX5_runs 176 = .ok (.iinc 4 1, 3) := dk_132 4 1 (dk_at dksX5_runs_7 15 rfl rfl)
theorem dX5_runs_179 : decode cX5_runs 179 = .ok (.goto (-160), 3) := dk_167 255 96 (dk_at dksX5_runs_7 18 rfl rfl)
theorem dX5_runs_182 : decode cX5_runs 182 = .ok (.aload_n 0, 1) := dk_42 (dk_at dksX5_runs_7 21 rfl rfl)
theorem dX5_runs_183 : decode cX5_runs 183 = .ok (.iload_n 3, 1) := dk_29 (dk_at dksX5_runs_7 22 rfl rfl)
theorem dX5_runs_184 : decode cX5_runs 184 = .ok (.putfield 477, 3) := dk_181 1 221 (dk_at dksX5_runs_8 0 rfl rfl)
theorem dX5_runs_187 : decode cX5_runs 187 = .ok (.iconst 0, 1) := dk_3 (dk_at dksX5_runs_8 3 rfl rfl)
theorem dX5_runs_188 : decode cX5_runs 188 = .ok (.ireturn, 1) := dk_172 (dk_at dksX5_runs_8 4 rfl rfl)
noncomputable def f_X5_runs_176 (E : ax_E) (x0 : Option Nat) (x1 : Int) (x2 : Int) (x3 : Int) (x4 : Int) (h : ax_H) : Option ((Int × ax_H) ⊕ (Int × ax_H)) :=
  some (.inl ((x4 + 1), h))
noncomputable def f_X5_runs_166 (E : ax_E) (x0 : Option Nat) (x1 : Int) (x2 : Int) (x3 : Int) (x4 : Int) (h : ax_H) : Option ((Int × ax_H) ⊕ (Int × ax_H)) :=
  (ax_gI E h x0 5 48).bind fun v1 =>
  (ax_pI h x0 5 48 (v1 + 1)).bind fun h2 =>
  f_X5_runs_176 E x0 x1 x2 x3 x4 h2
noncomputable def f_X5_runs_141 (E : ax_E) (x0 : Option Nat) (x1 : Int) (x2 : Int) (x3 : Int) (x4 : Int) (s0 : Int) (h : ax_H) : Option ((Int × ax_H) ⊕ (Int × ax_H)) :=
  if i2 s0 < 0 then
    (some (s0, h)).map Sum.inr
  else
    (ax_gI E h x0 5 52).bind fun v1 =>
    if i2 v1 = i2 26 then
      f_X5_runs_166 E x0 x1 x2 x3 x4 h
    else
      (ax_pI h x0 5 49 s0).bind fun h2 =>
      f_X5_runs_166 E x0 x1 x2 x3 x4 h2
noncomputable def lb_X5_runs_19 (E : ax_E) (x0 : Option Nat) (x1 : Int) (x2 : Int) (x3 : Int) (x4 : Int) (h : ax_H) : Option ((Int × ax_H) ⊕ (Int × ax_H)) :=
  if i2 x4 < i2 x2 then
    (ax_ce E h x0 5).bind fun _ => (f_X5_goesAlong E x0 x1 1 h).bind fun h1 =>
    (ax_gI E h1 x0 5 54).bind fun v2 =>
    if i2 v2 = 0 then
      f_X5_runs_176 E x0 x1 x2 x3 x4 h1
    else
      (ax_gI E h1 x0 5 53).bind fun v3 =>
      if i2 v3 = 0 then
        (some ((-3), h1)).map Sum.inr
      else
        (ax_gI E h1 x0 5 52).bind fun v4 =>
        if i2 v4 = i2 26 then
          (ax_ce E h1 x0 5).bind fun _ => (f_X5_waitsKept E x0 h1).bind fun q5 =>
          f_X5_runs_141 E x0 x1 x2 x3 x4 q5.1 q5.2
        else
          (ax_gI E h1 x0 5 52).bind fun v6 =>
          if i2 v6 = i2 24 then
            (ax_gR E h1 x0 5 55).bind fun v7 =>
            (ax_ld E h1 v7 103 0).bind fun v8 =>
            (f_X5_small E v8 h1).bind fun q9 =>
            (ax_gR E q9.2 x0 5 55).bind fun v10 =>
            (ax_ld E q9.2 v10 103 1).bind fun v11 =>
            (f_X5_small E v11 q9.2).bind fun q12 =>
            (ax_gR E q12.2 x0 5 55).bind fun v13 =>
            (ax_ld E q12.2 v13 103 2).bind fun v14 =>
            (f_X5_small E v14 q12.2).bind fun q15 =>
            (ax_ce E q15.2 x0 5).bind fun _ => (f_X5_lendsKept E x0 q9.1 q12.1 q15.1 q15.2).bind fun q16 =>
            f_X5_runs_141 E x0 x1 x2 x3 x4 q16.1 q16.2
          else
            (ax_gR E h1 x0 5 55).bind fun v17 =>
            (ax_ld E h1 v17 103 0).bind fun v18 =>
            (f_X5_small E v18 h1).bind fun q19 =>
            (ax_gR E q19.2 x0 5 55).bind fun v20 =>
            (ax_ld E q19.2 v20 103 1).bind fun v21 =>
            (f_X5_small E v21 q19.2).bind fun q22 =>
            (ax_gR E q22.2 x0 5 55).bind fun v23 =>
            (ax_ld E q22.2 v23 103 2).bind fun v24 =>
            (f_X5_small E v24 q22.2).bind fun q25 =>
            (ax_ce E q25.2 x0 5).bind fun _ => (f_X5_repaysKept E x0 q19.1 q22.1 q25.1 q25.2).bind fun q26 =>
            f_X5_runs_141 E x0 x1 x2 x3 x4 q26.1 q26.2
  else
    ((ax_pI h x0 5 50 x3).bind fun h27 =>
    some (0, h27)).map Sum.inr
noncomputable def f_X5_runs_19 (E : ax_E) (x0 : Option Nat) (x1 : Int) (x2 : Int) (x3 : Int) (x4 : Int) (h : ax_H) : Option (Int × ax_H) :=
  ax_iter (fun s : Int × ax_H => lb_X5_runs_19 E x0 x1 x2 x3 s.1 s.2) (x4, h)
noncomputable def f_X5_runs (E : ax_E) (x0 : Option Nat) (x1 : Int) (h : ax_H) : Option (Int × ax_H) :=
  (ax_ce E h x0 5).bind fun _ => (f_X5_goesAlong E x0 x1 0 h).bind fun h1 =>
  (ax_gI E h1 x0 5 51).bind fun v2 =>
  (ax_gI E h1 x0 5 20).bind fun v3 =>
  f_X5_runs_19 E x0 x1 v2 v3 0 h1
def pi_X5_runs_19 (G : ax_G) (X : ax_X) (Q : State → Prop) (x0 : Option Nat) (x1 : Int) (x2 : Int) (x3 : Int) : Int × ax_H → Prop := fun s => ∀ ls : Array Slot, ax_hl ls 6 [(0, .inr (.inr x0)), (1, .inl x1), (2, .inl x2), (3, .inl x3), (4, .inl s.1)] → ax_W G X Q s.2 19 ls []
set_option maxHeartbeats 4000000 in
theorem w_X5_runs_176 {l : Launch} {G : ax_G} {X : ax_X} {Q : State → Prop} {h0 h : ax_H} {ls : Array Slot} (hSF : ax_SF G) (B : ax_BL l G X cX5_runs 6 RX5 137 3559) (Z : ax_Z X h0 ((some FieldType.int))) (hn : X.2.2.2.2.2.2.2.2.1.name = yX5_runs.name) (x0 : Option Nat) (x1 : Int) (x2 : Int) (x3 : Int) (x4 : Int) {w : (Int × ax_H) ⊕ (Int × ax_H)} (hl : ax_hl ls 6 [(0, .inr (.inr x0)), (1, .inl x1), (2, .inl x2), (3, .inl x3), (4, .inl x4)]) (e : f_X5_runs_176 G.2.2 x0 x1 x2 x3 x4 h = some w) (hp : (ax_PL (pi_X5_runs_19 G X Q x0 x1 x2 x3) (fun w : Int × ax_H => Q = ax_Q G X h0 w.2 (some (.int (Int32.ofInt w.1))))) w) : ax_W G X Q h 176 ls [] := by
  unfold f_X5_runs_176 at e
  refine ax_iinc (L' := [(4, .inl (x4 + 1)), (0, .inr (.inr x0)), (1, .inl x1), (2, .inl x2), (3, .inl x3)]) B dX5_runs_176 hl 4 rfl (by decide) rfl (fun ls hl => ?_)
  refine ax_goto (tgt := 19) B dX5_runs_179 (by decide) ?_
  cases e
  exact hp _ (hl.sub [1, 2, 3, 4, 0] rfl)
set_option maxHeartbeats 4000000 in
theorem w_X5_runs_166 {l : Launch} {G : ax_G} {X : ax_X} {Q : State → Prop} {h0 h : ax_H} {ls : Array Slot} (hSF : ax_SF G) (B : ax_BL l G X cX5_runs 6 RX5 137 3559) (Z : ax_Z X h0 ((some FieldType.int))) (hn : X.2.2.2.2.2.2.2.2.1.name = yX5_runs.name) (x0 : Option Nat) (x1 : Int) (x2 : Int) (x3 : Int) (x4 : Int) {w : (Int × ax_H) ⊕ (Int × ax_H)} (hl : ax_hl ls 6 [(0, .inr (.inr x0)), (1, .inl x1), (2, .inl x2), (3, .inl x3), (4, .inl x4)]) (e : f_X5_runs_166 G.2.2 x0 x1 x2 x3 x4 h = some w) (hp : (ax_PL (pi_X5_runs_19 G X Q x0 x1 x2 x3) (fun w : Int × ax_H => Q = ax_Q G X h0 w.2 (some (.int (Int32.ofInt w.1))))) w) : ax_W G X Q h 166 ls [] := by
  unfold f_X5_runs_166 at e
  refine ax_aload_n B dX5_runs_166 rfl hl 0 rfl ?_
  refine ax_dup B dX5_runs_167 (va_rf_cat _) ?_
  refine ax_getI B ff_X5_471_5 (fun _ _ => rfl) dX5_runs_168 e (fun v1 e => ?_)
  refine ax_iconst B dX5_runs_171 ?_
  refine ax_iadd' B dX5_runs_172 ?_
  refine ax_putI B ff_X5_471_5 (Or.inl rfl) rfl dX5_runs_173 e (fun h2 e => ?_)
  exact w_X5_runs_176 hSF B Z hn x0 x1 x2 x3 x4 (hl.sub [0, 1, 2, 3, 4] rfl) e hp
set_option maxHeartbeats 4000000 in
theorem w_X5_runs_141 {l : Launch} {G : ax_G} {X : ax_X} {Q : State → Prop} {h0 h : ax_H} {ls : Array Slot} (hSF : ax_SF G) (B : ax_BL l G X cX5_runs 6 RX5 137 3559) (Z : ax_Z X h0 ((some FieldType.int))) (hn : X.2.2.2.2.2.2.2.2.1.name = yX5_runs.name) (x0 : Option Nat) (x1 : Int) (x2 : Int) (x3 : Int) (x4 : Int) (s0 : Int) {w : (Int × ax_H) ⊕ (Int × ax_H)} (hl : ax_hl ls 6 [(0, .inr (.inr x0)), (1, .inl x1), (2, .inl x2), (3, .inl x3), (4, .inl x4)]) (e : f_X5_runs_141 G.2.2 x0 x1 x2 x3 x4 s0 h = some w) (hp : (ax_PL (pi_X5_runs_19 G X Q x0 x1 x2 x3) (fun w : Int × ax_H => Q = ax_Q G X h0 w.2 (some (.int (Int32.ofInt w.1))))) w) : ax_W G X Q h 141 ls [.int (Int32.ofInt s0)] := by
  unfold f_X5_runs_141 at e
  refine ax_istore (L' := [(5, .inl s0), (0, .inr (.inr x0)), (1, .inl x1), (2, .inl x2), (3, .inl x3), (4, .inl x4)]) B dX5_runs_141 hl (by decide) rfl (fun ls hl => ?_)
  refine ax_iload B dX5_runs_143 hl 0 rfl ?_
  refine ax_if_ge (tgt := 151) B dX5_runs_145 (by decide) e (fun e => ?_) (fun e => ?_)
  · obtain ⟨w, e9_1, rfl⟩ := Option.map_eq_some_iff.mp e
    have e := e9_1
    refine ax_iload B dX5_runs_148 hl 0 rfl ?_
    have e8 := e
    have hp : Q = _ := hp
    subst hp
    exact ax_ireturn B Z dX5_runs_150 e8
  · refine ax_aload_n B dX5_runs_151 rfl hl 1 rfl ?_
    refine ax_getI B ff_X5_483_5 (fun _ _ => rfl) dX5_runs_152 e (fun v1 e => ?_)
    refine ax_bipush B dX5_runs_155 (by decide) ?_
    refine ax_icmp_eq (tgt := 166) B dX5_runs_157 (by decide) e (fun e => ?_) (fun e => ?_)
    · exact w_X5_runs_166 hSF B Z hn x0 x1 x2 x3 x4 (hl.sub [1, 2, 3, 4, 5] rfl) e hp
    · refine ax_aload_n B dX5_runs_160 rfl hl 1 rfl ?_
      refine ax_iload B dX5_runs_161 hl 0 rfl ?_
      refine ax_putI B ff_X5_474_5 (Or.inl rfl) rfl dX5_runs_163 e (fun h2 e => ?_)
      exact w_X5_runs_166 hSF B Z hn x0 x1 x2 x3 x4 (hl.sub [1, 2, 3, 4, 5] rfl) e hp
set_option maxHeartbeats 4000000 in
theorem wb_X5_runs_19 {l : Launch} {G : ax_G} {X : ax_X} {Q : State → Prop} {h0 h : ax_H} {ls : Array Slot} (hSF : ax_SF G) (B : ax_BL l G X cX5_runs 6 RX5 137 3559) (Z : ax_Z X h0 ((some FieldType.int))) (hn : X.2.2.2.2.2.2.2.2.1.name = yX5_runs.name) (x0 : Option Nat) (x1 : Int) (x2 : Int) (x3 : Int) (x4 : Int) {w : (Int × ax_H) ⊕ (Int × ax_H)} (hl : ax_hl ls 6 [(0, .inr (.inr x0)), (1, .inl x1), (2, .inl x2), (3, .inl x3), (4, .inl x4)]) (e : lb_X5_runs_19 G.2.2 x0 x1 x2 x3 x4 h = some w) (hp : (ax_PL (pi_X5_runs_19 G X Q x0 x1 x2 x3) (fun w : Int × ax_H => Q = ax_Q G X h0 w.2 (some (.int (Int32.ofInt w.1))))) w) : ax_W G X Q h 19 ls [] := by
  unfold lb_X5_runs_19 at e
  refine ax_iload B dX5_runs_19 hl 4 rfl ?_
  refine ax_iload_n B dX5_runs_21 rfl hl 2 rfl ?_
  refine ax_icmp_ge (tgt := 182) B dX5_runs_22 (by decide) e (fun e => ?_) (fun e => ?_)
  · refine ax_aload_n B dX5_runs_25 rfl hl 0 rfl ?_
    refine ax_iload_n B dX5_runs_26 rfl hl 1 rfl ?_
    refine ax_iconst B dX5_runs_27 ?_
    refine ax_ivV (y := yX5_goesAlong) (n := 2) (As := [.int (Int32.ofInt x1), .int (Int32.ofInt 1)]) B kd5 (lw_V q2686 q2688 qs122 q133 q2689) (by decide +kernel) ⟨Nat.le_of_ble_eq_true rfl, Nat.le_of_ble_eq_true rfl⟩ (fun w1 e1 => mt_X5_goesAlong l G hSF x0 x1 1 _ w1 e1) rfl hl.size (by decide) dX5_runs_28 e (fun h1 e => ?_)
    refine ax_aload_n B dX5_runs_31 rfl hl 0 rfl ?_
    refine ax_getI B ff_X5_492_5 (fun _ _ => rfl) dX5_runs_32 e (fun v2 e => ?_)
    refine ax_if_ne (tgt := 41) B dX5_runs_35 (by decide) e (fun e => ?_) (fun e => ?_)
    · refine ax_goto (tgt := 176) B dX5_runs_38 (by decide) ?_
      exact w_X5_runs_176 hSF B Z hn x0 x1 x2 x3 x4 (hl.sub [0, 1, 2, 3, 4] rfl) e hp
    · refine ax_aload_n B dX5_runs_41 rfl hl 0 rfl ?_
      refine ax_getI B ff_X5_486_5 (fun _ _ => rfl) dX5_runs_42 e (fun v3 e => ?_)
      refine ax_if_ne (tgt := 51) B dX5_runs_45 (by decide) e (fun e => ?_) (fun e => ?_)
      · obtain ⟨w, e9_2, rfl⟩ := Option.map_eq_some_iff.mp e
        have e := e9_2
        refine ax_bipush B dX5_runs_48 (by decide) ?_
        have e8 := e
        have hp : Q = _ := hp
        subst hp
        exact ax_ireturn B Z dX5_runs_50 e8
      · refine ax_aload_n B dX5_runs_51 rfl hl 0 rfl ?_
        refine ax_getI B ff_X5_483_5 (fun _ _ => rfl) dX5_runs_52 e (fun v4 e => ?_)
        refine ax_bipush B dX5_runs_55 (by decide) ?_
        refine ax_icmp_ne (tgt := 67) B dX5_runs_57 (by decide) e (fun e => ?_) (fun e => ?_)
        · refine ax_aload_n B dX5_runs_60 rfl hl 0 rfl ?_
          refine ax_ivI (y := yX5_waitsKept) (n := 0) (As := []) B kd5 (lw_V q2506 q2508 qs101 q133 q2509) (by decide +kernel) ⟨Nat.le_of_ble_eq_true rfl, Nat.le_of_ble_eq_true rfl⟩ (fun w1 e1 => mt_X5_waitsKept l G hSF x0 _ w1 e1) rfl hl.size (by decide) dX5_runs_61 e (fun q5 e => ?_)
          refine ax_goto (tgt := 141) B dX5_runs_64 (by decide) ?_
          exact w_X5_runs_141 hSF B Z hn x0 x1 x2 x3 x4 q5.1 (hl.sub [0, 1, 2, 3, 4] rfl) e hp
        · refine ax_aload_n B dX5_runs_67 rfl hl 0 rfl ?_
          refine ax_getI B ff_X5_483_5 (fun _ _ => rfl) dX5_runs_68 e (fun v6 e => ?_)
          refine ax_bipush B dX5_runs_71 (by decide) ?_
          refine ax_icmp_ne (tgt := 110) B dX5_runs_73 (by decide) e (fun e => ?_) (fun e => ?_)
          · refine ax_aload_n B dX5_runs_76 rfl hl 0 rfl ?_
            refine ax_aload_n B dX5_runs_77 rfl hl 0 rfl ?_
            refine ax_getR B ff_X5_110_5 (fun _ _ => rfl) dX5_runs_78 e (fun v7 e => ?_)
            refine ax_iconst B dX5_runs_81 ?_
            refine ax_lald B kd103 dX5_runs_82 e (fun v8 e => ?_)
            refine ax_isI (y := yX5_small) (n := 1) (As := [.long (Int64.ofInt v8)]) B (lw_S q2690 q2691 q133 q2692) (by decide +kernel) ⟨Nat.le_of_ble_eq_true rfl, Nat.le_of_ble_eq_true rfl⟩ (fun w1 e1 => mt_X5_small l G hSF v8 _ w1 e1) rfl hl.size (by simp only [List.map_cons, List.map_nil, List.sum_cons, List.sum_nil, va_rf_cat, ax_catI, ax_catL]; decide) dX5_runs_83 e (fun q9 e => ?_)
            refine ax_aload_n B dX5_runs_86 rfl hl 0 rfl ?_
            refine ax_getR B ff_X5_110_5 (fun _ _ => rfl) dX5_runs_87 e (fun v10 e => ?_)
            refine ax_iconst B dX5_runs_90 ?_
            refine ax_lald B kd103 dX5_runs_91 e (fun v11 e => ?_)
            refine ax_isI (y := yX5_small) (n := 1) (As := [.long (Int64.ofInt v11)]) B (lw_S q2690 q2691 q133 q2692) (by decide +kernel) ⟨Nat.le_of_ble_eq_true rfl, Nat.le_of_ble_eq_true rfl⟩ (fun w1 e1 => mt_X5_small l G hSF v11 _ w1 e1) rfl hl.size (by simp only [List.map_cons, List.map_nil, List.sum_cons, List.sum_nil, va_rf_cat, ax_catI, ax_catL]; decide) dX5_runs_92 e (fun q12 e => ?_)
            refine ax_aload_n B dX5_runs_95 rfl hl 0 rfl ?_
            refine ax_getR B ff_X5_110_5 (fun _ _ => rfl) dX5_runs_96 e (fun v13 e => ?_)
            refine ax_iconst B dX5_runs_99 ?_
            refine ax_lald B kd103 dX5_runs_100 e (fun v14 e => ?_)
            refine ax_isI (y := yX5_small) (n := 1) (As := [.long (Int64.ofInt v14)]) B (lw_S q2690 q2691 q133 q2692) (by decide +kernel) ⟨Nat.le_of_ble_eq_true rfl, Nat.le_of_ble_eq_true rfl⟩ (fun w1 e1 => mt_X5_small l G hSF v14 _ w1 e1) rfl hl.size (by simp only [List.map_cons, List.map_nil, List.sum_cons, List.sum_nil, va_rf_cat, ax_catI, ax_catL]; decide) dX5_runs_101 e (fun q15 e => ?_)
            refine ax_ivI (y := yX5_lendsKept) (n := 3) (As := [.int (Int32.ofInt q9.1), .int (Int32.ofInt q12.1), .int (Int32.ofInt q15.1)]) B kd5 (lw_V q2458 q2460 qs91 q133 q2461) (by decide +kernel) ⟨Nat.le_of_ble_eq_true rfl, Nat.le_of_ble_eq_true rfl⟩ (fun w1 e1 => mt_X5_lendsKept l G hSF x0 q9.1 q12.1 q15.1 _ w1 e1) rfl hl.size (by decide) dX5_runs_104 e (fun q16 e => ?_)
            refine ax_goto (tgt := 141) B dX5_runs_107 (by decide) ?_
            exact w_X5_runs_141 hSF B Z hn x0 x1 x2 x3 x4 q16.1 (hl.sub [0, 1, 2, 3, 4] rfl) e hp
          · refine ax_aload_n B dX5_runs_110 rfl hl 0 rfl ?_
            refine ax_aload_n B dX5_runs_111 rfl hl 0 rfl ?_
            refine ax_getR B ff_X5_110_5 (fun _ _ => rfl) dX5_runs_112 e (fun v17 e => ?_)
            refine ax_iconst B dX5_runs_115 ?_
            refine ax_lald B kd103 dX5_runs_116 e (fun v18 e => ?_)
            refine ax_isI (y := yX5_small) (n := 1) (As := [.long (Int64.ofInt v18)]) B (lw_S q2690 q2691 q133 q2692) (by decide +kernel) ⟨Nat.le_of_ble_eq_true rfl, Nat.le_of_ble_eq_true rfl⟩ (fun w1 e1 => mt_X5_small l G hSF v18 _ w1 e1) rfl hl.size (by simp only [List.map_cons, List.map_nil, List.sum_cons, List.sum_nil, va_rf_cat, ax_catI, ax_catL]; decide) dX5_runs_117 e (fun q19 e => ?_)
            refine ax_aload_n B dX5_runs_120 rfl hl 0 rfl ?_
            refine ax_getR B ff_X5_110_5 (fun _ _ => rfl) dX5_runs_121 e (fun v20 e => ?_)
            refine ax_iconst B dX5_runs_124 ?_
            refine ax_lald B kd103 dX5_runs_125 e (fun v21 e => ?_)
            refine ax_isI (y := yX5_small) (n := 1) (As := [.long (Int64.ofInt v21)]) B (lw_S q2690 q2691 q133 q2692) (by decide +kernel) ⟨Nat.le_of_ble_eq_true rfl, Nat.le_of_ble_eq_true rfl⟩ (fun w1 e1 => mt_X5_small l G hSF v21 _ w1 e1) rfl hl.size (by simp only [List.map_cons, List.map_nil, List.sum_cons, List.sum_nil, va_rf_cat, ax_catI, ax_catL]; decide) dX5_runs_126 e (fun q22 e => ?_)
            refine ax_aload_n B dX5_runs_129 rfl hl 0 rfl ?_
            refine ax_getR B ff_X5_110_5 (fun _ _ => rfl) dX5_runs_130 e (fun v23 e => ?_)
            refine ax_iconst B dX5_runs_133 ?_
            refine ax_lald B kd103 dX5_runs_134 e (fun v24 e => ?_)
            refine ax_isI (y := yX5_small) (n := 1) (As := [.long (Int64.ofInt v24)]) B (lw_S q2690 q2691 q133 q2692) (by decide +kernel) ⟨Nat.le_of_ble_eq_true rfl, Nat.le_of_ble_eq_true rfl⟩ (fun w1 e1 => mt_X5_small l G hSF v24 _ w1 e1) rfl hl.size (by simp only [List.map_cons, List.map_nil, List.sum_cons, List.sum_nil, va_rf_cat, ax_catI, ax_catL]; decide) dX5_runs_135 e (fun q25 e => ?_)
            refine ax_ivI (y := yX5_repaysKept) (n := 3) (As := [.int (Int32.ofInt q19.1), .int (Int32.ofInt q22.1), .int (Int32.ofInt q25.1)]) B kd5 (lw_V q2482 q2484 qs96 q133 q2485) (by decide +kernel) ⟨Nat.le_of_ble_eq_true rfl, Nat.le_of_ble_eq_true rfl⟩ (fun w1 e1 => mt_X5_repaysKept l G hSF x0 q19.1 q22.1 q25.1 _ w1 e1) rfl hl.size (by decide) dX5_runs_138 e (fun q26 e => ?_)
            exact w_X5_runs_141 hSF B Z hn x0 x1 x2 x3 x4 q26.1 (hl.sub [0, 1, 2, 3, 4] rfl) e hp
  · obtain ⟨w, e9_3, rfl⟩ := Option.map_eq_some_iff.mp e
    have e := e9_3
    refine ax_aload_n B dX5_runs_182 rfl hl 0 rfl ?_
    refine ax_iload_n B dX5_runs_183 rfl hl 3 rfl ?_
    refine ax_putI B ff_X5_477_5 (Or.inl rfl) rfl dX5_runs_184 e (fun h27 e => ?_)
    refine ax_iconst B dX5_runs_187 ?_
    have e8 := e
    have hp : Q = _ := hp
    subst hp
    exact ax_ireturn B Z dX5_runs_188 e8
theorem w_X5_runs_19 {l : Launch} {G : ax_G} {X : ax_X} {Q : State → Prop} {h0 h : ax_H} {ls : Array Slot} (hSF : ax_SF G) (B : ax_BL l G X cX5_runs 6 RX5 137 3559) (Z : ax_Z X h0 ((some FieldType.int))) (hn : X.2.2.2.2.2.2.2.2.1.name = yX5_runs.name) (x0 : Option Nat) (x1 : Int) (x2 : Int) (x3 : Int) (x4 : Int) {w : Int × ax_H} (hl : ax_hl ls 6 [(0, .inr (.inr x0)), (1, .inl x1), (2, .inl x2), (3, .inl x3), (4, .inl x4)]) (e : f_X5_runs_19 G.2.2 x0 x1 x2 x3 x4 h = some w) (hp : (fun w : Int × ax_H => Q = ax_Q G X h0 w.2 (some (.int (Int32.ofInt w.1)))) w) : ax_W G X Q h 19 ls [] :=
  ax_iter_W (Pin := pi_X5_runs_19 G X Q x0 x1 x2 x3) (Pout := (fun w : Int × ax_H => Q = ax_Q G X h0 w.2 (some (.int (Int32.ofInt w.1))))) (fun s w e hp ls hl => wb_X5_runs_19 hSF B Z hn x0 x1 x2 x3 s.1 hl e hp) _ _ e hp ls hl
set_option maxHeartbeats 4000000 in
theorem we_X5_runs {l : Launch} {G : ax_G} {X : ax_X} {Q : State → Prop} {h0 h : ax_H} {ls : Array Slot} (hSF : ax_SF G) (B : ax_BL l G X cX5_runs 6 RX5 137 3559) (Z : ax_Z X h0 ((some FieldType.int))) (hn : X.2.2.2.2.2.2.2.2.1.name = yX5_runs.name) (x0 : Option Nat) (x1 : Int) {w : Int × ax_H} (hl : ax_hl ls 6 [(0, .inr (.inr x0)), (1, .inl x1)]) (e : f_X5_runs G.2.2 x0 x1 h = some w) (hp : (fun w : Int × ax_H => Q = ax_Q G X h0 w.2 (some (.int (Int32.ofInt w.1)))) w) : ax_W G X Q h 0 ls [] := by
  unfold f_X5_runs at e
  refine ax_aload_n B dX5_runs_0 rfl hl 0 rfl ?_
  refine ax_iload_n B dX5_runs_1 rfl hl 1 rfl ?_
  refine ax_iconst B dX5_runs_2 ?_
  refine ax_ivV (y := yX5_goesAlong) (n := 2) (As := [.int (Int32.ofInt x1), .int (Int32.ofInt 0)]) B kd5 (lw_V q2686 q2688 qs122 q133 q2689) (by decide +kernel) ⟨Nat.le_of_ble_eq_true rfl, Nat.le_of_ble_eq_true rfl⟩ (fun w1 e1 => mt_X5_goesAlong l G hSF x0 x1 0 _ w1 e1) rfl hl.size (by decide) dX5_runs_3 e (fun h1 e => ?_)
  refine ax_aload_n B dX5_runs_6 rfl hl 0 rfl ?_
  refine ax_getI B ff_X5_489_5 (fun _ _ => rfl) dX5_runs_7 e (fun v2 e => ?_)
  refine ax_istore_n (L' := [(2, .inl v2), (0, .inr (.inr x0)), (1, .inl x1)]) B dX5_runs_10 rfl hl (by decide) rfl (fun ls hl => ?_)
  refine ax_aload_n B dX5_runs_11 rfl hl 1 rfl ?_
  refine ax_getI B ff_X5_280_5 (fun _ _ => rfl) dX5_runs_12 e (fun v3 e => ?_)
  refine ax_istore_n (L' := [(3, .inl v3), (2, .inl v2), (0, .inr (.inr x0)), (1, .inl x1)]) B dX5_runs_15 rfl hl (by decide) rfl (fun ls hl => ?_)
  refine ax_iconst B dX5_runs_16 ?_
  refine ax_istore (L' := [(4, .inl 0), (3, .inl v3), (2, .inl v2), (0, .inr (.inr x0)), (1, .inl x1)]) B dX5_runs_17 hl (by decide) rfl (fun ls hl => ?_)
  exact w_X5_runs_19 hSF B Z hn x0 x1 v2 v3 0 (hl.sub [3, 4, 2, 1, 0] rfl) e hp
theorem mt_X5_runs (l : Launch) (G : ax_G) (hSF : ax_SF G) (x0 : Option Nat) (x1 : Int) (h : ax_H) (w : Int × ax_H) (e : f_X5_runs G.2.2 x0 x1 h = some w) : ax_Met l G yX5_runs cX5_runs 6 ((some FieldType.int)) 137 3559 [va_rf x0, .int (Int32.ofInt x1)] h w.2 (some (.int (Int32.ofInt w.1))) :=
  ax_enter [.inr (.inr x0), .inl x1] (y := yX5_runs) hSF (plainFor_of_name (by decide +kernel)) (Nat.le_of_ble_eq_true rfl) (fun X ls B Z hn hl => we_X5_runs hSF B Z hn x0 x1 hl e rfl)
def dkwX5_orders_8 : List UInt8 := [182, 0, 127, 172, 132, 3, 1, 167, 255, 164, 42, 42, 180, 1, 215, 182, 0, 14, 172]
abbrev dktX5_orders_8 : List UInt8 := dkwX5_orders_8 ++ []
def dkwX5_orders_7 : List UInt8 := [27, 181, 0, 11, 42, 29, 181, 0, 107, 42, 21, 4, 16, 251, 160, 0, 8, 16, 251, 167, 0, 5, 16, 253]
abbrev dktX5_orders_7 : List UInt8 := dkwX5_orders_7 ++ dktX5_orders_8
def dkwX5_orders_6 : List UInt8 := [162, 0, 23, 42, 180, 0, 65, 21, 5, 42, 180, 0, 68, 21, 5, 46, 79, 132, 5, 1, 167, 255, 231, 42]
abbrev dktX5_orders_6 : List UInt8 := dkwX5_orders_6 ++ dktX5_orders_7
def dkwX5_orders_5 : List UInt8 := [21, 4, 154, 0, 6, 167, 0, 69, 42, 16, 10, 182, 1, 171, 3, 54, 5, 21, 5, 17, 4, 160]
abbrev dktX5_orders_5 : List UInt8 := dkwX5_orders_5 ++ dktX5_orders_6
def dkwX5_orders_4 : List UInt8 := [17, 0, 163, 46, 96, 61, 3, 62, 42, 180, 1, 221, 28, 162, 0, 90, 42, 28, 182, 1, 224, 54, 4]
abbrev dktX5_orders_4 : List UInt8 := dkwX5_orders_4 ++ dktX5_orders_5
def dkwX5_orders_3 : List UInt8 := [181, 1, 215, 42, 2, 181, 1, 218, 42, 17, 9, 96, 181, 1, 221, 42, 180, 1, 221, 42, 180, 0, 24]
abbrev dktX5_orders_3 : List UInt8 := dkwX5_orders_3 ++ dktX5_orders_4
def dkwX5_orders_2 : List UInt8 := [27, 46, 79, 132, 1, 1, 167, 255, 234, 42, 180, 0, 11, 60, 42, 16, 6, 182, 1, 18, 42, 3]
abbrev dktX5_orders_2 : List UInt8 := dkwX5_orders_2 ++ dktX5_orders_3
def dkwX5_orders_1 : List UInt8 := [42, 16, 10, 182, 1, 165, 3, 60, 27, 17, 4, 160, 162, 0, 21, 42, 180, 0, 68, 27, 42, 180, 0, 65]
abbrev dktX5_orders_1 : List UInt8 := dkwX5_orders_1 ++ dktX5_orders_2
def dkwX5_orders_0 : List UInt8 := [42, 2, 181, 0, 107, 42, 4, 181, 0, 219, 42, 182, 1, 15, 154, 0, 10, 42, 16, 250, 182, 0, 127, 172]
abbrev dktX5_orders_0 : List UInt8 := dkwX5_orders_0 ++ dktX5_orders_1
theorem dksX5_orders_0 : cX5_orders.data.toList.drop 0 = dktX5_orders_0 := by decide +kernel
theorem dksX5_orders_1 : cX5_orders.data.toList.drop 24 = dktX5_orders_1 := dk_seg dksX5_orders_0 24 rfl rfl
theorem dksX5_orders_2 : cX5_orders.data.toList.drop 48 = dktX5_orders_2 := dk_seg dksX5_orders_1 24 rfl rfl
theorem dksX5_orders_3 : cX5_orders.data.toList.drop 70 = dktX5_orders_3 := dk_seg dksX5_orders_2 22 rfl rfl
theorem dksX5_orders_4 : cX5_orders.data.toList.drop 93 = dktX5_orders_4 := dk_seg dksX5_orders_3 23 rfl rfl
theorem dksX5_orders_5 : cX5_orders.data.toList.drop 116 = dktX5_orders_5 := dk_seg dksX5_orders_4 23 rfl rfl
theorem dksX5_orders_6 : cX5_orders.data.toList.drop 138 = dktX5_orders_6 := dk_seg dksX5_orders_5 22 rfl rfl
theorem dksX5_orders_7 : cX5_orders.data.toList.drop 162 = dktX5_orders_7 := dk_seg dksX5_orders_6 24 rfl rfl
theorem dksX5_orders_8 : cX5_orders.data.toList.drop 186 = dktX5_orders_8 := dk_seg dksX5_orders_7 24 rfl rfl
theorem dX5_orders_0 : decode cX5_orders 0 = .ok (.aload_n 0, 1) := dk_42 (dk_at dksX5_orders_0 0 rfl rfl)
theorem dX5_orders_1 : decode cX5_orders 1 = .ok (.iconst (-1), 1) := dk_2 (dk_at dksX5_orders_0 1 rfl rfl)
theorem dX5_orders_2 : decode cX5_orders 2 = .ok (.putfield 107, 3) := dk_181 0 107 (dk_at dksX5_orders_0 2 rfl rfl)
theorem dX5_orders_5 : decode cX5_orders 5 = .ok (.aload_n 0, 1) := dk_42 (dk_at dksX5_orders_0 5 rfl rfl)
theorem dX5_orders_6 : decode cX5_orders 6 = .ok (.iconst 1, 1) := dk_4 (dk_at dksX5_orders_0 6 rfl rfl)
theorem dX5_orders_7 : decode cX5_orders 7 = .ok (.putfield 219, 3) := dk_181 0 219 (dk_at dksX5_orders_0 7 rfl rfl)
theorem dX5_orders_10 : decode cX5_orders 10 = .ok (.aload_n 0, 1) := dk_42 (dk_at dksX5_orders_0 10 rfl rfl)
theorem dX5_orders_11 : decode cX5_orders 11 = .ok (.invokevirtual 271, 3) := dk_182 1 15 (dk_at dksX5_orders_0 11 rfl rfl)
theorem dX5_orders_14 : decode cX5_orders 14 = .ok (.ifCond .ne 10, 3) := dk_154 0 10 (dk_at dksX5_orders_0 14 rfl rfl)
theorem dX5_orders_17 : decode cX5_orders 17 = .ok (.aload_n 0, 1) := dk_42 (dk_at dksX5_orders_0 17 rfl rfl)
theorem dX5_orders_18 : decode cX5_orders 18 = .ok (.bipush (-6), 2) := dk_16 250 (dk_at dksX5_orders_0 18 rfl rfl)
theorem dX5_orders_20 : decode cX5_orders 20 = .ok (.invokevirtual 127, 3) := dk_182 0 127 (dk_at dksX5_orders_0 20 rfl rfl)
theorem dX5_orders_23 : decode cX5_orders 23 = .ok (.ireturn, 1) := dk_172 (dk_at dksX5_orders_0 23 rfl rfl)
theorem dX5_orders_24 : decode cX5_orders 24 = .ok (.aload_n 0, 1) := dk_42 (dk_at dksX5_orders_1 0 rfl rfl)
theorem dX5_orders_25 : decode cX5_orders 25 = .ok (.bipush 10, 2) := dk_16 10 (dk_at dksX5_orders_1 1 rfl rfl)
theorem dX5_orders_27 : decode cX5_orders 27 = .ok (.invokevirtual 421, 3) := dk_182 1 165 (dk_at dksX5_orders_1 3 rfl rfl)
theorem dX5_orders_30 : decode cX5_orders 30 = .ok (.iconst 0, 1) := dk_3 (dk_at dksX5_orders_1 6 rfl rfl)
theorem dX5_orders_31 : decode cX5_orders 31 = .ok (.istore_n 1, 1) := dk_60 (dk_at dksX5_orders_1 7 rfl rfl)
theorem dX5_orders_32 : decode cX5_orders 32 = .ok (.iload_n 1, 1) := dk_27 (dk_at dksX5_orders_1 8 rfl rfl)
theorem dX5_orders_33 : decode cX5_orders 33 = .ok (.sipush 1184, 3) := dk_17 4 160 (dk_at dksX5_orders_1 9 rfl rfl)
theorem dX5_orders_36 : decode cX5_orders 36 = .ok (.if_icmp .ge 21, 3) := dk_162 0 21 (dk_at dksX5_orders_1 12 rfl rfl)
theorem dX5_orders_39 : decode cX5_orders 39 = .ok (.aload_n 0, 1) := dk_42 (dk_at dksX5_orders_1 15 rfl rfl)
theorem dX5_orders_40 : decode cX5_orders 40 = .ok (.getfield 68, 3) := dk_180 0 68 (dk_at dksX5_orders_1 16 rfl rfl)
theorem dX5_orders_43 : decode cX5_orders 43 = .ok (.iload_n 1, 1) := dk_27 (dk_at dksX5_orders_1 19 rfl rfl)
theorem dX5_orders_44 : decode cX5_orders 44 = .ok (.aload_n 0, 1) := dk_42 (dk_at dksX5_orders_1 20 rfl rfl)
theorem dX5_orders_45 : decode cX5_orders 45 = .ok (.getfield 65, 3) := dk_180 0 65 (dk_at dksX5_orders_1 21 rfl rfl)
theorem dX5_orders_48 : decode cX5_orders 48 = .ok (.iload_n 1, 1) := dk_27 (dk_at dksX5_orders_2 0 rfl rfl)
theorem dX5_orders_49 : decode cX5_orders 49 = .ok (.iaload, 1) := dk_46 (dk_at dksX5_orders_2 1 rfl rfl)
theorem dX5_orders_50 : decode cX5_orders 50 = .ok (.iastore, 1) := dk_79 (dk_at dksX5_orders_2 2 rfl rfl)
theorem dX5_orders_51 : decode cX5_orders 51 = .ok (.iinc 1 1, 3) := dk_132 1 1 (dk_at dksX5_orders_2 3 rfl rfl)
theorem dX5_orders_54 : decode cX5_orders 54 = .ok (.goto (-22), 3) := dk_167 255 234 (dk_at dksX5_orders_2 6 rfl rfl)
theorem dX5_orders_57 : decode cX5_orders 57 = .ok (.aload_n 0, 1) := dk_42 (dk_at dksX5_orders_2 9 rfl rfl)
theorem dX5_orders_58 : decode cX5_orders 58 = .ok (.getfield 11, 3) := dk_180 0 11 (dk_at dksX5_orders_2 10 rfl rfl)
theorem dX5_orders_61 : decode cX5_orders 61 = .ok (.istore_n 1, 1) := dk_60 (dk_at dksX5_orders_2 13 rfl rfl)
theorem dX5_orders_62 : decode cX5_orders 62 = .ok (.aload_n 0, 1) := dk_42 (dk_at dksX5_orders_2 14 rfl rfl)
theorem dX5_orders_63 : decode cX5_orders 63 = .ok (.bipush 6, 2) := dk_16 6 (dk_at dksX5_orders_2 15 rfl rfl)
theorem dX5_orders_65 : decode cX5_orders 65 = .ok (.invokevirtual 274, 3) := dk_182 1 18 (dk_at dksX5_orders_2 17 rfl rfl)
theorem dX5_orders_68 : decode cX5_orders 68 = .ok (.aload_n 0, 1) := dk_42 (dk_at dksX5_orders_2 20 rfl rfl)
theorem dX5_orders_69 : decode cX5_orders 69 = .ok (.iconst 0, 1) := dk_3 (dk_at dksX5_orders_2 21 rfl rfl)
theorem dX5_orders_70 : decode cX5_orders 70 = .ok (.putfield 471, 3) := dk_181 1 215 (dk_at dksX5_orders_3 0 rfl rfl)
theorem dX5_orders_73 : decode cX5_orders 73 = .ok (.aload_n 0, 1) := dk_42 (dk_at dksX5_orders_3 3 rfl rfl)
theorem dX5_orders_74 : decode cX5_orders 74 = .ok (.iconst (-1), 1) := dk_2 (dk_at dksX5_orders_3 4 rfl rfl)
theorem dX5_orders_75 : decode cX5_orders 75 = .ok (.putfield 474, 3) := dk_181 1 218 (dk_at dksX5_orders_3 5 rfl rfl)
theorem dX5_orders_78 : decode cX5_orders 78 = .ok (.aload_n 0, 1) := dk_42 (dk_at dksX5_orders_3 8 rfl rfl)
theorem dX5_orders_79 : decode cX5_orders 79 = .ok (.sipush 2400, 3) := dk_17 9 96 (dk_at dksX5_orders_3 9 rfl rfl)
theorem dX5_orders_82 : decode cX5_orders 82 = .ok (.putfield 477, 3) := dk_181 1 221 (dk_at dksX5_orders_3 12 rfl rfl)
theorem dX5_orders_85 : decode cX5_orders 85 = .ok (.aload_n 0, 1) := dk_42 (dk_at dksX5_orders_3 15 rfl rfl)
theorem dX5_orders_86 : decode cX5_orders 86 = .ok (.getfield 477, 3) := dk_180 1 221 (dk_at dksX5_orders_3 16 rfl rfl)
theorem dX5_orders_89 : decode cX5_orders 89 = .ok (.aload_n 0, 1) := dk_42 (dk_at dksX5_orders_3 19 rfl rfl)
theorem dX5_orders_90 : decode cX5_orders 90 = .ok (.getfield 24, 3) := dk_180 0 24 (dk_at dksX5_orders_3 20 rfl rfl)
theorem dX5_orders_93 : decode cX5_orders 93 = .ok (.sipush 163, 3) := dk_17 0 163 (dk_at dksX5_orders_4 0 rfl rfl)
theorem dX5_orders_96 : decode cX5_orders 96 = .ok (.iaload, 1) := dk_46 (dk_at dksX5_orders_4 3 rfl rfl)
theorem dX5_orders_97 : decode cX5_orders 97 = .ok (.iadd, 1) := dk_96 (dk_at dksX5_orders_4 4 rfl rfl)
theorem dX5_orders_98 : decode cX5_orders 98 = .ok (.istore_n 2, 1) := dk_61 (dk_at dksX5_orders_4 5 rfl rfl)
theorem dX5_orders_99 : decode cX5_orders 99 = .ok (.iconst 0, 1) := dk_3 (dk_at dksX5_orders_4 6 rfl rfl)
theorem dX5_orders_100 : decode cX5_orders 100 = .ok (.istore_n 3, 1) := dk_62 (dk_at dksX5_orders_4 7 rfl rfl)
theorem dX5_orders_101 : decode cX5_orders 101 = .ok (.aload_n 0, 1) := dk_42 (dk_at dksX5_orders_4 8 rfl rfl)
theorem dX5_orders_102 : decode cX5_orders 102 = .ok (.getfield 477, 3) := dk_180 1 221 (dk_at dksX5_orders_4 9 rfl rfl)
theorem dX5_orders_105 : decode cX5_orders 105 = .ok (.iload_n 2, 1) := dk_28 (dk_at dksX5_orders_4 12 rfl rfl)
theorem dX5_orders_106 : decode cX5_orders 106 = .ok (.if_icmp .ge 90, 3) := dk_162 0 90 (dk_at dksX5_orders_4 13 rfl rfl)
theorem dX5_orders_109 : decode cX5_orders 109 = .ok (.aload_n 0, 1) := dk_42 (dk_at dksX5_orders_4 16 rfl rfl)
theorem dX5_orders_110 : decode cX5_orders 110 = .ok (.iload_n 2, 1) := dk_28 (dk_at dksX5_orders_4 17 rfl rfl)
theorem dX5_orders_111 : decode cX5_orders 111 = .ok (.invokevirtual 480, 3) := dk_182 1 224 (dk_at dksX5_orders_4 18 rfl rfl)
theorem dX5_orders_114 : decode cX5_orders 114 = .ok (.istore 4, 2) := dk_54 4 (dk_at dksX5_orders_4 21 rfl rfl)
theorem dX5_orders_116 : decode cX5_orders 116 = .ok (.iload 4, 2) := dk_21 4 (dk_at dksX5_orders_5 0 rfl rfl)
theorem dX5_orders_118 : decode cX5_orders 118 = .ok (.ifCond .ne 6, 3) := dk_154 0 6 (dk_at dksX5_orders_5 2 rfl rfl)
theorem dX5_orders_121 : decode cX5_orders 121 = .ok (.goto 69, 3) := dk_167 0 69 (dk_at dksX5_orders_5 5 rfl rfl)
theorem dX5_orders_124 : decode cX5_orders 124 = .ok (.aload_n 0, 1) := dk_42 (dk_at dksX5_orders_5 8 rfl rfl)
theorem dX5_orders_125 : decode cX5_orders 125 = .ok (.bipush 10, 2) := dk_16 10 (dk_at dksX5_orders_5 9 rfl rfl)
theorem dX5_orders_127 : decode cX5_orders 127 = .ok (.invokevirtual 427, 3) := dk_182 1 171 (dk_at dksX5_orders_5 11 rfl rfl)
theorem dX5_orders_130 : decode cX5_orders 130 = .ok (.iconst 0, 1) := dk_3 (dk_at dksX5_orders_5 14 rfl rfl)
theorem dX5_orders_131 : decode cX5_orders 131 = .ok (.istore 5, 2) := dk_54 5 (dk_at dksX5_orders_5 15 rfl rfl)
theorem dX5_orders_133 : decode cX5_orders 133 = .ok (.iload 5, 2) := dk_21 5 (dk_at dksX5_orders_5 17 rfl rfl)
theorem dX5_orders_135 : decode cX5_orders 135 = .ok (.sipush 1184, 3) := dk_17 4 160 (dk_at dksX5_orders_5 19 rfl rfl)
theorem dX5_orders_138 : decode cX5_orders 138 = .ok (.if_icmp .ge 23, 3) := dk_162 0 23 (dk_at dksX5_orders_6 0 rfl rfl)
theorem dX5_orders_141 : decode cX5_orders 141 = .ok (.aload_n 0, 1) := dk_42 (dk_at dksX5_orders_6 3 rfl rfl)
theorem dX5_orders_142 : decode cX5_orders 142 = .ok (.getfield 65, 3) := dk_180 0 65 (dk_at dksX5_orders_6 4 rfl rfl)
theorem dX5_orders_145 : decode cX5_orders 145 = .ok (.iload 5, 2) := dk_21 5 (dk_at dksX5_orders_6 7 rfl rfl)
theorem dX5_orders_147 : decode cX5_orders 147 = .ok (.aload_n 0, 1) := dk_42 (dk_at dksX5_orders_6 9 rfl rfl)
theorem dX5_orders_148 : decode cX5_orders 148 = .ok (.getfield 68, 3) := dk_180 0 68 (dk_at dksX5_orders_6 10 rfl rfl)
theorem dX5_orders_151 : decode cX5_orders 151 = .ok (.iload 5, 2) := dk_21 5 (dk_at dksX5_orders_6 13 rfl rfl)
theorem dX5_orders_153 : decode cX5_orders 153 = .ok (.iaload, 1) := dk_46 (dk_at dksX5_orders_6 15 rfl rfl)
theorem dX5_orders_154 : decode cX5_orders 154 = .ok (.iastore, 1) := dk_79 (dk_at dksX5_orders_6 16 rfl rfl)
theorem dX5_orders_155 : decode cX5_orders 155 = .ok (.iinc 5 1, 3) := dk_132 5 1 (dk_at dksX5_orders_6 17 rfl rfl)
theorem dX5_orders_158 : decode cX5_orders 158 = .ok (.goto (-25), 3) := dk_167 255 231 (dk_at dksX5_orders_6 20 rfl rfl)
theorem dX5_orders_161 : decode cX5_orders 161 = .ok (.aload_n 0, 1) := dk_42 (dk_at dksX5_orders_6 23 rfl rfl)
theorem dX5_orders_162 : decode cX5_orders 162 = .ok (.iload_n 1, 1) := dk_27 (dk_at dksX5_orders_7 0 rfl rfl)
theorem dX5_orders_163 : decode cX5_orders 163 = .ok (.putfield 11, 3) := dk_181 0 11 (dk_at dksX5_orders_7 1 rfl rfl)
theorem dX5_orders_166 : decode cX5_orders 166 = .ok (.aload_n 0, 1) := dk_42 (dk_at dksX5_orders_7 4 rfl rfl)
theorem dX5_orders_167 : decode cX5_orders 167 = .ok (.iload_n 3, 1) := dk_29 (dk_at dksX5_orders_7 5 rfl rfl)
theorem dX5_orders_168 : decode cX5_orders 168 = .ok (.putfield 107, 3) := dk_181 0 107 (dk_at dksX5_orders_7 6 rfl rfl)
theorem dX5_orders_171 : decode cX5_orders 171 = .ok (.aload_n 0, 1) := dk_42 (dk_at dksX5_orders_7 9 rfl rfl)
theorem dX5_orders_172 : decode cX5_orders 172 = .ok (.iload 4, 2) := dk_21 4 (dk_at dksX5_orders_7 10 rfl rfl)
theorem dX5_orders_174 : decode cX5_orders 174 = .ok (.bipush (-5), 2) := dk_16 251 (dk_at dksX5_orders_7 12 rfl rfl)
theorem dX5_orders_176 : decode cX5_orders 176 = .ok (.if_icmp .ne 8, 3) := dk_160 0 8 (dk_at dksX5_orders_7 14 rfl rfl)
theorem dX5_orders_179 : decode cX5_orders 179 = .ok (.bipush (-5), 2) := dk_16 251 (dk_at dksX5_orders_7 17 rfl rfl)
theorem dX5_orders_181 : decode cX5_orders 181 = .ok (.goto 5, 3) := dk_167 0 5 (dk_at dksX5_orders_7 19 rfl rfl)
theorem dX5_orders_184 : decode cX5_orders 184 = .ok (.bipush (-3), 2) := dk_16 253 (dk_at dksX5_orders_7 22 rfl rfl)
theorem dX5_orders_186 : decode cX5_orders 186 = .ok (.invokevirtual 127, 3) := dk_182 0 127 (dk_at dksX5_orders_8 0 rfl rfl)
theorem dX5_orders_189 : decode cX5_orders 189 = .ok (.ireturn, 1) := dk_172 (dk_at dksX5_orders_8 3 rfl rfl)
theorem dX5_orders_190 : decode cX5_orders 190 = .ok (.iinc 3 1, 3) := dk_132 3 1 (dk_at dksX5_orders_8 4 rfl rfl)
theorem dX5_orders_193 : decode cX5_orders 193 = .ok (.goto (-92), 3) := dk_167 255 164 (dk_at dksX5_orders_8 7 rfl rfl)
theorem dX5_orders_196 : decode cX5_orders 196 = .ok (.aload_n 0, 1) := dk_42 (dk_at dksX5_orders_8 10 rfl rfl)
theorem dX5_orders_197 : decode cX5_orders 197 = .ok (.aload_n 0, 1) := dk_42 (dk_at dksX5_orders_8 11 rfl rfl)
theorem dX5_orders_198 : decode cX5_orders 198 = .ok (.getfield 471, 3) := dk_180 1 215 (dk_at dksX5_orders_8 12 rfl rfl)
theorem dX5_orders_201 : decode cX5_orders 201 = .ok (.invokevirtual 14, 3) := dk_182 0 14 (dk_at dksX5_orders_8 15 rfl rfl)
theorem dX5_orders_204 : decode cX5_orders 204 = .ok (.ireturn, 1) := dk_172 (dk_at dksX5_orders_8 18 rfl rfl)
noncomputable def f_X5_orders_186 (E : ax_E) (s0 : Option Nat) (s1 : Int) (h : ax_H) : Option (Int × ax_H) :=
  (ax_ce E h s0 5).bind fun _ => (f_X5_refuses E s0 s1 h).bind fun q1 =>
  some (q1.1, q1.2)
noncomputable def lb_X5_orders_133 (E : ax_E) (x0 : Option Nat) (x1 : Int) (x3 : Int) (x4 : Int) (x5 : Int) (h : ax_H) : Option ((Int × ax_H) ⊕ (Int × ax_H)) :=
  if i2 x5 < i2 1184 then
    (ax_gR E h x0 5 26).bind fun v1 =>
    (ax_gR E h x0 5 27).bind fun v2 =>
    (ax_ld E h v2 100 x5).bind fun v3 =>
    (ax_sto h v1 100 x5 v3).bind fun h4 =>
    some (.inl ((x5 + 1), h4))
  else
    ((ax_pI h x0 5 28 x1).bind fun h5 =>
    (ax_pI h5 x0 5 47 x3).bind fun h6 =>
    if i2 x4 = i2 (-5) then
      f_X5_orders_186 E x0 (-5) h6
    else
      f_X5_orders_186 E x0 (-3) h6).map Sum.inr
noncomputable def f_X5_orders_133 (E : ax_E) (x0 : Option Nat) (x1 : Int) (x3 : Int) (x4 : Int) (x5 : Int) (h : ax_H) : Option (Int × ax_H) :=
  ax_iter (fun s : Int × ax_H => lb_X5_orders_133 E x0 x1 x3 x4 s.1 s.2) (x5, h)
noncomputable def lb_X5_orders_101 (E : ax_E) (x0 : Option Nat) (x1 : Int) (x2 : Int) (x3 : Int) (h : ax_H) : Option ((Int × ax_H) ⊕ (Int × ax_H)) :=
  (ax_gI E h x0 5 50).bind fun v1 =>
  if i2 v1 < i2 x2 then
    (ax_ce E h x0 5).bind fun _ => (f_X5_runs E x0 x2 h).bind fun q2 =>
    if i2 q2.1 = 0 then
      some (.inl ((x3 + 1), q2.2))
    else
      ((ax_ce E q2.2 x0 5).bind fun _ => (f_X5_takesBack E x0 10 q2.2).bind fun h3 =>
      f_X5_orders_133 E x0 x1 x3 q2.1 0 h3).map Sum.inr
  else
    ((ax_gI E h x0 5 48).bind fun v4 =>
    (ax_ce E h x0 5).bind fun _ => (f_X5_good E x0 v4 h).bind fun q5 =>
    some (q5.1, q5.2)).map Sum.inr
noncomputable def f_X5_orders_101 (E : ax_E) (x0 : Option Nat) (x1 : Int) (x2 : Int) (x3 : Int) (h : ax_H) : Option (Int × ax_H) :=
  ax_iter (fun s : Int × ax_H => lb_X5_orders_101 E x0 x1 x2 s.1 s.2) (x3, h)
noncomputable def lb_X5_orders_32 (E : ax_E) (x0 : Option Nat) (x1 : Int) (h : ax_H) : Option ((Int × ax_H) ⊕ (Int × ax_H)) :=
  if i2 x1 < i2 1184 then
    (ax_gR E h x0 5 27).bind fun v1 =>
    (ax_gR E h x0 5 26).bind fun v2 =>
    (ax_ld E h v2 100 x1).bind fun v3 =>
    (ax_sto h v1 100 x1 v3).bind fun h4 =>
    some (.inl ((x1 + 1), h4))
  else
    ((ax_gI E h x0 5 28).bind fun v5 =>
    (ax_ce E h x0 5).bind fun _ => (f_X5_lays E x0 6 h).bind fun h6 =>
    (ax_pI h6 x0 5 48 0).bind fun h7 =>
    (ax_pI h7 x0 5 49 (-1)).bind fun h8 =>
    (ax_pI h8 x0 5 50 2400).bind fun h9 =>
    (ax_gI E h9 x0 5 50).bind fun v10 =>
    (ax_gR E h9 x0 5 2).bind fun v11 =>
    (ax_ld E h9 v11 100 163).bind fun v12 =>
    f_X5_orders_101 E x0 v5 (v10 + v12) 0 h9).map Sum.inr
noncomputable def f_X5_orders_32 (E : ax_E) (x0 : Option Nat) (x1 : Int) (h : ax_H) : Option (Int × ax_H) :=
  ax_iter (fun s : Int × ax_H => lb_X5_orders_32 E x0 s.1 s.2) (x1, h)
noncomputable def f_X5_orders (E : ax_E) (x0 : Option Nat) (h : ax_H) : Option (Int × ax_H) :=
  (ax_pI h x0 5 47 (-1)).bind fun h1 =>
  if 1 = 0 ∨ 1 = 1 then (ax_pI h1 x0 5 8 1).bind fun h2 =>
    (ax_ce E h2 x0 5).bind fun _ => (f_X5_reads E x0 h2).bind fun q3 =>
    if i2 q3.1 = 0 then
      (ax_ce E q3.2 x0 5).bind fun _ => (f_X5_refuses E x0 (-6) q3.2).bind fun q4 =>
      some (q4.1, q4.2)
    else
      (ax_ce E q3.2 x0 5).bind fun _ => (f_X5_laysAside E x0 10 q3.2).bind fun h5 =>
      f_X5_orders_32 E x0 0 h5
  else none
def pi_X5_orders_133 (G : ax_G) (X : ax_X) (Q : State → Prop) (x0 : Option Nat) (x1 : Int) (x3 : Int) (x4 : Int) : Int × ax_H → Prop := fun s => ∀ ls : Array Slot, ax_hl ls 6 [(0, .inr (.inr x0)), (1, .inl x1), (3, .inl x3), (4, .inl x4), (5, .inl s.1)] → ax_W G X Q s.2 133 ls []
def pi_X5_orders_101 (G : ax_G) (X : ax_X) (Q : State → Prop) (x0 : Option Nat) (x1 : Int) (x2 : Int) : Int × ax_H → Prop := fun s => ∀ ls : Array Slot, ax_hl ls 6 [(0, .inr (.inr x0)), (1, .inl x1), (2, .inl x2), (3, .inl s.1)] → ax_W G X Q s.2 101 ls []
def pi_X5_orders_32 (G : ax_G) (X : ax_X) (Q : State → Prop) (x0 : Option Nat) : Int × ax_H → Prop := fun s => ∀ ls : Array Slot, ax_hl ls 6 [(0, .inr (.inr x0)), (1, .inl s.1)] → ax_W G X Q s.2 32 ls []
set_option maxHeartbeats 4000000 in
theorem w_X5_orders_186 {l : Launch} {G : ax_G} {X : ax_X} {Q : State → Prop} {h0 h : ax_H} {ls : Array Slot} (hSF : ax_SF G) (B : ax_BL l G X cX5_orders 6 RX5 138 3584) (Z : ax_Z X h0 ((some FieldType.int))) (hn : X.2.2.2.2.2.2.2.2.1.name = yX5_orders.name) (s0 : Option Nat) (s1 : Int) {w : Int × ax_H} (hl : ax_hl ls 6 []) (e : f_X5_orders_186 G.2.2 s0 s1 h = some w) (hp : (fun w : Int × ax_H => Q = ax_Q G X h0 w.2 (some (.int (Int32.ofInt w.1)))) w) : ax_W G X Q h 186 ls [.int (Int32.ofInt s1), va_rf s0] := by
  unfold f_X5_orders_186 at e
  refine ax_ivI (y := yX5_refuses) (n := 1) (As := [.int (Int32.ofInt s1)]) B kd5 (lw_V q2154 q2156 qs41 q133 q2157) (by decide +kernel) ⟨Nat.le_of_ble_eq_true rfl, Nat.le_of_ble_eq_true rfl⟩ (fun w1 e1 => mt_X5_refuses l G hSF s0 s1 _ w1 e1) rfl hl.size (by decide) dX5_orders_186 e (fun q1 e => ?_)
  have e8 := e
  have hp : Q = _ := hp
  subst hp
  exact ax_ireturn B Z dX5_orders_189 e8
set_option maxHeartbeats 4000000 in
theorem wb_X5_orders_133 {l : Launch} {G : ax_G} {X : ax_X} {Q : State → Prop} {h0 h : ax_H} {ls : Array Slot} (hSF : ax_SF G) (B : ax_BL l G X cX5_orders 6 RX5 138 3584) (Z : ax_Z X h0 ((some FieldType.int))) (hn : X.2.2.2.2.2.2.2.2.1.name = yX5_orders.name) (x0 : Option Nat) (x1 : Int) (x3 : Int) (x4 : Int) (x5 : Int) {w : (Int × ax_H) ⊕ (Int × ax_H)} (hl : ax_hl ls 6 [(0, .inr (.inr x0)), (1, .inl x1), (3, .inl x3), (4, .inl x4), (5, .inl x5)]) (e : lb_X5_orders_133 G.2.2 x0 x1 x3 x4 x5 h = some w) (hp : (ax_PL (pi_X5_orders_133 G X Q x0 x1 x3 x4) (fun w : Int × ax_H => Q = ax_Q G X h0 w.2 (some (.int (Int32.ofInt w.1))))) w) : ax_W G X Q h 133 ls [] := by
  unfold lb_X5_orders_133 at e
  refine ax_iload B dX5_orders_133 hl 4 rfl ?_
  refine ax_sipush B dX5_orders_135 (by decide) ?_
  refine ax_icmp_ge (tgt := 161) B dX5_orders_138 (by decide) e (fun e => ?_) (fun e => ?_)
  · refine ax_aload_n B dX5_orders_141 rfl hl 0 rfl ?_
    refine ax_getR B ff_X5_65_5 (fun _ _ => rfl) dX5_orders_142 e (fun v1 e => ?_)
    refine ax_iload B dX5_orders_145 hl 4 rfl ?_
    refine ax_aload_n B dX5_orders_147 rfl hl 0 rfl ?_
    refine ax_getR B ff_X5_68_5 (fun _ _ => rfl) dX5_orders_148 e (fun v2 e => ?_)
    refine ax_iload B dX5_orders_151 hl 4 rfl ?_
    refine ax_iald B kd100 dX5_orders_153 e (fun v3 e => ?_)
    refine ax_iast B kd100 dX5_orders_154 e (fun h4 e => ?_)
    refine ax_iinc (L' := [(5, .inl (x5 + 1)), (0, .inr (.inr x0)), (1, .inl x1), (3, .inl x3), (4, .inl x4)]) B dX5_orders_155 hl 4 rfl (by decide) rfl (fun ls hl => ?_)
    refine ax_goto (tgt := 133) B dX5_orders_158 (by decide) ?_
    cases e
    exact hp _ (hl.sub [1, 2, 3, 4, 0] rfl)
  · obtain ⟨w, e9_1, rfl⟩ := Option.map_eq_some_iff.mp e
    have e := e9_1
    refine ax_aload_n B dX5_orders_161 rfl hl 0 rfl ?_
    refine ax_iload_n B dX5_orders_162 rfl hl 1 rfl ?_
    refine ax_putI B ff_X5_11_5 (Or.inl rfl) rfl dX5_orders_163 e (fun h5 e => ?_)
    refine ax_aload_n B dX5_orders_166 rfl hl 0 rfl ?_
    refine ax_iload_n B dX5_orders_167 rfl hl 2 rfl ?_
    refine ax_putI B ff_X5_107_5 (Or.inl rfl) rfl dX5_orders_168 e (fun h6 e => ?_)
    refine ax_aload_n B dX5_orders_171 rfl hl 0 rfl ?_
    refine ax_iload B dX5_orders_172 hl 3 rfl ?_
    refine ax_bipush B dX5_orders_174 (by decide) ?_
    refine ax_icmp_ne (tgt := 184) B dX5_orders_176 (by decide) e (fun e => ?_) (fun e => ?_)
    · refine ax_bipush B dX5_orders_179 (by decide) ?_
      refine ax_goto (tgt := 186) B dX5_orders_181 (by decide) ?_
      exact w_X5_orders_186 hSF B Z hn x0 (-5) (hl.sub [] rfl) e hp
    · refine ax_bipush B dX5_orders_184 (by decide) ?_
      exact w_X5_orders_186 hSF B Z hn x0 (-3) (hl.sub [] rfl) e hp
theorem w_X5_orders_133 {l : Launch} {G : ax_G} {X : ax_X} {Q : State → Prop} {h0 h : ax_H} {ls : Array Slot} (hSF : ax_SF G) (B : ax_BL l G X cX5_orders 6 RX5 138 3584) (Z : ax_Z X h0 ((some FieldType.int))) (hn : X.2.2.2.2.2.2.2.2.1.name = yX5_orders.name) (x0 : Option Nat) (x1 : Int) (x3 : Int) (x4 : Int) (x5 : Int) {w : Int × ax_H} (hl : ax_hl ls 6 [(0, .inr (.inr x0)), (1, .inl x1), (3, .inl x3), (4, .inl x4), (5, .inl x5)]) (e : f_X5_orders_133 G.2.2 x0 x1 x3 x4 x5 h = some w) (hp : (fun w : Int × ax_H => Q = ax_Q G X h0 w.2 (some (.int (Int32.ofInt w.1)))) w) : ax_W G X Q h 133 ls [] :=
  ax_iter_W (Pin := pi_X5_orders_133 G X Q x0 x1 x3 x4) (Pout := (fun w : Int × ax_H => Q = ax_Q G X h0 w.2 (some (.int (Int32.ofInt w.1))))) (fun s w e hp ls hl => wb_X5_orders_133 hSF B Z hn x0 x1 x3 x4 s.1 hl e hp) _ _ e hp ls hl
set_option maxHeartbeats 4000000 in
theorem wb_X5_orders_101 {l : Launch} {G : ax_G} {X : ax_X} {Q : State → Prop} {h0 h : ax_H} {ls : Array Slot} (hSF : ax_SF G) (B : ax_BL l G X cX5_orders 6 RX5 138 3584) (Z : ax_Z X h0 ((some FieldType.int))) (hn : X.2.2.2.2.2.2.2.2.1.name = yX5_orders.name) (x0 : Option Nat) (x1 : Int) (x2 : Int) (x3 : Int) {w : (Int × ax_H) ⊕ (Int × ax_H)} (hl : ax_hl ls 6 [(0, .inr (.inr x0)), (1, .inl x1), (2, .inl x2), (3, .inl x3)]) (e : lb_X5_orders_101 G.2.2 x0 x1 x2 x3 h = some w) (hp : (ax_PL (pi_X5_orders_101 G X Q x0 x1 x2) (fun w : Int × ax_H => Q = ax_Q G X h0 w.2 (some (.int (Int32.ofInt w.1))))) w) : ax_W G X Q h 101 ls [] := by
  unfold lb_X5_orders_101 at e
  refine ax_aload_n B dX5_orders_101 rfl hl 0 rfl ?_
  refine ax_getI B ff_X5_477_5 (fun _ _ => rfl) dX5_orders_102 e (fun v1 e => ?_)
  refine ax_iload_n B dX5_orders_105 rfl hl 2 rfl ?_
  refine ax_icmp_ge (tgt := 196) B dX5_orders_106 (by decide) e (fun e => ?_) (fun e => ?_)
  · refine ax_aload_n B dX5_orders_109 rfl hl 0 rfl ?_
    refine ax_iload_n B dX5_orders_110 rfl hl 2 rfl ?_
    refine ax_ivI (y := yX5_runs) (n := 1) (As := [.int (Int32.ofInt x2)]) B kd5 (lw_V q2682 q2684 qs121 q133 q2685) (by decide +kernel) ⟨Nat.le_of_ble_eq_true rfl, Nat.le_of_ble_eq_true rfl⟩ (fun w1 e1 => mt_X5_runs l G hSF x0 x2 _ w1 e1) rfl hl.size (by decide) dX5_orders_111 e (fun q2 e => ?_)
    refine ax_istore (L' := [(4, .inl q2.1), (0, .inr (.inr x0)), (1, .inl x1), (2, .inl x2), (3, .inl x3)]) B dX5_orders_114 hl (by decide) rfl (fun ls hl => ?_)
    refine ax_iload B dX5_orders_116 hl 0 rfl ?_
    refine ax_if_ne (tgt := 124) B dX5_orders_118 (by decide) e (fun e => ?_) (fun e => ?_)
    · refine ax_goto (tgt := 190) B dX5_orders_121 (by decide) ?_
      refine ax_iinc (L' := [(3, .inl (x3 + 1)), (4, .inl q2.1), (0, .inr (.inr x0)), (1, .inl x1), (2, .inl x2)]) B dX5_orders_190 hl 4 rfl (by decide) rfl (fun ls hl => ?_)
      refine ax_goto (tgt := 101) B dX5_orders_193 (by decide) ?_
      cases e
      exact hp _ (hl.sub [2, 3, 4, 0] rfl)
    · obtain ⟨w, e9_2, rfl⟩ := Option.map_eq_some_iff.mp e
      have e := e9_2
      refine ax_aload_n B dX5_orders_124 rfl hl 1 rfl ?_
      refine ax_bipush B dX5_orders_125 (by decide) ?_
      refine ax_ivV (y := yX5_takesBack) (n := 1) (As := [.int (Int32.ofInt 10)]) B kd5 (lw_V q2581 q2583 qs112 q133 q2584) (by decide +kernel) ⟨Nat.le_of_ble_eq_true rfl, Nat.le_of_ble_eq_true rfl⟩ (fun w1 e1 => mt_X5_takesBack l G hSF x0 10 _ w1 e1) rfl hl.size (by decide) dX5_orders_127 e (fun h3 e => ?_)
      refine ax_iconst B dX5_orders_130 ?_
      refine ax_istore (L' := [(5, .inl 0), (4, .inl q2.1), (0, .inr (.inr x0)), (1, .inl x1), (2, .inl x2), (3, .inl x3)]) B dX5_orders_131 hl (by decide) rfl (fun ls hl => ?_)
      exact w_X5_orders_133 hSF B Z hn x0 x1 x3 q2.1 0 (hl.sub [2, 3, 5, 1, 0] rfl) e hp
  · obtain ⟨w, e9_3, rfl⟩ := Option.map_eq_some_iff.mp e
    have e := e9_3
    refine ax_aload_n B dX5_orders_196 rfl hl 0 rfl ?_
    refine ax_aload_n B dX5_orders_197 rfl hl 0 rfl ?_
    refine ax_getI B ff_X5_471_5 (fun _ _ => rfl) dX5_orders_198 e (fun v4 e => ?_)
    refine ax_ivI (y := yX5_good) (n := 1) (As := [.int (Int32.ofInt v4)]) B kd5 (lw_V q2158 q2160 qs42 q133 q2161) (by decide +kernel) ⟨Nat.le_of_ble_eq_true rfl, Nat.le_of_ble_eq_true rfl⟩ (fun w1 e1 => mt_X5_good l G hSF x0 v4 _ w1 e1) rfl hl.size (by decide) dX5_orders_201 e (fun q5 e => ?_)
    have e8 := e
    have hp : Q = _ := hp
    subst hp
    exact ax_ireturn B Z dX5_orders_204 e8
theorem w_X5_orders_101 {l : Launch} {G : ax_G} {X : ax_X} {Q : State → Prop} {h0 h : ax_H} {ls : Array Slot} (hSF : ax_SF G) (B : ax_BL l G X cX5_orders 6 RX5 138 3584) (Z : ax_Z X h0 ((some FieldType.int))) (hn : X.2.2.2.2.2.2.2.2.1.name = yX5_orders.name) (x0 : Option Nat) (x1 : Int) (x2 : Int) (x3 : Int) {w : Int × ax_H} (hl : ax_hl ls 6 [(0, .inr (.inr x0)), (1, .inl x1), (2, .inl x2), (3, .inl x3)]) (e : f_X5_orders_101 G.2.2 x0 x1 x2 x3 h = some w) (hp : (fun w : Int × ax_H => Q = ax_Q G X h0 w.2 (some (.int (Int32.ofInt w.1)))) w) : ax_W G X Q h 101 ls [] :=
  ax_iter_W (Pin := pi_X5_orders_101 G X Q x0 x1 x2) (Pout := (fun w : Int × ax_H => Q = ax_Q G X h0 w.2 (some (.int (Int32.ofInt w.1))))) (fun s w e hp ls hl => wb_X5_orders_101 hSF B Z hn x0 x1 x2 s.1 hl e hp) _ _ e hp ls hl
set_option maxHeartbeats 4000000 in
theorem wb_X5_orders_32 {l : Launch} {G : ax_G} {X : ax_X} {Q : State → Prop} {h0 h : ax_H} {ls : Array Slot} (hSF : ax_SF G) (B : ax_BL l G X cX5_orders 6 RX5 138 3584) (Z : ax_Z X h0 ((some FieldType.int))) (hn : X.2.2.2.2.2.2.2.2.1.name = yX5_orders.name) (x0 : Option Nat) (x1 : Int) {w : (Int × ax_H) ⊕ (Int × ax_H)} (hl : ax_hl ls 6 [(0, .inr (.inr x0)), (1, .inl x1)]) (e : lb_X5_orders_32 G.2.2 x0 x1 h = some w) (hp : (ax_PL (pi_X5_orders_32 G X Q x0) (fun w : Int × ax_H => Q = ax_Q G X h0 w.2 (some (.int (Int32.ofInt w.1))))) w) : ax_W G X Q h 32 ls [] := by
  unfold lb_X5_orders_32 at e
  refine ax_iload_n B dX5_orders_32 rfl hl 1 rfl ?_
  refine ax_sipush B dX5_orders_33 (by decide) ?_
  refine ax_icmp_ge (tgt := 57) B dX5_orders_36 (by decide) e (fun e => ?_) (fun e => ?_)
  · refine ax_aload_n B dX5_orders_39 rfl hl 0 rfl ?_
    refine ax_getR B ff_X5_68_5 (fun _ _ => rfl) dX5_orders_40 e (fun v1 e => ?_)
    refine ax_iload_n B dX5_orders_43 rfl hl 1 rfl ?_
    refine ax_aload_n B dX5_orders_44 rfl hl 0 rfl ?_
    refine ax_getR B ff_X5_65_5 (fun _ _ => rfl) dX5_orders_45 e (fun v2 e => ?_)
    refine ax_iload_n B dX5_orders_48 rfl hl 1 rfl ?_
    refine ax_iald B kd100 dX5_orders_49 e (fun v3 e => ?_)
    refine ax_iast B kd100 dX5_orders_50 e (fun h4 e => ?_)
    refine ax_iinc (L' := [(1, .inl (x1 + 1)), (0, .inr (.inr x0))]) B dX5_orders_51 hl 1 rfl (by decide) rfl (fun ls hl => ?_)
    refine ax_goto (tgt := 32) B dX5_orders_54 (by decide) ?_
    cases e
    exact hp _ (hl.sub [1, 0] rfl)
  · obtain ⟨w, e9_4, rfl⟩ := Option.map_eq_some_iff.mp e
    have e := e9_4
    refine ax_aload_n B dX5_orders_57 rfl hl 0 rfl ?_
    refine ax_getI B ff_X5_11_5 (fun _ _ => rfl) dX5_orders_58 e (fun v5 e => ?_)
    refine ax_istore_n (L' := [(1, .inl v5), (0, .inr (.inr x0))]) B dX5_orders_61 rfl hl (by decide) rfl (fun ls hl => ?_)
    refine ax_aload_n B dX5_orders_62 rfl hl 1 rfl ?_
    refine ax_bipush B dX5_orders_63 (by decide) ?_
    refine ax_ivV (y := yX5_lays) (n := 1) (As := [.int (Int32.ofInt 6)]) B kd5 (lw_V q2411 q2413 qs86 q133 q2414) (by decide +kernel) ⟨Nat.le_of_ble_eq_true rfl, Nat.le_of_ble_eq_true rfl⟩ (fun w1 e1 => mt_X5_lays l G hSF x0 6 _ w1 e1) rfl hl.size (by decide) dX5_orders_65 e (fun h6 e => ?_)
    refine ax_aload_n B dX5_orders_68 rfl hl 1 rfl ?_
    refine ax_iconst B dX5_orders_69 ?_
    refine ax_putI B ff_X5_471_5 (Or.inl rfl) rfl dX5_orders_70 e (fun h7 e => ?_)
    refine ax_aload_n B dX5_orders_73 rfl hl 1 rfl ?_
    refine ax_iconst B dX5_orders_74 ?_
    refine ax_putI B ff_X5_474_5 (Or.inl rfl) rfl dX5_orders_75 e (fun h8 e => ?_)
    refine ax_aload_n B dX5_orders_78 rfl hl 1 rfl ?_
    refine ax_sipush B dX5_orders_79 (by decide) ?_
    refine ax_putI B ff_X5_477_5 (Or.inl rfl) rfl dX5_orders_82 e (fun h9 e => ?_)
    refine ax_aload_n B dX5_orders_85 rfl hl 1 rfl ?_
    refine ax_getI B ff_X5_477_5 (fun _ _ => rfl) dX5_orders_86 e (fun v10 e => ?_)
    refine ax_aload_n B dX5_orders_89 rfl hl 1 rfl ?_
    refine ax_getR B ff_X5_24_5 (fun _ _ => rfl) dX5_orders_90 e (fun v11 e => ?_)
    refine ax_sipush B dX5_orders_93 (by decide) ?_
    refine ax_iald B kd100 dX5_orders_96 e (fun v12 e => ?_)
    refine ax_iadd' B dX5_orders_97 ?_
    refine ax_istore_n (L' := [(2, .inl (v10 + v12)), (1, .inl v5), (0, .inr (.inr x0))]) B dX5_orders_98 rfl hl (by decide) rfl (fun ls hl => ?_)
    refine ax_iconst B dX5_orders_99 ?_
    refine ax_istore_n (L' := [(3, .inl 0), (2, .inl (v10 + v12)), (1, .inl v5), (0, .inr (.inr x0))]) B dX5_orders_100 rfl hl (by decide) rfl (fun ls hl => ?_)
    exact w_X5_orders_101 hSF B Z hn x0 v5 (v10 + v12) 0 (hl.sub [3, 2, 1, 0] rfl) e hp
theorem w_X5_orders_32 {l : Launch} {G : ax_G} {X : ax_X} {Q : State → Prop} {h0 h : ax_H} {ls : Array Slot} (hSF : ax_SF G) (B : ax_BL l G X cX5_orders 6 RX5 138 3584) (Z : ax_Z X h0 ((some FieldType.int))) (hn : X.2.2.2.2.2.2.2.2.1.name = yX5_orders.name) (x0 : Option Nat) (x1 : Int) {w : Int × ax_H} (hl : ax_hl ls 6 [(0, .inr (.inr x0)), (1, .inl x1)]) (e : f_X5_orders_32 G.2.2 x0 x1 h = some w) (hp : (fun w : Int × ax_H => Q = ax_Q G X h0 w.2 (some (.int (Int32.ofInt w.1)))) w) : ax_W G X Q h 32 ls [] :=
  ax_iter_W (Pin := pi_X5_orders_32 G X Q x0) (Pout := (fun w : Int × ax_H => Q = ax_Q G X h0 w.2 (some (.int (Int32.ofInt w.1))))) (fun s w e hp ls hl => wb_X5_orders_32 hSF B Z hn x0 s.1 hl e hp) _ _ e hp ls hl
set_option maxHeartbeats 4000000 in
theorem we_X5_orders {l : Launch} {G : ax_G} {X : ax_X} {Q : State → Prop} {h0 h : ax_H} {ls : Array Slot} (hSF : ax_SF G) (B : ax_BL l G X cX5_orders 6 RX5 138 3584) (Z : ax_Z X h0 ((some FieldType.int))) (hn : X.2.2.2.2.2.2.2.2.1.name = yX5_orders.name) (x0 : Option Nat) {w : Int × ax_H} (hl : ax_hl ls 6 [(0, .inr (.inr x0))]) (e : f_X5_orders G.2.2 x0 h = some w) (hp : (fun w : Int × ax_H => Q = ax_Q G X h0 w.2 (some (.int (Int32.ofInt w.1)))) w) : ax_W G X Q h 0 ls [] := by
  unfold f_X5_orders at e
  refine ax_aload_n B dX5_orders_0 rfl hl 0 rfl ?_
  refine ax_iconst B dX5_orders_1 ?_
  refine ax_putI B ff_X5_107_5 (Or.inl rfl) rfl dX5_orders_2 e (fun h1 e => ?_)
  refine ax_aload_n B dX5_orders_5 rfl hl 0 rfl ?_
  refine ax_iconst B dX5_orders_6 ?_
  refine ax_putZ B ff_X5_219_5 (Or.inl rfl) dX5_orders_7 e (fun h2 e => ?_)
  refine ax_aload_n B dX5_orders_10 rfl hl 0 rfl ?_
  refine ax_ivI (y := yX5_reads) (n := 0) (As := []) B kd5 (lw_V q2328 q2330 qs67 q133 q2331) (by decide +kernel) ⟨Nat.le_of_ble_eq_true rfl, Nat.le_of_ble_eq_true rfl⟩ (fun w1 e1 => mt_X5_reads l G hSF x0 _ w1 e1) rfl hl.size (by decide) dX5_orders_11 e (fun q3 e => ?_)
  refine ax_if_ne (tgt := 24) B dX5_orders_14 (by decide) e (fun e => ?_) (fun e => ?_)
  · refine ax_aload_n B dX5_orders_17 rfl hl 0 rfl ?_
    refine ax_bipush B dX5_orders_18 (by decide) ?_
    refine ax_ivI (y := yX5_refuses) (n := 1) (As := [.int (Int32.ofInt (-6))]) B kd5 (lw_V q2154 q2156 qs41 q133 q2157) (by decide +kernel) ⟨Nat.le_of_ble_eq_true rfl, Nat.le_of_ble_eq_true rfl⟩ (fun w1 e1 => mt_X5_refuses l G hSF x0 (-6) _ w1 e1) rfl hl.size (by decide) dX5_orders_20 e (fun q4 e => ?_)
    have e8 := e
    have hp : Q = _ := hp
    subst hp
    exact ax_ireturn B Z dX5_orders_23 e8
  · refine ax_aload_n B dX5_orders_24 rfl hl 0 rfl ?_
    refine ax_bipush B dX5_orders_25 (by decide) ?_
    refine ax_ivV (y := yX5_laysAside) (n := 1) (As := [.int (Int32.ofInt 10)]) B kd5 (lw_V q2577 q2579 qs111 q133 q2580) (by decide +kernel) ⟨Nat.le_of_ble_eq_true rfl, Nat.le_of_ble_eq_true rfl⟩ (fun w1 e1 => mt_X5_laysAside l G hSF x0 10 _ w1 e1) rfl hl.size (by decide) dX5_orders_27 e (fun h5 e => ?_)
    refine ax_iconst B dX5_orders_30 ?_
    refine ax_istore_n (L' := [(1, .inl 0), (0, .inr (.inr x0))]) B dX5_orders_31 rfl hl (by decide) rfl (fun ls hl => ?_)
    exact w_X5_orders_32 hSF B Z hn x0 0 (hl.sub [1, 0] rfl) e hp
theorem mt_X5_orders (l : Launch) (G : ax_G) (hSF : ax_SF G) (x0 : Option Nat) (h : ax_H) (w : Int × ax_H) (e : f_X5_orders G.2.2 x0 h = some w) : ax_Met l G yX5_orders cX5_orders 6 ((some FieldType.int)) 138 3584 [va_rf x0] h w.2 (some (.int (Int32.ofInt w.1))) :=
  ax_enter [.inr (.inr x0)] (y := yX5_orders) hSF (plainFor_of_name (by decide +kernel)) (Nat.le_of_ble_eq_true rfl) (fun X ls B Z hn hl => we_X5_orders hSF B Z hn x0 hl e rfl)
def dkwX5_draws_1 : List UInt8 := [180, 1, 251, 27, 112, 172]
abbrev dktX5_draws_1 : List UInt8 := dkwX5_draws_1 ++ []
def dkwX5_draws_0 : List UInt8 := [42, 20, 1, 249, 42, 180, 1, 251, 133, 105, 20, 1, 254, 97, 20, 2, 0, 113, 136, 181, 1, 251, 42]
abbrev dktX5_draws_0 : List UInt8 := dkwX5_draws_0 ++ dktX5_draws_1
theorem dksX5_draws_0 : cX5_draws.data.toList.drop 0 = dktX5_draws_0 := by decide +kernel
theorem dksX5_draws_1 : cX5_draws.data.toList.drop 23 = dktX5_draws_1 := dk_seg dksX5_draws_0 23 rfl rfl
theorem dX5_draws_0 : decode cX5_draws 0 = .ok (.aload_n 0, 1) := dk_42 (dk_at dksX5_draws_0 0 rfl rfl)
theorem dX5_draws_1 : decode cX5_draws 1 = .ok (.ldc2_w 505, 3) := dk_20 1 249 (dk_at dksX5_draws_0 1 rfl rfl)
theorem dX5_draws_4 : decode cX5_draws 4 = .ok (.aload_n 0, 1) := dk_42 (dk_at dksX5_draws_0 4 rfl rfl)
theorem dX5_draws_5 : decode cX5_draws 5 = .ok (.getfield 507, 3) := dk_180 1 251 (dk_at dksX5_draws_0 5 rfl rfl)
theorem dX5_draws_8 : decode cX5_draws 8 = .ok (.i2l, 1) := dk_133 (dk_at dksX5_draws_0 8 rfl rfl)
theorem dX5_draws_9 : decode cX5_draws 9 = .ok (.lmul, 1) := dk_105 (dk_at dksX5_draws_0 9 rfl rfl)
theorem dX5_draws_10 : decode cX5_draws 10 = .ok (.ldc2_w 510, 3) := dk_20 1 254 (dk_at dksX5_draws_0 10 rfl rfl)
theorem dX5_draws_13 : decode cX5_draws 13 = .ok (.ladd, 1) := dk_97 (dk_at dksX5_draws_0 13 rfl rfl)
theorem dX5_draws_14 : decode cX5_draws 14 = .ok (.ldc2_w 512, 3) := dk_20 2 0 (dk_at dksX5_draws_0 14 rfl rfl)
theorem dX5_draws_17 : decode cX5_draws 17 = .ok (.lrem, 1) := dk_113 (dk_at dksX5_draws_0 17 rfl rfl)
theorem dX5_draws_18 : decode cX5_draws 18 = .ok (.l2i, 1) := dk_136 (dk_at dksX5_draws_0 18 rfl rfl)
theorem dX5_draws_19 : decode cX5_draws 19 = .ok (.putfield 507, 3) := dk_181 1 251 (dk_at dksX5_draws_0 19 rfl rfl)
theorem dX5_draws_22 : decode cX5_draws 22 = .ok (.aload_n 0, 1) := dk_42 (dk_at dksX5_draws_0 22 rfl rfl)
theorem dX5_draws_23 : decode cX5_draws 23 = .ok (.getfield 507, 3) := dk_180 1 251 (dk_at dksX5_draws_1 0 rfl rfl)
theorem dX5_draws_26 : decode cX5_draws 26 = .ok (.iload_n 1, 1) := dk_27 (dk_at dksX5_draws_1 3 rfl rfl)
theorem dX5_draws_27 : decode cX5_draws 27 = .ok (.irem, 1) := dk_112 (dk_at dksX5_draws_1 4 rfl rfl)
theorem dX5_draws_28 : decode cX5_draws 28 = .ok (.ireturn, 1) := dk_172 (dk_at dksX5_draws_1 5 rfl rfl)
theorem cn_X5_505 : Jvm.Cond.constantLong RX5 505 (Int64.ofInt 1103) ∈ lw_all := by rw [show Int64.ofInt 1103 = (1103 : Int64) by decide]; exact q2702
theorem ff_X5_507_5 : ax_FF RX5 507 5 60 (tyX5 60) 0 false := ⟨RX5, TX5, 61, tyX5, "DebtDoorsModel", kd5, in_X5, tyX5_ok, apX5, by decide, rfl, ⟨fun _ => rfl, fun h => absurd h (by decide)⟩, q2022, Or.inl rfl, fun h => absurd h (by decide)⟩
theorem cn_X5_510 : Jvm.Cond.constantLong RX5 510 (Int64.ofInt 12345) ∈ lw_all := by rw [show Int64.ofInt 12345 = (12345 : Int64) by decide]; exact q2703
theorem cn_X5_512 : Jvm.Cond.constantLong RX5 512 (Int64.ofInt 1000003) ∈ lw_all := by rw [show Int64.ofInt 1000003 = (1000003 : Int64) by decide]; exact q2704
noncomputable def f_X5_draws (E : ax_E) (x0 : Option Nat) (x1 : Int) (h : ax_H) : Option (Int × ax_H) :=
  (ax_gI E h x0 5 60).bind fun v1 =>
  if l2 1000003 = 0 then none else
  (ax_pI h x0 5 60 ((l2 ((1103 * (i2 v1)) + 12345)).tmod (l2 1000003))).bind fun h2 =>
  (ax_gI E h2 x0 5 60).bind fun v3 =>
  if i2 x1 = 0 then none else
  some (((i2 v3).tmod (i2 x1)), h2)
set_option maxHeartbeats 4000000 in
theorem we_X5_draws {l : Launch} {G : ax_G} {X : ax_X} {Q : State → Prop} {h0 h : ax_H} {ls : Array Slot} (hSF : ax_SF G) (B : ax_BL l G X cX5_draws 2 RX5 1 40) (Z : ax_Z X h0 ((some FieldType.int))) (hn : X.2.2.2.2.2.2.2.2.1.name = yX5_draws.name) (x0 : Option Nat) (x1 : Int) {w : Int × ax_H} (hl : ax_hl ls 2 [(0, .inr (.inr x0)), (1, .inl x1)]) (e : f_X5_draws G.2.2 x0 x1 h = some w) (hp : (fun w : Int × ax_H => Q = ax_Q G X h0 w.2 (some (.int (Int32.ofInt w.1)))) w) : ax_W G X Q h 0 ls [] := by
  unfold f_X5_draws at e
  refine ax_aload_n B dX5_draws_0 rfl hl 0 rfl ?_
  refine ax_ldc2 B cn_X5_505 dX5_draws_1 ?_
  refine ax_aload_n B dX5_draws_4 rfl hl 0 rfl ?_
  refine ax_getI B ff_X5_507_5 (fun _ _ => rfl) dX5_draws_5 e (fun v1 e => ?_)
  refine ax_i2l' B dX5_draws_8 ?_
  refine ax_lmul' B dX5_draws_9 ?_
  refine ax_ldc2 B cn_X5_510 dX5_draws_10 ?_
  refine ax_ladd' B dX5_draws_13 ?_
  refine ax_ldc2 B cn_X5_512 dX5_draws_14 ?_
  refine ax_lrem' B dX5_draws_17 e (fun e => ?_)
  refine ax_l2i' B dX5_draws_18 ?_
  refine ax_putI B ff_X5_507_5 (Or.inl rfl) rfl dX5_draws_19 e (fun h2 e => ?_)
  refine ax_aload_n B dX5_draws_22 rfl hl 0 rfl ?_
  refine ax_getI B ff_X5_507_5 (fun _ _ => rfl) dX5_draws_23 e (fun v3 e => ?_)
  refine ax_iload_n B dX5_draws_26 rfl hl 1 rfl ?_
  refine ax_irem' B dX5_draws_27 e (fun e => ?_)
  have e8 := e
  have hp : Q = _ := hp
  subst hp
  exact ax_ireturn B Z dX5_draws_28 e8
theorem mt_X5_draws (l : Launch) (G : ax_G) (hSF : ax_SF G) (x0 : Option Nat) (x1 : Int) (h : ax_H) (w : Int × ax_H) (e : f_X5_draws G.2.2 x0 x1 h = some w) : ax_Met l G yX5_draws cX5_draws 2 ((some FieldType.int)) 1 40 [va_rf x0, .int (Int32.ofInt x1)] h w.2 (some (.int (Int32.ofInt w.1))) :=
  ax_enter [.inr (.inr x0), .inl x1] (y := yX5_draws) hSF (plainFor_of_name (by decide +kernel)) (Nat.le_of_ble_eq_true rfl) (fun X ls B Z hn hl => we_X5_draws hSF B Z hn x0 x1 hl e rfl)
def dkwX5_month_13 : List UInt8 := [182, 0, 14, 172]
abbrev dktX5_month_13 : List UInt8 := dkwX5_month_13 ++ []
def dkwX5_month_12 : List UInt8 := [21, 5, 182, 1, 95, 184, 1, 180, 79, 132, 5, 1, 167, 255, 199, 42, 16, 9, 182, 1, 171, 42, 29]
abbrev dktX5_month_12 : List UInt8 := dkwX5_month_12 ++ dktX5_month_13
def dkwX5_month_11 : List UInt8 := [96, 46, 79, 42, 180, 0, 117, 21, 5, 42, 21, 5, 182, 1, 208, 79, 42, 180, 0, 120, 21, 5, 42]
abbrev dktX5_month_11 : List UInt8 := dkwX5_month_11 ++ dktX5_month_12
def dkwX5_month_10 : List UInt8 := [54, 5, 21, 5, 42, 180, 2, 2, 162, 0, 54, 42, 180, 0, 114, 21, 5, 42, 180, 0, 24, 3, 21, 5]
abbrev dktX5_month_10 : List UInt8 := dkwX5_month_10 ++ dktX5_month_11
def dkwX5_month_9 : List UInt8 := [167, 0, 4, 3, 54, 4, 21, 4, 153, 0, 8, 42, 182, 1, 119, 87, 132, 5, 1, 167, 255, 97, 3]
abbrev dktX5_month_9 : List UInt8 := dkwX5_month_9 ++ dktX5_month_10
def dkwX5_month_8 : List UInt8 := [21, 9, 21, 10, 21, 11, 182, 1, 116, 42, 180, 0, 24, 16, 72, 46, 17, 3, 231, 162, 0, 7, 4]
abbrev dktX5_month_8 : List UInt8 := dkwX5_month_8 ++ dktX5_month_9
def dkwX5_month_7 : List UInt8 := [182, 2, 5, 54, 10, 42, 21, 9, 21, 10, 19, 1, 189, 182, 1, 113, 54, 11, 21, 11, 158, 0, 13, 42]
abbrev dktX5_month_7 : List UInt8 := dkwX5_month_7 ++ dktX5_month_8
def dkwX5_month_6 : List UInt8 := [182, 1, 104, 29, 21, 8, 96, 62, 42, 42, 180, 2, 2, 182, 2, 5, 54, 9, 42, 42, 180, 2, 2]
abbrev dktX5_month_6 : List UInt8 := dkwX5_month_6 ++ dktX5_month_7
def dkwX5_month_5 : List UInt8 := [182, 1, 98, 153, 0, 27, 42, 182, 0, 137, 16, 16, 162, 0, 18, 42, 21, 6, 21, 7, 21, 8]
abbrev dktX5_month_5 : List UInt8 := dkwX5_month_5 ++ dktX5_month_6
def dkwX5_month_4 : List UInt8 := [182, 2, 5, 54, 7, 42, 16, 50, 182, 2, 5, 4, 96, 54, 8, 42, 21, 6, 21, 7, 21, 8]
abbrev dktX5_month_4 : List UInt8 := dkwX5_month_4 ++ dktX5_month_5
def dkwX5_month_3 : List UInt8 := [162, 0, 159, 21, 4, 153, 0, 154, 42, 42, 180, 2, 2, 182, 2, 5, 54, 6, 42, 42, 180, 2, 2]
abbrev dktX5_month_3 : List UInt8 := dkwX5_month_3 ++ dktX5_month_4
def dkwX5_month_2 : List UInt8 := [42, 182, 0, 133, 181, 2, 2, 42, 16, 9, 182, 1, 165, 3, 62, 4, 54, 4, 3, 54, 5, 21, 5, 28]
abbrev dktX5_month_2 : List UInt8 := dkwX5_month_2 ++ dktX5_month_3
def dkwX5_month_1 : List UInt8 := [182, 0, 127, 172, 42, 182, 0, 133, 154, 0, 10, 42, 16, 253, 182, 0, 127, 172, 42, 27, 181, 1, 251, 42]
abbrev dktX5_month_1 : List UInt8 := dkwX5_month_1 ++ dktX5_month_2
def dkwX5_month_0 : List UInt8 := [27, 3, 18, 199, 184, 0, 123, 153, 0, 13, 28, 4, 16, 30, 184, 0, 123, 154, 0, 9, 42, 2]
abbrev dktX5_month_0 : List UInt8 := dkwX5_month_0 ++ dktX5_month_1
theorem dksX5_month_0 : cX5_month.data.toList.drop 0 = dktX5_month_0 := by decide +kernel
theorem dksX5_month_1 : cX5_month.data.toList.drop 22 = dktX5_month_1 := dk_seg dksX5_month_0 22 rfl rfl
theorem dksX5_month_2 : cX5_month.data.toList.drop 46 = dktX5_month_2 := dk_seg dksX5_month_1 24 rfl rfl
theorem dksX5_month_3 : cX5_month.data.toList.drop 70 = dktX5_month_3 := dk_seg dksX5_month_2 24 rfl rfl
theorem dksX5_month_4 : cX5_month.data.toList.drop 93 = dktX5_month_4 := dk_seg dksX5_month_3 23 rfl rfl
theorem dksX5_month_5 : cX5_month.data.toList.drop 115 = dktX5_month_5 := dk_seg dksX5_month_4 22 rfl rfl
theorem dksX5_month_6 : cX5_month.data.toList.drop 137 = dktX5_month_6 := dk_seg dksX5_month_5 22 rfl rfl
theorem dksX5_month_7 : cX5_month.data.toList.drop 160 = dktX5_month_7 := dk_seg dksX5_month_6 23 rfl rfl
theorem dksX5_month_8 : cX5_month.data.toList.drop 184 = dktX5_month_8 := dk_seg dksX5_month_7 24 rfl rfl
theorem dksX5_month_9 : cX5_month.data.toList.drop 207 = dktX5_month_9 := dk_seg dksX5_month_8 23 rfl rfl
theorem dksX5_month_10 : cX5_month.data.toList.drop 230 = dktX5_month_10 := dk_seg dksX5_month_9 23 rfl rfl
theorem dksX5_month_11 : cX5_month.data.toList.drop 254 = dktX5_month_11 := dk_seg dksX5_month_10 24 rfl rfl
theorem dksX5_month_12 : cX5_month.data.toList.drop 277 = dktX5_month_12 := dk_seg dksX5_month_11 23 rfl rfl
theorem dksX5_month_13 : cX5_month.data.toList.drop 300 = dktX5_month_13 := dk_seg dksX5_month_12 23 rfl rfl
theorem dX5_month_0 : decode cX5_month 0 = .ok (.iload_n 1, 1) := dk_27 (dk_at dksX5_month_0 0 rfl rfl)
theorem dX5_month_1 : decode cX5_month 1 = .ok (.iconst 0, 1) := dk_3 (dk_at dksX5_month_0 1 rfl rfl)
theorem dX5_month_2 : decode cX5_month 2 = .ok (.ldc 199, 2) := dk_18 199 (dk_at dksX5_month_0 2 rfl rfl)
theorem dX5_month_4 : decode cX5_month 4 = .ok (.invokestatic 123, 3) := dk_184 0 123 (dk_at dksX5_month_0 4 rfl rfl)
theorem dX5_month_7 : decode cX5_month 7 = .ok (.ifCond .eq 13, 3) := dk_153 0 13 (dk_at dksX5_month_0 7 rfl rfl)
theorem dX5_month_10 : decode cX5_month 10 = .ok (.iload_n 2, 1) := dk_28 (dk_at dksX5_month_0 10 rfl rfl)
theorem dX5_month_11 : decode cX5_month 11 = .ok (.iconst 1, 1) := dk_4 (dk_at dksX5_month_0 11 rfl rfl)
theorem dX5_month_12 : decode cX5_month 12 = .ok (.bipush 30, 2) := dk_16 30 (dk_at dksX5_month_0 12 rfl rfl)
theorem dX5_month_14 : decode cX5_month 14 = .ok (.invokestatic 123, 3) := dk_184 0 123 (dk_at dksX5_month_0 14 rfl rfl)
theorem dX5_month_17 : decode cX5_month 17 = .ok (.ifCond .ne 9, 3) := dk_154 0 9 (dk_at dksX5_month_0 17 rfl rfl)
theorem dX5_month_20 : decode cX5_month 20 = .ok (.aload_n 0, 1) := dk_42 (dk_at dksX5_month_0 20 rfl rfl)
theorem dX5_month_21 : decode cX5_month 21 = .ok (.iconst (-1), 1) := dk_2 (dk_at dksX5_month_0 21 rfl rfl)
theorem dX5_month_22 : decode cX5_month 22 = .ok (.invokevirtual 127, 3) := dk_182 0 127 (dk_at dksX5_month_1 0 rfl rfl)
theorem dX5_month_25 : decode cX5_month 25 = .ok (.ireturn, 1) := dk_172 (dk_at dksX5_month_1 3 rfl rfl)
theorem dX5_month_26 : decode cX5_month 26 = .ok (.aload_n 0, 1) := dk_42 (dk_at dksX5_month_1 4 rfl rfl)
theorem dX5_month_27 : decode cX5_month 27 = .ok (.invokevirtual 133, 3) := dk_182 0 133 (dk_at dksX5_month_1 5 rfl rfl)
theorem dX5_month_30 : decode cX5_month 30 = .ok (.ifCond .ne 10, 3) := dk_154 0 10 (dk_at dksX5_month_1 8 rfl rfl)
theorem dX5_month_33 : decode cX5_month 33 = .ok (.aload_n 0, 1) := dk_42 (dk_at dksX5_month_1 11 rfl rfl)
theorem dX5_month_34 : decode cX5_month 34 = .ok (.bipush (-3), 2) := dk_16 253 (dk_at dksX5_month_1 12 rfl rfl)
theorem dX5_month_36 : decode cX5_month 36 = .ok (.invokevirtual 127, 3) := dk_182 0 127 (dk_at dksX5_month_1 14 rfl rfl)
theorem dX5_month_39 : decode cX5_month 39 = .ok (.ireturn, 1) := dk_172 (dk_at dksX5_month_1 17 rfl rfl)
theorem dX5_month_40 : decode cX5_month 40 = .ok (.aload_n 0, 1) := dk_42 (dk_at dksX5_month_1 18 rfl rfl)
theorem dX5_month_41 : decode cX5_month 41 = .ok (.iload_n 1, 1) := dk_27 (dk_at dksX5_month_1 19 rfl rfl)
theorem dX5_month_42 : decode cX5_month 42 = .ok (.putfield 507, 3) := dk_181 1 251 (dk_at dksX5_month_1 20 rfl rfl)
theorem dX5_month_45 : decode cX5_month 45 = .ok (.aload_n 0, 1) := dk_42 (dk_at dksX5_month_1 23 rfl rfl)
theorem dX5_month_46 : decode cX5_month 46 = .ok (.aload_n 0, 1) := dk_42 (dk_at dksX5_month_2 0 rfl rfl)
theorem dX5_month_47 : decode cX5_month 47 = .ok (.invokevirtual 133, 3) := dk_182 0 133 (dk_at dksX5_month_2 1 rfl rfl)
theorem dX5_month_50 : decode cX5_month 50 = .ok (.putfield 514, 3) := dk_181 2 2 (dk_at dksX5_month_2 4 rfl rfl)
theorem dX5_month_53 : decode cX5_month 53 = .ok (.aload_n 0, 1) := dk_42 (dk_at dksX5_month_2 7 rfl rfl)
theorem dX5_month_54 : decode cX5_month 54 = .ok (.bipush 9, 2) := dk_16 9 (dk_at dksX5_month_2 8 rfl rfl)
theorem dX5_month_56 : decode cX5_month 56 = .ok (.invokevirtual 421, 3) := dk_182 1 165 (dk_at dksX5_month_2 10 rfl rfl)
theorem dX5_month_59 : decode cX5_month 59 = .ok (.iconst 0, 1) := dk_3 (dk_at dksX5_month_2 13 rfl rfl)
theorem dX5_month_60 : decode cX5_month 60 = .ok (.istore_n 3, 1) := dk_62 (dk_at dksX5_month_2 14 rfl rfl)
theorem dX5_month_61 : decode cX5_month 61 = .ok (.iconst 1, 1) := dk_4 (dk_at dksX5_month_2 15 rfl rfl)
theorem dX5_month_62 : decode cX5_month 62 = .ok (.istore 4, 2) := dk_54 4 (dk_at dksX5_month_2 16 rfl rfl)
theorem dX5_month_64 : decode cX5_month 64 = .ok (.iconst 0, 1) := dk_3 (dk_at dksX5_month_2 18 rfl rfl)
theorem dX5_month_65 : decode cX5_month 65 = .ok (.istore 5, 2) := dk_54 5 (dk_at dksX5_month_2 19 rfl rfl)
theorem dX5_month_67 : decode cX5_month 67 = .ok (.iload 5, 2) := dk_21 5 (dk_at dksX5_month_2 21 rfl rfl)
theorem dX5_month_69 : decode cX5_month 69 = .ok (.iload_n 2, 1) := dk_28 (dk_at dksX5_month_2 23 rfl rfl)
theorem dX5_month_70 : decode cX5_month 70 = .ok (.if_icmp .ge 159, 3) := dk_162 0 159 (dk_at dksX5_month_3 0 rfl rfl)
theorem dX5_month_73 : decode cX5_month 73 = .ok (.iload 4, 2) := dk_21 4 (dk_at dksX5_month_3 3 rfl rfl)
theorem dX5_month_75 : decode cX5_month 75 = .ok (.ifCond .eq 154, 3) := dk_153 0 154 (dk_at dksX5_month_3 5 rfl rfl)
theorem dX5_month_78 : decode cX5_month 78 = .ok (.aload_n 0, 1) := dk_42 (dk_at dksX5_month_3 8 rfl rfl)
theorem dX5_month_79 : decode cX5_month 79 = .ok (.aload_n 0, 1) := dk_42 (dk_at dksX5_month_3 9 rfl rfl)
theorem dX5_month_80 : decode cX5_month 80 = .ok (.getfield 514, 3) := dk_180 2 2 (dk_at dksX5_month_3 10 rfl rfl)
theorem dX5_month_83 : decode cX5_month 83 = .ok (.invokevirtual 517, 3) := dk_182 2 5 (dk_at dksX5_month_3 13 rfl rfl)
theorem dX5_month_86 : decode cX5_month 86 = .ok (.istore 6, 2) := dk_54 6 (dk_at dksX5_month_3 16 rfl rfl)
theorem dX5_month_88 : decode cX5_month 88 = .ok (.aload_n 0, 1) := dk_42 (dk_at dksX5_month_3 18 rfl rfl)
theorem dX5_month_89 : decode cX5_month 89 = .ok (.aload_n 0, 1) := dk_42 (dk_at dksX5_month_3 19 rfl rfl)
theorem dX5_month_90 : decode cX5_month 90 = .ok (.getfield 514, 3) := dk_180 2 2 (dk_at dksX5_month_3 20 rfl rfl)
theorem dX5_month_93 : decode cX5_month 93 = .ok (.invokevirtual 517, 3) := dk_182 2 5 (dk_at dksX5_month_4 0 rfl rfl)
theorem dX5_month_96 : decode cX5_month 96 = .ok (.istore 7, 2) := dk_54 7 (dk_at dksX5_month_4 3 rfl rfl)
theorem dX5_month_98 : decode cX5_month 98 = .ok (.aload_n 0, 1) := dk_42 (dk_at dksX5_month_4 5 rfl rfl)
theorem dX5_month_99 : decode cX5_month 99 = .ok (.bipush 50, 2) := dk_16 50 (dk_at dksX5_month_4 6 rfl rfl)
theorem dX5_month_101 : decode cX5_month 101 = .ok (.invokevirtual 517, 3) := dk_182 2 5 (dk_at dksX5_month_4 8 rfl rfl)
theorem dX5_month_104 : decode cX5_month 104 = .ok (.iconst 1, 1) := dk_4 (dk_at dksX5_month_4 11 rfl rfl)
theorem dX5_month_105 : decode cX5_month 105 = .ok (.iadd, 1) := dk_96 (dk_at dksX5_month_4 12 rfl rfl)
theorem dX5_month_106 : decode cX5_month 106 = .ok (.istore 8, 2) := dk_54 8 (dk_at dksX5_month_4 13 rfl rfl)
theorem dX5_month_108 : decode cX5_month 108 = .ok (.aload_n 0, 1) := dk_42 (dk_at dksX5_month_4 15 rfl rfl)
theorem dX5_month_109 : decode cX5_month 109 = .ok (.iload 6, 2) := dk_21 6 (dk_at dksX5_month_4 16 rfl rfl)
theorem dX5_month_111 : decode cX5_month 111 = .ok (.iload 7, 2) := dk_21 7 (dk_at dksX5_month_4 18 rfl rfl)
theorem dX5_month_113 : decode cX5_month 113 = .ok (.iload 8, 2) := dk_21 8 (dk_at dksX5_month_4 20 rfl rfl)
theorem dX5_month_115 : decode cX5_month 115 = .ok (.invokevirtual 354, 3) := dk_182 1 98 (dk_at dksX5_month_5 0 rfl rfl)
theorem dX5_month_118 : decode cX5_month 118 = .ok (.ifCond .eq 27, 3) := dk_153 0 27 (dk_at dksX5_month_5 3 rfl rfl)
theorem dX5_month_121 : decode cX5_month 121 = .ok (.aload_n 0, 1) := dk_42 (dk_at dksX5_month_5 6 rfl rfl)
theorem dX5_month_122 : decode cX5_month 122 = .ok (.invokevirtual 137, 3) := dk_182 0 137 (dk_at dksX5_month_5 7 rfl rfl)
theorem dX5_month_125 : decode cX5_month 125 = .ok (.bipush 16, 2) := dk_16 16 (dk_at dksX5_month_5 10 rfl rfl)
theorem dX5_month_127 : decode cX5_month 127 = .ok (.if_icmp .ge 18, 3) := dk_162 0 18 (dk_at dksX5_month_5 12 rfl rfl)
theorem dX5_month_130 : decode cX5_month 130 = .ok (.aload_n 0, 1) := dk_42 (dk_at dksX5_month_5 15 rfl rfl)
theorem dX5_month_131 : decode cX5_month 131 = .ok (.iload 6, 2) := dk_21 6 (dk_at dksX5_month_5 16 rfl rfl)
theorem dX5_month_133 : decode cX5_month 133 = .ok (.iload 7, 2) := dk_21 7 (dk_at dksX5_month_5 18 rfl rfl)
theorem dX5_month_135 : decode cX5_month 135 = .ok (.iload 8, 2) := dk_21 8 (dk_at dksX5_month_5 20 rfl rfl)
theorem dX5_month_137 : decode cX5_month 137 = .ok (.invokevirtual 360, 3) := dk_182 1 104 (dk_at dksX5_month_6 0 rfl rfl)
theorem dX5_month_140 : decode cX5_month 140 = .ok (.iload_n 3, 1) := dk_29 (dk_at dksX5_month_6 3 rfl rfl)
theorem dX5_month_141 : decode cX5_month 141 = .ok (.iload 8, 2) := dk_21 8 (dk_at dksX5_month_6 4 rfl rfl)
theorem dX5_month_143 : decode cX5_month 143 = .ok (.iadd, 1) := dk_96 (dk_at dksX5_month_6 6 rfl rfl)
theorem dX5_month_144 : decode cX5_month 144 = .ok (.istore_n 3, 1) := dk_62 (dk_at dksX5_month_6 7 rfl rfl)
theorem dX5_month_145 : decode cX5_month 145 = .ok (.aload_n 0, 1) := dk_42 (dk_at dksX5_month_6 8 rfl rfl)
theorem dX5_month_146 : decode cX5_month 146 = .ok (.aload_n 0, 1) := dk_42 (dk_at dksX5_month_6 9 rfl rfl)
theorem dX5_month_147 : decode cX5_month 147 = .ok (.getfield 514, 3) := dk_180 2 2 (dk_at dksX5_month_6 10 rfl rfl)
theorem dX5_month_150 : decode cX5_month 150 = .ok (.invokevirtual 517, 3) := dk_182 2 5 (dk_at dksX5_month_6 13 rfl rfl)
theorem dX5_month_153 : decode cX5_month 153 = .ok (.istore 9, 2) := dk_54 9 (dk_at dksX5_month_6 16 rfl rfl)
theorem dX5_month_155 : decode cX5_month 155 = .ok (.aload_n 0, 1) := dk_42 (dk_at dksX5_month_6 18 rfl rfl)
theorem dX5_month_156 : decode cX5_month 156 = .ok (.aload_n 0, 1) := dk_42 (dk_at dksX5_month_6 19 rfl rfl)
theorem dX5_month_157 : decode cX5_month 157 = .ok (.getfield 514, 3) := dk_180 2 2 (dk_at dksX5_month_6 20 rfl rfl)
theorem dX5_month_160 : decode cX5_month 160 = .ok (.invokevirtual 517, 3) := dk_182 2 5 (dk_at dksX5_month_7 0 rfl rfl)
theorem dX5_month_163 : decode cX5_month 163 = .ok (.istore 10, 2) := dk_54 10 (dk_at dksX5_month_7 3 rfl rfl)
theorem dX5_month_165 : decode cX5_month 165 = .ok (.aload_n 0, 1) := dk_42 (dk_at dksX5_month_7 5 rfl rfl)
theorem dX5_month_166 : decode cX5_month 166 = .ok (.iload 9, 2) := dk_21 9 (dk_at dksX5_month_7 6 rfl rfl)
theorem dX5_month_168 : decode cX5_month 168 = .ok (.iload 10, 2) := dk_21 10 (dk_at dksX5_month_7 8 rfl rfl)
theorem dX5_month_170 : decode cX5_month 170 = .ok (.ldc_w 445, 3) := dk_19 1 189 (dk_at dksX5_month_7 10 rfl rfl)
theorem dX5_month_173 : decode cX5_month 173 = .ok (.invokevirtual 369, 3) := dk_182 1 113 (dk_at dksX5_month_7 13 rfl rfl)
theorem dX5_month_176 : decode cX5_month 176 = .ok (.istore 11, 2) := dk_54 11 (dk_at dksX5_month_7 16 rfl rfl)
theorem dX5_month_178 : decode cX5_month 178 = .ok (.iload 11, 2) := dk_21 11 (dk_at dksX5_month_7 18 rfl rfl)
theorem dX5_month_180 : decode cX5_month 180 = .ok (.ifCond .le 13, 3) := dk_158 0 13 (dk_at dksX5_month_7 20 rfl rfl)
theorem dX5_month_183 : decode cX5_month 183 = .ok (.aload_n 0, 1) := dk_42 (dk_at dksX5_month_7 23 rfl rfl)
theorem dX5_month_184 : decode cX5_month 184 = .ok (.iload 9, 2) := dk_21 9 (dk_at dksX5_month_8 0 rfl rfl)
theorem dX5_month_186 : decode cX5_month 186 = .ok (.iload 10, 2) := dk_21 10 (dk_at dksX5_month_8 2 rfl rfl)
theorem dX5_month_188 : decode cX5_month 188 = .ok (.iload 11, 2) := dk_21 11 (dk_at dksX5_month_8 4 rfl rfl)
theorem dX5_month_190 : decode cX5_month 190 = .ok (.invokevirtual 372, 3) := dk_182 1 116 (dk_at dksX5_month_8 6 rfl rfl)
theorem dX5_month_193 : decode cX5_month 193 = .ok (.aload_n 0, 1) := dk_42 (dk_at dksX5_month_8 9 rfl rfl)
theorem dX5_month_194 : decode cX5_month 194 = .ok (.getfield 24, 3) := dk_180 0 24 (dk_at dksX5_month_8 10 rfl rfl)
theorem dX5_month_197 : decode cX5_month 197 = .ok (.bipush 72, 2) := dk_16 72 (dk_at dksX5_month_8 13 rfl rfl)
theorem dX5_month_199 : decode cX5_month 199 = .ok (.iaload, 1) := dk_46 (dk_at dksX5_month_8 15 rfl rfl)
theorem dX5_month_200 : decode cX5_month 200 = .ok (.sipush 999, 3) := dk_17 3 231 (dk_at dksX5_month_8 16 rfl rfl)
theorem dX5_month_203 : decode cX5_month 203 = .ok (.if_icmp .ge 7, 3) := dk_162 0 7 (dk_at dksX5_month_8 19 rfl rfl)
theorem dX5_month_206 : decode cX5_month 206 = .ok (.iconst 1, 1) := dk_4 (dk_at dksX5_month_8 22 rfl rfl)
theorem dX5_month_207 : decode cX5_month 207 = .ok (.goto 4, 3) := dk_167 0 4 (dk_at dksX5_month_9 0 rfl rfl)
theorem dX5_month_210 : decode cX5_month 210 = .ok (.iconst 0, 1) := dk_3 (dk_at dksX5_month_9 3 rfl rfl)
theorem dX5_month_211 : decode cX5_month 211 = .ok (.istore 4, 2) := dk_54 4 (dk_at dksX5_month_9 4 rfl rfl)
theorem dX5_month_213 : decode cX5_month 213 = .ok (.iload 4, 2) := dk_21 4 (dk_at dksX5_month_9 6 rfl rfl)
theorem dX5_month_215 : decode cX5_month 215 = .ok (.ifCond .eq 8, 3) := dk_153 0 8 (dk_at dksX5_month_9 8 rfl rfl)
theorem dX5_month_218 : decode cX5_month 218 = .ok (.aload_n 0, 1) := dk_42 (dk_at dksX5_month_9 11 rfl rfl)
theorem dX5_month_219 : decode cX5_month 219 = .ok (.invokevirtual 375, 3) := dk_182 1 119 (dk_at dksX5_month_9 12 rfl rfl)
theorem dX5_month_222 : decode cX5_month 222 = .ok (.pop, 1) := dk_87 (dk_at dksX5_month_9 15 rfl rfl)
theorem dX5_month_223 : decode cX5_month 223 = .ok (.iinc 5 1, 3) := dk_132 5 1 (dk_at dksX5_month_9 16 rfl rfl)
theorem dX5_month_226 : decode cX5_month 226 = .ok (.goto (-159), 3) := dk_167 255 97 (dk_at dksX5_month_9 19 rfl rfl)
theorem dX5_month_229 : decode cX5_month 229 = .ok (.iconst 0, 1) := dk_3 (dk_at dksX5_month_9 22 rfl rfl)
theorem dX5_month_230 : decode cX5_month 230 = .ok (.istore 5, 2) := dk_54 5 (dk_at dksX5_month_10 0 rfl rfl)
theorem dX5_month_232 : decode cX5_month 232 = .ok (.iload 5, 2) := dk_21 5 (dk_at dksX5_month_10 2 rfl rfl)
theorem dX5_month_234 : decode cX5_month 234 = .ok (.aload_n 0, 1) := dk_42 (dk_at dksX5_month_10 4 rfl rfl)
theorem dX5_month_235 : decode cX5_month 235 = .ok (.getfield 514, 3) := dk_180 2 2 (dk_at dksX5_month_10 5 rfl rfl)
theorem dX5_month_238 : decode cX5_month 238 = .ok (.if_icmp .ge 54, 3) := dk_162 0 54 (dk_at dksX5_month_10 8 rfl rfl)
theorem dX5_month_241 : decode cX5_month 241 = .ok (.aload_n 0, 1) := dk_42 (dk_at dksX5_month_10 11 rfl rfl)
theorem dX5_month_242 : decode cX5_month 242 = .ok (.getfield 114, 3) := dk_180 0 114 (dk_at dksX5_month_10 12 rfl rfl)
theorem dX5_month_245 : decode cX5_month 245 = .ok (.iload 5, 2) := dk_21 5 (dk_at dksX5_month_10 15 rfl rfl)
theorem dX5_month_247 : decode cX5_month 247 = .ok (.aload_n 0, 1) := dk_42 (dk_at dksX5_month_10 17 rfl rfl)
theorem dX5_month_248 : decode cX5_month 248 = .ok (.getfield 24, 3) := dk_180 0 24 (dk_at dksX5_month_10 18 rfl rfl)
theorem dX5_month_251 : decode cX5_month 251 = .ok (.iconst 0, 1) := dk_3 (dk_at dksX5_month_10 21 rfl rfl)
theorem dX5_month_252 : decode cX5_month 252 = .ok (.iload 5, 2) := dk_21 5 (dk_at dksX5_month_10 22 rfl rfl)
theorem dX5_month_254 : decode cX5_month 254 = .ok (.iadd, 1) := dk_96 (dk_at dksX5_month_11 0 rfl rfl)
theorem dX5_month_255 : decode cX5_month 255 = .ok (.iaload, 1) := dk_46 (dk_at dksX5_month_11 1 rfl rfl)
theorem dX5_month_256 : decode cX5_month 256 = .ok (.iastore, 1) := dk_79 (dk_at dksX5_month_11 2 rfl rfl)
theorem dX5_month_257 : decode cX5_month 257 = .ok (.aload_n 0, 1) := dk_42 (dk_at dksX5_month_11 3 rfl rfl)
theorem dX5_month_258 : decode cX5_month 258 = .ok (.getfield 117, 3) := dk_180 0 117 (dk_at dksX5_month_11 4 rfl rfl)
theorem dX5_month_261 : decode cX5_month 261 = .ok (.iload 5, 2) := dk_21 5 (dk_at dksX5_month_11 7 rfl rfl)
theorem dX5_month_263 : decode cX5_month 263 = .ok (.aload_n 0, 1) := dk_42 (dk_at dksX5_month_11 9 rfl rfl)
theorem dX5_month_264 : decode cX5_month 264 = .ok (.iload 5, 2) := dk_21 5 (dk_at dksX5_month_11 10 rfl rfl)
theorem dX5_month_266 : decode cX5_month 266 = .ok (.invokevirtual 464, 3) := dk_182 1 208 (dk_at dksX5_month_11 12 rfl rfl)
theorem dX5_month_269 : decode cX5_month 269 = .ok (.iastore, 1) := dk_79 (dk_at dksX5_month_11 15 rfl rfl)
theorem dX5_month_270 : decode cX5_month 270 = .ok (.aload_n 0, 1) := dk_42 (dk_at dksX5_month_11 16 rfl rfl)
theorem dX5_month_271 : decode cX5_month 271 = .ok (.getfield 120, 3) := dk_180 0 120 (dk_at dksX5_month_11 17 rfl rfl)
theorem dX5_month_274 : decode cX5_month 274 = .ok (.iload 5, 2) := dk_21 5 (dk_at dksX5_month_11 20 rfl rfl)
theorem dX5_month_276 : decode cX5_month 276 = .ok (.aload_n 0, 1) := dk_42 (dk_at dksX5_month_11 22 rfl rfl)
theorem dX5_month_277 : decode cX5_month 277 = .ok (.iload 5, 2) := dk_21 5 (dk_at dksX5_month_12 0 rfl rfl)
theorem dX5_month_279 : decode cX5_month 279 = .ok (.invokevirtual 351, 3) := dk_182 1 95 (dk_at dksX5_month_12 2 rfl rfl)
theorem dX5_month_282 : decode cX5_month 282 = .ok (.invokestatic 436, 3) := dk_184 1 180 (dk_at dksX5_month_12 5 rfl rfl)
theorem dX5_month_285 : decode cX5_month 285 = .ok (.iastore, 1) := dk_79 (dk_at dksX5_month_12 8 rfl rfl)
theorem dX5_month_286 : decode cX5_month 286 = .ok (.iinc 5 1, 3) := dk_132 5 1 (dk_at dksX5_month_12 9 rfl rfl)
theorem dX5_month_289 : decode cX5_month 289 = .ok (.goto (-57), 3) := dk_167 255 199 (dk_at dksX5_month_12 12 rfl rfl)
theorem dX5_month_292 : decode cX5_month 292 = .ok (.aload_n 0, 1) := dk_42 (dk_at dksX5_month_12 15 rfl rfl)
theorem dX5_month_293 : decode cX5_month 293 = .ok (.bipush 9, 2) := dk_16 9 (dk_at dksX5_month_12 16 rfl rfl)
theorem dX5_month_295 : decode cX5_month 295 = .ok (.invokevirtual 427, 3) := dk_182 1 171 (dk_at dksX5_month_12 18 rfl rfl)
theorem dX5_month_298 : decode cX5_month 298 = .ok (.aload_n 0, 1) := dk_42 (dk_at dksX5_month_12 21 rfl rfl)
theorem dX5_month_299 : decode cX5_month 299 = .ok (.iload_n 3, 1) := dk_29 (dk_at dksX5_month_12 22 rfl rfl)
theorem dX5_month_300 : decode cX5_month 300 = .ok (.invokevirtual 14, 3) := dk_182 0 14 (dk_at dksX5_month_13 0 rfl rfl)
theorem dX5_month_303 : decode cX5_month 303 = .ok (.ireturn, 1) := dk_172 (dk_at dksX5_month_13 3 rfl rfl)
theorem ff_X5_514_5 : ax_FF RX5 514 5 59 (tyX5 59) 0 false := ⟨RX5, TX5, 61, tyX5, "DebtDoorsModel", kd5, in_X5, tyX5_ok, apX5, by decide, rfl, ⟨fun _ => rfl, fun h => absurd h (by decide)⟩, q2021, Or.inl rfl, fun h => absurd h (by decide)⟩
noncomputable def f_X5_month_20 (E : ax_E) (x0 : Option Nat) (h : ax_H) : Option (Int × ax_H) :=
  (ax_ce E h x0 5).bind fun _ => (f_X5_refuses E x0 (-1) h).bind fun q1 =>
  some (q1.1, q1.2)
noncomputable def f_X5_month_223 (E : ax_E) (x0 : Option Nat) (x2 : Int) (x3 : Int) (x4 : Int) (x5 : Int) (h : ax_H) : Option ((Int × Int × Int × ax_H) ⊕ (Int × ax_H)) :=
  some (.inl (x3, x4, (x5 + 1), h))
noncomputable def f_X5_month_211 (E : ax_E) (x0 : Option Nat) (x2 : Int) (x3 : Int) (x5 : Int) (s0 : Int) (h : ax_H) : Option ((Int × Int × Int × ax_H) ⊕ (Int × ax_H)) :=
  if i2 s0 = 0 then
    f_X5_month_223 E x0 x2 x3 s0 x5 h
  else
    (ax_ce E h x0 5).bind fun _ => (f_X5_waits E x0 h).bind fun q1 =>
    f_X5_month_223 E x0 x2 x3 s0 x5 q1.2
noncomputable def f_X5_month_193 (E : ax_E) (x0 : Option Nat) (x2 : Int) (x3 : Int) (x5 : Int) (h : ax_H) : Option ((Int × Int × Int × ax_H) ⊕ (Int × ax_H)) :=
  (ax_gR E h x0 5 2).bind fun v1 =>
  (ax_ld E h v1 100 72).bind fun v2 =>
  if i2 v2 < i2 999 then
    f_X5_month_211 E x0 x2 x3 x5 1 h
  else
    f_X5_month_211 E x0 x2 x3 x5 0 h
noncomputable def f_X5_month_145 (E : ax_E) (x0 : Option Nat) (x2 : Int) (x3 : Int) (x5 : Int) (h : ax_H) : Option ((Int × Int × Int × ax_H) ⊕ (Int × ax_H)) :=
  (ax_gI E h x0 5 59).bind fun v1 =>
  (ax_ce E h x0 5).bind fun _ => (f_X5_draws E x0 v1 h).bind fun q2 =>
  (ax_gI E q2.2 x0 5 59).bind fun v3 =>
  (ax_ce E q2.2 x0 5).bind fun _ => (f_X5_draws E x0 v3 q2.2).bind fun q4 =>
  (ax_ce E q4.2 x0 5).bind fun _ => (f_X5_canRepay E x0 q2.1 q4.1 1000000000 q4.2).bind fun q5 =>
  if 0 < i2 q5.1 then
    (ax_ce E q5.2 x0 5).bind fun _ => (f_X5_repays E x0 q2.1 q4.1 q5.1 q5.2).bind fun h6 =>
    f_X5_month_193 E x0 x2 x3 x5 h6
  else
    f_X5_month_193 E x0 x2 x3 x5 q5.2
noncomputable def lb_X5_month_232 (E : ax_E) (x0 : Option Nat) (x3 : Int) (x5 : Int) (h : ax_H) : Option ((Int × ax_H) ⊕ (Int × ax_H)) :=
  (ax_gI E h x0 5 59).bind fun v1 =>
  if i2 x5 < i2 v1 then
    (ax_gR E h x0 5 56).bind fun v2 =>
    (ax_gR E h x0 5 2).bind fun v3 =>
    (ax_ld E h v3 100 (0 + x5)).bind fun v4 =>
    (ax_sto h v2 100 x5 v4).bind fun h5 =>
    (ax_gR E h5 x0 5 57).bind fun v6 =>
    (ax_ce E h5 x0 5).bind fun _ => (f_X5_balanceOf E x0 x5 h5).bind fun q7 =>
    (ax_sto q7.2 v6 100 x5 q7.1).bind fun h8 =>
    (ax_gR E h8 x0 5 58).bind fun v9 =>
    (ax_ce E h8 x0 5).bind fun _ => (f_X5_doorsOf E x0 x5 h8).bind fun q10 =>
    (f_X5_ones E q10.1 q10.2).bind fun q11 =>
    (ax_sto q11.2 v9 100 x5 q11.1).bind fun h12 =>
    some (.inl ((x5 + 1), h12))
  else
    ((ax_ce E h x0 5).bind fun _ => (f_X5_takesBack E x0 9 h).bind fun h13 =>
    (ax_ce E h13 x0 5).bind fun _ => (f_X5_good E x0 x3 h13).bind fun q14 =>
    some (q14.1, q14.2)).map Sum.inr
noncomputable def f_X5_month_232 (E : ax_E) (x0 : Option Nat) (x3 : Int) (x5 : Int) (h : ax_H) : Option (Int × ax_H) :=
  ax_iter (fun s : Int × ax_H => lb_X5_month_232 E x0 x3 s.1 s.2) (x5, h)
noncomputable def f_X5_month_229 (E : ax_E) (x0 : Option Nat) (x3 : Int) (h : ax_H) : Option (Int × ax_H) :=
  f_X5_month_232 E x0 x3 0 h
noncomputable def lb_X5_month_67 (E : ax_E) (x0 : Option Nat) (x2 : Int) (x3 : Int) (x4 : Int) (x5 : Int) (h : ax_H) : Option ((Int × Int × Int × ax_H) ⊕ (Int × ax_H)) :=
  if i2 x5 < i2 x2 then
    if i2 x4 = 0 then
      (f_X5_month_229 E x0 x3 h).map Sum.inr
    else
      (ax_gI E h x0 5 59).bind fun v1 =>
      (ax_ce E h x0 5).bind fun _ => (f_X5_draws E x0 v1 h).bind fun q2 =>
      (ax_gI E q2.2 x0 5 59).bind fun v3 =>
      (ax_ce E q2.2 x0 5).bind fun _ => (f_X5_draws E x0 v3 q2.2).bind fun q4 =>
      (ax_ce E q4.2 x0 5).bind fun _ => (f_X5_draws E x0 50 q4.2).bind fun q5 =>
      (ax_ce E q5.2 x0 5).bind fun _ => (f_X5_canLend E x0 q2.1 q4.1 (q5.1 + 1) q5.2).bind fun q6 =>
      if i2 q6.1 = 0 then
        f_X5_month_145 E x0 x2 x3 x5 q6.2
      else
        (ax_ce E q6.2 x0 5).bind fun _ => (f_X5_debts E x0 q6.2).bind fun q7 =>
        if i2 q7.1 < i2 16 then
          (ax_ce E q7.2 x0 5).bind fun _ => (f_X5_lends E x0 q2.1 q4.1 (q5.1 + 1) q7.2).bind fun h8 =>
          f_X5_month_145 E x0 x2 (x3 + (q5.1 + 1)) x5 h8
        else
          f_X5_month_145 E x0 x2 x3 x5 q7.2
  else
    (f_X5_month_229 E x0 x3 h).map Sum.inr
noncomputable def f_X5_month_67 (E : ax_E) (x0 : Option Nat) (x2 : Int) (x3 : Int) (x4 : Int) (x5 : Int) (h : ax_H) : Option (Int × ax_H) :=
  ax_iter (fun s : Int × Int × Int × ax_H => lb_X5_month_67 E x0 x2 s.1 s.2.1 s.2.2.1 s.2.2.2) (x3, x4, x5, h)
noncomputable def f_X5_month (E : ax_E) (x0 : Option Nat) (x1 : Int) (x2 : Int) (h : ax_H) : Option (Int × ax_H) :=
  (f_X5_lies E x1 0 1000000 h).bind fun q1 =>
  if i2 q1.1 = 0 then
    f_X5_month_20 E x0 q1.2
  else
    (f_X5_lies E x2 1 30 q1.2).bind fun q2 =>
    if i2 q2.1 = 0 then
      f_X5_month_20 E x0 q2.2
    else
      (ax_ce E q2.2 x0 5).bind fun _ => (f_X5_people E x0 q2.2).bind fun q3 =>
      if i2 q3.1 = 0 then
        (ax_ce E q3.2 x0 5).bind fun _ => (f_X5_refuses E x0 (-3) q3.2).bind fun q4 =>
        some (q4.1, q4.2)
      else
        (ax_pI q3.2 x0 5 60 x1).bind fun h5 =>
        (ax_ce E h5 x0 5).bind fun _ => (f_X5_people E x0 h5).bind fun q6 =>
        (ax_pI q6.2 x0 5 59 q6.1).bind fun h7 =>
        (ax_ce E h7 x0 5).bind fun _ => (f_X5_laysAside E x0 9 h7).bind fun h8 =>
        f_X5_month_67 E x0 x2 0 1 0 h8
def pi_X5_month_232 (G : ax_G) (X : ax_X) (Q : State → Prop) (x0 : Option Nat) (x3 : Int) : Int × ax_H → Prop := fun s => ∀ ls : Array Slot, ax_hl ls 12 [(0, .inr (.inr x0)), (3, .inl x3), (5, .inl s.1)] → ax_W G X Q s.2 232 ls []
def pi_X5_month_67 (G : ax_G) (X : ax_X) (Q : State → Prop) (x0 : Option Nat) (x2 : Int) : Int × Int × Int × ax_H → Prop := fun s => ∀ ls : Array Slot, ax_hl ls 12 [(0, .inr (.inr x0)), (2, .inl x2), (3, .inl s.1), (4, .inl s.2.1), (5, .inl s.2.2.1)] → ax_W G X Q s.2.2.2 67 ls []
set_option maxHeartbeats 4000000 in
theorem w_X5_month_20 {l : Launch} {G : ax_G} {X : ax_X} {Q : State → Prop} {h0 h : ax_H} {ls : Array Slot} (hSF : ax_SF G) (B : ax_BL l G X cX5_month 12 RX5 137 3564) (Z : ax_Z X h0 ((some FieldType.int))) (hn : X.2.2.2.2.2.2.2.2.1.name = yX5_month.name) (x0 : Option Nat) {w : Int × ax_H} (hl : ax_hl ls 12 [(0, .inr (.inr x0))]) (e : f_X5_month_20 G.2.2 x0 h = some w) (hp : (fun w : Int × ax_H => Q = ax_Q G X h0 w.2 (some (.int (Int32.ofInt w.1)))) w) : ax_W G X Q h 20 ls [] := by
  unfold f_X5_month_20 at e
  refine ax_aload_n B dX5_month_20 rfl hl 0 rfl ?_
  refine ax_iconst B dX5_month_21 ?_
  refine ax_ivI (y := yX5_refuses) (n := 1) (As := [.int (Int32.ofInt (-1))]) B kd5 (lw_V q2154 q2156 qs41 q133 q2157) (by decide +kernel) ⟨Nat.le_of_ble_eq_true rfl, Nat.le_of_ble_eq_true rfl⟩ (fun w1 e1 => mt_X5_refuses l G hSF x0 (-1) _ w1 e1) rfl hl.size (by decide) dX5_month_22 e (fun q1 e => ?_)
  have e8 := e
  have hp : Q = _ := hp
  subst hp
  exact ax_ireturn B Z dX5_month_25 e8
set_option maxHeartbeats 4000000 in
theorem w_X5_month_223 {l : Launch} {G : ax_G} {X : ax_X} {Q : State → Prop} {h0 h : ax_H} {ls : Array Slot} (hSF : ax_SF G) (B : ax_BL l G X cX5_month 12 RX5 137 3564) (Z : ax_Z X h0 ((some FieldType.int))) (hn : X.2.2.2.2.2.2.2.2.1.name = yX5_month.name) (x0 : Option Nat) (x2 : Int) (x3 : Int) (x4 : Int) (x5 : Int) {w : (Int × Int × Int × ax_H) ⊕ (Int × ax_H)} (hl : ax_hl ls 12 [(0, .inr (.inr x0)), (2, .inl x2), (3, .inl x3), (4, .inl x4), (5, .inl x5)]) (e : f_X5_month_223 G.2.2 x0 x2 x3 x4 x5 h = some w) (hp : (ax_PL (pi_X5_month_67 G X Q x0 x2) (fun w : Int × ax_H => Q = ax_Q G X h0 w.2 (some (.int (Int32.ofInt w.1))))) w) : ax_W G X Q h 223 ls [] := by
  unfold f_X5_month_223 at e
  refine ax_iinc (L' := [(5, .inl (x5 + 1)), (0, .inr (.inr x0)), (2, .inl x2), (3, .inl x3), (4, .inl x4)]) B dX5_month_223 hl 4 rfl (by decide) rfl (fun ls hl => ?_)
  refine ax_goto (tgt := 67) B dX5_month_226 (by decide) ?_
  cases e
  exact hp _ (hl.sub [1, 2, 3, 4, 0] rfl)
set_option maxHeartbeats 4000000 in
theorem w_X5_month_211 {l : Launch} {G : ax_G} {X : ax_X} {Q : State → Prop} {h0 h : ax_H} {ls : Array Slot} (hSF : ax_SF G) (B : ax_BL l G X cX5_month 12 RX5 137 3564) (Z : ax_Z X h0 ((some FieldType.int))) (hn : X.2.2.2.2.2.2.2.2.1.name = yX5_month.name) (x0 : Option Nat) (x2 : Int) (x3 : Int) (x5 : Int) (s0 : Int) {w : (Int × Int × Int × ax_H) ⊕ (Int × ax_H)} (hl : ax_hl ls 12 [(0, .inr (.inr x0)), (2, .inl x2), (3, .inl x3), (5, .inl x5)]) (e : f_X5_month_211 G.2.2 x0 x2 x3 x5 s0 h = some w) (hp : (ax_PL (pi_X5_month_67 G X Q x0 x2) (fun w : Int × ax_H => Q = ax_Q G X h0 w.2 (some (.int (Int32.ofInt w.1))))) w) : ax_W G X Q h 211 ls [.int (Int32.ofInt s0)] := by
  unfold f_X5_month_211 at e
  refine ax_istore (L' := [(4, .inl s0), (0, .inr (.inr x0)), (2, .inl x2), (3, .inl x3), (5, .inl x5)]) B dX5_month_211 hl (by decide) rfl (fun ls hl => ?_)
  refine ax_iload B dX5_month_213 hl 0 rfl ?_
  refine ax_if_eq (tgt := 223) B dX5_month_215 (by decide) e (fun e => ?_) (fun e => ?_)
  · exact w_X5_month_223 hSF B Z hn x0 x2 x3 s0 x5 (hl.sub [1, 2, 3, 0, 4] rfl) e hp
  · refine ax_aload_n B dX5_month_218 rfl hl 1 rfl ?_
    refine ax_ivI (y := yX5_waits) (n := 0) (As := []) B kd5 (lw_V q2510 q2512 qs102 q133 q2513) (by decide +kernel) ⟨Nat.le_of_ble_eq_true rfl, Nat.le_of_ble_eq_true rfl⟩ (fun w1 e1 => mt_X5_waits l G hSF x0 _ w1 e1) rfl hl.size (by decide) dX5_month_219 e (fun q1 e => ?_)
    refine ax_pop B dX5_month_222 (rfl) ?_
    exact w_X5_month_223 hSF B Z hn x0 x2 x3 s0 x5 (hl.sub [1, 2, 3, 0, 4] rfl) e hp
set_option maxHeartbeats 4000000 in
theorem w_X5_month_193 {l : Launch} {G : ax_G} {X : ax_X} {Q : State → Prop} {h0 h : ax_H} {ls : Array Slot} (hSF : ax_SF G) (B : ax_BL l G X cX5_month 12 RX5 137 3564) (Z : ax_Z X h0 ((some FieldType.int))) (hn : X.2.2.2.2.2.2.2.2.1.name = yX5_month.name) (x0 : Option Nat) (x2 : Int) (x3 : Int) (x5 : Int) {w : (Int × Int × Int × ax_H) ⊕ (Int × ax_H)} (hl : ax_hl ls 12 [(0, .inr (.inr x0)), (2, .inl x2), (3, .inl x3), (5, .inl x5)]) (e : f_X5_month_193 G.2.2 x0 x2 x3 x5 h = some w) (hp : (ax_PL (pi_X5_month_67 G X Q x0 x2) (fun w : Int × ax_H => Q = ax_Q G X h0 w.2 (some (.int (Int32.ofInt w.1))))) w) : ax_W G X Q h 193 ls [] := by
  unfold f_X5_month_193 at e
  refine ax_aload_n B dX5_month_193 rfl hl 0 rfl ?_
  refine ax_getR B ff_X5_24_5 (fun _ _ => rfl) dX5_month_194 e (fun v1 e => ?_)
  refine ax_bipush B dX5_month_197 (by decide) ?_
  refine ax_iald B kd100 dX5_month_199 e (fun v2 e => ?_)
  refine ax_sipush B dX5_month_200 (by decide) ?_
  refine ax_icmp_ge (tgt := 210) B dX5_month_203 (by decide) e (fun e => ?_) (fun e => ?_)
  · refine ax_iconst B dX5_month_206 ?_
    refine ax_goto (tgt := 211) B dX5_month_207 (by decide) ?_
    exact w_X5_month_211 hSF B Z hn x0 x2 x3 x5 1 (hl.sub [0, 1, 2, 3] rfl) e hp
  · refine ax_iconst B dX5_month_210 ?_
    exact w_X5_month_211 hSF B Z hn x0 x2 x3 x5 0 (hl.sub [0, 1, 2, 3] rfl) e hp
set_option maxHeartbeats 4000000 in
theorem w_X5_month_145 {l : Launch} {G : ax_G} {X : ax_X} {Q : State → Prop} {h0 h : ax_H} {ls : Array Slot} (hSF : ax_SF G) (B : ax_BL l G X cX5_month 12 RX5 137 3564) (Z : ax_Z X h0 ((some FieldType.int))) (hn : X.2.2.2.2.2.2.2.2.1.name = yX5_month.name) (x0 : Option Nat) (x2 : Int) (x3 : Int) (x5 : Int) {w : (Int × Int × Int × ax_H) ⊕ (Int × ax_H)} (hl : ax_hl ls 12 [(0, .inr (.inr x0)), (2, .inl x2), (3, .inl x3), (5, .inl x5)]) (e : f_X5_month_145 G.2.2 x0 x2 x3 x5 h = some w) (hp : (ax_PL (pi_X5_month_67 G X Q x0 x2) (fun w : Int × ax_H => Q = ax_Q G X h0 w.2 (some (.int (Int32.ofInt w.1))))) w) : ax_W G X Q h 145 ls [] := by
  unfold f_X5_month_145 at e
  refine ax_aload_n B dX5_month_145 rfl hl 0 rfl ?_
  refine ax_aload_n B dX5_month_146 rfl hl 0 rfl ?_
  refine ax_getI B ff_X5_514_5 (fun _ _ => rfl) dX5_month_147 e (fun v1 e => ?_)
  refine ax_ivI (y := yX5_draws) (n := 1) (As := [.int (Int32.ofInt v1)]) B kd5 (lw_V q2698 q2700 qs123 q133 q2701) (by decide +kernel) ⟨Nat.le_of_ble_eq_true rfl, Nat.le_of_ble_eq_true rfl⟩ (fun w1 e1 => mt_X5_draws l G hSF x0 v1 _ w1 e1) rfl hl.size (by decide) dX5_month_150 e (fun q2 e => ?_)
  refine ax_istore (L' := [(9, .inl q2.1), (0, .inr (.inr x0)), (2, .inl x2), (3, .inl x3), (5, .inl x5)]) B dX5_month_153 hl (by decide) rfl (fun ls hl => ?_)
  refine ax_aload_n B dX5_month_155 rfl hl 1 rfl ?_
  refine ax_aload_n B dX5_month_156 rfl hl 1 rfl ?_
  refine ax_getI B ff_X5_514_5 (fun _ _ => rfl) dX5_month_157 e (fun v3 e => ?_)
  refine ax_ivI (y := yX5_draws) (n := 1) (As := [.int (Int32.ofInt v3)]) B kd5 (lw_V q2698 q2700 qs123 q133 q2701) (by decide +kernel) ⟨Nat.le_of_ble_eq_true rfl, Nat.le_of_ble_eq_true rfl⟩ (fun w1 e1 => mt_X5_draws l G hSF x0 v3 _ w1 e1) rfl hl.size (by decide) dX5_month_160 e (fun q4 e => ?_)
  refine ax_istore (L' := [(10, .inl q4.1), (9, .inl q2.1), (0, .inr (.inr x0)), (2, .inl x2), (3, .inl x3), (5, .inl x5)]) B dX5_month_163 hl (by decide) rfl (fun ls hl => ?_)
  refine ax_aload_n B dX5_month_165 rfl hl 2 rfl ?_
  refine ax_iload B dX5_month_166 hl 1 rfl ?_
  refine ax_iload B dX5_month_168 hl 0 rfl ?_
  refine ax_ldcw B cn_X5_445 dX5_month_170 ?_
  refine ax_ivI (y := yX5_canRepay) (n := 3) (As := [.int (Int32.ofInt q2.1), .int (Int32.ofInt q4.1), .int (Int32.ofInt 1000000000)]) B kd5 (lw_V q2486 q2488 qs97 q133 q2489) (by decide +kernel) ⟨Nat.le_of_ble_eq_true rfl, Nat.le_of_ble_eq_true rfl⟩ (fun w1 e1 => mt_X5_canRepay l G hSF x0 q2.1 q4.1 1000000000 _ w1 e1) rfl hl.size (by decide) dX5_month_173 e (fun q5 e => ?_)
  refine ax_istore (L' := [(11, .inl q5.1), (10, .inl q4.1), (9, .inl q2.1), (0, .inr (.inr x0)), (2, .inl x2), (3, .inl x3), (5, .inl x5)]) B dX5_month_176 hl (by decide) rfl (fun ls hl => ?_)
  refine ax_iload B dX5_month_178 hl 0 rfl ?_
  refine ax_if_le (tgt := 193) B dX5_month_180 (by decide) e (fun e => ?_) (fun e => ?_)
  · refine ax_aload_n B dX5_month_183 rfl hl 3 rfl ?_
    refine ax_iload B dX5_month_184 hl 2 rfl ?_
    refine ax_iload B dX5_month_186 hl 1 rfl ?_
    refine ax_iload B dX5_month_188 hl 0 rfl ?_
    refine ax_ivV (y := yX5_repays) (n := 3) (As := [.int (Int32.ofInt q2.1), .int (Int32.ofInt q4.1), .int (Int32.ofInt q5.1)]) B kd5 (lw_V q2490 q2492 qs98 q133 q2493) (by decide +kernel) ⟨Nat.le_of_ble_eq_true rfl, Nat.le_of_ble_eq_true rfl⟩ (fun w1 e1 => mt_X5_repays l G hSF x0 q2.1 q4.1 q5.1 _ w1 e1) rfl hl.size (by decide) dX5_month_190 e (fun h6 e => ?_)
    exact w_X5_month_193 hSF B Z hn x0 x2 x3 x5 (hl.sub [3, 4, 5, 6] rfl) e hp
  · exact w_X5_month_193 hSF B Z hn x0 x2 x3 x5 (hl.sub [3, 4, 5, 6] rfl) e hp
set_option maxHeartbeats 4000000 in
theorem wb_X5_month_232 {l : Launch} {G : ax_G} {X : ax_X} {Q : State → Prop} {h0 h : ax_H} {ls : Array Slot} (hSF : ax_SF G) (B : ax_BL l G X cX5_month 12 RX5 137 3564) (Z : ax_Z X h0 ((some FieldType.int))) (hn : X.2.2.2.2.2.2.2.2.1.name = yX5_month.name) (x0 : Option Nat) (x3 : Int) (x5 : Int) {w : (Int × ax_H) ⊕ (Int × ax_H)} (hl : ax_hl ls 12 [(0, .inr (.inr x0)), (3, .inl x3), (5, .inl x5)]) (e : lb_X5_month_232 G.2.2 x0 x3 x5 h = some w) (hp : (ax_PL (pi_X5_month_232 G X Q x0 x3) (fun w : Int × ax_H => Q = ax_Q G X h0 w.2 (some (.int (Int32.ofInt w.1))))) w) : ax_W G X Q h 232 ls [] := by
  unfold lb_X5_month_232 at e
  refine ax_iload B dX5_month_232 hl 2 rfl ?_
  refine ax_aload_n B dX5_month_234 rfl hl 0 rfl ?_
  refine ax_getI B ff_X5_514_5 (fun _ _ => rfl) dX5_month_235 e (fun v1 e => ?_)
  refine ax_icmp_ge (tgt := 292) B dX5_month_238 (by decide) e (fun e => ?_) (fun e => ?_)
  · refine ax_aload_n B dX5_month_241 rfl hl 0 rfl ?_
    refine ax_getR B ff_X5_114_5 (fun _ _ => rfl) dX5_month_242 e (fun v2 e => ?_)
    refine ax_iload B dX5_month_245 hl 2 rfl ?_
    refine ax_aload_n B dX5_month_247 rfl hl 0 rfl ?_
    refine ax_getR B ff_X5_24_5 (fun _ _ => rfl) dX5_month_248 e (fun v3 e => ?_)
    refine ax_iconst B dX5_month_251 ?_
    refine ax_iload B dX5_month_252 hl 2 rfl ?_
    refine ax_iadd' B dX5_month_254 ?_
    refine ax_iald B kd100 dX5_month_255 e (fun v4 e => ?_)
    refine ax_iast B kd100 dX5_month_256 e (fun h5 e => ?_)
    refine ax_aload_n B dX5_month_257 rfl hl 0 rfl ?_
    refine ax_getR B ff_X5_117_5 (fun _ _ => rfl) dX5_month_258 e (fun v6 e => ?_)
    refine ax_iload B dX5_month_261 hl 2 rfl ?_
    refine ax_aload_n B dX5_month_263 rfl hl 0 rfl ?_
    refine ax_iload B dX5_month_264 hl 2 rfl ?_
    refine ax_ivI (y := yX5_balanceOf) (n := 1) (As := [.int (Int32.ofInt x5)]) B kd5 (lw_V q2645 q2647 qs119 q133 q2648) (by decide +kernel) ⟨Nat.le_of_ble_eq_true rfl, Nat.le_of_ble_eq_true rfl⟩ (fun w1 e1 => mt_X5_balanceOf l G hSF x0 x5 _ w1 e1) rfl hl.size (by simp only [List.map_cons, List.map_nil, List.sum_cons, List.sum_nil, va_rf_cat, ax_catI, ax_catL]; decide) dX5_month_266 e (fun q7 e => ?_)
    refine ax_iast B kd100 dX5_month_269 e (fun h8 e => ?_)
    refine ax_aload_n B dX5_month_270 rfl hl 0 rfl ?_
    refine ax_getR B ff_X5_120_5 (fun _ _ => rfl) dX5_month_271 e (fun v9 e => ?_)
    refine ax_iload B dX5_month_274 hl 2 rfl ?_
    refine ax_aload_n B dX5_month_276 rfl hl 0 rfl ?_
    refine ax_iload B dX5_month_277 hl 2 rfl ?_
    refine ax_ivI (y := yX5_doorsOf) (n := 1) (As := [.int (Int32.ofInt x5)]) B kd5 (lw_V q2446 q2448 qs90 q133 q2449) (by decide +kernel) ⟨Nat.le_of_ble_eq_true rfl, Nat.le_of_ble_eq_true rfl⟩ (fun w1 e1 => mt_X5_doorsOf l G hSF x0 x5 _ w1 e1) rfl hl.size (by simp only [List.map_cons, List.map_nil, List.sum_cons, List.sum_nil, va_rf_cat, ax_catI, ax_catL]; decide) dX5_month_279 e (fun q10 e => ?_)
    refine ax_isI (y := yX5_ones) (n := 1) (As := [.int (Int32.ofInt q10.1)]) B (lw_S q2593 q2594 q133 q2595) (by decide +kernel) ⟨Nat.le_of_ble_eq_true rfl, Nat.le_of_ble_eq_true rfl⟩ (fun w1 e1 => mt_X5_ones l G hSF q10.1 _ w1 e1) rfl hl.size (by simp only [List.map_cons, List.map_nil, List.sum_cons, List.sum_nil, va_rf_cat, ax_catI, ax_catL]; decide) dX5_month_282 e (fun q11 e => ?_)
    refine ax_iast B kd100 dX5_month_285 e (fun h12 e => ?_)
    refine ax_iinc (L' := [(5, .inl (x5 + 1)), (0, .inr (.inr x0)), (3, .inl x3)]) B dX5_month_286 hl 2 rfl (by decide) rfl (fun ls hl => ?_)
    refine ax_goto (tgt := 232) B dX5_month_289 (by decide) ?_
    cases e
    exact hp _ (hl.sub [1, 2, 0] rfl)
  · obtain ⟨w, e9_1, rfl⟩ := Option.map_eq_some_iff.mp e
    have e := e9_1
    refine ax_aload_n B dX5_month_292 rfl hl 0 rfl ?_
    refine ax_bipush B dX5_month_293 (by decide) ?_
    refine ax_ivV (y := yX5_takesBack) (n := 1) (As := [.int (Int32.ofInt 9)]) B kd5 (lw_V q2581 q2583 qs112 q133 q2584) (by decide +kernel) ⟨Nat.le_of_ble_eq_true rfl, Nat.le_of_ble_eq_true rfl⟩ (fun w1 e1 => mt_X5_takesBack l G hSF x0 9 _ w1 e1) rfl hl.size (by decide) dX5_month_295 e (fun h13 e => ?_)
    refine ax_aload_n B dX5_month_298 rfl hl 0 rfl ?_
    refine ax_iload_n B dX5_month_299 rfl hl 1 rfl ?_
    refine ax_ivI (y := yX5_good) (n := 1) (As := [.int (Int32.ofInt x3)]) B kd5 (lw_V q2158 q2160 qs42 q133 q2161) (by decide +kernel) ⟨Nat.le_of_ble_eq_true rfl, Nat.le_of_ble_eq_true rfl⟩ (fun w1 e1 => mt_X5_good l G hSF x0 x3 _ w1 e1) rfl hl.size (by decide) dX5_month_300 e (fun q14 e => ?_)
    have e8 := e
    have hp : Q = _ := hp
    subst hp
    exact ax_ireturn B Z dX5_month_303 e8
theorem w_X5_month_232 {l : Launch} {G : ax_G} {X : ax_X} {Q : State → Prop} {h0 h : ax_H} {ls : Array Slot} (hSF : ax_SF G) (B : ax_BL l G X cX5_month 12 RX5 137 3564) (Z : ax_Z X h0 ((some FieldType.int))) (hn : X.2.2.2.2.2.2.2.2.1.name = yX5_month.name) (x0 : Option Nat) (x3 : Int) (x5 : Int) {w : Int × ax_H} (hl : ax_hl ls 12 [(0, .inr (.inr x0)), (3, .inl x3), (5, .inl x5)]) (e : f_X5_month_232 G.2.2 x0 x3 x5 h = some w) (hp : (fun w : Int × ax_H => Q = ax_Q G X h0 w.2 (some (.int (Int32.ofInt w.1)))) w) : ax_W G X Q h 232 ls [] :=
  ax_iter_W (Pin := pi_X5_month_232 G X Q x0 x3) (Pout := (fun w : Int × ax_H => Q = ax_Q G X h0 w.2 (some (.int (Int32.ofInt w.1))))) (fun s w e hp ls hl => wb_X5_month_232 hSF B Z hn x0 x3 s.1 hl e hp) _ _ e hp ls hl
set_option maxHeartbeats 4000000 in
theorem w_X5_month_229 {l : Launch} {G : ax_G} {X : ax_X} {Q : State → Prop} {h0 h : ax_H} {ls : Array Slot} (hSF : ax_SF G) (B : ax_BL l G X cX5_month 12 RX5 137 3564) (Z : ax_Z X h0 ((some FieldType.int))) (hn : X.2.2.2.2.2.2.2.2.1.name = yX5_month.name) (x0 : Option Nat) (x3 : Int) {w : Int × ax_H} (hl : ax_hl ls 12 [(0, .inr (.inr x0)), (3, .inl x3)]) (e : f_X5_month_229 G.2.2 x0 x3 h = some w) (hp : (fun w : Int × ax_H => Q = ax_Q G X h0 w.2 (some (.int (Int32.ofInt w.1)))) w) : ax_W G X Q h 229 ls [] := by
  unfold f_X5_month_229 at e
  refine ax_iconst B dX5_month_229 ?_
  refine ax_istore (L' := [(5, .inl 0), (0, .inr (.inr x0)), (3, .inl x3)]) B dX5_month_230 hl (by decide) rfl (fun ls hl => ?_)
  exact w_X5_month_232 hSF B Z hn x0 x3 0 (hl.sub [1, 2, 0] rfl) e hp
set_option maxHeartbeats 4000000 in
theorem wb_X5_month_67 {l : Launch} {G : ax_G} {X : ax_X} {Q : State → Prop} {h0 h : ax_H} {ls : Array Slot} (hSF : ax_SF G) (B : ax_BL l G X cX5_month 12 RX5 137 3564) (Z : ax_Z X h0 ((some FieldType.int))) (hn : X.2.2.2.2.2.2.2.2.1.name = yX5_month.name) (x0 : Option Nat) (x2 : Int) (x3 : Int) (x4 : Int) (x5 : Int) {w : (Int × Int × Int × ax_H) ⊕ (Int × ax_H)} (hl : ax_hl ls 12 [(0, .inr (.inr x0)), (2, .inl x2), (3, .inl x3), (4, .inl x4), (5, .inl x5)]) (e : lb_X5_month_67 G.2.2 x0 x2 x3 x4 x5 h = some w) (hp : (ax_PL (pi_X5_month_67 G X Q x0 x2) (fun w : Int × ax_H => Q = ax_Q G X h0 w.2 (some (.int (Int32.ofInt w.1))))) w) : ax_W G X Q h 67 ls [] := by
  unfold lb_X5_month_67 at e
  refine ax_iload B dX5_month_67 hl 4 rfl ?_
  refine ax_iload_n B dX5_month_69 rfl hl 1 rfl ?_
  refine ax_icmp_ge (tgt := 229) B dX5_month_70 (by decide) e (fun e => ?_) (fun e => ?_)
  · refine ax_iload B dX5_month_73 hl 3 rfl ?_
    refine ax_if_eq (tgt := 229) B dX5_month_75 (by decide) e (fun e => ?_) (fun e => ?_)
    · obtain ⟨w, e9_2, rfl⟩ := Option.map_eq_some_iff.mp e
      have e := e9_2
      exact w_X5_month_229 hSF B Z hn x0 x3 (hl.sub [0, 2] rfl) e hp
    · refine ax_aload_n B dX5_month_78 rfl hl 0 rfl ?_
      refine ax_aload_n B dX5_month_79 rfl hl 0 rfl ?_
      refine ax_getI B ff_X5_514_5 (fun _ _ => rfl) dX5_month_80 e (fun v1 e => ?_)
      refine ax_ivI (y := yX5_draws) (n := 1) (As := [.int (Int32.ofInt v1)]) B kd5 (lw_V q2698 q2700 qs123 q133 q2701) (by decide +kernel) ⟨Nat.le_of_ble_eq_true rfl, Nat.le_of_ble_eq_true rfl⟩ (fun w1 e1 => mt_X5_draws l G hSF x0 v1 _ w1 e1) rfl hl.size (by decide) dX5_month_83 e (fun q2 e => ?_)
      refine ax_istore (L' := [(6, .inl q2.1), (0, .inr (.inr x0)), (2, .inl x2), (3, .inl x3), (4, .inl x4), (5, .inl x5)]) B dX5_month_86 hl (by decide) rfl (fun ls hl => ?_)
      refine ax_aload_n B dX5_month_88 rfl hl 1 rfl ?_
      refine ax_aload_n B dX5_month_89 rfl hl 1 rfl ?_
      refine ax_getI B ff_X5_514_5 (fun _ _ => rfl) dX5_month_90 e (fun v3 e => ?_)
      refine ax_ivI (y := yX5_draws) (n := 1) (As := [.int (Int32.ofInt v3)]) B kd5 (lw_V q2698 q2700 qs123 q133 q2701) (by decide +kernel) ⟨Nat.le_of_ble_eq_true rfl, Nat.le_of_ble_eq_true rfl⟩ (fun w1 e1 => mt_X5_draws l G hSF x0 v3 _ w1 e1) rfl hl.size (by decide) dX5_month_93 e (fun q4 e => ?_)
      refine ax_istore (L' := [(7, .inl q4.1), (6, .inl q2.1), (0, .inr (.inr x0)), (2, .inl x2), (3, .inl x3), (4, .inl x4), (5, .inl x5)]) B dX5_month_96 hl (by decide) rfl (fun ls hl => ?_)
      refine ax_aload_n B dX5_month_98 rfl hl 2 rfl ?_
      refine ax_bipush B dX5_month_99 (by decide) ?_
      refine ax_ivI (y := yX5_draws) (n := 1) (As := [.int (Int32.ofInt 50)]) B kd5 (lw_V q2698 q2700 qs123 q133 q2701) (by decide +kernel) ⟨Nat.le_of_ble_eq_true rfl, Nat.le_of_ble_eq_true rfl⟩ (fun w1 e1 => mt_X5_draws l G hSF x0 50 _ w1 e1) rfl hl.size (by decide) dX5_month_101 e (fun q5 e => ?_)
      refine ax_iconst B dX5_month_104 ?_
      refine ax_iadd' B dX5_month_105 ?_
      refine ax_istore (L' := [(8, .inl (q5.1 + 1)), (7, .inl q4.1), (6, .inl q2.1), (0, .inr (.inr x0)), (2, .inl x2), (3, .inl x3), (4, .inl x4), (5, .inl x5)]) B dX5_month_106 hl (by decide) rfl (fun ls hl => ?_)
      refine ax_aload_n B dX5_month_108 rfl hl 3 rfl ?_
      refine ax_iload B dX5_month_109 hl 2 rfl ?_
      refine ax_iload B dX5_month_111 hl 1 rfl ?_
      refine ax_iload B dX5_month_113 hl 0 rfl ?_
      refine ax_ivI (y := yX5_canLend) (n := 3) (As := [.int (Int32.ofInt q2.1), .int (Int32.ofInt q4.1), .int (Int32.ofInt (q5.1 + 1))]) B kd5 (lw_V q2462 q2464 qs92 q133 q2465) (by decide +kernel) ⟨Nat.le_of_ble_eq_true rfl, Nat.le_of_ble_eq_true rfl⟩ (fun w1 e1 => mt_X5_canLend l G hSF x0 q2.1 q4.1 (q5.1 + 1) _ w1 e1) rfl hl.size (by decide) dX5_month_115 e (fun q6 e => ?_)
      refine ax_if_eq (tgt := 145) B dX5_month_118 (by decide) e (fun e => ?_) (fun e => ?_)
      · exact w_X5_month_145 hSF B Z hn x0 x2 x3 x5 (hl.sub [3, 4, 5, 7] rfl) e hp
      · refine ax_aload_n B dX5_month_121 rfl hl 3 rfl ?_
        refine ax_ivI (y := yX5_debts) (n := 0) (As := []) B kd5 (lw_V q2210 q2212 qs47 q133 q2213) (by decide +kernel) ⟨Nat.le_of_ble_eq_true rfl, Nat.le_of_ble_eq_true rfl⟩ (fun w1 e1 => mt_X5_debts l G hSF x0 _ w1 e1) rfl hl.size (by decide) dX5_month_122 e (fun q7 e => ?_)
        refine ax_bipush B dX5_month_125 (by decide) ?_
        refine ax_icmp_ge (tgt := 145) B dX5_month_127 (by decide) e (fun e => ?_) (fun e => ?_)
        · refine ax_aload_n B dX5_month_130 rfl hl 3 rfl ?_
          refine ax_iload B dX5_month_131 hl 2 rfl ?_
          refine ax_iload B dX5_month_133 hl 1 rfl ?_
          refine ax_iload B dX5_month_135 hl 0 rfl ?_
          refine ax_ivV (y := yX5_lends) (n := 3) (As := [.int (Int32.ofInt q2.1), .int (Int32.ofInt q4.1), .int (Int32.ofInt (q5.1 + 1))]) B kd5 (lw_V q2470 q2472 qs94 q133 q2473) (by decide +kernel) ⟨Nat.le_of_ble_eq_true rfl, Nat.le_of_ble_eq_true rfl⟩ (fun w1 e1 => mt_X5_lends l G hSF x0 q2.1 q4.1 (q5.1 + 1) _ w1 e1) rfl hl.size (by decide) dX5_month_137 e (fun h8 e => ?_)
          refine ax_iload_n B dX5_month_140 rfl hl 5 rfl ?_
          refine ax_iload B dX5_month_141 hl 0 rfl ?_
          refine ax_iadd' B dX5_month_143 ?_
          refine ax_istore_n (L' := [(3, .inl (x3 + (q5.1 + 1))), (8, .inl (q5.1 + 1)), (7, .inl q4.1), (6, .inl q2.1), (0, .inr (.inr x0)), (2, .inl x2), (4, .inl x4), (5, .inl x5)]) B dX5_month_144 rfl hl (by decide) rfl (fun ls hl => ?_)
          exact w_X5_month_145 hSF B Z hn x0 x2 (x3 + (q5.1 + 1)) x5 (hl.sub [4, 5, 0, 7] rfl) e hp
        · exact w_X5_month_145 hSF B Z hn x0 x2 x3 x5 (hl.sub [3, 4, 5, 7] rfl) e hp
  · obtain ⟨w, e9_3, rfl⟩ := Option.map_eq_some_iff.mp e
    have e := e9_3
    exact w_X5_month_229 hSF B Z hn x0 x3 (hl.sub [0, 2] rfl) e hp
theorem w_X5_month_67 {l : Launch} {G : ax_G} {X : ax_X} {Q : State → Prop} {h0 h : ax_H} {ls : Array Slot} (hSF : ax_SF G) (B : ax_BL l G X cX5_month 12 RX5 137 3564) (Z : ax_Z X h0 ((some FieldType.int))) (hn : X.2.2.2.2.2.2.2.2.1.name = yX5_month.name) (x0 : Option Nat) (x2 : Int) (x3 : Int) (x4 : Int) (x5 : Int) {w : Int × ax_H} (hl : ax_hl ls 12 [(0, .inr (.inr x0)), (2, .inl x2), (3, .inl x3), (4, .inl x4), (5, .inl x5)]) (e : f_X5_month_67 G.2.2 x0 x2 x3 x4 x5 h = some w) (hp : (fun w : Int × ax_H => Q = ax_Q G X h0 w.2 (some (.int (Int32.ofInt w.1)))) w) : ax_W G X Q h 67 ls [] :=
  ax_iter_W (Pin := pi_X5_month_67 G X Q x0 x2) (Pout := (fun w : Int × ax_H => Q = ax_Q G X h0 w.2 (some (.int (Int32.ofInt w.1))))) (fun s w e hp ls hl => wb_X5_month_67 hSF B Z hn x0 x2 s.1 s.2.1 s.2.2.1 hl e hp) _ _ e hp ls hl
set_option maxHeartbeats 4000000 in
theorem we_X5_month {l : Launch} {G : ax_G} {X : ax_X} {Q : State → Prop} {h0 h : ax_H} {ls : Array Slot} (hSF : ax_SF G) (B : ax_BL l G X cX5_month 12 RX5 137 3564) (Z : ax_Z X h0 ((some FieldType.int))) (hn : X.2.2.2.2.2.2.2.2.1.name = yX5_month.name) (x0 : Option Nat) (x1 : Int) (x2 : Int) {w : Int × ax_H} (hl : ax_hl ls 12 [(0, .inr (.inr x0)), (1, .inl x1), (2, .inl x2)]) (e : f_X5_month G.2.2 x0 x1 x2 h = some w) (hp : (fun w : Int × ax_H => Q = ax_Q G X h0 w.2 (some (.int (Int32.ofInt w.1)))) w) : ax_W G X Q h 0 ls [] := by
  unfold f_X5_month at e
  refine ax_iload_n B dX5_month_0 rfl hl 1 rfl ?_
  refine ax_iconst B dX5_month_1 ?_
  refine ax_ldc B cn_X5_199 dX5_month_2 ?_
  refine ax_isI (y := yX5_lies) (n := 3) (As := [.int (Int32.ofInt x1), .int (Int32.ofInt 0), .int (Int32.ofInt 1000000)]) B (lw_S q2151 q2152 q133 q2153) (by decide +kernel) ⟨Nat.le_of_ble_eq_true rfl, Nat.le_of_ble_eq_true rfl⟩ (fun w1 e1 => mt_X5_lies l G hSF x1 0 1000000 _ w1 e1) rfl hl.size (by decide) dX5_month_4 e (fun q1 e => ?_)
  refine ax_if_eq (tgt := 20) B dX5_month_7 (by decide) e (fun e => ?_) (fun e => ?_)
  · exact w_X5_month_20 hSF B Z hn x0 (hl.sub [0] rfl) e hp
  · refine ax_iload_n B dX5_month_10 rfl hl 2 rfl ?_
    refine ax_iconst B dX5_month_11 ?_
    refine ax_bipush B dX5_month_12 (by decide) ?_
    refine ax_isI (y := yX5_lies) (n := 3) (As := [.int (Int32.ofInt x2), .int (Int32.ofInt 1), .int (Int32.ofInt 30)]) B (lw_S q2151 q2152 q133 q2153) (by decide +kernel) ⟨Nat.le_of_ble_eq_true rfl, Nat.le_of_ble_eq_true rfl⟩ (fun w1 e1 => mt_X5_lies l G hSF x2 1 30 _ w1 e1) rfl hl.size (by decide) dX5_month_14 e (fun q2 e => ?_)
    refine ax_if_ne (tgt := 26) B dX5_month_17 (by decide) e (fun e => ?_) (fun e => ?_)
    · exact w_X5_month_20 hSF B Z hn x0 (hl.sub [0] rfl) e hp
    · refine ax_aload_n B dX5_month_26 rfl hl 0 rfl ?_
      refine ax_ivI (y := yX5_people) (n := 0) (As := []) B kd5 (lw_V q2180 q2182 qs44 q133 q2183) (by decide +kernel) ⟨Nat.le_of_ble_eq_true rfl, Nat.le_of_ble_eq_true rfl⟩ (fun w1 e1 => mt_X5_people l G hSF x0 _ w1 e1) rfl hl.size (by decide) dX5_month_27 e (fun q3 e => ?_)
      refine ax_if_ne (tgt := 40) B dX5_month_30 (by decide) e (fun e => ?_) (fun e => ?_)
      · refine ax_aload_n B dX5_month_33 rfl hl 0 rfl ?_
        refine ax_bipush B dX5_month_34 (by decide) ?_
        refine ax_ivI (y := yX5_refuses) (n := 1) (As := [.int (Int32.ofInt (-3))]) B kd5 (lw_V q2154 q2156 qs41 q133 q2157) (by decide +kernel) ⟨Nat.le_of_ble_eq_true rfl, Nat.le_of_ble_eq_true rfl⟩ (fun w1 e1 => mt_X5_refuses l G hSF x0 (-3) _ w1 e1) rfl hl.size (by decide) dX5_month_36 e (fun q4 e => ?_)
        have e8 := e
        have hp : Q = _ := hp
        subst hp
        exact ax_ireturn B Z dX5_month_39 e8
      · refine ax_aload_n B dX5_month_40 rfl hl 0 rfl ?_
        refine ax_iload_n B dX5_month_41 rfl hl 1 rfl ?_
        refine ax_putI B ff_X5_507_5 (Or.inl rfl) rfl dX5_month_42 e (fun h5 e => ?_)
        refine ax_aload_n B dX5_month_45 rfl hl 0 rfl ?_
        refine ax_aload_n B dX5_month_46 rfl hl 0 rfl ?_
        refine ax_ivI (y := yX5_people) (n := 0) (As := []) B kd5 (lw_V q2180 q2182 qs44 q133 q2183) (by decide +kernel) ⟨Nat.le_of_ble_eq_true rfl, Nat.le_of_ble_eq_true rfl⟩ (fun w1 e1 => mt_X5_people l G hSF x0 _ w1 e1) rfl hl.size (by simp only [List.map_cons, List.map_nil, List.sum_cons, List.sum_nil, va_rf_cat, ax_catI, ax_catL]; decide) dX5_month_47 e (fun q6 e => ?_)
        refine ax_putI B ff_X5_514_5 (Or.inl rfl) rfl dX5_month_50 e (fun h7 e => ?_)
        refine ax_aload_n B dX5_month_53 rfl hl 0 rfl ?_
        refine ax_bipush B dX5_month_54 (by decide) ?_
        refine ax_ivV (y := yX5_laysAside) (n := 1) (As := [.int (Int32.ofInt 9)]) B kd5 (lw_V q2577 q2579 qs111 q133 q2580) (by decide +kernel) ⟨Nat.le_of_ble_eq_true rfl, Nat.le_of_ble_eq_true rfl⟩ (fun w1 e1 => mt_X5_laysAside l G hSF x0 9 _ w1 e1) rfl hl.size (by decide) dX5_month_56 e (fun h8 e => ?_)
        refine ax_iconst B dX5_month_59 ?_
        refine ax_istore_n (L' := [(3, .inl 0), (0, .inr (.inr x0)), (1, .inl x1), (2, .inl x2)]) B dX5_month_60 rfl hl (by decide) rfl (fun ls hl => ?_)
        refine ax_iconst B dX5_month_61 ?_
        refine ax_istore (L' := [(4, .inl 1), (3, .inl 0), (0, .inr (.inr x0)), (1, .inl x1), (2, .inl x2)]) B dX5_month_62 hl (by decide) rfl (fun ls hl => ?_)
        refine ax_iconst B dX5_month_64 ?_
        refine ax_istore (L' := [(5, .inl 0), (4, .inl 1), (3, .inl 0), (0, .inr (.inr x0)), (1, .inl x1), (2, .inl x2)]) B dX5_month_65 hl (by decide) rfl (fun ls hl => ?_)
        exact w_X5_month_67 hSF B Z hn x0 x2 0 1 0 (hl.sub [3, 5, 2, 1, 0] rfl) e hp
theorem mt_X5_month (l : Launch) (G : ax_G) (hSF : ax_SF G) (x0 : Option Nat) (x1 : Int) (x2 : Int) (h : ax_H) (w : Int × ax_H) (e : f_X5_month G.2.2 x0 x1 x2 h = some w) : ax_Met l G yX5_month cX5_month 12 ((some FieldType.int)) 137 3564 [va_rf x0, .int (Int32.ofInt x1), .int (Int32.ofInt x2)] h w.2 (some (.int (Int32.ofInt w.1))) :=
  ax_enter [.inr (.inr x0), .inl x1, .inl x2] (y := yX5_month) hSF (plainFor_of_name (by decide +kernel)) (Nat.le_of_ble_eq_true rfl) (fun X ls B Z hn hl => we_X5_month hSF B Z hn x0 x1 x2 hl e rfl)
def dkwX5_drawn_3 : List UInt8 := [172]
abbrev dktX5_drawn_3 : List UInt8 := dkwX5_drawn_3 ++ []
def dkwX5_drawn_2 : List UInt8 := [42, 180, 0, 114, 27, 46, 172, 42, 180, 0, 117, 27, 46, 172, 42, 180, 0, 120, 27, 46, 172, 19, 1, 211]
abbrev dktX5_drawn_2 : List UInt8 := dkwX5_drawn_2 ++ dktX5_drawn_3
def dkwX5_drawn_1 : List UInt8 := [170, 0, 0, 0, 46, 0, 0, 0, 0, 0, 0, 0, 2, 0, 0, 0, 25, 0, 0, 0, 32, 0, 0, 0, 39]
abbrev dktX5_drawn_1 : List UInt8 := dkwX5_drawn_1 ++ dktX5_drawn_2
def dkwX5_drawn_0 : List UInt8 := [27, 3, 42, 180, 2, 2, 4, 100, 184, 0, 123, 154, 0, 7, 19, 1, 211, 172, 28]
abbrev dktX5_drawn_0 : List UInt8 := dkwX5_drawn_0 ++ dktX5_drawn_1
theorem dksX5_drawn_0 : cX5_drawn.data.toList.drop 0 = dktX5_drawn_0 := by decide +kernel
theorem dksX5_drawn_1 : cX5_drawn.data.toList.drop 19 = dktX5_drawn_1 := dk_seg dksX5_drawn_0 19 rfl rfl
theorem dksX5_drawn_2 : cX5_drawn.data.toList.drop 44 = dktX5_drawn_2 := dk_seg dksX5_drawn_1 25 rfl rfl
theorem dksX5_drawn_3 : cX5_drawn.data.toList.drop 68 = dktX5_drawn_3 := dk_seg dksX5_drawn_2 24 rfl rfl
theorem dX5_drawn_0 : decode cX5_drawn 0 = .ok (.iload_n 1, 1) := dk_27 (dk_at dksX5_drawn_0 0 rfl rfl)
theorem dX5_drawn_1 : decode cX5_drawn 1 = .ok (.iconst 0, 1) := dk_3 (dk_at dksX5_drawn_0 1 rfl rfl)
theorem dX5_drawn_2 : decode cX5_drawn 2 = .ok (.aload_n 0, 1) := dk_42 (dk_at dksX5_drawn_0 2 rfl rfl)
theorem dX5_drawn_3 : decode cX5_drawn 3 = .ok (.getfield 514, 3) := dk_180 2 2 (dk_at dksX5_drawn_0 3 rfl rfl)
theorem dX5_drawn_6 : decode cX5_drawn 6 = .ok (.iconst 1, 1) := dk_4 (dk_at dksX5_drawn_0 6 rfl rfl)
theorem dX5_drawn_7 : decode cX5_drawn 7 = .ok (.isub, 1) := dk_100 (dk_at dksX5_drawn_0 7 rfl rfl)
theorem dX5_drawn_8 : decode cX5_drawn 8 = .ok (.invokestatic 123, 3) := dk_184 0 123 (dk_at dksX5_drawn_0 8 rfl rfl)
theorem dX5_drawn_11 : decode cX5_drawn 11 = .ok (.ifCond .ne 7, 3) := dk_154 0 7 (dk_at dksX5_drawn_0 11 rfl rfl)
theorem dX5_drawn_14 : decode cX5_drawn 14 = .ok (.ldc_w 467, 3) := dk_19 1 211 (dk_at dksX5_drawn_0 14 rfl rfl)
theorem dX5_drawn_17 : decode cX5_drawn 17 = .ok (.ireturn, 1) := dk_172 (dk_at dksX5_drawn_0 17 rfl rfl)
theorem dX5_drawn_18 : decode cX5_drawn 18 = .ok (.iload_n 2, 1) := dk_28 (dk_at dksX5_drawn_0 18 rfl rfl)
theorem dX5_drawn_19 : decode cX5_drawn 19 = .ok (.tableswitch 46 0 2 #[25, 32, 39], 25) := by decide +kernel
theorem dX5_drawn_44 : decode cX5_drawn 44 = .ok (.aload_n 0, 1) := dk_42 (dk_at dksX5_drawn_2 0 rfl rfl)
theorem dX5_drawn_45 : decode cX5_drawn 45 = .ok (.getfield 114, 3) := dk_180 0 114 (dk_at dksX5_drawn_2 1 rfl rfl)
theorem dX5_drawn_48 : decode cX5_drawn 48 = .ok (.iload_n 1, 1) := dk_27 (dk_at dksX5_drawn_2 4 rfl rfl)
theorem dX5_drawn_49 : decode cX5_drawn 49 = .ok (.iaload, 1) := dk_46 (dk_at dksX5_drawn_2 5 rfl rfl)
theorem dX5_drawn_50 : decode cX5_drawn 50 = .ok (.ireturn, 1) := dk_172 (dk_at dksX5_drawn_2 6 rfl rfl)
theorem dX5_drawn_51 : decode cX5_drawn 51 = .ok (.aload_n 0, 1) := dk_42 (dk_at dksX5_drawn_2 7 rfl rfl)
theorem dX5_drawn_52 : decode cX5_drawn 52 = .ok (.getfield 117, 3) := dk_180 0 117 (dk_at dksX5_drawn_2 8 rfl rfl)
theorem dX5_drawn_55 : decode cX5_drawn 55 = .ok (.iload_n 1, 1) := dk_27 (dk_at dksX5_drawn_2 11 rfl rfl)
theorem dX5_drawn_56 : decode cX5_drawn 56 = .ok (.iaload, 1) := dk_46 (dk_at dksX5_drawn_2 12 rfl rfl)
theorem dX5_drawn_57 : decode cX5_drawn 57 = .ok (.ireturn, 1) := dk_172 (dk_at dksX5_drawn_2 13 rfl rfl)
theorem dX5_drawn_58 : decode cX5_drawn 58 = .ok (.aload_n 0, 1) := dk_42 (dk_at dksX5_drawn_2 14 rfl rfl)
theorem dX5_drawn_59 : decode cX5_drawn 59 = .ok (.getfield 120, 3) := dk_180 0 120 (dk_at dksX5_drawn_2 15 rfl rfl)
theorem dX5_drawn_62 : decode cX5_drawn 62 = .ok (.iload_n 1, 1) := dk_27 (dk_at dksX5_drawn_2 18 rfl rfl)
theorem dX5_drawn_63 : decode cX5_drawn 63 = .ok (.iaload, 1) := dk_46 (dk_at dksX5_drawn_2 19 rfl rfl)
theorem dX5_drawn_64 : decode cX5_drawn 64 = .ok (.ireturn, 1) := dk_172 (dk_at dksX5_drawn_2 20 rfl rfl)
theorem dX5_drawn_65 : decode cX5_drawn 65 = .ok (.ldc_w 467, 3) := dk_19 1 211 (dk_at dksX5_drawn_2 21 rfl rfl)
theorem dX5_drawn_68 : decode cX5_drawn 68 = .ok (.ireturn, 1) := dk_172 (dk_at dksX5_drawn_3 0 rfl rfl)
noncomputable def f_X5_drawn (E : ax_E) (x0 : Option Nat) (x1 : Int) (x2 : Int) (h : ax_H) : Option (Int × ax_H) :=
  (ax_gI E h x0 5 59).bind fun v1 =>
  (f_X5_lies E x1 0 (v1 - 1) h).bind fun q2 =>
  if i2 q2.1 = 0 then
    some ((-1000000), q2.2)
  else
    if i2 x2 = 0 then
      (ax_gR E q2.2 x0 5 56).bind fun v3 =>
      (ax_ld E q2.2 v3 100 x1).bind fun v4 =>
      some (v4, q2.2)
    else if i2 x2 = 1 then
      (ax_gR E q2.2 x0 5 57).bind fun v5 =>
      (ax_ld E q2.2 v5 100 x1).bind fun v6 =>
      some (v6, q2.2)
    else if i2 x2 = 2 then
      (ax_gR E q2.2 x0 5 58).bind fun v7 =>
      (ax_ld E q2.2 v7 100 x1).bind fun v8 =>
      some (v8, q2.2)
    else 
      some ((-1000000), q2.2)
set_option maxHeartbeats 4000000 in
theorem we_X5_drawn {l : Launch} {G : ax_G} {X : ax_X} {Q : State → Prop} {h0 h : ax_H} {ls : Array Slot} (hSF : ax_SF G) (B : ax_BL l G X cX5_drawn 3 RX5 2 62) (Z : ax_Z X h0 ((some FieldType.int))) (hn : X.2.2.2.2.2.2.2.2.1.name = yX5_drawn.name) (x0 : Option Nat) (x1 : Int) (x2 : Int) {w : Int × ax_H} (hl : ax_hl ls 3 [(0, .inr (.inr x0)), (1, .inl x1), (2, .inl x2)]) (e : f_X5_drawn G.2.2 x0 x1 x2 h = some w) (hp : (fun w : Int × ax_H => Q = ax_Q G X h0 w.2 (some (.int (Int32.ofInt w.1)))) w) : ax_W G X Q h 0 ls [] := by
  unfold f_X5_drawn at e
  refine ax_iload_n B dX5_drawn_0 rfl hl 1 rfl ?_
  refine ax_iconst B dX5_drawn_1 ?_
  refine ax_aload_n B dX5_drawn_2 rfl hl 0 rfl ?_
  refine ax_getI B ff_X5_514_5 (fun _ _ => rfl) dX5_drawn_3 e (fun v1 e => ?_)
  refine ax_iconst B dX5_drawn_6 ?_
  refine ax_isub' B dX5_drawn_7 ?_
  refine ax_isI (y := yX5_lies) (n := 3) (As := [.int (Int32.ofInt x1), .int (Int32.ofInt 0), .int (Int32.ofInt (v1 - 1))]) B (lw_S q2151 q2152 q133 q2153) (by decide +kernel) ⟨Nat.le_of_ble_eq_true rfl, Nat.le_of_ble_eq_true rfl⟩ (fun w1 e1 => mt_X5_lies l G hSF x1 0 (v1 - 1) _ w1 e1) rfl hl.size (by decide) dX5_drawn_8 e (fun q2 e => ?_)
  refine ax_if_ne (tgt := 18) B dX5_drawn_11 (by decide) e (fun e => ?_) (fun e => ?_)
  · refine ax_ldcw B cn_X5_467 dX5_drawn_14 ?_
    have e8 := e
    have hp : Q = _ := hp
    subst hp
    exact ax_ireturn B Z dX5_drawn_17 e8
  · refine ax_iload_n B dX5_drawn_18 rfl hl 2 rfl ?_
    rcases ax_ite e with ⟨hk0, e⟩ | ⟨hk0, e⟩
    · refine ax_tswIn (tgt := 44) (off := 25) B dX5_drawn_19 (by omega) (by omega) (by rw [hk0]; rfl) (by decide) ?_
      refine ax_aload_n B dX5_drawn_44 rfl hl 0 rfl ?_
      refine ax_getR B ff_X5_114_5 (fun _ _ => rfl) dX5_drawn_45 e (fun v3 e => ?_)
      refine ax_iload_n B dX5_drawn_48 rfl hl 1 rfl ?_
      refine ax_iald B kd100 dX5_drawn_49 e (fun v4 e => ?_)
      have e8 := e
      have hp : Q = _ := hp
      subst hp
      exact ax_ireturn B Z dX5_drawn_50 e8
    rcases ax_ite e with ⟨hk1, e⟩ | ⟨hk1, e⟩
    · refine ax_tswIn (tgt := 51) (off := 32) B dX5_drawn_19 (by omega) (by omega) (by rw [hk1]; rfl) (by decide) ?_
      refine ax_aload_n B dX5_drawn_51 rfl hl 0 rfl ?_
      refine ax_getR B ff_X5_117_5 (fun _ _ => rfl) dX5_drawn_52 e (fun v5 e => ?_)
      refine ax_iload_n B dX5_drawn_55 rfl hl 1 rfl ?_
      refine ax_iald B kd100 dX5_drawn_56 e (fun v6 e => ?_)
      have e8 := e
      have hp : Q = _ := hp
      subst hp
      exact ax_ireturn B Z dX5_drawn_57 e8
    rcases ax_ite e with ⟨hk2, e⟩ | ⟨hk2, e⟩
    · refine ax_tswIn (tgt := 58) (off := 39) B dX5_drawn_19 (by omega) (by omega) (by rw [hk2]; rfl) (by decide) ?_
      refine ax_aload_n B dX5_drawn_58 rfl hl 0 rfl ?_
      refine ax_getR B ff_X5_120_5 (fun _ _ => rfl) dX5_drawn_59 e (fun v7 e => ?_)
      refine ax_iload_n B dX5_drawn_62 rfl hl 1 rfl ?_
      refine ax_iald B kd100 dX5_drawn_63 e (fun v8 e => ?_)
      have e8 := e
      have hp : Q = _ := hp
      subst hp
      exact ax_ireturn B Z dX5_drawn_64 e8
    refine ax_tswOut (tgt := 65) B dX5_drawn_19 (by omega) (by decide) ?_
    refine ax_ldcw B cn_X5_467 dX5_drawn_65 ?_
    have e8 := e
    have hp : Q = _ := hp
    subst hp
    exact ax_ireturn B Z dX5_drawn_68 e8
theorem mt_X5_drawn (l : Launch) (G : ax_G) (hSF : ax_SF G) (x0 : Option Nat) (x1 : Int) (x2 : Int) (h : ax_H) (w : Int × ax_H) (e : f_X5_drawn G.2.2 x0 x1 x2 h = some w) : ax_Met l G yX5_drawn cX5_drawn 3 ((some FieldType.int)) 2 62 [va_rf x0, .int (Int32.ofInt x1), .int (Int32.ofInt x2)] h w.2 (some (.int (Int32.ofInt w.1))) :=
  ax_enter [.inr (.inr x0), .inl x1, .inl x2] (y := yX5_drawn) hSF (plainFor_of_name (by decide +kernel)) (Nat.le_of_ble_eq_true rfl) (fun X ls B Z hn hl => we_X5_drawn hSF B Z hn x0 x1 x2 hl e rfl)
def dkwX5_count_6 : List UInt8 := [17, 0, 151, 46, 172, 2, 172]
abbrev dktX5_count_6 : List UInt8 := dkwX5_count_6 ++ []
def dkwX5_count_5 : List UInt8 := [172, 42, 180, 0, 24, 17, 0, 156, 46, 172, 42, 180, 0, 24, 16, 72, 46, 172, 42, 180, 0, 24]
abbrev dktX5_count_5 : List UInt8 := dkwX5_count_5 ++ dktX5_count_6
def dkwX5_count_4 : List UInt8 := [42, 180, 0, 7, 27, 16, 6, 100, 46, 172, 42, 180, 0, 7, 8, 46, 172, 42, 180, 0, 7, 16, 6, 46]
abbrev dktX5_count_4 : List UInt8 := dkwX5_count_4 ++ dktX5_count_5
def dkwX5_count_3 : List UInt8 := [17, 0, 154, 46, 172, 42, 180, 0, 24, 17, 0, 155, 46, 172, 42, 180, 0, 11, 172, 42, 180, 0, 181, 172]
abbrev dktX5_count_3 : List UInt8 := dkwX5_count_3 ++ dktX5_count_4
def dkwX5_count_2 : List UInt8 := [42, 182, 0, 133, 172, 42, 182, 0, 137, 172, 42, 180, 0, 24, 17, 0, 153, 46, 172, 42, 180, 0, 24]
abbrev dktX5_count_2 : List UInt8 := dkwX5_count_2 ++ dktX5_count_3
def dkwX5_count_1 : List UInt8 := [170, 0, 0, 0, 0, 0, 173, 0, 0, 0, 0, 0, 0, 0, 14, 0, 0, 0, 75, 0, 0, 0, 80, 0, 0, 0, 85, 0, 0, 0, 94, 0, 0, 0, 103, 0, 0, 0, 112, 0, 0, 0, 117, 0, 0, 0, 122, 0, 0, 0, 122, 0, 0, 0, 122, 0, 0, 0, 132, 0, 0, 0, 139, 0, 0, 0, 147, 0, 0, 0, 156, 0, 0, 0, 164]
abbrev dktX5_count_1 : List UInt8 := dkwX5_count_1 ++ dktX5_count_2
def dkwX5_count_0 : List UInt8 := [27]
abbrev dktX5_count_0 : List UInt8 := dkwX5_count_0 ++ dktX5_count_1
theorem dksX5_count_0 : cX5_count.data.toList.drop 0 = dktX5_count_0 := by decide +kernel
theorem dksX5_count_1 : cX5_count.data.toList.drop 1 = dktX5_count_1 := dk_seg dksX5_count_0 1 rfl rfl
theorem dksX5_count_2 : cX5_count.data.toList.drop 76 = dktX5_count_2 := dk_seg dksX5_count_1 75 rfl rfl
theorem dksX5_count_3 : cX5_count.data.toList.drop 99 = dktX5_count_3 := dk_seg dksX5_count_2 23 rfl rfl
theorem dksX5_count_4 : cX5_count.data.toList.drop 123 = dktX5_count_4 := dk_seg dksX5_count_3 24 rfl rfl
theorem dksX5_count_5 : cX5_count.data.toList.drop 147 = dktX5_count_5 := dk_seg dksX5_count_4 24 rfl rfl
theorem dksX5_count_6 : cX5_count.data.toList.drop 169 = dktX5_count_6 := dk_seg dksX5_count_5 22 rfl rfl
theorem dX5_count_0 : decode cX5_count 0 = .ok (.iload_n 1, 1) := dk_27 (dk_at dksX5_count_0 0 rfl rfl)
theorem dX5_count_1 : decode cX5_count 1 = .ok (.tableswitch 173 0 14 #[75, 80, 85, 94, 103, 112, 117, 122, 122, 122, 132, 139, 147, 156, 164], 75) := by decide +kernel
theorem dX5_count_76 : decode cX5_count 76 = .ok (.aload_n 0, 1) := dk_42 (dk_at dksX5_count_2 0 rfl rfl)
theorem dX5_count_77 : decode cX5_count 77 = .ok (.invokevirtual 133, 3) := dk_182 0 133 (dk_at dksX5_count_2 1 rfl rfl)
theorem dX5_count_80 : decode cX5_count 80 = .ok (.ireturn, 1) := dk_172 (dk_at dksX5_count_2 4 rfl rfl)
theorem dX5_count_81 : decode cX5_count 81 = .ok (.aload_n 0, 1) := dk_42 (dk_at dksX5_count_2 5 rfl rfl)
theorem dX5_count_82 : decode cX5_count 82 = .ok (.invokevirtual 137, 3) := dk_182 0 137 (dk_at dksX5_count_2 6 rfl rfl)
theorem dX5_count_85 : decode cX5_count 85 = .ok (.ireturn, 1) := dk_172 (dk_at dksX5_count_2 9 rfl rfl)
theorem dX5_count_86 : decode cX5_count 86 = .ok (.aload_n 0, 1) := dk_42 (dk_at dksX5_count_2 10 rfl rfl)
theorem dX5_count_87 : decode cX5_count 87 = .ok (.getfield 24, 3) := dk_180 0 24 (dk_at dksX5_count_2 11 rfl rfl)
theorem dX5_count_90 : decode cX5_count 90 = .ok (.sipush 153, 3) := dk_17 0 153 (dk_at dksX5_count_2 14 rfl rfl)
theorem dX5_count_93 : decode cX5_count 93 = .ok (.iaload, 1) := dk_46 (dk_at dksX5_count_2 17 rfl rfl)
theorem dX5_count_94 : decode cX5_count 94 = .ok (.ireturn, 1) := dk_172 (dk_at dksX5_count_2 18 rfl rfl)
theorem dX5_count_95 : decode cX5_count 95 = .ok (.aload_n 0, 1) := dk_42 (dk_at dksX5_count_2 19 rfl rfl)
theorem dX5_count_96 : decode cX5_count 96 = .ok (.getfield 24, 3) := dk_180 0 24 (dk_at dksX5_count_2 20 rfl rfl)
theorem dX5_count_99 : decode cX5_count 99 = .ok (.sipush 154, 3) := dk_17 0 154 (dk_at dksX5_count_3 0 rfl rfl)
theorem dX5_count_102 : decode cX5_count 102 = .ok (.iaload, 1) := dk_46 (dk_at dksX5_count_3 3 rfl rfl)
theorem dX5_count_103 : decode cX5_count 103 = .ok (.ireturn, 1) := dk_172 (dk_at dksX5_count_3 4 rfl rfl)
theorem dX5_count_104 : decode cX5_count 104 = .ok (.aload_n 0, 1) := dk_42 (dk_at dksX5_count_3 5 rfl rfl)
theorem dX5_count_105 : decode cX5_count 105 = .ok (.getfield 24, 3) := dk_180 0 24 (dk_at dksX5_count_3 6 rfl rfl)
theorem dX5_count_108 : decode cX5_count 108 = .ok (.sipush 155, 3) := dk_17 0 155 (dk_at dksX5_count_3 9 rfl rfl)
theorem dX5_count_111 : decode cX5_count 111 = .ok (.iaload, 1) := dk_46 (dk_at dksX5_count_3 12 rfl rfl)
theorem dX5_count_112 : decode cX5_count 112 = .ok (.ireturn, 1) := dk_172 (dk_at dksX5_count_3 13 rfl rfl)
theorem dX5_count_113 : decode cX5_count 113 = .ok (.aload_n 0, 1) := dk_42 (dk_at dksX5_count_3 14 rfl rfl)
theorem dX5_count_114 : decode cX5_count 114 = .ok (.getfield 11, 3) := dk_180 0 11 (dk_at dksX5_count_3 15 rfl rfl)
theorem dX5_count_117 : decode cX5_count 117 = .ok (.ireturn, 1) := dk_172 (dk_at dksX5_count_3 18 rfl rfl)
theorem dX5_count_118 : decode cX5_count 118 = .ok (.aload_n 0, 1) := dk_42 (dk_at dksX5_count_3 19 rfl rfl)
theorem dX5_count_119 : decode cX5_count 119 = .ok (.getfield 181, 3) := dk_180 0 181 (dk_at dksX5_count_3 20 rfl rfl)
theorem dX5_count_122 : decode cX5_count 122 = .ok (.ireturn, 1) := dk_172 (dk_at dksX5_count_3 23 rfl rfl)
theorem dX5_count_123 : decode cX5_count 123 = .ok (.aload_n 0, 1) := dk_42 (dk_at dksX5_count_4 0 rfl rfl)
theorem dX5_count_124 : decode cX5_count 124 = .ok (.getfield 7, 3) := dk_180 0 7 (dk_at dksX5_count_4 1 rfl rfl)
theorem dX5_count_127 : decode cX5_count 127 = .ok (.iload_n 1, 1) := dk_27 (dk_at dksX5_count_4 4 rfl rfl)
theorem dX5_count_128 : decode cX5_count 128 = .ok (.bipush 6, 2) := dk_16 6 (dk_at dksX5_count_4 5 rfl rfl)
theorem dX5_count_130 : decode cX5_count 130 = .ok (.isub, 1) := dk_100 (dk_at dksX5_count_4 7 rfl rfl)
theorem dX5_count_131 : decode cX5_count 131 = .ok (.iaload, 1) := dk_46 (dk_at dksX5_count_4 8 rfl rfl)
theorem dX5_count_132 : decode cX5_count 132 = .ok (.ireturn, 1) := dk_172 (dk_at dksX5_count_4 9 rfl rfl)
theorem dX5_count_133 : decode cX5_count 133 = .ok (.aload_n 0, 1) := dk_42 (dk_at dksX5_count_4 10 rfl rfl)
theorem dX5_count_134 : decode cX5_count 134 = .ok (.getfield 7, 3) := dk_180 0 7 (dk_at dksX5_count_4 11 rfl rfl)
theorem dX5_count_137 : decode cX5_count 137 = .ok (.iconst 5, 1) := dk_8 (dk_at dksX5_count_4 14 rfl rfl)
theorem dX5_count_138 : decode cX5_count 138 = .ok (.iaload, 1) := dk_46 (dk_at dksX5_count_4 15 rfl rfl)
theorem dX5_count_139 : decode cX5_count 139 = .ok (.ireturn, 1) := dk_172 (dk_at dksX5_count_4 16 rfl rfl)
theorem dX5_count_140 : decode cX5_count 140 = .ok (.aload_n 0, 1) := dk_42 (dk_at dksX5_count_4 17 rfl rfl)
theorem dX5_count_141 : decode cX5_count 141 = .ok (.getfield 7, 3) := dk_180 0 7 (dk_at dksX5_count_4 18 rfl rfl)
theorem dX5_count_144 : decode cX5_count 144 = .ok (.bipush 6, 2) := dk_16 6 (dk_at dksX5_count_4 21 rfl rfl)
theorem dX5_count_146 : decode cX5_count 146 = .ok (.iaload, 1) := dk_46 (dk_at dksX5_count_4 23 rfl rfl)
theorem dX5_count_147 : decode cX5_count 147 = .ok (.ireturn, 1) := dk_172 (dk_at dksX5_count_5 0 rfl rfl)
theorem dX5_count_148 : decode cX5_count 148 = .ok (.aload_n 0, 1) := dk_42 (dk_at dksX5_count_5 1 rfl rfl)
theorem dX5_count_149 : decode cX5_count 149 = .ok (.getfield 24, 3) := dk_180 0 24 (dk_at dksX5_count_5 2 rfl rfl)
theorem dX5_count_152 : decode cX5_count 152 = .ok (.sipush 156, 3) := dk_17 0 156 (dk_at dksX5_count_5 5 rfl rfl)
theorem dX5_count_155 : decode cX5_count 155 = .ok (.iaload, 1) := dk_46 (dk_at dksX5_count_5 8 rfl rfl)
theorem dX5_count_156 : decode cX5_count 156 = .ok (.ireturn, 1) := dk_172 (dk_at dksX5_count_5 9 rfl rfl)
theorem dX5_count_157 : decode cX5_count 157 = .ok (.aload_n 0, 1) := dk_42 (dk_at dksX5_count_5 10 rfl rfl)
theorem dX5_count_158 : decode cX5_count 158 = .ok (.getfield 24, 3) := dk_180 0 24 (dk_at dksX5_count_5 11 rfl rfl)
theorem dX5_count_161 : decode cX5_count 161 = .ok (.bipush 72, 2) := dk_16 72 (dk_at dksX5_count_5 14 rfl rfl)
theorem dX5_count_163 : decode cX5_count 163 = .ok (.iaload, 1) := dk_46 (dk_at dksX5_count_5 16 rfl rfl)
theorem dX5_count_164 : decode cX5_count 164 = .ok (.ireturn, 1) := dk_172 (dk_at dksX5_count_5 17 rfl rfl)
theorem dX5_count_165 : decode cX5_count 165 = .ok (.aload_n 0, 1) := dk_42 (dk_at dksX5_count_5 18 rfl rfl)
theorem dX5_count_166 : decode cX5_count 166 = .ok (.getfield 24, 3) := dk_180 0 24 (dk_at dksX5_count_5 19 rfl rfl)
theorem dX5_count_169 : decode cX5_count 169 = .ok (.sipush 151, 3) := dk_17 0 151 (dk_at dksX5_count_6 0 rfl rfl)
theorem dX5_count_172 : decode cX5_count 172 = .ok (.iaload, 1) := dk_46 (dk_at dksX5_count_6 3 rfl rfl)
theorem dX5_count_173 : decode cX5_count 173 = .ok (.ireturn, 1) := dk_172 (dk_at dksX5_count_6 4 rfl rfl)
theorem dX5_count_174 : decode cX5_count 174 = .ok (.iconst (-1), 1) := dk_2 (dk_at dksX5_count_6 5 rfl rfl)
theorem dX5_count_175 : decode cX5_count 175 = .ok (.ireturn, 1) := dk_172 (dk_at dksX5_count_6 6 rfl rfl)
noncomputable def f_X5_count_123 (E : ax_E) (x0 : Option Nat) (x1 : Int) (h : ax_H) : Option (Int × ax_H) :=
  (ax_gR E h x0 5 1).bind fun v1 =>
  (ax_ld E h v1 100 (x1 - 6)).bind fun v2 =>
  some (v2, h)
noncomputable def f_X5_count (E : ax_E) (x0 : Option Nat) (x1 : Int) (h : ax_H) : Option (Int × ax_H) :=
  if i2 x1 = 0 then
    (ax_ce E h x0 5).bind fun _ => (f_X5_people E x0 h).bind fun q1 =>
    some (q1.1, q1.2)
  else if i2 x1 = 1 then
    (ax_ce E h x0 5).bind fun _ => (f_X5_debts E x0 h).bind fun q2 =>
    some (q2.1, q2.2)
  else if i2 x1 = 2 then
    (ax_gR E h x0 5 2).bind fun v3 =>
    (ax_ld E h v3 100 153).bind fun v4 =>
    some (v4, h)
  else if i2 x1 = 3 then
    (ax_gR E h x0 5 2).bind fun v5 =>
    (ax_ld E h v5 100 154).bind fun v6 =>
    some (v6, h)
  else if i2 x1 = 4 then
    (ax_gR E h x0 5 2).bind fun v7 =>
    (ax_ld E h v7 100 155).bind fun v8 =>
    some (v8, h)
  else if i2 x1 = 5 then
    (ax_gI E h x0 5 28).bind fun v9 =>
    some (v9, h)
  else if i2 x1 = 6 then
    (ax_gI E h x0 5 11).bind fun v10 =>
    some (v10, h)
  else if i2 x1 = 7 then
    f_X5_count_123 E x0 x1 h
  else if i2 x1 = 8 then
    f_X5_count_123 E x0 x1 h
  else if i2 x1 = 9 then
    f_X5_count_123 E x0 x1 h
  else if i2 x1 = 10 then
    (ax_gR E h x0 5 1).bind fun v11 =>
    (ax_ld E h v11 100 5).bind fun v12 =>
    some (v12, h)
  else if i2 x1 = 11 then
    (ax_gR E h x0 5 1).bind fun v13 =>
    (ax_ld E h v13 100 6).bind fun v14 =>
    some (v14, h)
  else if i2 x1 = 12 then
    (ax_gR E h x0 5 2).bind fun v15 =>
    (ax_ld E h v15 100 156).bind fun v16 =>
    some (v16, h)
  else if i2 x1 = 13 then
    (ax_gR E h x0 5 2).bind fun v17 =>
    (ax_ld E h v17 100 72).bind fun v18 =>
    some (v18, h)
  else if i2 x1 = 14 then
    (ax_gR E h x0 5 2).bind fun v19 =>
    (ax_ld E h v19 100 151).bind fun v20 =>
    some (v20, h)
  else 
    some ((-1), h)
set_option maxHeartbeats 4000000 in
theorem w_X5_count_123 {l : Launch} {G : ax_G} {X : ax_X} {Q : State → Prop} {h0 h : ax_H} {ls : Array Slot} (hSF : ax_SF G) (B : ax_BL l G X cX5_count 2 RX5 2 60) (Z : ax_Z X h0 ((some FieldType.int))) (hn : X.2.2.2.2.2.2.2.2.1.name = yX5_count.name) (x0 : Option Nat) (x1 : Int) {w : Int × ax_H} (hl : ax_hl ls 2 [(0, .inr (.inr x0)), (1, .inl x1)]) (e : f_X5_count_123 G.2.2 x0 x1 h = some w) (hp : (fun w : Int × ax_H => Q = ax_Q G X h0 w.2 (some (.int (Int32.ofInt w.1)))) w) : ax_W G X Q h 123 ls [] := by
  unfold f_X5_count_123 at e
  refine ax_aload_n B dX5_count_123 rfl hl 0 rfl ?_
  refine ax_getR B ff_X5_7_5 (fun _ _ => rfl) dX5_count_124 e (fun v1 e => ?_)
  refine ax_iload_n B dX5_count_127 rfl hl 1 rfl ?_
  refine ax_bipush B dX5_count_128 (by decide) ?_
  refine ax_isub' B dX5_count_130 ?_
  refine ax_iald B kd100 dX5_count_131 e (fun v2 e => ?_)
  have e8 := e
  have hp : Q = _ := hp
  subst hp
  exact ax_ireturn B Z dX5_count_132 e8
set_option maxHeartbeats 4000000 in
theorem we_X5_count {l : Launch} {G : ax_G} {X : ax_X} {Q : State → Prop} {h0 h : ax_H} {ls : Array Slot} (hSF : ax_SF G) (B : ax_BL l G X cX5_count 2 RX5 2 60) (Z : ax_Z X h0 ((some FieldType.int))) (hn : X.2.2.2.2.2.2.2.2.1.name = yX5_count.name) (x0 : Option Nat) (x1 : Int) {w : Int × ax_H} (hl : ax_hl ls 2 [(0, .inr (.inr x0)), (1, .inl x1)]) (e : f_X5_count G.2.2 x0 x1 h = some w) (hp : (fun w : Int × ax_H => Q = ax_Q G X h0 w.2 (some (.int (Int32.ofInt w.1)))) w) : ax_W G X Q h 0 ls [] := by
  unfold f_X5_count at e
  refine ax_iload_n B dX5_count_0 rfl hl 1 rfl ?_
  rcases ax_ite e with ⟨hk0, e⟩ | ⟨hk0, e⟩
  · refine ax_tswIn (tgt := 76) (off := 75) B dX5_count_1 (by omega) (by omega) (by rw [hk0]; rfl) (by decide) ?_
    refine ax_aload_n B dX5_count_76 rfl hl 0 rfl ?_
    refine ax_ivI (y := yX5_people) (n := 0) (As := []) B kd5 (lw_V q2180 q2182 qs44 q133 q2183) (by decide +kernel) ⟨Nat.le_of_ble_eq_true rfl, Nat.le_of_ble_eq_true rfl⟩ (fun w1 e1 => mt_X5_people l G hSF x0 _ w1 e1) rfl hl.size (by decide) dX5_count_77 e (fun q1 e => ?_)
    have e8 := e
    have hp : Q = _ := hp
    subst hp
    exact ax_ireturn B Z dX5_count_80 e8
  rcases ax_ite e with ⟨hk1, e⟩ | ⟨hk1, e⟩
  · refine ax_tswIn (tgt := 81) (off := 80) B dX5_count_1 (by omega) (by omega) (by rw [hk1]; rfl) (by decide) ?_
    refine ax_aload_n B dX5_count_81 rfl hl 0 rfl ?_
    refine ax_ivI (y := yX5_debts) (n := 0) (As := []) B kd5 (lw_V q2210 q2212 qs47 q133 q2213) (by decide +kernel) ⟨Nat.le_of_ble_eq_true rfl, Nat.le_of_ble_eq_true rfl⟩ (fun w1 e1 => mt_X5_debts l G hSF x0 _ w1 e1) rfl hl.size (by decide) dX5_count_82 e (fun q2 e => ?_)
    have e8 := e
    have hp : Q = _ := hp
    subst hp
    exact ax_ireturn B Z dX5_count_85 e8
  rcases ax_ite e with ⟨hk2, e⟩ | ⟨hk2, e⟩
  · refine ax_tswIn (tgt := 86) (off := 85) B dX5_count_1 (by omega) (by omega) (by rw [hk2]; rfl) (by decide) ?_
    refine ax_aload_n B dX5_count_86 rfl hl 0 rfl ?_
    refine ax_getR B ff_X5_24_5 (fun _ _ => rfl) dX5_count_87 e (fun v3 e => ?_)
    refine ax_sipush B dX5_count_90 (by decide) ?_
    refine ax_iald B kd100 dX5_count_93 e (fun v4 e => ?_)
    have e8 := e
    have hp : Q = _ := hp
    subst hp
    exact ax_ireturn B Z dX5_count_94 e8
  rcases ax_ite e with ⟨hk3, e⟩ | ⟨hk3, e⟩
  · refine ax_tswIn (tgt := 95) (off := 94) B dX5_count_1 (by omega) (by omega) (by rw [hk3]; rfl) (by decide) ?_
    refine ax_aload_n B dX5_count_95 rfl hl 0 rfl ?_
    refine ax_getR B ff_X5_24_5 (fun _ _ => rfl) dX5_count_96 e (fun v5 e => ?_)
    refine ax_sipush B dX5_count_99 (by decide) ?_
    refine ax_iald B kd100 dX5_count_102 e (fun v6 e => ?_)
    have e8 := e
    have hp : Q = _ := hp
    subst hp
    exact ax_ireturn B Z dX5_count_103 e8
  rcases ax_ite e with ⟨hk4, e⟩ | ⟨hk4, e⟩
  · refine ax_tswIn (tgt := 104) (off := 103) B dX5_count_1 (by omega) (by omega) (by rw [hk4]; rfl) (by decide) ?_
    refine ax_aload_n B dX5_count_104 rfl hl 0 rfl ?_
    refine ax_getR B ff_X5_24_5 (fun _ _ => rfl) dX5_count_105 e (fun v7 e => ?_)
    refine ax_sipush B dX5_count_108 (by decide) ?_
    refine ax_iald B kd100 dX5_count_111 e (fun v8 e => ?_)
    have e8 := e
    have hp : Q = _ := hp
    subst hp
    exact ax_ireturn B Z dX5_count_112 e8
  rcases ax_ite e with ⟨hk5, e⟩ | ⟨hk5, e⟩
  · refine ax_tswIn (tgt := 113) (off := 112) B dX5_count_1 (by omega) (by omega) (by rw [hk5]; rfl) (by decide) ?_
    refine ax_aload_n B dX5_count_113 rfl hl 0 rfl ?_
    refine ax_getI B ff_X5_11_5 (fun _ _ => rfl) dX5_count_114 e (fun v9 e => ?_)
    have e8 := e
    have hp : Q = _ := hp
    subst hp
    exact ax_ireturn B Z dX5_count_117 e8
  rcases ax_ite e with ⟨hk6, e⟩ | ⟨hk6, e⟩
  · refine ax_tswIn (tgt := 118) (off := 117) B dX5_count_1 (by omega) (by omega) (by rw [hk6]; rfl) (by decide) ?_
    refine ax_aload_n B dX5_count_118 rfl hl 0 rfl ?_
    refine ax_getI B ff_X5_181_5 (fun _ _ => rfl) dX5_count_119 e (fun v10 e => ?_)
    have e8 := e
    have hp : Q = _ := hp
    subst hp
    exact ax_ireturn B Z dX5_count_122 e8
  rcases ax_ite e with ⟨hk7, e⟩ | ⟨hk7, e⟩
  · refine ax_tswIn (tgt := 123) (off := 122) B dX5_count_1 (by omega) (by omega) (by rw [hk7]; rfl) (by decide) ?_
    exact w_X5_count_123 hSF B Z hn x0 x1 (hl.sub [0, 1] rfl) e hp
  rcases ax_ite e with ⟨hk8, e⟩ | ⟨hk8, e⟩
  · refine ax_tswIn (tgt := 123) (off := 122) B dX5_count_1 (by omega) (by omega) (by rw [hk8]; rfl) (by decide) ?_
    exact w_X5_count_123 hSF B Z hn x0 x1 (hl.sub [0, 1] rfl) e hp
  rcases ax_ite e with ⟨hk9, e⟩ | ⟨hk9, e⟩
  · refine ax_tswIn (tgt := 123) (off := 122) B dX5_count_1 (by omega) (by omega) (by rw [hk9]; rfl) (by decide) ?_
    exact w_X5_count_123 hSF B Z hn x0 x1 (hl.sub [0, 1] rfl) e hp
  rcases ax_ite e with ⟨hk10, e⟩ | ⟨hk10, e⟩
  · refine ax_tswIn (tgt := 133) (off := 132) B dX5_count_1 (by omega) (by omega) (by rw [hk10]; rfl) (by decide) ?_
    refine ax_aload_n B dX5_count_133 rfl hl 0 rfl ?_
    refine ax_getR B ff_X5_7_5 (fun _ _ => rfl) dX5_count_134 e (fun v11 e => ?_)
    refine ax_iconst B dX5_count_137 ?_
    refine ax_iald B kd100 dX5_count_138 e (fun v12 e => ?_)
    have e8 := e
    have hp : Q = _ := hp
    subst hp
    exact ax_ireturn B Z dX5_count_139 e8
  rcases ax_ite e with ⟨hk11, e⟩ | ⟨hk11, e⟩
  · refine ax_tswIn (tgt := 140) (off := 139) B dX5_count_1 (by omega) (by omega) (by rw [hk11]; rfl) (by decide) ?_
    refine ax_aload_n B dX5_count_140 rfl hl 0 rfl ?_
    refine ax_getR B ff_X5_7_5 (fun _ _ => rfl) dX5_count_141 e (fun v13 e => ?_)
    refine ax_bipush B dX5_count_144 (by decide) ?_
    refine ax_iald B kd100 dX5_count_146 e (fun v14 e => ?_)
    have e8 := e
    have hp : Q = _ := hp
    subst hp
    exact ax_ireturn B Z dX5_count_147 e8
  rcases ax_ite e with ⟨hk12, e⟩ | ⟨hk12, e⟩
  · refine ax_tswIn (tgt := 148) (off := 147) B dX5_count_1 (by omega) (by omega) (by rw [hk12]; rfl) (by decide) ?_
    refine ax_aload_n B dX5_count_148 rfl hl 0 rfl ?_
    refine ax_getR B ff_X5_24_5 (fun _ _ => rfl) dX5_count_149 e (fun v15 e => ?_)
    refine ax_sipush B dX5_count_152 (by decide) ?_
    refine ax_iald B kd100 dX5_count_155 e (fun v16 e => ?_)
    have e8 := e
    have hp : Q = _ := hp
    subst hp
    exact ax_ireturn B Z dX5_count_156 e8
  rcases ax_ite e with ⟨hk13, e⟩ | ⟨hk13, e⟩
  · refine ax_tswIn (tgt := 157) (off := 156) B dX5_count_1 (by omega) (by omega) (by rw [hk13]; rfl) (by decide) ?_
    refine ax_aload_n B dX5_count_157 rfl hl 0 rfl ?_
    refine ax_getR B ff_X5_24_5 (fun _ _ => rfl) dX5_count_158 e (fun v17 e => ?_)
    refine ax_bipush B dX5_count_161 (by decide) ?_
    refine ax_iald B kd100 dX5_count_163 e (fun v18 e => ?_)
    have e8 := e
    have hp : Q = _ := hp
    subst hp
    exact ax_ireturn B Z dX5_count_164 e8
  rcases ax_ite e with ⟨hk14, e⟩ | ⟨hk14, e⟩
  · refine ax_tswIn (tgt := 165) (off := 164) B dX5_count_1 (by omega) (by omega) (by rw [hk14]; rfl) (by decide) ?_
    refine ax_aload_n B dX5_count_165 rfl hl 0 rfl ?_
    refine ax_getR B ff_X5_24_5 (fun _ _ => rfl) dX5_count_166 e (fun v19 e => ?_)
    refine ax_sipush B dX5_count_169 (by decide) ?_
    refine ax_iald B kd100 dX5_count_172 e (fun v20 e => ?_)
    have e8 := e
    have hp : Q = _ := hp
    subst hp
    exact ax_ireturn B Z dX5_count_173 e8
  refine ax_tswOut (tgt := 174) B dX5_count_1 (by omega) (by decide) ?_
  refine ax_iconst B dX5_count_174 ?_
  have e8 := e
  have hp : Q = _ := hp
  subst hp
  exact ax_ireturn B Z dX5_count_175 e8
theorem mt_X5_count (l : Launch) (G : ax_G) (hSF : ax_SF G) (x0 : Option Nat) (x1 : Int) (h : ax_H) (w : Int × ax_H) (e : f_X5_count G.2.2 x0 x1 h = some w) : ax_Met l G yX5_count cX5_count 2 ((some FieldType.int)) 2 60 [va_rf x0, .int (Int32.ofInt x1)] h w.2 (some (.int (Int32.ofInt w.1))) :=
  ax_enter [.inr (.inr x0), .inl x1] (y := yX5_count) hSF (plainFor_of_name (by decide +kernel)) (Nat.le_of_ble_eq_true rfl) (fun X ls B Z hn hl => we_X5_count hSF B Z hn x0 x1 hl e rfl)
theorem dX5_status_0 : decode cX5_status 0 = .ok (.aload_n 0, 1) := by decide +kernel
theorem dX5_status_1 : decode cX5_status 1 = .ok (.getfield 3, 3) := by decide +kernel
theorem dX5_status_4 : decode cX5_status 4 = .ok (.ireturn, 1) := by decide +kernel
noncomputable def f_X5_status (E : ax_E) (x0 : Option Nat) (h : ax_H) : Option (Int × ax_H) :=
  (ax_gI E h x0 5 0).bind fun v1 =>
  some (v1, h)
set_option maxHeartbeats 4000000 in
theorem we_X5_status {l : Launch} {G : ax_G} {X : ax_X} {Q : State → Prop} {h0 h : ax_H} {ls : Array Slot} (hSF : ax_SF G) (B : ax_BL l G X cX5_status 1 RX5 1 40) (Z : ax_Z X h0 ((some FieldType.int))) (hn : X.2.2.2.2.2.2.2.2.1.name = yX5_status.name) (x0 : Option Nat) {w : Int × ax_H} (hl : ax_hl ls 1 [(0, .inr (.inr x0))]) (e : f_X5_status G.2.2 x0 h = some w) (hp : (fun w : Int × ax_H => Q = ax_Q G X h0 w.2 (some (.int (Int32.ofInt w.1)))) w) : ax_W G X Q h 0 ls [] := by
  unfold f_X5_status at e
  refine ax_aload_n B dX5_status_0 rfl hl 0 rfl ?_
  refine ax_getI B ff_X5_3_5 (fun _ _ => rfl) dX5_status_1 e (fun v1 e => ?_)
  have e8 := e
  have hp : Q = _ := hp
  subst hp
  exact ax_ireturn B Z dX5_status_4 e8
theorem mt_X5_status (l : Launch) (G : ax_G) (hSF : ax_SF G) (x0 : Option Nat) (h : ax_H) (w : Int × ax_H) (e : f_X5_status G.2.2 x0 h = some w) : ax_Met l G yX5_status cX5_status 1 ((some FieldType.int)) 1 40 [va_rf x0] h w.2 (some (.int (Int32.ofInt w.1))) :=
  ax_enter [.inr (.inr x0)] (y := yX5_status) hSF (plainFor_of_name (by decide +kernel)) (Nat.le_of_ble_eq_true rfl) (fun X ls B Z hn hl => we_X5_status hSF B Z hn x0 hl e rfl)
