set_option maxRecDepth 100000
def dkwX5_needOf_2 : List UInt8 := [132, 6, 1, 167, 255, 225, 2, 172]
abbrev dktX5_needOf_2 : List UInt8 := dkwX5_needOf_2 ++ []
def dkwX5_needOf_1 : List UInt8 := [163, 0, 29, 42, 28, 27, 21, 4, 21, 6, 96, 21, 5, 182, 1, 82, 29, 161, 0, 6, 21, 6, 172]
abbrev dktX5_needOf_1 : List UInt8 := dkwX5_needOf_1 ++ dktX5_needOf_2
def dkwX5_needOf_0 : List UInt8 := [42, 28, 27, 182, 0, 178, 54, 4, 42, 27, 28, 182, 0, 178, 54, 5, 3, 54, 6, 21, 6, 17, 3, 231]
abbrev dktX5_needOf_0 : List UInt8 := dkwX5_needOf_0 ++ dktX5_needOf_1
theorem dksX5_needOf_0 : cX5_needOf.data.toList.drop 0 = dktX5_needOf_0 := by decide +kernel
theorem dksX5_needOf_1 : cX5_needOf.data.toList.drop 24 = dktX5_needOf_1 := dk_seg dksX5_needOf_0 24 rfl rfl
theorem dksX5_needOf_2 : cX5_needOf.data.toList.drop 47 = dktX5_needOf_2 := dk_seg dksX5_needOf_1 23 rfl rfl
theorem dX5_needOf_0 : decode cX5_needOf 0 = .ok (.aload_n 0, 1) := dk_42 (dk_at dksX5_needOf_0 0 rfl rfl)
theorem dX5_needOf_1 : decode cX5_needOf 1 = .ok (.iload_n 2, 1) := dk_28 (dk_at dksX5_needOf_0 1 rfl rfl)
theorem dX5_needOf_2 : decode cX5_needOf 2 = .ok (.iload_n 1, 1) := dk_27 (dk_at dksX5_needOf_0 2 rfl rfl)
theorem dX5_needOf_3 : decode cX5_needOf 3 = .ok (.invokevirtual 178, 3) := dk_182 0 178 (dk_at dksX5_needOf_0 3 rfl rfl)
theorem dX5_needOf_6 : decode cX5_needOf 6 = .ok (.istore 4, 2) := dk_54 4 (dk_at dksX5_needOf_0 6 rfl rfl)
theorem dX5_needOf_8 : decode cX5_needOf 8 = .ok (.aload_n 0, 1) := dk_42 (dk_at dksX5_needOf_0 8 rfl rfl)
theorem dX5_needOf_9 : decode cX5_needOf 9 = .ok (.iload_n 1, 1) := dk_27 (dk_at dksX5_needOf_0 9 rfl rfl)
theorem dX5_needOf_10 : decode cX5_needOf 10 = .ok (.iload_n 2, 1) := dk_28 (dk_at dksX5_needOf_0 10 rfl rfl)
theorem dX5_needOf_11 : decode cX5_needOf 11 = .ok (.invokevirtual 178, 3) := dk_182 0 178 (dk_at dksX5_needOf_0 11 rfl rfl)
theorem dX5_needOf_14 : decode cX5_needOf 14 = .ok (.istore 5, 2) := dk_54 5 (dk_at dksX5_needOf_0 14 rfl rfl)
theorem dX5_needOf_16 : decode cX5_needOf 16 = .ok (.iconst 0, 1) := dk_3 (dk_at dksX5_needOf_0 16 rfl rfl)
theorem dX5_needOf_17 : decode cX5_needOf 17 = .ok (.istore 6, 2) := dk_54 6 (dk_at dksX5_needOf_0 17 rfl rfl)
theorem dX5_needOf_19 : decode cX5_needOf 19 = .ok (.iload 6, 2) := dk_21 6 (dk_at dksX5_needOf_0 19 rfl rfl)
theorem dX5_needOf_21 : decode cX5_needOf 21 = .ok (.sipush 999, 3) := dk_17 3 231 (dk_at dksX5_needOf_0 21 rfl rfl)
theorem dX5_needOf_24 : decode cX5_needOf 24 = .ok (.if_icmp .gt 29, 3) := dk_163 0 29 (dk_at dksX5_needOf_1 0 rfl rfl)
theorem dX5_needOf_27 : decode cX5_needOf 27 = .ok (.aload_n 0, 1) := dk_42 (dk_at dksX5_needOf_1 3 rfl rfl)
theorem dX5_needOf_28 : decode cX5_needOf 28 = .ok (.iload_n 2, 1) := dk_28 (dk_at dksX5_needOf_1 4 rfl rfl)
theorem dX5_needOf_29 : decode cX5_needOf 29 = .ok (.iload_n 1, 1) := dk_27 (dk_at dksX5_needOf_1 5 rfl rfl)
theorem dX5_needOf_30 : decode cX5_needOf 30 = .ok (.iload 4, 2) := dk_21 4 (dk_at dksX5_needOf_1 6 rfl rfl)
theorem dX5_needOf_32 : decode cX5_needOf 32 = .ok (.iload 6, 2) := dk_21 6 (dk_at dksX5_needOf_1 8 rfl rfl)
theorem dX5_needOf_34 : decode cX5_needOf 34 = .ok (.iadd, 1) := dk_96 (dk_at dksX5_needOf_1 10 rfl rfl)
theorem dX5_needOf_35 : decode cX5_needOf 35 = .ok (.iload 5, 2) := dk_21 5 (dk_at dksX5_needOf_1 11 rfl rfl)
theorem dX5_needOf_37 : decode cX5_needOf 37 = .ok (.invokevirtual 338, 3) := dk_182 1 82 (dk_at dksX5_needOf_1 13 rfl rfl)
theorem dX5_needOf_40 : decode cX5_needOf 40 = .ok (.iload_n 3, 1) := dk_29 (dk_at dksX5_needOf_1 16 rfl rfl)
theorem dX5_needOf_41 : decode cX5_needOf 41 = .ok (.if_icmp .lt 6, 3) := dk_161 0 6 (dk_at dksX5_needOf_1 17 rfl rfl)
theorem dX5_needOf_44 : decode cX5_needOf 44 = .ok (.iload 6, 2) := dk_21 6 (dk_at dksX5_needOf_1 20 rfl rfl)
theorem dX5_needOf_46 : decode cX5_needOf 46 = .ok (.ireturn, 1) := dk_172 (dk_at dksX5_needOf_1 22 rfl rfl)
theorem dX5_needOf_47 : decode cX5_needOf 47 = .ok (.iinc 6 1, 3) := dk_132 6 1 (dk_at dksX5_needOf_2 0 rfl rfl)
theorem dX5_needOf_50 : decode cX5_needOf 50 = .ok (.goto (-31), 3) := dk_167 255 225 (dk_at dksX5_needOf_2 3 rfl rfl)
theorem dX5_needOf_53 : decode cX5_needOf 53 = .ok (.iconst (-1), 1) := dk_2 (dk_at dksX5_needOf_2 6 rfl rfl)
theorem dX5_needOf_54 : decode cX5_needOf 54 = .ok (.ireturn, 1) := dk_172 (dk_at dksX5_needOf_2 7 rfl rfl)
noncomputable def lb_X5_needOf_19 (E : ax_E) (x0 : Option Nat) (x1 : Int) (x2 : Int) (x3 : Int) (x4 : Int) (x5 : Int) (x6 : Int) (h : ax_H) : Option ((Int × ax_H) ⊕ (Int × ax_H)) :=
  if i2 999 < i2 x6 then
    (some ((-1), h)).map Sum.inr
  else
    (ax_ce E h x0 5).bind fun _ => (f_X5_deepBy E x0 x2 x1 (x4 + x6) x5 h).bind fun q1 =>
    if i2 q1.1 < i2 x3 then
      some (.inl ((x6 + 1), q1.2))
    else
      (some (x6, q1.2)).map Sum.inr
noncomputable def f_X5_needOf_19 (E : ax_E) (x0 : Option Nat) (x1 : Int) (x2 : Int) (x3 : Int) (x4 : Int) (x5 : Int) (x6 : Int) (h : ax_H) : Option (Int × ax_H) :=
  ax_iter (fun s : Int × ax_H => lb_X5_needOf_19 E x0 x1 x2 x3 x4 x5 s.1 s.2) (x6, h)
noncomputable def f_X5_needOf (E : ax_E) (x0 : Option Nat) (x1 : Int) (x2 : Int) (x3 : Int) (h : ax_H) : Option (Int × ax_H) :=
  (ax_ce E h x0 5).bind fun _ => (f_X5_owed E x0 x2 x1 h).bind fun q1 =>
  (ax_ce E q1.2 x0 5).bind fun _ => (f_X5_owed E x0 x1 x2 q1.2).bind fun q2 =>
  f_X5_needOf_19 E x0 x1 x2 x3 q1.1 q2.1 0 q2.2
def pi_X5_needOf_19 (G : ax_G) (X : ax_X) (Q : State → Prop) (x0 : Option Nat) (x1 : Int) (x2 : Int) (x3 : Int) (x4 : Int) (x5 : Int) : Int × ax_H → Prop := fun s => ∀ ls : Array Slot, ax_hl ls 7 [(0, .inr (.inr x0)), (1, .inl x1), (2, .inl x2), (3, .inl x3), (4, .inl x4), (5, .inl x5), (6, .inl s.1)] → ax_W G X Q s.2 19 ls []
set_option maxHeartbeats 4000000 in
theorem wb_X5_needOf_19 {l : Launch} {G : ax_G} {X : ax_X} {Q : State → Prop} {h0 h : ax_H} {ls : Array Slot} (hSF : ax_SF G) (B : ax_BL l G X cX5_needOf 7 RX5 135 3519) (Z : ax_Z X h0 ((some FieldType.int))) (hn : X.2.2.2.2.2.2.2.2.1.name = yX5_needOf.name) (x0 : Option Nat) (x1 : Int) (x2 : Int) (x3 : Int) (x4 : Int) (x5 : Int) (x6 : Int) {w : (Int × ax_H) ⊕ (Int × ax_H)} (hl : ax_hl ls 7 [(0, .inr (.inr x0)), (1, .inl x1), (2, .inl x2), (3, .inl x3), (4, .inl x4), (5, .inl x5), (6, .inl x6)]) (e : lb_X5_needOf_19 G.2.2 x0 x1 x2 x3 x4 x5 x6 h = some w) (hp : (ax_PL (pi_X5_needOf_19 G X Q x0 x1 x2 x3 x4 x5) (fun w : Int × ax_H => Q = ax_Q G X h0 w.2 (some (.int (Int32.ofInt w.1))))) w) : ax_W G X Q h 19 ls [] := by
  unfold lb_X5_needOf_19 at e
  refine ax_iload B dX5_needOf_19 hl 6 rfl ?_
  refine ax_sipush B dX5_needOf_21 (by decide) ?_
  refine ax_icmp_gt (tgt := 53) B dX5_needOf_24 (by decide) e (fun e => ?_) (fun e => ?_)
  · obtain ⟨w, e9_1, rfl⟩ := Option.map_eq_some_iff.mp e
    have e := e9_1
    refine ax_iconst B dX5_needOf_53 ?_
    have e8 := e
    have hp : Q = _ := hp
    subst hp
    exact ax_ireturn B Z dX5_needOf_54 e8
  · refine ax_aload_n B dX5_needOf_27 rfl hl 0 rfl ?_
    refine ax_iload_n B dX5_needOf_28 rfl hl 2 rfl ?_
    refine ax_iload_n B dX5_needOf_29 rfl hl 1 rfl ?_
    refine ax_iload B dX5_needOf_30 hl 4 rfl ?_
    refine ax_iload B dX5_needOf_32 hl 6 rfl ?_
    refine ax_iadd' B dX5_needOf_34 ?_
    refine ax_iload B dX5_needOf_35 hl 5 rfl ?_
    refine ax_ivI (y := yX5_deepBy) (n := 4) (As := [.int (Int32.ofInt x2), .int (Int32.ofInt x1), .int (Int32.ofInt (x4 + x6)), .int (Int32.ofInt x5)]) B kd5 (lw_V q2435 q2437 qs89 q133 q2438) (by decide +kernel) ⟨Nat.le_of_ble_eq_true rfl, Nat.le_of_ble_eq_true rfl⟩ (fun w1 e1 => mt_X5_deepBy l G hSF x0 x2 x1 (x4 + x6) x5 _ w1 e1) rfl hl.size (by decide) dX5_needOf_37 e (fun q1 e => ?_)
    refine ax_iload_n B dX5_needOf_40 rfl hl 3 rfl ?_
    refine ax_icmp_lt (tgt := 47) B dX5_needOf_41 (by decide) e (fun e => ?_) (fun e => ?_)
    · refine ax_iinc (L' := [(6, .inl (x6 + 1)), (0, .inr (.inr x0)), (1, .inl x1), (2, .inl x2), (3, .inl x3), (4, .inl x4), (5, .inl x5)]) B dX5_needOf_47 hl 6 rfl (by decide) rfl (fun ls hl => ?_)
      refine ax_goto (tgt := 19) B dX5_needOf_50 (by decide) ?_
      cases e
      exact hp _ (hl.sub [1, 2, 3, 4, 5, 6, 0] rfl)
    · obtain ⟨w, e9_2, rfl⟩ := Option.map_eq_some_iff.mp e
      have e := e9_2
      refine ax_iload B dX5_needOf_44 hl 6 rfl ?_
      have e8 := e
      have hp : Q = _ := hp
      subst hp
      exact ax_ireturn B Z dX5_needOf_46 e8
theorem w_X5_needOf_19 {l : Launch} {G : ax_G} {X : ax_X} {Q : State → Prop} {h0 h : ax_H} {ls : Array Slot} (hSF : ax_SF G) (B : ax_BL l G X cX5_needOf 7 RX5 135 3519) (Z : ax_Z X h0 ((some FieldType.int))) (hn : X.2.2.2.2.2.2.2.2.1.name = yX5_needOf.name) (x0 : Option Nat) (x1 : Int) (x2 : Int) (x3 : Int) (x4 : Int) (x5 : Int) (x6 : Int) {w : Int × ax_H} (hl : ax_hl ls 7 [(0, .inr (.inr x0)), (1, .inl x1), (2, .inl x2), (3, .inl x3), (4, .inl x4), (5, .inl x5), (6, .inl x6)]) (e : f_X5_needOf_19 G.2.2 x0 x1 x2 x3 x4 x5 x6 h = some w) (hp : (fun w : Int × ax_H => Q = ax_Q G X h0 w.2 (some (.int (Int32.ofInt w.1)))) w) : ax_W G X Q h 19 ls [] :=
  ax_iter_W (Pin := pi_X5_needOf_19 G X Q x0 x1 x2 x3 x4 x5) (Pout := (fun w : Int × ax_H => Q = ax_Q G X h0 w.2 (some (.int (Int32.ofInt w.1))))) (fun s w e hp ls hl => wb_X5_needOf_19 hSF B Z hn x0 x1 x2 x3 x4 x5 s.1 hl e hp) _ _ e hp ls hl
set_option maxHeartbeats 4000000 in
theorem we_X5_needOf {l : Launch} {G : ax_G} {X : ax_X} {Q : State → Prop} {h0 h : ax_H} {ls : Array Slot} (hSF : ax_SF G) (B : ax_BL l G X cX5_needOf 7 RX5 135 3519) (Z : ax_Z X h0 ((some FieldType.int))) (hn : X.2.2.2.2.2.2.2.2.1.name = yX5_needOf.name) (x0 : Option Nat) (x1 : Int) (x2 : Int) (x3 : Int) {w : Int × ax_H} (hl : ax_hl ls 7 [(0, .inr (.inr x0)), (1, .inl x1), (2, .inl x2), (3, .inl x3)]) (e : f_X5_needOf G.2.2 x0 x1 x2 x3 h = some w) (hp : (fun w : Int × ax_H => Q = ax_Q G X h0 w.2 (some (.int (Int32.ofInt w.1)))) w) : ax_W G X Q h 0 ls [] := by
  unfold f_X5_needOf at e
  refine ax_aload_n B dX5_needOf_0 rfl hl 0 rfl ?_
  refine ax_iload_n B dX5_needOf_1 rfl hl 2 rfl ?_
  refine ax_iload_n B dX5_needOf_2 rfl hl 1 rfl ?_
  refine ax_ivI (y := yX5_owed) (n := 2) (As := [.int (Int32.ofInt x2), .int (Int32.ofInt x1)]) B kd5 (lw_V q2234 q2236 qs52 q133 q2237) (by decide +kernel) ⟨Nat.le_of_ble_eq_true rfl, Nat.le_of_ble_eq_true rfl⟩ (fun w1 e1 => mt_X5_owed l G hSF x0 x2 x1 _ w1 e1) rfl hl.size (by decide) dX5_needOf_3 e (fun q1 e => ?_)
  refine ax_istore (L' := [(4, .inl q1.1), (0, .inr (.inr x0)), (1, .inl x1), (2, .inl x2), (3, .inl x3)]) B dX5_needOf_6 hl (by decide) rfl (fun ls hl => ?_)
  refine ax_aload_n B dX5_needOf_8 rfl hl 1 rfl ?_
  refine ax_iload_n B dX5_needOf_9 rfl hl 2 rfl ?_
  refine ax_iload_n B dX5_needOf_10 rfl hl 3 rfl ?_
  refine ax_ivI (y := yX5_owed) (n := 2) (As := [.int (Int32.ofInt x1), .int (Int32.ofInt x2)]) B kd5 (lw_V q2234 q2236 qs52 q133 q2237) (by decide +kernel) ⟨Nat.le_of_ble_eq_true rfl, Nat.le_of_ble_eq_true rfl⟩ (fun w1 e1 => mt_X5_owed l G hSF x0 x1 x2 _ w1 e1) rfl hl.size (by decide) dX5_needOf_11 e (fun q2 e => ?_)
  refine ax_istore (L' := [(5, .inl q2.1), (4, .inl q1.1), (0, .inr (.inr x0)), (1, .inl x1), (2, .inl x2), (3, .inl x3)]) B dX5_needOf_14 hl (by decide) rfl (fun ls hl => ?_)
  refine ax_iconst B dX5_needOf_16 ?_
  refine ax_istore (L' := [(6, .inl 0), (5, .inl q2.1), (4, .inl q1.1), (0, .inr (.inr x0)), (1, .inl x1), (2, .inl x2), (3, .inl x3)]) B dX5_needOf_17 hl (by decide) rfl (fun ls hl => ?_)
  exact w_X5_needOf_19 hSF B Z hn x0 x1 x2 x3 q1.1 q2.1 0 (hl.sub [3, 4, 5, 6, 2, 1, 0] rfl) e hp
theorem mt_X5_needOf (l : Launch) (G : ax_G) (hSF : ax_SF G) (x0 : Option Nat) (x1 : Int) (x2 : Int) (x3 : Int) (h : ax_H) (w : Int × ax_H) (e : f_X5_needOf G.2.2 x0 x1 x2 x3 h = some w) : ax_Met l G yX5_needOf cX5_needOf 7 ((some FieldType.int)) 135 3519 [va_rf x0, .int (Int32.ofInt x1), .int (Int32.ofInt x2), .int (Int32.ofInt x3)] h w.2 (some (.int (Int32.ofInt w.1))) :=
  ax_enter [.inr (.inr x0), .inl x1, .inl x2, .inl x3] (y := yX5_needOf) hSF (plainFor_of_name (by decide +kernel)) (Nat.le_of_ble_eq_true rfl) (fun X ls B Z hn hl => we_X5_needOf hSF B Z hn x0 x1 x2 x3 hl e rfl)
def dkwX5_need_1 : List UInt8 := [167, 0, 4, 2, 172]
abbrev dktX5_need_1 : List UInt8 := dkwX5_need_1 ++ []
def dkwX5_need_0 : List UInt8 := [42, 27, 28, 182, 1, 89, 153, 0, 20, 29, 184, 0, 140, 153, 0, 13, 42, 27, 28, 29, 182, 1, 134]
abbrev dktX5_need_0 : List UInt8 := dkwX5_need_0 ++ dktX5_need_1
theorem dksX5_need_0 : cX5_need.data.toList.drop 0 = dktX5_need_0 := by decide +kernel
theorem dksX5_need_1 : cX5_need.data.toList.drop 23 = dktX5_need_1 := dk_seg dksX5_need_0 23 rfl rfl
theorem dX5_need_0 : decode cX5_need 0 = .ok (.aload_n 0, 1) := dk_42 (dk_at dksX5_need_0 0 rfl rfl)
theorem dX5_need_1 : decode cX5_need 1 = .ok (.iload_n 1, 1) := dk_27 (dk_at dksX5_need_0 1 rfl rfl)
theorem dX5_need_2 : decode cX5_need 2 = .ok (.iload_n 2, 1) := dk_28 (dk_at dksX5_need_0 2 rfl rfl)
theorem dX5_need_3 : decode cX5_need 3 = .ok (.invokevirtual 345, 3) := dk_182 1 89 (dk_at dksX5_need_0 3 rfl rfl)
theorem dX5_need_6 : decode cX5_need 6 = .ok (.ifCond .eq 20, 3) := dk_153 0 20 (dk_at dksX5_need_0 6 rfl rfl)
theorem dX5_need_9 : decode cX5_need 9 = .ok (.iload_n 3, 1) := dk_29 (dk_at dksX5_need_0 9 rfl rfl)
theorem dX5_need_10 : decode cX5_need 10 = .ok (.invokestatic 140, 3) := dk_184 0 140 (dk_at dksX5_need_0 10 rfl rfl)
theorem dX5_need_13 : decode cX5_need 13 = .ok (.ifCond .eq 13, 3) := dk_153 0 13 (dk_at dksX5_need_0 13 rfl rfl)
theorem dX5_need_16 : decode cX5_need 16 = .ok (.aload_n 0, 1) := dk_42 (dk_at dksX5_need_0 16 rfl rfl)
theorem dX5_need_17 : decode cX5_need 17 = .ok (.iload_n 1, 1) := dk_27 (dk_at dksX5_need_0 17 rfl rfl)
theorem dX5_need_18 : decode cX5_need 18 = .ok (.iload_n 2, 1) := dk_28 (dk_at dksX5_need_0 18 rfl rfl)
theorem dX5_need_19 : decode cX5_need 19 = .ok (.iload_n 3, 1) := dk_29 (dk_at dksX5_need_0 19 rfl rfl)
theorem dX5_need_20 : decode cX5_need 20 = .ok (.invokevirtual 390, 3) := dk_182 1 134 (dk_at dksX5_need_0 20 rfl rfl)
theorem dX5_need_23 : decode cX5_need 23 = .ok (.goto 4, 3) := dk_167 0 4 (dk_at dksX5_need_1 0 rfl rfl)
theorem dX5_need_26 : decode cX5_need 26 = .ok (.iconst (-1), 1) := dk_2 (dk_at dksX5_need_1 3 rfl rfl)
theorem dX5_need_27 : decode cX5_need 27 = .ok (.ireturn, 1) := dk_172 (dk_at dksX5_need_1 4 rfl rfl)
noncomputable def f_X5_need_26 (E : ax_E) (h : ax_H) : Option (Int × ax_H) :=
  some ((-1), h)
noncomputable def f_X5_need (E : ax_E) (x0 : Option Nat) (x1 : Int) (x2 : Int) (x3 : Int) (h : ax_H) : Option (Int × ax_H) :=
  (ax_ce E h x0 5).bind fun _ => (f_X5_areTwo E x0 x1 x2 h).bind fun q1 =>
  if i2 q1.1 = 0 then
    f_X5_need_26 E q1.2
  else
    (f_X5_isRoom E x3 q1.2).bind fun q2 =>
    if i2 q2.1 = 0 then
      f_X5_need_26 E q2.2
    else
      (ax_ce E q2.2 x0 5).bind fun _ => (f_X5_needOf E x0 x1 x2 x3 q2.2).bind fun q3 =>
      some (q3.1, q3.2)
set_option maxHeartbeats 4000000 in
theorem w_X5_need_26 {l : Launch} {G : ax_G} {X : ax_X} {Q : State → Prop} {h0 h : ax_H} {ls : Array Slot} (hSF : ax_SF G) (B : ax_BL l G X cX5_need 4 RX5 136 3545) (Z : ax_Z X h0 ((some FieldType.int))) (hn : X.2.2.2.2.2.2.2.2.1.name = yX5_need.name) {w : Int × ax_H} (hl : ax_hl ls 4 []) (e : f_X5_need_26 G.2.2 h = some w) (hp : (fun w : Int × ax_H => Q = ax_Q G X h0 w.2 (some (.int (Int32.ofInt w.1)))) w) : ax_W G X Q h 26 ls [] := by
  unfold f_X5_need_26 at e
  refine ax_iconst B dX5_need_26 ?_
  have e8 := e
  have hp : Q = _ := hp
  subst hp
  exact ax_ireturn B Z dX5_need_27 e8
set_option maxHeartbeats 4000000 in
theorem we_X5_need {l : Launch} {G : ax_G} {X : ax_X} {Q : State → Prop} {h0 h : ax_H} {ls : Array Slot} (hSF : ax_SF G) (B : ax_BL l G X cX5_need 4 RX5 136 3545) (Z : ax_Z X h0 ((some FieldType.int))) (hn : X.2.2.2.2.2.2.2.2.1.name = yX5_need.name) (x0 : Option Nat) (x1 : Int) (x2 : Int) (x3 : Int) {w : Int × ax_H} (hl : ax_hl ls 4 [(0, .inr (.inr x0)), (1, .inl x1), (2, .inl x2), (3, .inl x3)]) (e : f_X5_need G.2.2 x0 x1 x2 x3 h = some w) (hp : (fun w : Int × ax_H => Q = ax_Q G X h0 w.2 (some (.int (Int32.ofInt w.1)))) w) : ax_W G X Q h 0 ls [] := by
  unfold f_X5_need at e
  refine ax_aload_n B dX5_need_0 rfl hl 0 rfl ?_
  refine ax_iload_n B dX5_need_1 rfl hl 1 rfl ?_
  refine ax_iload_n B dX5_need_2 rfl hl 2 rfl ?_
  refine ax_ivI (y := yX5_areTwo) (n := 2) (As := [.int (Int32.ofInt x1), .int (Int32.ofInt x2)]) B kd5 (lw_V q2427 q2429 qs87 q133 q2430) (by decide +kernel) ⟨Nat.le_of_ble_eq_true rfl, Nat.le_of_ble_eq_true rfl⟩ (fun w1 e1 => mt_X5_areTwo l G hSF x0 x1 x2 _ w1 e1) rfl hl.size (by decide) dX5_need_3 e (fun q1 e => ?_)
  refine ax_if_eq (tgt := 26) B dX5_need_6 (by decide) e (fun e => ?_) (fun e => ?_)
  · exact w_X5_need_26 hSF B Z hn (hl.sub [] rfl) e hp
  · refine ax_iload_n B dX5_need_9 rfl hl 3 rfl ?_
    refine ax_isI (y := yX5_isRoom) (n := 1) (As := [.int (Int32.ofInt x3)]) B (lw_S q2177 q2178 q133 q2179) (by decide +kernel) ⟨Nat.le_of_ble_eq_true rfl, Nat.le_of_ble_eq_true rfl⟩ (fun w1 e1 => mt_X5_isRoom l G hSF x3 _ w1 e1) rfl hl.size (by decide) dX5_need_10 e (fun q2 e => ?_)
    refine ax_if_eq (tgt := 26) B dX5_need_13 (by decide) e (fun e => ?_) (fun e => ?_)
    · exact w_X5_need_26 hSF B Z hn (hl.sub [] rfl) e hp
    · refine ax_aload_n B dX5_need_16 rfl hl 0 rfl ?_
      refine ax_iload_n B dX5_need_17 rfl hl 1 rfl ?_
      refine ax_iload_n B dX5_need_18 rfl hl 2 rfl ?_
      refine ax_iload_n B dX5_need_19 rfl hl 3 rfl ?_
      refine ax_ivI (y := yX5_needOf) (n := 3) (As := [.int (Int32.ofInt x1), .int (Int32.ofInt x2), .int (Int32.ofInt x3)]) B kd5 (lw_V q2526 q2528 qs103 q133 q2529) (by decide +kernel) ⟨Nat.le_of_ble_eq_true rfl, Nat.le_of_ble_eq_true rfl⟩ (fun w1 e1 => mt_X5_needOf l G hSF x0 x1 x2 x3 _ w1 e1) rfl hl.size (by decide) dX5_need_20 e (fun q3 e => ?_)
      refine ax_goto (tgt := 27) B dX5_need_23 (by decide) ?_
      have e8 := e
      have hp : Q = _ := hp
      subst hp
      exact ax_ireturn B Z dX5_need_27 e8
theorem mt_X5_need (l : Launch) (G : ax_G) (hSF : ax_SF G) (x0 : Option Nat) (x1 : Int) (x2 : Int) (x3 : Int) (h : ax_H) (w : Int × ax_H) (e : f_X5_need G.2.2 x0 x1 x2 x3 h = some w) : ax_Met l G yX5_need cX5_need 4 ((some FieldType.int)) 136 3545 [va_rf x0, .int (Int32.ofInt x1), .int (Int32.ofInt x2), .int (Int32.ofInt x3)] h w.2 (some (.int (Int32.ofInt w.1))) :=
  ax_enter [.inr (.inr x0), .inl x1, .inl x2, .inl x3] (y := yX5_need) hSF (plainFor_of_name (by decide +kernel)) (Nat.le_of_ble_eq_true rfl) (fun X ls B Z hn hl => we_X5_need hSF B Z hn x0 x1 x2 x3 hl e rfl)
def dkwX5_tellsFour_4 : List UInt8 := [79, 42, 180, 0, 24, 28, 92, 46, 4, 96, 79, 42, 42, 180, 0, 24, 28, 46, 182, 0, 14, 172]
abbrev dktX5_tellsFour_4 : List UInt8 := dkwX5_tellsFour_4 ++ []
def dkwX5_tellsFour_3 : List UInt8 := [21, 5, 79, 42, 180, 0, 24, 21, 8, 5, 96, 21, 6, 79, 42, 180, 0, 24, 21, 8, 6, 96, 21, 7]
abbrev dktX5_tellsFour_3 : List UInt8 := dkwX5_tellsFour_3 ++ dktX5_tellsFour_4
def dkwX5_tellsFour_2 : List UInt8 := [28, 46, 104, 96, 54, 8, 42, 180, 0, 24, 21, 8, 21, 4, 79, 42, 180, 0, 24, 21, 8, 4, 96]
abbrev dktX5_tellsFour_2 : List UInt8 := dkwX5_tellsFour_2 ++ dktX5_tellsFour_3
def dkwX5_tellsFour_1 : List UInt8 := [172, 42, 180, 0, 24, 28, 46, 29, 160, 0, 10, 42, 16, 251, 182, 0, 127, 172, 27, 7, 42, 180, 0, 24]
abbrev dktX5_tellsFour_1 : List UInt8 := dkwX5_tellsFour_1 ++ dktX5_tellsFour_2
def dkwX5_tellsFour_0 : List UInt8 := [42, 21, 4, 182, 0, 152, 153, 0, 12, 42, 21, 5, 182, 0, 152, 154, 0, 10, 42, 16, 254, 182, 0, 127]
abbrev dktX5_tellsFour_0 : List UInt8 := dkwX5_tellsFour_0 ++ dktX5_tellsFour_1
theorem dksX5_tellsFour_0 : cX5_tellsFour.data.toList.drop 0 = dktX5_tellsFour_0 := by decide +kernel
theorem dksX5_tellsFour_1 : cX5_tellsFour.data.toList.drop 24 = dktX5_tellsFour_1 := dk_seg dksX5_tellsFour_0 24 rfl rfl
theorem dksX5_tellsFour_2 : cX5_tellsFour.data.toList.drop 48 = dktX5_tellsFour_2 := dk_seg dksX5_tellsFour_1 24 rfl rfl
theorem dksX5_tellsFour_3 : cX5_tellsFour.data.toList.drop 71 = dktX5_tellsFour_3 := dk_seg dksX5_tellsFour_2 23 rfl rfl
theorem dksX5_tellsFour_4 : cX5_tellsFour.data.toList.drop 95 = dktX5_tellsFour_4 := dk_seg dksX5_tellsFour_3 24 rfl rfl
theorem dX5_tellsFour_0 : decode cX5_tellsFour 0 = .ok (.aload_n 0, 1) := dk_42 (dk_at dksX5_tellsFour_0 0 rfl rfl)
theorem dX5_tellsFour_1 : decode cX5_tellsFour 1 = .ok (.iload 4, 2) := dk_21 4 (dk_at dksX5_tellsFour_0 1 rfl rfl)
theorem dX5_tellsFour_3 : decode cX5_tellsFour 3 = .ok (.invokevirtual 152, 3) := dk_182 0 152 (dk_at dksX5_tellsFour_0 3 rfl rfl)
theorem dX5_tellsFour_6 : decode cX5_tellsFour 6 = .ok (.ifCond .eq 12, 3) := dk_153 0 12 (dk_at dksX5_tellsFour_0 6 rfl rfl)
theorem dX5_tellsFour_9 : decode cX5_tellsFour 9 = .ok (.aload_n 0, 1) := dk_42 (dk_at dksX5_tellsFour_0 9 rfl rfl)
theorem dX5_tellsFour_10 : decode cX5_tellsFour 10 = .ok (.iload 5, 2) := dk_21 5 (dk_at dksX5_tellsFour_0 10 rfl rfl)
theorem dX5_tellsFour_12 : decode cX5_tellsFour 12 = .ok (.invokevirtual 152, 3) := dk_182 0 152 (dk_at dksX5_tellsFour_0 12 rfl rfl)
theorem dX5_tellsFour_15 : decode cX5_tellsFour 15 = .ok (.ifCond .ne 10, 3) := dk_154 0 10 (dk_at dksX5_tellsFour_0 15 rfl rfl)
theorem dX5_tellsFour_18 : decode cX5_tellsFour 18 = .ok (.aload_n 0, 1) := dk_42 (dk_at dksX5_tellsFour_0 18 rfl rfl)
theorem dX5_tellsFour_19 : decode cX5_tellsFour 19 = .ok (.bipush (-2), 2) := dk_16 254 (dk_at dksX5_tellsFour_0 19 rfl rfl)
theorem dX5_tellsFour_21 : decode cX5_tellsFour 21 = .ok (.invokevirtual 127, 3) := dk_182 0 127 (dk_at dksX5_tellsFour_0 21 rfl rfl)
theorem dX5_tellsFour_24 : decode cX5_tellsFour 24 = .ok (.ireturn, 1) := dk_172 (dk_at dksX5_tellsFour_1 0 rfl rfl)
theorem dX5_tellsFour_25 : decode cX5_tellsFour 25 = .ok (.aload_n 0, 1) := dk_42 (dk_at dksX5_tellsFour_1 1 rfl rfl)
theorem dX5_tellsFour_26 : decode cX5_tellsFour 26 = .ok (.getfield 24, 3) := dk_180 0 24 (dk_at dksX5_tellsFour_1 2 rfl rfl)
theorem dX5_tellsFour_29 : decode cX5_tellsFour 29 = .ok (.iload_n 2, 1) := dk_28 (dk_at dksX5_tellsFour_1 5 rfl rfl)
theorem dX5_tellsFour_30 : decode cX5_tellsFour 30 = .ok (.iaload, 1) := dk_46 (dk_at dksX5_tellsFour_1 6 rfl rfl)
theorem dX5_tellsFour_31 : decode cX5_tellsFour 31 = .ok (.iload_n 3, 1) := dk_29 (dk_at dksX5_tellsFour_1 7 rfl rfl)
theorem dX5_tellsFour_32 : decode cX5_tellsFour 32 = .ok (.if_icmp .ne 10, 3) := dk_160 0 10 (dk_at dksX5_tellsFour_1 8 rfl rfl)
theorem dX5_tellsFour_35 : decode cX5_tellsFour 35 = .ok (.aload_n 0, 1) := dk_42 (dk_at dksX5_tellsFour_1 11 rfl rfl)
theorem dX5_tellsFour_36 : decode cX5_tellsFour 36 = .ok (.bipush (-5), 2) := dk_16 251 (dk_at dksX5_tellsFour_1 12 rfl rfl)
theorem dX5_tellsFour_38 : decode cX5_tellsFour 38 = .ok (.invokevirtual 127, 3) := dk_182 0 127 (dk_at dksX5_tellsFour_1 14 rfl rfl)
theorem dX5_tellsFour_41 : decode cX5_tellsFour 41 = .ok (.ireturn, 1) := dk_172 (dk_at dksX5_tellsFour_1 17 rfl rfl)
theorem dX5_tellsFour_42 : decode cX5_tellsFour 42 = .ok (.iload_n 1, 1) := dk_27 (dk_at dksX5_tellsFour_1 18 rfl rfl)
theorem dX5_tellsFour_43 : decode cX5_tellsFour 43 = .ok (.iconst 4, 1) := dk_7 (dk_at dksX5_tellsFour_1 19 rfl rfl)
theorem dX5_tellsFour_44 : decode cX5_tellsFour 44 = .ok (.aload_n 0, 1) := dk_42 (dk_at dksX5_tellsFour_1 20 rfl rfl)
theorem dX5_tellsFour_45 : decode cX5_tellsFour 45 = .ok (.getfield 24, 3) := dk_180 0 24 (dk_at dksX5_tellsFour_1 21 rfl rfl)
theorem dX5_tellsFour_48 : decode cX5_tellsFour 48 = .ok (.iload_n 2, 1) := dk_28 (dk_at dksX5_tellsFour_2 0 rfl rfl)
theorem dX5_tellsFour_49 : decode cX5_tellsFour 49 = .ok (.iaload, 1) := dk_46 (dk_at dksX5_tellsFour_2 1 rfl rfl)
theorem dX5_tellsFour_50 : decode cX5_tellsFour 50 = .ok (.imul, 1) := dk_104 (dk_at dksX5_tellsFour_2 2 rfl rfl)
theorem dX5_tellsFour_51 : decode cX5_tellsFour 51 = .ok (.iadd, 1) := dk_96 (dk_at dksX5_tellsFour_2 3 rfl rfl)
theorem dX5_tellsFour_52 : decode cX5_tellsFour 52 = .ok (.istore 8, 2) := dk_54 8 (dk_at dksX5_tellsFour_2 4 rfl rfl)
theorem dX5_tellsFour_54 : decode cX5_tellsFour 54 = .ok (.aload_n 0, 1) := dk_42 (dk_at dksX5_tellsFour_2 6 rfl rfl)
theorem dX5_tellsFour_55 : decode cX5_tellsFour 55 = .ok (.getfield 24, 3) := dk_180 0 24 (dk_at dksX5_tellsFour_2 7 rfl rfl)
theorem dX5_tellsFour_58 : decode cX5_tellsFour 58 = .ok (.iload 8, 2) := dk_21 8 (dk_at dksX5_tellsFour_2 10 rfl rfl)
theorem dX5_tellsFour_60 : decode cX5_tellsFour 60 = .ok (.iload 4, 2) := dk_21 4 (dk_at dksX5_tellsFour_2 12 rfl rfl)
theorem dX5_tellsFour_62 : decode cX5_tellsFour 62 = .ok (.iastore, 1) := dk_79 (dk_at dksX5_tellsFour_2 14 rfl rfl)
theorem dX5_tellsFour_63 : decode cX5_tellsFour 63 = .ok (.aload_n 0, 1) := dk_42 (dk_at dksX5_tellsFour_2 15 rfl rfl)
theorem dX5_tellsFour_64 : decode cX5_tellsFour 64 = .ok (.getfield 24, 3) := dk_180 0 24 (dk_at dksX5_tellsFour_2 16 rfl rfl)
theorem dX5_tellsFour_67 : decode cX5_tellsFour 67 = .ok (.iload 8, 2) := dk_21 8 (dk_at dksX5_tellsFour_2 19 rfl rfl)
theorem dX5_tellsFour_69 : decode cX5_tellsFour 69 = .ok (.iconst 1, 1) := dk_4 (dk_at dksX5_tellsFour_2 21 rfl rfl)
theorem dX5_tellsFour_70 : decode cX5_tellsFour 70 = .ok (.iadd, 1) := dk_96 (dk_at dksX5_tellsFour_2 22 rfl rfl)
theorem dX5_tellsFour_71 : decode cX5_tellsFour 71 = .ok (.iload 5, 2) := dk_21 5 (dk_at dksX5_tellsFour_3 0 rfl rfl)
theorem dX5_tellsFour_73 : decode cX5_tellsFour 73 = .ok (.iastore, 1) := dk_79 (dk_at dksX5_tellsFour_3 2 rfl rfl)
theorem dX5_tellsFour_74 : decode cX5_tellsFour 74 = .ok (.aload_n 0, 1) := dk_42 (dk_at dksX5_tellsFour_3 3 rfl rfl)
theorem dX5_tellsFour_75 : decode cX5_tellsFour 75 = .ok (.getfield 24, 3) := dk_180 0 24 (dk_at dksX5_tellsFour_3 4 rfl rfl)
theorem dX5_tellsFour_78 : decode cX5_tellsFour 78 = .ok (.iload 8, 2) := dk_21 8 (dk_at dksX5_tellsFour_3 7 rfl rfl)
theorem dX5_tellsFour_80 : decode cX5_tellsFour 80 = .ok (.iconst 2, 1) := dk_5 (dk_at dksX5_tellsFour_3 9 rfl rfl)
theorem dX5_tellsFour_81 : decode cX5_tellsFour 81 = .ok (.iadd, 1) := dk_96 (dk_at dksX5_tellsFour_3 10 rfl rfl)
theorem dX5_tellsFour_82 : decode cX5_tellsFour 82 = .ok (.iload 6, 2) := dk_21 6 (dk_at dksX5_tellsFour_3 11 rfl rfl)
theorem dX5_tellsFour_84 : decode cX5_tellsFour 84 = .ok (.iastore, 1) := dk_79 (dk_at dksX5_tellsFour_3 13 rfl rfl)
theorem dX5_tellsFour_85 : decode cX5_tellsFour 85 = .ok (.aload_n 0, 1) := dk_42 (dk_at dksX5_tellsFour_3 14 rfl rfl)
theorem dX5_tellsFour_86 : decode cX5_tellsFour 86 = .ok (.getfield 24, 3) := dk_180 0 24 (dk_at dksX5_tellsFour_3 15 rfl rfl)
theorem dX5_tellsFour_89 : decode cX5_tellsFour 89 = .ok (.iload 8, 2) := dk_21 8 (dk_at dksX5_tellsFour_3 18 rfl rfl)
theorem dX5_tellsFour_91 : decode cX5_tellsFour 91 = .ok (.iconst 3, 1) := dk_6 (dk_at dksX5_tellsFour_3 20 rfl rfl)
theorem dX5_tellsFour_92 : decode cX5_tellsFour 92 = .ok (.iadd, 1) := dk_96 (dk_at dksX5_tellsFour_3 21 rfl rfl)
theorem dX5_tellsFour_93 : decode cX5_tellsFour 93 = .ok (.iload 7, 2) := dk_21 7 (dk_at dksX5_tellsFour_3 22 rfl rfl)
theorem dX5_tellsFour_95 : decode cX5_tellsFour 95 = .ok (.iastore, 1) := dk_79 (dk_at dksX5_tellsFour_4 0 rfl rfl)
theorem dX5_tellsFour_96 : decode cX5_tellsFour 96 = .ok (.aload_n 0, 1) := dk_42 (dk_at dksX5_tellsFour_4 1 rfl rfl)
theorem dX5_tellsFour_97 : decode cX5_tellsFour 97 = .ok (.getfield 24, 3) := dk_180 0 24 (dk_at dksX5_tellsFour_4 2 rfl rfl)
theorem dX5_tellsFour_100 : decode cX5_tellsFour 100 = .ok (.iload_n 2, 1) := dk_28 (dk_at dksX5_tellsFour_4 5 rfl rfl)
theorem dX5_tellsFour_101 : decode cX5_tellsFour 101 = .ok (.dup2, 1) := dk_92 (dk_at dksX5_tellsFour_4 6 rfl rfl)
theorem dX5_tellsFour_102 : decode cX5_tellsFour 102 = .ok (.iaload, 1) := dk_46 (dk_at dksX5_tellsFour_4 7 rfl rfl)
theorem dX5_tellsFour_103 : decode cX5_tellsFour 103 = .ok (.iconst 1, 1) := dk_4 (dk_at dksX5_tellsFour_4 8 rfl rfl)
theorem dX5_tellsFour_104 : decode cX5_tellsFour 104 = .ok (.iadd, 1) := dk_96 (dk_at dksX5_tellsFour_4 9 rfl rfl)
theorem dX5_tellsFour_105 : decode cX5_tellsFour 105 = .ok (.iastore, 1) := dk_79 (dk_at dksX5_tellsFour_4 10 rfl rfl)
theorem dX5_tellsFour_106 : decode cX5_tellsFour 106 = .ok (.aload_n 0, 1) := dk_42 (dk_at dksX5_tellsFour_4 11 rfl rfl)
theorem dX5_tellsFour_107 : decode cX5_tellsFour 107 = .ok (.aload_n 0, 1) := dk_42 (dk_at dksX5_tellsFour_4 12 rfl rfl)
theorem dX5_tellsFour_108 : decode cX5_tellsFour 108 = .ok (.getfield 24, 3) := dk_180 0 24 (dk_at dksX5_tellsFour_4 13 rfl rfl)
theorem dX5_tellsFour_111 : decode cX5_tellsFour 111 = .ok (.iload_n 2, 1) := dk_28 (dk_at dksX5_tellsFour_4 16 rfl rfl)
theorem dX5_tellsFour_112 : decode cX5_tellsFour 112 = .ok (.iaload, 1) := dk_46 (dk_at dksX5_tellsFour_4 17 rfl rfl)
theorem dX5_tellsFour_113 : decode cX5_tellsFour 113 = .ok (.invokevirtual 14, 3) := dk_182 0 14 (dk_at dksX5_tellsFour_4 18 rfl rfl)
theorem dX5_tellsFour_116 : decode cX5_tellsFour 116 = .ok (.ireturn, 1) := dk_172 (dk_at dksX5_tellsFour_4 21 rfl rfl)
noncomputable def f_X5_tellsFour_18 (E : ax_E) (x0 : Option Nat) (h : ax_H) : Option (Int × ax_H) :=
  (ax_ce E h x0 5).bind fun _ => (f_X5_refuses E x0 (-2) h).bind fun q1 =>
  some (q1.1, q1.2)
noncomputable def f_X5_tellsFour (E : ax_E) (x0 : Option Nat) (x1 : Int) (x2 : Int) (x3 : Int) (x4 : Int) (x5 : Int) (x6 : Int) (x7 : Int) (h : ax_H) : Option (Int × ax_H) :=
  (ax_ce E h x0 5).bind fun _ => (f_X5_isPerson E x0 x4 h).bind fun q1 =>
  if i2 q1.1 = 0 then
    f_X5_tellsFour_18 E x0 q1.2
  else
    (ax_ce E q1.2 x0 5).bind fun _ => (f_X5_isPerson E x0 x5 q1.2).bind fun q2 =>
    if i2 q2.1 = 0 then
      f_X5_tellsFour_18 E x0 q2.2
    else
      (ax_gR E q2.2 x0 5 2).bind fun v3 =>
      (ax_ld E q2.2 v3 100 x2).bind fun v4 =>
      if i2 v4 = i2 x3 then
        (ax_ce E q2.2 x0 5).bind fun _ => (f_X5_refuses E x0 (-5) q2.2).bind fun q5 =>
        some (q5.1, q5.2)
      else
        (ax_gR E q2.2 x0 5 2).bind fun v6 =>
        (ax_ld E q2.2 v6 100 x2).bind fun v7 =>
        (ax_gR E q2.2 x0 5 2).bind fun v8 =>
        (ax_sto q2.2 v8 100 (x1 + (4 * v7)) x4).bind fun h9 =>
        (ax_gR E h9 x0 5 2).bind fun v10 =>
        (ax_sto h9 v10 100 ((x1 + (4 * v7)) + 1) x5).bind fun h11 =>
        (ax_gR E h11 x0 5 2).bind fun v12 =>
        (ax_sto h11 v12 100 ((x1 + (4 * v7)) + 2) x6).bind fun h13 =>
        (ax_gR E h13 x0 5 2).bind fun v14 =>
        (ax_sto h13 v14 100 ((x1 + (4 * v7)) + 3) x7).bind fun h15 =>
        (ax_gR E h15 x0 5 2).bind fun v16 =>
        (ax_ld E h15 v16 100 x2).bind fun v17 =>
        (ax_sto h15 v16 100 x2 (v17 + 1)).bind fun h18 =>
        (ax_gR E h18 x0 5 2).bind fun v19 =>
        (ax_ld E h18 v19 100 x2).bind fun v20 =>
        (ax_ce E h18 x0 5).bind fun _ => (f_X5_good E x0 v20 h18).bind fun q21 =>
        some (q21.1, q21.2)
set_option maxHeartbeats 4000000 in
theorem w_X5_tellsFour_18 {l : Launch} {G : ax_G} {X : ax_X} {Q : State → Prop} {h0 h : ax_H} {ls : Array Slot} (hSF : ax_SF G) (B : ax_BL l G X cX5_tellsFour 9 RX5 3 83) (Z : ax_Z X h0 ((some FieldType.int))) (hn : X.2.2.2.2.2.2.2.2.1.name = yX5_tellsFour.name) (x0 : Option Nat) {w : Int × ax_H} (hl : ax_hl ls 9 [(0, .inr (.inr x0))]) (e : f_X5_tellsFour_18 G.2.2 x0 h = some w) (hp : (fun w : Int × ax_H => Q = ax_Q G X h0 w.2 (some (.int (Int32.ofInt w.1)))) w) : ax_W G X Q h 18 ls [] := by
  unfold f_X5_tellsFour_18 at e
  refine ax_aload_n B dX5_tellsFour_18 rfl hl 0 rfl ?_
  refine ax_bipush B dX5_tellsFour_19 (by decide) ?_
  refine ax_ivI (y := yX5_refuses) (n := 1) (As := [.int (Int32.ofInt (-2))]) B kd5 (lw_V q2154 q2156 qs41 q133 q2157) (by decide +kernel) ⟨Nat.le_of_ble_eq_true rfl, Nat.le_of_ble_eq_true rfl⟩ (fun w1 e1 => mt_X5_refuses l G hSF x0 (-2) _ w1 e1) rfl hl.size (by decide) dX5_tellsFour_21 e (fun q1 e => ?_)
  have e8 := e
  have hp : Q = _ := hp
  subst hp
  exact ax_ireturn B Z dX5_tellsFour_24 e8
set_option maxHeartbeats 4000000 in
theorem we_X5_tellsFour {l : Launch} {G : ax_G} {X : ax_X} {Q : State → Prop} {h0 h : ax_H} {ls : Array Slot} (hSF : ax_SF G) (B : ax_BL l G X cX5_tellsFour 9 RX5 3 83) (Z : ax_Z X h0 ((some FieldType.int))) (hn : X.2.2.2.2.2.2.2.2.1.name = yX5_tellsFour.name) (x0 : Option Nat) (x1 : Int) (x2 : Int) (x3 : Int) (x4 : Int) (x5 : Int) (x6 : Int) (x7 : Int) {w : Int × ax_H} (hl : ax_hl ls 9 [(0, .inr (.inr x0)), (1, .inl x1), (2, .inl x2), (3, .inl x3), (4, .inl x4), (5, .inl x5), (6, .inl x6), (7, .inl x7)]) (e : f_X5_tellsFour G.2.2 x0 x1 x2 x3 x4 x5 x6 x7 h = some w) (hp : (fun w : Int × ax_H => Q = ax_Q G X h0 w.2 (some (.int (Int32.ofInt w.1)))) w) : ax_W G X Q h 0 ls [] := by
  unfold f_X5_tellsFour at e
  refine ax_aload_n B dX5_tellsFour_0 rfl hl 0 rfl ?_
  refine ax_iload B dX5_tellsFour_1 hl 4 rfl ?_
  refine ax_ivI (y := yX5_isPerson) (n := 1) (As := [.int (Int32.ofInt x4)]) B kd5 (lw_V q2191 q2193 qs45 q133 q2194) (by decide +kernel) ⟨Nat.le_of_ble_eq_true rfl, Nat.le_of_ble_eq_true rfl⟩ (fun w1 e1 => mt_X5_isPerson l G hSF x0 x4 _ w1 e1) rfl hl.size (by decide) dX5_tellsFour_3 e (fun q1 e => ?_)
  refine ax_if_eq (tgt := 18) B dX5_tellsFour_6 (by decide) e (fun e => ?_) (fun e => ?_)
  · exact w_X5_tellsFour_18 hSF B Z hn x0 (hl.sub [0] rfl) e hp
  · refine ax_aload_n B dX5_tellsFour_9 rfl hl 0 rfl ?_
    refine ax_iload B dX5_tellsFour_10 hl 5 rfl ?_
    refine ax_ivI (y := yX5_isPerson) (n := 1) (As := [.int (Int32.ofInt x5)]) B kd5 (lw_V q2191 q2193 qs45 q133 q2194) (by decide +kernel) ⟨Nat.le_of_ble_eq_true rfl, Nat.le_of_ble_eq_true rfl⟩ (fun w1 e1 => mt_X5_isPerson l G hSF x0 x5 _ w1 e1) rfl hl.size (by decide) dX5_tellsFour_12 e (fun q2 e => ?_)
    refine ax_if_ne (tgt := 25) B dX5_tellsFour_15 (by decide) e (fun e => ?_) (fun e => ?_)
    · exact w_X5_tellsFour_18 hSF B Z hn x0 (hl.sub [0] rfl) e hp
    · refine ax_aload_n B dX5_tellsFour_25 rfl hl 0 rfl ?_
      refine ax_getR B ff_X5_24_5 (fun _ _ => rfl) dX5_tellsFour_26 e (fun v3 e => ?_)
      refine ax_iload_n B dX5_tellsFour_29 rfl hl 2 rfl ?_
      refine ax_iald B kd100 dX5_tellsFour_30 e (fun v4 e => ?_)
      refine ax_iload_n B dX5_tellsFour_31 rfl hl 3 rfl ?_
      refine ax_icmp_ne (tgt := 42) B dX5_tellsFour_32 (by decide) e (fun e => ?_) (fun e => ?_)
      · refine ax_aload_n B dX5_tellsFour_35 rfl hl 0 rfl ?_
        refine ax_bipush B dX5_tellsFour_36 (by decide) ?_
        refine ax_ivI (y := yX5_refuses) (n := 1) (As := [.int (Int32.ofInt (-5))]) B kd5 (lw_V q2154 q2156 qs41 q133 q2157) (by decide +kernel) ⟨Nat.le_of_ble_eq_true rfl, Nat.le_of_ble_eq_true rfl⟩ (fun w1 e1 => mt_X5_refuses l G hSF x0 (-5) _ w1 e1) rfl hl.size (by decide) dX5_tellsFour_38 e (fun q5 e => ?_)
        have e8 := e
        have hp : Q = _ := hp
        subst hp
        exact ax_ireturn B Z dX5_tellsFour_41 e8
      · refine ax_iload_n B dX5_tellsFour_42 rfl hl 1 rfl ?_
        refine ax_iconst B dX5_tellsFour_43 ?_
        refine ax_aload_n B dX5_tellsFour_44 rfl hl 0 rfl ?_
        refine ax_getR B ff_X5_24_5 (fun _ _ => rfl) dX5_tellsFour_45 e (fun v6 e => ?_)
        refine ax_iload_n B dX5_tellsFour_48 rfl hl 2 rfl ?_
        refine ax_iald B kd100 dX5_tellsFour_49 e (fun v7 e => ?_)
        refine ax_imul' B dX5_tellsFour_50 ?_
        refine ax_iadd' B dX5_tellsFour_51 ?_
        refine ax_istore (L' := [(8, .inl (x1 + (4 * v7))), (0, .inr (.inr x0)), (1, .inl x1), (2, .inl x2), (3, .inl x3), (4, .inl x4), (5, .inl x5), (6, .inl x6), (7, .inl x7)]) B dX5_tellsFour_52 hl (by decide) rfl (fun ls hl => ?_)
        refine ax_aload_n B dX5_tellsFour_54 rfl hl 1 rfl ?_
        refine ax_getR B ff_X5_24_5 (fun _ _ => rfl) dX5_tellsFour_55 e (fun v8 e => ?_)
        refine ax_iload B dX5_tellsFour_58 hl 0 rfl ?_
        refine ax_iload B dX5_tellsFour_60 hl 5 rfl ?_
        refine ax_iast B kd100 dX5_tellsFour_62 e (fun h9 e => ?_)
        refine ax_aload_n B dX5_tellsFour_63 rfl hl 1 rfl ?_
        refine ax_getR B ff_X5_24_5 (fun _ _ => rfl) dX5_tellsFour_64 e (fun v10 e => ?_)
        refine ax_iload B dX5_tellsFour_67 hl 0 rfl ?_
        refine ax_iconst B dX5_tellsFour_69 ?_
        refine ax_iadd' B dX5_tellsFour_70 ?_
        refine ax_iload B dX5_tellsFour_71 hl 6 rfl ?_
        refine ax_iast B kd100 dX5_tellsFour_73 e (fun h11 e => ?_)
        refine ax_aload_n B dX5_tellsFour_74 rfl hl 1 rfl ?_
        refine ax_getR B ff_X5_24_5 (fun _ _ => rfl) dX5_tellsFour_75 e (fun v12 e => ?_)
        refine ax_iload B dX5_tellsFour_78 hl 0 rfl ?_
        refine ax_iconst B dX5_tellsFour_80 ?_
        refine ax_iadd' B dX5_tellsFour_81 ?_
        refine ax_iload B dX5_tellsFour_82 hl 7 rfl ?_
        refine ax_iast B kd100 dX5_tellsFour_84 e (fun h13 e => ?_)
        refine ax_aload_n B dX5_tellsFour_85 rfl hl 1 rfl ?_
        refine ax_getR B ff_X5_24_5 (fun _ _ => rfl) dX5_tellsFour_86 e (fun v14 e => ?_)
        refine ax_iload B dX5_tellsFour_89 hl 0 rfl ?_
        refine ax_iconst B dX5_tellsFour_91 ?_
        refine ax_iadd' B dX5_tellsFour_92 ?_
        refine ax_iload B dX5_tellsFour_93 hl 8 rfl ?_
        refine ax_iast B kd100 dX5_tellsFour_95 e (fun h15 e => ?_)
        refine ax_aload_n B dX5_tellsFour_96 rfl hl 1 rfl ?_
        refine ax_getR B ff_X5_24_5 (fun _ _ => rfl) dX5_tellsFour_97 e (fun v16 e => ?_)
        refine ax_iload_n B dX5_tellsFour_100 rfl hl 3 rfl ?_
        refine ax_dup2 B dX5_tellsFour_101 (rfl) (va_rf_cat _) ?_
        refine ax_iald B kd100 dX5_tellsFour_102 e (fun v17 e => ?_)
        refine ax_iconst B dX5_tellsFour_103 ?_
        refine ax_iadd' B dX5_tellsFour_104 ?_
        refine ax_iast B kd100 dX5_tellsFour_105 e (fun h18 e => ?_)
        refine ax_aload_n B dX5_tellsFour_106 rfl hl 1 rfl ?_
        refine ax_aload_n B dX5_tellsFour_107 rfl hl 1 rfl ?_
        refine ax_getR B ff_X5_24_5 (fun _ _ => rfl) dX5_tellsFour_108 e (fun v19 e => ?_)
        refine ax_iload_n B dX5_tellsFour_111 rfl hl 3 rfl ?_
        refine ax_iald B kd100 dX5_tellsFour_112 e (fun v20 e => ?_)
        refine ax_ivI (y := yX5_good) (n := 1) (As := [.int (Int32.ofInt v20)]) B kd5 (lw_V q2158 q2160 qs42 q133 q2161) (by decide +kernel) ⟨Nat.le_of_ble_eq_true rfl, Nat.le_of_ble_eq_true rfl⟩ (fun w1 e1 => mt_X5_good l G hSF x0 v20 _ w1 e1) rfl hl.size (by decide) dX5_tellsFour_113 e (fun q21 e => ?_)
        have e8 := e
        have hp : Q = _ := hp
        subst hp
        exact ax_ireturn B Z dX5_tellsFour_116 e8
theorem mt_X5_tellsFour (l : Launch) (G : ax_G) (hSF : ax_SF G) (x0 : Option Nat) (x1 : Int) (x2 : Int) (x3 : Int) (x4 : Int) (x5 : Int) (x6 : Int) (x7 : Int) (h : ax_H) (w : Int × ax_H) (e : f_X5_tellsFour G.2.2 x0 x1 x2 x3 x4 x5 x6 x7 h = some w) : ax_Met l G yX5_tellsFour cX5_tellsFour 9 ((some FieldType.int)) 3 83 [va_rf x0, .int (Int32.ofInt x1), .int (Int32.ofInt x2), .int (Int32.ofInt x3), .int (Int32.ofInt x4), .int (Int32.ofInt x5), .int (Int32.ofInt x6), .int (Int32.ofInt x7)] h w.2 (some (.int (Int32.ofInt w.1))) :=
  ax_enter [.inr (.inr x0), .inl x1, .inl x2, .inl x3, .inl x4, .inl x5, .inl x6, .inl x7] (y := yX5_tellsFour) hSF (plainFor_of_name (by decide +kernel)) (Nat.le_of_ble_eq_true rfl) (fun X ls B Z hn hl => we_X5_tellsFour hSF B Z hn x0 x1 x2 x3 x4 x5 x6 x7 hl e rfl)
def dkwX5_visit_1 : List UInt8 := [42, 2, 182, 0, 127, 172, 42, 16, 87, 17, 0, 153, 16, 8, 27, 28, 29, 21, 4, 182, 1, 137, 172]
abbrev dktX5_visit_1 : List UInt8 := dkwX5_visit_1 ++ []
def dkwX5_visit_0 : List UInt8 := [27, 28, 159, 0, 22, 29, 184, 0, 140, 153, 0, 15, 21, 4, 3, 17, 3, 231, 184, 0, 123, 154, 0, 9]
abbrev dktX5_visit_0 : List UInt8 := dkwX5_visit_0 ++ dktX5_visit_1
theorem dksX5_visit_0 : cX5_visit.data.toList.drop 0 = dktX5_visit_0 := by decide +kernel
theorem dksX5_visit_1 : cX5_visit.data.toList.drop 24 = dktX5_visit_1 := dk_seg dksX5_visit_0 24 rfl rfl
theorem dX5_visit_0 : decode cX5_visit 0 = .ok (.iload_n 1, 1) := dk_27 (dk_at dksX5_visit_0 0 rfl rfl)
theorem dX5_visit_1 : decode cX5_visit 1 = .ok (.iload_n 2, 1) := dk_28 (dk_at dksX5_visit_0 1 rfl rfl)
theorem dX5_visit_2 : decode cX5_visit 2 = .ok (.if_icmp .eq 22, 3) := dk_159 0 22 (dk_at dksX5_visit_0 2 rfl rfl)
theorem dX5_visit_5 : decode cX5_visit 5 = .ok (.iload_n 3, 1) := dk_29 (dk_at dksX5_visit_0 5 rfl rfl)
theorem dX5_visit_6 : decode cX5_visit 6 = .ok (.invokestatic 140, 3) := dk_184 0 140 (dk_at dksX5_visit_0 6 rfl rfl)
theorem dX5_visit_9 : decode cX5_visit 9 = .ok (.ifCond .eq 15, 3) := dk_153 0 15 (dk_at dksX5_visit_0 9 rfl rfl)
theorem dX5_visit_12 : decode cX5_visit 12 = .ok (.iload 4, 2) := dk_21 4 (dk_at dksX5_visit_0 12 rfl rfl)
theorem dX5_visit_14 : decode cX5_visit 14 = .ok (.iconst 0, 1) := dk_3 (dk_at dksX5_visit_0 14 rfl rfl)
theorem dX5_visit_15 : decode cX5_visit 15 = .ok (.sipush 999, 3) := dk_17 3 231 (dk_at dksX5_visit_0 15 rfl rfl)
theorem dX5_visit_18 : decode cX5_visit 18 = .ok (.invokestatic 123, 3) := dk_184 0 123 (dk_at dksX5_visit_0 18 rfl rfl)
theorem dX5_visit_21 : decode cX5_visit 21 = .ok (.ifCond .ne 9, 3) := dk_154 0 9 (dk_at dksX5_visit_0 21 rfl rfl)
theorem dX5_visit_24 : decode cX5_visit 24 = .ok (.aload_n 0, 1) := dk_42 (dk_at dksX5_visit_1 0 rfl rfl)
theorem dX5_visit_25 : decode cX5_visit 25 = .ok (.iconst (-1), 1) := dk_2 (dk_at dksX5_visit_1 1 rfl rfl)
theorem dX5_visit_26 : decode cX5_visit 26 = .ok (.invokevirtual 127, 3) := dk_182 0 127 (dk_at dksX5_visit_1 2 rfl rfl)
theorem dX5_visit_29 : decode cX5_visit 29 = .ok (.ireturn, 1) := dk_172 (dk_at dksX5_visit_1 5 rfl rfl)
theorem dX5_visit_30 : decode cX5_visit 30 = .ok (.aload_n 0, 1) := dk_42 (dk_at dksX5_visit_1 6 rfl rfl)
theorem dX5_visit_31 : decode cX5_visit 31 = .ok (.bipush 87, 2) := dk_16 87 (dk_at dksX5_visit_1 7 rfl rfl)
theorem dX5_visit_33 : decode cX5_visit 33 = .ok (.sipush 153, 3) := dk_17 0 153 (dk_at dksX5_visit_1 9 rfl rfl)
theorem dX5_visit_36 : decode cX5_visit 36 = .ok (.bipush 8, 2) := dk_16 8 (dk_at dksX5_visit_1 12 rfl rfl)
theorem dX5_visit_38 : decode cX5_visit 38 = .ok (.iload_n 1, 1) := dk_27 (dk_at dksX5_visit_1 14 rfl rfl)
theorem dX5_visit_39 : decode cX5_visit 39 = .ok (.iload_n 2, 1) := dk_28 (dk_at dksX5_visit_1 15 rfl rfl)
theorem dX5_visit_40 : decode cX5_visit 40 = .ok (.iload_n 3, 1) := dk_29 (dk_at dksX5_visit_1 16 rfl rfl)
theorem dX5_visit_41 : decode cX5_visit 41 = .ok (.iload 4, 2) := dk_21 4 (dk_at dksX5_visit_1 17 rfl rfl)
theorem dX5_visit_43 : decode cX5_visit 43 = .ok (.invokevirtual 393, 3) := dk_182 1 137 (dk_at dksX5_visit_1 19 rfl rfl)
theorem dX5_visit_46 : decode cX5_visit 46 = .ok (.ireturn, 1) := dk_172 (dk_at dksX5_visit_1 22 rfl rfl)
noncomputable def f_X5_visit_24 (E : ax_E) (x0 : Option Nat) (h : ax_H) : Option (Int × ax_H) :=
  (ax_ce E h x0 5).bind fun _ => (f_X5_refuses E x0 (-1) h).bind fun q1 =>
  some (q1.1, q1.2)
noncomputable def f_X5_visit (E : ax_E) (x0 : Option Nat) (x1 : Int) (x2 : Int) (x3 : Int) (x4 : Int) (h : ax_H) : Option (Int × ax_H) :=
  if i2 x1 = i2 x2 then
    f_X5_visit_24 E x0 h
  else
    (f_X5_isRoom E x3 h).bind fun q1 =>
    if i2 q1.1 = 0 then
      f_X5_visit_24 E x0 q1.2
    else
      (f_X5_lies E x4 0 999 q1.2).bind fun q2 =>
      if i2 q2.1 = 0 then
        f_X5_visit_24 E x0 q2.2
      else
        (ax_ce E q2.2 x0 5).bind fun _ => (f_X5_tellsFour E x0 87 153 8 x1 x2 x3 x4 q2.2).bind fun q3 =>
        some (q3.1, q3.2)
set_option maxHeartbeats 4000000 in
theorem w_X5_visit_24 {l : Launch} {G : ax_G} {X : ax_X} {Q : State → Prop} {h0 h : ax_H} {ls : Array Slot} (hSF : ax_SF G) (B : ax_BL l G X cX5_visit 5 RX5 4 111) (Z : ax_Z X h0 ((some FieldType.int))) (hn : X.2.2.2.2.2.2.2.2.1.name = yX5_visit.name) (x0 : Option Nat) {w : Int × ax_H} (hl : ax_hl ls 5 [(0, .inr (.inr x0))]) (e : f_X5_visit_24 G.2.2 x0 h = some w) (hp : (fun w : Int × ax_H => Q = ax_Q G X h0 w.2 (some (.int (Int32.ofInt w.1)))) w) : ax_W G X Q h 24 ls [] := by
  unfold f_X5_visit_24 at e
  refine ax_aload_n B dX5_visit_24 rfl hl 0 rfl ?_
  refine ax_iconst B dX5_visit_25 ?_
  refine ax_ivI (y := yX5_refuses) (n := 1) (As := [.int (Int32.ofInt (-1))]) B kd5 (lw_V q2154 q2156 qs41 q133 q2157) (by decide +kernel) ⟨Nat.le_of_ble_eq_true rfl, Nat.le_of_ble_eq_true rfl⟩ (fun w1 e1 => mt_X5_refuses l G hSF x0 (-1) _ w1 e1) rfl hl.size (by decide) dX5_visit_26 e (fun q1 e => ?_)
  have e8 := e
  have hp : Q = _ := hp
  subst hp
  exact ax_ireturn B Z dX5_visit_29 e8
set_option maxHeartbeats 4000000 in
theorem we_X5_visit {l : Launch} {G : ax_G} {X : ax_X} {Q : State → Prop} {h0 h : ax_H} {ls : Array Slot} (hSF : ax_SF G) (B : ax_BL l G X cX5_visit 5 RX5 4 111) (Z : ax_Z X h0 ((some FieldType.int))) (hn : X.2.2.2.2.2.2.2.2.1.name = yX5_visit.name) (x0 : Option Nat) (x1 : Int) (x2 : Int) (x3 : Int) (x4 : Int) {w : Int × ax_H} (hl : ax_hl ls 5 [(0, .inr (.inr x0)), (1, .inl x1), (2, .inl x2), (3, .inl x3), (4, .inl x4)]) (e : f_X5_visit G.2.2 x0 x1 x2 x3 x4 h = some w) (hp : (fun w : Int × ax_H => Q = ax_Q G X h0 w.2 (some (.int (Int32.ofInt w.1)))) w) : ax_W G X Q h 0 ls [] := by
  unfold f_X5_visit at e
  refine ax_iload_n B dX5_visit_0 rfl hl 1 rfl ?_
  refine ax_iload_n B dX5_visit_1 rfl hl 2 rfl ?_
  refine ax_icmp_eq (tgt := 24) B dX5_visit_2 (by decide) e (fun e => ?_) (fun e => ?_)
  · exact w_X5_visit_24 hSF B Z hn x0 (hl.sub [0] rfl) e hp
  · refine ax_iload_n B dX5_visit_5 rfl hl 3 rfl ?_
    refine ax_isI (y := yX5_isRoom) (n := 1) (As := [.int (Int32.ofInt x3)]) B (lw_S q2177 q2178 q133 q2179) (by decide +kernel) ⟨Nat.le_of_ble_eq_true rfl, Nat.le_of_ble_eq_true rfl⟩ (fun w1 e1 => mt_X5_isRoom l G hSF x3 _ w1 e1) rfl hl.size (by decide) dX5_visit_6 e (fun q1 e => ?_)
    refine ax_if_eq (tgt := 24) B dX5_visit_9 (by decide) e (fun e => ?_) (fun e => ?_)
    · exact w_X5_visit_24 hSF B Z hn x0 (hl.sub [0] rfl) e hp
    · refine ax_iload B dX5_visit_12 hl 4 rfl ?_
      refine ax_iconst B dX5_visit_14 ?_
      refine ax_sipush B dX5_visit_15 (by decide) ?_
      refine ax_isI (y := yX5_lies) (n := 3) (As := [.int (Int32.ofInt x4), .int (Int32.ofInt 0), .int (Int32.ofInt 999)]) B (lw_S q2151 q2152 q133 q2153) (by decide +kernel) ⟨Nat.le_of_ble_eq_true rfl, Nat.le_of_ble_eq_true rfl⟩ (fun w1 e1 => mt_X5_lies l G hSF x4 0 999 _ w1 e1) rfl hl.size (by decide) dX5_visit_18 e (fun q2 e => ?_)
      refine ax_if_ne (tgt := 30) B dX5_visit_21 (by decide) e (fun e => ?_) (fun e => ?_)
      · exact w_X5_visit_24 hSF B Z hn x0 (hl.sub [0] rfl) e hp
      · refine ax_aload_n B dX5_visit_30 rfl hl 0 rfl ?_
        refine ax_bipush B dX5_visit_31 (by decide) ?_
        refine ax_sipush B dX5_visit_33 (by decide) ?_
        refine ax_bipush B dX5_visit_36 (by decide) ?_
        refine ax_iload_n B dX5_visit_38 rfl hl 1 rfl ?_
        refine ax_iload_n B dX5_visit_39 rfl hl 2 rfl ?_
        refine ax_iload_n B dX5_visit_40 rfl hl 3 rfl ?_
        refine ax_iload B dX5_visit_41 hl 4 rfl ?_
        refine ax_ivI (y := yX5_tellsFour) (n := 7) (As := [.int (Int32.ofInt 87), .int (Int32.ofInt 153), .int (Int32.ofInt 8), .int (Int32.ofInt x1), .int (Int32.ofInt x2), .int (Int32.ofInt x3), .int (Int32.ofInt x4)]) B kd5 (lw_V q2534 q2536 qs104 q133 q2537) (by decide +kernel) ⟨Nat.le_of_ble_eq_true rfl, Nat.le_of_ble_eq_true rfl⟩ (fun w1 e1 => mt_X5_tellsFour l G hSF x0 87 153 8 x1 x2 x3 x4 _ w1 e1) rfl hl.size (by decide) dX5_visit_43 e (fun q3 e => ?_)
        have e8 := e
        have hp : Q = _ := hp
        subst hp
        exact ax_ireturn B Z dX5_visit_46 e8
theorem mt_X5_visit (l : Launch) (G : ax_G) (hSF : ax_SF G) (x0 : Option Nat) (x1 : Int) (x2 : Int) (x3 : Int) (x4 : Int) (h : ax_H) (w : Int × ax_H) (e : f_X5_visit G.2.2 x0 x1 x2 x3 x4 h = some w) : ax_Met l G yX5_visit cX5_visit 5 ((some FieldType.int)) 4 111 [va_rf x0, .int (Int32.ofInt x1), .int (Int32.ofInt x2), .int (Int32.ofInt x3), .int (Int32.ofInt x4)] h w.2 (some (.int (Int32.ofInt w.1))) :=
  ax_enter [.inr (.inr x0), .inl x1, .inl x2, .inl x3, .inl x4] (y := yX5_visit) hSF (plainFor_of_name (by decide +kernel)) (Nat.le_of_ble_eq_true rfl) (fun X ls B Z hn hl => we_X5_visit hSF B Z hn x0 x1 x2 x3 x4 hl e rfl)
def dkwX5_goAll_0 : List UInt8 := [42, 180, 0, 24, 27, 46, 61, 42, 180, 0, 24, 27, 3, 79, 28, 172]
abbrev dktX5_goAll_0 : List UInt8 := dkwX5_goAll_0 ++ []
theorem dksX5_goAll_0 : cX5_goAll.data.toList.drop 0 = dktX5_goAll_0 := by decide +kernel
theorem dX5_goAll_0 : decode cX5_goAll 0 = .ok (.aload_n 0, 1) := dk_42 (dk_at dksX5_goAll_0 0 rfl rfl)
theorem dX5_goAll_1 : decode cX5_goAll 1 = .ok (.getfield 24, 3) := dk_180 0 24 (dk_at dksX5_goAll_0 1 rfl rfl)
theorem dX5_goAll_4 : decode cX5_goAll 4 = .ok (.iload_n 1, 1) := dk_27 (dk_at dksX5_goAll_0 4 rfl rfl)
theorem dX5_goAll_5 : decode cX5_goAll 5 = .ok (.iaload, 1) := dk_46 (dk_at dksX5_goAll_0 5 rfl rfl)
theorem dX5_goAll_6 : decode cX5_goAll 6 = .ok (.istore_n 2, 1) := dk_61 (dk_at dksX5_goAll_0 6 rfl rfl)
theorem dX5_goAll_7 : decode cX5_goAll 7 = .ok (.aload_n 0, 1) := dk_42 (dk_at dksX5_goAll_0 7 rfl rfl)
theorem dX5_goAll_8 : decode cX5_goAll 8 = .ok (.getfield 24, 3) := dk_180 0 24 (dk_at dksX5_goAll_0 8 rfl rfl)
theorem dX5_goAll_11 : decode cX5_goAll 11 = .ok (.iload_n 1, 1) := dk_27 (dk_at dksX5_goAll_0 11 rfl rfl)
theorem dX5_goAll_12 : decode cX5_goAll 12 = .ok (.iconst 0, 1) := dk_3 (dk_at dksX5_goAll_0 12 rfl rfl)
theorem dX5_goAll_13 : decode cX5_goAll 13 = .ok (.iastore, 1) := dk_79 (dk_at dksX5_goAll_0 13 rfl rfl)
theorem dX5_goAll_14 : decode cX5_goAll 14 = .ok (.iload_n 2, 1) := dk_28 (dk_at dksX5_goAll_0 14 rfl rfl)
theorem dX5_goAll_15 : decode cX5_goAll 15 = .ok (.ireturn, 1) := dk_172 (dk_at dksX5_goAll_0 15 rfl rfl)
noncomputable def f_X5_goAll (E : ax_E) (x0 : Option Nat) (x1 : Int) (h : ax_H) : Option (Int × ax_H) :=
  (ax_gR E h x0 5 2).bind fun v1 =>
  (ax_ld E h v1 100 x1).bind fun v2 =>
  (ax_gR E h x0 5 2).bind fun v3 =>
  (ax_sto h v3 100 x1 0).bind fun h4 =>
  some (v2, h4)
set_option maxHeartbeats 4000000 in
theorem we_X5_goAll {l : Launch} {G : ax_G} {X : ax_X} {Q : State → Prop} {h0 h : ax_H} {ls : Array Slot} (hSF : ax_SF G) (B : ax_BL l G X cX5_goAll 3 RX5 1 40) (Z : ax_Z X h0 ((some FieldType.int))) (hn : X.2.2.2.2.2.2.2.2.1.name = yX5_goAll.name) (x0 : Option Nat) (x1 : Int) {w : Int × ax_H} (hl : ax_hl ls 3 [(0, .inr (.inr x0)), (1, .inl x1)]) (e : f_X5_goAll G.2.2 x0 x1 h = some w) (hp : (fun w : Int × ax_H => Q = ax_Q G X h0 w.2 (some (.int (Int32.ofInt w.1)))) w) : ax_W G X Q h 0 ls [] := by
  unfold f_X5_goAll at e
  refine ax_aload_n B dX5_goAll_0 rfl hl 0 rfl ?_
  refine ax_getR B ff_X5_24_5 (fun _ _ => rfl) dX5_goAll_1 e (fun v1 e => ?_)
  refine ax_iload_n B dX5_goAll_4 rfl hl 1 rfl ?_
  refine ax_iald B kd100 dX5_goAll_5 e (fun v2 e => ?_)
  refine ax_istore_n (L' := [(2, .inl v2), (0, .inr (.inr x0)), (1, .inl x1)]) B dX5_goAll_6 rfl hl (by decide) rfl (fun ls hl => ?_)
  refine ax_aload_n B dX5_goAll_7 rfl hl 1 rfl ?_
  refine ax_getR B ff_X5_24_5 (fun _ _ => rfl) dX5_goAll_8 e (fun v3 e => ?_)
  refine ax_iload_n B dX5_goAll_11 rfl hl 2 rfl ?_
  refine ax_iconst B dX5_goAll_12 ?_
  refine ax_iast B kd100 dX5_goAll_13 e (fun h4 e => ?_)
  refine ax_iload_n B dX5_goAll_14 rfl hl 0 rfl ?_
  have e8 := e
  have hp : Q = _ := hp
  subst hp
  exact ax_ireturn B Z dX5_goAll_15 e8
theorem mt_X5_goAll (l : Launch) (G : ax_G) (hSF : ax_SF G) (x0 : Option Nat) (x1 : Int) (h : ax_H) (w : Int × ax_H) (e : f_X5_goAll G.2.2 x0 x1 h = some w) : ax_Met l G yX5_goAll cX5_goAll 3 ((some FieldType.int)) 1 40 [va_rf x0, .int (Int32.ofInt x1)] h w.2 (some (.int (Int32.ofInt w.1))) :=
  ax_enter [.inr (.inr x0), .inl x1] (y := yX5_goAll) hSF (plainFor_of_name (by decide +kernel)) (Nat.le_of_ble_eq_true rfl) (fun X ls B Z hn hl => we_X5_goAll hSF B Z hn x0 x1 hl e rfl)
def dkwX5_cancel_0 : List UInt8 := [42, 17, 0, 153, 182, 1, 141, 172]
abbrev dktX5_cancel_0 : List UInt8 := dkwX5_cancel_0 ++ []
theorem dksX5_cancel_0 : cX5_cancel.data.toList.drop 0 = dktX5_cancel_0 := by decide +kernel
theorem dX5_cancel_0 : decode cX5_cancel 0 = .ok (.aload_n 0, 1) := dk_42 (dk_at dksX5_cancel_0 0 rfl rfl)
theorem dX5_cancel_1 : decode cX5_cancel 1 = .ok (.sipush 153, 3) := dk_17 0 153 (dk_at dksX5_cancel_0 1 rfl rfl)
theorem dX5_cancel_4 : decode cX5_cancel 4 = .ok (.invokevirtual 397, 3) := dk_182 1 141 (dk_at dksX5_cancel_0 4 rfl rfl)
theorem dX5_cancel_7 : decode cX5_cancel 7 = .ok (.ireturn, 1) := dk_172 (dk_at dksX5_cancel_0 7 rfl rfl)
noncomputable def f_X5_cancel (E : ax_E) (x0 : Option Nat) (h : ax_H) : Option (Int × ax_H) :=
  (ax_ce E h x0 5).bind fun _ => (f_X5_goAll E x0 153 h).bind fun q1 =>
  some (q1.1, q1.2)
set_option maxHeartbeats 4000000 in
theorem we_X5_cancel {l : Launch} {G : ax_G} {X : ax_X} {Q : State → Prop} {h0 h : ax_H} {ls : Array Slot} (hSF : ax_SF G) (B : ax_BL l G X cX5_cancel 1 RX5 2 62) (Z : ax_Z X h0 ((some FieldType.int))) (hn : X.2.2.2.2.2.2.2.2.1.name = yX5_cancel.name) (x0 : Option Nat) {w : Int × ax_H} (hl : ax_hl ls 1 [(0, .inr (.inr x0))]) (e : f_X5_cancel G.2.2 x0 h = some w) (hp : (fun w : Int × ax_H => Q = ax_Q G X h0 w.2 (some (.int (Int32.ofInt w.1)))) w) : ax_W G X Q h 0 ls [] := by
  unfold f_X5_cancel at e
  refine ax_aload_n B dX5_cancel_0 rfl hl 0 rfl ?_
  refine ax_sipush B dX5_cancel_1 (by decide) ?_
  refine ax_ivI (y := yX5_goAll) (n := 1) (As := [.int (Int32.ofInt 153)]) B kd5 (lw_V q2542 q2544 qs105 q133 q2545) (by decide +kernel) ⟨Nat.le_of_ble_eq_true rfl, Nat.le_of_ble_eq_true rfl⟩ (fun w1 e1 => mt_X5_goAll l G hSF x0 153 _ w1 e1) rfl hl.size (by decide) dX5_cancel_4 e (fun q1 e => ?_)
  have e8 := e
  have hp : Q = _ := hp
  subst hp
  exact ax_ireturn B Z dX5_cancel_7 e8
theorem mt_X5_cancel (l : Launch) (G : ax_G) (hSF : ax_SF G) (x0 : Option Nat) (h : ax_H) (w : Int × ax_H) (e : f_X5_cancel G.2.2 x0 h = some w) : ax_Met l G yX5_cancel cX5_cancel 1 ((some FieldType.int)) 2 62 [va_rf x0] h w.2 (some (.int (Int32.ofInt w.1))) :=
  ax_enter [.inr (.inr x0)] (y := yX5_cancel) hSF (plainFor_of_name (by decide +kernel)) (Nat.le_of_ble_eq_true rfl) (fun X ls B Z hn hl => we_X5_cancel hSF B Z hn x0 hl e rfl)
def dkwX5_isAlike_2 : List UInt8 := [104, 96, 4, 96, 46, 160, 0, 7, 4, 167, 0, 4, 3, 172]
abbrev dktX5_isAlike_2 : List UInt8 := dkwX5_isAlike_2 ++ []
def dkwX5_isAlike_1 : List UInt8 := [160, 0, 36, 42, 180, 0, 24, 16, 87, 7, 27, 104, 96, 4, 96, 46, 42, 180, 0, 24, 16, 87, 7, 28]
abbrev dktX5_isAlike_1 : List UInt8 := dkwX5_isAlike_1 ++ dktX5_isAlike_2
def dkwX5_isAlike_0 : List UInt8 := [42, 180, 0, 24, 16, 87, 7, 27, 104, 96, 46, 42, 180, 0, 24, 16, 87, 7, 28, 104, 96, 46]
abbrev dktX5_isAlike_0 : List UInt8 := dkwX5_isAlike_0 ++ dktX5_isAlike_1
theorem dksX5_isAlike_0 : cX5_isAlike.data.toList.drop 0 = dktX5_isAlike_0 := by decide +kernel
theorem dksX5_isAlike_1 : cX5_isAlike.data.toList.drop 22 = dktX5_isAlike_1 := dk_seg dksX5_isAlike_0 22 rfl rfl
theorem dksX5_isAlike_2 : cX5_isAlike.data.toList.drop 46 = dktX5_isAlike_2 := dk_seg dksX5_isAlike_1 24 rfl rfl
theorem dX5_isAlike_0 : decode cX5_isAlike 0 = .ok (.aload_n 0, 1) := dk_42 (dk_at dksX5_isAlike_0 0 rfl rfl)
theorem dX5_isAlike_1 : decode cX5_isAlike 1 = .ok (.getfield 24, 3) := dk_180 0 24 (dk_at dksX5_isAlike_0 1 rfl rfl)
theorem dX5_isAlike_4 : decode cX5_isAlike 4 = .ok (.bipush 87, 2) := dk_16 87 (dk_at dksX5_isAlike_0 4 rfl rfl)
theorem dX5_isAlike_6 : decode cX5_isAlike 6 = .ok (.iconst 4, 1) := dk_7 (dk_at dksX5_isAlike_0 6 rfl rfl)
theorem dX5_isAlike_7 : decode cX5_isAlike 7 = .ok (.iload_n 1, 1) := dk_27 (dk_at dksX5_isAlike_0 7 rfl rfl)
theorem dX5_isAlike_8 : decode cX5_isAlike 8 = .ok (.imul, 1) := dk_104 (dk_at dksX5_isAlike_0 8 rfl rfl)
theorem dX5_isAlike_9 : decode cX5_isAlike 9 = .ok (.iadd, 1) := dk_96 (dk_at dksX5_isAlike_0 9 rfl rfl)
theorem dX5_isAlike_10 : decode cX5_isAlike 10 = .ok (.iaload, 1) := dk_46 (dk_at dksX5_isAlike_0 10 rfl rfl)
theorem dX5_isAlike_11 : decode cX5_isAlike 11 = .ok (.aload_n 0, 1) := dk_42 (dk_at dksX5_isAlike_0 11 rfl rfl)
theorem dX5_isAlike_12 : decode cX5_isAlike 12 = .ok (.getfield 24, 3) := dk_180 0 24 (dk_at dksX5_isAlike_0 12 rfl rfl)
theorem dX5_isAlike_15 : decode cX5_isAlike 15 = .ok (.bipush 87, 2) := dk_16 87 (dk_at dksX5_isAlike_0 15 rfl rfl)
theorem dX5_isAlike_17 : decode cX5_isAlike 17 = .ok (.iconst 4, 1) := dk_7 (dk_at dksX5_isAlike_0 17 rfl rfl)
theorem dX5_isAlike_18 : decode cX5_isAlike 18 = .ok (.iload_n 2, 1) := dk_28 (dk_at dksX5_isAlike_0 18 rfl rfl)
theorem dX5_isAlike_19 : decode cX5_isAlike 19 = .ok (.imul, 1) := dk_104 (dk_at dksX5_isAlike_0 19 rfl rfl)
theorem dX5_isAlike_20 : decode cX5_isAlike 20 = .ok (.iadd, 1) := dk_96 (dk_at dksX5_isAlike_0 20 rfl rfl)
theorem dX5_isAlike_21 : decode cX5_isAlike 21 = .ok (.iaload, 1) := dk_46 (dk_at dksX5_isAlike_0 21 rfl rfl)
theorem dX5_isAlike_22 : decode cX5_isAlike 22 = .ok (.if_icmp .ne 36, 3) := dk_160 0 36 (dk_at dksX5_isAlike_1 0 rfl rfl)
theorem dX5_isAlike_25 : decode cX5_isAlike 25 = .ok (.aload_n 0, 1) := dk_42 (dk_at dksX5_isAlike_1 3 rfl rfl)
theorem dX5_isAlike_26 : decode cX5_isAlike 26 = .ok (.getfield 24, 3) := dk_180 0 24 (dk_at dksX5_isAlike_1 4 rfl rfl)
theorem dX5_isAlike_29 : decode cX5_isAlike 29 = .ok (.bipush 87, 2) := dk_16 87 (dk_at dksX5_isAlike_1 7 rfl rfl)
theorem dX5_isAlike_31 : decode cX5_isAlike 31 = .ok (.iconst 4, 1) := dk_7 (dk_at dksX5_isAlike_1 9 rfl rfl)
theorem dX5_isAlike_32 : decode cX5_isAlike 32 = .ok (.iload_n 1, 1) := dk_27 (dk_at dksX5_isAlike_1 10 rfl rfl)
theorem dX5_isAlike_33 : decode cX5_isAlike 33 = .ok (.imul, 1) := dk_104 (dk_at dksX5_isAlike_1 11 rfl rfl)
theorem dX5_isAlike_34 : decode cX5_isAlike 34 = .ok (.iadd, 1) := dk_96 (dk_at dksX5_isAlike_1 12 rfl rfl)
theorem dX5_isAlike_35 : decode cX5_isAlike 35 = .ok (.iconst 1, 1) := dk_4 (dk_at dksX5_isAlike_1 13 rfl rfl)
theorem dX5_isAlike_36 : decode cX5_isAlike 36 = .ok (.iadd, 1) := dk_96 (dk_at dksX5_isAlike_1 14 rfl rfl)
theorem dX5_isAlike_37 : decode cX5_isAlike 37 = .ok (.iaload, 1) := dk_46 (dk_at dksX5_isAlike_1 15 rfl rfl)
theorem dX5_isAlike_38 : decode cX5_isAlike 38 = .ok (.aload_n 0, 1) := dk_42 (dk_at dksX5_isAlike_1 16 rfl rfl)
theorem dX5_isAlike_39 : decode cX5_isAlike 39 = .ok (.getfield 24, 3) := dk_180 0 24 (dk_at dksX5_isAlike_1 17 rfl rfl)
theorem dX5_isAlike_42 : decode cX5_isAlike 42 = .ok (.bipush 87, 2) := dk_16 87 (dk_at dksX5_isAlike_1 20 rfl rfl)
theorem dX5_isAlike_44 : decode cX5_isAlike 44 = .ok (.iconst 4, 1) := dk_7 (dk_at dksX5_isAlike_1 22 rfl rfl)
theorem dX5_isAlike_45 : decode cX5_isAlike 45 = .ok (.iload_n 2, 1) := dk_28 (dk_at dksX5_isAlike_1 23 rfl rfl)
theorem dX5_isAlike_46 : decode cX5_isAlike 46 = .ok (.imul, 1) := dk_104 (dk_at dksX5_isAlike_2 0 rfl rfl)
theorem dX5_isAlike_47 : decode cX5_isAlike 47 = .ok (.iadd, 1) := dk_96 (dk_at dksX5_isAlike_2 1 rfl rfl)
theorem dX5_isAlike_48 : decode cX5_isAlike 48 = .ok (.iconst 1, 1) := dk_4 (dk_at dksX5_isAlike_2 2 rfl rfl)
theorem dX5_isAlike_49 : decode cX5_isAlike 49 = .ok (.iadd, 1) := dk_96 (dk_at dksX5_isAlike_2 3 rfl rfl)
theorem dX5_isAlike_50 : decode cX5_isAlike 50 = .ok (.iaload, 1) := dk_46 (dk_at dksX5_isAlike_2 4 rfl rfl)
theorem dX5_isAlike_51 : decode cX5_isAlike 51 = .ok (.if_icmp .ne 7, 3) := dk_160 0 7 (dk_at dksX5_isAlike_2 5 rfl rfl)
theorem dX5_isAlike_54 : decode cX5_isAlike 54 = .ok (.iconst 1, 1) := dk_4 (dk_at dksX5_isAlike_2 8 rfl rfl)
theorem dX5_isAlike_55 : decode cX5_isAlike 55 = .ok (.goto 4, 3) := dk_167 0 4 (dk_at dksX5_isAlike_2 9 rfl rfl)
theorem dX5_isAlike_58 : decode cX5_isAlike 58 = .ok (.iconst 0, 1) := dk_3 (dk_at dksX5_isAlike_2 12 rfl rfl)
theorem dX5_isAlike_59 : decode cX5_isAlike 59 = .ok (.ireturn, 1) := dk_172 (dk_at dksX5_isAlike_2 13 rfl rfl)
noncomputable def f_X5_isAlike_58 (E : ax_E) (h : ax_H) : Option (Int × ax_H) :=
  some (0, h)
noncomputable def f_X5_isAlike (E : ax_E) (x0 : Option Nat) (x1 : Int) (x2 : Int) (h : ax_H) : Option (Int × ax_H) :=
  (ax_gR E h x0 5 2).bind fun v1 =>
  (ax_ld E h v1 100 (87 + (4 * x1))).bind fun v2 =>
  (ax_gR E h x0 5 2).bind fun v3 =>
  (ax_ld E h v3 100 (87 + (4 * x2))).bind fun v4 =>
  if i2 v2 = i2 v4 then
    (ax_gR E h x0 5 2).bind fun v5 =>
    (ax_ld E h v5 100 ((87 + (4 * x1)) + 1)).bind fun v6 =>
    (ax_gR E h x0 5 2).bind fun v7 =>
    (ax_ld E h v7 100 ((87 + (4 * x2)) + 1)).bind fun v8 =>
    if i2 v6 = i2 v8 then
      some (1, h)
    else
      f_X5_isAlike_58 E h
  else
    f_X5_isAlike_58 E h
set_option maxHeartbeats 4000000 in
theorem w_X5_isAlike_58 {l : Launch} {G : ax_G} {X : ax_X} {Q : State → Prop} {h0 h : ax_H} {ls : Array Slot} (hSF : ax_SF G) (B : ax_BL l G X cX5_isAlike 3 RX5 1 40) (Z : ax_Z X h0 ((some FieldType.boolean))) (hn : X.2.2.2.2.2.2.2.2.1.name = yX5_isAlike.name) {w : Int × ax_H} (hl : ax_hl ls 3 []) (e : f_X5_isAlike_58 G.2.2 h = some w) (hp : (fun w : Int × ax_H => Q = ax_Q G X h0 w.2 (some (.int (Int32.ofInt w.1)))) w) : ax_W G X Q h 58 ls [] := by
  unfold f_X5_isAlike_58 at e
  refine ax_iconst B dX5_isAlike_58 ?_
  have e8 := e
  have hp : Q = _ := hp
  subst hp
  exact ax_zreturnL (by decide) B Z dX5_isAlike_59 e8
set_option maxHeartbeats 4000000 in
theorem we_X5_isAlike {l : Launch} {G : ax_G} {X : ax_X} {Q : State → Prop} {h0 h : ax_H} {ls : Array Slot} (hSF : ax_SF G) (B : ax_BL l G X cX5_isAlike 3 RX5 1 40) (Z : ax_Z X h0 ((some FieldType.boolean))) (hn : X.2.2.2.2.2.2.2.2.1.name = yX5_isAlike.name) (x0 : Option Nat) (x1 : Int) (x2 : Int) {w : Int × ax_H} (hl : ax_hl ls 3 [(0, .inr (.inr x0)), (1, .inl x1), (2, .inl x2)]) (e : f_X5_isAlike G.2.2 x0 x1 x2 h = some w) (hp : (fun w : Int × ax_H => Q = ax_Q G X h0 w.2 (some (.int (Int32.ofInt w.1)))) w) : ax_W G X Q h 0 ls [] := by
  unfold f_X5_isAlike at e
  refine ax_aload_n B dX5_isAlike_0 rfl hl 0 rfl ?_
  refine ax_getR B ff_X5_24_5 (fun _ _ => rfl) dX5_isAlike_1 e (fun v1 e => ?_)
  refine ax_bipush B dX5_isAlike_4 (by decide) ?_
  refine ax_iconst B dX5_isAlike_6 ?_
  refine ax_iload_n B dX5_isAlike_7 rfl hl 1 rfl ?_
  refine ax_imul' B dX5_isAlike_8 ?_
  refine ax_iadd' B dX5_isAlike_9 ?_
  refine ax_iald B kd100 dX5_isAlike_10 e (fun v2 e => ?_)
  refine ax_aload_n B dX5_isAlike_11 rfl hl 0 rfl ?_
  refine ax_getR B ff_X5_24_5 (fun _ _ => rfl) dX5_isAlike_12 e (fun v3 e => ?_)
  refine ax_bipush B dX5_isAlike_15 (by decide) ?_
  refine ax_iconst B dX5_isAlike_17 ?_
  refine ax_iload_n B dX5_isAlike_18 rfl hl 2 rfl ?_
  refine ax_imul' B dX5_isAlike_19 ?_
  refine ax_iadd' B dX5_isAlike_20 ?_
  refine ax_iald B kd100 dX5_isAlike_21 e (fun v4 e => ?_)
  refine ax_icmp_ne (tgt := 58) B dX5_isAlike_22 (by decide) e (fun e => ?_) (fun e => ?_)
  · refine ax_aload_n B dX5_isAlike_25 rfl hl 0 rfl ?_
    refine ax_getR B ff_X5_24_5 (fun _ _ => rfl) dX5_isAlike_26 e (fun v5 e => ?_)
    refine ax_bipush B dX5_isAlike_29 (by decide) ?_
    refine ax_iconst B dX5_isAlike_31 ?_
    refine ax_iload_n B dX5_isAlike_32 rfl hl 1 rfl ?_
    refine ax_imul' B dX5_isAlike_33 ?_
    refine ax_iadd' B dX5_isAlike_34 ?_
    refine ax_iconst B dX5_isAlike_35 ?_
    refine ax_iadd' B dX5_isAlike_36 ?_
    refine ax_iald B kd100 dX5_isAlike_37 e (fun v6 e => ?_)
    refine ax_aload_n B dX5_isAlike_38 rfl hl 0 rfl ?_
    refine ax_getR B ff_X5_24_5 (fun _ _ => rfl) dX5_isAlike_39 e (fun v7 e => ?_)
    refine ax_bipush B dX5_isAlike_42 (by decide) ?_
    refine ax_iconst B dX5_isAlike_44 ?_
    refine ax_iload_n B dX5_isAlike_45 rfl hl 2 rfl ?_
    refine ax_imul' B dX5_isAlike_46 ?_
    refine ax_iadd' B dX5_isAlike_47 ?_
    refine ax_iconst B dX5_isAlike_48 ?_
    refine ax_iadd' B dX5_isAlike_49 ?_
    refine ax_iald B kd100 dX5_isAlike_50 e (fun v8 e => ?_)
    refine ax_icmp_ne (tgt := 58) B dX5_isAlike_51 (by decide) e (fun e => ?_) (fun e => ?_)
    · refine ax_iconst B dX5_isAlike_54 ?_
      refine ax_goto (tgt := 59) B dX5_isAlike_55 (by decide) ?_
      have e8 := e
      have hp : Q = _ := hp
      subst hp
      exact ax_zreturnL (by decide) B Z dX5_isAlike_59 e8
    · exact w_X5_isAlike_58 hSF B Z hn (hl.sub [] rfl) e hp
  · exact w_X5_isAlike_58 hSF B Z hn (hl.sub [] rfl) e hp
theorem mt_X5_isAlike (l : Launch) (G : ax_G) (hSF : ax_SF G) (x0 : Option Nat) (x1 : Int) (x2 : Int) (h : ax_H) (w : Int × ax_H) (e : f_X5_isAlike G.2.2 x0 x1 x2 h = some w) : ax_Met l G yX5_isAlike cX5_isAlike 3 ((some FieldType.boolean)) 1 40 [va_rf x0, .int (Int32.ofInt x1), .int (Int32.ofInt x2)] h w.2 (some (.int (Int32.ofInt w.1))) :=
  ax_enter [.inr (.inr x0), .inl x1, .inl x2] (y := yX5_isAlike) hSF (plainFor_of_name (by decide +kernel)) (Nat.le_of_ble_eq_true rfl) (fun X ls B Z hn hl => we_X5_isAlike hSF B Z hn x0 x1 x2 hl e rfl)
def dkwX5_listsLendings_10 : List UInt8 := [180, 1, 144, 4, 96, 181, 1, 144, 132, 1, 1, 167, 255, 22, 4, 172]
abbrev dktX5_listsLendings_10 : List UInt8 := dkwX5_listsLendings_10 ++ []
def dkwX5_listsLendings_9 : List UInt8 := [180, 0, 77, 42, 180, 1, 144, 21, 4, 79, 42, 180, 0, 80, 42, 180, 1, 144, 27, 79, 42, 89]
abbrev dktX5_listsLendings_9 : List UInt8 := dkwX5_listsLendings_9 ++ dktX5_listsLendings_10
def dkwX5_listsLendings_8 : List UInt8 := [180, 0, 74, 42, 180, 1, 144, 42, 180, 0, 24, 16, 87, 7, 27, 104, 96, 4, 96, 46, 79, 42]
abbrev dktX5_listsLendings_8 : List UInt8 := dkwX5_listsLendings_8 ++ dktX5_listsLendings_9
def dkwX5_listsLendings_7 : List UInt8 := [167, 0, 76, 42, 180, 0, 71, 42, 180, 1, 144, 42, 180, 0, 24, 16, 87, 7, 27, 104, 96, 46, 79, 42]
abbrev dktX5_listsLendings_7 : List UInt8 := dkwX5_listsLendings_7 ++ dktX5_listsLendings_8
def dkwX5_listsLendings_6 : List UInt8 := [96, 4, 96, 46, 29, 182, 1, 134, 54, 4, 21, 4, 2, 160, 0, 5, 3, 172, 21, 4, 154, 0, 6]
abbrev dktX5_listsLendings_6 : List UInt8 := dkwX5_listsLendings_6 ++ dktX5_listsLendings_7
def dkwX5_listsLendings_5 : List UInt8 := [167, 0, 123, 42, 42, 180, 0, 24, 16, 87, 7, 27, 104, 96, 46, 42, 180, 0, 24, 16, 87, 7, 27, 104]
abbrev dktX5_listsLendings_5 : List UInt8 := dkwX5_listsLendings_5 ++ dktX5_listsLendings_6
def dkwX5_listsLendings_4 : List UInt8 := [21, 4, 104, 96, 5, 96, 46, 167, 0, 4, 29, 62, 132, 4, 1, 167, 255, 174, 28, 154, 0, 6]
abbrev dktX5_listsLendings_4 : List UInt8 := dkwX5_listsLendings_4 ++ dktX5_listsLendings_5
def dkwX5_listsLendings_3 : List UInt8 := [180, 0, 24, 16, 87, 7, 21, 4, 104, 96, 5, 96, 46, 162, 0, 20, 42, 180, 0, 24, 16, 87, 7]
abbrev dktX5_listsLendings_3 : List UInt8 := dkwX5_listsLendings_3 ++ dktX5_listsLendings_4
def dkwX5_listsLendings_2 : List UInt8 := [154, 0, 6, 167, 0, 56, 28, 153, 0, 13, 21, 4, 27, 161, 0, 7, 4, 167, 0, 4, 3, 61, 29, 42]
abbrev dktX5_listsLendings_2 : List UInt8 := dkwX5_listsLendings_2 ++ dktX5_listsLendings_3
def dkwX5_listsLendings_1 : List UInt8 := [54, 4, 21, 4, 42, 180, 0, 24, 17, 0, 153, 46, 162, 0, 75, 42, 27, 21, 4, 182, 1, 147]
abbrev dktX5_listsLendings_1 : List UInt8 := dkwX5_listsLendings_1 ++ dktX5_listsLendings_2
def dkwX5_listsLendings_0 : List UInt8 := [42, 3, 181, 1, 144, 3, 60, 27, 42, 180, 0, 24, 17, 0, 153, 46, 162, 0, 228, 4, 61, 3, 62, 3]
abbrev dktX5_listsLendings_0 : List UInt8 := dkwX5_listsLendings_0 ++ dktX5_listsLendings_1
theorem dksX5_listsLendings_0 : cX5_listsLendings.data.toList.drop 0 = dktX5_listsLendings_0 := by decide +kernel
theorem dksX5_listsLendings_1 : cX5_listsLendings.data.toList.drop 24 = dktX5_listsLendings_1 := dk_seg dksX5_listsLendings_0 24 rfl rfl
theorem dksX5_listsLendings_2 : cX5_listsLendings.data.toList.drop 46 = dktX5_listsLendings_2 := dk_seg dksX5_listsLendings_1 22 rfl rfl
theorem dksX5_listsLendings_3 : cX5_listsLendings.data.toList.drop 70 = dktX5_listsLendings_3 := dk_seg dksX5_listsLendings_2 24 rfl rfl
theorem dksX5_listsLendings_4 : cX5_listsLendings.data.toList.drop 93 = dktX5_listsLendings_4 := dk_seg dksX5_listsLendings_3 23 rfl rfl
theorem dksX5_listsLendings_5 : cX5_listsLendings.data.toList.drop 115 = dktX5_listsLendings_5 := dk_seg dksX5_listsLendings_4 22 rfl rfl
theorem dksX5_listsLendings_6 : cX5_listsLendings.data.toList.drop 139 = dktX5_listsLendings_6 := dk_seg dksX5_listsLendings_5 24 rfl rfl
theorem dksX5_listsLendings_7 : cX5_listsLendings.data.toList.drop 162 = dktX5_listsLendings_7 := dk_seg dksX5_listsLendings_6 23 rfl rfl
theorem dksX5_listsLendings_8 : cX5_listsLendings.data.toList.drop 186 = dktX5_listsLendings_8 := dk_seg dksX5_listsLendings_7 24 rfl rfl
theorem dksX5_listsLendings_9 : cX5_listsLendings.data.toList.drop 208 = dktX5_listsLendings_9 := dk_seg dksX5_listsLendings_8 22 rfl rfl
theorem dksX5_listsLendings_10 : cX5_listsLendings.data.toList.drop 230 = dktX5_listsLendings_10 := dk_seg dksX5_listsLendings_9 22 rfl rfl
theorem dX5_listsLendings_0 : decode cX5_listsLendings 0 = .ok (.aload_n 0, 1) := dk_42 (dk_at dksX5_listsLendings_0 0 rfl rfl)
theorem dX5_listsLendings_1 : decode cX5_listsLendings 1 = .ok (.iconst 0, 1) := dk_3 (dk_at dksX5_listsLendings_0 1 rfl rfl)
theorem dX5_listsLendings_2 : decode cX5_listsLendings 2 = .ok (.putfield 400, 3) := dk_181 1 144 (dk_at dksX5_listsLendings_0 2 rfl rfl)
theorem dX5_listsLendings_5 : decode cX5_listsLendings 5 = .ok (.iconst 0, 1) := dk_3 (dk_at dksX5_listsLendings_0 5 rfl rfl)
theorem dX5_listsLendings_6 : decode cX5_listsLendings 6 = .ok (.istore_n 1, 1) := dk_60 (dk_at dksX5_listsLendings_0 6 rfl rfl)
theorem dX5_listsLendings_7 : decode cX5_listsLendings 7 = .ok (.iload_n 1, 1) := dk_27 (dk_at dksX5_listsLendings_0 7 rfl rfl)
theorem dX5_listsLendings_8 : decode cX5_listsLendings 8 = .ok (.aload_n 0, 1) := dk_42 (dk_at dksX5_listsLendings_0 8 rfl rfl)
theorem dX5_listsLendings_9 : decode cX5_listsLendings 9 = .ok (.getfield 24, 3) := dk_180 0 24 (dk_at dksX5_listsLendings_0 9 rfl rfl)
theorem dX5_listsLendings_12 : decode cX5_listsLendings 12 = .ok (.sipush 153, 3) := dk_17 0 153 (dk_at dksX5_listsLendings_0 12 rfl rfl)
theorem dX5_listsLendings_15 : decode cX5_listsLendings 15 = .ok (.iaload, 1) := dk_46 (dk_at dksX5_listsLendings_0 15 rfl rfl)
theorem dX5_listsLendings_16 : decode cX5_listsLendings 16 = .ok (.if_icmp .ge 228, 3) := dk_162 0 228 (dk_at dksX5_listsLendings_0 16 rfl rfl)
theorem dX5_listsLendings_19 : decode cX5_listsLendings 19 = .ok (.iconst 1, 1) := dk_4 (dk_at dksX5_listsLendings_0 19 rfl rfl)
theorem dX5_listsLendings_20 : decode cX5_listsLendings 20 = .ok (.istore_n 2, 1) := dk_61 (dk_at dksX5_listsLendings_0 20 rfl rfl)
theorem dX5_listsLendings_21 : decode cX5_listsLendings 21 = .ok (.iconst 0, 1) := dk_3 (dk_at dksX5_listsLendings_0 21 rfl rfl)
theorem dX5_listsLendings_22 : decode cX5_listsLendings 22 = .ok (.istore_n 3, 1) := dk_62 (dk_at dksX5_listsLendings_0 22 rfl rfl)
theorem dX5_listsLendings_23 : decode cX5_listsLendings 23 = .ok (.iconst 0, 1) := dk_3 (dk_at dksX5_listsLendings_0 23 rfl rfl)
theorem dX5_listsLendings_24 : decode cX5_listsLendings 24 = .ok (.istore 4, 2) := dk_54 4 (dk_at dksX5_listsLendings_1 0 rfl rfl)
theorem dX5_listsLendings_26 : decode cX5_listsLendings 26 = .ok (.iload 4, 2) := dk_21 4 (dk_at dksX5_listsLendings_1 2 rfl rfl)
theorem dX5_listsLendings_28 : decode cX5_listsLendings 28 = .ok (.aload_n 0, 1) := dk_42 (dk_at dksX5_listsLendings_1 4 rfl rfl)
theorem dX5_listsLendings_29 : decode cX5_listsLendings 29 = .ok (.getfield 24, 3) := dk_180 0 24 (dk_at dksX5_listsLendings_1 5 rfl rfl)
theorem dX5_listsLendings_32 : decode cX5_listsLendings 32 = .ok (.sipush 153, 3) := dk_17 0 153 (dk_at dksX5_listsLendings_1 8 rfl rfl)
theorem dX5_listsLendings_35 : decode cX5_listsLendings 35 = .ok (.iaload, 1) := dk_46 (dk_at dksX5_listsLendings_1 11 rfl rfl)
theorem dX5_listsLendings_36 : decode cX5_listsLendings 36 = .ok (.if_icmp .ge 75, 3) := dk_162 0 75 (dk_at dksX5_listsLendings_1 12 rfl rfl)
theorem dX5_listsLendings_39 : decode cX5_listsLendings 39 = .ok (.aload_n 0, 1) := dk_42 (dk_at dksX5_listsLendings_1 15 rfl rfl)
theorem dX5_listsLendings_40 : decode cX5_listsLendings 40 = .ok (.iload_n 1, 1) := dk_27 (dk_at dksX5_listsLendings_1 16 rfl rfl)
theorem dX5_listsLendings_41 : decode cX5_listsLendings 41 = .ok (.iload 4, 2) := dk_21 4 (dk_at dksX5_listsLendings_1 17 rfl rfl)
theorem dX5_listsLendings_43 : decode cX5_listsLendings 43 = .ok (.invokevirtual 403, 3) := dk_182 1 147 (dk_at dksX5_listsLendings_1 19 rfl rfl)
theorem dX5_listsLendings_46 : decode cX5_listsLendings 46 = .ok (.ifCond .ne 6, 3) := dk_154 0 6 (dk_at dksX5_listsLendings_2 0 rfl rfl)
theorem dX5_listsLendings_49 : decode cX5_listsLendings 49 = .ok (.goto 56, 3) := dk_167 0 56 (dk_at dksX5_listsLendings_2 3 rfl rfl)
theorem dX5_listsLendings_52 : decode cX5_listsLendings 52 = .ok (.iload_n 2, 1) := dk_28 (dk_at dksX5_listsLendings_2 6 rfl rfl)
theorem dX5_listsLendings_53 : decode cX5_listsLendings 53 = .ok (.ifCond .eq 13, 3) := dk_153 0 13 (dk_at dksX5_listsLendings_2 7 rfl rfl)
theorem dX5_listsLendings_56 : decode cX5_listsLendings 56 = .ok (.iload 4, 2) := dk_21 4 (dk_at dksX5_listsLendings_2 10 rfl rfl)
theorem dX5_listsLendings_58 : decode cX5_listsLendings 58 = .ok (.iload_n 1, 1) := dk_27 (dk_at dksX5_listsLendings_2 12 rfl rfl)
theorem dX5_listsLendings_59 : decode cX5_listsLendings 59 = .ok (.if_icmp .lt 7, 3) := dk_161 0 7 (dk_at dksX5_listsLendings_2 13 rfl rfl)
theorem dX5_listsLendings_62 : decode cX5_listsLendings 62 = .ok (.iconst 1, 1) := dk_4 (dk_at dksX5_listsLendings_2 16 rfl rfl)
theorem dX5_listsLendings_63 : decode cX5_listsLendings 63 = .ok (.goto 4, 3) := dk_167 0 4 (dk_at dksX5_listsLendings_2 17 rfl rfl)
theorem dX5_listsLendings_66 : decode cX5_listsLendings 66 = .ok (.iconst 0, 1) := dk_3 (dk_at dksX5_listsLendings_2 20 rfl rfl)
theorem dX5_listsLendings_67 : decode cX5_listsLendings 67 = .ok (.istore_n 2, 1) := dk_61 (dk_at dksX5_listsLendings_2 21 rfl rfl)
theorem dX5_listsLendings_68 : decode cX5_listsLendings 68 = .ok (.iload_n 3, 1) := dk_29 (dk_at dksX5_listsLendings_2 22 rfl rfl)
theorem dX5_listsLendings_69 : decode cX5_listsLendings 69 = .ok (.aload_n 0, 1) := dk_42 (dk_at dksX5_listsLendings_2 23 rfl rfl)
theorem dX5_listsLendings_70 : decode cX5_listsLendings 70 = .ok (.getfield 24, 3) := dk_180 0 24 (dk_at dksX5_listsLendings_3 0 rfl rfl)
theorem dX5_listsLendings_73 : decode cX5_listsLendings 73 = .ok (.bipush 87, 2) := dk_16 87 (dk_at dksX5_listsLendings_3 3 rfl rfl)
theorem dX5_listsLendings_75 : decode cX5_listsLendings 75 = .ok (.iconst 4, 1) := dk_7 (dk_at dksX5_listsLendings_3 5 rfl rfl)
theorem dX5_listsLendings_76 : decode cX5_listsLendings 76 = .ok (.iload 4, 2) := dk_21 4 (dk_at dksX5_listsLendings_3 6 rfl rfl)
theorem dX5_listsLendings_78 : decode cX5_listsLendings 78 = .ok (.imul, 1) := dk_104 (dk_at dksX5_listsLendings_3 8 rfl rfl)
theorem dX5_listsLendings_79 : decode cX5_listsLendings 79 = .ok (.iadd, 1) := dk_96 (dk_at dksX5_listsLendings_3 9 rfl rfl)
theorem dX5_listsLendings_80 : decode cX5_listsLendings 80 = .ok (.iconst 2, 1) := dk_5 (dk_at dksX5_listsLendings_3 10 rfl rfl)
theorem dX5_listsLendings_81 : decode cX5_listsLendings 81 = .ok (.iadd, 1) := dk_96 (dk_at dksX5_listsLendings_3 11 rfl rfl)
theorem dX5_listsLendings_82 : decode cX5_listsLendings 82 = .ok (.iaload, 1) := dk_46 (dk_at dksX5_listsLendings_3 12 rfl rfl)
theorem dX5_listsLendings_83 : decode cX5_listsLendings 83 = .ok (.if_icmp .ge 20, 3) := dk_162 0 20 (dk_at dksX5_listsLendings_3 13 rfl rfl)
theorem dX5_listsLendings_86 : decode cX5_listsLendings 86 = .ok (.aload_n 0, 1) := dk_42 (dk_at dksX5_listsLendings_3 16 rfl rfl)
theorem dX5_listsLendings_87 : decode cX5_listsLendings 87 = .ok (.getfield 24, 3) := dk_180 0 24 (dk_at dksX5_listsLendings_3 17 rfl rfl)
theorem dX5_listsLendings_90 : decode cX5_listsLendings 90 = .ok (.bipush 87, 2) := dk_16 87 (dk_at dksX5_listsLendings_3 20 rfl rfl)
theorem dX5_listsLendings_92 : decode cX5_listsLendings 92 = .ok (.iconst 4, 1) := dk_7 (dk_at dksX5_listsLendings_3 22 rfl rfl)
theorem dX5_listsLendings_93 : decode cX5_listsLendings 93 = .ok (.iload 4, 2) := dk_21 4 (dk_at dksX5_listsLendings_4 0 rfl rfl)
theorem dX5_listsLendings_95 : decode cX5_listsLendings 95 = .ok (.imul, 1) := dk_104 (dk_at dksX5_listsLendings_4 2 rfl rfl)
theorem dX5_listsLendings_96 : decode cX5_listsLendings 96 = .ok (.iadd, 1) := dk_96 (dk_at dksX5_listsLendings_4 3 rfl rfl)
theorem dX5_listsLendings_97 : decode cX5_listsLendings 97 = .ok (.iconst 2, 1) := dk_5 (dk_at dksX5_listsLendings_4 4 rfl rfl)
theorem dX5_listsLendings_98 : decode cX5_listsLendings 98 = .ok (.iadd, 1) := dk_96 (dk_at dksX5_listsLendings_4 5 rfl rfl)
theorem dX5_listsLendings_99 : decode cX5_listsLendings 99 = .ok (.iaload, 1) := dk_46 (dk_at dksX5_listsLendings_4 6 rfl rfl)
theorem dX5_listsLendings_100 : decode cX5_listsLendings 100 = .ok (.goto 4, 3) := dk_167 0 4 (dk_at dksX5_listsLendings_4 7 rfl rfl)
theorem dX5_listsLendings_103 : decode cX5_listsLendings 103 = .ok (.iload_n 3, 1) := dk_29 (dk_at dksX5_listsLendings_4 10 rfl rfl)
theorem dX5_listsLendings_104 : decode cX5_listsLendings 104 = .ok (.istore_n 3, 1) := dk_62 (dk_at dksX5_listsLendings_4 11 rfl rfl)
theorem dX5_listsLendings_105 : decode cX5_listsLendings 105 = .ok (.iinc 4 1, 3) := dk_132 4 1 (dk_at dksX5_listsLendings_4 12 rfl rfl)
theorem dX5_listsLendings_108 : decode cX5_listsLendings 108 = .ok (.goto (-82), 3) := dk_167 255 174 (dk_at dksX5_listsLendings_4 15 rfl rfl)
theorem dX5_listsLendings_111 : decode cX5_listsLendings 111 = .ok (.iload_n 2, 1) := dk_28 (dk_at dksX5_listsLendings_4 18 rfl rfl)
theorem dX5_listsLendings_112 : decode cX5_listsLendings 112 = .ok (.ifCond .ne 6, 3) := dk_154 0 6 (dk_at dksX5_listsLendings_4 19 rfl rfl)
theorem dX5_listsLendings_115 : decode cX5_listsLendings 115 = .ok (.goto 123, 3) := dk_167 0 123 (dk_at dksX5_listsLendings_5 0 rfl rfl)
theorem dX5_listsLendings_118 : decode cX5_listsLendings 118 = .ok (.aload_n 0, 1) := dk_42 (dk_at dksX5_listsLendings_5 3 rfl rfl)
theorem dX5_listsLendings_119 : decode cX5_listsLendings 119 = .ok (.aload_n 0, 1) := dk_42 (dk_at dksX5_listsLendings_5 4 rfl rfl)
theorem dX5_listsLendings_120 : decode cX5_listsLendings 120 = .ok (.getfield 24, 3) := dk_180 0 24 (dk_at dksX5_listsLendings_5 5 rfl rfl)
theorem dX5_listsLendings_123 : decode cX5_listsLendings 123 = .ok (.bipush 87, 2) := dk_16 87 (dk_at dksX5_listsLendings_5 8 rfl rfl)
theorem dX5_listsLendings_125 : decode cX5_listsLendings 125 = .ok (.iconst 4, 1) := dk_7 (dk_at dksX5_listsLendings_5 10 rfl rfl)
theorem dX5_listsLendings_126 : decode cX5_listsLendings 126 = .ok (.iload_n 1, 1) := dk_27 (dk_at dksX5_listsLendings_5 11 rfl rfl)
theorem dX5_listsLendings_127 : decode cX5_listsLendings 127 = .ok (.imul, 1) := dk_104 (dk_at dksX5_listsLendings_5 12 rfl rfl)
theorem dX5_listsLendings_128 : decode cX5_listsLendings 128 = .ok (.iadd, 1) := dk_96 (dk_at dksX5_listsLendings_5 13 rfl rfl)
theorem dX5_listsLendings_129 : decode cX5_listsLendings 129 = .ok (.iaload, 1) := dk_46 (dk_at dksX5_listsLendings_5 14 rfl rfl)
theorem dX5_listsLendings_130 : decode cX5_listsLendings 130 = .ok (.aload_n 0, 1) := dk_42 (dk_at dksX5_listsLendings_5 15 rfl rfl)
theorem dX5_listsLendings_131 : decode cX5_listsLendings 131 = .ok (.getfield 24, 3) := dk_180 0 24 (dk_at dksX5_listsLendings_5 16 rfl rfl)
theorem dX5_listsLendings_134 : decode cX5_listsLendings 134 = .ok (.bipush 87, 2) := dk_16 87 (dk_at dksX5_listsLendings_5 19 rfl rfl)
theorem dX5_listsLendings_136 : decode cX5_listsLendings 136 = .ok (.iconst 4, 1) := dk_7 (dk_at dksX5_listsLendings_5 21 rfl rfl)
theorem dX5_listsLendings_137 : decode cX5_listsLendings 137 = .ok (.iload_n 1, 1) := dk_27 (dk_at dksX5_listsLendings_5 22 rfl rfl)
theorem dX5_listsLendings_138 : decode cX5_listsLendings 138 = .ok (.imul, 1) := dk_104 (dk_at dksX5_listsLendings_5 23 rfl rfl)
theorem dX5_listsLendings_139 : decode cX5_listsLendings 139 = .ok (.iadd, 1) := dk_96 (dk_at dksX5_listsLendings_6 0 rfl rfl)
theorem dX5_listsLendings_140 : decode cX5_listsLendings 140 = .ok (.iconst 1, 1) := dk_4 (dk_at dksX5_listsLendings_6 1 rfl rfl)
theorem dX5_listsLendings_141 : decode cX5_listsLendings 141 = .ok (.iadd, 1) := dk_96 (dk_at dksX5_listsLendings_6 2 rfl rfl)
theorem dX5_listsLendings_142 : decode cX5_listsLendings 142 = .ok (.iaload, 1) := dk_46 (dk_at dksX5_listsLendings_6 3 rfl rfl)
theorem dX5_listsLendings_143 : decode cX5_listsLendings 143 = .ok (.iload_n 3, 1) := dk_29 (dk_at dksX5_listsLendings_6 4 rfl rfl)
theorem dX5_listsLendings_144 : decode cX5_listsLendings 144 = .ok (.invokevirtual 390, 3) := dk_182 1 134 (dk_at dksX5_listsLendings_6 5 rfl rfl)
theorem dX5_listsLendings_147 : decode cX5_listsLendings 147 = .ok (.istore 4, 2) := dk_54 4 (dk_at dksX5_listsLendings_6 8 rfl rfl)
theorem dX5_listsLendings_149 : decode cX5_listsLendings 149 = .ok (.iload 4, 2) := dk_21 4 (dk_at dksX5_listsLendings_6 10 rfl rfl)
theorem dX5_listsLendings_151 : decode cX5_listsLendings 151 = .ok (.iconst (-1), 1) := dk_2 (dk_at dksX5_listsLendings_6 12 rfl rfl)
theorem dX5_listsLendings_152 : decode cX5_listsLendings 152 = .ok (.if_icmp .ne 5, 3) := dk_160 0 5 (dk_at dksX5_listsLendings_6 13 rfl rfl)
theorem dX5_listsLendings_155 : decode cX5_listsLendings 155 = .ok (.iconst 0, 1) := dk_3 (dk_at dksX5_listsLendings_6 16 rfl rfl)
theorem dX5_listsLendings_156 : decode cX5_listsLendings 156 = .ok (.ireturn, 1) := dk_172 (dk_at dksX5_listsLendings_6 17 rfl rfl)
theorem dX5_listsLendings_157 : decode cX5_listsLendings 157 = .ok (.iload 4, 2) := dk_21 4 (dk_at dksX5_listsLendings_6 18 rfl rfl)
theorem dX5_listsLendings_159 : decode cX5_listsLendings 159 = .ok (.ifCond .ne 6, 3) := dk_154 0 6 (dk_at dksX5_listsLendings_6 20 rfl rfl)
theorem dX5_listsLendings_162 : decode cX5_listsLendings 162 = .ok (.goto 76, 3) := dk_167 0 76 (dk_at dksX5_listsLendings_7 0 rfl rfl)
theorem dX5_listsLendings_165 : decode cX5_listsLendings 165 = .ok (.aload_n 0, 1) := dk_42 (dk_at dksX5_listsLendings_7 3 rfl rfl)
theorem dX5_listsLendings_166 : decode cX5_listsLendings 166 = .ok (.getfield 71, 3) := dk_180 0 71 (dk_at dksX5_listsLendings_7 4 rfl rfl)
theorem dX5_listsLendings_169 : decode cX5_listsLendings 169 = .ok (.aload_n 0, 1) := dk_42 (dk_at dksX5_listsLendings_7 7 rfl rfl)
theorem dX5_listsLendings_170 : decode cX5_listsLendings 170 = .ok (.getfield 400, 3) := dk_180 1 144 (dk_at dksX5_listsLendings_7 8 rfl rfl)
theorem dX5_listsLendings_173 : decode cX5_listsLendings 173 = .ok (.aload_n 0, 1) := dk_42 (dk_at dksX5_listsLendings_7 11 rfl rfl)
theorem dX5_listsLendings_174 : decode cX5_listsLendings 174 = .ok (.getfield 24, 3) := dk_180 0 24 (dk_at dksX5_listsLendings_7 12 rfl rfl)
theorem dX5_listsLendings_177 : decode cX5_listsLendings 177 = .ok (.bipush 87, 2) := dk_16 87 (dk_at dksX5_listsLendings_7 15 rfl rfl)
theorem dX5_listsLendings_179 : decode cX5_listsLendings 179 = .ok (.iconst 4, 1) := dk_7 (dk_at dksX5_listsLendings_7 17 rfl rfl)
theorem dX5_listsLendings_180 : decode cX5_listsLendings 180 = .ok (.iload_n 1, 1) := dk_27 (dk_at dksX5_listsLendings_7 18 rfl rfl)
theorem dX5_listsLendings_181 : decode cX5_listsLendings 181 = .ok (.imul, 1) := dk_104 (dk_at dksX5_listsLendings_7 19 rfl rfl)
theorem dX5_listsLendings_182 : decode cX5_listsLendings 182 = .ok (.iadd, 1) := dk_96 (dk_at dksX5_listsLendings_7 20 rfl rfl)
theorem dX5_listsLendings_183 : decode cX5_listsLendings 183 = .ok (.iaload, 1) := dk_46 (dk_at dksX5_listsLendings_7 21 rfl rfl)
theorem dX5_listsLendings_184 : decode cX5_listsLendings 184 = .ok (.iastore, 1) := dk_79 (dk_at dksX5_listsLendings_7 22 rfl rfl)
theorem dX5_listsLendings_185 : decode cX5_listsLendings 185 = .ok (.aload_n 0, 1) := dk_42 (dk_at dksX5_listsLendings_7 23 rfl rfl)
theorem dX5_listsLendings_186 : decode cX5_listsLendings 186 = .ok (.getfield 74, 3) := dk_180 0 74 (dk_at dksX5_listsLendings_8 0 rfl rfl)
theorem dX5_listsLendings_189 : decode cX5_listsLendings 189 = .ok (.aload_n 0, 1) := dk_42 (dk_at dksX5_listsLendings_8 3 rfl rfl)
theorem dX5_listsLendings_190 : decode cX5_listsLendings 190 = .ok (.getfield 400, 3) := dk_180 1 144 (dk_at dksX5_listsLendings_8 4 rfl rfl)
theorem dX5_listsLendings_193 : decode cX5_listsLendings 193 = .ok (.aload_n 0, 1) := dk_42 (dk_at dksX5_listsLendings_8 7 rfl rfl)
theorem dX5_listsLendings_194 : decode cX5_listsLendings 194 = .ok (.getfield 24, 3) := dk_180 0 24 (dk_at dksX5_listsLendings_8 8 rfl rfl)
theorem dX5_listsLendings_197 : decode cX5_listsLendings 197 = .ok (.bipush 87, 2) := dk_16 87 (dk_at dksX5_listsLendings_8 11 rfl rfl)
theorem dX5_listsLendings_199 : decode cX5_listsLendings 199 = .ok (.iconst 4, 1) := dk_7 (dk_at dksX5_listsLendings_8 13 rfl rfl)
theorem dX5_listsLendings_200 : decode cX5_listsLendings 200 = .ok (.iload_n 1, 1) := dk_27 (dk_at dksX5_listsLendings_8 14 rfl rfl)
theorem dX5_listsLendings_201 : decode cX5_listsLendings 201 = .ok (.imul, 1) := dk_104 (dk_at dksX5_listsLendings_8 15 rfl rfl)
theorem dX5_listsLendings_202 : decode cX5_listsLendings 202 = .ok (.iadd, 1) := dk_96 (dk_at dksX5_listsLendings_8 16 rfl rfl)
theorem dX5_listsLendings_203 : decode cX5_listsLendings 203 = .ok (.iconst 1, 1) := dk_4 (dk_at dksX5_listsLendings_8 17 rfl rfl)
theorem dX5_listsLendings_204 : decode cX5_listsLendings 204 = .ok (.iadd, 1) := dk_96 (dk_at dksX5_listsLendings_8 18 rfl rfl)
theorem dX5_listsLendings_205 : decode cX5_listsLendings 205 = .ok (.iaload, 1) := dk_46 (dk_at dksX5_listsLendings_8 19 rfl rfl)
theorem dX5_listsLendings_206 : decode cX5_listsLendings 206 = .ok (.iastore, 1) := dk_79 (dk_at dksX5_listsLendings_8 20 rfl rfl)
theorem dX5_listsLendings_207 : decode cX5_listsLendings 207 = .ok (.aload_n 0, 1) := dk_42 (dk_at dksX5_listsLendings_8 21 rfl rfl)
theorem dX5_listsLendings_208 : decode cX5_listsLendings 208 = .ok (.getfield 77, 3) := dk_180 0 77 (dk_at dksX5_listsLendings_9 0 rfl rfl)
theorem dX5_listsLendings_211 : decode cX5_listsLendings 211 = .ok (.aload_n 0, 1) := dk_42 (dk_at dksX5_listsLendings_9 3 rfl rfl)
theorem dX5_listsLendings_212 : decode cX5_listsLendings 212 = .ok (.getfield 400, 3) := dk_180 1 144 (dk_at dksX5_listsLendings_9 4 rfl rfl)
theorem dX5_listsLendings_215 : decode cX5_listsLendings 215 = .ok (.iload 4, 2) := dk_21 4 (dk_at dksX5_listsLendings_9 7 rfl rfl)
theorem dX5_listsLendings_217 : decode cX5_listsLendings 217 = .ok (.iastore, 1) := dk_79 (dk_at dksX5_listsLendings_9 9 rfl rfl)
theorem dX5_listsLendings_218 : decode cX5_listsLendings 218 = .ok (.aload_n 0, 1) := dk_42 (dk_at dksX5_listsLendings_9 10 rfl rfl)
theorem dX5_listsLendings_219 : decode cX5_listsLendings 219 = .ok (.getfield 80, 3) := dk_180 0 80 (dk_at dksX5_listsLendings_9 11 rfl rfl)
theorem dX5_listsLendings_222 : decode cX5_listsLendings 222 = .ok (.aload_n 0, 1) := dk_42 (dk_at dksX5_listsLendings_9 14 rfl rfl)
theorem dX5_listsLendings_223 : decode cX5_listsLendings 223 = .ok (.getfield 400, 3) := dk_180 1 144 (dk_at dksX5_listsLendings_9 15 rfl rfl)
theorem dX5_listsLendings_226 : decode cX5_listsLendings 226 = .ok (.iload_n 1, 1) := dk_27 (dk_at dksX5_listsLendings_9 18 rfl rfl)
theorem dX5_listsLendings_227 : decode cX5_listsLendings 227 = .ok (.iastore, 1) := dk_79 (dk_at dksX5_listsLendings_9 19 rfl rfl)
theorem dX5_listsLendings_228 : decode cX5_listsLendings 228 = .ok (.aload_n 0, 1) := dk_42 (dk_at dksX5_listsLendings_9 20 rfl rfl)
theorem dX5_listsLendings_229 : decode cX5_listsLendings 229 = .ok (.dup, 1) := dk_89 (dk_at dksX5_listsLendings_9 21 rfl rfl)
theorem dX5_listsLendings_230 : decode cX5_listsLendings 230 = .ok (.getfield 400, 3) := dk_180 1 144 (dk_at dksX5_listsLendings_10 0 rfl rfl)
theorem dX5_listsLendings_233 : decode cX5_listsLendings 233 = .ok (.iconst 1, 1) := dk_4 (dk_at dksX5_listsLendings_10 3 rfl rfl)
theorem dX5_listsLendings_234 : decode cX5_listsLendings 234 = .ok (.iadd, 1) := dk_96 (dk_at dksX5_listsLendings_10 4 rfl rfl)
theorem dX5_listsLendings_235 : decode cX5_listsLendings 235 = .ok (.putfield 400, 3) := dk_181 1 144 (dk_at dksX5_listsLendings_10 5 rfl rfl)
theorem dX5_listsLendings_238 : decode cX5_listsLendings 238 = .ok (.iinc 1 1, 3) := dk_132 1 1 (dk_at dksX5_listsLendings_10 8 rfl rfl)
theorem dX5_listsLendings_241 : decode cX5_listsLendings 241 = .ok (.goto (-234), 3) := dk_167 255 22 (dk_at dksX5_listsLendings_10 11 rfl rfl)
theorem dX5_listsLendings_244 : decode cX5_listsLendings 244 = .ok (.iconst 1, 1) := dk_4 (dk_at dksX5_listsLendings_10 14 rfl rfl)
theorem dX5_listsLendings_245 : decode cX5_listsLendings 245 = .ok (.ireturn, 1) := dk_172 (dk_at dksX5_listsLendings_10 15 rfl rfl)
theorem ff_X5_400_5 : ax_FF RX5 400 5 34 (tyX5 34) 0 false := ⟨RX5, TX5, 61, tyX5, "DebtDoorsModel", kd5, in_X5, tyX5_ok, apX5, by decide, rfl, ⟨fun _ => rfl, fun h => absurd h (by decide)⟩, q1996, Or.inl rfl, fun h => absurd h (by decide)⟩
noncomputable def f_X5_listsLendings_105 (E : ax_E) (x0 : Option Nat) (x1 : Int) (x2 : Int) (x3 : Int) (x4 : Int) (h : ax_H) : Option ((Int × Int × Int × ax_H) ⊕ ((Int × ax_H) ⊕ (Int × ax_H))) :=
  some (.inl (x2, x3, (x4 + 1), h))
noncomputable def f_X5_listsLendings_104 (E : ax_E) (x0 : Option Nat) (x1 : Int) (x2 : Int) (x4 : Int) (s0 : Int) (h : ax_H) : Option ((Int × Int × Int × ax_H) ⊕ ((Int × ax_H) ⊕ (Int × ax_H))) :=
  f_X5_listsLendings_105 E x0 x1 x2 s0 x4 h
noncomputable def f_X5_listsLendings_67 (E : ax_E) (x0 : Option Nat) (x1 : Int) (x3 : Int) (x4 : Int) (s0 : Int) (h : ax_H) : Option ((Int × Int × Int × ax_H) ⊕ ((Int × ax_H) ⊕ (Int × ax_H))) :=
  (ax_gR E h x0 5 2).bind fun v1 =>
  (ax_ld E h v1 100 ((87 + (4 * x4)) + 2)).bind fun v2 =>
  if i2 x3 < i2 v2 then
    (ax_gR E h x0 5 2).bind fun v3 =>
    (ax_ld E h v3 100 ((87 + (4 * x4)) + 2)).bind fun v4 =>
    f_X5_listsLendings_104 E x0 x1 s0 x4 v4 h
  else
    f_X5_listsLendings_104 E x0 x1 s0 x4 x3 h
noncomputable def f_X5_listsLendings_66 (E : ax_E) (x0 : Option Nat) (x1 : Int) (x3 : Int) (x4 : Int) (h : ax_H) : Option ((Int × Int × Int × ax_H) ⊕ ((Int × ax_H) ⊕ (Int × ax_H))) :=
  f_X5_listsLendings_67 E x0 x1 x3 x4 0 h
noncomputable def f_X5_listsLendings_238 (E : ax_E) (x0 : Option Nat) (x1 : Int) (h : ax_H) : Option ((Int × ax_H) ⊕ (Int × ax_H)) :=
  some (.inl ((x1 + 1), h))
noncomputable def lb_X5_listsLendings_26 (E : ax_E) (x0 : Option Nat) (x1 : Int) (x2 : Int) (x3 : Int) (x4 : Int) (h : ax_H) : Option ((Int × Int × Int × ax_H) ⊕ ((Int × ax_H) ⊕ (Int × ax_H))) :=
  (ax_gR E h x0 5 2).bind fun v1 =>
  (ax_ld E h v1 100 153).bind fun v2 =>
  if i2 x4 < i2 v2 then
    (ax_ce E h x0 5).bind fun _ => (f_X5_isAlike E x0 x1 x4 h).bind fun q3 =>
    if i2 q3.1 = 0 then
      f_X5_listsLendings_105 E x0 x1 x2 x3 x4 q3.2
    else
      if i2 x2 = 0 then
        f_X5_listsLendings_66 E x0 x1 x3 x4 q3.2
      else
        if i2 x4 < i2 x1 then
          f_X5_listsLendings_66 E x0 x1 x3 x4 q3.2
        else
          f_X5_listsLendings_67 E x0 x1 x3 x4 1 q3.2
  else
    (if i2 x2 = 0 then
      f_X5_listsLendings_238 E x0 x1 h
    else
      (ax_gR E h x0 5 2).bind fun v4 =>
      (ax_ld E h v4 100 (87 + (4 * x1))).bind fun v5 =>
      (ax_gR E h x0 5 2).bind fun v6 =>
      (ax_ld E h v6 100 ((87 + (4 * x1)) + 1)).bind fun v7 =>
      (ax_ce E h x0 5).bind fun _ => (f_X5_needOf E x0 v5 v7 x3 h).bind fun q8 =>
      if i2 q8.1 = i2 (-1) then
        (some (0, q8.2)).map Sum.inr
      else
        if i2 q8.1 = 0 then
          f_X5_listsLendings_238 E x0 x1 q8.2
        else
          (ax_gR E q8.2 x0 5 29).bind fun v9 =>
          (ax_gI E q8.2 x0 5 34).bind fun v10 =>
          (ax_gR E q8.2 x0 5 2).bind fun v11 =>
          (ax_ld E q8.2 v11 100 (87 + (4 * x1))).bind fun v12 =>
          (ax_sto q8.2 v9 100 v10 v12).bind fun h13 =>
          (ax_gR E h13 x0 5 30).bind fun v14 =>
          (ax_gI E h13 x0 5 34).bind fun v15 =>
          (ax_gR E h13 x0 5 2).bind fun v16 =>
          (ax_ld E h13 v16 100 ((87 + (4 * x1)) + 1)).bind fun v17 =>
          (ax_sto h13 v14 100 v15 v17).bind fun h18 =>
          (ax_gR E h18 x0 5 31).bind fun v19 =>
          (ax_gI E h18 x0 5 34).bind fun v20 =>
          (ax_sto h18 v19 100 v20 q8.1).bind fun h21 =>
          (ax_gR E h21 x0 5 32).bind fun v22 =>
          (ax_gI E h21 x0 5 34).bind fun v23 =>
          (ax_sto h21 v22 100 v23 x1).bind fun h24 =>
          (ax_gI E h24 x0 5 34).bind fun v25 =>
          (ax_pI h24 x0 5 34 (v25 + 1)).bind fun h26 =>
          f_X5_listsLendings_238 E x0 x1 h26).map Sum.inr
noncomputable def f_X5_listsLendings_26 (E : ax_E) (x0 : Option Nat) (x1 : Int) (x2 : Int) (x3 : Int) (x4 : Int) (h : ax_H) : Option ((Int × ax_H) ⊕ (Int × ax_H)) :=
  ax_iter (fun s : Int × Int × Int × ax_H => lb_X5_listsLendings_26 E x0 x1 s.1 s.2.1 s.2.2.1 s.2.2.2) (x2, x3, x4, h)
noncomputable def lb_X5_listsLendings_7 (E : ax_E) (x0 : Option Nat) (x1 : Int) (h : ax_H) : Option ((Int × ax_H) ⊕ (Int × ax_H)) :=
  (ax_gR E h x0 5 2).bind fun v1 =>
  (ax_ld E h v1 100 153).bind fun v2 =>
  if i2 x1 < i2 v2 then
    f_X5_listsLendings_26 E x0 x1 1 0 0 h
  else
    (some (1, h)).map Sum.inr
noncomputable def f_X5_listsLendings_7 (E : ax_E) (x0 : Option Nat) (x1 : Int) (h : ax_H) : Option (Int × ax_H) :=
  ax_iter (fun s : Int × ax_H => lb_X5_listsLendings_7 E x0 s.1 s.2) (x1, h)
noncomputable def f_X5_listsLendings (E : ax_E) (x0 : Option Nat) (h : ax_H) : Option (Int × ax_H) :=
  (ax_pI h x0 5 34 0).bind fun h1 =>
  f_X5_listsLendings_7 E x0 0 h1
def pi_X5_listsLendings_26 (G : ax_G) (X : ax_X) (Q : State → Prop) (x0 : Option Nat) (x1 : Int) : Int × Int × Int × ax_H → Prop := fun s => ∀ ls : Array Slot, ax_hl ls 5 [(0, .inr (.inr x0)), (1, .inl x1), (2, .inl s.1), (3, .inl s.2.1), (4, .inl s.2.2.1)] → ax_W G X Q s.2.2.2 26 ls []
def pi_X5_listsLendings_7 (G : ax_G) (X : ax_X) (Q : State → Prop) (x0 : Option Nat) : Int × ax_H → Prop := fun s => ∀ ls : Array Slot, ax_hl ls 5 [(0, .inr (.inr x0)), (1, .inl s.1)] → ax_W G X Q s.2 7 ls []
set_option maxHeartbeats 4000000 in
theorem w_X5_listsLendings_105 {l : Launch} {G : ax_G} {X : ax_X} {Q : State → Prop} {h0 h : ax_H} {ls : Array Slot} (hSF : ax_SF G) (B : ax_BL l G X cX5_listsLendings 5 RX5 136 3545) (Z : ax_Z X h0 ((some FieldType.boolean))) (hn : X.2.2.2.2.2.2.2.2.1.name = yX5_listsLendings.name) (x0 : Option Nat) (x1 : Int) (x2 : Int) (x3 : Int) (x4 : Int) {w : (Int × Int × Int × ax_H) ⊕ ((Int × ax_H) ⊕ (Int × ax_H))} (hl : ax_hl ls 5 [(0, .inr (.inr x0)), (1, .inl x1), (2, .inl x2), (3, .inl x3), (4, .inl x4)]) (e : f_X5_listsLendings_105 G.2.2 x0 x1 x2 x3 x4 h = some w) (hp : (ax_PL (pi_X5_listsLendings_26 G X Q x0 x1) (ax_PL (pi_X5_listsLendings_7 G X Q x0) (fun w : Int × ax_H => Q = ax_Q G X h0 w.2 (some (.int (Int32.ofInt w.1)))))) w) : ax_W G X Q h 105 ls [] := by
  unfold f_X5_listsLendings_105 at e
  refine ax_iinc (L' := [(4, .inl (x4 + 1)), (0, .inr (.inr x0)), (1, .inl x1), (2, .inl x2), (3, .inl x3)]) B dX5_listsLendings_105 hl 4 rfl (by decide) rfl (fun ls hl => ?_)
  refine ax_goto (tgt := 26) B dX5_listsLendings_108 (by decide) ?_
  cases e
  exact hp _ (hl.sub [1, 2, 3, 4, 0] rfl)
set_option maxHeartbeats 4000000 in
theorem w_X5_listsLendings_104 {l : Launch} {G : ax_G} {X : ax_X} {Q : State → Prop} {h0 h : ax_H} {ls : Array Slot} (hSF : ax_SF G) (B : ax_BL l G X cX5_listsLendings 5 RX5 136 3545) (Z : ax_Z X h0 ((some FieldType.boolean))) (hn : X.2.2.2.2.2.2.2.2.1.name = yX5_listsLendings.name) (x0 : Option Nat) (x1 : Int) (x2 : Int) (x4 : Int) (s0 : Int) {w : (Int × Int × Int × ax_H) ⊕ ((Int × ax_H) ⊕ (Int × ax_H))} (hl : ax_hl ls 5 [(0, .inr (.inr x0)), (1, .inl x1), (2, .inl x2), (4, .inl x4)]) (e : f_X5_listsLendings_104 G.2.2 x0 x1 x2 x4 s0 h = some w) (hp : (ax_PL (pi_X5_listsLendings_26 G X Q x0 x1) (ax_PL (pi_X5_listsLendings_7 G X Q x0) (fun w : Int × ax_H => Q = ax_Q G X h0 w.2 (some (.int (Int32.ofInt w.1)))))) w) : ax_W G X Q h 104 ls [.int (Int32.ofInt s0)] := by
  unfold f_X5_listsLendings_104 at e
  refine ax_istore_n (L' := [(3, .inl s0), (0, .inr (.inr x0)), (1, .inl x1), (2, .inl x2), (4, .inl x4)]) B dX5_listsLendings_104 rfl hl (by decide) rfl (fun ls hl => ?_)
  exact w_X5_listsLendings_105 hSF B Z hn x0 x1 x2 s0 x4 (hl.sub [1, 2, 3, 0, 4] rfl) e hp
set_option maxHeartbeats 4000000 in
theorem w_X5_listsLendings_67 {l : Launch} {G : ax_G} {X : ax_X} {Q : State → Prop} {h0 h : ax_H} {ls : Array Slot} (hSF : ax_SF G) (B : ax_BL l G X cX5_listsLendings 5 RX5 136 3545) (Z : ax_Z X h0 ((some FieldType.boolean))) (hn : X.2.2.2.2.2.2.2.2.1.name = yX5_listsLendings.name) (x0 : Option Nat) (x1 : Int) (x3 : Int) (x4 : Int) (s0 : Int) {w : (Int × Int × Int × ax_H) ⊕ ((Int × ax_H) ⊕ (Int × ax_H))} (hl : ax_hl ls 5 [(0, .inr (.inr x0)), (1, .inl x1), (3, .inl x3), (4, .inl x4)]) (e : f_X5_listsLendings_67 G.2.2 x0 x1 x3 x4 s0 h = some w) (hp : (ax_PL (pi_X5_listsLendings_26 G X Q x0 x1) (ax_PL (pi_X5_listsLendings_7 G X Q x0) (fun w : Int × ax_H => Q = ax_Q G X h0 w.2 (some (.int (Int32.ofInt w.1)))))) w) : ax_W G X Q h 67 ls [.int (Int32.ofInt s0)] := by
  unfold f_X5_listsLendings_67 at e
  refine ax_istore_n (L' := [(2, .inl s0), (0, .inr (.inr x0)), (1, .inl x1), (3, .inl x3), (4, .inl x4)]) B dX5_listsLendings_67 rfl hl (by decide) rfl (fun ls hl => ?_)
  refine ax_iload_n B dX5_listsLendings_68 rfl hl 3 rfl ?_
  refine ax_aload_n B dX5_listsLendings_69 rfl hl 1 rfl ?_
  refine ax_getR B ff_X5_24_5 (fun _ _ => rfl) dX5_listsLendings_70 e (fun v1 e => ?_)
  refine ax_bipush B dX5_listsLendings_73 (by decide) ?_
  refine ax_iconst B dX5_listsLendings_75 ?_
  refine ax_iload B dX5_listsLendings_76 hl 4 rfl ?_
  refine ax_imul' B dX5_listsLendings_78 ?_
  refine ax_iadd' B dX5_listsLendings_79 ?_
  refine ax_iconst B dX5_listsLendings_80 ?_
  refine ax_iadd' B dX5_listsLendings_81 ?_
  refine ax_iald B kd100 dX5_listsLendings_82 e (fun v2 e => ?_)
  refine ax_icmp_ge (tgt := 103) B dX5_listsLendings_83 (by decide) e (fun e => ?_) (fun e => ?_)
  · refine ax_aload_n B dX5_listsLendings_86 rfl hl 1 rfl ?_
    refine ax_getR B ff_X5_24_5 (fun _ _ => rfl) dX5_listsLendings_87 e (fun v3 e => ?_)
    refine ax_bipush B dX5_listsLendings_90 (by decide) ?_
    refine ax_iconst B dX5_listsLendings_92 ?_
    refine ax_iload B dX5_listsLendings_93 hl 4 rfl ?_
    refine ax_imul' B dX5_listsLendings_95 ?_
    refine ax_iadd' B dX5_listsLendings_96 ?_
    refine ax_iconst B dX5_listsLendings_97 ?_
    refine ax_iadd' B dX5_listsLendings_98 ?_
    refine ax_iald B kd100 dX5_listsLendings_99 e (fun v4 e => ?_)
    refine ax_goto (tgt := 104) B dX5_listsLendings_100 (by decide) ?_
    exact w_X5_listsLendings_104 hSF B Z hn x0 x1 s0 x4 v4 (hl.sub [1, 2, 0, 4] rfl) e hp
  · refine ax_iload_n B dX5_listsLendings_103 rfl hl 3 rfl ?_
    exact w_X5_listsLendings_104 hSF B Z hn x0 x1 s0 x4 x3 (hl.sub [1, 2, 0, 4] rfl) e hp
set_option maxHeartbeats 4000000 in
theorem w_X5_listsLendings_66 {l : Launch} {G : ax_G} {X : ax_X} {Q : State → Prop} {h0 h : ax_H} {ls : Array Slot} (hSF : ax_SF G) (B : ax_BL l G X cX5_listsLendings 5 RX5 136 3545) (Z : ax_Z X h0 ((some FieldType.boolean))) (hn : X.2.2.2.2.2.2.2.2.1.name = yX5_listsLendings.name) (x0 : Option Nat) (x1 : Int) (x3 : Int) (x4 : Int) {w : (Int × Int × Int × ax_H) ⊕ ((Int × ax_H) ⊕ (Int × ax_H))} (hl : ax_hl ls 5 [(0, .inr (.inr x0)), (1, .inl x1), (3, .inl x3), (4, .inl x4)]) (e : f_X5_listsLendings_66 G.2.2 x0 x1 x3 x4 h = some w) (hp : (ax_PL (pi_X5_listsLendings_26 G X Q x0 x1) (ax_PL (pi_X5_listsLendings_7 G X Q x0) (fun w : Int × ax_H => Q = ax_Q G X h0 w.2 (some (.int (Int32.ofInt w.1)))))) w) : ax_W G X Q h 66 ls [] := by
  unfold f_X5_listsLendings_66 at e
  refine ax_iconst B dX5_listsLendings_66 ?_
  exact w_X5_listsLendings_67 hSF B Z hn x0 x1 x3 x4 0 (hl.sub [0, 1, 2, 3] rfl) e hp
set_option maxHeartbeats 4000000 in
theorem w_X5_listsLendings_238 {l : Launch} {G : ax_G} {X : ax_X} {Q : State → Prop} {h0 h : ax_H} {ls : Array Slot} (hSF : ax_SF G) (B : ax_BL l G X cX5_listsLendings 5 RX5 136 3545) (Z : ax_Z X h0 ((some FieldType.boolean))) (hn : X.2.2.2.2.2.2.2.2.1.name = yX5_listsLendings.name) (x0 : Option Nat) (x1 : Int) {w : (Int × ax_H) ⊕ (Int × ax_H)} (hl : ax_hl ls 5 [(0, .inr (.inr x0)), (1, .inl x1)]) (e : f_X5_listsLendings_238 G.2.2 x0 x1 h = some w) (hp : (ax_PL (pi_X5_listsLendings_7 G X Q x0) (fun w : Int × ax_H => Q = ax_Q G X h0 w.2 (some (.int (Int32.ofInt w.1))))) w) : ax_W G X Q h 238 ls [] := by
  unfold f_X5_listsLendings_238 at e
  refine ax_iinc (L' := [(1, .inl (x1 + 1)), (0, .inr (.inr x0))]) B dX5_listsLendings_238 hl 1 rfl (by decide) rfl (fun ls hl => ?_)
  refine ax_goto (tgt := 7) B dX5_listsLendings_241 (by decide) ?_
  cases e
  exact hp _ (hl.sub [1, 0] rfl)
set_option maxHeartbeats 4000000 in
theorem wb_X5_listsLendings_26 {l : Launch} {G : ax_G} {X : ax_X} {Q : State → Prop} {h0 h : ax_H} {ls : Array Slot} (hSF : ax_SF G) (B : ax_BL l G X cX5_listsLendings 5 RX5 136 3545) (Z : ax_Z X h0 ((some FieldType.boolean))) (hn : X.2.2.2.2.2.2.2.2.1.name = yX5_listsLendings.name) (x0 : Option Nat) (x1 : Int) (x2 : Int) (x3 : Int) (x4 : Int) {w : (Int × Int × Int × ax_H) ⊕ ((Int × ax_H) ⊕ (Int × ax_H))} (hl : ax_hl ls 5 [(0, .inr (.inr x0)), (1, .inl x1), (2, .inl x2), (3, .inl x3), (4, .inl x4)]) (e : lb_X5_listsLendings_26 G.2.2 x0 x1 x2 x3 x4 h = some w) (hp : (ax_PL (pi_X5_listsLendings_26 G X Q x0 x1) (ax_PL (pi_X5_listsLendings_7 G X Q x0) (fun w : Int × ax_H => Q = ax_Q G X h0 w.2 (some (.int (Int32.ofInt w.1)))))) w) : ax_W G X Q h 26 ls [] := by
  unfold lb_X5_listsLendings_26 at e
  refine ax_iload B dX5_listsLendings_26 hl 4 rfl ?_
  refine ax_aload_n B dX5_listsLendings_28 rfl hl 0 rfl ?_
  refine ax_getR B ff_X5_24_5 (fun _ _ => rfl) dX5_listsLendings_29 e (fun v1 e => ?_)
  refine ax_sipush B dX5_listsLendings_32 (by decide) ?_
  refine ax_iald B kd100 dX5_listsLendings_35 e (fun v2 e => ?_)
  refine ax_icmp_ge (tgt := 111) B dX5_listsLendings_36 (by decide) e (fun e => ?_) (fun e => ?_)
  · refine ax_aload_n B dX5_listsLendings_39 rfl hl 0 rfl ?_
    refine ax_iload_n B dX5_listsLendings_40 rfl hl 1 rfl ?_
    refine ax_iload B dX5_listsLendings_41 hl 4 rfl ?_
    refine ax_ivI (y := yX5_isAlike) (n := 2) (As := [.int (Int32.ofInt x1), .int (Int32.ofInt x4)]) B kd5 (lw_V q2554 q2556 qs107 q133 q2557) (by decide +kernel) ⟨Nat.le_of_ble_eq_true rfl, Nat.le_of_ble_eq_true rfl⟩ (fun w1 e1 => mt_X5_isAlike l G hSF x0 x1 x4 _ w1 e1) rfl hl.size (by decide) dX5_listsLendings_43 e (fun q3 e => ?_)
    refine ax_if_ne (tgt := 52) B dX5_listsLendings_46 (by decide) e (fun e => ?_) (fun e => ?_)
    · refine ax_goto (tgt := 105) B dX5_listsLendings_49 (by decide) ?_
      exact w_X5_listsLendings_105 hSF B Z hn x0 x1 x2 x3 x4 (hl.sub [0, 1, 2, 3, 4] rfl) e hp
    · refine ax_iload_n B dX5_listsLendings_52 rfl hl 2 rfl ?_
      refine ax_if_eq (tgt := 66) B dX5_listsLendings_53 (by decide) e (fun e => ?_) (fun e => ?_)
      · exact w_X5_listsLendings_66 hSF B Z hn x0 x1 x3 x4 (hl.sub [0, 1, 3, 4] rfl) e hp
      · refine ax_iload B dX5_listsLendings_56 hl 4 rfl ?_
        refine ax_iload_n B dX5_listsLendings_58 rfl hl 1 rfl ?_
        refine ax_icmp_lt (tgt := 66) B dX5_listsLendings_59 (by decide) e (fun e => ?_) (fun e => ?_)
        · exact w_X5_listsLendings_66 hSF B Z hn x0 x1 x3 x4 (hl.sub [0, 1, 3, 4] rfl) e hp
        · refine ax_iconst B dX5_listsLendings_62 ?_
          refine ax_goto (tgt := 67) B dX5_listsLendings_63 (by decide) ?_
          exact w_X5_listsLendings_67 hSF B Z hn x0 x1 x3 x4 1 (hl.sub [0, 1, 3, 4] rfl) e hp
  · obtain ⟨w, e9_2, rfl⟩ := Option.map_eq_some_iff.mp e
    have e := e9_2
    refine ax_iload_n B dX5_listsLendings_111 rfl hl 2 rfl ?_
    refine ax_if_ne (tgt := 118) B dX5_listsLendings_112 (by decide) e (fun e => ?_) (fun e => ?_)
    · refine ax_goto (tgt := 238) B dX5_listsLendings_115 (by decide) ?_
      exact w_X5_listsLendings_238 hSF B Z hn x0 x1 (hl.sub [0, 1] rfl) e hp
    · refine ax_aload_n B dX5_listsLendings_118 rfl hl 0 rfl ?_
      refine ax_aload_n B dX5_listsLendings_119 rfl hl 0 rfl ?_
      refine ax_getR B ff_X5_24_5 (fun _ _ => rfl) dX5_listsLendings_120 e (fun v4 e => ?_)
      refine ax_bipush B dX5_listsLendings_123 (by decide) ?_
      refine ax_iconst B dX5_listsLendings_125 ?_
      refine ax_iload_n B dX5_listsLendings_126 rfl hl 1 rfl ?_
      refine ax_imul' B dX5_listsLendings_127 ?_
      refine ax_iadd' B dX5_listsLendings_128 ?_
      refine ax_iald B kd100 dX5_listsLendings_129 e (fun v5 e => ?_)
      refine ax_aload_n B dX5_listsLendings_130 rfl hl 0 rfl ?_
      refine ax_getR B ff_X5_24_5 (fun _ _ => rfl) dX5_listsLendings_131 e (fun v6 e => ?_)
      refine ax_bipush B dX5_listsLendings_134 (by decide) ?_
      refine ax_iconst B dX5_listsLendings_136 ?_
      refine ax_iload_n B dX5_listsLendings_137 rfl hl 1 rfl ?_
      refine ax_imul' B dX5_listsLendings_138 ?_
      refine ax_iadd' B dX5_listsLendings_139 ?_
      refine ax_iconst B dX5_listsLendings_140 ?_
      refine ax_iadd' B dX5_listsLendings_141 ?_
      refine ax_iald B kd100 dX5_listsLendings_142 e (fun v7 e => ?_)
      refine ax_iload_n B dX5_listsLendings_143 rfl hl 3 rfl ?_
      refine ax_ivI (y := yX5_needOf) (n := 3) (As := [.int (Int32.ofInt v5), .int (Int32.ofInt v7), .int (Int32.ofInt x3)]) B kd5 (lw_V q2526 q2528 qs103 q133 q2529) (by decide +kernel) ⟨Nat.le_of_ble_eq_true rfl, Nat.le_of_ble_eq_true rfl⟩ (fun w1 e1 => mt_X5_needOf l G hSF x0 v5 v7 x3 _ w1 e1) rfl hl.size (by decide) dX5_listsLendings_144 e (fun q8 e => ?_)
      refine ax_istore (L' := [(4, .inl q8.1), (0, .inr (.inr x0)), (1, .inl x1), (2, .inl x2), (3, .inl x3)]) B dX5_listsLendings_147 hl (by decide) rfl (fun ls hl => ?_)
      refine ax_iload B dX5_listsLendings_149 hl 0 rfl ?_
      refine ax_iconst B dX5_listsLendings_151 ?_
      refine ax_icmp_ne (tgt := 157) B dX5_listsLendings_152 (by decide) e (fun e => ?_) (fun e => ?_)
      · obtain ⟨w, e9_1, rfl⟩ := Option.map_eq_some_iff.mp e
        have e := e9_1
        refine ax_iconst B dX5_listsLendings_155 ?_
        have e8 := e
        have hp : Q = _ := hp
        subst hp
        exact ax_zreturnL (by decide) B Z dX5_listsLendings_156 e8
      · refine ax_iload B dX5_listsLendings_157 hl 0 rfl ?_
        refine ax_if_ne (tgt := 165) B dX5_listsLendings_159 (by decide) e (fun e => ?_) (fun e => ?_)
        · refine ax_goto (tgt := 238) B dX5_listsLendings_162 (by decide) ?_
          exact w_X5_listsLendings_238 hSF B Z hn x0 x1 (hl.sub [1, 2] rfl) e hp
        · refine ax_aload_n B dX5_listsLendings_165 rfl hl 1 rfl ?_
          refine ax_getR B ff_X5_71_5 (fun _ _ => rfl) dX5_listsLendings_166 e (fun v9 e => ?_)
          refine ax_aload_n B dX5_listsLendings_169 rfl hl 1 rfl ?_
          refine ax_getI B ff_X5_400_5 (fun _ _ => rfl) dX5_listsLendings_170 e (fun v10 e => ?_)
          refine ax_aload_n B dX5_listsLendings_173 rfl hl 1 rfl ?_
          refine ax_getR B ff_X5_24_5 (fun _ _ => rfl) dX5_listsLendings_174 e (fun v11 e => ?_)
          refine ax_bipush B dX5_listsLendings_177 (by decide) ?_
          refine ax_iconst B dX5_listsLendings_179 ?_
          refine ax_iload_n B dX5_listsLendings_180 rfl hl 2 rfl ?_
          refine ax_imul' B dX5_listsLendings_181 ?_
          refine ax_iadd' B dX5_listsLendings_182 ?_
          refine ax_iald B kd100 dX5_listsLendings_183 e (fun v12 e => ?_)
          refine ax_iast B kd100 dX5_listsLendings_184 e (fun h13 e => ?_)
          refine ax_aload_n B dX5_listsLendings_185 rfl hl 1 rfl ?_
          refine ax_getR B ff_X5_74_5 (fun _ _ => rfl) dX5_listsLendings_186 e (fun v14 e => ?_)
          refine ax_aload_n B dX5_listsLendings_189 rfl hl 1 rfl ?_
          refine ax_getI B ff_X5_400_5 (fun _ _ => rfl) dX5_listsLendings_190 e (fun v15 e => ?_)
          refine ax_aload_n B dX5_listsLendings_193 rfl hl 1 rfl ?_
          refine ax_getR B ff_X5_24_5 (fun _ _ => rfl) dX5_listsLendings_194 e (fun v16 e => ?_)
          refine ax_bipush B dX5_listsLendings_197 (by decide) ?_
          refine ax_iconst B dX5_listsLendings_199 ?_
          refine ax_iload_n B dX5_listsLendings_200 rfl hl 2 rfl ?_
          refine ax_imul' B dX5_listsLendings_201 ?_
          refine ax_iadd' B dX5_listsLendings_202 ?_
          refine ax_iconst B dX5_listsLendings_203 ?_
          refine ax_iadd' B dX5_listsLendings_204 ?_
          refine ax_iald B kd100 dX5_listsLendings_205 e (fun v17 e => ?_)
          refine ax_iast B kd100 dX5_listsLendings_206 e (fun h18 e => ?_)
          refine ax_aload_n B dX5_listsLendings_207 rfl hl 1 rfl ?_
          refine ax_getR B ff_X5_77_5 (fun _ _ => rfl) dX5_listsLendings_208 e (fun v19 e => ?_)
          refine ax_aload_n B dX5_listsLendings_211 rfl hl 1 rfl ?_
          refine ax_getI B ff_X5_400_5 (fun _ _ => rfl) dX5_listsLendings_212 e (fun v20 e => ?_)
          refine ax_iload B dX5_listsLendings_215 hl 0 rfl ?_
          refine ax_iast B kd100 dX5_listsLendings_217 e (fun h21 e => ?_)
          refine ax_aload_n B dX5_listsLendings_218 rfl hl 1 rfl ?_
          refine ax_getR B ff_X5_80_5 (fun _ _ => rfl) dX5_listsLendings_219 e (fun v22 e => ?_)
          refine ax_aload_n B dX5_listsLendings_222 rfl hl 1 rfl ?_
          refine ax_getI B ff_X5_400_5 (fun _ _ => rfl) dX5_listsLendings_223 e (fun v23 e => ?_)
          refine ax_iload_n B dX5_listsLendings_226 rfl hl 2 rfl ?_
          refine ax_iast B kd100 dX5_listsLendings_227 e (fun h24 e => ?_)
          refine ax_aload_n B dX5_listsLendings_228 rfl hl 1 rfl ?_
          refine ax_dup B dX5_listsLendings_229 (va_rf_cat _) ?_
          refine ax_getI B ff_X5_400_5 (fun _ _ => rfl) dX5_listsLendings_230 e (fun v25 e => ?_)
          refine ax_iconst B dX5_listsLendings_233 ?_
          refine ax_iadd' B dX5_listsLendings_234 ?_
          refine ax_putI B ff_X5_400_5 (Or.inl rfl) rfl dX5_listsLendings_235 e (fun h26 e => ?_)
          exact w_X5_listsLendings_238 hSF B Z hn x0 x1 (hl.sub [1, 2] rfl) e hp
theorem w_X5_listsLendings_26 {l : Launch} {G : ax_G} {X : ax_X} {Q : State → Prop} {h0 h : ax_H} {ls : Array Slot} (hSF : ax_SF G) (B : ax_BL l G X cX5_listsLendings 5 RX5 136 3545) (Z : ax_Z X h0 ((some FieldType.boolean))) (hn : X.2.2.2.2.2.2.2.2.1.name = yX5_listsLendings.name) (x0 : Option Nat) (x1 : Int) (x2 : Int) (x3 : Int) (x4 : Int) {w : (Int × ax_H) ⊕ (Int × ax_H)} (hl : ax_hl ls 5 [(0, .inr (.inr x0)), (1, .inl x1), (2, .inl x2), (3, .inl x3), (4, .inl x4)]) (e : f_X5_listsLendings_26 G.2.2 x0 x1 x2 x3 x4 h = some w) (hp : (ax_PL (pi_X5_listsLendings_7 G X Q x0) (fun w : Int × ax_H => Q = ax_Q G X h0 w.2 (some (.int (Int32.ofInt w.1))))) w) : ax_W G X Q h 26 ls [] :=
  ax_iter_W (Pin := pi_X5_listsLendings_26 G X Q x0 x1) (Pout := (ax_PL (pi_X5_listsLendings_7 G X Q x0) (fun w : Int × ax_H => Q = ax_Q G X h0 w.2 (some (.int (Int32.ofInt w.1)))))) (fun s w e hp ls hl => wb_X5_listsLendings_26 hSF B Z hn x0 x1 s.1 s.2.1 s.2.2.1 hl e hp) _ _ e hp ls hl
set_option maxHeartbeats 4000000 in
theorem wb_X5_listsLendings_7 {l : Launch} {G : ax_G} {X : ax_X} {Q : State → Prop} {h0 h : ax_H} {ls : Array Slot} (hSF : ax_SF G) (B : ax_BL l G X cX5_listsLendings 5 RX5 136 3545) (Z : ax_Z X h0 ((some FieldType.boolean))) (hn : X.2.2.2.2.2.2.2.2.1.name = yX5_listsLendings.name) (x0 : Option Nat) (x1 : Int) {w : (Int × ax_H) ⊕ (Int × ax_H)} (hl : ax_hl ls 5 [(0, .inr (.inr x0)), (1, .inl x1)]) (e : lb_X5_listsLendings_7 G.2.2 x0 x1 h = some w) (hp : (ax_PL (pi_X5_listsLendings_7 G X Q x0) (fun w : Int × ax_H => Q = ax_Q G X h0 w.2 (some (.int (Int32.ofInt w.1))))) w) : ax_W G X Q h 7 ls [] := by
  unfold lb_X5_listsLendings_7 at e
  refine ax_iload_n B dX5_listsLendings_7 rfl hl 1 rfl ?_
  refine ax_aload_n B dX5_listsLendings_8 rfl hl 0 rfl ?_
  refine ax_getR B ff_X5_24_5 (fun _ _ => rfl) dX5_listsLendings_9 e (fun v1 e => ?_)
  refine ax_sipush B dX5_listsLendings_12 (by decide) ?_
  refine ax_iald B kd100 dX5_listsLendings_15 e (fun v2 e => ?_)
  refine ax_icmp_ge (tgt := 244) B dX5_listsLendings_16 (by decide) e (fun e => ?_) (fun e => ?_)
  · refine ax_iconst B dX5_listsLendings_19 ?_
    refine ax_istore_n (L' := [(2, .inl 1), (0, .inr (.inr x0)), (1, .inl x1)]) B dX5_listsLendings_20 rfl hl (by decide) rfl (fun ls hl => ?_)
    refine ax_iconst B dX5_listsLendings_21 ?_
    refine ax_istore_n (L' := [(3, .inl 0), (2, .inl 1), (0, .inr (.inr x0)), (1, .inl x1)]) B dX5_listsLendings_22 rfl hl (by decide) rfl (fun ls hl => ?_)
    refine ax_iconst B dX5_listsLendings_23 ?_
    refine ax_istore (L' := [(4, .inl 0), (3, .inl 0), (2, .inl 1), (0, .inr (.inr x0)), (1, .inl x1)]) B dX5_listsLendings_24 hl (by decide) rfl (fun ls hl => ?_)
    exact w_X5_listsLendings_26 hSF B Z hn x0 x1 1 0 0 (hl.sub [3, 4, 2, 1, 0] rfl) e hp
  · obtain ⟨w, e9_3, rfl⟩ := Option.map_eq_some_iff.mp e
    have e := e9_3
    refine ax_iconst B dX5_listsLendings_244 ?_
    have e8 := e
    have hp : Q = _ := hp
    subst hp
    exact ax_zreturnL (by decide) B Z dX5_listsLendings_245 e8
theorem w_X5_listsLendings_7 {l : Launch} {G : ax_G} {X : ax_X} {Q : State → Prop} {h0 h : ax_H} {ls : Array Slot} (hSF : ax_SF G) (B : ax_BL l G X cX5_listsLendings 5 RX5 136 3545) (Z : ax_Z X h0 ((some FieldType.boolean))) (hn : X.2.2.2.2.2.2.2.2.1.name = yX5_listsLendings.name) (x0 : Option Nat) (x1 : Int) {w : Int × ax_H} (hl : ax_hl ls 5 [(0, .inr (.inr x0)), (1, .inl x1)]) (e : f_X5_listsLendings_7 G.2.2 x0 x1 h = some w) (hp : (fun w : Int × ax_H => Q = ax_Q G X h0 w.2 (some (.int (Int32.ofInt w.1)))) w) : ax_W G X Q h 7 ls [] :=
  ax_iter_W (Pin := pi_X5_listsLendings_7 G X Q x0) (Pout := (fun w : Int × ax_H => Q = ax_Q G X h0 w.2 (some (.int (Int32.ofInt w.1))))) (fun s w e hp ls hl => wb_X5_listsLendings_7 hSF B Z hn x0 s.1 hl e hp) _ _ e hp ls hl
set_option maxHeartbeats 4000000 in
theorem we_X5_listsLendings {l : Launch} {G : ax_G} {X : ax_X} {Q : State → Prop} {h0 h : ax_H} {ls : Array Slot} (hSF : ax_SF G) (B : ax_BL l G X cX5_listsLendings 5 RX5 136 3545) (Z : ax_Z X h0 ((some FieldType.boolean))) (hn : X.2.2.2.2.2.2.2.2.1.name = yX5_listsLendings.name) (x0 : Option Nat) {w : Int × ax_H} (hl : ax_hl ls 5 [(0, .inr (.inr x0))]) (e : f_X5_listsLendings G.2.2 x0 h = some w) (hp : (fun w : Int × ax_H => Q = ax_Q G X h0 w.2 (some (.int (Int32.ofInt w.1)))) w) : ax_W G X Q h 0 ls [] := by
  unfold f_X5_listsLendings at e
  refine ax_aload_n B dX5_listsLendings_0 rfl hl 0 rfl ?_
  refine ax_iconst B dX5_listsLendings_1 ?_
  refine ax_putI B ff_X5_400_5 (Or.inl rfl) rfl dX5_listsLendings_2 e (fun h1 e => ?_)
  refine ax_iconst B dX5_listsLendings_5 ?_
  refine ax_istore_n (L' := [(1, .inl 0), (0, .inr (.inr x0))]) B dX5_listsLendings_6 rfl hl (by decide) rfl (fun ls hl => ?_)
  exact w_X5_listsLendings_7 hSF B Z hn x0 0 (hl.sub [1, 0] rfl) e hp
theorem mt_X5_listsLendings (l : Launch) (G : ax_G) (hSF : ax_SF G) (x0 : Option Nat) (h : ax_H) (w : Int × ax_H) (e : f_X5_listsLendings G.2.2 x0 h = some w) : ax_Met l G yX5_listsLendings cX5_listsLendings 5 ((some FieldType.boolean)) 136 3545 [va_rf x0] h w.2 (some (.int (Int32.ofInt w.1))) :=
  ax_enter [.inr (.inr x0)] (y := yX5_listsLendings) hSF (plainFor_of_name (by decide +kernel)) (Nat.le_of_ble_eq_true rfl) (fun X ls B Z hn hl => we_X5_listsLendings hSF B Z hn x0 hl e rfl)
def dkwX5_isIn_0 : List UInt8 := [26, 27, 122, 4, 126, 4, 160, 0, 7, 4, 167, 0, 4, 3, 172]
abbrev dktX5_isIn_0 : List UInt8 := dkwX5_isIn_0 ++ []
theorem dksX5_isIn_0 : cX5_isIn.data.toList.drop 0 = dktX5_isIn_0 := by decide +kernel
theorem dX5_isIn_0 : decode cX5_isIn 0 = .ok (.iload_n 0, 1) := dk_26 (dk_at dksX5_isIn_0 0 rfl rfl)
theorem dX5_isIn_1 : decode cX5_isIn 1 = .ok (.iload_n 1, 1) := dk_27 (dk_at dksX5_isIn_0 1 rfl rfl)
theorem dX5_isIn_2 : decode cX5_isIn 2 = .ok (.ishr, 1) := dk_122 (dk_at dksX5_isIn_0 2 rfl rfl)
theorem dX5_isIn_3 : decode cX5_isIn 3 = .ok (.iconst 1, 1) := dk_4 (dk_at dksX5_isIn_0 3 rfl rfl)
theorem dX5_isIn_4 : decode cX5_isIn 4 = .ok (.iand, 1) := dk_126 (dk_at dksX5_isIn_0 4 rfl rfl)
theorem dX5_isIn_5 : decode cX5_isIn 5 = .ok (.iconst 1, 1) := dk_4 (dk_at dksX5_isIn_0 5 rfl rfl)
theorem dX5_isIn_6 : decode cX5_isIn 6 = .ok (.if_icmp .ne 7, 3) := dk_160 0 7 (dk_at dksX5_isIn_0 6 rfl rfl)
theorem dX5_isIn_9 : decode cX5_isIn 9 = .ok (.iconst 1, 1) := dk_4 (dk_at dksX5_isIn_0 9 rfl rfl)
theorem dX5_isIn_10 : decode cX5_isIn 10 = .ok (.goto 4, 3) := dk_167 0 4 (dk_at dksX5_isIn_0 10 rfl rfl)
theorem dX5_isIn_13 : decode cX5_isIn 13 = .ok (.iconst 0, 1) := dk_3 (dk_at dksX5_isIn_0 13 rfl rfl)
theorem dX5_isIn_14 : decode cX5_isIn 14 = .ok (.ireturn, 1) := dk_172 (dk_at dksX5_isIn_0 14 rfl rfl)
noncomputable def f_X5_isIn (E : ax_E) (x0 : Int) (x1 : Int) (h : ax_H) : Option (Int × ax_H) :=
  if i2 (ax_and (ax_shr x0 x1) 1) = i2 1 then
    some (1, h)
  else
    some (0, h)
set_option maxHeartbeats 4000000 in
theorem we_X5_isIn {l : Launch} {G : ax_G} {X : ax_X} {Q : State → Prop} {h0 h : ax_H} {ls : Array Slot} (hSF : ax_SF G) (B : ax_BL l G X cX5_isIn 2 RX5 1 40) (Z : ax_Z X h0 ((some FieldType.boolean))) (hn : X.2.2.2.2.2.2.2.2.1.name = yX5_isIn.name) (x0 : Int) (x1 : Int) {w : Int × ax_H} (hl : ax_hl ls 2 [(0, .inl x0), (1, .inl x1)]) (e : f_X5_isIn G.2.2 x0 x1 h = some w) (hp : (fun w : Int × ax_H => Q = ax_Q G X h0 w.2 (some (.int (Int32.ofInt w.1)))) w) : ax_W G X Q h 0 ls [] := by
  unfold f_X5_isIn at e
  refine ax_iload_n B dX5_isIn_0 rfl hl 0 rfl ?_
  refine ax_iload_n B dX5_isIn_1 rfl hl 1 rfl ?_
  refine ax_ishr' B dX5_isIn_2 ?_
  refine ax_iconst B dX5_isIn_3 ?_
  refine ax_iand' B dX5_isIn_4 ?_
  refine ax_iconst B dX5_isIn_5 ?_
  refine ax_icmp_ne (tgt := 13) B dX5_isIn_6 (by decide) e (fun e => ?_) (fun e => ?_)
  · refine ax_iconst B dX5_isIn_9 ?_
    refine ax_goto (tgt := 14) B dX5_isIn_10 (by decide) ?_
    have e8 := e
    have hp : Q = _ := hp
    subst hp
    exact ax_zreturnL (by decide) B Z dX5_isIn_14 e8
  · refine ax_iconst B dX5_isIn_13 ?_
    have e8 := e
    have hp : Q = _ := hp
    subst hp
    exact ax_zreturnL (by decide) B Z dX5_isIn_14 e8
theorem mt_X5_isIn (l : Launch) (G : ax_G) (hSF : ax_SF G) (x0 : Int) (x1 : Int) (h : ax_H) (w : Int × ax_H) (e : f_X5_isIn G.2.2 x0 x1 h = some w) : ax_Met l G yX5_isIn cX5_isIn 2 ((some FieldType.boolean)) 1 40 [.int (Int32.ofInt x0), .int (Int32.ofInt x1)] h w.2 (some (.int (Int32.ofInt w.1))) :=
  ax_enter [.inl x0, .inl x1] (y := yX5_isIn) hSF (plainFor_of_name (by decide +kernel)) (Nat.le_of_ble_eq_true rfl) (fun X ls B Z hn hl => we_X5_isIn hSF B Z hn x0 x1 hl e rfl)
def dkwX5_purseBehind_3 : List UInt8 := [21, 4, 46, 116, 167, 0, 4, 3, 96, 62, 132, 4, 1, 167, 255, 184, 29, 172]
abbrev dktX5_purseBehind_3 : List UInt8 := dkwX5_purseBehind_3 ++ []
def dkwX5_purseBehind_2 : List UInt8 := [180, 0, 77, 21, 4, 46, 167, 0, 26, 42, 180, 0, 71, 21, 4, 46, 27, 160, 0, 14, 42, 180, 0, 77]
abbrev dktX5_purseBehind_2 : List UInt8 := dkwX5_purseBehind_2 ++ dktX5_purseBehind_3
def dkwX5_purseBehind_1 : List UInt8 := [21, 4, 184, 1, 150, 154, 0, 7, 3, 167, 0, 47, 42, 180, 0, 74, 21, 4, 46, 27, 160, 0, 13, 42]
abbrev dktX5_purseBehind_1 : List UInt8 := dkwX5_purseBehind_1 ++ dktX5_purseBehind_2
def dkwX5_purseBehind_0 : List UInt8 := [42, 180, 0, 24, 3, 27, 96, 46, 62, 3, 54, 4, 21, 4, 42, 180, 1, 144, 162, 0, 69, 29, 28]
abbrev dktX5_purseBehind_0 : List UInt8 := dkwX5_purseBehind_0 ++ dktX5_purseBehind_1
theorem dksX5_purseBehind_0 : cX5_purseBehind.data.toList.drop 0 = dktX5_purseBehind_0 := by decide +kernel
theorem dksX5_purseBehind_1 : cX5_purseBehind.data.toList.drop 23 = dktX5_purseBehind_1 := dk_seg dksX5_purseBehind_0 23 rfl rfl
theorem dksX5_purseBehind_2 : cX5_purseBehind.data.toList.drop 47 = dktX5_purseBehind_2 := dk_seg dksX5_purseBehind_1 24 rfl rfl
theorem dksX5_purseBehind_3 : cX5_purseBehind.data.toList.drop 71 = dktX5_purseBehind_3 := dk_seg dksX5_purseBehind_2 24 rfl rfl
theorem dX5_purseBehind_0 : decode cX5_purseBehind 0 = .ok (.aload_n 0, 1) := dk_42 (dk_at dksX5_purseBehind_0 0 rfl rfl)
theorem dX5_purseBehind_1 : decode cX5_purseBehind 1 = .ok (.getfield 24, 3) := dk_180 0 24 (dk_at dksX5_purseBehind_0 1 rfl rfl)
theorem dX5_purseBehind_4 : decode cX5_purseBehind 4 = .ok (.iconst 0, 1) := dk_3 (dk_at dksX5_purseBehind_0 4 rfl rfl)
theorem dX5_purseBehind_5 : decode cX5_purseBehind 5 = .ok (.iload_n 1, 1) := dk_27 (dk_at dksX5_purseBehind_0 5 rfl rfl)
theorem dX5_purseBehind_6 : decode cX5_purseBehind 6 = .ok (.iadd, 1) := dk_96 (dk_at dksX5_purseBehind_0 6 rfl rfl)
theorem dX5_purseBehind_7 : decode cX5_purseBehind 7 = .ok (.iaload, 1) := dk_46 (dk_at dksX5_purseBehind_0 7 rfl rfl)
theorem dX5_purseBehind_8 : decode cX5_purseBehind 8 = .ok (.istore_n 3, 1) := dk_62 (dk_at dksX5_purseBehind_0 8 rfl rfl)
theorem dX5_purseBehind_9 : decode cX5_purseBehind 9 = .ok (.iconst 0, 1) := dk_3 (dk_at dksX5_purseBehind_0 9 rfl rfl)
theorem dX5_purseBehind_10 : decode cX5_purseBehind 10 = .ok (.istore 4, 2) := dk_54 4 (dk_at dksX5_purseBehind_0 10 rfl rfl)
theorem dX5_purseBehind_12 : decode cX5_purseBehind 12 = .ok (.iload 4, 2) := dk_21 4 (dk_at dksX5_purseBehind_0 12 rfl rfl)
theorem dX5_purseBehind_14 : decode cX5_purseBehind 14 = .ok (.aload_n 0, 1) := dk_42 (dk_at dksX5_purseBehind_0 14 rfl rfl)
theorem dX5_purseBehind_15 : decode cX5_purseBehind 15 = .ok (.getfield 400, 3) := dk_180 1 144 (dk_at dksX5_purseBehind_0 15 rfl rfl)
theorem dX5_purseBehind_18 : decode cX5_purseBehind 18 = .ok (.if_icmp .ge 69, 3) := dk_162 0 69 (dk_at dksX5_purseBehind_0 18 rfl rfl)
theorem dX5_purseBehind_21 : decode cX5_purseBehind 21 = .ok (.iload_n 3, 1) := dk_29 (dk_at dksX5_purseBehind_0 21 rfl rfl)
theorem dX5_purseBehind_22 : decode cX5_purseBehind 22 = .ok (.iload_n 2, 1) := dk_28 (dk_at dksX5_purseBehind_0 22 rfl rfl)
theorem dX5_purseBehind_23 : decode cX5_purseBehind 23 = .ok (.iload 4, 2) := dk_21 4 (dk_at dksX5_purseBehind_1 0 rfl rfl)
theorem dX5_purseBehind_25 : decode cX5_purseBehind 25 = .ok (.invokestatic 406, 3) := dk_184 1 150 (dk_at dksX5_purseBehind_1 2 rfl rfl)
theorem dX5_purseBehind_28 : decode cX5_purseBehind 28 = .ok (.ifCond .ne 7, 3) := dk_154 0 7 (dk_at dksX5_purseBehind_1 5 rfl rfl)
theorem dX5_purseBehind_31 : decode cX5_purseBehind 31 = .ok (.iconst 0, 1) := dk_3 (dk_at dksX5_purseBehind_1 8 rfl rfl)
theorem dX5_purseBehind_32 : decode cX5_purseBehind 32 = .ok (.goto 47, 3) := dk_167 0 47 (dk_at dksX5_purseBehind_1 9 rfl rfl)
theorem dX5_purseBehind_35 : decode cX5_purseBehind 35 = .ok (.aload_n 0, 1) := dk_42 (dk_at dksX5_purseBehind_1 12 rfl rfl)
theorem dX5_purseBehind_36 : decode cX5_purseBehind 36 = .ok (.getfield 74, 3) := dk_180 0 74 (dk_at dksX5_purseBehind_1 13 rfl rfl)
theorem dX5_purseBehind_39 : decode cX5_purseBehind 39 = .ok (.iload 4, 2) := dk_21 4 (dk_at dksX5_purseBehind_1 16 rfl rfl)
theorem dX5_purseBehind_41 : decode cX5_purseBehind 41 = .ok (.iaload, 1) := dk_46 (dk_at dksX5_purseBehind_1 18 rfl rfl)
theorem dX5_purseBehind_42 : decode cX5_purseBehind 42 = .ok (.iload_n 1, 1) := dk_27 (dk_at dksX5_purseBehind_1 19 rfl rfl)
theorem dX5_purseBehind_43 : decode cX5_purseBehind 43 = .ok (.if_icmp .ne 13, 3) := dk_160 0 13 (dk_at dksX5_purseBehind_1 20 rfl rfl)
theorem dX5_purseBehind_46 : decode cX5_purseBehind 46 = .ok (.aload_n 0, 1) := dk_42 (dk_at dksX5_purseBehind_1 23 rfl rfl)
theorem dX5_purseBehind_47 : decode cX5_purseBehind 47 = .ok (.getfield 77, 3) := dk_180 0 77 (dk_at dksX5_purseBehind_2 0 rfl rfl)
theorem dX5_purseBehind_50 : decode cX5_purseBehind 50 = .ok (.iload 4, 2) := dk_21 4 (dk_at dksX5_purseBehind_2 3 rfl rfl)
theorem dX5_purseBehind_52 : decode cX5_purseBehind 52 = .ok (.iaload, 1) := dk_46 (dk_at dksX5_purseBehind_2 5 rfl rfl)
theorem dX5_purseBehind_53 : decode cX5_purseBehind 53 = .ok (.goto 26, 3) := dk_167 0 26 (dk_at dksX5_purseBehind_2 6 rfl rfl)
theorem dX5_purseBehind_56 : decode cX5_purseBehind 56 = .ok (.aload_n 0, 1) := dk_42 (dk_at dksX5_purseBehind_2 9 rfl rfl)
theorem dX5_purseBehind_57 : decode cX5_purseBehind 57 = .ok (.getfield 71, 3) := dk_180 0 71 (dk_at dksX5_purseBehind_2 10 rfl rfl)
theorem dX5_purseBehind_60 : decode cX5_purseBehind 60 = .ok (.iload 4, 2) := dk_21 4 (dk_at dksX5_purseBehind_2 13 rfl rfl)
theorem dX5_purseBehind_62 : decode cX5_purseBehind 62 = .ok (.iaload, 1) := dk_46 (dk_at dksX5_purseBehind_2 15 rfl rfl)
theorem dX5_purseBehind_63 : decode cX5_purseBehind 63 = .ok (.iload_n 1, 1) := dk_27 (dk_at dksX5_purseBehind_2 16 rfl rfl)
theorem dX5_purseBehind_64 : decode cX5_purseBehind 64 = .ok (.if_icmp .ne 14, 3) := dk_160 0 14 (dk_at dksX5_purseBehind_2 17 rfl rfl)
theorem dX5_purseBehind_67 : decode cX5_purseBehind 67 = .ok (.aload_n 0, 1) := dk_42 (dk_at dksX5_purseBehind_2 20 rfl rfl)
theorem dX5_purseBehind_68 : decode cX5_purseBehind 68 = .ok (.getfield 77, 3) := dk_180 0 77 (dk_at dksX5_purseBehind_2 21 rfl rfl)
theorem dX5_purseBehind_71 : decode cX5_purseBehind 71 = .ok (.iload 4, 2) := dk_21 4 (dk_at dksX5_purseBehind_3 0 rfl rfl)
theorem dX5_purseBehind_73 : decode cX5_purseBehind 73 = .ok (.iaload, 1) := dk_46 (dk_at dksX5_purseBehind_3 2 rfl rfl)
theorem dX5_purseBehind_74 : decode cX5_purseBehind 74 = .ok (.ineg, 1) := dk_116 (dk_at dksX5_purseBehind_3 3 rfl rfl)
theorem dX5_purseBehind_75 : decode cX5_purseBehind 75 = .ok (.goto 4, 3) := dk_167 0 4 (dk_at dksX5_purseBehind_3 4 rfl rfl)
theorem dX5_purseBehind_78 : decode cX5_purseBehind 78 = .ok (.iconst 0, 1) := dk_3 (dk_at dksX5_purseBehind_3 7 rfl rfl)
theorem dX5_purseBehind_79 : decode cX5_purseBehind 79 = .ok (.iadd, 1) := dk_96 (dk_at dksX5_purseBehind_3 8 rfl rfl)
theorem dX5_purseBehind_80 : decode cX5_purseBehind 80 = .ok (.istore_n 3, 1) := dk_62 (dk_at dksX5_purseBehind_3 9 rfl rfl)
theorem dX5_purseBehind_81 : decode cX5_purseBehind 81 = .ok (.iinc 4 1, 3) := dk_132 4 1 (dk_at dksX5_purseBehind_3 10 rfl rfl)
theorem dX5_purseBehind_84 : decode cX5_purseBehind 84 = .ok (.goto (-72), 3) := dk_167 255 184 (dk_at dksX5_purseBehind_3 13 rfl rfl)
theorem dX5_purseBehind_87 : decode cX5_purseBehind 87 = .ok (.iload_n 3, 1) := dk_29 (dk_at dksX5_purseBehind_3 16 rfl rfl)
theorem dX5_purseBehind_88 : decode cX5_purseBehind 88 = .ok (.ireturn, 1) := dk_172 (dk_at dksX5_purseBehind_3 17 rfl rfl)
noncomputable def f_X5_purseBehind_79 (E : ax_E) (x0 : Option Nat) (x1 : Int) (x2 : Int) (x4 : Int) (s0 : Int) (s1 : Int) (h : ax_H) : Option ((Int × Int × ax_H) ⊕ (Int × ax_H)) :=
  some (.inl ((s0 + s1), (x4 + 1), h))
noncomputable def lb_X5_purseBehind_12 (E : ax_E) (x0 : Option Nat) (x1 : Int) (x2 : Int) (x3 : Int) (x4 : Int) (h : ax_H) : Option ((Int × Int × ax_H) ⊕ (Int × ax_H)) :=
  (ax_gI E h x0 5 34).bind fun v1 =>
  if i2 x4 < i2 v1 then
    (f_X5_isIn E x2 x4 h).bind fun q2 =>
    if i2 q2.1 = 0 then
      f_X5_purseBehind_79 E x0 x1 x2 x4 x3 0 q2.2
    else
      (ax_gR E q2.2 x0 5 30).bind fun v3 =>
      (ax_ld E q2.2 v3 100 x4).bind fun v4 =>
      if i2 v4 = i2 x1 then
        (ax_gR E q2.2 x0 5 31).bind fun v5 =>
        (ax_ld E q2.2 v5 100 x4).bind fun v6 =>
        f_X5_purseBehind_79 E x0 x1 x2 x4 x3 v6 q2.2
      else
        (ax_gR E q2.2 x0 5 29).bind fun v7 =>
        (ax_ld E q2.2 v7 100 x4).bind fun v8 =>
        if i2 v8 = i2 x1 then
          (ax_gR E q2.2 x0 5 31).bind fun v9 =>
          (ax_ld E q2.2 v9 100 x4).bind fun v10 =>
          f_X5_purseBehind_79 E x0 x1 x2 x4 x3 (-v10) q2.2
        else
          f_X5_purseBehind_79 E x0 x1 x2 x4 x3 0 q2.2
  else
    (some (x3, h)).map Sum.inr
noncomputable def f_X5_purseBehind_12 (E : ax_E) (x0 : Option Nat) (x1 : Int) (x2 : Int) (x3 : Int) (x4 : Int) (h : ax_H) : Option (Int × ax_H) :=
  ax_iter (fun s : Int × Int × ax_H => lb_X5_purseBehind_12 E x0 x1 x2 s.1 s.2.1 s.2.2) (x3, x4, h)
noncomputable def f_X5_purseBehind (E : ax_E) (x0 : Option Nat) (x1 : Int) (x2 : Int) (h : ax_H) : Option (Int × ax_H) :=
  (ax_gR E h x0 5 2).bind fun v1 =>
  (ax_ld E h v1 100 (0 + x1)).bind fun v2 =>
  f_X5_purseBehind_12 E x0 x1 x2 v2 0 h
def pi_X5_purseBehind_12 (G : ax_G) (X : ax_X) (Q : State → Prop) (x0 : Option Nat) (x1 : Int) (x2 : Int) : Int × Int × ax_H → Prop := fun s => ∀ ls : Array Slot, ax_hl ls 5 [(0, .inr (.inr x0)), (1, .inl x1), (2, .inl x2), (3, .inl s.1), (4, .inl s.2.1)] → ax_W G X Q s.2.2 12 ls []
set_option maxHeartbeats 4000000 in
theorem w_X5_purseBehind_79 {l : Launch} {G : ax_G} {X : ax_X} {Q : State → Prop} {h0 h : ax_H} {ls : Array Slot} (hSF : ax_SF G) (B : ax_BL l G X cX5_purseBehind 5 RX5 2 61) (Z : ax_Z X h0 ((some FieldType.int))) (hn : X.2.2.2.2.2.2.2.2.1.name = yX5_purseBehind.name) (x0 : Option Nat) (x1 : Int) (x2 : Int) (x4 : Int) (s0 : Int) (s1 : Int) {w : (Int × Int × ax_H) ⊕ (Int × ax_H)} (hl : ax_hl ls 5 [(0, .inr (.inr x0)), (1, .inl x1), (2, .inl x2), (4, .inl x4)]) (e : f_X5_purseBehind_79 G.2.2 x0 x1 x2 x4 s0 s1 h = some w) (hp : (ax_PL (pi_X5_purseBehind_12 G X Q x0 x1 x2) (fun w : Int × ax_H => Q = ax_Q G X h0 w.2 (some (.int (Int32.ofInt w.1))))) w) : ax_W G X Q h 79 ls [.int (Int32.ofInt s1), .int (Int32.ofInt s0)] := by
  unfold f_X5_purseBehind_79 at e
  refine ax_iadd' B dX5_purseBehind_79 ?_
  refine ax_istore_n (L' := [(3, .inl (s0 + s1)), (0, .inr (.inr x0)), (1, .inl x1), (2, .inl x2), (4, .inl x4)]) B dX5_purseBehind_80 rfl hl (by decide) rfl (fun ls hl => ?_)
  refine ax_iinc (L' := [(4, .inl (x4 + 1)), (3, .inl (s0 + s1)), (0, .inr (.inr x0)), (1, .inl x1), (2, .inl x2)]) B dX5_purseBehind_81 hl 4 rfl (by decide) rfl (fun ls hl => ?_)
  refine ax_goto (tgt := 12) B dX5_purseBehind_84 (by decide) ?_
  cases e
  exact hp _ (hl.sub [2, 3, 4, 1, 0] rfl)
set_option maxHeartbeats 4000000 in
theorem wb_X5_purseBehind_12 {l : Launch} {G : ax_G} {X : ax_X} {Q : State → Prop} {h0 h : ax_H} {ls : Array Slot} (hSF : ax_SF G) (B : ax_BL l G X cX5_purseBehind 5 RX5 2 61) (Z : ax_Z X h0 ((some FieldType.int))) (hn : X.2.2.2.2.2.2.2.2.1.name = yX5_purseBehind.name) (x0 : Option Nat) (x1 : Int) (x2 : Int) (x3 : Int) (x4 : Int) {w : (Int × Int × ax_H) ⊕ (Int × ax_H)} (hl : ax_hl ls 5 [(0, .inr (.inr x0)), (1, .inl x1), (2, .inl x2), (3, .inl x3), (4, .inl x4)]) (e : lb_X5_purseBehind_12 G.2.2 x0 x1 x2 x3 x4 h = some w) (hp : (ax_PL (pi_X5_purseBehind_12 G X Q x0 x1 x2) (fun w : Int × ax_H => Q = ax_Q G X h0 w.2 (some (.int (Int32.ofInt w.1))))) w) : ax_W G X Q h 12 ls [] := by
  unfold lb_X5_purseBehind_12 at e
  refine ax_iload B dX5_purseBehind_12 hl 4 rfl ?_
  refine ax_aload_n B dX5_purseBehind_14 rfl hl 0 rfl ?_
  refine ax_getI B ff_X5_400_5 (fun _ _ => rfl) dX5_purseBehind_15 e (fun v1 e => ?_)
  refine ax_icmp_ge (tgt := 87) B dX5_purseBehind_18 (by decide) e (fun e => ?_) (fun e => ?_)
  · refine ax_iload_n B dX5_purseBehind_21 rfl hl 3 rfl ?_
    refine ax_iload_n B dX5_purseBehind_22 rfl hl 2 rfl ?_
    refine ax_iload B dX5_purseBehind_23 hl 4 rfl ?_
    refine ax_isI (y := yX5_isIn) (n := 2) (As := [.int (Int32.ofInt x2), .int (Int32.ofInt x4)]) B (lw_S q2562 q2563 q133 q2564) (by decide +kernel) ⟨Nat.le_of_ble_eq_true rfl, Nat.le_of_ble_eq_true rfl⟩ (fun w1 e1 => mt_X5_isIn l G hSF x2 x4 _ w1 e1) rfl hl.size (by simp only [List.map_cons, List.map_nil, List.sum_cons, List.sum_nil, va_rf_cat, ax_catI, ax_catL]; decide) dX5_purseBehind_25 e (fun q2 e => ?_)
    refine ax_if_ne (tgt := 35) B dX5_purseBehind_28 (by decide) e (fun e => ?_) (fun e => ?_)
    · refine ax_iconst B dX5_purseBehind_31 ?_
      refine ax_goto (tgt := 79) B dX5_purseBehind_32 (by decide) ?_
      exact w_X5_purseBehind_79 hSF B Z hn x0 x1 x2 x4 x3 0 (hl.sub [0, 1, 2, 4] rfl) e hp
    · refine ax_aload_n B dX5_purseBehind_35 rfl hl 0 rfl ?_
      refine ax_getR B ff_X5_74_5 (fun _ _ => rfl) dX5_purseBehind_36 e (fun v3 e => ?_)
      refine ax_iload B dX5_purseBehind_39 hl 4 rfl ?_
      refine ax_iald B kd100 dX5_purseBehind_41 e (fun v4 e => ?_)
      refine ax_iload_n B dX5_purseBehind_42 rfl hl 1 rfl ?_
      refine ax_icmp_ne (tgt := 56) B dX5_purseBehind_43 (by decide) e (fun e => ?_) (fun e => ?_)
      · refine ax_aload_n B dX5_purseBehind_46 rfl hl 0 rfl ?_
        refine ax_getR B ff_X5_77_5 (fun _ _ => rfl) dX5_purseBehind_47 e (fun v5 e => ?_)
        refine ax_iload B dX5_purseBehind_50 hl 4 rfl ?_
        refine ax_iald B kd100 dX5_purseBehind_52 e (fun v6 e => ?_)
        refine ax_goto (tgt := 79) B dX5_purseBehind_53 (by decide) ?_
        exact w_X5_purseBehind_79 hSF B Z hn x0 x1 x2 x4 x3 v6 (hl.sub [0, 1, 2, 4] rfl) e hp
      · refine ax_aload_n B dX5_purseBehind_56 rfl hl 0 rfl ?_
        refine ax_getR B ff_X5_71_5 (fun _ _ => rfl) dX5_purseBehind_57 e (fun v7 e => ?_)
        refine ax_iload B dX5_purseBehind_60 hl 4 rfl ?_
        refine ax_iald B kd100 dX5_purseBehind_62 e (fun v8 e => ?_)
        refine ax_iload_n B dX5_purseBehind_63 rfl hl 1 rfl ?_
        refine ax_icmp_ne (tgt := 78) B dX5_purseBehind_64 (by decide) e (fun e => ?_) (fun e => ?_)
        · refine ax_aload_n B dX5_purseBehind_67 rfl hl 0 rfl ?_
          refine ax_getR B ff_X5_77_5 (fun _ _ => rfl) dX5_purseBehind_68 e (fun v9 e => ?_)
          refine ax_iload B dX5_purseBehind_71 hl 4 rfl ?_
          refine ax_iald B kd100 dX5_purseBehind_73 e (fun v10 e => ?_)
          refine ax_ineg' B dX5_purseBehind_74 ?_
          refine ax_goto (tgt := 79) B dX5_purseBehind_75 (by decide) ?_
          exact w_X5_purseBehind_79 hSF B Z hn x0 x1 x2 x4 x3 (-v10) (hl.sub [0, 1, 2, 4] rfl) e hp
        · refine ax_iconst B dX5_purseBehind_78 ?_
          exact w_X5_purseBehind_79 hSF B Z hn x0 x1 x2 x4 x3 0 (hl.sub [0, 1, 2, 4] rfl) e hp
  · obtain ⟨w, e9_1, rfl⟩ := Option.map_eq_some_iff.mp e
    have e := e9_1
    refine ax_iload_n B dX5_purseBehind_87 rfl hl 3 rfl ?_
    have e8 := e
    have hp : Q = _ := hp
    subst hp
    exact ax_ireturn B Z dX5_purseBehind_88 e8
theorem w_X5_purseBehind_12 {l : Launch} {G : ax_G} {X : ax_X} {Q : State → Prop} {h0 h : ax_H} {ls : Array Slot} (hSF : ax_SF G) (B : ax_BL l G X cX5_purseBehind 5 RX5 2 61) (Z : ax_Z X h0 ((some FieldType.int))) (hn : X.2.2.2.2.2.2.2.2.1.name = yX5_purseBehind.name) (x0 : Option Nat) (x1 : Int) (x2 : Int) (x3 : Int) (x4 : Int) {w : Int × ax_H} (hl : ax_hl ls 5 [(0, .inr (.inr x0)), (1, .inl x1), (2, .inl x2), (3, .inl x3), (4, .inl x4)]) (e : f_X5_purseBehind_12 G.2.2 x0 x1 x2 x3 x4 h = some w) (hp : (fun w : Int × ax_H => Q = ax_Q G X h0 w.2 (some (.int (Int32.ofInt w.1)))) w) : ax_W G X Q h 12 ls [] :=
  ax_iter_W (Pin := pi_X5_purseBehind_12 G X Q x0 x1 x2) (Pout := (fun w : Int × ax_H => Q = ax_Q G X h0 w.2 (some (.int (Int32.ofInt w.1))))) (fun s w e hp ls hl => wb_X5_purseBehind_12 hSF B Z hn x0 x1 x2 s.1 s.2.1 hl e hp) _ _ e hp ls hl
set_option maxHeartbeats 4000000 in
theorem we_X5_purseBehind {l : Launch} {G : ax_G} {X : ax_X} {Q : State → Prop} {h0 h : ax_H} {ls : Array Slot} (hSF : ax_SF G) (B : ax_BL l G X cX5_purseBehind 5 RX5 2 61) (Z : ax_Z X h0 ((some FieldType.int))) (hn : X.2.2.2.2.2.2.2.2.1.name = yX5_purseBehind.name) (x0 : Option Nat) (x1 : Int) (x2 : Int) {w : Int × ax_H} (hl : ax_hl ls 5 [(0, .inr (.inr x0)), (1, .inl x1), (2, .inl x2)]) (e : f_X5_purseBehind G.2.2 x0 x1 x2 h = some w) (hp : (fun w : Int × ax_H => Q = ax_Q G X h0 w.2 (some (.int (Int32.ofInt w.1)))) w) : ax_W G X Q h 0 ls [] := by
  unfold f_X5_purseBehind at e
  refine ax_aload_n B dX5_purseBehind_0 rfl hl 0 rfl ?_
  refine ax_getR B ff_X5_24_5 (fun _ _ => rfl) dX5_purseBehind_1 e (fun v1 e => ?_)
  refine ax_iconst B dX5_purseBehind_4 ?_
  refine ax_iload_n B dX5_purseBehind_5 rfl hl 1 rfl ?_
  refine ax_iadd' B dX5_purseBehind_6 ?_
  refine ax_iald B kd100 dX5_purseBehind_7 e (fun v2 e => ?_)
  refine ax_istore_n (L' := [(3, .inl v2), (0, .inr (.inr x0)), (1, .inl x1), (2, .inl x2)]) B dX5_purseBehind_8 rfl hl (by decide) rfl (fun ls hl => ?_)
  refine ax_iconst B dX5_purseBehind_9 ?_
  refine ax_istore (L' := [(4, .inl 0), (3, .inl v2), (0, .inr (.inr x0)), (1, .inl x1), (2, .inl x2)]) B dX5_purseBehind_10 hl (by decide) rfl (fun ls hl => ?_)
  exact w_X5_purseBehind_12 hSF B Z hn x0 x1 x2 v2 0 (hl.sub [2, 3, 4, 1, 0] rfl) e hp
theorem mt_X5_purseBehind (l : Launch) (G : ax_G) (hSF : ax_SF G) (x0 : Option Nat) (x1 : Int) (x2 : Int) (h : ax_H) (w : Int × ax_H) (e : f_X5_purseBehind G.2.2 x0 x1 x2 h = some w) : ax_Met l G yX5_purseBehind cX5_purseBehind 5 ((some FieldType.int)) 2 61 [va_rf x0, .int (Int32.ofInt x1), .int (Int32.ofInt x2)] h w.2 (some (.int (Int32.ofInt w.1))) :=
  ax_enter [.inr (.inr x0), .inl x1, .inl x2] (y := yX5_purseBehind) hSF (plainFor_of_name (by decide +kernel)) (Nat.le_of_ble_eq_true rfl) (fun X ls B Z hn hl => we_X5_purseBehind hSF B Z hn x0 x1 x2 hl e rfl)
def dkwX5_mayLend_2 : List UInt8 := [17, 39, 15, 163, 0, 7, 4, 167, 0, 4, 3, 172]
abbrev dktX5_mayLend_2 : List UInt8 := dkwX5_mayLend_2 ++ []
def dkwX5_mayLend_1 : List UInt8 := [46, 161, 0, 31, 42, 42, 180, 0, 74, 28, 46, 27, 182, 1, 153, 42, 180, 0, 77, 28, 46, 96]
abbrev dktX5_mayLend_1 : List UInt8 := dkwX5_mayLend_1 ++ dktX5_mayLend_2
def dkwX5_mayLend_0 : List UInt8 := [27, 28, 184, 1, 150, 154, 0, 51, 42, 42, 180, 0, 71, 28, 46, 27, 182, 1, 153, 42, 180, 0, 77, 28]
abbrev dktX5_mayLend_0 : List UInt8 := dkwX5_mayLend_0 ++ dktX5_mayLend_1
theorem dksX5_mayLend_0 : cX5_mayLend.data.toList.drop 0 = dktX5_mayLend_0 := by decide +kernel
theorem dksX5_mayLend_1 : cX5_mayLend.data.toList.drop 24 = dktX5_mayLend_1 := dk_seg dksX5_mayLend_0 24 rfl rfl
theorem dksX5_mayLend_2 : cX5_mayLend.data.toList.drop 46 = dktX5_mayLend_2 := dk_seg dksX5_mayLend_1 22 rfl rfl
theorem dX5_mayLend_0 : decode cX5_mayLend 0 = .ok (.iload_n 1, 1) := dk_27 (dk_at dksX5_mayLend_0 0 rfl rfl)
theorem dX5_mayLend_1 : decode cX5_mayLend 1 = .ok (.iload_n 2, 1) := dk_28 (dk_at dksX5_mayLend_0 1 rfl rfl)
theorem dX5_mayLend_2 : decode cX5_mayLend 2 = .ok (.invokestatic 406, 3) := dk_184 1 150 (dk_at dksX5_mayLend_0 2 rfl rfl)
theorem dX5_mayLend_5 : decode cX5_mayLend 5 = .ok (.ifCond .ne 51, 3) := dk_154 0 51 (dk_at dksX5_mayLend_0 5 rfl rfl)
theorem dX5_mayLend_8 : decode cX5_mayLend 8 = .ok (.aload_n 0, 1) := dk_42 (dk_at dksX5_mayLend_0 8 rfl rfl)
theorem dX5_mayLend_9 : decode cX5_mayLend 9 = .ok (.aload_n 0, 1) := dk_42 (dk_at dksX5_mayLend_0 9 rfl rfl)
theorem dX5_mayLend_10 : decode cX5_mayLend 10 = .ok (.getfield 71, 3) := dk_180 0 71 (dk_at dksX5_mayLend_0 10 rfl rfl)
theorem dX5_mayLend_13 : decode cX5_mayLend 13 = .ok (.iload_n 2, 1) := dk_28 (dk_at dksX5_mayLend_0 13 rfl rfl)
theorem dX5_mayLend_14 : decode cX5_mayLend 14 = .ok (.iaload, 1) := dk_46 (dk_at dksX5_mayLend_0 14 rfl rfl)
theorem dX5_mayLend_15 : decode cX5_mayLend 15 = .ok (.iload_n 1, 1) := dk_27 (dk_at dksX5_mayLend_0 15 rfl rfl)
theorem dX5_mayLend_16 : decode cX5_mayLend 16 = .ok (.invokevirtual 409, 3) := dk_182 1 153 (dk_at dksX5_mayLend_0 16 rfl rfl)
theorem dX5_mayLend_19 : decode cX5_mayLend 19 = .ok (.aload_n 0, 1) := dk_42 (dk_at dksX5_mayLend_0 19 rfl rfl)
theorem dX5_mayLend_20 : decode cX5_mayLend 20 = .ok (.getfield 77, 3) := dk_180 0 77 (dk_at dksX5_mayLend_0 20 rfl rfl)
theorem dX5_mayLend_23 : decode cX5_mayLend 23 = .ok (.iload_n 2, 1) := dk_28 (dk_at dksX5_mayLend_0 23 rfl rfl)
theorem dX5_mayLend_24 : decode cX5_mayLend 24 = .ok (.iaload, 1) := dk_46 (dk_at dksX5_mayLend_1 0 rfl rfl)
theorem dX5_mayLend_25 : decode cX5_mayLend 25 = .ok (.if_icmp .lt 31, 3) := dk_161 0 31 (dk_at dksX5_mayLend_1 1 rfl rfl)
theorem dX5_mayLend_28 : decode cX5_mayLend 28 = .ok (.aload_n 0, 1) := dk_42 (dk_at dksX5_mayLend_1 4 rfl rfl)
theorem dX5_mayLend_29 : decode cX5_mayLend 29 = .ok (.aload_n 0, 1) := dk_42 (dk_at dksX5_mayLend_1 5 rfl rfl)
theorem dX5_mayLend_30 : decode cX5_mayLend 30 = .ok (.getfield 74, 3) := dk_180 0 74 (dk_at dksX5_mayLend_1 6 rfl rfl)
theorem dX5_mayLend_33 : decode cX5_mayLend 33 = .ok (.iload_n 2, 1) := dk_28 (dk_at dksX5_mayLend_1 9 rfl rfl)
theorem dX5_mayLend_34 : decode cX5_mayLend 34 = .ok (.iaload, 1) := dk_46 (dk_at dksX5_mayLend_1 10 rfl rfl)
theorem dX5_mayLend_35 : decode cX5_mayLend 35 = .ok (.iload_n 1, 1) := dk_27 (dk_at dksX5_mayLend_1 11 rfl rfl)
theorem dX5_mayLend_36 : decode cX5_mayLend 36 = .ok (.invokevirtual 409, 3) := dk_182 1 153 (dk_at dksX5_mayLend_1 12 rfl rfl)
theorem dX5_mayLend_39 : decode cX5_mayLend 39 = .ok (.aload_n 0, 1) := dk_42 (dk_at dksX5_mayLend_1 15 rfl rfl)
theorem dX5_mayLend_40 : decode cX5_mayLend 40 = .ok (.getfield 77, 3) := dk_180 0 77 (dk_at dksX5_mayLend_1 16 rfl rfl)
theorem dX5_mayLend_43 : decode cX5_mayLend 43 = .ok (.iload_n 2, 1) := dk_28 (dk_at dksX5_mayLend_1 19 rfl rfl)
theorem dX5_mayLend_44 : decode cX5_mayLend 44 = .ok (.iaload, 1) := dk_46 (dk_at dksX5_mayLend_1 20 rfl rfl)
theorem dX5_mayLend_45 : decode cX5_mayLend 45 = .ok (.iadd, 1) := dk_96 (dk_at dksX5_mayLend_1 21 rfl rfl)
theorem dX5_mayLend_46 : decode cX5_mayLend 46 = .ok (.sipush 9999, 3) := dk_17 39 15 (dk_at dksX5_mayLend_2 0 rfl rfl)
theorem dX5_mayLend_49 : decode cX5_mayLend 49 = .ok (.if_icmp .gt 7, 3) := dk_163 0 7 (dk_at dksX5_mayLend_2 3 rfl rfl)
theorem dX5_mayLend_52 : decode cX5_mayLend 52 = .ok (.iconst 1, 1) := dk_4 (dk_at dksX5_mayLend_2 6 rfl rfl)
theorem dX5_mayLend_53 : decode cX5_mayLend 53 = .ok (.goto 4, 3) := dk_167 0 4 (dk_at dksX5_mayLend_2 7 rfl rfl)
theorem dX5_mayLend_56 : decode cX5_mayLend 56 = .ok (.iconst 0, 1) := dk_3 (dk_at dksX5_mayLend_2 10 rfl rfl)
theorem dX5_mayLend_57 : decode cX5_mayLend 57 = .ok (.ireturn, 1) := dk_172 (dk_at dksX5_mayLend_2 11 rfl rfl)
noncomputable def f_X5_mayLend_56 (E : ax_E) (h : ax_H) : Option (Int × ax_H) :=
  some (0, h)
noncomputable def f_X5_mayLend (E : ax_E) (x0 : Option Nat) (x1 : Int) (x2 : Int) (h : ax_H) : Option (Int × ax_H) :=
  (f_X5_isIn E x1 x2 h).bind fun q1 =>
  if i2 q1.1 = 0 then
    (ax_gR E q1.2 x0 5 29).bind fun v2 =>
    (ax_ld E q1.2 v2 100 x2).bind fun v3 =>
    (ax_ce E q1.2 x0 5).bind fun _ => (f_X5_purseBehind E x0 v3 x1 q1.2).bind fun q4 =>
    (ax_gR E q4.2 x0 5 31).bind fun v5 =>
    (ax_ld E q4.2 v5 100 x2).bind fun v6 =>
    if i2 q4.1 < i2 v6 then
      f_X5_mayLend_56 E q4.2
    else
      (ax_gR E q4.2 x0 5 30).bind fun v7 =>
      (ax_ld E q4.2 v7 100 x2).bind fun v8 =>
      (ax_ce E q4.2 x0 5).bind fun _ => (f_X5_purseBehind E x0 v8 x1 q4.2).bind fun q9 =>
      (ax_gR E q9.2 x0 5 31).bind fun v10 =>
      (ax_ld E q9.2 v10 100 x2).bind fun v11 =>
      if i2 9999 < i2 (q9.1 + v11) then
        f_X5_mayLend_56 E q9.2
      else
        some (1, q9.2)
  else
    f_X5_mayLend_56 E q1.2
set_option maxHeartbeats 4000000 in
theorem w_X5_mayLend_56 {l : Launch} {G : ax_G} {X : ax_X} {Q : State → Prop} {h0 h : ax_H} {ls : Array Slot} (hSF : ax_SF G) (B : ax_BL l G X cX5_mayLend 3 RX5 3 85) (Z : ax_Z X h0 ((some FieldType.boolean))) (hn : X.2.2.2.2.2.2.2.2.1.name = yX5_mayLend.name) {w : Int × ax_H} (hl : ax_hl ls 3 []) (e : f_X5_mayLend_56 G.2.2 h = some w) (hp : (fun w : Int × ax_H => Q = ax_Q G X h0 w.2 (some (.int (Int32.ofInt w.1)))) w) : ax_W G X Q h 56 ls [] := by
  unfold f_X5_mayLend_56 at e
  refine ax_iconst B dX5_mayLend_56 ?_
  have e8 := e
  have hp : Q = _ := hp
  subst hp
  exact ax_zreturnL (by decide) B Z dX5_mayLend_57 e8
set_option maxHeartbeats 4000000 in
theorem we_X5_mayLend {l : Launch} {G : ax_G} {X : ax_X} {Q : State → Prop} {h0 h : ax_H} {ls : Array Slot} (hSF : ax_SF G) (B : ax_BL l G X cX5_mayLend 3 RX5 3 85) (Z : ax_Z X h0 ((some FieldType.boolean))) (hn : X.2.2.2.2.2.2.2.2.1.name = yX5_mayLend.name) (x0 : Option Nat) (x1 : Int) (x2 : Int) {w : Int × ax_H} (hl : ax_hl ls 3 [(0, .inr (.inr x0)), (1, .inl x1), (2, .inl x2)]) (e : f_X5_mayLend G.2.2 x0 x1 x2 h = some w) (hp : (fun w : Int × ax_H => Q = ax_Q G X h0 w.2 (some (.int (Int32.ofInt w.1)))) w) : ax_W G X Q h 0 ls [] := by
  unfold f_X5_mayLend at e
  refine ax_iload_n B dX5_mayLend_0 rfl hl 1 rfl ?_
  refine ax_iload_n B dX5_mayLend_1 rfl hl 2 rfl ?_
  refine ax_isI (y := yX5_isIn) (n := 2) (As := [.int (Int32.ofInt x1), .int (Int32.ofInt x2)]) B (lw_S q2562 q2563 q133 q2564) (by decide +kernel) ⟨Nat.le_of_ble_eq_true rfl, Nat.le_of_ble_eq_true rfl⟩ (fun w1 e1 => mt_X5_isIn l G hSF x1 x2 _ w1 e1) rfl hl.size (by decide) dX5_mayLend_2 e (fun q1 e => ?_)
  refine ax_if_ne (tgt := 56) B dX5_mayLend_5 (by decide) e (fun e => ?_) (fun e => ?_)
  · refine ax_aload_n B dX5_mayLend_8 rfl hl 0 rfl ?_
    refine ax_aload_n B dX5_mayLend_9 rfl hl 0 rfl ?_
    refine ax_getR B ff_X5_71_5 (fun _ _ => rfl) dX5_mayLend_10 e (fun v2 e => ?_)
    refine ax_iload_n B dX5_mayLend_13 rfl hl 2 rfl ?_
    refine ax_iald B kd100 dX5_mayLend_14 e (fun v3 e => ?_)
    refine ax_iload_n B dX5_mayLend_15 rfl hl 1 rfl ?_
    refine ax_ivI (y := yX5_purseBehind) (n := 2) (As := [.int (Int32.ofInt v3), .int (Int32.ofInt x1)]) B kd5 (lw_V q2565 q2567 qs109 q133 q2568) (by decide +kernel) ⟨Nat.le_of_ble_eq_true rfl, Nat.le_of_ble_eq_true rfl⟩ (fun w1 e1 => mt_X5_purseBehind l G hSF x0 v3 x1 _ w1 e1) rfl hl.size (by decide) dX5_mayLend_16 e (fun q4 e => ?_)
    refine ax_aload_n B dX5_mayLend_19 rfl hl 0 rfl ?_
    refine ax_getR B ff_X5_77_5 (fun _ _ => rfl) dX5_mayLend_20 e (fun v5 e => ?_)
    refine ax_iload_n B dX5_mayLend_23 rfl hl 2 rfl ?_
    refine ax_iald B kd100 dX5_mayLend_24 e (fun v6 e => ?_)
    refine ax_icmp_lt (tgt := 56) B dX5_mayLend_25 (by decide) e (fun e => ?_) (fun e => ?_)
    · exact w_X5_mayLend_56 hSF B Z hn (hl.sub [] rfl) e hp
    · refine ax_aload_n B dX5_mayLend_28 rfl hl 0 rfl ?_
      refine ax_aload_n B dX5_mayLend_29 rfl hl 0 rfl ?_
      refine ax_getR B ff_X5_74_5 (fun _ _ => rfl) dX5_mayLend_30 e (fun v7 e => ?_)
      refine ax_iload_n B dX5_mayLend_33 rfl hl 2 rfl ?_
      refine ax_iald B kd100 dX5_mayLend_34 e (fun v8 e => ?_)
      refine ax_iload_n B dX5_mayLend_35 rfl hl 1 rfl ?_
      refine ax_ivI (y := yX5_purseBehind) (n := 2) (As := [.int (Int32.ofInt v8), .int (Int32.ofInt x1)]) B kd5 (lw_V q2565 q2567 qs109 q133 q2568) (by decide +kernel) ⟨Nat.le_of_ble_eq_true rfl, Nat.le_of_ble_eq_true rfl⟩ (fun w1 e1 => mt_X5_purseBehind l G hSF x0 v8 x1 _ w1 e1) rfl hl.size (by decide) dX5_mayLend_36 e (fun q9 e => ?_)
      refine ax_aload_n B dX5_mayLend_39 rfl hl 0 rfl ?_
      refine ax_getR B ff_X5_77_5 (fun _ _ => rfl) dX5_mayLend_40 e (fun v10 e => ?_)
      refine ax_iload_n B dX5_mayLend_43 rfl hl 2 rfl ?_
      refine ax_iald B kd100 dX5_mayLend_44 e (fun v11 e => ?_)
      refine ax_iadd' B dX5_mayLend_45 ?_
      refine ax_sipush B dX5_mayLend_46 (by decide) ?_
      refine ax_icmp_gt (tgt := 56) B dX5_mayLend_49 (by decide) e (fun e => ?_) (fun e => ?_)
      · exact w_X5_mayLend_56 hSF B Z hn (hl.sub [] rfl) e hp
      · refine ax_iconst B dX5_mayLend_52 ?_
        refine ax_goto (tgt := 57) B dX5_mayLend_53 (by decide) ?_
        have e8 := e
        have hp : Q = _ := hp
        subst hp
        exact ax_zreturnL (by decide) B Z dX5_mayLend_57 e8
  · exact w_X5_mayLend_56 hSF B Z hn (hl.sub [] rfl) e hp
theorem mt_X5_mayLend (l : Launch) (G : ax_G) (hSF : ax_SF G) (x0 : Option Nat) (x1 : Int) (x2 : Int) (h : ax_H) (w : Int × ax_H) (e : f_X5_mayLend G.2.2 x0 x1 x2 h = some w) : ax_Met l G yX5_mayLend cX5_mayLend 3 ((some FieldType.boolean)) 3 85 [va_rf x0, .int (Int32.ofInt x1), .int (Int32.ofInt x2)] h w.2 (some (.int (Int32.ofInt w.1))) :=
  ax_enter [.inr (.inr x0), .inl x1, .inl x2] (y := yX5_mayLend) hSF (plainFor_of_name (by decide +kernel)) (Nat.le_of_ble_eq_true rfl) (fun X ls B Z hn hl => we_X5_mayLend hSF B Z hn x0 x1 x2 hl e rfl)
def dkwX5_lendings_11 : List UInt8 := [42, 180, 0, 80, 21, 5, 46, 172]
abbrev dktX5_lendings_11 : List UInt8 := dkwX5_lendings_11 ++ []
def dkwX5_lendings_10 : List UInt8 := [154, 0, 9, 132, 5, 1, 167, 255, 227, 21, 4, 4, 21, 5, 120, 128, 54, 4, 132, 6, 1, 167, 255, 203]
abbrev dktX5_lendings_10 : List UInt8 := dkwX5_lendings_10 ++ dktX5_lendings_11
def dkwX5_lendings_9 : List UInt8 := [42, 21, 4, 21, 5, 182, 1, 159, 153, 0, 18, 42, 180, 0, 83, 21, 4, 4, 21, 5, 120, 128, 46]
abbrev dktX5_lendings_9 : List UInt8 := dkwX5_lendings_9 ++ dktX5_lendings_10
def dkwX5_lendings_8 : List UInt8 := [46, 154, 0, 5, 2, 172, 3, 54, 4, 3, 54, 5, 6, 54, 6, 21, 6, 27, 163, 0, 53, 3, 54, 5]
abbrev dktX5_lendings_8 : List UInt8 := dkwX5_lendings_8 ++ dktX5_lendings_9
def dkwX5_lendings_7 : List UInt8 := [167, 0, 18, 27, 4, 160, 0, 7, 28, 167, 0, 9, 42, 180, 0, 83, 3, 46, 172, 42, 180, 0, 83, 3]
abbrev dktX5_lendings_7 : List UInt8 := dkwX5_lendings_7 ++ dktX5_lendings_8
def dkwX5_lendings_6 : List UInt8 := [167, 255, 207, 132, 4, 255, 167, 255, 175, 27, 6, 162, 0, 30, 27, 154, 0, 10, 42, 180, 1, 144]
abbrev dktX5_lendings_6 : List UInt8 := dkwX5_lendings_6 ++ dktX5_lendings_7
def dkwX5_lendings_5 : List UInt8 := [153, 0, 18, 42, 180, 0, 83, 21, 4, 4, 21, 5, 120, 128, 46, 167, 0, 4, 3, 96, 79, 132, 5, 1]
abbrev dktX5_lendings_5 : List UInt8 := dkwX5_lendings_5 ++ dktX5_lendings_6
def dkwX5_lendings_4 : List UInt8 := [180, 1, 144, 162, 0, 46, 42, 180, 0, 83, 21, 4, 92, 46, 42, 21, 4, 21, 5, 182, 1, 159]
abbrev dktX5_lendings_4 : List UInt8 := dkwX5_lendings_4 ++ dktX5_lendings_5
def dkwX5_lendings_3 : List UInt8 := [180, 0, 83, 21, 4, 21, 4, 29, 160, 0, 7, 4, 167, 0, 4, 3, 79, 3, 54, 5, 21, 5, 42]
abbrev dktX5_lendings_3 : List UInt8 := dkwX5_lendings_3 ++ dktX5_lendings_4
def dkwX5_lendings_2 : List UInt8 := [180, 0, 77, 21, 4, 46, 96, 61, 132, 4, 1, 167, 255, 234, 29, 54, 4, 21, 4, 155, 0, 82, 42]
abbrev dktX5_lendings_2 : List UInt8 := dkwX5_lendings_2 ++ dktX5_lendings_3
def dkwX5_lendings_1 : List UInt8 := [61, 4, 42, 180, 1, 144, 120, 4, 100, 62, 3, 54, 4, 21, 4, 42, 180, 1, 144, 162, 0, 19, 28, 42]
abbrev dktX5_lendings_1 : List UInt8 := dkwX5_lendings_1 ++ dktX5_lendings_2
def dkwX5_lendings_0 : List UInt8 := [42, 182, 1, 156, 153, 0, 17, 27, 3, 5, 42, 180, 1, 144, 96, 184, 0, 123, 154, 0, 5, 2, 172, 3]
abbrev dktX5_lendings_0 : List UInt8 := dkwX5_lendings_0 ++ dktX5_lendings_1
theorem dksX5_lendings_0 : cX5_lendings.data.toList.drop 0 = dktX5_lendings_0 := by decide +kernel
theorem dksX5_lendings_1 : cX5_lendings.data.toList.drop 24 = dktX5_lendings_1 := dk_seg dksX5_lendings_0 24 rfl rfl
theorem dksX5_lendings_2 : cX5_lendings.data.toList.drop 48 = dktX5_lendings_2 := dk_seg dksX5_lendings_1 24 rfl rfl
theorem dksX5_lendings_3 : cX5_lendings.data.toList.drop 71 = dktX5_lendings_3 := dk_seg dksX5_lendings_2 23 rfl rfl
theorem dksX5_lendings_4 : cX5_lendings.data.toList.drop 94 = dktX5_lendings_4 := dk_seg dksX5_lendings_3 23 rfl rfl
theorem dksX5_lendings_5 : cX5_lendings.data.toList.drop 116 = dktX5_lendings_5 := dk_seg dksX5_lendings_4 22 rfl rfl
theorem dksX5_lendings_6 : cX5_lendings.data.toList.drop 140 = dktX5_lendings_6 := dk_seg dksX5_lendings_5 24 rfl rfl
theorem dksX5_lendings_7 : cX5_lendings.data.toList.drop 162 = dktX5_lendings_7 := dk_seg dksX5_lendings_6 22 rfl rfl
theorem dksX5_lendings_8 : cX5_lendings.data.toList.drop 186 = dktX5_lendings_8 := dk_seg dksX5_lendings_7 24 rfl rfl
theorem dksX5_lendings_9 : cX5_lendings.data.toList.drop 210 = dktX5_lendings_9 := dk_seg dksX5_lendings_8 24 rfl rfl
theorem dksX5_lendings_10 : cX5_lendings.data.toList.drop 233 = dktX5_lendings_10 := dk_seg dksX5_lendings_9 23 rfl rfl
theorem dksX5_lendings_11 : cX5_lendings.data.toList.drop 257 = dktX5_lendings_11 := dk_seg dksX5_lendings_10 24 rfl rfl
theorem dX5_lendings_0 : decode cX5_lendings 0 = .ok (.aload_n 0, 1) := dk_42 (dk_at dksX5_lendings_0 0 rfl rfl)
theorem dX5_lendings_1 : decode cX5_lendings 1 = .ok (.invokevirtual 412, 3) := dk_182 1 156 (dk_at dksX5_lendings_0 1 rfl rfl)
theorem dX5_lendings_4 : decode cX5_lendings 4 = .ok (.ifCond .eq 17, 3) := dk_153 0 17 (dk_at dksX5_lendings_0 4 rfl rfl)
theorem dX5_lendings_7 : decode cX5_lendings 7 = .ok (.iload_n 1, 1) := dk_27 (dk_at dksX5_lendings_0 7 rfl rfl)
theorem dX5_lendings_8 : decode cX5_lendings 8 = .ok (.iconst 0, 1) := dk_3 (dk_at dksX5_lendings_0 8 rfl rfl)
theorem dX5_lendings_9 : decode cX5_lendings 9 = .ok (.iconst 2, 1) := dk_5 (dk_at dksX5_lendings_0 9 rfl rfl)
theorem dX5_lendings_10 : decode cX5_lendings 10 = .ok (.aload_n 0, 1) := dk_42 (dk_at dksX5_lendings_0 10 rfl rfl)
theorem dX5_lendings_11 : decode cX5_lendings 11 = .ok (.getfield 400, 3) := dk_180 1 144 (dk_at dksX5_lendings_0 11 rfl rfl)
theorem dX5_lendings_14 : decode cX5_lendings 14 = .ok (.iadd, 1) := dk_96 (dk_at dksX5_lendings_0 14 rfl rfl)
theorem dX5_lendings_15 : decode cX5_lendings 15 = .ok (.invokestatic 123, 3) := dk_184 0 123 (dk_at dksX5_lendings_0 15 rfl rfl)
theorem dX5_lendings_18 : decode cX5_lendings 18 = .ok (.ifCond .ne 5, 3) := dk_154 0 5 (dk_at dksX5_lendings_0 18 rfl rfl)
theorem dX5_lendings_21 : decode cX5_lendings 21 = .ok (.iconst (-1), 1) := dk_2 (dk_at dksX5_lendings_0 21 rfl rfl)
theorem dX5_lendings_22 : decode cX5_lendings 22 = .ok (.ireturn, 1) := dk_172 (dk_at dksX5_lendings_0 22 rfl rfl)
theorem dX5_lendings_23 : decode cX5_lendings 23 = .ok (.iconst 0, 1) := dk_3 (dk_at dksX5_lendings_0 23 rfl rfl)
theorem dX5_lendings_24 : decode cX5_lendings 24 = .ok (.istore_n 2, 1) := dk_61 (dk_at dksX5_lendings_1 0 rfl rfl)
theorem dX5_lendings_25 : decode cX5_lendings 25 = .ok (.iconst 1, 1) := dk_4 (dk_at dksX5_lendings_1 1 rfl rfl)
theorem dX5_lendings_26 : decode cX5_lendings 26 = .ok (.aload_n 0, 1) := dk_42 (dk_at dksX5_lendings_1 2 rfl rfl)
theorem dX5_lendings_27 : decode cX5_lendings 27 = .ok (.getfield 400, 3) := dk_180 1 144 (dk_at dksX5_lendings_1 3 rfl rfl)
theorem dX5_lendings_30 : decode cX5_lendings 30 = .ok (.ishl, 1) := dk_120 (dk_at dksX5_lendings_1 6 rfl rfl)
theorem dX5_lendings_31 : decode cX5_lendings 31 = .ok (.iconst 1, 1) := dk_4 (dk_at dksX5_lendings_1 7 rfl rfl)
theorem dX5_lendings_32 : decode cX5_lendings 32 = .ok (.isub, 1) := dk_100 (dk_at dksX5_lendings_1 8 rfl rfl)
theorem dX5_lendings_33 : decode cX5_lendings 33 = .ok (.istore_n 3, 1) := dk_62 (dk_at dksX5_lendings_1 9 rfl rfl)
theorem dX5_lendings_34 : decode cX5_lendings 34 = .ok (.iconst 0, 1) := dk_3 (dk_at dksX5_lendings_1 10 rfl rfl)
theorem dX5_lendings_35 : decode cX5_lendings 35 = .ok (.istore 4, 2) := dk_54 4 (dk_at dksX5_lendings_1 11 rfl rfl)
theorem dX5_lendings_37 : decode cX5_lendings 37 = .ok (.iload 4, 2) := dk_21 4 (dk_at dksX5_lendings_1 13 rfl rfl)
theorem dX5_lendings_39 : decode cX5_lendings 39 = .ok (.aload_n 0, 1) := dk_42 (dk_at dksX5_lendings_1 15 rfl rfl)
theorem dX5_lendings_40 : decode cX5_lendings 40 = .ok (.getfield 400, 3) := dk_180 1 144 (dk_at dksX5_lendings_1 16 rfl rfl)
theorem dX5_lendings_43 : decode cX5_lendings 43 = .ok (.if_icmp .ge 19, 3) := dk_162 0 19 (dk_at dksX5_lendings_1 19 rfl rfl)
theorem dX5_lendings_46 : decode cX5_lendings 46 = .ok (.iload_n 2, 1) := dk_28 (dk_at dksX5_lendings_1 22 rfl rfl)
theorem dX5_lendings_47 : decode cX5_lendings 47 = .ok (.aload_n 0, 1) := dk_42 (dk_at dksX5_lendings_1 23 rfl rfl)
theorem dX5_lendings_48 : decode cX5_lendings 48 = .ok (.getfield 77, 3) := dk_180 0 77 (dk_at dksX5_lendings_2 0 rfl rfl)
theorem dX5_lendings_51 : decode cX5_lendings 51 = .ok (.iload 4, 2) := dk_21 4 (dk_at dksX5_lendings_2 3 rfl rfl)
theorem dX5_lendings_53 : decode cX5_lendings 53 = .ok (.iaload, 1) := dk_46 (dk_at dksX5_lendings_2 5 rfl rfl)
theorem dX5_lendings_54 : decode cX5_lendings 54 = .ok (.iadd, 1) := dk_96 (dk_at dksX5_lendings_2 6 rfl rfl)
theorem dX5_lendings_55 : decode cX5_lendings 55 = .ok (.istore_n 2, 1) := dk_61 (dk_at dksX5_lendings_2 7 rfl rfl)
theorem dX5_lendings_56 : decode cX5_lendings 56 = .ok (.iinc 4 1, 3) := dk_132 4 1 (dk_at dksX5_lendings_2 8 rfl rfl)
theorem dX5_lendings_59 : decode cX5_lendings 59 = .ok (.goto (-22), 3) := dk_167 255 234 (dk_at dksX5_lendings_2 11 rfl rfl)
theorem dX5_lendings_62 : decode cX5_lendings 62 = .ok (.iload_n 3, 1) := dk_29 (dk_at dksX5_lendings_2 14 rfl rfl)
theorem dX5_lendings_63 : decode cX5_lendings 63 = .ok (.istore 4, 2) := dk_54 4 (dk_at dksX5_lendings_2 15 rfl rfl)
theorem dX5_lendings_65 : decode cX5_lendings 65 = .ok (.iload 4, 2) := dk_21 4 (dk_at dksX5_lendings_2 17 rfl rfl)
theorem dX5_lendings_67 : decode cX5_lendings 67 = .ok (.ifCond .lt 82, 3) := dk_155 0 82 (dk_at dksX5_lendings_2 19 rfl rfl)
theorem dX5_lendings_70 : decode cX5_lendings 70 = .ok (.aload_n 0, 1) := dk_42 (dk_at dksX5_lendings_2 22 rfl rfl)
theorem dX5_lendings_71 : decode cX5_lendings 71 = .ok (.getfield 83, 3) := dk_180 0 83 (dk_at dksX5_lendings_3 0 rfl rfl)
theorem dX5_lendings_74 : decode cX5_lendings 74 = .ok (.iload 4, 2) := dk_21 4 (dk_at dksX5_lendings_3 3 rfl rfl)
theorem dX5_lendings_76 : decode cX5_lendings 76 = .ok (.iload 4, 2) := dk_21 4 (dk_at dksX5_lendings_3 5 rfl rfl)
theorem dX5_lendings_78 : decode cX5_lendings 78 = .ok (.iload_n 3, 1) := dk_29 (dk_at dksX5_lendings_3 7 rfl rfl)
theorem dX5_lendings_79 : decode cX5_lendings 79 = .ok (.if_icmp .ne 7, 3) := dk_160 0 7 (dk_at dksX5_lendings_3 8 rfl rfl)
theorem dX5_lendings_82 : decode cX5_lendings 82 = .ok (.iconst 1, 1) := dk_4 (dk_at dksX5_lendings_3 11 rfl rfl)
theorem dX5_lendings_83 : decode cX5_lendings 83 = .ok (.goto 4, 3) := dk_167 0 4 (dk_at dksX5_lendings_3 12 rfl rfl)
theorem dX5_lendings_86 : decode cX5_lendings 86 = .ok (.iconst 0, 1) := dk_3 (dk_at dksX5_lendings_3 15 rfl rfl)
theorem dX5_lendings_87 : decode cX5_lendings 87 = .ok (.iastore, 1) := dk_79 (dk_at dksX5_lendings_3 16 rfl rfl)
theorem dX5_lendings_88 : decode cX5_lendings 88 = .ok (.iconst 0, 1) := dk_3 (dk_at dksX5_lendings_3 17 rfl rfl)
theorem dX5_lendings_89 : decode cX5_lendings 89 = .ok (.istore 5, 2) := dk_54 5 (dk_at dksX5_lendings_3 18 rfl rfl)
theorem dX5_lendings_91 : decode cX5_lendings 91 = .ok (.iload 5, 2) := dk_21 5 (dk_at dksX5_lendings_3 20 rfl rfl)
theorem dX5_lendings_93 : decode cX5_lendings 93 = .ok (.aload_n 0, 1) := dk_42 (dk_at dksX5_lendings_3 22 rfl rfl)
theorem dX5_lendings_94 : decode cX5_lendings 94 = .ok (.getfield 400, 3) := dk_180 1 144 (dk_at dksX5_lendings_4 0 rfl rfl)
theorem dX5_lendings_97 : decode cX5_lendings 97 = .ok (.if_icmp .ge 46, 3) := dk_162 0 46 (dk_at dksX5_lendings_4 3 rfl rfl)
theorem dX5_lendings_100 : decode cX5_lendings 100 = .ok (.aload_n 0, 1) := dk_42 (dk_at dksX5_lendings_4 6 rfl rfl)
theorem dX5_lendings_101 : decode cX5_lendings 101 = .ok (.getfield 83, 3) := dk_180 0 83 (dk_at dksX5_lendings_4 7 rfl rfl)
theorem dX5_lendings_104 : decode cX5_lendings 104 = .ok (.iload 4, 2) := dk_21 4 (dk_at dksX5_lendings_4 10 rfl rfl)
theorem dX5_lendings_106 : decode cX5_lendings 106 = .ok (.dup2, 1) := dk_92 (dk_at dksX5_lendings_4 12 rfl rfl)
theorem dX5_lendings_107 : decode cX5_lendings 107 = .ok (.iaload, 1) := dk_46 (dk_at dksX5_lendings_4 13 rfl rfl)
theorem dX5_lendings_108 : decode cX5_lendings 108 = .ok (.aload_n 0, 1) := dk_42 (dk_at dksX5_lendings_4 14 rfl rfl)
theorem dX5_lendings_109 : decode cX5_lendings 109 = .ok (.iload 4, 2) := dk_21 4 (dk_at dksX5_lendings_4 15 rfl rfl)
theorem dX5_lendings_111 : decode cX5_lendings 111 = .ok (.iload 5, 2) := dk_21 5 (dk_at dksX5_lendings_4 17 rfl rfl)
theorem dX5_lendings_113 : decode cX5_lendings 113 = .ok (.invokevirtual 415, 3) := dk_182 1 159 (dk_at dksX5_lendings_4 19 rfl rfl)
theorem dX5_lendings_116 : decode cX5_lendings 116 = .ok (.ifCond .eq 18, 3) := dk_153 0 18 (dk_at dksX5_lendings_5 0 rfl rfl)
theorem dX5_lendings_119 : decode cX5_lendings 119 = .ok (.aload_n 0, 1) := dk_42 (dk_at dksX5_lendings_5 3 rfl rfl)
theorem dX5_lendings_120 : decode cX5_lendings 120 = .ok (.getfield 83, 3) := dk_180 0 83 (dk_at dksX5_lendings_5 4 rfl rfl)
theorem dX5_lendings_123 : decode cX5_lendings 123 = .ok (.iload 4, 2) := dk_21 4 (dk_at dksX5_lendings_5 7 rfl rfl)
theorem dX5_lendings_125 : decode cX5_lendings 125 = .ok (.iconst 1, 1) := dk_4 (dk_at dksX5_lendings_5 9 rfl rfl)
theorem dX5_lendings_126 : decode cX5_lendings 126 = .ok (.iload 5, 2) := dk_21 5 (dk_at dksX5_lendings_5 10 rfl rfl)
theorem dX5_lendings_128 : decode cX5_lendings 128 = .ok (.ishl, 1) := dk_120 (dk_at dksX5_lendings_5 12 rfl rfl)
theorem dX5_lendings_129 : decode cX5_lendings 129 = .ok (.ior, 1) := dk_128 (dk_at dksX5_lendings_5 13 rfl rfl)
theorem dX5_lendings_130 : decode cX5_lendings 130 = .ok (.iaload, 1) := dk_46 (dk_at dksX5_lendings_5 14 rfl rfl)
theorem dX5_lendings_131 : decode cX5_lendings 131 = .ok (.goto 4, 3) := dk_167 0 4 (dk_at dksX5_lendings_5 15 rfl rfl)
theorem dX5_lendings_134 : decode cX5_lendings 134 = .ok (.iconst 0, 1) := dk_3 (dk_at dksX5_lendings_5 18 rfl rfl)
theorem dX5_lendings_135 : decode cX5_lendings 135 = .ok (.iadd, 1) := dk_96 (dk_at dksX5_lendings_5 19 rfl rfl)
theorem dX5_lendings_136 : decode cX5_lendings 136 = .ok (.iastore, 1) := dk_79 (dk_at dksX5_lendings_5 20 rfl rfl)
theorem dX5_lendings_137 : decode cX5_lendings 137 = .ok (.iinc 5 1, 3) := dk_132 5 1 (dk_at dksX5_lendings_5 21 rfl rfl)
theorem dX5_lendings_140 : decode cX5_lendings 140 = .ok (.goto (-49), 3) := dk_167 255 207 (dk_at dksX5_lendings_6 0 rfl rfl)
theorem dX5_lendings_143 : decode cX5_lendings 143 = .ok (.iinc 4 (-1), 3) := dk_132 4 255 (dk_at dksX5_lendings_6 3 rfl rfl)
theorem dX5_lendings_146 : decode cX5_lendings 146 = .ok (.goto (-81), 3) := dk_167 255 175 (dk_at dksX5_lendings_6 6 rfl rfl)
theorem dX5_lendings_149 : decode cX5_lendings 149 = .ok (.iload_n 1, 1) := dk_27 (dk_at dksX5_lendings_6 9 rfl rfl)
theorem dX5_lendings_150 : decode cX5_lendings 150 = .ok (.iconst 3, 1) := dk_6 (dk_at dksX5_lendings_6 10 rfl rfl)
theorem dX5_lendings_151 : decode cX5_lendings 151 = .ok (.if_icmp .ge 30, 3) := dk_162 0 30 (dk_at dksX5_lendings_6 11 rfl rfl)
theorem dX5_lendings_154 : decode cX5_lendings 154 = .ok (.iload_n 1, 1) := dk_27 (dk_at dksX5_lendings_6 14 rfl rfl)
theorem dX5_lendings_155 : decode cX5_lendings 155 = .ok (.ifCond .ne 10, 3) := dk_154 0 10 (dk_at dksX5_lendings_6 15 rfl rfl)
theorem dX5_lendings_158 : decode cX5_lendings 158 = .ok (.aload_n 0, 1) := dk_42 (dk_at dksX5_lendings_6 18 rfl rfl)
theorem dX5_lendings_159 : decode cX5_lendings 159 = .ok (.getfield 400, 3) := dk_180 1 144 (dk_at dksX5_lendings_6 19 rfl rfl)
theorem dX5_lendings_162 : decode cX5_lendings 162 = .ok (.goto 18, 3) := dk_167 0 18 (dk_at dksX5_lendings_7 0 rfl rfl)
theorem dX5_lendings_165 : decode cX5_lendings 165 = .ok (.iload_n 1, 1) := dk_27 (dk_at dksX5_lendings_7 3 rfl rfl)
theorem dX5_lendings_166 : decode cX5_lendings 166 = .ok (.iconst 1, 1) := dk_4 (dk_at dksX5_lendings_7 4 rfl rfl)
theorem dX5_lendings_167 : decode cX5_lendings 167 = .ok (.if_icmp .ne 7, 3) := dk_160 0 7 (dk_at dksX5_lendings_7 5 rfl rfl)
theorem dX5_lendings_170 : decode cX5_lendings 170 = .ok (.iload_n 2, 1) := dk_28 (dk_at dksX5_lendings_7 8 rfl rfl)
theorem dX5_lendings_171 : decode cX5_lendings 171 = .ok (.goto 9, 3) := dk_167 0 9 (dk_at dksX5_lendings_7 9 rfl rfl)
theorem dX5_lendings_174 : decode cX5_lendings 174 = .ok (.aload_n 0, 1) := dk_42 (dk_at dksX5_lendings_7 12 rfl rfl)
theorem dX5_lendings_175 : decode cX5_lendings 175 = .ok (.getfield 83, 3) := dk_180 0 83 (dk_at dksX5_lendings_7 13 rfl rfl)
theorem dX5_lendings_178 : decode cX5_lendings 178 = .ok (.iconst 0, 1) := dk_3 (dk_at dksX5_lendings_7 16 rfl rfl)
theorem dX5_lendings_179 : decode cX5_lendings 179 = .ok (.iaload, 1) := dk_46 (dk_at dksX5_lendings_7 17 rfl rfl)
theorem dX5_lendings_180 : decode cX5_lendings 180 = .ok (.ireturn, 1) := dk_172 (dk_at dksX5_lendings_7 18 rfl rfl)
theorem dX5_lendings_181 : decode cX5_lendings 181 = .ok (.aload_n 0, 1) := dk_42 (dk_at dksX5_lendings_7 19 rfl rfl)
theorem dX5_lendings_182 : decode cX5_lendings 182 = .ok (.getfield 83, 3) := dk_180 0 83 (dk_at dksX5_lendings_7 20 rfl rfl)
theorem dX5_lendings_185 : decode cX5_lendings 185 = .ok (.iconst 0, 1) := dk_3 (dk_at dksX5_lendings_7 23 rfl rfl)
theorem dX5_lendings_186 : decode cX5_lendings 186 = .ok (.iaload, 1) := dk_46 (dk_at dksX5_lendings_8 0 rfl rfl)
theorem dX5_lendings_187 : decode cX5_lendings 187 = .ok (.ifCond .ne 5, 3) := dk_154 0 5 (dk_at dksX5_lendings_8 1 rfl rfl)
theorem dX5_lendings_190 : decode cX5_lendings 190 = .ok (.iconst (-1), 1) := dk_2 (dk_at dksX5_lendings_8 4 rfl rfl)
theorem dX5_lendings_191 : decode cX5_lendings 191 = .ok (.ireturn, 1) := dk_172 (dk_at dksX5_lendings_8 5 rfl rfl)
theorem dX5_lendings_192 : decode cX5_lendings 192 = .ok (.iconst 0, 1) := dk_3 (dk_at dksX5_lendings_8 6 rfl rfl)
theorem dX5_lendings_193 : decode cX5_lendings 193 = .ok (.istore 4, 2) := dk_54 4 (dk_at dksX5_lendings_8 7 rfl rfl)
theorem dX5_lendings_195 : decode cX5_lendings 195 = .ok (.iconst 0, 1) := dk_3 (dk_at dksX5_lendings_8 9 rfl rfl)
theorem dX5_lendings_196 : decode cX5_lendings 196 = .ok (.istore 5, 2) := dk_54 5 (dk_at dksX5_lendings_8 10 rfl rfl)
theorem dX5_lendings_198 : decode cX5_lendings 198 = .ok (.iconst 3, 1) := dk_6 (dk_at dksX5_lendings_8 12 rfl rfl)
theorem dX5_lendings_199 : decode cX5_lendings 199 = .ok (.istore 6, 2) := dk_54 6 (dk_at dksX5_lendings_8 13 rfl rfl)
theorem dX5_lendings_201 : decode cX5_lendings 201 = .ok (.iload 6, 2) := dk_21 6 (dk_at dksX5_lendings_8 15 rfl rfl)
theorem dX5_lendings_203 : decode cX5_lendings 203 = .ok (.iload_n 1, 1) := dk_27 (dk_at dksX5_lendings_8 17 rfl rfl)
theorem dX5_lendings_204 : decode cX5_lendings 204 = .ok (.if_icmp .gt 53, 3) := dk_163 0 53 (dk_at dksX5_lendings_8 18 rfl rfl)
theorem dX5_lendings_207 : decode cX5_lendings 207 = .ok (.iconst 0, 1) := dk_3 (dk_at dksX5_lendings_8 21 rfl rfl)
theorem dX5_lendings_208 : decode cX5_lendings 208 = .ok (.istore 5, 2) := dk_54 5 (dk_at dksX5_lendings_8 22 rfl rfl)
theorem dX5_lendings_210 : decode cX5_lendings 210 = .ok (.aload_n 0, 1) := dk_42 (dk_at dksX5_lendings_9 0 rfl rfl)
theorem dX5_lendings_211 : decode cX5_lendings 211 = .ok (.iload 4, 2) := dk_21 4 (dk_at dksX5_lendings_9 1 rfl rfl)
theorem dX5_lendings_213 : decode cX5_lendings 213 = .ok (.iload 5, 2) := dk_21 5 (dk_at dksX5_lendings_9 3 rfl rfl)
theorem dX5_lendings_215 : decode cX5_lendings 215 = .ok (.invokevirtual 415, 3) := dk_182 1 159 (dk_at dksX5_lendings_9 5 rfl rfl)
theorem dX5_lendings_218 : decode cX5_lendings 218 = .ok (.ifCond .eq 18, 3) := dk_153 0 18 (dk_at dksX5_lendings_9 8 rfl rfl)
theorem dX5_lendings_221 : decode cX5_lendings 221 = .ok (.aload_n 0, 1) := dk_42 (dk_at dksX5_lendings_9 11 rfl rfl)
theorem dX5_lendings_222 : decode cX5_lendings 222 = .ok (.getfield 83, 3) := dk_180 0 83 (dk_at dksX5_lendings_9 12 rfl rfl)
theorem dX5_lendings_225 : decode cX5_lendings 225 = .ok (.iload 4, 2) := dk_21 4 (dk_at dksX5_lendings_9 15 rfl rfl)
theorem dX5_lendings_227 : decode cX5_lendings 227 = .ok (.iconst 1, 1) := dk_4 (dk_at dksX5_lendings_9 17 rfl rfl)
theorem dX5_lendings_228 : decode cX5_lendings 228 = .ok (.iload 5, 2) := dk_21 5 (dk_at dksX5_lendings_9 18 rfl rfl)
theorem dX5_lendings_230 : decode cX5_lendings 230 = .ok (.ishl, 1) := dk_120 (dk_at dksX5_lendings_9 20 rfl rfl)
theorem dX5_lendings_231 : decode cX5_lendings 231 = .ok (.ior, 1) := dk_128 (dk_at dksX5_lendings_9 21 rfl rfl)
theorem dX5_lendings_232 : decode cX5_lendings 232 = .ok (.iaload, 1) := dk_46 (dk_at dksX5_lendings_9 22 rfl rfl)
theorem dX5_lendings_233 : decode cX5_lendings 233 = .ok (.ifCond .ne 9, 3) := dk_154 0 9 (dk_at dksX5_lendings_10 0 rfl rfl)
theorem dX5_lendings_236 : decode cX5_lendings 236 = .ok (.iinc 5 1, 3) := dk_132 5 1 (dk_at dksX5_lendings_10 3 rfl rfl)
theorem dX5_lendings_239 : decode cX5_lendings 239 = .ok (.goto (-29), 3) := dk_167 255 227 (dk_at dksX5_lendings_10 6 rfl rfl)
theorem dX5_lendings_242 : decode cX5_lendings 242 = .ok (.iload 4, 2) := dk_21 4 (dk_at dksX5_lendings_10 9 rfl rfl)
theorem dX5_lendings_244 : decode cX5_lendings 244 = .ok (.iconst 1, 1) := dk_4 (dk_at dksX5_lendings_10 11 rfl rfl)
theorem dX5_lendings_245 : decode cX5_lendings 245 = .ok (.iload 5, 2) := dk_21 5 (dk_at dksX5_lendings_10 12 rfl rfl)
theorem dX5_lendings_247 : decode cX5_lendings 247 = .ok (.ishl, 1) := dk_120 (dk_at dksX5_lendings_10 14 rfl rfl)
theorem dX5_lendings_248 : decode cX5_lendings 248 = .ok (.ior, 1) := dk_128 (dk_at dksX5_lendings_10 15 rfl rfl)
theorem dX5_lendings_249 : decode cX5_lendings 249 = .ok (.istore 4, 2) := dk_54 4 (dk_at dksX5_lendings_10 16 rfl rfl)
theorem dX5_lendings_251 : decode cX5_lendings 251 = .ok (.iinc 6 1, 3) := dk_132 6 1 (dk_at dksX5_lendings_10 18 rfl rfl)
theorem dX5_lendings_254 : decode cX5_lendings 254 = .ok (.goto (-53), 3) := dk_167 255 203 (dk_at dksX5_lendings_10 21 rfl rfl)
theorem dX5_lendings_257 : decode cX5_lendings 257 = .ok (.aload_n 0, 1) := dk_42 (dk_at dksX5_lendings_11 0 rfl rfl)
theorem dX5_lendings_258 : decode cX5_lendings 258 = .ok (.getfield 80, 3) := dk_180 0 80 (dk_at dksX5_lendings_11 1 rfl rfl)
theorem dX5_lendings_261 : decode cX5_lendings 261 = .ok (.iload 5, 2) := dk_21 5 (dk_at dksX5_lendings_11 4 rfl rfl)
theorem dX5_lendings_263 : decode cX5_lendings 263 = .ok (.iaload, 1) := dk_46 (dk_at dksX5_lendings_11 6 rfl rfl)
theorem dX5_lendings_264 : decode cX5_lendings 264 = .ok (.ireturn, 1) := dk_172 (dk_at dksX5_lendings_11 7 rfl rfl)
noncomputable def f_X5_lendings_21 (E : ax_E) (h : ax_H) : Option (Int × ax_H) :=
  some ((-1), h)
noncomputable def f_X5_lendings_135 (E : ax_E) (x0 : Option Nat) (x1 : Int) (x2 : Int) (x3 : Int) (x4 : Int) (x5 : Int) (s0 : Option Nat) (s1 : Int) (s2 : Int) (s3 : Int) (h : ax_H) : Option ((Int × ax_H) ⊕ ((Int × ax_H) ⊕ (Int × ax_H))) :=
  (ax_sto h s0 100 s1 (s2 + s3)).bind fun h1 =>
  some (.inl ((x5 + 1), h1))
noncomputable def lb_X5_lendings_91 (E : ax_E) (x0 : Option Nat) (x1 : Int) (x2 : Int) (x3 : Int) (x4 : Int) (x5 : Int) (h : ax_H) : Option ((Int × ax_H) ⊕ ((Int × ax_H) ⊕ (Int × ax_H))) :=
  (ax_gI E h x0 5 34).bind fun v1 =>
  if i2 x5 < i2 v1 then
    (ax_gR E h x0 5 33).bind fun v2 =>
    (ax_ld E h v2 100 x4).bind fun v3 =>
    (ax_ce E h x0 5).bind fun _ => (f_X5_mayLend E x0 x4 x5 h).bind fun q4 =>
    if i2 q4.1 = 0 then
      f_X5_lendings_135 E x0 x1 x2 x3 x4 x5 v2 x4 v3 0 q4.2
    else
      (ax_gR E q4.2 x0 5 33).bind fun v5 =>
      (ax_ld E q4.2 v5 100 (ax_or x4 (ax_shl 1 x5))).bind fun v6 =>
      f_X5_lendings_135 E x0 x1 x2 x3 x4 x5 v2 x4 v3 v6 q4.2
  else
    (some (.inl ((x4 + (-1)), h))).map Sum.inr
noncomputable def f_X5_lendings_91 (E : ax_E) (x0 : Option Nat) (x1 : Int) (x2 : Int) (x3 : Int) (x4 : Int) (x5 : Int) (h : ax_H) : Option ((Int × ax_H) ⊕ (Int × ax_H)) :=
  ax_iter (fun s : Int × ax_H => lb_X5_lendings_91 E x0 x1 x2 x3 x4 s.1 s.2) (x5, h)
noncomputable def f_X5_lendings_87 (E : ax_E) (x0 : Option Nat) (x1 : Int) (x2 : Int) (x3 : Int) (x4 : Int) (s0 : Option Nat) (s1 : Int) (s2 : Int) (h : ax_H) : Option ((Int × ax_H) ⊕ (Int × ax_H)) :=
  (ax_sto h s0 100 s1 s2).bind fun h1 =>
  f_X5_lendings_91 E x0 x1 x2 x3 x4 0 h1
noncomputable def f_X5_lendings_236 (E : ax_E) (x0 : Option Nat) (x1 : Int) (x4 : Int) (x5 : Int) (x6 : Int) (h : ax_H) : Option ((Int × ax_H) ⊕ ((Int × Int × Int × ax_H) ⊕ (Int × ax_H))) :=
  some (.inl ((x5 + 1), h))
noncomputable def lb_X5_lendings_210 (E : ax_E) (x0 : Option Nat) (x1 : Int) (x4 : Int) (x5 : Int) (x6 : Int) (h : ax_H) : Option ((Int × ax_H) ⊕ ((Int × Int × Int × ax_H) ⊕ (Int × ax_H))) :=
  (ax_ce E h x0 5).bind fun _ => (f_X5_mayLend E x0 x4 x5 h).bind fun q1 =>
  if i2 q1.1 = 0 then
    f_X5_lendings_236 E x0 x1 x4 x5 x6 q1.2
  else
    (ax_gR E q1.2 x0 5 33).bind fun v2 =>
    (ax_ld E q1.2 v2 100 (ax_or x4 (ax_shl 1 x5))).bind fun v3 =>
    if i2 v3 = 0 then
      f_X5_lendings_236 E x0 x1 x4 x5 x6 q1.2
    else
      (some (.inl ((ax_or x4 (ax_shl 1 x5)), x5, (x6 + 1), q1.2))).map Sum.inr
noncomputable def f_X5_lendings_210 (E : ax_E) (x0 : Option Nat) (x1 : Int) (x4 : Int) (x5 : Int) (x6 : Int) (h : ax_H) : Option ((Int × Int × Int × ax_H) ⊕ (Int × ax_H)) :=
  ax_iter (fun s : Int × ax_H => lb_X5_lendings_210 E x0 x1 x4 s.1 x6 s.2) (x5, h)
noncomputable def lb_X5_lendings_201 (E : ax_E) (x0 : Option Nat) (x1 : Int) (x4 : Int) (x5 : Int) (x6 : Int) (h : ax_H) : Option ((Int × Int × Int × ax_H) ⊕ (Int × ax_H)) :=
  if i2 x1 < i2 x6 then
    ((ax_gR E h x0 5 32).bind fun v1 =>
    (ax_ld E h v1 100 x5).bind fun v2 =>
    some (v2, h)).map Sum.inr
  else
    f_X5_lendings_210 E x0 x1 x4 0 x6 h
noncomputable def f_X5_lendings_201 (E : ax_E) (x0 : Option Nat) (x1 : Int) (x4 : Int) (x5 : Int) (x6 : Int) (h : ax_H) : Option (Int × ax_H) :=
  ax_iter (fun s : Int × Int × Int × ax_H => lb_X5_lendings_201 E x0 x1 s.1 s.2.1 s.2.2.1 s.2.2.2) (x4, x5, x6, h)
noncomputable def lb_X5_lendings_65 (E : ax_E) (x0 : Option Nat) (x1 : Int) (x2 : Int) (x3 : Int) (x4 : Int) (h : ax_H) : Option ((Int × ax_H) ⊕ (Int × ax_H)) :=
  if i2 x4 < 0 then
    (if i2 x1 < i2 3 then
      if i2 x1 = 0 then
        (ax_gI E h x0 5 34).bind fun v1 =>
        some (v1, h)
      else
        if i2 x1 = i2 1 then
          some (x2, h)
        else
          (ax_gR E h x0 5 33).bind fun v2 =>
          (ax_ld E h v2 100 0).bind fun v3 =>
          some (v3, h)
    else
      (ax_gR E h x0 5 33).bind fun v4 =>
      (ax_ld E h v4 100 0).bind fun v5 =>
      if i2 v5 = 0 then
        some ((-1), h)
      else
        f_X5_lendings_201 E x0 x1 0 0 3 h).map Sum.inr
  else
    (ax_gR E h x0 5 33).bind fun v6 =>
    if i2 x4 = i2 x3 then
      f_X5_lendings_87 E x0 x1 x2 x3 x4 v6 x4 1 h
    else
      f_X5_lendings_87 E x0 x1 x2 x3 x4 v6 x4 0 h
noncomputable def f_X5_lendings_65 (E : ax_E) (x0 : Option Nat) (x1 : Int) (x2 : Int) (x3 : Int) (x4 : Int) (h : ax_H) : Option (Int × ax_H) :=
  ax_iter (fun s : Int × ax_H => lb_X5_lendings_65 E x0 x1 x2 x3 s.1 s.2) (x4, h)
noncomputable def lb_X5_lendings_37 (E : ax_E) (x0 : Option Nat) (x1 : Int) (x2 : Int) (x3 : Int) (x4 : Int) (h : ax_H) : Option ((Int × Int × ax_H) ⊕ (Int × ax_H)) :=
  (ax_gI E h x0 5 34).bind fun v1 =>
  if i2 x4 < i2 v1 then
    (ax_gR E h x0 5 31).bind fun v2 =>
    (ax_ld E h v2 100 x4).bind fun v3 =>
    some (.inl ((x2 + v3), (x4 + 1), h))
  else
    (f_X5_lendings_65 E x0 x1 x2 x3 x3 h).map Sum.inr
noncomputable def f_X5_lendings_37 (E : ax_E) (x0 : Option Nat) (x1 : Int) (x2 : Int) (x3 : Int) (x4 : Int) (h : ax_H) : Option (Int × ax_H) :=
  ax_iter (fun s : Int × Int × ax_H => lb_X5_lendings_37 E x0 x1 s.1 x3 s.2.1 s.2.2) (x2, x4, h)
noncomputable def f_X5_lendings (E : ax_E) (x0 : Option Nat) (x1 : Int) (h : ax_H) : Option (Int × ax_H) :=
  (ax_ce E h x0 5).bind fun _ => (f_X5_listsLendings E x0 h).bind fun q1 =>
  if i2 q1.1 = 0 then
    f_X5_lendings_21 E q1.2
  else
    (ax_gI E q1.2 x0 5 34).bind fun v2 =>
    (f_X5_lies E x1 0 (2 + v2) q1.2).bind fun q3 =>
    if i2 q3.1 = 0 then
      f_X5_lendings_21 E q3.2
    else
      (ax_gI E q3.2 x0 5 34).bind fun v4 =>
      f_X5_lendings_37 E x0 x1 0 ((ax_shl 1 v4) - 1) 0 q3.2
def pi_X5_lendings_91 (G : ax_G) (X : ax_X) (Q : State → Prop) (x0 : Option Nat) (x1 : Int) (x2 : Int) (x3 : Int) (x4 : Int) : Int × ax_H → Prop := fun s => ∀ ls : Array Slot, ax_hl ls 7 [(0, .inr (.inr x0)), (1, .inl x1), (2, .inl x2), (3, .inl x3), (4, .inl x4), (5, .inl s.1)] → ax_W G X Q s.2 91 ls []
def pi_X5_lendings_210 (G : ax_G) (X : ax_X) (Q : State → Prop) (x0 : Option Nat) (x1 : Int) (x4 : Int) (x6 : Int) : Int × ax_H → Prop := fun s => ∀ ls : Array Slot, ax_hl ls 7 [(0, .inr (.inr x0)), (1, .inl x1), (4, .inl x4), (5, .inl s.1), (6, .inl x6)] → ax_W G X Q s.2 210 ls []
def pi_X5_lendings_201 (G : ax_G) (X : ax_X) (Q : State → Prop) (x0 : Option Nat) (x1 : Int) : Int × Int × Int × ax_H → Prop := fun s => ∀ ls : Array Slot, ax_hl ls 7 [(0, .inr (.inr x0)), (1, .inl x1), (4, .inl s.1), (5, .inl s.2.1), (6, .inl s.2.2.1)] → ax_W G X Q s.2.2.2 201 ls []
def pi_X5_lendings_65 (G : ax_G) (X : ax_X) (Q : State → Prop) (x0 : Option Nat) (x1 : Int) (x2 : Int) (x3 : Int) : Int × ax_H → Prop := fun s => ∀ ls : Array Slot, ax_hl ls 7 [(0, .inr (.inr x0)), (1, .inl x1), (2, .inl x2), (3, .inl x3), (4, .inl s.1)] → ax_W G X Q s.2 65 ls []
def pi_X5_lendings_37 (G : ax_G) (X : ax_X) (Q : State → Prop) (x0 : Option Nat) (x1 : Int) (x3 : Int) : Int × Int × ax_H → Prop := fun s => ∀ ls : Array Slot, ax_hl ls 7 [(0, .inr (.inr x0)), (1, .inl x1), (2, .inl s.1), (3, .inl x3), (4, .inl s.2.1)] → ax_W G X Q s.2.2 37 ls []
set_option maxHeartbeats 4000000 in
theorem w_X5_lendings_21 {l : Launch} {G : ax_G} {X : ax_X} {Q : State → Prop} {h0 h : ax_H} {ls : Array Slot} (hSF : ax_SF G) (B : ax_BL l G X cX5_lendings 7 RX5 137 3569) (Z : ax_Z X h0 ((some FieldType.int))) (hn : X.2.2.2.2.2.2.2.2.1.name = yX5_lendings.name) {w : Int × ax_H} (hl : ax_hl ls 7 []) (e : f_X5_lendings_21 G.2.2 h = some w) (hp : (fun w : Int × ax_H => Q = ax_Q G X h0 w.2 (some (.int (Int32.ofInt w.1)))) w) : ax_W G X Q h 21 ls [] := by
  unfold f_X5_lendings_21 at e
  refine ax_iconst B dX5_lendings_21 ?_
  have e8 := e
  have hp : Q = _ := hp
  subst hp
  exact ax_ireturn B Z dX5_lendings_22 e8
set_option maxHeartbeats 4000000 in
theorem w_X5_lendings_135 {l : Launch} {G : ax_G} {X : ax_X} {Q : State → Prop} {h0 h : ax_H} {ls : Array Slot} (hSF : ax_SF G) (B : ax_BL l G X cX5_lendings 7 RX5 137 3569) (Z : ax_Z X h0 ((some FieldType.int))) (hn : X.2.2.2.2.2.2.2.2.1.name = yX5_lendings.name) (x0 : Option Nat) (x1 : Int) (x2 : Int) (x3 : Int) (x4 : Int) (x5 : Int) (s0 : Option Nat) (s1 : Int) (s2 : Int) (s3 : Int) {w : (Int × ax_H) ⊕ ((Int × ax_H) ⊕ (Int × ax_H))} (hl : ax_hl ls 7 [(0, .inr (.inr x0)), (1, .inl x1), (2, .inl x2), (3, .inl x3), (4, .inl x4), (5, .inl x5)]) (e : f_X5_lendings_135 G.2.2 x0 x1 x2 x3 x4 x5 s0 s1 s2 s3 h = some w) (hp : (ax_PL (pi_X5_lendings_91 G X Q x0 x1 x2 x3 x4) (ax_PL (pi_X5_lendings_65 G X Q x0 x1 x2 x3) (fun w : Int × ax_H => Q = ax_Q G X h0 w.2 (some (.int (Int32.ofInt w.1)))))) w) : ax_W G X Q h 135 ls [.int (Int32.ofInt s3), .int (Int32.ofInt s2), .int (Int32.ofInt s1), va_rf s0] := by
  unfold f_X5_lendings_135 at e
  refine ax_iadd' B dX5_lendings_135 ?_
  refine ax_iast B kd100 dX5_lendings_136 e (fun h1 e => ?_)
  refine ax_iinc (L' := [(5, .inl (x5 + 1)), (0, .inr (.inr x0)), (1, .inl x1), (2, .inl x2), (3, .inl x3), (4, .inl x4)]) B dX5_lendings_137 hl 5 rfl (by decide) rfl (fun ls hl => ?_)
  refine ax_goto (tgt := 91) B dX5_lendings_140 (by decide) ?_
  cases e
  exact hp _ (hl.sub [1, 2, 3, 4, 5, 0] rfl)
set_option maxHeartbeats 4000000 in
theorem wb_X5_lendings_91 {l : Launch} {G : ax_G} {X : ax_X} {Q : State → Prop} {h0 h : ax_H} {ls : Array Slot} (hSF : ax_SF G) (B : ax_BL l G X cX5_lendings 7 RX5 137 3569) (Z : ax_Z X h0 ((some FieldType.int))) (hn : X.2.2.2.2.2.2.2.2.1.name = yX5_lendings.name) (x0 : Option Nat) (x1 : Int) (x2 : Int) (x3 : Int) (x4 : Int) (x5 : Int) {w : (Int × ax_H) ⊕ ((Int × ax_H) ⊕ (Int × ax_H))} (hl : ax_hl ls 7 [(0, .inr (.inr x0)), (1, .inl x1), (2, .inl x2), (3, .inl x3), (4, .inl x4), (5, .inl x5)]) (e : lb_X5_lendings_91 G.2.2 x0 x1 x2 x3 x4 x5 h = some w) (hp : (ax_PL (pi_X5_lendings_91 G X Q x0 x1 x2 x3 x4) (ax_PL (pi_X5_lendings_65 G X Q x0 x1 x2 x3) (fun w : Int × ax_H => Q = ax_Q G X h0 w.2 (some (.int (Int32.ofInt w.1)))))) w) : ax_W G X Q h 91 ls [] := by
  unfold lb_X5_lendings_91 at e
  refine ax_iload B dX5_lendings_91 hl 5 rfl ?_
  refine ax_aload_n B dX5_lendings_93 rfl hl 0 rfl ?_
  refine ax_getI B ff_X5_400_5 (fun _ _ => rfl) dX5_lendings_94 e (fun v1 e => ?_)
  refine ax_icmp_ge (tgt := 143) B dX5_lendings_97 (by decide) e (fun e => ?_) (fun e => ?_)
  · refine ax_aload_n B dX5_lendings_100 rfl hl 0 rfl ?_
    refine ax_getR B ff_X5_83_5 (fun _ _ => rfl) dX5_lendings_101 e (fun v2 e => ?_)
    refine ax_iload B dX5_lendings_104 hl 4 rfl ?_
    refine ax_dup2 B dX5_lendings_106 (rfl) (va_rf_cat _) ?_
    refine ax_iald B kd100 dX5_lendings_107 e (fun v3 e => ?_)
    refine ax_aload_n B dX5_lendings_108 rfl hl 0 rfl ?_
    refine ax_iload B dX5_lendings_109 hl 4 rfl ?_
    refine ax_iload B dX5_lendings_111 hl 5 rfl ?_
    refine ax_ivI (y := yX5_mayLend) (n := 2) (As := [.int (Int32.ofInt x4), .int (Int32.ofInt x5)]) B kd5 (lw_V q2558 q2560 qs108 q133 q2561) (by decide +kernel) ⟨Nat.le_of_ble_eq_true rfl, Nat.le_of_ble_eq_true rfl⟩ (fun w1 e1 => mt_X5_mayLend l G hSF x0 x4 x5 _ w1 e1) rfl hl.size (by simp only [List.map_cons, List.map_nil, List.sum_cons, List.sum_nil, va_rf_cat, ax_catI, ax_catL]; decide) dX5_lendings_113 e (fun q4 e => ?_)
    refine ax_if_eq (tgt := 134) B dX5_lendings_116 (by decide) e (fun e => ?_) (fun e => ?_)
    · refine ax_iconst B dX5_lendings_134 ?_
      exact w_X5_lendings_135 hSF B Z hn x0 x1 x2 x3 x4 x5 v2 x4 v3 0 (hl.sub [0, 1, 2, 3, 4, 5] rfl) e hp
    · refine ax_aload_n B dX5_lendings_119 rfl hl 0 rfl ?_
      refine ax_getR B ff_X5_83_5 (fun _ _ => rfl) dX5_lendings_120 e (fun v5 e => ?_)
      refine ax_iload B dX5_lendings_123 hl 4 rfl ?_
      refine ax_iconst B dX5_lendings_125 ?_
      refine ax_iload B dX5_lendings_126 hl 5 rfl ?_
      refine ax_ishl' B dX5_lendings_128 ?_
      refine ax_ior' B dX5_lendings_129 ?_
      refine ax_iald B kd100 dX5_lendings_130 e (fun v6 e => ?_)
      refine ax_goto (tgt := 135) B dX5_lendings_131 (by decide) ?_
      exact w_X5_lendings_135 hSF B Z hn x0 x1 x2 x3 x4 x5 v2 x4 v3 v6 (hl.sub [0, 1, 2, 3, 4, 5] rfl) e hp
  · obtain ⟨w, e9_1, rfl⟩ := Option.map_eq_some_iff.mp e
    have e := e9_1
    refine ax_iinc (L' := [(4, .inl (x4 + (-1))), (0, .inr (.inr x0)), (1, .inl x1), (2, .inl x2), (3, .inl x3), (5, .inl x5)]) B dX5_lendings_143 hl 4 rfl (by decide) rfl (fun ls hl => ?_)
    refine ax_goto (tgt := 65) B dX5_lendings_146 (by decide) ?_
    cases e
    exact hp _ (hl.sub [1, 2, 3, 4, 0] rfl)
theorem w_X5_lendings_91 {l : Launch} {G : ax_G} {X : ax_X} {Q : State → Prop} {h0 h : ax_H} {ls : Array Slot} (hSF : ax_SF G) (B : ax_BL l G X cX5_lendings 7 RX5 137 3569) (Z : ax_Z X h0 ((some FieldType.int))) (hn : X.2.2.2.2.2.2.2.2.1.name = yX5_lendings.name) (x0 : Option Nat) (x1 : Int) (x2 : Int) (x3 : Int) (x4 : Int) (x5 : Int) {w : (Int × ax_H) ⊕ (Int × ax_H)} (hl : ax_hl ls 7 [(0, .inr (.inr x0)), (1, .inl x1), (2, .inl x2), (3, .inl x3), (4, .inl x4), (5, .inl x5)]) (e : f_X5_lendings_91 G.2.2 x0 x1 x2 x3 x4 x5 h = some w) (hp : (ax_PL (pi_X5_lendings_65 G X Q x0 x1 x2 x3) (fun w : Int × ax_H => Q = ax_Q G X h0 w.2 (some (.int (Int32.ofInt w.1))))) w) : ax_W G X Q h 91 ls [] :=
  ax_iter_W (Pin := pi_X5_lendings_91 G X Q x0 x1 x2 x3 x4) (Pout := (ax_PL (pi_X5_lendings_65 G X Q x0 x1 x2 x3) (fun w : Int × ax_H => Q = ax_Q G X h0 w.2 (some (.int (Int32.ofInt w.1)))))) (fun s w e hp ls hl => wb_X5_lendings_91 hSF B Z hn x0 x1 x2 x3 x4 s.1 hl e hp) _ _ e hp ls hl
set_option maxHeartbeats 4000000 in
theorem w_X5_lendings_87 {l : Launch} {G : ax_G} {X : ax_X} {Q : State → Prop} {h0 h : ax_H} {ls : Array Slot} (hSF : ax_SF G) (B : ax_BL l G X cX5_lendings 7 RX5 137 3569) (Z : ax_Z X h0 ((some FieldType.int))) (hn : X.2.2.2.2.2.2.2.2.1.name = yX5_lendings.name) (x0 : Option Nat) (x1 : Int) (x2 : Int) (x3 : Int) (x4 : Int) (s0 : Option Nat) (s1 : Int) (s2 : Int) {w : (Int × ax_H) ⊕ (Int × ax_H)} (hl : ax_hl ls 7 [(0, .inr (.inr x0)), (1, .inl x1), (2, .inl x2), (3, .inl x3), (4, .inl x4)]) (e : f_X5_lendings_87 G.2.2 x0 x1 x2 x3 x4 s0 s1 s2 h = some w) (hp : (ax_PL (pi_X5_lendings_65 G X Q x0 x1 x2 x3) (fun w : Int × ax_H => Q = ax_Q G X h0 w.2 (some (.int (Int32.ofInt w.1))))) w) : ax_W G X Q h 87 ls [.int (Int32.ofInt s2), .int (Int32.ofInt s1), va_rf s0] := by
  unfold f_X5_lendings_87 at e
  refine ax_iast B kd100 dX5_lendings_87 e (fun h1 e => ?_)
  refine ax_iconst B dX5_lendings_88 ?_
  refine ax_istore (L' := [(5, .inl 0), (0, .inr (.inr x0)), (1, .inl x1), (2, .inl x2), (3, .inl x3), (4, .inl x4)]) B dX5_lendings_89 hl (by decide) rfl (fun ls hl => ?_)
  exact w_X5_lendings_91 hSF B Z hn x0 x1 x2 x3 x4 0 (hl.sub [1, 2, 3, 4, 5, 0] rfl) e hp
set_option maxHeartbeats 4000000 in
theorem w_X5_lendings_236 {l : Launch} {G : ax_G} {X : ax_X} {Q : State → Prop} {h0 h : ax_H} {ls : Array Slot} (hSF : ax_SF G) (B : ax_BL l G X cX5_lendings 7 RX5 137 3569) (Z : ax_Z X h0 ((some FieldType.int))) (hn : X.2.2.2.2.2.2.2.2.1.name = yX5_lendings.name) (x0 : Option Nat) (x1 : Int) (x4 : Int) (x5 : Int) (x6 : Int) {w : (Int × ax_H) ⊕ ((Int × Int × Int × ax_H) ⊕ (Int × ax_H))} (hl : ax_hl ls 7 [(0, .inr (.inr x0)), (1, .inl x1), (4, .inl x4), (5, .inl x5), (6, .inl x6)]) (e : f_X5_lendings_236 G.2.2 x0 x1 x4 x5 x6 h = some w) (hp : (ax_PL (pi_X5_lendings_210 G X Q x0 x1 x4 x6) (ax_PL (pi_X5_lendings_201 G X Q x0 x1) (fun w : Int × ax_H => Q = ax_Q G X h0 w.2 (some (.int (Int32.ofInt w.1)))))) w) : ax_W G X Q h 236 ls [] := by
  unfold f_X5_lendings_236 at e
  refine ax_iinc (L' := [(5, .inl (x5 + 1)), (0, .inr (.inr x0)), (1, .inl x1), (4, .inl x4), (6, .inl x6)]) B dX5_lendings_236 hl 3 rfl (by decide) rfl (fun ls hl => ?_)
  refine ax_goto (tgt := 210) B dX5_lendings_239 (by decide) ?_
  cases e
  exact hp _ (hl.sub [1, 2, 3, 0, 4] rfl)
set_option maxHeartbeats 4000000 in
theorem wb_X5_lendings_210 {l : Launch} {G : ax_G} {X : ax_X} {Q : State → Prop} {h0 h : ax_H} {ls : Array Slot} (hSF : ax_SF G) (B : ax_BL l G X cX5_lendings 7 RX5 137 3569) (Z : ax_Z X h0 ((some FieldType.int))) (hn : X.2.2.2.2.2.2.2.2.1.name = yX5_lendings.name) (x0 : Option Nat) (x1 : Int) (x4 : Int) (x5 : Int) (x6 : Int) {w : (Int × ax_H) ⊕ ((Int × Int × Int × ax_H) ⊕ (Int × ax_H))} (hl : ax_hl ls 7 [(0, .inr (.inr x0)), (1, .inl x1), (4, .inl x4), (5, .inl x5), (6, .inl x6)]) (e : lb_X5_lendings_210 G.2.2 x0 x1 x4 x5 x6 h = some w) (hp : (ax_PL (pi_X5_lendings_210 G X Q x0 x1 x4 x6) (ax_PL (pi_X5_lendings_201 G X Q x0 x1) (fun w : Int × ax_H => Q = ax_Q G X h0 w.2 (some (.int (Int32.ofInt w.1)))))) w) : ax_W G X Q h 210 ls [] := by
  unfold lb_X5_lendings_210 at e
  refine ax_aload_n B dX5_lendings_210 rfl hl 0 rfl ?_
  refine ax_iload B dX5_lendings_211 hl 2 rfl ?_
  refine ax_iload B dX5_lendings_213 hl 3 rfl ?_
  refine ax_ivI (y := yX5_mayLend) (n := 2) (As := [.int (Int32.ofInt x4), .int (Int32.ofInt x5)]) B kd5 (lw_V q2558 q2560 qs108 q133 q2561) (by decide +kernel) ⟨Nat.le_of_ble_eq_true rfl, Nat.le_of_ble_eq_true rfl⟩ (fun w1 e1 => mt_X5_mayLend l G hSF x0 x4 x5 _ w1 e1) rfl hl.size (by decide) dX5_lendings_215 e (fun q1 e => ?_)
  refine ax_if_eq (tgt := 236) B dX5_lendings_218 (by decide) e (fun e => ?_) (fun e => ?_)
  · exact w_X5_lendings_236 hSF B Z hn x0 x1 x4 x5 x6 (hl.sub [0, 1, 2, 3, 4] rfl) e hp
  · refine ax_aload_n B dX5_lendings_221 rfl hl 0 rfl ?_
    refine ax_getR B ff_X5_83_5 (fun _ _ => rfl) dX5_lendings_222 e (fun v2 e => ?_)
    refine ax_iload B dX5_lendings_225 hl 2 rfl ?_
    refine ax_iconst B dX5_lendings_227 ?_
    refine ax_iload B dX5_lendings_228 hl 3 rfl ?_
    refine ax_ishl' B dX5_lendings_230 ?_
    refine ax_ior' B dX5_lendings_231 ?_
    refine ax_iald B kd100 dX5_lendings_232 e (fun v3 e => ?_)
    refine ax_if_ne (tgt := 242) B dX5_lendings_233 (by decide) e (fun e => ?_) (fun e => ?_)
    · exact w_X5_lendings_236 hSF B Z hn x0 x1 x4 x5 x6 (hl.sub [0, 1, 2, 3, 4] rfl) e hp
    · obtain ⟨w, e9_2, rfl⟩ := Option.map_eq_some_iff.mp e
      have e := e9_2
      refine ax_iload B dX5_lendings_242 hl 2 rfl ?_
      refine ax_iconst B dX5_lendings_244 ?_
      refine ax_iload B dX5_lendings_245 hl 3 rfl ?_
      refine ax_ishl' B dX5_lendings_247 ?_
      refine ax_ior' B dX5_lendings_248 ?_
      refine ax_istore (L' := [(4, .inl (ax_or x4 (ax_shl 1 x5))), (0, .inr (.inr x0)), (1, .inl x1), (5, .inl x5), (6, .inl x6)]) B dX5_lendings_249 hl (by decide) rfl (fun ls hl => ?_)
      refine ax_iinc (L' := [(6, .inl (x6 + 1)), (4, .inl (ax_or x4 (ax_shl 1 x5))), (0, .inr (.inr x0)), (1, .inl x1), (5, .inl x5)]) B dX5_lendings_251 hl 4 rfl (by decide) rfl (fun ls hl => ?_)
      refine ax_goto (tgt := 201) B dX5_lendings_254 (by decide) ?_
      cases e
      exact hp _ (hl.sub [2, 3, 1, 4, 0] rfl)
theorem w_X5_lendings_210 {l : Launch} {G : ax_G} {X : ax_X} {Q : State → Prop} {h0 h : ax_H} {ls : Array Slot} (hSF : ax_SF G) (B : ax_BL l G X cX5_lendings 7 RX5 137 3569) (Z : ax_Z X h0 ((some FieldType.int))) (hn : X.2.2.2.2.2.2.2.2.1.name = yX5_lendings.name) (x0 : Option Nat) (x1 : Int) (x4 : Int) (x5 : Int) (x6 : Int) {w : (Int × Int × Int × ax_H) ⊕ (Int × ax_H)} (hl : ax_hl ls 7 [(0, .inr (.inr x0)), (1, .inl x1), (4, .inl x4), (5, .inl x5), (6, .inl x6)]) (e : f_X5_lendings_210 G.2.2 x0 x1 x4 x5 x6 h = some w) (hp : (ax_PL (pi_X5_lendings_201 G X Q x0 x1) (fun w : Int × ax_H => Q = ax_Q G X h0 w.2 (some (.int (Int32.ofInt w.1))))) w) : ax_W G X Q h 210 ls [] :=
  ax_iter_W (Pin := pi_X5_lendings_210 G X Q x0 x1 x4 x6) (Pout := (ax_PL (pi_X5_lendings_201 G X Q x0 x1) (fun w : Int × ax_H => Q = ax_Q G X h0 w.2 (some (.int (Int32.ofInt w.1)))))) (fun s w e hp ls hl => wb_X5_lendings_210 hSF B Z hn x0 x1 x4 s.1 x6 hl e hp) _ _ e hp ls hl
set_option maxHeartbeats 4000000 in
theorem wb_X5_lendings_201 {l : Launch} {G : ax_G} {X : ax_X} {Q : State → Prop} {h0 h : ax_H} {ls : Array Slot} (hSF : ax_SF G) (B : ax_BL l G X cX5_lendings 7 RX5 137 3569) (Z : ax_Z X h0 ((some FieldType.int))) (hn : X.2.2.2.2.2.2.2.2.1.name = yX5_lendings.name) (x0 : Option Nat) (x1 : Int) (x4 : Int) (x5 : Int) (x6 : Int) {w : (Int × Int × Int × ax_H) ⊕ (Int × ax_H)} (hl : ax_hl ls 7 [(0, .inr (.inr x0)), (1, .inl x1), (4, .inl x4), (5, .inl x5), (6, .inl x6)]) (e : lb_X5_lendings_201 G.2.2 x0 x1 x4 x5 x6 h = some w) (hp : (ax_PL (pi_X5_lendings_201 G X Q x0 x1) (fun w : Int × ax_H => Q = ax_Q G X h0 w.2 (some (.int (Int32.ofInt w.1))))) w) : ax_W G X Q h 201 ls [] := by
  unfold lb_X5_lendings_201 at e
  refine ax_iload B dX5_lendings_201 hl 4 rfl ?_
  refine ax_iload_n B dX5_lendings_203 rfl hl 1 rfl ?_
  refine ax_icmp_gt (tgt := 257) B dX5_lendings_204 (by decide) e (fun e => ?_) (fun e => ?_)
  · obtain ⟨w, e9_3, rfl⟩ := Option.map_eq_some_iff.mp e
    have e := e9_3
    refine ax_aload_n B dX5_lendings_257 rfl hl 0 rfl ?_
    refine ax_getR B ff_X5_80_5 (fun _ _ => rfl) dX5_lendings_258 e (fun v1 e => ?_)
    refine ax_iload B dX5_lendings_261 hl 3 rfl ?_
    refine ax_iald B kd100 dX5_lendings_263 e (fun v2 e => ?_)
    have e8 := e
    have hp : Q = _ := hp
    subst hp
    exact ax_ireturn B Z dX5_lendings_264 e8
  · refine ax_iconst B dX5_lendings_207 ?_
    refine ax_istore (L' := [(5, .inl 0), (0, .inr (.inr x0)), (1, .inl x1), (4, .inl x4), (6, .inl x6)]) B dX5_lendings_208 hl (by decide) rfl (fun ls hl => ?_)
    exact w_X5_lendings_210 hSF B Z hn x0 x1 x4 0 x6 (hl.sub [1, 2, 3, 0, 4] rfl) e hp
theorem w_X5_lendings_201 {l : Launch} {G : ax_G} {X : ax_X} {Q : State → Prop} {h0 h : ax_H} {ls : Array Slot} (hSF : ax_SF G) (B : ax_BL l G X cX5_lendings 7 RX5 137 3569) (Z : ax_Z X h0 ((some FieldType.int))) (hn : X.2.2.2.2.2.2.2.2.1.name = yX5_lendings.name) (x0 : Option Nat) (x1 : Int) (x4 : Int) (x5 : Int) (x6 : Int) {w : Int × ax_H} (hl : ax_hl ls 7 [(0, .inr (.inr x0)), (1, .inl x1), (4, .inl x4), (5, .inl x5), (6, .inl x6)]) (e : f_X5_lendings_201 G.2.2 x0 x1 x4 x5 x6 h = some w) (hp : (fun w : Int × ax_H => Q = ax_Q G X h0 w.2 (some (.int (Int32.ofInt w.1)))) w) : ax_W G X Q h 201 ls [] :=
  ax_iter_W (Pin := pi_X5_lendings_201 G X Q x0 x1) (Pout := (fun w : Int × ax_H => Q = ax_Q G X h0 w.2 (some (.int (Int32.ofInt w.1))))) (fun s w e hp ls hl => wb_X5_lendings_201 hSF B Z hn x0 x1 s.1 s.2.1 s.2.2.1 hl e hp) _ _ e hp ls hl
set_option maxHeartbeats 4000000 in
theorem wb_X5_lendings_65 {l : Launch} {G : ax_G} {X : ax_X} {Q : State → Prop} {h0 h : ax_H} {ls : Array Slot} (hSF : ax_SF G) (B : ax_BL l G X cX5_lendings 7 RX5 137 3569) (Z : ax_Z X h0 ((some FieldType.int))) (hn : X.2.2.2.2.2.2.2.2.1.name = yX5_lendings.name) (x0 : Option Nat) (x1 : Int) (x2 : Int) (x3 : Int) (x4 : Int) {w : (Int × ax_H) ⊕ (Int × ax_H)} (hl : ax_hl ls 7 [(0, .inr (.inr x0)), (1, .inl x1), (2, .inl x2), (3, .inl x3), (4, .inl x4)]) (e : lb_X5_lendings_65 G.2.2 x0 x1 x2 x3 x4 h = some w) (hp : (ax_PL (pi_X5_lendings_65 G X Q x0 x1 x2 x3) (fun w : Int × ax_H => Q = ax_Q G X h0 w.2 (some (.int (Int32.ofInt w.1))))) w) : ax_W G X Q h 65 ls [] := by
  unfold lb_X5_lendings_65 at e
  refine ax_iload B dX5_lendings_65 hl 4 rfl ?_
  refine ax_if_lt (tgt := 149) B dX5_lendings_67 (by decide) e (fun e => ?_) (fun e => ?_)
  · obtain ⟨w, e9_4, rfl⟩ := Option.map_eq_some_iff.mp e
    have e := e9_4
    refine ax_iload_n B dX5_lendings_149 rfl hl 1 rfl ?_
    refine ax_iconst B dX5_lendings_150 ?_
    refine ax_icmp_ge (tgt := 181) B dX5_lendings_151 (by decide) e (fun e => ?_) (fun e => ?_)
    · refine ax_iload_n B dX5_lendings_154 rfl hl 1 rfl ?_
      refine ax_if_ne (tgt := 165) B dX5_lendings_155 (by decide) e (fun e => ?_) (fun e => ?_)
      · refine ax_aload_n B dX5_lendings_158 rfl hl 0 rfl ?_
        refine ax_getI B ff_X5_400_5 (fun _ _ => rfl) dX5_lendings_159 e (fun v1 e => ?_)
        refine ax_goto (tgt := 180) B dX5_lendings_162 (by decide) ?_
        have e8 := e
        have hp : Q = _ := hp
        subst hp
        exact ax_ireturn B Z dX5_lendings_180 e8
      · refine ax_iload_n B dX5_lendings_165 rfl hl 1 rfl ?_
        refine ax_iconst B dX5_lendings_166 ?_
        refine ax_icmp_ne (tgt := 174) B dX5_lendings_167 (by decide) e (fun e => ?_) (fun e => ?_)
        · refine ax_iload_n B dX5_lendings_170 rfl hl 2 rfl ?_
          refine ax_goto (tgt := 180) B dX5_lendings_171 (by decide) ?_
          have e8 := e
          have hp : Q = _ := hp
          subst hp
          exact ax_ireturn B Z dX5_lendings_180 e8
        · refine ax_aload_n B dX5_lendings_174 rfl hl 0 rfl ?_
          refine ax_getR B ff_X5_83_5 (fun _ _ => rfl) dX5_lendings_175 e (fun v2 e => ?_)
          refine ax_iconst B dX5_lendings_178 ?_
          refine ax_iald B kd100 dX5_lendings_179 e (fun v3 e => ?_)
          have e8 := e
          have hp : Q = _ := hp
          subst hp
          exact ax_ireturn B Z dX5_lendings_180 e8
    · refine ax_aload_n B dX5_lendings_181 rfl hl 0 rfl ?_
      refine ax_getR B ff_X5_83_5 (fun _ _ => rfl) dX5_lendings_182 e (fun v4 e => ?_)
      refine ax_iconst B dX5_lendings_185 ?_
      refine ax_iald B kd100 dX5_lendings_186 e (fun v5 e => ?_)
      refine ax_if_ne (tgt := 192) B dX5_lendings_187 (by decide) e (fun e => ?_) (fun e => ?_)
      · refine ax_iconst B dX5_lendings_190 ?_
        have e8 := e
        have hp : Q = _ := hp
        subst hp
        exact ax_ireturn B Z dX5_lendings_191 e8
      · refine ax_iconst B dX5_lendings_192 ?_
        refine ax_istore (L' := [(4, .inl 0), (0, .inr (.inr x0)), (1, .inl x1), (2, .inl x2), (3, .inl x3)]) B dX5_lendings_193 hl (by decide) rfl (fun ls hl => ?_)
        refine ax_iconst B dX5_lendings_195 ?_
        refine ax_istore (L' := [(5, .inl 0), (4, .inl 0), (0, .inr (.inr x0)), (1, .inl x1), (2, .inl x2), (3, .inl x3)]) B dX5_lendings_196 hl (by decide) rfl (fun ls hl => ?_)
        refine ax_iconst B dX5_lendings_198 ?_
        refine ax_istore (L' := [(6, .inl 3), (5, .inl 0), (4, .inl 0), (0, .inr (.inr x0)), (1, .inl x1), (2, .inl x2), (3, .inl x3)]) B dX5_lendings_199 hl (by decide) rfl (fun ls hl => ?_)
        exact w_X5_lendings_201 hSF B Z hn x0 x1 0 0 3 (hl.sub [3, 4, 2, 1, 0] rfl) e hp
  · refine ax_aload_n B dX5_lendings_70 rfl hl 0 rfl ?_
    refine ax_getR B ff_X5_83_5 (fun _ _ => rfl) dX5_lendings_71 e (fun v6 e => ?_)
    refine ax_iload B dX5_lendings_74 hl 4 rfl ?_
    refine ax_iload B dX5_lendings_76 hl 4 rfl ?_
    refine ax_iload_n B dX5_lendings_78 rfl hl 3 rfl ?_
    refine ax_icmp_ne (tgt := 86) B dX5_lendings_79 (by decide) e (fun e => ?_) (fun e => ?_)
    · refine ax_iconst B dX5_lendings_82 ?_
      refine ax_goto (tgt := 87) B dX5_lendings_83 (by decide) ?_
      exact w_X5_lendings_87 hSF B Z hn x0 x1 x2 x3 x4 v6 x4 1 (hl.sub [0, 1, 2, 3, 4] rfl) e hp
    · refine ax_iconst B dX5_lendings_86 ?_
      exact w_X5_lendings_87 hSF B Z hn x0 x1 x2 x3 x4 v6 x4 0 (hl.sub [0, 1, 2, 3, 4] rfl) e hp
theorem w_X5_lendings_65 {l : Launch} {G : ax_G} {X : ax_X} {Q : State → Prop} {h0 h : ax_H} {ls : Array Slot} (hSF : ax_SF G) (B : ax_BL l G X cX5_lendings 7 RX5 137 3569) (Z : ax_Z X h0 ((some FieldType.int))) (hn : X.2.2.2.2.2.2.2.2.1.name = yX5_lendings.name) (x0 : Option Nat) (x1 : Int) (x2 : Int) (x3 : Int) (x4 : Int) {w : Int × ax_H} (hl : ax_hl ls 7 [(0, .inr (.inr x0)), (1, .inl x1), (2, .inl x2), (3, .inl x3), (4, .inl x4)]) (e : f_X5_lendings_65 G.2.2 x0 x1 x2 x3 x4 h = some w) (hp : (fun w : Int × ax_H => Q = ax_Q G X h0 w.2 (some (.int (Int32.ofInt w.1)))) w) : ax_W G X Q h 65 ls [] :=
  ax_iter_W (Pin := pi_X5_lendings_65 G X Q x0 x1 x2 x3) (Pout := (fun w : Int × ax_H => Q = ax_Q G X h0 w.2 (some (.int (Int32.ofInt w.1))))) (fun s w e hp ls hl => wb_X5_lendings_65 hSF B Z hn x0 x1 x2 x3 s.1 hl e hp) _ _ e hp ls hl
set_option maxHeartbeats 4000000 in
theorem wb_X5_lendings_37 {l : Launch} {G : ax_G} {X : ax_X} {Q : State → Prop} {h0 h : ax_H} {ls : Array Slot} (hSF : ax_SF G) (B : ax_BL l G X cX5_lendings 7 RX5 137 3569) (Z : ax_Z X h0 ((some FieldType.int))) (hn : X.2.2.2.2.2.2.2.2.1.name = yX5_lendings.name) (x0 : Option Nat) (x1 : Int) (x2 : Int) (x3 : Int) (x4 : Int) {w : (Int × Int × ax_H) ⊕ (Int × ax_H)} (hl : ax_hl ls 7 [(0, .inr (.inr x0)), (1, .inl x1), (2, .inl x2), (3, .inl x3), (4, .inl x4)]) (e : lb_X5_lendings_37 G.2.2 x0 x1 x2 x3 x4 h = some w) (hp : (ax_PL (pi_X5_lendings_37 G X Q x0 x1 x3) (fun w : Int × ax_H => Q = ax_Q G X h0 w.2 (some (.int (Int32.ofInt w.1))))) w) : ax_W G X Q h 37 ls [] := by
  unfold lb_X5_lendings_37 at e
  refine ax_iload B dX5_lendings_37 hl 4 rfl ?_
  refine ax_aload_n B dX5_lendings_39 rfl hl 0 rfl ?_
  refine ax_getI B ff_X5_400_5 (fun _ _ => rfl) dX5_lendings_40 e (fun v1 e => ?_)
  refine ax_icmp_ge (tgt := 62) B dX5_lendings_43 (by decide) e (fun e => ?_) (fun e => ?_)
  · refine ax_iload_n B dX5_lendings_46 rfl hl 2 rfl ?_
    refine ax_aload_n B dX5_lendings_47 rfl hl 0 rfl ?_
    refine ax_getR B ff_X5_77_5 (fun _ _ => rfl) dX5_lendings_48 e (fun v2 e => ?_)
    refine ax_iload B dX5_lendings_51 hl 4 rfl ?_
    refine ax_iald B kd100 dX5_lendings_53 e (fun v3 e => ?_)
    refine ax_iadd' B dX5_lendings_54 ?_
    refine ax_istore_n (L' := [(2, .inl (x2 + v3)), (0, .inr (.inr x0)), (1, .inl x1), (3, .inl x3), (4, .inl x4)]) B dX5_lendings_55 rfl hl (by decide) rfl (fun ls hl => ?_)
    refine ax_iinc (L' := [(4, .inl (x4 + 1)), (2, .inl (x2 + v3)), (0, .inr (.inr x0)), (1, .inl x1), (3, .inl x3)]) B dX5_lendings_56 hl 4 rfl (by decide) rfl (fun ls hl => ?_)
    refine ax_goto (tgt := 37) B dX5_lendings_59 (by decide) ?_
    cases e
    exact hp _ (hl.sub [2, 3, 1, 4, 0] rfl)
  · obtain ⟨w, e9_5, rfl⟩ := Option.map_eq_some_iff.mp e
    have e := e9_5
    refine ax_iload_n B dX5_lendings_62 rfl hl 3 rfl ?_
    refine ax_istore (L' := [(4, .inl x3), (0, .inr (.inr x0)), (1, .inl x1), (2, .inl x2), (3, .inl x3)]) B dX5_lendings_63 hl (by decide) rfl (fun ls hl => ?_)
    exact w_X5_lendings_65 hSF B Z hn x0 x1 x2 x3 x3 (hl.sub [1, 2, 3, 4, 0] rfl) e hp
theorem w_X5_lendings_37 {l : Launch} {G : ax_G} {X : ax_X} {Q : State → Prop} {h0 h : ax_H} {ls : Array Slot} (hSF : ax_SF G) (B : ax_BL l G X cX5_lendings 7 RX5 137 3569) (Z : ax_Z X h0 ((some FieldType.int))) (hn : X.2.2.2.2.2.2.2.2.1.name = yX5_lendings.name) (x0 : Option Nat) (x1 : Int) (x2 : Int) (x3 : Int) (x4 : Int) {w : Int × ax_H} (hl : ax_hl ls 7 [(0, .inr (.inr x0)), (1, .inl x1), (2, .inl x2), (3, .inl x3), (4, .inl x4)]) (e : f_X5_lendings_37 G.2.2 x0 x1 x2 x3 x4 h = some w) (hp : (fun w : Int × ax_H => Q = ax_Q G X h0 w.2 (some (.int (Int32.ofInt w.1)))) w) : ax_W G X Q h 37 ls [] :=
  ax_iter_W (Pin := pi_X5_lendings_37 G X Q x0 x1 x3) (Pout := (fun w : Int × ax_H => Q = ax_Q G X h0 w.2 (some (.int (Int32.ofInt w.1))))) (fun s w e hp ls hl => wb_X5_lendings_37 hSF B Z hn x0 x1 s.1 x3 s.2.1 hl e hp) _ _ e hp ls hl
set_option maxHeartbeats 4000000 in
theorem we_X5_lendings {l : Launch} {G : ax_G} {X : ax_X} {Q : State → Prop} {h0 h : ax_H} {ls : Array Slot} (hSF : ax_SF G) (B : ax_BL l G X cX5_lendings 7 RX5 137 3569) (Z : ax_Z X h0 ((some FieldType.int))) (hn : X.2.2.2.2.2.2.2.2.1.name = yX5_lendings.name) (x0 : Option Nat) (x1 : Int) {w : Int × ax_H} (hl : ax_hl ls 7 [(0, .inr (.inr x0)), (1, .inl x1)]) (e : f_X5_lendings G.2.2 x0 x1 h = some w) (hp : (fun w : Int × ax_H => Q = ax_Q G X h0 w.2 (some (.int (Int32.ofInt w.1)))) w) : ax_W G X Q h 0 ls [] := by
  unfold f_X5_lendings at e
  refine ax_aload_n B dX5_lendings_0 rfl hl 0 rfl ?_
  refine ax_ivI (y := yX5_listsLendings) (n := 0) (As := []) B kd5 (lw_V q2550 q2552 qs106 q133 q2553) (by decide +kernel) ⟨Nat.le_of_ble_eq_true rfl, Nat.le_of_ble_eq_true rfl⟩ (fun w1 e1 => mt_X5_listsLendings l G hSF x0 _ w1 e1) rfl hl.size (by decide) dX5_lendings_1 e (fun q1 e => ?_)
  refine ax_if_eq (tgt := 21) B dX5_lendings_4 (by decide) e (fun e => ?_) (fun e => ?_)
  · exact w_X5_lendings_21 hSF B Z hn (hl.sub [] rfl) e hp
  · refine ax_iload_n B dX5_lendings_7 rfl hl 1 rfl ?_
    refine ax_iconst B dX5_lendings_8 ?_
    refine ax_iconst B dX5_lendings_9 ?_
    refine ax_aload_n B dX5_lendings_10 rfl hl 0 rfl ?_
    refine ax_getI B ff_X5_400_5 (fun _ _ => rfl) dX5_lendings_11 e (fun v2 e => ?_)
    refine ax_iadd' B dX5_lendings_14 ?_
    refine ax_isI (y := yX5_lies) (n := 3) (As := [.int (Int32.ofInt x1), .int (Int32.ofInt 0), .int (Int32.ofInt (2 + v2))]) B (lw_S q2151 q2152 q133 q2153) (by decide +kernel) ⟨Nat.le_of_ble_eq_true rfl, Nat.le_of_ble_eq_true rfl⟩ (fun w1 e1 => mt_X5_lies l G hSF x1 0 (2 + v2) _ w1 e1) rfl hl.size (by decide) dX5_lendings_15 e (fun q3 e => ?_)
    refine ax_if_ne (tgt := 23) B dX5_lendings_18 (by decide) e (fun e => ?_) (fun e => ?_)
    · exact w_X5_lendings_21 hSF B Z hn (hl.sub [] rfl) e hp
    · refine ax_iconst B dX5_lendings_23 ?_
      refine ax_istore_n (L' := [(2, .inl 0), (0, .inr (.inr x0)), (1, .inl x1)]) B dX5_lendings_24 rfl hl (by decide) rfl (fun ls hl => ?_)
      refine ax_iconst B dX5_lendings_25 ?_
      refine ax_aload_n B dX5_lendings_26 rfl hl 1 rfl ?_
      refine ax_getI B ff_X5_400_5 (fun _ _ => rfl) dX5_lendings_27 e (fun v4 e => ?_)
      refine ax_ishl' B dX5_lendings_30 ?_
      refine ax_iconst B dX5_lendings_31 ?_
      refine ax_isub' B dX5_lendings_32 ?_
      refine ax_istore_n (L' := [(3, .inl ((ax_shl 1 v4) - 1)), (2, .inl 0), (0, .inr (.inr x0)), (1, .inl x1)]) B dX5_lendings_33 rfl hl (by decide) rfl (fun ls hl => ?_)
      refine ax_iconst B dX5_lendings_34 ?_
      refine ax_istore (L' := [(4, .inl 0), (3, .inl ((ax_shl 1 v4) - 1)), (2, .inl 0), (0, .inr (.inr x0)), (1, .inl x1)]) B dX5_lendings_35 hl (by decide) rfl (fun ls hl => ?_)
      exact w_X5_lendings_37 hSF B Z hn x0 x1 0 ((ax_shl 1 v4) - 1) 0 (hl.sub [3, 4, 2, 1, 0] rfl) e hp
theorem mt_X5_lendings (l : Launch) (G : ax_G) (hSF : ax_SF G) (x0 : Option Nat) (x1 : Int) (h : ax_H) (w : Int × ax_H) (e : f_X5_lendings G.2.2 x0 x1 h = some w) : ax_Met l G yX5_lendings cX5_lendings 7 ((some FieldType.int)) 137 3569 [va_rf x0, .int (Int32.ofInt x1)] h w.2 (some (.int (Int32.ofInt w.1))) :=
  ax_enter [.inr (.inr x0), .inl x1] (y := yX5_lendings) hSF (plainFor_of_name (by decide +kernel)) (Nat.le_of_ble_eq_true rfl) (fun X ls B Z hn hl => we_X5_lendings hSF B Z hn x0 x1 hl e rfl)
def dkwX5_laysAside_1 : List UInt8 := [79, 132, 2, 1, 167, 255, 230, 177]
abbrev dktX5_laysAside_1 : List UInt8 := dkwX5_laysAside_1 ++ []
def dkwX5_laysAside_0 : List UInt8 := [3, 61, 28, 16, 73, 162, 0, 26, 42, 180, 0, 34, 16, 73, 27, 104, 28, 96, 42, 180, 0, 24, 28, 46]
abbrev dktX5_laysAside_0 : List UInt8 := dkwX5_laysAside_0 ++ dktX5_laysAside_1
theorem dksX5_laysAside_0 : cX5_laysAside.data.toList.drop 0 = dktX5_laysAside_0 := by decide +kernel
theorem dksX5_laysAside_1 : cX5_laysAside.data.toList.drop 24 = dktX5_laysAside_1 := dk_seg dksX5_laysAside_0 24 rfl rfl
theorem dX5_laysAside_0 : decode cX5_laysAside 0 = .ok (.iconst 0, 1) := dk_3 (dk_at dksX5_laysAside_0 0 rfl rfl)
theorem dX5_laysAside_1 : decode cX5_laysAside 1 = .ok (.istore_n 2, 1) := dk_61 (dk_at dksX5_laysAside_0 1 rfl rfl)
theorem dX5_laysAside_2 : decode cX5_laysAside 2 = .ok (.iload_n 2, 1) := dk_28 (dk_at dksX5_laysAside_0 2 rfl rfl)
theorem dX5_laysAside_3 : decode cX5_laysAside 3 = .ok (.bipush 73, 2) := dk_16 73 (dk_at dksX5_laysAside_0 3 rfl rfl)
theorem dX5_laysAside_5 : decode cX5_laysAside 5 = .ok (.if_icmp .ge 26, 3) := dk_162 0 26 (dk_at dksX5_laysAside_0 5 rfl rfl)
theorem dX5_laysAside_8 : decode cX5_laysAside 8 = .ok (.aload_n 0, 1) := dk_42 (dk_at dksX5_laysAside_0 8 rfl rfl)
theorem dX5_laysAside_9 : decode cX5_laysAside 9 = .ok (.getfield 34, 3) := dk_180 0 34 (dk_at dksX5_laysAside_0 9 rfl rfl)
theorem dX5_laysAside_12 : decode cX5_laysAside 12 = .ok (.bipush 73, 2) := dk_16 73 (dk_at dksX5_laysAside_0 12 rfl rfl)
theorem dX5_laysAside_14 : decode cX5_laysAside 14 = .ok (.iload_n 1, 1) := dk_27 (dk_at dksX5_laysAside_0 14 rfl rfl)
theorem dX5_laysAside_15 : decode cX5_laysAside 15 = .ok (.imul, 1) := dk_104 (dk_at dksX5_laysAside_0 15 rfl rfl)
theorem dX5_laysAside_16 : decode cX5_laysAside 16 = .ok (.iload_n 2, 1) := dk_28 (dk_at dksX5_laysAside_0 16 rfl rfl)
theorem dX5_laysAside_17 : decode cX5_laysAside 17 = .ok (.iadd, 1) := dk_96 (dk_at dksX5_laysAside_0 17 rfl rfl)
theorem dX5_laysAside_18 : decode cX5_laysAside 18 = .ok (.aload_n 0, 1) := dk_42 (dk_at dksX5_laysAside_0 18 rfl rfl)
theorem dX5_laysAside_19 : decode cX5_laysAside 19 = .ok (.getfield 24, 3) := dk_180 0 24 (dk_at dksX5_laysAside_0 19 rfl rfl)
theorem dX5_laysAside_22 : decode cX5_laysAside 22 = .ok (.iload_n 2, 1) := dk_28 (dk_at dksX5_laysAside_0 22 rfl rfl)
theorem dX5_laysAside_23 : decode cX5_laysAside 23 = .ok (.iaload, 1) := dk_46 (dk_at dksX5_laysAside_0 23 rfl rfl)
theorem dX5_laysAside_24 : decode cX5_laysAside 24 = .ok (.iastore, 1) := dk_79 (dk_at dksX5_laysAside_1 0 rfl rfl)
theorem dX5_laysAside_25 : decode cX5_laysAside 25 = .ok (.iinc 2 1, 3) := dk_132 2 1 (dk_at dksX5_laysAside_1 1 rfl rfl)
theorem dX5_laysAside_28 : decode cX5_laysAside 28 = .ok (.goto (-26), 3) := dk_167 255 230 (dk_at dksX5_laysAside_1 4 rfl rfl)
theorem dX5_laysAside_31 : decode cX5_laysAside 31 = .ok (.return_, 1) := dk_177 (dk_at dksX5_laysAside_1 7 rfl rfl)
noncomputable def lb_X5_laysAside_2 (E : ax_E) (x0 : Option Nat) (x1 : Int) (x2 : Int) (h : ax_H) : Option ((Int × ax_H) ⊕ (ax_H)) :=
  if i2 x2 < i2 73 then
    (ax_gR E h x0 5 5).bind fun v1 =>
    (ax_gR E h x0 5 2).bind fun v2 =>
    (ax_ld E h v2 100 x2).bind fun v3 =>
    (ax_sto h v1 100 ((73 * x1) + x2) v3).bind fun h4 =>
    some (.inl ((x2 + 1), h4))
  else
    (some h).map Sum.inr
noncomputable def f_X5_laysAside_2 (E : ax_E) (x0 : Option Nat) (x1 : Int) (x2 : Int) (h : ax_H) : Option (ax_H) :=
  ax_iter (fun s : Int × ax_H => lb_X5_laysAside_2 E x0 x1 s.1 s.2) (x2, h)
noncomputable def f_X5_laysAside (E : ax_E) (x0 : Option Nat) (x1 : Int) (h : ax_H) : Option (ax_H) :=
  f_X5_laysAside_2 E x0 x1 0 h
def pi_X5_laysAside_2 (G : ax_G) (X : ax_X) (Q : State → Prop) (x0 : Option Nat) (x1 : Int) : Int × ax_H → Prop := fun s => ∀ ls : Array Slot, ax_hl ls 3 [(0, .inr (.inr x0)), (1, .inl x1), (2, .inl s.1)] → ax_W G X Q s.2 2 ls []
set_option maxHeartbeats 4000000 in
theorem wb_X5_laysAside_2 {l : Launch} {G : ax_G} {X : ax_X} {Q : State → Prop} {h0 h : ax_H} {ls : Array Slot} (hSF : ax_SF G) (B : ax_BL l G X cX5_laysAside 3 RX5 1 40) (Z : ax_Z X h0 none) (hn : X.2.2.2.2.2.2.2.2.1.name = yX5_laysAside.name) (x0 : Option Nat) (x1 : Int) (x2 : Int) {w : (Int × ax_H) ⊕ (ax_H)} (hl : ax_hl ls 3 [(0, .inr (.inr x0)), (1, .inl x1), (2, .inl x2)]) (e : lb_X5_laysAside_2 G.2.2 x0 x1 x2 h = some w) (hp : (ax_PL (pi_X5_laysAside_2 G X Q x0 x1) (fun w : ax_H => Q = ax_Q G X h0 w none)) w) : ax_W G X Q h 2 ls [] := by
  unfold lb_X5_laysAside_2 at e
  refine ax_iload_n B dX5_laysAside_2 rfl hl 2 rfl ?_
  refine ax_bipush B dX5_laysAside_3 (by decide) ?_
  refine ax_icmp_ge (tgt := 31) B dX5_laysAside_5 (by decide) e (fun e => ?_) (fun e => ?_)
  · refine ax_aload_n B dX5_laysAside_8 rfl hl 0 rfl ?_
    refine ax_getR B ff_X5_34_5 (fun _ _ => rfl) dX5_laysAside_9 e (fun v1 e => ?_)
    refine ax_bipush B dX5_laysAside_12 (by decide) ?_
    refine ax_iload_n B dX5_laysAside_14 rfl hl 1 rfl ?_
    refine ax_imul' B dX5_laysAside_15 ?_
    refine ax_iload_n B dX5_laysAside_16 rfl hl 2 rfl ?_
    refine ax_iadd' B dX5_laysAside_17 ?_
    refine ax_aload_n B dX5_laysAside_18 rfl hl 0 rfl ?_
    refine ax_getR B ff_X5_24_5 (fun _ _ => rfl) dX5_laysAside_19 e (fun v2 e => ?_)
    refine ax_iload_n B dX5_laysAside_22 rfl hl 2 rfl ?_
    refine ax_iald B kd100 dX5_laysAside_23 e (fun v3 e => ?_)
    refine ax_iast B kd100 dX5_laysAside_24 e (fun h4 e => ?_)
    refine ax_iinc (L' := [(2, .inl (x2 + 1)), (0, .inr (.inr x0)), (1, .inl x1)]) B dX5_laysAside_25 hl 2 rfl (by decide) rfl (fun ls hl => ?_)
    refine ax_goto (tgt := 2) B dX5_laysAside_28 (by decide) ?_
    cases e
    exact hp _ (hl.sub [1, 2, 0] rfl)
  · obtain ⟨w, e9_1, rfl⟩ := Option.map_eq_some_iff.mp e
    have e := e9_1
    have e8 := e
    have hp : Q = _ := hp
    subst hp
    exact ax_return B Z dX5_laysAside_31 e8
theorem w_X5_laysAside_2 {l : Launch} {G : ax_G} {X : ax_X} {Q : State → Prop} {h0 h : ax_H} {ls : Array Slot} (hSF : ax_SF G) (B : ax_BL l G X cX5_laysAside 3 RX5 1 40) (Z : ax_Z X h0 none) (hn : X.2.2.2.2.2.2.2.2.1.name = yX5_laysAside.name) (x0 : Option Nat) (x1 : Int) (x2 : Int) {w : ax_H} (hl : ax_hl ls 3 [(0, .inr (.inr x0)), (1, .inl x1), (2, .inl x2)]) (e : f_X5_laysAside_2 G.2.2 x0 x1 x2 h = some w) (hp : (fun w : ax_H => Q = ax_Q G X h0 w none) w) : ax_W G X Q h 2 ls [] :=
  ax_iter_W (Pin := pi_X5_laysAside_2 G X Q x0 x1) (Pout := (fun w : ax_H => Q = ax_Q G X h0 w none)) (fun s w e hp ls hl => wb_X5_laysAside_2 hSF B Z hn x0 x1 s.1 hl e hp) _ _ e hp ls hl
set_option maxHeartbeats 4000000 in
theorem we_X5_laysAside {l : Launch} {G : ax_G} {X : ax_X} {Q : State → Prop} {h0 h : ax_H} {ls : Array Slot} (hSF : ax_SF G) (B : ax_BL l G X cX5_laysAside 3 RX5 1 40) (Z : ax_Z X h0 none) (hn : X.2.2.2.2.2.2.2.2.1.name = yX5_laysAside.name) (x0 : Option Nat) (x1 : Int) {w : ax_H} (hl : ax_hl ls 3 [(0, .inr (.inr x0)), (1, .inl x1)]) (e : f_X5_laysAside G.2.2 x0 x1 h = some w) (hp : (fun w : ax_H => Q = ax_Q G X h0 w none) w) : ax_W G X Q h 0 ls [] := by
  unfold f_X5_laysAside at e
  refine ax_iconst B dX5_laysAside_0 ?_
  refine ax_istore_n (L' := [(2, .inl 0), (0, .inr (.inr x0)), (1, .inl x1)]) B dX5_laysAside_1 rfl hl (by decide) rfl (fun ls hl => ?_)
  exact w_X5_laysAside_2 hSF B Z hn x0 x1 0 (hl.sub [1, 2, 0] rfl) e hp
theorem mt_X5_laysAside (l : Launch) (G : ax_G) (hSF : ax_SF G) (x0 : Option Nat) (x1 : Int) (h : ax_H) (w : ax_H) (e : f_X5_laysAside G.2.2 x0 x1 h = some w) : ax_Met l G yX5_laysAside cX5_laysAside 3 none 1 40 [va_rf x0, .int (Int32.ofInt x1)] h w none :=
  ax_enter [.inr (.inr x0), .inl x1] (y := yX5_laysAside) hSF (plainFor_of_name (by decide +kernel)) (Nat.le_of_ble_eq_true rfl) (fun X ls B Z hn hl => we_X5_laysAside hSF B Z hn x0 x1 hl e rfl)
def dkwX5_takesBack_1 : List UInt8 := [79, 132, 2, 1, 167, 255, 230, 177]
abbrev dktX5_takesBack_1 : List UInt8 := dkwX5_takesBack_1 ++ []
def dkwX5_takesBack_0 : List UInt8 := [3, 61, 28, 16, 73, 162, 0, 26, 42, 180, 0, 24, 28, 42, 180, 0, 34, 16, 73, 27, 104, 28, 96, 46]
abbrev dktX5_takesBack_0 : List UInt8 := dkwX5_takesBack_0 ++ dktX5_takesBack_1
theorem dksX5_takesBack_0 : cX5_takesBack.data.toList.drop 0 = dktX5_takesBack_0 := by decide +kernel
theorem dksX5_takesBack_1 : cX5_takesBack.data.toList.drop 24 = dktX5_takesBack_1 := dk_seg dksX5_takesBack_0 24 rfl rfl
theorem dX5_takesBack_0 : decode cX5_takesBack 0 = .ok (.iconst 0, 1) := dk_3 (dk_at dksX5_takesBack_0 0 rfl rfl)
theorem dX5_takesBack_1 : decode cX5_takesBack 1 = .ok (.istore_n 2, 1) := dk_61 (dk_at dksX5_takesBack_0 1 rfl rfl)
theorem dX5_takesBack_2 : decode cX5_takesBack 2 = .ok (.iload_n 2, 1) := dk_28 (dk_at dksX5_takesBack_0 2 rfl rfl)
theorem dX5_takesBack_3 : decode cX5_takesBack 3 = .ok (.bipush 73, 2) := dk_16 73 (dk_at dksX5_takesBack_0 3 rfl rfl)
theorem dX5_takesBack_5 : decode cX5_takesBack 5 = .ok (.if_icmp .ge 26, 3) := dk_162 0 26 (dk_at dksX5_takesBack_0 5 rfl rfl)
theorem dX5_takesBack_8 : decode cX5_takesBack 8 = .ok (.aload_n 0, 1) := dk_42 (dk_at dksX5_takesBack_0 8 rfl rfl)
theorem dX5_takesBack_9 : decode cX5_takesBack 9 = .ok (.getfield 24, 3) := dk_180 0 24 (dk_at dksX5_takesBack_0 9 rfl rfl)
theorem dX5_takesBack_12 : decode cX5_takesBack 12 = .ok (.iload_n 2, 1) := dk_28 (dk_at dksX5_takesBack_0 12 rfl rfl)
theorem dX5_takesBack_13 : decode cX5_takesBack 13 = .ok (.aload_n 0, 1) := dk_42 (dk_at dksX5_takesBack_0 13 rfl rfl)
theorem dX5_takesBack_14 : decode cX5_takesBack 14 = .ok (.getfield 34, 3) := dk_180 0 34 (dk_at dksX5_takesBack_0 14 rfl rfl)
theorem dX5_takesBack_17 : decode cX5_takesBack 17 = .ok (.bipush 73, 2) := dk_16 73 (dk_at dksX5_takesBack_0 17 rfl rfl)
theorem dX5_takesBack_19 : decode cX5_takesBack 19 = .ok (.iload_n 1, 1) := dk_27 (dk_at dksX5_takesBack_0 19 rfl rfl)
theorem dX5_takesBack_20 : decode cX5_takesBack 20 = .ok (.imul, 1) := dk_104 (dk_at dksX5_takesBack_0 20 rfl rfl)
theorem dX5_takesBack_21 : decode cX5_takesBack 21 = .ok (.iload_n 2, 1) := dk_28 (dk_at dksX5_takesBack_0 21 rfl rfl)
theorem dX5_takesBack_22 : decode cX5_takesBack 22 = .ok (.iadd, 1) := dk_96 (dk_at dksX5_takesBack_0 22 rfl rfl)
theorem dX5_takesBack_23 : decode cX5_takesBack 23 = .ok (.iaload, 1) := dk_46 (dk_at dksX5_takesBack_0 23 rfl rfl)
theorem dX5_takesBack_24 : decode cX5_takesBack 24 = .ok (.iastore, 1) := dk_79 (dk_at dksX5_takesBack_1 0 rfl rfl)
theorem dX5_takesBack_25 : decode cX5_takesBack 25 = .ok (.iinc 2 1, 3) := dk_132 2 1 (dk_at dksX5_takesBack_1 1 rfl rfl)
theorem dX5_takesBack_28 : decode cX5_takesBack 28 = .ok (.goto (-26), 3) := dk_167 255 230 (dk_at dksX5_takesBack_1 4 rfl rfl)
theorem dX5_takesBack_31 : decode cX5_takesBack 31 = .ok (.return_, 1) := dk_177 (dk_at dksX5_takesBack_1 7 rfl rfl)
noncomputable def lb_X5_takesBack_2 (E : ax_E) (x0 : Option Nat) (x1 : Int) (x2 : Int) (h : ax_H) : Option ((Int × ax_H) ⊕ (ax_H)) :=
  if i2 x2 < i2 73 then
    (ax_gR E h x0 5 2).bind fun v1 =>
    (ax_gR E h x0 5 5).bind fun v2 =>
    (ax_ld E h v2 100 ((73 * x1) + x2)).bind fun v3 =>
    (ax_sto h v1 100 x2 v3).bind fun h4 =>
    some (.inl ((x2 + 1), h4))
  else
    (some h).map Sum.inr
noncomputable def f_X5_takesBack_2 (E : ax_E) (x0 : Option Nat) (x1 : Int) (x2 : Int) (h : ax_H) : Option (ax_H) :=
  ax_iter (fun s : Int × ax_H => lb_X5_takesBack_2 E x0 x1 s.1 s.2) (x2, h)
noncomputable def f_X5_takesBack (E : ax_E) (x0 : Option Nat) (x1 : Int) (h : ax_H) : Option (ax_H) :=
  f_X5_takesBack_2 E x0 x1 0 h
def pi_X5_takesBack_2 (G : ax_G) (X : ax_X) (Q : State → Prop) (x0 : Option Nat) (x1 : Int) : Int × ax_H → Prop := fun s => ∀ ls : Array Slot, ax_hl ls 3 [(0, .inr (.inr x0)), (1, .inl x1), (2, .inl s.1)] → ax_W G X Q s.2 2 ls []
set_option maxHeartbeats 4000000 in
theorem wb_X5_takesBack_2 {l : Launch} {G : ax_G} {X : ax_X} {Q : State → Prop} {h0 h : ax_H} {ls : Array Slot} (hSF : ax_SF G) (B : ax_BL l G X cX5_takesBack 3 RX5 1 40) (Z : ax_Z X h0 none) (hn : X.2.2.2.2.2.2.2.2.1.name = yX5_takesBack.name) (x0 : Option Nat) (x1 : Int) (x2 : Int) {w : (Int × ax_H) ⊕ (ax_H)} (hl : ax_hl ls 3 [(0, .inr (.inr x0)), (1, .inl x1), (2, .inl x2)]) (e : lb_X5_takesBack_2 G.2.2 x0 x1 x2 h = some w) (hp : (ax_PL (pi_X5_takesBack_2 G X Q x0 x1) (fun w : ax_H => Q = ax_Q G X h0 w none)) w) : ax_W G X Q h 2 ls [] := by
  unfold lb_X5_takesBack_2 at e
  refine ax_iload_n B dX5_takesBack_2 rfl hl 2 rfl ?_
  refine ax_bipush B dX5_takesBack_3 (by decide) ?_
  refine ax_icmp_ge (tgt := 31) B dX5_takesBack_5 (by decide) e (fun e => ?_) (fun e => ?_)
  · refine ax_aload_n B dX5_takesBack_8 rfl hl 0 rfl ?_
    refine ax_getR B ff_X5_24_5 (fun _ _ => rfl) dX5_takesBack_9 e (fun v1 e => ?_)
    refine ax_iload_n B dX5_takesBack_12 rfl hl 2 rfl ?_
    refine ax_aload_n B dX5_takesBack_13 rfl hl 0 rfl ?_
    refine ax_getR B ff_X5_34_5 (fun _ _ => rfl) dX5_takesBack_14 e (fun v2 e => ?_)
    refine ax_bipush B dX5_takesBack_17 (by decide) ?_
    refine ax_iload_n B dX5_takesBack_19 rfl hl 1 rfl ?_
    refine ax_imul' B dX5_takesBack_20 ?_
    refine ax_iload_n B dX5_takesBack_21 rfl hl 2 rfl ?_
    refine ax_iadd' B dX5_takesBack_22 ?_
    refine ax_iald B kd100 dX5_takesBack_23 e (fun v3 e => ?_)
    refine ax_iast B kd100 dX5_takesBack_24 e (fun h4 e => ?_)
    refine ax_iinc (L' := [(2, .inl (x2 + 1)), (0, .inr (.inr x0)), (1, .inl x1)]) B dX5_takesBack_25 hl 2 rfl (by decide) rfl (fun ls hl => ?_)
    refine ax_goto (tgt := 2) B dX5_takesBack_28 (by decide) ?_
    cases e
    exact hp _ (hl.sub [1, 2, 0] rfl)
  · obtain ⟨w, e9_1, rfl⟩ := Option.map_eq_some_iff.mp e
    have e := e9_1
    have e8 := e
    have hp : Q = _ := hp
    subst hp
    exact ax_return B Z dX5_takesBack_31 e8
theorem w_X5_takesBack_2 {l : Launch} {G : ax_G} {X : ax_X} {Q : State → Prop} {h0 h : ax_H} {ls : Array Slot} (hSF : ax_SF G) (B : ax_BL l G X cX5_takesBack 3 RX5 1 40) (Z : ax_Z X h0 none) (hn : X.2.2.2.2.2.2.2.2.1.name = yX5_takesBack.name) (x0 : Option Nat) (x1 : Int) (x2 : Int) {w : ax_H} (hl : ax_hl ls 3 [(0, .inr (.inr x0)), (1, .inl x1), (2, .inl x2)]) (e : f_X5_takesBack_2 G.2.2 x0 x1 x2 h = some w) (hp : (fun w : ax_H => Q = ax_Q G X h0 w none) w) : ax_W G X Q h 2 ls [] :=
  ax_iter_W (Pin := pi_X5_takesBack_2 G X Q x0 x1) (Pout := (fun w : ax_H => Q = ax_Q G X h0 w none)) (fun s w e hp ls hl => wb_X5_takesBack_2 hSF B Z hn x0 x1 s.1 hl e hp) _ _ e hp ls hl
set_option maxHeartbeats 4000000 in
theorem we_X5_takesBack {l : Launch} {G : ax_G} {X : ax_X} {Q : State → Prop} {h0 h : ax_H} {ls : Array Slot} (hSF : ax_SF G) (B : ax_BL l G X cX5_takesBack 3 RX5 1 40) (Z : ax_Z X h0 none) (hn : X.2.2.2.2.2.2.2.2.1.name = yX5_takesBack.name) (x0 : Option Nat) (x1 : Int) {w : ax_H} (hl : ax_hl ls 3 [(0, .inr (.inr x0)), (1, .inl x1)]) (e : f_X5_takesBack G.2.2 x0 x1 h = some w) (hp : (fun w : ax_H => Q = ax_Q G X h0 w none) w) : ax_W G X Q h 0 ls [] := by
  unfold f_X5_takesBack at e
  refine ax_iconst B dX5_takesBack_0 ?_
  refine ax_istore_n (L' := [(2, .inl 0), (0, .inr (.inr x0)), (1, .inl x1)]) B dX5_takesBack_1 rfl hl (by decide) rfl (fun ls hl => ?_)
  exact w_X5_takesBack_2 hSF B Z hn x0 x1 0 (hl.sub [1, 2, 0] rfl) e hp
theorem mt_X5_takesBack (l : Launch) (G : ax_G) (hSF : ax_SF G) (x0 : Option Nat) (x1 : Int) (h : ax_H) (w : ax_H) (e : f_X5_takesBack G.2.2 x0 x1 h = some w) : ax_Met l G yX5_takesBack cX5_takesBack 3 none 1 40 [va_rf x0, .int (Int32.ofInt x1)] h w none :=
  ax_enter [.inr (.inr x0), .inl x1] (y := yX5_takesBack) hSF (plainFor_of_name (by decide +kernel)) (Nat.le_of_ble_eq_true rfl) (fun X ls B Z hn hl => we_X5_takesBack hSF B Z hn x0 x1 hl e rfl)
def dkwX5_triesVisits_9 : List UInt8 := [132, 4, 1, 167, 255, 110, 177]
abbrev dktX5_triesVisits_9 : List UInt8 := dkwX5_triesVisits_9 ++ []
def dkwX5_triesVisits_8 : List UInt8 := [27, 21, 4, 79, 42, 27, 4, 96, 28, 4, 21, 4, 120, 128, 182, 1, 168, 42, 27, 182, 1, 171]
abbrev dktX5_triesVisits_8 : List UInt8 := dkwX5_triesVisits_8 ++ dktX5_triesVisits_9
def dkwX5_triesVisits_7 : List UInt8 := [180, 0, 24, 21, 5, 4, 96, 46, 42, 180, 0, 24, 21, 5, 46, 21, 6, 182, 1, 116, 42, 180, 0, 86]
abbrev dktX5_triesVisits_7 : List UInt8 := dkwX5_triesVisits_7 ++ dktX5_triesVisits_8
def dkwX5_triesVisits_6 : List UInt8 := [21, 5, 46, 42, 180, 0, 24, 21, 5, 6, 96, 46, 182, 1, 113, 54, 6, 21, 6, 158, 0, 25, 42, 42]
abbrev dktX5_triesVisits_6 : List UInt8 := dkwX5_triesVisits_6 ++ dktX5_triesVisits_7
def dkwX5_triesVisits_5 : List UInt8 := [5, 96, 46, 162, 0, 6, 167, 0, 87, 42, 42, 180, 0, 24, 21, 5, 4, 96, 46, 42, 180, 0, 24]
abbrev dktX5_triesVisits_5 : List UInt8 := dkwX5_triesVisits_5 ++ dktX5_triesVisits_6
def dkwX5_triesVisits_4 : List UInt8 := [180, 0, 24, 21, 5, 4, 96, 46, 42, 180, 0, 24, 21, 5, 46, 182, 1, 92, 42, 180, 0, 24, 21, 5]
abbrev dktX5_triesVisits_4 : List UInt8 := dkwX5_triesVisits_4 ++ dktX5_triesVisits_5
def dkwX5_triesVisits_3 : List UInt8 := [29, 162, 0, 146, 16, 87, 7, 21, 4, 104, 96, 54, 5, 28, 21, 4, 184, 1, 150, 154, 0, 122, 42, 42]
abbrev dktX5_triesVisits_3 : List UInt8 := dkwX5_triesVisits_3 ++ dktX5_triesVisits_4
def dkwX5_triesVisits_2 : List UInt8 := [167, 255, 226, 42, 89, 180, 1, 162, 4, 96, 181, 1, 162, 177, 42, 27, 182, 1, 165, 3, 54, 4, 21, 4]
abbrev dktX5_triesVisits_2 : List UInt8 := dkwX5_triesVisits_2 ++ dktX5_triesVisits_3
def dkwX5_triesVisits_1 : List UInt8 := [180, 1, 162, 154, 0, 23, 42, 180, 0, 89, 21, 4, 42, 180, 0, 86, 21, 4, 46, 79, 132, 4, 1]
abbrev dktX5_triesVisits_1 : List UInt8 := dkwX5_triesVisits_1 ++ dktX5_triesVisits_2
def dkwX5_triesVisits_0 : List UInt8 := [42, 180, 0, 24, 17, 0, 153, 46, 62, 27, 29, 160, 0, 50, 3, 54, 4, 21, 4, 29, 162, 0, 30, 42]
abbrev dktX5_triesVisits_0 : List UInt8 := dkwX5_triesVisits_0 ++ dktX5_triesVisits_1
theorem dksX5_triesVisits_0 : cX5_triesVisits.data.toList.drop 0 = dktX5_triesVisits_0 := by decide +kernel
theorem dksX5_triesVisits_1 : cX5_triesVisits.data.toList.drop 24 = dktX5_triesVisits_1 := dk_seg dksX5_triesVisits_0 24 rfl rfl
theorem dksX5_triesVisits_2 : cX5_triesVisits.data.toList.drop 47 = dktX5_triesVisits_2 := dk_seg dksX5_triesVisits_1 23 rfl rfl
theorem dksX5_triesVisits_3 : cX5_triesVisits.data.toList.drop 71 = dktX5_triesVisits_3 := dk_seg dksX5_triesVisits_2 24 rfl rfl
theorem dksX5_triesVisits_4 : cX5_triesVisits.data.toList.drop 95 = dktX5_triesVisits_4 := dk_seg dksX5_triesVisits_3 24 rfl rfl
theorem dksX5_triesVisits_5 : cX5_triesVisits.data.toList.drop 119 = dktX5_triesVisits_5 := dk_seg dksX5_triesVisits_4 24 rfl rfl
theorem dksX5_triesVisits_6 : cX5_triesVisits.data.toList.drop 142 = dktX5_triesVisits_6 := dk_seg dksX5_triesVisits_5 23 rfl rfl
theorem dksX5_triesVisits_7 : cX5_triesVisits.data.toList.drop 166 = dktX5_triesVisits_7 := dk_seg dksX5_triesVisits_6 24 rfl rfl
theorem dksX5_triesVisits_8 : cX5_triesVisits.data.toList.drop 190 = dktX5_triesVisits_8 := dk_seg dksX5_triesVisits_7 24 rfl rfl
theorem dksX5_triesVisits_9 : cX5_triesVisits.data.toList.drop 212 = dktX5_triesVisits_9 := dk_seg dksX5_triesVisits_8 22 rfl rfl
theorem dX5_triesVisits_0 : decode cX5_triesVisits 0 = .ok (.aload_n 0, 1) := dk_42 (dk_at dksX5_triesVisits_0 0 rfl rfl)
theorem dX5_triesVisits_1 : decode cX5_triesVisits 1 = .ok (.getfield 24, 3) := dk_180 0 24 (dk_at dksX5_triesVisits_0 1 rfl rfl)
theorem dX5_triesVisits_4 : decode cX5_triesVisits 4 = .ok (.sipush 153, 3) := dk_17 0 153 (dk_at dksX5_triesVisits_0 4 rfl rfl)
theorem dX5_triesVisits_7 : decode cX5_triesVisits 7 = .ok (.iaload, 1) := dk_46 (dk_at dksX5_triesVisits_0 7 rfl rfl)
theorem dX5_triesVisits_8 : decode cX5_triesVisits 8 = .ok (.istore_n 3, 1) := dk_62 (dk_at dksX5_triesVisits_0 8 rfl rfl)
theorem dX5_triesVisits_9 : decode cX5_triesVisits 9 = .ok (.iload_n 1, 1) := dk_27 (dk_at dksX5_triesVisits_0 9 rfl rfl)
theorem dX5_triesVisits_10 : decode cX5_triesVisits 10 = .ok (.iload_n 3, 1) := dk_29 (dk_at dksX5_triesVisits_0 10 rfl rfl)
theorem dX5_triesVisits_11 : decode cX5_triesVisits 11 = .ok (.if_icmp .ne 50, 3) := dk_160 0 50 (dk_at dksX5_triesVisits_0 11 rfl rfl)
theorem dX5_triesVisits_14 : decode cX5_triesVisits 14 = .ok (.iconst 0, 1) := dk_3 (dk_at dksX5_triesVisits_0 14 rfl rfl)
theorem dX5_triesVisits_15 : decode cX5_triesVisits 15 = .ok (.istore 4, 2) := dk_54 4 (dk_at dksX5_triesVisits_0 15 rfl rfl)
theorem dX5_triesVisits_17 : decode cX5_triesVisits 17 = .ok (.iload 4, 2) := dk_21 4 (dk_at dksX5_triesVisits_0 17 rfl rfl)
theorem dX5_triesVisits_19 : decode cX5_triesVisits 19 = .ok (.iload_n 3, 1) := dk_29 (dk_at dksX5_triesVisits_0 19 rfl rfl)
theorem dX5_triesVisits_20 : decode cX5_triesVisits 20 = .ok (.if_icmp .ge 30, 3) := dk_162 0 30 (dk_at dksX5_triesVisits_0 20 rfl rfl)
theorem dX5_triesVisits_23 : decode cX5_triesVisits 23 = .ok (.aload_n 0, 1) := dk_42 (dk_at dksX5_triesVisits_0 23 rfl rfl)
theorem dX5_triesVisits_24 : decode cX5_triesVisits 24 = .ok (.getfield 418, 3) := dk_180 1 162 (dk_at dksX5_triesVisits_1 0 rfl rfl)
theorem dX5_triesVisits_27 : decode cX5_triesVisits 27 = .ok (.ifCond .ne 23, 3) := dk_154 0 23 (dk_at dksX5_triesVisits_1 3 rfl rfl)
theorem dX5_triesVisits_30 : decode cX5_triesVisits 30 = .ok (.aload_n 0, 1) := dk_42 (dk_at dksX5_triesVisits_1 6 rfl rfl)
theorem dX5_triesVisits_31 : decode cX5_triesVisits 31 = .ok (.getfield 89, 3) := dk_180 0 89 (dk_at dksX5_triesVisits_1 7 rfl rfl)
theorem dX5_triesVisits_34 : decode cX5_triesVisits 34 = .ok (.iload 4, 2) := dk_21 4 (dk_at dksX5_triesVisits_1 10 rfl rfl)
theorem dX5_triesVisits_36 : decode cX5_triesVisits 36 = .ok (.aload_n 0, 1) := dk_42 (dk_at dksX5_triesVisits_1 12 rfl rfl)
theorem dX5_triesVisits_37 : decode cX5_triesVisits 37 = .ok (.getfield 86, 3) := dk_180 0 86 (dk_at dksX5_triesVisits_1 13 rfl rfl)
theorem dX5_triesVisits_40 : decode cX5_triesVisits 40 = .ok (.iload 4, 2) := dk_21 4 (dk_at dksX5_triesVisits_1 16 rfl rfl)
theorem dX5_triesVisits_42 : decode cX5_triesVisits 42 = .ok (.iaload, 1) := dk_46 (dk_at dksX5_triesVisits_1 18 rfl rfl)
theorem dX5_triesVisits_43 : decode cX5_triesVisits 43 = .ok (.iastore, 1) := dk_79 (dk_at dksX5_triesVisits_1 19 rfl rfl)
theorem dX5_triesVisits_44 : decode cX5_triesVisits 44 = .ok (.iinc 4 1, 3) := dk_132 4 1 (dk_at dksX5_triesVisits_1 20 rfl rfl)
theorem dX5_triesVisits_47 : decode cX5_triesVisits 47 = .ok (.goto (-30), 3) := dk_167 255 226 (dk_at dksX5_triesVisits_2 0 rfl rfl)
theorem dX5_triesVisits_50 : decode cX5_triesVisits 50 = .ok (.aload_n 0, 1) := dk_42 (dk_at dksX5_triesVisits_2 3 rfl rfl)
theorem dX5_triesVisits_51 : decode cX5_triesVisits 51 = .ok (.dup, 1) := dk_89 (dk_at dksX5_triesVisits_2 4 rfl rfl)
theorem dX5_triesVisits_52 : decode cX5_triesVisits 52 = .ok (.getfield 418, 3) := dk_180 1 162 (dk_at dksX5_triesVisits_2 5 rfl rfl)
theorem dX5_triesVisits_55 : decode cX5_triesVisits 55 = .ok (.iconst 1, 1) := dk_4 (dk_at dksX5_triesVisits_2 8 rfl rfl)
theorem dX5_triesVisits_56 : decode cX5_triesVisits 56 = .ok (.iadd, 1) := dk_96 (dk_at dksX5_triesVisits_2 9 rfl rfl)
theorem dX5_triesVisits_57 : decode cX5_triesVisits 57 = .ok (.putfield 418, 3) := dk_181 1 162 (dk_at dksX5_triesVisits_2 10 rfl rfl)
theorem dX5_triesVisits_60 : decode cX5_triesVisits 60 = .ok (.return_, 1) := dk_177 (dk_at dksX5_triesVisits_2 13 rfl rfl)
theorem dX5_triesVisits_61 : decode cX5_triesVisits 61 = .ok (.aload_n 0, 1) := dk_42 (dk_at dksX5_triesVisits_2 14 rfl rfl)
theorem dX5_triesVisits_62 : decode cX5_triesVisits 62 = .ok (.iload_n 1, 1) := dk_27 (dk_at dksX5_triesVisits_2 15 rfl rfl)
theorem dX5_triesVisits_63 : decode cX5_triesVisits 63 = .ok (.invokevirtual 421, 3) := dk_182 1 165 (dk_at dksX5_triesVisits_2 16 rfl rfl)
theorem dX5_triesVisits_66 : decode cX5_triesVisits 66 = .ok (.iconst 0, 1) := dk_3 (dk_at dksX5_triesVisits_2 19 rfl rfl)
theorem dX5_triesVisits_67 : decode cX5_triesVisits 67 = .ok (.istore 4, 2) := dk_54 4 (dk_at dksX5_triesVisits_2 20 rfl rfl)
theorem dX5_triesVisits_69 : decode cX5_triesVisits 69 = .ok (.iload 4, 2) := dk_21 4 (dk_at dksX5_triesVisits_2 22 rfl rfl)
theorem dX5_triesVisits_71 : decode cX5_triesVisits 71 = .ok (.iload_n 3, 1) := dk_29 (dk_at dksX5_triesVisits_3 0 rfl rfl)
theorem dX5_triesVisits_72 : decode cX5_triesVisits 72 = .ok (.if_icmp .ge 146, 3) := dk_162 0 146 (dk_at dksX5_triesVisits_3 1 rfl rfl)
theorem dX5_triesVisits_75 : decode cX5_triesVisits 75 = .ok (.bipush 87, 2) := dk_16 87 (dk_at dksX5_triesVisits_3 4 rfl rfl)
theorem dX5_triesVisits_77 : decode cX5_triesVisits 77 = .ok (.iconst 4, 1) := dk_7 (dk_at dksX5_triesVisits_3 6 rfl rfl)
theorem dX5_triesVisits_78 : decode cX5_triesVisits 78 = .ok (.iload 4, 2) := dk_21 4 (dk_at dksX5_triesVisits_3 7 rfl rfl)
theorem dX5_triesVisits_80 : decode cX5_triesVisits 80 = .ok (.imul, 1) := dk_104 (dk_at dksX5_triesVisits_3 9 rfl rfl)
theorem dX5_triesVisits_81 : decode cX5_triesVisits 81 = .ok (.iadd, 1) := dk_96 (dk_at dksX5_triesVisits_3 10 rfl rfl)
theorem dX5_triesVisits_82 : decode cX5_triesVisits 82 = .ok (.istore 5, 2) := dk_54 5 (dk_at dksX5_triesVisits_3 11 rfl rfl)
theorem dX5_triesVisits_84 : decode cX5_triesVisits 84 = .ok (.iload_n 2, 1) := dk_28 (dk_at dksX5_triesVisits_3 13 rfl rfl)
theorem dX5_triesVisits_85 : decode cX5_triesVisits 85 = .ok (.iload 4, 2) := dk_21 4 (dk_at dksX5_triesVisits_3 14 rfl rfl)
theorem dX5_triesVisits_87 : decode cX5_triesVisits 87 = .ok (.invokestatic 406, 3) := dk_184 1 150 (dk_at dksX5_triesVisits_3 16 rfl rfl)
theorem dX5_triesVisits_90 : decode cX5_triesVisits 90 = .ok (.ifCond .ne 122, 3) := dk_154 0 122 (dk_at dksX5_triesVisits_3 19 rfl rfl)
theorem dX5_triesVisits_93 : decode cX5_triesVisits 93 = .ok (.aload_n 0, 1) := dk_42 (dk_at dksX5_triesVisits_3 22 rfl rfl)
theorem dX5_triesVisits_94 : decode cX5_triesVisits 94 = .ok (.aload_n 0, 1) := dk_42 (dk_at dksX5_triesVisits_3 23 rfl rfl)
theorem dX5_triesVisits_95 : decode cX5_triesVisits 95 = .ok (.getfield 24, 3) := dk_180 0 24 (dk_at dksX5_triesVisits_4 0 rfl rfl)
theorem dX5_triesVisits_98 : decode cX5_triesVisits 98 = .ok (.iload 5, 2) := dk_21 5 (dk_at dksX5_triesVisits_4 3 rfl rfl)
theorem dX5_triesVisits_100 : decode cX5_triesVisits 100 = .ok (.iconst 1, 1) := dk_4 (dk_at dksX5_triesVisits_4 5 rfl rfl)
theorem dX5_triesVisits_101 : decode cX5_triesVisits 101 = .ok (.iadd, 1) := dk_96 (dk_at dksX5_triesVisits_4 6 rfl rfl)
theorem dX5_triesVisits_102 : decode cX5_triesVisits 102 = .ok (.iaload, 1) := dk_46 (dk_at dksX5_triesVisits_4 7 rfl rfl)
theorem dX5_triesVisits_103 : decode cX5_triesVisits 103 = .ok (.aload_n 0, 1) := dk_42 (dk_at dksX5_triesVisits_4 8 rfl rfl)
theorem dX5_triesVisits_104 : decode cX5_triesVisits 104 = .ok (.getfield 24, 3) := dk_180 0 24 (dk_at dksX5_triesVisits_4 9 rfl rfl)
theorem dX5_triesVisits_107 : decode cX5_triesVisits 107 = .ok (.iload 5, 2) := dk_21 5 (dk_at dksX5_triesVisits_4 12 rfl rfl)
theorem dX5_triesVisits_109 : decode cX5_triesVisits 109 = .ok (.iaload, 1) := dk_46 (dk_at dksX5_triesVisits_4 14 rfl rfl)
theorem dX5_triesVisits_110 : decode cX5_triesVisits 110 = .ok (.invokevirtual 348, 3) := dk_182 1 92 (dk_at dksX5_triesVisits_4 15 rfl rfl)
theorem dX5_triesVisits_113 : decode cX5_triesVisits 113 = .ok (.aload_n 0, 1) := dk_42 (dk_at dksX5_triesVisits_4 18 rfl rfl)
theorem dX5_triesVisits_114 : decode cX5_triesVisits 114 = .ok (.getfield 24, 3) := dk_180 0 24 (dk_at dksX5_triesVisits_4 19 rfl rfl)
theorem dX5_triesVisits_117 : decode cX5_triesVisits 117 = .ok (.iload 5, 2) := dk_21 5 (dk_at dksX5_triesVisits_4 22 rfl rfl)
theorem dX5_triesVisits_119 : decode cX5_triesVisits 119 = .ok (.iconst 2, 1) := dk_5 (dk_at dksX5_triesVisits_5 0 rfl rfl)
theorem dX5_triesVisits_120 : decode cX5_triesVisits 120 = .ok (.iadd, 1) := dk_96 (dk_at dksX5_triesVisits_5 1 rfl rfl)
theorem dX5_triesVisits_121 : decode cX5_triesVisits 121 = .ok (.iaload, 1) := dk_46 (dk_at dksX5_triesVisits_5 2 rfl rfl)
theorem dX5_triesVisits_122 : decode cX5_triesVisits 122 = .ok (.if_icmp .ge 6, 3) := dk_162 0 6 (dk_at dksX5_triesVisits_5 3 rfl rfl)
theorem dX5_triesVisits_125 : decode cX5_triesVisits 125 = .ok (.goto 87, 3) := dk_167 0 87 (dk_at dksX5_triesVisits_5 6 rfl rfl)
theorem dX5_triesVisits_128 : decode cX5_triesVisits 128 = .ok (.aload_n 0, 1) := dk_42 (dk_at dksX5_triesVisits_5 9 rfl rfl)
theorem dX5_triesVisits_129 : decode cX5_triesVisits 129 = .ok (.aload_n 0, 1) := dk_42 (dk_at dksX5_triesVisits_5 10 rfl rfl)
theorem dX5_triesVisits_130 : decode cX5_triesVisits 130 = .ok (.getfield 24, 3) := dk_180 0 24 (dk_at dksX5_triesVisits_5 11 rfl rfl)
theorem dX5_triesVisits_133 : decode cX5_triesVisits 133 = .ok (.iload 5, 2) := dk_21 5 (dk_at dksX5_triesVisits_5 14 rfl rfl)
theorem dX5_triesVisits_135 : decode cX5_triesVisits 135 = .ok (.iconst 1, 1) := dk_4 (dk_at dksX5_triesVisits_5 16 rfl rfl)
theorem dX5_triesVisits_136 : decode cX5_triesVisits 136 = .ok (.iadd, 1) := dk_96 (dk_at dksX5_triesVisits_5 17 rfl rfl)
theorem dX5_triesVisits_137 : decode cX5_triesVisits 137 = .ok (.iaload, 1) := dk_46 (dk_at dksX5_triesVisits_5 18 rfl rfl)
theorem dX5_triesVisits_138 : decode cX5_triesVisits 138 = .ok (.aload_n 0, 1) := dk_42 (dk_at dksX5_triesVisits_5 19 rfl rfl)
theorem dX5_triesVisits_139 : decode cX5_triesVisits 139 = .ok (.getfield 24, 3) := dk_180 0 24 (dk_at dksX5_triesVisits_5 20 rfl rfl)
theorem dX5_triesVisits_142 : decode cX5_triesVisits 142 = .ok (.iload 5, 2) := dk_21 5 (dk_at dksX5_triesVisits_6 0 rfl rfl)
theorem dX5_triesVisits_144 : decode cX5_triesVisits 144 = .ok (.iaload, 1) := dk_46 (dk_at dksX5_triesVisits_6 2 rfl rfl)
theorem dX5_triesVisits_145 : decode cX5_triesVisits 145 = .ok (.aload_n 0, 1) := dk_42 (dk_at dksX5_triesVisits_6 3 rfl rfl)
theorem dX5_triesVisits_146 : decode cX5_triesVisits 146 = .ok (.getfield 24, 3) := dk_180 0 24 (dk_at dksX5_triesVisits_6 4 rfl rfl)
theorem dX5_triesVisits_149 : decode cX5_triesVisits 149 = .ok (.iload 5, 2) := dk_21 5 (dk_at dksX5_triesVisits_6 7 rfl rfl)
theorem dX5_triesVisits_151 : decode cX5_triesVisits 151 = .ok (.iconst 3, 1) := dk_6 (dk_at dksX5_triesVisits_6 9 rfl rfl)
theorem dX5_triesVisits_152 : decode cX5_triesVisits 152 = .ok (.iadd, 1) := dk_96 (dk_at dksX5_triesVisits_6 10 rfl rfl)
theorem dX5_triesVisits_153 : decode cX5_triesVisits 153 = .ok (.iaload, 1) := dk_46 (dk_at dksX5_triesVisits_6 11 rfl rfl)
theorem dX5_triesVisits_154 : decode cX5_triesVisits 154 = .ok (.invokevirtual 369, 3) := dk_182 1 113 (dk_at dksX5_triesVisits_6 12 rfl rfl)
theorem dX5_triesVisits_157 : decode cX5_triesVisits 157 = .ok (.istore 6, 2) := dk_54 6 (dk_at dksX5_triesVisits_6 15 rfl rfl)
theorem dX5_triesVisits_159 : decode cX5_triesVisits 159 = .ok (.iload 6, 2) := dk_21 6 (dk_at dksX5_triesVisits_6 17 rfl rfl)
theorem dX5_triesVisits_161 : decode cX5_triesVisits 161 = .ok (.ifCond .le 25, 3) := dk_158 0 25 (dk_at dksX5_triesVisits_6 19 rfl rfl)
theorem dX5_triesVisits_164 : decode cX5_triesVisits 164 = .ok (.aload_n 0, 1) := dk_42 (dk_at dksX5_triesVisits_6 22 rfl rfl)
theorem dX5_triesVisits_165 : decode cX5_triesVisits 165 = .ok (.aload_n 0, 1) := dk_42 (dk_at dksX5_triesVisits_6 23 rfl rfl)
theorem dX5_triesVisits_166 : decode cX5_triesVisits 166 = .ok (.getfield 24, 3) := dk_180 0 24 (dk_at dksX5_triesVisits_7 0 rfl rfl)
theorem dX5_triesVisits_169 : decode cX5_triesVisits 169 = .ok (.iload 5, 2) := dk_21 5 (dk_at dksX5_triesVisits_7 3 rfl rfl)
theorem dX5_triesVisits_171 : decode cX5_triesVisits 171 = .ok (.iconst 1, 1) := dk_4 (dk_at dksX5_triesVisits_7 5 rfl rfl)
theorem dX5_triesVisits_172 : decode cX5_triesVisits 172 = .ok (.iadd, 1) := dk_96 (dk_at dksX5_triesVisits_7 6 rfl rfl)
theorem dX5_triesVisits_173 : decode cX5_triesVisits 173 = .ok (.iaload, 1) := dk_46 (dk_at dksX5_triesVisits_7 7 rfl rfl)
theorem dX5_triesVisits_174 : decode cX5_triesVisits 174 = .ok (.aload_n 0, 1) := dk_42 (dk_at dksX5_triesVisits_7 8 rfl rfl)
theorem dX5_triesVisits_175 : decode cX5_triesVisits 175 = .ok (.getfield 24, 3) := dk_180 0 24 (dk_at dksX5_triesVisits_7 9 rfl rfl)
theorem dX5_triesVisits_178 : decode cX5_triesVisits 178 = .ok (.iload 5, 2) := dk_21 5 (dk_at dksX5_triesVisits_7 12 rfl rfl)
theorem dX5_triesVisits_180 : decode cX5_triesVisits 180 = .ok (.iaload, 1) := dk_46 (dk_at dksX5_triesVisits_7 14 rfl rfl)
theorem dX5_triesVisits_181 : decode cX5_triesVisits 181 = .ok (.iload 6, 2) := dk_21 6 (dk_at dksX5_triesVisits_7 15 rfl rfl)
theorem dX5_triesVisits_183 : decode cX5_triesVisits 183 = .ok (.invokevirtual 372, 3) := dk_182 1 116 (dk_at dksX5_triesVisits_7 17 rfl rfl)
theorem dX5_triesVisits_186 : decode cX5_triesVisits 186 = .ok (.aload_n 0, 1) := dk_42 (dk_at dksX5_triesVisits_7 20 rfl rfl)
theorem dX5_triesVisits_187 : decode cX5_triesVisits 187 = .ok (.getfield 86, 3) := dk_180 0 86 (dk_at dksX5_triesVisits_7 21 rfl rfl)
theorem dX5_triesVisits_190 : decode cX5_triesVisits 190 = .ok (.iload_n 1, 1) := dk_27 (dk_at dksX5_triesVisits_8 0 rfl rfl)
theorem dX5_triesVisits_191 : decode cX5_triesVisits 191 = .ok (.iload 4, 2) := dk_21 4 (dk_at dksX5_triesVisits_8 1 rfl rfl)
theorem dX5_triesVisits_193 : decode cX5_triesVisits 193 = .ok (.iastore, 1) := dk_79 (dk_at dksX5_triesVisits_8 3 rfl rfl)
theorem dX5_triesVisits_194 : decode cX5_triesVisits 194 = .ok (.aload_n 0, 1) := dk_42 (dk_at dksX5_triesVisits_8 4 rfl rfl)
theorem dX5_triesVisits_195 : decode cX5_triesVisits 195 = .ok (.iload_n 1, 1) := dk_27 (dk_at dksX5_triesVisits_8 5 rfl rfl)
theorem dX5_triesVisits_196 : decode cX5_triesVisits 196 = .ok (.iconst 1, 1) := dk_4 (dk_at dksX5_triesVisits_8 6 rfl rfl)
theorem dX5_triesVisits_197 : decode cX5_triesVisits 197 = .ok (.iadd, 1) := dk_96 (dk_at dksX5_triesVisits_8 7 rfl rfl)
theorem dX5_triesVisits_198 : decode cX5_triesVisits 198 = .ok (.iload_n 2, 1) := dk_28 (dk_at dksX5_triesVisits_8 8 rfl rfl)
theorem dX5_triesVisits_199 : decode cX5_triesVisits 199 = .ok (.iconst 1, 1) := dk_4 (dk_at dksX5_triesVisits_8 9 rfl rfl)
theorem dX5_triesVisits_200 : decode cX5_triesVisits 200 = .ok (.iload 4, 2) := dk_21 4 (dk_at dksX5_triesVisits_8 10 rfl rfl)
theorem dX5_triesVisits_202 : decode cX5_triesVisits 202 = .ok (.ishl, 1) := dk_120 (dk_at dksX5_triesVisits_8 12 rfl rfl)
theorem dX5_triesVisits_203 : decode cX5_triesVisits 203 = .ok (.ior, 1) := dk_128 (dk_at dksX5_triesVisits_8 13 rfl rfl)
theorem dX5_triesVisits_204 : decode cX5_triesVisits 204 = .ok (.invokevirtual 424, 3) := dk_182 1 168 (dk_at dksX5_triesVisits_8 14 rfl rfl)
theorem dX5_triesVisits_207 : decode cX5_triesVisits 207 = .ok (.aload_n 0, 1) := dk_42 (dk_at dksX5_triesVisits_8 17 rfl rfl)
theorem dX5_triesVisits_208 : decode cX5_triesVisits 208 = .ok (.iload_n 1, 1) := dk_27 (dk_at dksX5_triesVisits_8 18 rfl rfl)
theorem dX5_triesVisits_209 : decode cX5_triesVisits 209 = .ok (.invokevirtual 427, 3) := dk_182 1 171 (dk_at dksX5_triesVisits_8 19 rfl rfl)
theorem dX5_triesVisits_212 : decode cX5_triesVisits 212 = .ok (.iinc 4 1, 3) := dk_132 4 1 (dk_at dksX5_triesVisits_9 0 rfl rfl)
theorem dX5_triesVisits_215 : decode cX5_triesVisits 215 = .ok (.goto (-146), 3) := dk_167 255 110 (dk_at dksX5_triesVisits_9 3 rfl rfl)
theorem dX5_triesVisits_218 : decode cX5_triesVisits 218 = .ok (.return_, 1) := dk_177 (dk_at dksX5_triesVisits_9 6 rfl rfl)
theorem ff_X5_418_5 : ax_FF RX5 418 5 37 (tyX5 37) 0 false := ⟨RX5, TX5, 61, tyX5, "DebtDoorsModel", kd5, in_X5, tyX5_ok, apX5, by decide, rfl, ⟨fun _ => rfl, fun h => absurd h (by decide)⟩, q1999, Or.inl rfl, fun h => absurd h (by decide)⟩
noncomputable def f_X5_triesVisits_50 (E : ax_E) (g0 : Option Nat → Int → Int → ax_H → Option (ax_H)) (x0 : Option Nat) (h : ax_H) : Option (ax_H) :=
  (ax_gI E h x0 5 37).bind fun v1 =>
  (ax_pI h x0 5 37 (v1 + 1)).bind fun h2 =>
  some h2
noncomputable def lb_X5_triesVisits_17 (E : ax_E) (g0 : Option Nat → Int → Int → ax_H → Option (ax_H)) (x0 : Option Nat) (x3 : Int) (x4 : Int) (h : ax_H) : Option ((Int × ax_H) ⊕ (ax_H)) :=
  if i2 x4 < i2 x3 then
    (ax_gI E h x0 5 37).bind fun v1 =>
    if i2 v1 = 0 then
      (ax_gR E h x0 5 36).bind fun v2 =>
      (ax_gR E h x0 5 35).bind fun v3 =>
      (ax_ld E h v3 100 x4).bind fun v4 =>
      (ax_sto h v2 100 x4 v4).bind fun h5 =>
      some (.inl ((x4 + 1), h5))
    else
      (f_X5_triesVisits_50 E g0 x0 h).map Sum.inr
  else
    (f_X5_triesVisits_50 E g0 x0 h).map Sum.inr
noncomputable def f_X5_triesVisits_17 (E : ax_E) (g0 : Option Nat → Int → Int → ax_H → Option (ax_H)) (x0 : Option Nat) (x3 : Int) (x4 : Int) (h : ax_H) : Option (ax_H) :=
  ax_iter (fun s : Int × ax_H => lb_X5_triesVisits_17 E g0 x0 x3 s.1 s.2) (x4, h)
noncomputable def f_X5_triesVisits_212 (E : ax_E) (g0 : Option Nat → Int → Int → ax_H → Option (ax_H)) (x0 : Option Nat) (x1 : Int) (x2 : Int) (x3 : Int) (x4 : Int) (h : ax_H) : Option ((Int × ax_H) ⊕ (ax_H)) :=
  some (.inl ((x4 + 1), h))
noncomputable def f_X5_triesVisits_186 (E : ax_E) (g0 : Option Nat → Int → Int → ax_H → Option (ax_H)) (x0 : Option Nat) (x1 : Int) (x2 : Int) (x3 : Int) (x4 : Int) (h : ax_H) : Option ((Int × ax_H) ⊕ (ax_H)) :=
  (ax_gR E h x0 5 35).bind fun v1 =>
  (ax_sto h v1 100 x1 x4).bind fun h2 =>
  (ax_ce E h2 x0 5).bind fun _ => (g0 x0 (x1 + 1) (ax_or x2 (ax_shl 1 x4)) h2).bind fun h3 =>
  (ax_ce E h3 x0 5).bind fun _ => (f_X5_takesBack E x0 x1 h3).bind fun h4 =>
  f_X5_triesVisits_212 E g0 x0 x1 x2 x3 x4 h4
noncomputable def lb_X5_triesVisits_69 (E : ax_E) (g0 : Option Nat → Int → Int → ax_H → Option (ax_H)) (x0 : Option Nat) (x1 : Int) (x2 : Int) (x3 : Int) (x4 : Int) (h : ax_H) : Option ((Int × ax_H) ⊕ (ax_H)) :=
  if i2 x4 < i2 x3 then
    (f_X5_isIn E x2 x4 h).bind fun q1 =>
    if i2 q1.1 = 0 then
      (ax_gR E q1.2 x0 5 2).bind fun v2 =>
      (ax_ld E q1.2 v2 100 ((87 + (4 * x4)) + 1)).bind fun v3 =>
      (ax_gR E q1.2 x0 5 2).bind fun v4 =>
      (ax_ld E q1.2 v4 100 (87 + (4 * x4))).bind fun v5 =>
      (ax_ce E q1.2 x0 5).bind fun _ => (f_X5_deepNow E x0 v3 v5 q1.2).bind fun q6 =>
      (ax_gR E q6.2 x0 5 2).bind fun v7 =>
      (ax_ld E q6.2 v7 100 ((87 + (4 * x4)) + 2)).bind fun v8 =>
      if i2 q6.1 < i2 v8 then
        f_X5_triesVisits_212 E g0 x0 x1 x2 x3 x4 q6.2
      else
        (ax_gR E q6.2 x0 5 2).bind fun v9 =>
        (ax_ld E q6.2 v9 100 ((87 + (4 * x4)) + 1)).bind fun v10 =>
        (ax_gR E q6.2 x0 5 2).bind fun v11 =>
        (ax_ld E q6.2 v11 100 (87 + (4 * x4))).bind fun v12 =>
        (ax_gR E q6.2 x0 5 2).bind fun v13 =>
        (ax_ld E q6.2 v13 100 ((87 + (4 * x4)) + 3)).bind fun v14 =>
        (ax_ce E q6.2 x0 5).bind fun _ => (f_X5_canRepay E x0 v10 v12 v14 q6.2).bind fun q15 =>
        if 0 < i2 q15.1 then
          (ax_gR E q15.2 x0 5 2).bind fun v16 =>
          (ax_ld E q15.2 v16 100 ((87 + (4 * x4)) + 1)).bind fun v17 =>
          (ax_gR E q15.2 x0 5 2).bind fun v18 =>
          (ax_ld E q15.2 v18 100 (87 + (4 * x4))).bind fun v19 =>
          (ax_ce E q15.2 x0 5).bind fun _ => (f_X5_repays E x0 v17 v19 q15.1 q15.2).bind fun h20 =>
          f_X5_triesVisits_186 E g0 x0 x1 x2 x3 x4 h20
        else
          f_X5_triesVisits_186 E g0 x0 x1 x2 x3 x4 q15.2
    else
      f_X5_triesVisits_212 E g0 x0 x1 x2 x3 x4 q1.2
  else
    (some h).map Sum.inr
noncomputable def f_X5_triesVisits_69 (E : ax_E) (g0 : Option Nat → Int → Int → ax_H → Option (ax_H)) (x0 : Option Nat) (x1 : Int) (x2 : Int) (x3 : Int) (x4 : Int) (h : ax_H) : Option (ax_H) :=
  ax_iter (fun s : Int × ax_H => lb_X5_triesVisits_69 E g0 x0 x1 x2 x3 s.1 s.2) (x4, h)
noncomputable def f_X5_triesVisits (E : ax_E) (g0 : Option Nat → Int → Int → ax_H → Option (ax_H)) (x0 : Option Nat) (x1 : Int) (x2 : Int) (h : ax_H) : Option (ax_H) :=
  (ax_gR E h x0 5 2).bind fun v1 =>
  (ax_ld E h v1 100 153).bind fun v2 =>
  if i2 x1 = i2 v2 then
    f_X5_triesVisits_17 E g0 x0 v2 0 h
  else
    (ax_ce E h x0 5).bind fun _ => (f_X5_laysAside E x0 x1 h).bind fun h3 =>
    f_X5_triesVisits_69 E g0 x0 x1 x2 v2 0 h3
noncomputable def rg_X5_triesVisits (E : ax_E) : Nat → (Option Nat → Int → Int → ax_H → Option (ax_H))
  | 0 => (fun x0 x1 x2 h => none)
  | n + 1 => (fun x0 x1 x2 h => f_X5_triesVisits E (rg_X5_triesVisits E n) x0 x1 x2 h)
noncomputable def fn_X5_triesVisits (E : ax_E) (n : Nat) (x0 : Option Nat) (x1 : Int) (x2 : Int) (h : ax_H) : Option (ax_H) := (rg_X5_triesVisits E n) x0 x1 x2 h
def pi_X5_triesVisits_17 (G : ax_G) (X : ax_X) (Q : State → Prop) (x0 : Option Nat) (x3 : Int) : Int × ax_H → Prop := fun s => ∀ ls : Array Slot, ax_hl ls 7 [(0, .inr (.inr x0)), (3, .inl x3), (4, .inl s.1)] → ax_W G X Q s.2 17 ls []
def pi_X5_triesVisits_69 (G : ax_G) (X : ax_X) (Q : State → Prop) (x0 : Option Nat) (x1 : Int) (x2 : Int) (x3 : Int) : Int × ax_H → Prop := fun s => ∀ ls : Array Slot, ax_hl ls 7 [(0, .inr (.inr x0)), (1, .inl x1), (2, .inl x2), (3, .inl x3), (4, .inl s.1)] → ax_W G X Q s.2 69 ls []
set_option maxHeartbeats 4000000 in
theorem w_X5_triesVisits_50 {l : Launch} {G : ax_G} {X : ax_X} {Q : State → Prop} {h0 h : ax_H} {ls : Array Slot} {g0 : Option Nat → Int → Int → ax_H → Option (ax_H)} {fr lo fr1 lo1 : Nat} (hF : fr1 + 1 ≤ fr ∧ 136 ≤ fr ∧ lo1 + 26 ≤ lo ∧ 3541 ≤ lo) (hg0 : ∀ (x0 : Option Nat) (x1 : Int) (x2 : Int) (h : ax_H) (w : ax_H), g0 x0 x1 x2 h = some w → ax_Met l G yX5_triesVisits cX5_triesVisits 7 none fr1 lo1 [va_rf x0, .int (Int32.ofInt x1), .int (Int32.ofInt x2)] h w none) (hSF : ax_SF G) (B : ax_BL l G X cX5_triesVisits 7 RX5 fr lo) (Z : ax_Z X h0 none) (hn : X.2.2.2.2.2.2.2.2.1.name = yX5_triesVisits.name) (x0 : Option Nat) {w : ax_H} (hl : ax_hl ls 7 [(0, .inr (.inr x0))]) (e : f_X5_triesVisits_50 G.2.2 g0 x0 h = some w) (hp : (fun w : ax_H => Q = ax_Q G X h0 w none) w) : ax_W G X Q h 50 ls [] := by
  unfold f_X5_triesVisits_50 at e
  refine ax_aload_n B dX5_triesVisits_50 rfl hl 0 rfl ?_
  refine ax_dup B dX5_triesVisits_51 (va_rf_cat _) ?_
  refine ax_getI B ff_X5_418_5 (fun _ _ => rfl) dX5_triesVisits_52 e (fun v1 e => ?_)
  refine ax_iconst B dX5_triesVisits_55 ?_
  refine ax_iadd' B dX5_triesVisits_56 ?_
  refine ax_putI B ff_X5_418_5 (Or.inl rfl) rfl dX5_triesVisits_57 e (fun h2 e => ?_)
  have e8 := e
  have hp : Q = _ := hp
  subst hp
  exact ax_return B Z dX5_triesVisits_60 e8
set_option maxHeartbeats 4000000 in
theorem wb_X5_triesVisits_17 {l : Launch} {G : ax_G} {X : ax_X} {Q : State → Prop} {h0 h : ax_H} {ls : Array Slot} {g0 : Option Nat → Int → Int → ax_H → Option (ax_H)} {fr lo fr1 lo1 : Nat} (hF : fr1 + 1 ≤ fr ∧ 136 ≤ fr ∧ lo1 + 26 ≤ lo ∧ 3541 ≤ lo) (hg0 : ∀ (x0 : Option Nat) (x1 : Int) (x2 : Int) (h : ax_H) (w : ax_H), g0 x0 x1 x2 h = some w → ax_Met l G yX5_triesVisits cX5_triesVisits 7 none fr1 lo1 [va_rf x0, .int (Int32.ofInt x1), .int (Int32.ofInt x2)] h w none) (hSF : ax_SF G) (B : ax_BL l G X cX5_triesVisits 7 RX5 fr lo) (Z : ax_Z X h0 none) (hn : X.2.2.2.2.2.2.2.2.1.name = yX5_triesVisits.name) (x0 : Option Nat) (x3 : Int) (x4 : Int) {w : (Int × ax_H) ⊕ (ax_H)} (hl : ax_hl ls 7 [(0, .inr (.inr x0)), (3, .inl x3), (4, .inl x4)]) (e : lb_X5_triesVisits_17 G.2.2 g0 x0 x3 x4 h = some w) (hp : (ax_PL (pi_X5_triesVisits_17 G X Q x0 x3) (fun w : ax_H => Q = ax_Q G X h0 w none)) w) : ax_W G X Q h 17 ls [] := by
  unfold lb_X5_triesVisits_17 at e
  refine ax_iload B dX5_triesVisits_17 hl 2 rfl ?_
  refine ax_iload_n B dX5_triesVisits_19 rfl hl 1 rfl ?_
  refine ax_icmp_ge (tgt := 50) B dX5_triesVisits_20 (by decide) e (fun e => ?_) (fun e => ?_)
  · refine ax_aload_n B dX5_triesVisits_23 rfl hl 0 rfl ?_
    refine ax_getI B ff_X5_418_5 (fun _ _ => rfl) dX5_triesVisits_24 e (fun v1 e => ?_)
    refine ax_if_ne (tgt := 50) B dX5_triesVisits_27 (by decide) e (fun e => ?_) (fun e => ?_)
    · refine ax_aload_n B dX5_triesVisits_30 rfl hl 0 rfl ?_
      refine ax_getR B ff_X5_89_5 (fun _ _ => rfl) dX5_triesVisits_31 e (fun v2 e => ?_)
      refine ax_iload B dX5_triesVisits_34 hl 2 rfl ?_
      refine ax_aload_n B dX5_triesVisits_36 rfl hl 0 rfl ?_
      refine ax_getR B ff_X5_86_5 (fun _ _ => rfl) dX5_triesVisits_37 e (fun v3 e => ?_)
      refine ax_iload B dX5_triesVisits_40 hl 2 rfl ?_
      refine ax_iald B kd100 dX5_triesVisits_42 e (fun v4 e => ?_)
      refine ax_iast B kd100 dX5_triesVisits_43 e (fun h5 e => ?_)
      refine ax_iinc (L' := [(4, .inl (x4 + 1)), (0, .inr (.inr x0)), (3, .inl x3)]) B dX5_triesVisits_44 hl 2 rfl (by decide) rfl (fun ls hl => ?_)
      refine ax_goto (tgt := 17) B dX5_triesVisits_47 (by decide) ?_
      cases e
      exact hp _ (hl.sub [1, 2, 0] rfl)
    · obtain ⟨w, e9_1, rfl⟩ := Option.map_eq_some_iff.mp e
      have e := e9_1
      exact w_X5_triesVisits_50 hF hg0 hSF B Z hn x0 (hl.sub [0] rfl) e hp
  · obtain ⟨w, e9_2, rfl⟩ := Option.map_eq_some_iff.mp e
    have e := e9_2
    exact w_X5_triesVisits_50 hF hg0 hSF B Z hn x0 (hl.sub [0] rfl) e hp
theorem w_X5_triesVisits_17 {l : Launch} {G : ax_G} {X : ax_X} {Q : State → Prop} {h0 h : ax_H} {ls : Array Slot} {g0 : Option Nat → Int → Int → ax_H → Option (ax_H)} {fr lo fr1 lo1 : Nat} (hF : fr1 + 1 ≤ fr ∧ 136 ≤ fr ∧ lo1 + 26 ≤ lo ∧ 3541 ≤ lo) (hg0 : ∀ (x0 : Option Nat) (x1 : Int) (x2 : Int) (h : ax_H) (w : ax_H), g0 x0 x1 x2 h = some w → ax_Met l G yX5_triesVisits cX5_triesVisits 7 none fr1 lo1 [va_rf x0, .int (Int32.ofInt x1), .int (Int32.ofInt x2)] h w none) (hSF : ax_SF G) (B : ax_BL l G X cX5_triesVisits 7 RX5 fr lo) (Z : ax_Z X h0 none) (hn : X.2.2.2.2.2.2.2.2.1.name = yX5_triesVisits.name) (x0 : Option Nat) (x3 : Int) (x4 : Int) {w : ax_H} (hl : ax_hl ls 7 [(0, .inr (.inr x0)), (3, .inl x3), (4, .inl x4)]) (e : f_X5_triesVisits_17 G.2.2 g0 x0 x3 x4 h = some w) (hp : (fun w : ax_H => Q = ax_Q G X h0 w none) w) : ax_W G X Q h 17 ls [] :=
  ax_iter_W (Pin := pi_X5_triesVisits_17 G X Q x0 x3) (Pout := (fun w : ax_H => Q = ax_Q G X h0 w none)) (fun s w e hp ls hl => wb_X5_triesVisits_17 hF hg0 hSF B Z hn x0 x3 s.1 hl e hp) _ _ e hp ls hl
set_option maxHeartbeats 4000000 in
theorem w_X5_triesVisits_212 {l : Launch} {G : ax_G} {X : ax_X} {Q : State → Prop} {h0 h : ax_H} {ls : Array Slot} {g0 : Option Nat → Int → Int → ax_H → Option (ax_H)} {fr lo fr1 lo1 : Nat} (hF : fr1 + 1 ≤ fr ∧ 136 ≤ fr ∧ lo1 + 26 ≤ lo ∧ 3541 ≤ lo) (hg0 : ∀ (x0 : Option Nat) (x1 : Int) (x2 : Int) (h : ax_H) (w : ax_H), g0 x0 x1 x2 h = some w → ax_Met l G yX5_triesVisits cX5_triesVisits 7 none fr1 lo1 [va_rf x0, .int (Int32.ofInt x1), .int (Int32.ofInt x2)] h w none) (hSF : ax_SF G) (B : ax_BL l G X cX5_triesVisits 7 RX5 fr lo) (Z : ax_Z X h0 none) (hn : X.2.2.2.2.2.2.2.2.1.name = yX5_triesVisits.name) (x0 : Option Nat) (x1 : Int) (x2 : Int) (x3 : Int) (x4 : Int) {w : (Int × ax_H) ⊕ (ax_H)} (hl : ax_hl ls 7 [(0, .inr (.inr x0)), (1, .inl x1), (2, .inl x2), (3, .inl x3), (4, .inl x4)]) (e : f_X5_triesVisits_212 G.2.2 g0 x0 x1 x2 x3 x4 h = some w) (hp : (ax_PL (pi_X5_triesVisits_69 G X Q x0 x1 x2 x3) (fun w : ax_H => Q = ax_Q G X h0 w none)) w) : ax_W G X Q h 212 ls [] := by
  unfold f_X5_triesVisits_212 at e
  refine ax_iinc (L' := [(4, .inl (x4 + 1)), (0, .inr (.inr x0)), (1, .inl x1), (2, .inl x2), (3, .inl x3)]) B dX5_triesVisits_212 hl 4 rfl (by decide) rfl (fun ls hl => ?_)
  refine ax_goto (tgt := 69) B dX5_triesVisits_215 (by decide) ?_
  cases e
  exact hp _ (hl.sub [1, 2, 3, 4, 0] rfl)
set_option maxHeartbeats 4000000 in
theorem w_X5_triesVisits_186 {l : Launch} {G : ax_G} {X : ax_X} {Q : State → Prop} {h0 h : ax_H} {ls : Array Slot} {g0 : Option Nat → Int → Int → ax_H → Option (ax_H)} {fr lo fr1 lo1 : Nat} (hF : fr1 + 1 ≤ fr ∧ 136 ≤ fr ∧ lo1 + 26 ≤ lo ∧ 3541 ≤ lo) (hg0 : ∀ (x0 : Option Nat) (x1 : Int) (x2 : Int) (h : ax_H) (w : ax_H), g0 x0 x1 x2 h = some w → ax_Met l G yX5_triesVisits cX5_triesVisits 7 none fr1 lo1 [va_rf x0, .int (Int32.ofInt x1), .int (Int32.ofInt x2)] h w none) (hSF : ax_SF G) (B : ax_BL l G X cX5_triesVisits 7 RX5 fr lo) (Z : ax_Z X h0 none) (hn : X.2.2.2.2.2.2.2.2.1.name = yX5_triesVisits.name) (x0 : Option Nat) (x1 : Int) (x2 : Int) (x3 : Int) (x4 : Int) {w : (Int × ax_H) ⊕ (ax_H)} (hl : ax_hl ls 7 [(0, .inr (.inr x0)), (1, .inl x1), (2, .inl x2), (3, .inl x3), (4, .inl x4)]) (e : f_X5_triesVisits_186 G.2.2 g0 x0 x1 x2 x3 x4 h = some w) (hp : (ax_PL (pi_X5_triesVisits_69 G X Q x0 x1 x2 x3) (fun w : ax_H => Q = ax_Q G X h0 w none)) w) : ax_W G X Q h 186 ls [] := by
  unfold f_X5_triesVisits_186 at e
  refine ax_aload_n B dX5_triesVisits_186 rfl hl 0 rfl ?_
  refine ax_getR B ff_X5_86_5 (fun _ _ => rfl) dX5_triesVisits_187 e (fun v1 e => ?_)
  refine ax_iload_n B dX5_triesVisits_190 rfl hl 1 rfl ?_
  refine ax_iload B dX5_triesVisits_191 hl 4 rfl ?_
  refine ax_iast B kd100 dX5_triesVisits_193 e (fun h2 e => ?_)
  refine ax_aload_n B dX5_triesVisits_194 rfl hl 0 rfl ?_
  refine ax_iload_n B dX5_triesVisits_195 rfl hl 1 rfl ?_
  refine ax_iconst B dX5_triesVisits_196 ?_
  refine ax_iadd' B dX5_triesVisits_197 ?_
  refine ax_iload_n B dX5_triesVisits_198 rfl hl 2 rfl ?_
  refine ax_iconst B dX5_triesVisits_199 ?_
  refine ax_iload B dX5_triesVisits_200 hl 4 rfl ?_
  refine ax_ishl' B dX5_triesVisits_202 ?_
  refine ax_ior' B dX5_triesVisits_203 ?_
  refine ax_ivV (y := yX5_triesVisits) (n := 2) (As := [.int (Int32.ofInt (x1 + 1)), .int (Int32.ofInt (ax_or x2 (ax_shl 1 x4)))]) B kd5 (lw_V q2573 q2575 qs110 q133 q2576) (by decide +kernel) (by omega) (fun w1 e1 => hg0 x0 (x1 + 1) (ax_or x2 (ax_shl 1 x4)) _ w1 e1) rfl hl.size (by decide) dX5_triesVisits_204 e (fun h3 e => ?_)
  refine ax_aload_n B dX5_triesVisits_207 rfl hl 0 rfl ?_
  refine ax_iload_n B dX5_triesVisits_208 rfl hl 1 rfl ?_
  refine ax_ivV (y := yX5_takesBack) (n := 1) (As := [.int (Int32.ofInt x1)]) B kd5 (lw_V q2581 q2583 qs112 q133 q2584) (by decide +kernel) (by omega) (fun w1 e1 => mt_X5_takesBack l G hSF x0 x1 _ w1 e1) rfl hl.size (by decide) dX5_triesVisits_209 e (fun h4 e => ?_)
  exact w_X5_triesVisits_212 hF hg0 hSF B Z hn x0 x1 x2 x3 x4 (hl.sub [0, 1, 2, 3, 4] rfl) e hp
set_option maxHeartbeats 4000000 in
theorem wb_X5_triesVisits_69 {l : Launch} {G : ax_G} {X : ax_X} {Q : State → Prop} {h0 h : ax_H} {ls : Array Slot} {g0 : Option Nat → Int → Int → ax_H → Option (ax_H)} {fr lo fr1 lo1 : Nat} (hF : fr1 + 1 ≤ fr ∧ 136 ≤ fr ∧ lo1 + 26 ≤ lo ∧ 3541 ≤ lo) (hg0 : ∀ (x0 : Option Nat) (x1 : Int) (x2 : Int) (h : ax_H) (w : ax_H), g0 x0 x1 x2 h = some w → ax_Met l G yX5_triesVisits cX5_triesVisits 7 none fr1 lo1 [va_rf x0, .int (Int32.ofInt x1), .int (Int32.ofInt x2)] h w none) (hSF : ax_SF G) (B : ax_BL l G X cX5_triesVisits 7 RX5 fr lo) (Z : ax_Z X h0 none) (hn : X.2.2.2.2.2.2.2.2.1.name = yX5_triesVisits.name) (x0 : Option Nat) (x1 : Int) (x2 : Int) (x3 : Int) (x4 : Int) {w : (Int × ax_H) ⊕ (ax_H)} (hl : ax_hl ls 7 [(0, .inr (.inr x0)), (1, .inl x1), (2, .inl x2), (3, .inl x3), (4, .inl x4)]) (e : lb_X5_triesVisits_69 G.2.2 g0 x0 x1 x2 x3 x4 h = some w) (hp : (ax_PL (pi_X5_triesVisits_69 G X Q x0 x1 x2 x3) (fun w : ax_H => Q = ax_Q G X h0 w none)) w) : ax_W G X Q h 69 ls [] := by
  unfold lb_X5_triesVisits_69 at e
  refine ax_iload B dX5_triesVisits_69 hl 4 rfl ?_
  refine ax_iload_n B dX5_triesVisits_71 rfl hl 3 rfl ?_
  refine ax_icmp_ge (tgt := 218) B dX5_triesVisits_72 (by decide) e (fun e => ?_) (fun e => ?_)
  · refine ax_bipush B dX5_triesVisits_75 (by decide) ?_
    refine ax_iconst B dX5_triesVisits_77 ?_
    refine ax_iload B dX5_triesVisits_78 hl 4 rfl ?_
    refine ax_imul' B dX5_triesVisits_80 ?_
    refine ax_iadd' B dX5_triesVisits_81 ?_
    refine ax_istore (L' := [(5, .inl (87 + (4 * x4))), (0, .inr (.inr x0)), (1, .inl x1), (2, .inl x2), (3, .inl x3), (4, .inl x4)]) B dX5_triesVisits_82 hl (by decide) rfl (fun ls hl => ?_)
    refine ax_iload_n B dX5_triesVisits_84 rfl hl 3 rfl ?_
    refine ax_iload B dX5_triesVisits_85 hl 5 rfl ?_
    refine ax_isI (y := yX5_isIn) (n := 2) (As := [.int (Int32.ofInt x2), .int (Int32.ofInt x4)]) B (lw_S q2562 q2563 q133 q2564) (by decide +kernel) (by omega) (fun w1 e1 => mt_X5_isIn l G hSF x2 x4 _ w1 e1) rfl hl.size (by decide) dX5_triesVisits_87 e (fun q1 e => ?_)
    refine ax_if_ne (tgt := 212) B dX5_triesVisits_90 (by decide) e (fun e => ?_) (fun e => ?_)
    · refine ax_aload_n B dX5_triesVisits_93 rfl hl 1 rfl ?_
      refine ax_aload_n B dX5_triesVisits_94 rfl hl 1 rfl ?_
      refine ax_getR B ff_X5_24_5 (fun _ _ => rfl) dX5_triesVisits_95 e (fun v2 e => ?_)
      refine ax_iload B dX5_triesVisits_98 hl 0 rfl ?_
      refine ax_iconst B dX5_triesVisits_100 ?_
      refine ax_iadd' B dX5_triesVisits_101 ?_
      refine ax_iald B kd100 dX5_triesVisits_102 e (fun v3 e => ?_)
      refine ax_aload_n B dX5_triesVisits_103 rfl hl 1 rfl ?_
      refine ax_getR B ff_X5_24_5 (fun _ _ => rfl) dX5_triesVisits_104 e (fun v4 e => ?_)
      refine ax_iload B dX5_triesVisits_107 hl 0 rfl ?_
      refine ax_iald B kd100 dX5_triesVisits_109 e (fun v5 e => ?_)
      refine ax_ivI (y := yX5_deepNow) (n := 2) (As := [.int (Int32.ofInt v3), .int (Int32.ofInt v5)]) B kd5 (lw_V q2431 q2433 qs88 q133 q2434) (by decide +kernel) (by omega) (fun w1 e1 => mt_X5_deepNow l G hSF x0 v3 v5 _ w1 e1) rfl hl.size (by decide) dX5_triesVisits_110 e (fun q6 e => ?_)
      refine ax_aload_n B dX5_triesVisits_113 rfl hl 1 rfl ?_
      refine ax_getR B ff_X5_24_5 (fun _ _ => rfl) dX5_triesVisits_114 e (fun v7 e => ?_)
      refine ax_iload B dX5_triesVisits_117 hl 0 rfl ?_
      refine ax_iconst B dX5_triesVisits_119 ?_
      refine ax_iadd' B dX5_triesVisits_120 ?_
      refine ax_iald B kd100 dX5_triesVisits_121 e (fun v8 e => ?_)
      refine ax_icmp_ge (tgt := 128) B dX5_triesVisits_122 (by decide) e (fun e => ?_) (fun e => ?_)
      · refine ax_goto (tgt := 212) B dX5_triesVisits_125 (by decide) ?_
        exact w_X5_triesVisits_212 hF hg0 hSF B Z hn x0 x1 x2 x3 x4 (hl.sub [1, 2, 3, 4, 5] rfl) e hp
      · refine ax_aload_n B dX5_triesVisits_128 rfl hl 1 rfl ?_
        refine ax_aload_n B dX5_triesVisits_129 rfl hl 1 rfl ?_
        refine ax_getR B ff_X5_24_5 (fun _ _ => rfl) dX5_triesVisits_130 e (fun v9 e => ?_)
        refine ax_iload B dX5_triesVisits_133 hl 0 rfl ?_
        refine ax_iconst B dX5_triesVisits_135 ?_
        refine ax_iadd' B dX5_triesVisits_136 ?_
        refine ax_iald B kd100 dX5_triesVisits_137 e (fun v10 e => ?_)
        refine ax_aload_n B dX5_triesVisits_138 rfl hl 1 rfl ?_
        refine ax_getR B ff_X5_24_5 (fun _ _ => rfl) dX5_triesVisits_139 e (fun v11 e => ?_)
        refine ax_iload B dX5_triesVisits_142 hl 0 rfl ?_
        refine ax_iald B kd100 dX5_triesVisits_144 e (fun v12 e => ?_)
        refine ax_aload_n B dX5_triesVisits_145 rfl hl 1 rfl ?_
        refine ax_getR B ff_X5_24_5 (fun _ _ => rfl) dX5_triesVisits_146 e (fun v13 e => ?_)
        refine ax_iload B dX5_triesVisits_149 hl 0 rfl ?_
        refine ax_iconst B dX5_triesVisits_151 ?_
        refine ax_iadd' B dX5_triesVisits_152 ?_
        refine ax_iald B kd100 dX5_triesVisits_153 e (fun v14 e => ?_)
        refine ax_ivI (y := yX5_canRepay) (n := 3) (As := [.int (Int32.ofInt v10), .int (Int32.ofInt v12), .int (Int32.ofInt v14)]) B kd5 (lw_V q2486 q2488 qs97 q133 q2489) (by decide +kernel) (by omega) (fun w1 e1 => mt_X5_canRepay l G hSF x0 v10 v12 v14 _ w1 e1) rfl hl.size (by decide) dX5_triesVisits_154 e (fun q15 e => ?_)
        refine ax_istore (L' := [(6, .inl q15.1), (5, .inl (87 + (4 * x4))), (0, .inr (.inr x0)), (1, .inl x1), (2, .inl x2), (3, .inl x3), (4, .inl x4)]) B dX5_triesVisits_157 hl (by decide) rfl (fun ls hl => ?_)
        refine ax_iload B dX5_triesVisits_159 hl 0 rfl ?_
        refine ax_if_le (tgt := 186) B dX5_triesVisits_161 (by decide) e (fun e => ?_) (fun e => ?_)
        · refine ax_aload_n B dX5_triesVisits_164 rfl hl 2 rfl ?_
          refine ax_aload_n B dX5_triesVisits_165 rfl hl 2 rfl ?_
          refine ax_getR B ff_X5_24_5 (fun _ _ => rfl) dX5_triesVisits_166 e (fun v16 e => ?_)
          refine ax_iload B dX5_triesVisits_169 hl 1 rfl ?_
          refine ax_iconst B dX5_triesVisits_171 ?_
          refine ax_iadd' B dX5_triesVisits_172 ?_
          refine ax_iald B kd100 dX5_triesVisits_173 e (fun v17 e => ?_)
          refine ax_aload_n B dX5_triesVisits_174 rfl hl 2 rfl ?_
          refine ax_getR B ff_X5_24_5 (fun _ _ => rfl) dX5_triesVisits_175 e (fun v18 e => ?_)
          refine ax_iload B dX5_triesVisits_178 hl 1 rfl ?_
          refine ax_iald B kd100 dX5_triesVisits_180 e (fun v19 e => ?_)
          refine ax_iload B dX5_triesVisits_181 hl 0 rfl ?_
          refine ax_ivV (y := yX5_repays) (n := 3) (As := [.int (Int32.ofInt v17), .int (Int32.ofInt v19), .int (Int32.ofInt q15.1)]) B kd5 (lw_V q2490 q2492 qs98 q133 q2493) (by decide +kernel) (by omega) (fun w1 e1 => mt_X5_repays l G hSF x0 v17 v19 q15.1 _ w1 e1) rfl hl.size (by decide) dX5_triesVisits_183 e (fun h20 e => ?_)
          exact w_X5_triesVisits_186 hF hg0 hSF B Z hn x0 x1 x2 x3 x4 (hl.sub [2, 3, 4, 5, 6] rfl) e hp
        · exact w_X5_triesVisits_186 hF hg0 hSF B Z hn x0 x1 x2 x3 x4 (hl.sub [2, 3, 4, 5, 6] rfl) e hp
    · exact w_X5_triesVisits_212 hF hg0 hSF B Z hn x0 x1 x2 x3 x4 (hl.sub [1, 2, 3, 4, 5] rfl) e hp
  · obtain ⟨w, e9_3, rfl⟩ := Option.map_eq_some_iff.mp e
    have e := e9_3
    have e8 := e
    have hp : Q = _ := hp
    subst hp
    exact ax_return B Z dX5_triesVisits_218 e8
theorem w_X5_triesVisits_69 {l : Launch} {G : ax_G} {X : ax_X} {Q : State → Prop} {h0 h : ax_H} {ls : Array Slot} {g0 : Option Nat → Int → Int → ax_H → Option (ax_H)} {fr lo fr1 lo1 : Nat} (hF : fr1 + 1 ≤ fr ∧ 136 ≤ fr ∧ lo1 + 26 ≤ lo ∧ 3541 ≤ lo) (hg0 : ∀ (x0 : Option Nat) (x1 : Int) (x2 : Int) (h : ax_H) (w : ax_H), g0 x0 x1 x2 h = some w → ax_Met l G yX5_triesVisits cX5_triesVisits 7 none fr1 lo1 [va_rf x0, .int (Int32.ofInt x1), .int (Int32.ofInt x2)] h w none) (hSF : ax_SF G) (B : ax_BL l G X cX5_triesVisits 7 RX5 fr lo) (Z : ax_Z X h0 none) (hn : X.2.2.2.2.2.2.2.2.1.name = yX5_triesVisits.name) (x0 : Option Nat) (x1 : Int) (x2 : Int) (x3 : Int) (x4 : Int) {w : ax_H} (hl : ax_hl ls 7 [(0, .inr (.inr x0)), (1, .inl x1), (2, .inl x2), (3, .inl x3), (4, .inl x4)]) (e : f_X5_triesVisits_69 G.2.2 g0 x0 x1 x2 x3 x4 h = some w) (hp : (fun w : ax_H => Q = ax_Q G X h0 w none) w) : ax_W G X Q h 69 ls [] :=
  ax_iter_W (Pin := pi_X5_triesVisits_69 G X Q x0 x1 x2 x3) (Pout := (fun w : ax_H => Q = ax_Q G X h0 w none)) (fun s w e hp ls hl => wb_X5_triesVisits_69 hF hg0 hSF B Z hn x0 x1 x2 x3 s.1 hl e hp) _ _ e hp ls hl
set_option maxHeartbeats 4000000 in
theorem we_X5_triesVisits {l : Launch} {G : ax_G} {X : ax_X} {Q : State → Prop} {h0 h : ax_H} {ls : Array Slot} {g0 : Option Nat → Int → Int → ax_H → Option (ax_H)} {fr lo fr1 lo1 : Nat} (hF : fr1 + 1 ≤ fr ∧ 136 ≤ fr ∧ lo1 + 26 ≤ lo ∧ 3541 ≤ lo) (hg0 : ∀ (x0 : Option Nat) (x1 : Int) (x2 : Int) (h : ax_H) (w : ax_H), g0 x0 x1 x2 h = some w → ax_Met l G yX5_triesVisits cX5_triesVisits 7 none fr1 lo1 [va_rf x0, .int (Int32.ofInt x1), .int (Int32.ofInt x2)] h w none) (hSF : ax_SF G) (B : ax_BL l G X cX5_triesVisits 7 RX5 fr lo) (Z : ax_Z X h0 none) (hn : X.2.2.2.2.2.2.2.2.1.name = yX5_triesVisits.name) (x0 : Option Nat) (x1 : Int) (x2 : Int) {w : ax_H} (hl : ax_hl ls 7 [(0, .inr (.inr x0)), (1, .inl x1), (2, .inl x2)]) (e : f_X5_triesVisits G.2.2 g0 x0 x1 x2 h = some w) (hp : (fun w : ax_H => Q = ax_Q G X h0 w none) w) : ax_W G X Q h 0 ls [] := by
  unfold f_X5_triesVisits at e
  refine ax_aload_n B dX5_triesVisits_0 rfl hl 0 rfl ?_
  refine ax_getR B ff_X5_24_5 (fun _ _ => rfl) dX5_triesVisits_1 e (fun v1 e => ?_)
  refine ax_sipush B dX5_triesVisits_4 (by decide) ?_
  refine ax_iald B kd100 dX5_triesVisits_7 e (fun v2 e => ?_)
  refine ax_istore_n (L' := [(3, .inl v2), (0, .inr (.inr x0)), (1, .inl x1), (2, .inl x2)]) B dX5_triesVisits_8 rfl hl (by decide) rfl (fun ls hl => ?_)
  refine ax_iload_n B dX5_triesVisits_9 rfl hl 2 rfl ?_
  refine ax_iload_n B dX5_triesVisits_10 rfl hl 0 rfl ?_
  refine ax_icmp_ne (tgt := 61) B dX5_triesVisits_11 (by decide) e (fun e => ?_) (fun e => ?_)
  · refine ax_iconst B dX5_triesVisits_14 ?_
    refine ax_istore (L' := [(4, .inl 0), (3, .inl v2), (0, .inr (.inr x0)), (1, .inl x1), (2, .inl x2)]) B dX5_triesVisits_15 hl (by decide) rfl (fun ls hl => ?_)
    exact w_X5_triesVisits_17 hF hg0 hSF B Z hn x0 v2 0 (hl.sub [2, 1, 0] rfl) e hp
  · refine ax_aload_n B dX5_triesVisits_61 rfl hl 1 rfl ?_
    refine ax_iload_n B dX5_triesVisits_62 rfl hl 2 rfl ?_
    refine ax_ivV (y := yX5_laysAside) (n := 1) (As := [.int (Int32.ofInt x1)]) B kd5 (lw_V q2577 q2579 qs111 q133 q2580) (by decide +kernel) (by omega) (fun w1 e1 => mt_X5_laysAside l G hSF x0 x1 _ w1 e1) rfl hl.size (by decide) dX5_triesVisits_63 e (fun h3 e => ?_)
    refine ax_iconst B dX5_triesVisits_66 ?_
    refine ax_istore (L' := [(4, .inl 0), (3, .inl v2), (0, .inr (.inr x0)), (1, .inl x1), (2, .inl x2)]) B dX5_triesVisits_67 hl (by decide) rfl (fun ls hl => ?_)
    exact w_X5_triesVisits_69 hF hg0 hSF B Z hn x0 x1 x2 v2 0 (hl.sub [2, 3, 4, 1, 0] rfl) e hp
theorem mt_X5_triesVisits (l : Launch) (G : ax_G) (hSF : ax_SF G) {g0 : Option Nat → Int → Int → ax_H → Option (ax_H)} {fr lo fr1 lo1 : Nat} (hF : fr1 + 1 ≤ fr ∧ 136 ≤ fr ∧ lo1 + 26 ≤ lo ∧ 3541 ≤ lo) (hg0 : ∀ (x0 : Option Nat) (x1 : Int) (x2 : Int) (h : ax_H) (w : ax_H), g0 x0 x1 x2 h = some w → ax_Met l G yX5_triesVisits cX5_triesVisits 7 none fr1 lo1 [va_rf x0, .int (Int32.ofInt x1), .int (Int32.ofInt x2)] h w none) (x0 : Option Nat) (x1 : Int) (x2 : Int) (h : ax_H) (w : ax_H) (e : f_X5_triesVisits G.2.2 g0 x0 x1 x2 h = some w) : ax_Met l G yX5_triesVisits cX5_triesVisits 7 none fr lo [va_rf x0, .int (Int32.ofInt x1), .int (Int32.ofInt x2)] h w none :=
  ax_enter [.inr (.inr x0), .inl x1, .inl x2] (y := yX5_triesVisits) hSF (plainFor_of_name (by decide +kernel)) (Nat.le_of_ble_eq_true rfl) (fun X ls B Z hn hl => we_X5_triesVisits hF hg0 hSF B Z hn x0 x1 x2 hl e rfl)
theorem mg_X5_triesVisits (l : Launch) (G : ax_G) (hSF : ax_SF G) : ∀ n : Nat, (∀ (x0 : Option Nat) (x1 : Int) (x2 : Int) (h : ax_H) (w : ax_H), (rg_X5_triesVisits G.2.2 n) x0 x1 x2 h = some w → ax_Met l G yX5_triesVisits cX5_triesVisits 7 none (136 + n) (3541 + n * 26) [va_rf x0, .int (Int32.ofInt x1), .int (Int32.ofInt x2)] h w none)
  | 0 => fun _ _ _ _ _ e => (by cases e)
  | n + 1 => by
    have ih := mg_X5_triesVisits l G hSF n
    exact fun x0 x1 x2 h w e => mt_X5_triesVisits l G hSF (fr1 := 136 + n) (lo1 := 3541 + n * 26) (by omega) (ih) x0 x1 x2 h w e
theorem mf_X5_triesVisits (l : Launch) (G : ax_G) (hSF : ax_SF G) (n : Nat) (x0 : Option Nat) (x1 : Int) (x2 : Int) (h : ax_H) (w : ax_H) (e : fn_X5_triesVisits G.2.2 n x0 x1 x2 h = some w) : ax_Met l G yX5_triesVisits cX5_triesVisits 7 none (136 + n) (3541 + n * 26) [va_rf x0, .int (Int32.ofInt x1), .int (Int32.ofInt x2)] h w none := (mg_X5_triesVisits l G hSF n) x0 x1 x2 h w e
def dkwX5_plan_2 : List UInt8 := [180, 1, 162, 154, 0, 7, 2, 167, 0, 9, 42, 180, 0, 89, 27, 46, 172]
abbrev dktX5_plan_2 : List UInt8 := dkwX5_plan_2 ++ []
def dkwX5_plan_1 : List UInt8 := [181, 1, 162, 42, 3, 3, 182, 1, 168, 27, 2, 160, 0, 10, 42, 180, 1, 162, 167, 0, 20, 42]
abbrev dktX5_plan_1 : List UInt8 := dkwX5_plan_1 ++ dktX5_plan_2
def dkwX5_plan_0 : List UInt8 := [27, 2, 42, 180, 0, 24, 17, 0, 153, 46, 4, 100, 184, 0, 123, 154, 0, 5, 2, 172, 42, 3]
abbrev dktX5_plan_0 : List UInt8 := dkwX5_plan_0 ++ dktX5_plan_1
theorem dksX5_plan_0 : cX5_plan.data.toList.drop 0 = dktX5_plan_0 := by decide +kernel
theorem dksX5_plan_1 : cX5_plan.data.toList.drop 22 = dktX5_plan_1 := dk_seg dksX5_plan_0 22 rfl rfl
theorem dksX5_plan_2 : cX5_plan.data.toList.drop 44 = dktX5_plan_2 := dk_seg dksX5_plan_1 22 rfl rfl
theorem dX5_plan_0 : decode cX5_plan 0 = .ok (.iload_n 1, 1) := dk_27 (dk_at dksX5_plan_0 0 rfl rfl)
theorem dX5_plan_1 : decode cX5_plan 1 = .ok (.iconst (-1), 1) := dk_2 (dk_at dksX5_plan_0 1 rfl rfl)
theorem dX5_plan_2 : decode cX5_plan 2 = .ok (.aload_n 0, 1) := dk_42 (dk_at dksX5_plan_0 2 rfl rfl)
theorem dX5_plan_3 : decode cX5_plan 3 = .ok (.getfield 24, 3) := dk_180 0 24 (dk_at dksX5_plan_0 3 rfl rfl)
theorem dX5_plan_6 : decode cX5_plan 6 = .ok (.sipush 153, 3) := dk_17 0 153 (dk_at dksX5_plan_0 6 rfl rfl)
theorem dX5_plan_9 : decode cX5_plan 9 = .ok (.iaload, 1) := dk_46 (dk_at dksX5_plan_0 9 rfl rfl)
theorem dX5_plan_10 : decode cX5_plan 10 = .ok (.iconst 1, 1) := dk_4 (dk_at dksX5_plan_0 10 rfl rfl)
theorem dX5_plan_11 : decode cX5_plan 11 = .ok (.isub, 1) := dk_100 (dk_at dksX5_plan_0 11 rfl rfl)
theorem dX5_plan_12 : decode cX5_plan 12 = .ok (.invokestatic 123, 3) := dk_184 0 123 (dk_at dksX5_plan_0 12 rfl rfl)
theorem dX5_plan_15 : decode cX5_plan 15 = .ok (.ifCond .ne 5, 3) := dk_154 0 5 (dk_at dksX5_plan_0 15 rfl rfl)
theorem dX5_plan_18 : decode cX5_plan 18 = .ok (.iconst (-1), 1) := dk_2 (dk_at dksX5_plan_0 18 rfl rfl)
theorem dX5_plan_19 : decode cX5_plan 19 = .ok (.ireturn, 1) := dk_172 (dk_at dksX5_plan_0 19 rfl rfl)
theorem dX5_plan_20 : decode cX5_plan 20 = .ok (.aload_n 0, 1) := dk_42 (dk_at dksX5_plan_0 20 rfl rfl)
theorem dX5_plan_21 : decode cX5_plan 21 = .ok (.iconst 0, 1) := dk_3 (dk_at dksX5_plan_0 21 rfl rfl)
theorem dX5_plan_22 : decode cX5_plan 22 = .ok (.putfield 418, 3) := dk_181 1 162 (dk_at dksX5_plan_1 0 rfl rfl)
theorem dX5_plan_25 : decode cX5_plan 25 = .ok (.aload_n 0, 1) := dk_42 (dk_at dksX5_plan_1 3 rfl rfl)
theorem dX5_plan_26 : decode cX5_plan 26 = .ok (.iconst 0, 1) := dk_3 (dk_at dksX5_plan_1 4 rfl rfl)
theorem dX5_plan_27 : decode cX5_plan 27 = .ok (.iconst 0, 1) := dk_3 (dk_at dksX5_plan_1 5 rfl rfl)
theorem dX5_plan_28 : decode cX5_plan 28 = .ok (.invokevirtual 424, 3) := dk_182 1 168 (dk_at dksX5_plan_1 6 rfl rfl)
theorem dX5_plan_31 : decode cX5_plan 31 = .ok (.iload_n 1, 1) := dk_27 (dk_at dksX5_plan_1 9 rfl rfl)
theorem dX5_plan_32 : decode cX5_plan 32 = .ok (.iconst (-1), 1) := dk_2 (dk_at dksX5_plan_1 10 rfl rfl)
theorem dX5_plan_33 : decode cX5_plan 33 = .ok (.if_icmp .ne 10, 3) := dk_160 0 10 (dk_at dksX5_plan_1 11 rfl rfl)
theorem dX5_plan_36 : decode cX5_plan 36 = .ok (.aload_n 0, 1) := dk_42 (dk_at dksX5_plan_1 14 rfl rfl)
theorem dX5_plan_37 : decode cX5_plan 37 = .ok (.getfield 418, 3) := dk_180 1 162 (dk_at dksX5_plan_1 15 rfl rfl)
theorem dX5_plan_40 : decode cX5_plan 40 = .ok (.goto 20, 3) := dk_167 0 20 (dk_at dksX5_plan_1 18 rfl rfl)
theorem dX5_plan_43 : decode cX5_plan 43 = .ok (.aload_n 0, 1) := dk_42 (dk_at dksX5_plan_1 21 rfl rfl)
theorem dX5_plan_44 : decode cX5_plan 44 = .ok (.getfield 418, 3) := dk_180 1 162 (dk_at dksX5_plan_2 0 rfl rfl)
theorem dX5_plan_47 : decode cX5_plan 47 = .ok (.ifCond .ne 7, 3) := dk_154 0 7 (dk_at dksX5_plan_2 3 rfl rfl)
theorem dX5_plan_50 : decode cX5_plan 50 = .ok (.iconst (-1), 1) := dk_2 (dk_at dksX5_plan_2 6 rfl rfl)
theorem dX5_plan_51 : decode cX5_plan 51 = .ok (.goto 9, 3) := dk_167 0 9 (dk_at dksX5_plan_2 7 rfl rfl)
theorem dX5_plan_54 : decode cX5_plan 54 = .ok (.aload_n 0, 1) := dk_42 (dk_at dksX5_plan_2 10 rfl rfl)
theorem dX5_plan_55 : decode cX5_plan 55 = .ok (.getfield 89, 3) := dk_180 0 89 (dk_at dksX5_plan_2 11 rfl rfl)
theorem dX5_plan_58 : decode cX5_plan 58 = .ok (.iload_n 1, 1) := dk_27 (dk_at dksX5_plan_2 14 rfl rfl)
theorem dX5_plan_59 : decode cX5_plan 59 = .ok (.iaload, 1) := dk_46 (dk_at dksX5_plan_2 15 rfl rfl)
theorem dX5_plan_60 : decode cX5_plan 60 = .ok (.ireturn, 1) := dk_172 (dk_at dksX5_plan_2 16 rfl rfl)
noncomputable def f_X5_plan (E : ax_E) (x0 : Option Nat) (x1 : Int) (h : ax_H) : Option (Int × ax_H) :=
  (ax_gR E h x0 5 2).bind fun v1 =>
  (ax_ld E h v1 100 153).bind fun v2 =>
  (f_X5_lies E x1 (-1) (v2 - 1) h).bind fun q3 =>
  if i2 q3.1 = 0 then
    some ((-1), q3.2)
  else
    (ax_pI q3.2 x0 5 37 0).bind fun h4 =>
    (ax_ce E h4 x0 5).bind fun _ => (fn_X5_triesVisits E 64 x0 0 0 h4).bind fun h5 =>
    if i2 x1 = i2 (-1) then
      (ax_gI E h5 x0 5 37).bind fun v6 =>
      some (v6, h5)
    else
      (ax_gI E h5 x0 5 37).bind fun v7 =>
      if i2 v7 = 0 then
        some ((-1), h5)
      else
        (ax_gR E h5 x0 5 36).bind fun v8 =>
        (ax_ld E h5 v8 100 x1).bind fun v9 =>
        some (v9, h5)
set_option maxHeartbeats 4000000 in
theorem we_X5_plan {l : Launch} {G : ax_G} {X : ax_X} {Q : State → Prop} {h0 h : ax_H} {ls : Array Slot} (hSF : ax_SF G) (B : ax_BL l G X cX5_plan 2 RX5 201 5231) (Z : ax_Z X h0 ((some FieldType.int))) (hn : X.2.2.2.2.2.2.2.2.1.name = yX5_plan.name) (x0 : Option Nat) (x1 : Int) {w : Int × ax_H} (hl : ax_hl ls 2 [(0, .inr (.inr x0)), (1, .inl x1)]) (e : f_X5_plan G.2.2 x0 x1 h = some w) (hp : (fun w : Int × ax_H => Q = ax_Q G X h0 w.2 (some (.int (Int32.ofInt w.1)))) w) : ax_W G X Q h 0 ls [] := by
  unfold f_X5_plan at e
  refine ax_iload_n B dX5_plan_0 rfl hl 1 rfl ?_
  refine ax_iconst B dX5_plan_1 ?_
  refine ax_aload_n B dX5_plan_2 rfl hl 0 rfl ?_
  refine ax_getR B ff_X5_24_5 (fun _ _ => rfl) dX5_plan_3 e (fun v1 e => ?_)
  refine ax_sipush B dX5_plan_6 (by decide) ?_
  refine ax_iald B kd100 dX5_plan_9 e (fun v2 e => ?_)
  refine ax_iconst B dX5_plan_10 ?_
  refine ax_isub' B dX5_plan_11 ?_
  refine ax_isI (y := yX5_lies) (n := 3) (As := [.int (Int32.ofInt x1), .int (Int32.ofInt (-1)), .int (Int32.ofInt (v2 - 1))]) B (lw_S q2151 q2152 q133 q2153) (by decide +kernel) ⟨Nat.le_of_ble_eq_true rfl, Nat.le_of_ble_eq_true rfl⟩ (fun w1 e1 => mt_X5_lies l G hSF x1 (-1) (v2 - 1) _ w1 e1) rfl hl.size (by decide) dX5_plan_12 e (fun q3 e => ?_)
  refine ax_if_ne (tgt := 20) B dX5_plan_15 (by decide) e (fun e => ?_) (fun e => ?_)
  · refine ax_iconst B dX5_plan_18 ?_
    have e8 := e
    have hp : Q = _ := hp
    subst hp
    exact ax_ireturn B Z dX5_plan_19 e8
  · refine ax_aload_n B dX5_plan_20 rfl hl 0 rfl ?_
    refine ax_iconst B dX5_plan_21 ?_
    refine ax_putI B ff_X5_418_5 (Or.inl rfl) rfl dX5_plan_22 e (fun h4 e => ?_)
    refine ax_aload_n B dX5_plan_25 rfl hl 0 rfl ?_
    refine ax_iconst B dX5_plan_26 ?_
    refine ax_iconst B dX5_plan_27 ?_
    refine ax_ivV (y := yX5_triesVisits) (n := 2) (As := [.int (Int32.ofInt 0), .int (Int32.ofInt 0)]) B kd5 (lw_V q2573 q2575 qs110 q133 q2576) (by decide +kernel) ⟨Nat.le_of_ble_eq_true rfl, Nat.le_of_ble_eq_true rfl⟩ (fun w1 e1 => mf_X5_triesVisits l G hSF 64 x0 0 0 _ w1 e1) rfl hl.size (by decide) dX5_plan_28 e (fun h5 e => ?_)
    refine ax_iload_n B dX5_plan_31 rfl hl 1 rfl ?_
    refine ax_iconst B dX5_plan_32 ?_
    refine ax_icmp_ne (tgt := 43) B dX5_plan_33 (by decide) e (fun e => ?_) (fun e => ?_)
    · refine ax_aload_n B dX5_plan_36 rfl hl 0 rfl ?_
      refine ax_getI B ff_X5_418_5 (fun _ _ => rfl) dX5_plan_37 e (fun v6 e => ?_)
      refine ax_goto (tgt := 60) B dX5_plan_40 (by decide) ?_
      have e8 := e
      have hp : Q = _ := hp
      subst hp
      exact ax_ireturn B Z dX5_plan_60 e8
    · refine ax_aload_n B dX5_plan_43 rfl hl 0 rfl ?_
      refine ax_getI B ff_X5_418_5 (fun _ _ => rfl) dX5_plan_44 e (fun v7 e => ?_)
      refine ax_if_ne (tgt := 54) B dX5_plan_47 (by decide) e (fun e => ?_) (fun e => ?_)
      · refine ax_iconst B dX5_plan_50 ?_
        refine ax_goto (tgt := 60) B dX5_plan_51 (by decide) ?_
        have e8 := e
        have hp : Q = _ := hp
        subst hp
        exact ax_ireturn B Z dX5_plan_60 e8
      · refine ax_aload_n B dX5_plan_54 rfl hl 0 rfl ?_
        refine ax_getR B ff_X5_89_5 (fun _ _ => rfl) dX5_plan_55 e (fun v8 e => ?_)
        refine ax_iload_n B dX5_plan_58 rfl hl 1 rfl ?_
        refine ax_iald B kd100 dX5_plan_59 e (fun v9 e => ?_)
        have e8 := e
        have hp : Q = _ := hp
        subst hp
        exact ax_ireturn B Z dX5_plan_60 e8
theorem mt_X5_plan (l : Launch) (G : ax_G) (hSF : ax_SF G) (x0 : Option Nat) (x1 : Int) (h : ax_H) (w : Int × ax_H) (e : f_X5_plan G.2.2 x0 x1 h = some w) : ax_Met l G yX5_plan cX5_plan 2 ((some FieldType.int)) 201 5231 [va_rf x0, .int (Int32.ofInt x1)] h w.2 (some (.int (Int32.ofInt w.1))) :=
  ax_enter [.inr (.inr x0), .inl x1] (y := yX5_plan) hSF (plainFor_of_name (by decide +kernel)) (Nat.le_of_ble_eq_true rfl) (fun X ls B Z hn hl => we_X5_plan hSF B Z hn x0 x1 hl e rfl)
def dkwX5_ones_1 : List UInt8 := [27, 172]
abbrev dktX5_ones_1 : List UInt8 := dkwX5_ones_1 ++ []
def dkwX5_ones_0 : List UInt8 := [3, 60, 3, 61, 28, 16, 16, 162, 0, 17, 27, 26, 28, 122, 4, 126, 96, 60, 132, 2, 1, 167, 255, 239]
abbrev dktX5_ones_0 : List UInt8 := dkwX5_ones_0 ++ dktX5_ones_1
theorem dksX5_ones_0 : cX5_ones.data.toList.drop 0 = dktX5_ones_0 := by decide +kernel
theorem dksX5_ones_1 : cX5_ones.data.toList.drop 24 = dktX5_ones_1 := dk_seg dksX5_ones_0 24 rfl rfl
theorem dX5_ones_0 : decode cX5_ones 0 = .ok (.iconst 0, 1) := dk_3 (dk_at dksX5_ones_0 0 rfl rfl)
theorem dX5_ones_1 : decode cX5_ones 1 = .ok (.istore_n 1, 1) := dk_60 (dk_at dksX5_ones_0 1 rfl rfl)
theorem dX5_ones_2 : decode cX5_ones 2 = .ok (.iconst 0, 1) := dk_3 (dk_at dksX5_ones_0 2 rfl rfl)
theorem dX5_ones_3 : decode cX5_ones 3 = .ok (.istore_n 2, 1) := dk_61 (dk_at dksX5_ones_0 3 rfl rfl)
theorem dX5_ones_4 : decode cX5_ones 4 = .ok (.iload_n 2, 1) := dk_28 (dk_at dksX5_ones_0 4 rfl rfl)
theorem dX5_ones_5 : decode cX5_ones 5 = .ok (.bipush 16, 2) := dk_16 16 (dk_at dksX5_ones_0 5 rfl rfl)
theorem dX5_ones_7 : decode cX5_ones 7 = .ok (.if_icmp .ge 17, 3) := dk_162 0 17 (dk_at dksX5_ones_0 7 rfl rfl)
theorem dX5_ones_10 : decode cX5_ones 10 = .ok (.iload_n 1, 1) := dk_27 (dk_at dksX5_ones_0 10 rfl rfl)
theorem dX5_ones_11 : decode cX5_ones 11 = .ok (.iload_n 0, 1) := dk_26 (dk_at dksX5_ones_0 11 rfl rfl)
theorem dX5_ones_12 : decode cX5_ones 12 = .ok (.iload_n 2, 1) := dk_28 (dk_at dksX5_ones_0 12 rfl rfl)
theorem dX5_ones_13 : decode cX5_ones 13 = .ok (.ishr, 1) := dk_122 (dk_at dksX5_ones_0 13 rfl rfl)
theorem dX5_ones_14 : decode cX5_ones 14 = .ok (.iconst 1, 1) := dk_4 (dk_at dksX5_ones_0 14 rfl rfl)
theorem dX5_ones_15 : decode cX5_ones 15 = .ok (.iand, 1) := dk_126 (dk_at dksX5_ones_0 15 rfl rfl)
theorem dX5_ones_16 : decode cX5_ones 16 = .ok (.iadd, 1) := dk_96 (dk_at dksX5_ones_0 16 rfl rfl)
theorem dX5_ones_17 : decode cX5_ones 17 = .ok (.istore_n 1, 1) := dk_60 (dk_at dksX5_ones_0 17 rfl rfl)
theorem dX5_ones_18 : decode cX5_ones 18 = .ok (.iinc 2 1, 3) := dk_132 2 1 (dk_at dksX5_ones_0 18 rfl rfl)
theorem dX5_ones_21 : decode cX5_ones 21 = .ok (.goto (-17), 3) := dk_167 255 239 (dk_at dksX5_ones_0 21 rfl rfl)
theorem dX5_ones_24 : decode cX5_ones 24 = .ok (.iload_n 1, 1) := dk_27 (dk_at dksX5_ones_1 0 rfl rfl)
theorem dX5_ones_25 : decode cX5_ones 25 = .ok (.ireturn, 1) := dk_172 (dk_at dksX5_ones_1 1 rfl rfl)
noncomputable def lb_X5_ones_4 (E : ax_E) (x0 : Int) (x1 : Int) (x2 : Int) (h : ax_H) : Option ((Int × Int × ax_H) ⊕ (Int × ax_H)) :=
  if i2 x2 < i2 16 then
    some (.inl ((x1 + (ax_and (ax_shr x0 x2) 1)), (x2 + 1), h))
  else
    (some (x1, h)).map Sum.inr
noncomputable def f_X5_ones_4 (E : ax_E) (x0 : Int) (x1 : Int) (x2 : Int) (h : ax_H) : Option (Int × ax_H) :=
  ax_iter (fun s : Int × Int × ax_H => lb_X5_ones_4 E x0 s.1 s.2.1 s.2.2) (x1, x2, h)
noncomputable def f_X5_ones (E : ax_E) (x0 : Int) (h : ax_H) : Option (Int × ax_H) :=
  f_X5_ones_4 E x0 0 0 h
def pi_X5_ones_4 (G : ax_G) (X : ax_X) (Q : State → Prop) (x0 : Int) : Int × Int × ax_H → Prop := fun s => ∀ ls : Array Slot, ax_hl ls 3 [(0, .inl x0), (1, .inl s.1), (2, .inl s.2.1)] → ax_W G X Q s.2.2 4 ls []
set_option maxHeartbeats 4000000 in
theorem wb_X5_ones_4 {l : Launch} {G : ax_G} {X : ax_X} {Q : State → Prop} {h0 h : ax_H} {ls : Array Slot} (hSF : ax_SF G) (B : ax_BL l G X cX5_ones 3 RX5 1 40) (Z : ax_Z X h0 ((some FieldType.int))) (hn : X.2.2.2.2.2.2.2.2.1.name = yX5_ones.name) (x0 : Int) (x1 : Int) (x2 : Int) {w : (Int × Int × ax_H) ⊕ (Int × ax_H)} (hl : ax_hl ls 3 [(0, .inl x0), (1, .inl x1), (2, .inl x2)]) (e : lb_X5_ones_4 G.2.2 x0 x1 x2 h = some w) (hp : (ax_PL (pi_X5_ones_4 G X Q x0) (fun w : Int × ax_H => Q = ax_Q G X h0 w.2 (some (.int (Int32.ofInt w.1))))) w) : ax_W G X Q h 4 ls [] := by
  unfold lb_X5_ones_4 at e
  refine ax_iload_n B dX5_ones_4 rfl hl 2 rfl ?_
  refine ax_bipush B dX5_ones_5 (by decide) ?_
  refine ax_icmp_ge (tgt := 24) B dX5_ones_7 (by decide) e (fun e => ?_) (fun e => ?_)
  · refine ax_iload_n B dX5_ones_10 rfl hl 1 rfl ?_
    refine ax_iload_n B dX5_ones_11 rfl hl 0 rfl ?_
    refine ax_iload_n B dX5_ones_12 rfl hl 2 rfl ?_
    refine ax_ishr' B dX5_ones_13 ?_
    refine ax_iconst B dX5_ones_14 ?_
    refine ax_iand' B dX5_ones_15 ?_
    refine ax_iadd' B dX5_ones_16 ?_
    refine ax_istore_n (L' := [(1, .inl (x1 + (ax_and (ax_shr x0 x2) 1))), (0, .inl x0), (2, .inl x2)]) B dX5_ones_17 rfl hl (by decide) rfl (fun ls hl => ?_)
    refine ax_iinc (L' := [(2, .inl (x2 + 1)), (1, .inl (x1 + (ax_and (ax_shr x0 x2) 1))), (0, .inl x0)]) B dX5_ones_18 hl 2 rfl (by decide) rfl (fun ls hl => ?_)
    refine ax_goto (tgt := 4) B dX5_ones_21 (by decide) ?_
    cases e
    exact hp _ (hl.sub [2, 1, 0] rfl)
  · obtain ⟨w, e9_1, rfl⟩ := Option.map_eq_some_iff.mp e
    have e := e9_1
    refine ax_iload_n B dX5_ones_24 rfl hl 1 rfl ?_
    have e8 := e
    have hp : Q = _ := hp
    subst hp
    exact ax_ireturn B Z dX5_ones_25 e8
theorem w_X5_ones_4 {l : Launch} {G : ax_G} {X : ax_X} {Q : State → Prop} {h0 h : ax_H} {ls : Array Slot} (hSF : ax_SF G) (B : ax_BL l G X cX5_ones 3 RX5 1 40) (Z : ax_Z X h0 ((some FieldType.int))) (hn : X.2.2.2.2.2.2.2.2.1.name = yX5_ones.name) (x0 : Int) (x1 : Int) (x2 : Int) {w : Int × ax_H} (hl : ax_hl ls 3 [(0, .inl x0), (1, .inl x1), (2, .inl x2)]) (e : f_X5_ones_4 G.2.2 x0 x1 x2 h = some w) (hp : (fun w : Int × ax_H => Q = ax_Q G X h0 w.2 (some (.int (Int32.ofInt w.1)))) w) : ax_W G X Q h 4 ls [] :=
  ax_iter_W (Pin := pi_X5_ones_4 G X Q x0) (Pout := (fun w : Int × ax_H => Q = ax_Q G X h0 w.2 (some (.int (Int32.ofInt w.1))))) (fun s w e hp ls hl => wb_X5_ones_4 hSF B Z hn x0 s.1 s.2.1 hl e hp) _ _ e hp ls hl
set_option maxHeartbeats 4000000 in
theorem we_X5_ones {l : Launch} {G : ax_G} {X : ax_X} {Q : State → Prop} {h0 h : ax_H} {ls : Array Slot} (hSF : ax_SF G) (B : ax_BL l G X cX5_ones 3 RX5 1 40) (Z : ax_Z X h0 ((some FieldType.int))) (hn : X.2.2.2.2.2.2.2.2.1.name = yX5_ones.name) (x0 : Int) {w : Int × ax_H} (hl : ax_hl ls 3 [(0, .inl x0)]) (e : f_X5_ones G.2.2 x0 h = some w) (hp : (fun w : Int × ax_H => Q = ax_Q G X h0 w.2 (some (.int (Int32.ofInt w.1)))) w) : ax_W G X Q h 0 ls [] := by
  unfold f_X5_ones at e
  refine ax_iconst B dX5_ones_0 ?_
  refine ax_istore_n (L' := [(1, .inl 0), (0, .inl x0)]) B dX5_ones_1 rfl hl (by decide) rfl (fun ls hl => ?_)
  refine ax_iconst B dX5_ones_2 ?_
  refine ax_istore_n (L' := [(2, .inl 0), (1, .inl 0), (0, .inl x0)]) B dX5_ones_3 rfl hl (by decide) rfl (fun ls hl => ?_)
  exact w_X5_ones_4 hSF B Z hn x0 0 0 (hl.sub [2, 1, 0] rfl) e hp
theorem mt_X5_ones (l : Launch) (G : ax_G) (hSF : ax_SF G) (x0 : Int) (h : ax_H) (w : Int × ax_H) (e : f_X5_ones G.2.2 x0 h = some w) : ax_Met l G yX5_ones cX5_ones 3 ((some FieldType.int)) 1 40 [.int (Int32.ofInt x0)] h w.2 (some (.int (Int32.ofInt w.1))) :=
  ax_enter [.inl x0] (y := yX5_ones) hSF (plainFor_of_name (by decide +kernel)) (Nat.le_of_ble_eq_true rfl) (fun X ls B Z hn hl => we_X5_ones hSF B Z hn x0 hl e rfl)
def dkwX5_findsThief_12 : List UInt8 := [21, 9, 181, 1, 177, 132, 7, 1, 167, 255, 70, 177]
abbrev dktX5_findsThief_12 : List UInt8 := dkwX5_findsThief_12 ++ []
def dkwX5_findsThief_11 : List UInt8 := [21, 5, 21, 8, 96, 21, 6, 182, 1, 82, 29, 162, 0, 6, 167, 0, 15, 42, 21, 7, 181, 1, 174, 42]
abbrev dktX5_findsThief_11 : List UInt8 := dkwX5_findsThief_11 ++ dktX5_findsThief_12
def dkwX5_findsThief_10 : List UInt8 := [160, 0, 21, 21, 7, 184, 1, 180, 42, 180, 1, 174, 184, 1, 180, 161, 0, 6, 167, 0, 35, 42, 28, 27]
abbrev dktX5_findsThief_10 : List UInt8 := dkwX5_findsThief_10 ++ dktX5_findsThief_11
def dkwX5_findsThief_9 : List UInt8 := [180, 1, 174, 2, 159, 0, 39, 21, 9, 42, 180, 1, 177, 163, 0, 62, 21, 9, 42, 180, 1, 177]
abbrev dktX5_findsThief_9 : List UInt8 := dkwX5_findsThief_9 ++ dktX5_findsThief_10
def dkwX5_findsThief_8 : List UInt8 := [153, 0, 13, 42, 180, 0, 92, 21, 10, 46, 167, 0, 4, 3, 96, 54, 9, 132, 10, 1, 167, 255, 185, 42]
abbrev dktX5_findsThief_8 : List UInt8 := dkwX5_findsThief_8 ++ dktX5_findsThief_9
def dkwX5_findsThief_7 : List UInt8 := [7, 21, 10, 104, 96, 5, 96, 46, 167, 0, 4, 3, 96, 54, 8, 21, 9, 21, 7, 21, 10, 184, 1, 150]
abbrev dktX5_findsThief_7 : List UInt8 := dkwX5_findsThief_7 ++ dktX5_findsThief_8
def dkwX5_findsThief_6 : List UInt8 := [182, 0, 137, 162, 0, 68, 21, 8, 21, 7, 21, 10, 184, 1, 150, 153, 0, 20, 42, 180, 0, 24, 16, 7]
abbrev dktX5_findsThief_6 : List UInt8 := dkwX5_findsThief_6 ++ dktX5_findsThief_7
def dkwX5_findsThief_5 : List UInt8 := [21, 4, 2, 130, 126, 153, 0, 6, 167, 0, 162, 3, 54, 8, 3, 54, 9, 3, 54, 10, 21, 10, 42]
abbrev dktX5_findsThief_5 : List UInt8 := dkwX5_findsThief_5 ++ dktX5_findsThief_6
def dkwX5_findsThief_4 : List UInt8 := [54, 6, 42, 2, 181, 1, 174, 3, 54, 7, 21, 7, 4, 42, 182, 0, 137, 120, 162, 0, 181, 21, 7]
abbrev dktX5_findsThief_4 : List UInt8 := dkwX5_findsThief_4 ++ dktX5_findsThief_5
def dkwX5_findsThief_3 : List UInt8 := [3, 128, 54, 4, 132, 5, 1, 167, 255, 184, 42, 28, 27, 182, 0, 178, 54, 5, 42, 27, 28, 182, 0, 178]
abbrev dktX5_findsThief_3 : List UInt8 := dkwX5_findsThief_3 ++ dktX5_findsThief_4
def dkwX5_findsThief_2 : List UInt8 := [180, 0, 24, 16, 7, 7, 21, 5, 104, 96, 4, 96, 46, 27, 159, 0, 10, 4, 21, 5, 120, 167, 0, 4]
abbrev dktX5_findsThief_2 : List UInt8 := dkwX5_findsThief_2 ++ dktX5_findsThief_3
def dkwX5_findsThief_1 : List UInt8 := [182, 0, 172, 79, 21, 4, 42, 180, 0, 24, 16, 7, 7, 21, 5, 104, 96, 46, 28, 160, 0, 28, 42]
abbrev dktX5_findsThief_1 : List UInt8 := dkwX5_findsThief_1 ++ dktX5_findsThief_2
def dkwX5_findsThief_0 : List UInt8 := [3, 54, 4, 3, 54, 5, 21, 5, 42, 182, 0, 137, 162, 0, 69, 42, 180, 0, 92, 21, 5, 42, 21, 5]
abbrev dktX5_findsThief_0 : List UInt8 := dkwX5_findsThief_0 ++ dktX5_findsThief_1
theorem dksX5_findsThief_0 : cX5_findsThief.data.toList.drop 0 = dktX5_findsThief_0 := by decide +kernel
theorem dksX5_findsThief_1 : cX5_findsThief.data.toList.drop 24 = dktX5_findsThief_1 := dk_seg dksX5_findsThief_0 24 rfl rfl
theorem dksX5_findsThief_2 : cX5_findsThief.data.toList.drop 47 = dktX5_findsThief_2 := dk_seg dksX5_findsThief_1 23 rfl rfl
theorem dksX5_findsThief_3 : cX5_findsThief.data.toList.drop 71 = dktX5_findsThief_3 := dk_seg dksX5_findsThief_2 24 rfl rfl
theorem dksX5_findsThief_4 : cX5_findsThief.data.toList.drop 95 = dktX5_findsThief_4 := dk_seg dksX5_findsThief_3 24 rfl rfl
theorem dksX5_findsThief_5 : cX5_findsThief.data.toList.drop 118 = dktX5_findsThief_5 := dk_seg dksX5_findsThief_4 23 rfl rfl
theorem dksX5_findsThief_6 : cX5_findsThief.data.toList.drop 141 = dktX5_findsThief_6 := dk_seg dksX5_findsThief_5 23 rfl rfl
theorem dksX5_findsThief_7 : cX5_findsThief.data.toList.drop 165 = dktX5_findsThief_7 := dk_seg dksX5_findsThief_6 24 rfl rfl
theorem dksX5_findsThief_8 : cX5_findsThief.data.toList.drop 189 = dktX5_findsThief_8 := dk_seg dksX5_findsThief_7 24 rfl rfl
theorem dksX5_findsThief_9 : cX5_findsThief.data.toList.drop 213 = dktX5_findsThief_9 := dk_seg dksX5_findsThief_8 24 rfl rfl
theorem dksX5_findsThief_10 : cX5_findsThief.data.toList.drop 235 = dktX5_findsThief_10 := dk_seg dksX5_findsThief_9 22 rfl rfl
theorem dksX5_findsThief_11 : cX5_findsThief.data.toList.drop 259 = dktX5_findsThief_11 := dk_seg dksX5_findsThief_10 24 rfl rfl
theorem dksX5_findsThief_12 : cX5_findsThief.data.toList.drop 283 = dktX5_findsThief_12 := dk_seg dksX5_findsThief_11 24 rfl rfl
theorem dX5_findsThief_0 : decode cX5_findsThief 0 = .ok (.iconst 0, 1) := dk_3 (dk_at dksX5_findsThief_0 0 rfl rfl)
theorem dX5_findsThief_1 : decode cX5_findsThief 1 = .ok (.istore 4, 2) := dk_54 4 (dk_at dksX5_findsThief_0 1 rfl rfl)
theorem dX5_findsThief_3 : decode cX5_findsThief 3 = .ok (.iconst 0, 1) := dk_3 (dk_at dksX5_findsThief_0 3 rfl rfl)
theorem dX5_findsThief_4 : decode cX5_findsThief 4 = .ok (.istore 5, 2) := dk_54 5 (dk_at dksX5_findsThief_0 4 rfl rfl)
theorem dX5_findsThief_6 : decode cX5_findsThief 6 = .ok (.iload 5, 2) := dk_21 5 (dk_at dksX5_findsThief_0 6 rfl rfl)
theorem dX5_findsThief_8 : decode cX5_findsThief 8 = .ok (.aload_n 0, 1) := dk_42 (dk_at dksX5_findsThief_0 8 rfl rfl)
theorem dX5_findsThief_9 : decode cX5_findsThief 9 = .ok (.invokevirtual 137, 3) := dk_182 0 137 (dk_at dksX5_findsThief_0 9 rfl rfl)
theorem dX5_findsThief_12 : decode cX5_findsThief 12 = .ok (.if_icmp .ge 69, 3) := dk_162 0 69 (dk_at dksX5_findsThief_0 12 rfl rfl)
theorem dX5_findsThief_15 : decode cX5_findsThief 15 = .ok (.aload_n 0, 1) := dk_42 (dk_at dksX5_findsThief_0 15 rfl rfl)
theorem dX5_findsThief_16 : decode cX5_findsThief 16 = .ok (.getfield 92, 3) := dk_180 0 92 (dk_at dksX5_findsThief_0 16 rfl rfl)
theorem dX5_findsThief_19 : decode cX5_findsThief 19 = .ok (.iload 5, 2) := dk_21 5 (dk_at dksX5_findsThief_0 19 rfl rfl)
theorem dX5_findsThief_21 : decode cX5_findsThief 21 = .ok (.aload_n 0, 1) := dk_42 (dk_at dksX5_findsThief_0 21 rfl rfl)
theorem dX5_findsThief_22 : decode cX5_findsThief 22 = .ok (.iload 5, 2) := dk_21 5 (dk_at dksX5_findsThief_0 22 rfl rfl)
theorem dX5_findsThief_24 : decode cX5_findsThief 24 = .ok (.invokevirtual 172, 3) := dk_182 0 172 (dk_at dksX5_findsThief_1 0 rfl rfl)
theorem dX5_findsThief_27 : decode cX5_findsThief 27 = .ok (.iastore, 1) := dk_79 (dk_at dksX5_findsThief_1 3 rfl rfl)
theorem dX5_findsThief_28 : decode cX5_findsThief 28 = .ok (.iload 4, 2) := dk_21 4 (dk_at dksX5_findsThief_1 4 rfl rfl)
theorem dX5_findsThief_30 : decode cX5_findsThief 30 = .ok (.aload_n 0, 1) := dk_42 (dk_at dksX5_findsThief_1 6 rfl rfl)
theorem dX5_findsThief_31 : decode cX5_findsThief 31 = .ok (.getfield 24, 3) := dk_180 0 24 (dk_at dksX5_findsThief_1 7 rfl rfl)
theorem dX5_findsThief_34 : decode cX5_findsThief 34 = .ok (.bipush 7, 2) := dk_16 7 (dk_at dksX5_findsThief_1 10 rfl rfl)
theorem dX5_findsThief_36 : decode cX5_findsThief 36 = .ok (.iconst 4, 1) := dk_7 (dk_at dksX5_findsThief_1 12 rfl rfl)
theorem dX5_findsThief_37 : decode cX5_findsThief 37 = .ok (.iload 5, 2) := dk_21 5 (dk_at dksX5_findsThief_1 13 rfl rfl)
theorem dX5_findsThief_39 : decode cX5_findsThief 39 = .ok (.imul, 1) := dk_104 (dk_at dksX5_findsThief_1 15 rfl rfl)
theorem dX5_findsThief_40 : decode cX5_findsThief 40 = .ok (.iadd, 1) := dk_96 (dk_at dksX5_findsThief_1 16 rfl rfl)
theorem dX5_findsThief_41 : decode cX5_findsThief 41 = .ok (.iaload, 1) := dk_46 (dk_at dksX5_findsThief_1 17 rfl rfl)
theorem dX5_findsThief_42 : decode cX5_findsThief 42 = .ok (.iload_n 2, 1) := dk_28 (dk_at dksX5_findsThief_1 18 rfl rfl)
theorem dX5_findsThief_43 : decode cX5_findsThief 43 = .ok (.if_icmp .ne 28, 3) := dk_160 0 28 (dk_at dksX5_findsThief_1 19 rfl rfl)
theorem dX5_findsThief_46 : decode cX5_findsThief 46 = .ok (.aload_n 0, 1) := dk_42 (dk_at dksX5_findsThief_1 22 rfl rfl)
theorem dX5_findsThief_47 : decode cX5_findsThief 47 = .ok (.getfield 24, 3) := dk_180 0 24 (dk_at dksX5_findsThief_2 0 rfl rfl)
theorem dX5_findsThief_50 : decode cX5_findsThief 50 = .ok (.bipush 7, 2) := dk_16 7 (dk_at dksX5_findsThief_2 3 rfl rfl)
theorem dX5_findsThief_52 : decode cX5_findsThief 52 = .ok (.iconst 4, 1) := dk_7 (dk_at dksX5_findsThief_2 5 rfl rfl)
theorem dX5_findsThief_53 : decode cX5_findsThief 53 = .ok (.iload 5, 2) := dk_21 5 (dk_at dksX5_findsThief_2 6 rfl rfl)
theorem dX5_findsThief_55 : decode cX5_findsThief 55 = .ok (.imul, 1) := dk_104 (dk_at dksX5_findsThief_2 8 rfl rfl)
theorem dX5_findsThief_56 : decode cX5_findsThief 56 = .ok (.iadd, 1) := dk_96 (dk_at dksX5_findsThief_2 9 rfl rfl)
theorem dX5_findsThief_57 : decode cX5_findsThief 57 = .ok (.iconst 1, 1) := dk_4 (dk_at dksX5_findsThief_2 10 rfl rfl)
theorem dX5_findsThief_58 : decode cX5_findsThief 58 = .ok (.iadd, 1) := dk_96 (dk_at dksX5_findsThief_2 11 rfl rfl)
theorem dX5_findsThief_59 : decode cX5_findsThief 59 = .ok (.iaload, 1) := dk_46 (dk_at dksX5_findsThief_2 12 rfl rfl)
theorem dX5_findsThief_60 : decode cX5_findsThief 60 = .ok (.iload_n 1, 1) := dk_27 (dk_at dksX5_findsThief_2 13 rfl rfl)
theorem dX5_findsThief_61 : decode cX5_findsThief 61 = .ok (.if_icmp .eq 10, 3) := dk_159 0 10 (dk_at dksX5_findsThief_2 14 rfl rfl)
theorem dX5_findsThief_64 : decode cX5_findsThief 64 = .ok (.iconst 1, 1) := dk_4 (dk_at dksX5_findsThief_2 17 rfl rfl)
theorem dX5_findsThief_65 : decode cX5_findsThief 65 = .ok (.iload 5, 2) := dk_21 5 (dk_at dksX5_findsThief_2 18 rfl rfl)
theorem dX5_findsThief_67 : decode cX5_findsThief 67 = .ok (.ishl, 1) := dk_120 (dk_at dksX5_findsThief_2 20 rfl rfl)
theorem dX5_findsThief_68 : decode cX5_findsThief 68 = .ok (.goto 4, 3) := dk_167 0 4 (dk_at dksX5_findsThief_2 21 rfl rfl)
theorem dX5_findsThief_71 : decode cX5_findsThief 71 = .ok (.iconst 0, 1) := dk_3 (dk_at dksX5_findsThief_3 0 rfl rfl)
theorem dX5_findsThief_72 : decode cX5_findsThief 72 = .ok (.ior, 1) := dk_128 (dk_at dksX5_findsThief_3 1 rfl rfl)
theorem dX5_findsThief_73 : decode cX5_findsThief 73 = .ok (.istore 4, 2) := dk_54 4 (dk_at dksX5_findsThief_3 2 rfl rfl)
theorem dX5_findsThief_75 : decode cX5_findsThief 75 = .ok (.iinc 5 1, 3) := dk_132 5 1 (dk_at dksX5_findsThief_3 4 rfl rfl)
theorem dX5_findsThief_78 : decode cX5_findsThief 78 = .ok (.goto (-72), 3) := dk_167 255 184 (dk_at dksX5_findsThief_3 7 rfl rfl)
theorem dX5_findsThief_81 : decode cX5_findsThief 81 = .ok (.aload_n 0, 1) := dk_42 (dk_at dksX5_findsThief_3 10 rfl rfl)
theorem dX5_findsThief_82 : decode cX5_findsThief 82 = .ok (.iload_n 2, 1) := dk_28 (dk_at dksX5_findsThief_3 11 rfl rfl)
theorem dX5_findsThief_83 : decode cX5_findsThief 83 = .ok (.iload_n 1, 1) := dk_27 (dk_at dksX5_findsThief_3 12 rfl rfl)
theorem dX5_findsThief_84 : decode cX5_findsThief 84 = .ok (.invokevirtual 178, 3) := dk_182 0 178 (dk_at dksX5_findsThief_3 13 rfl rfl)
theorem dX5_findsThief_87 : decode cX5_findsThief 87 = .ok (.istore 5, 2) := dk_54 5 (dk_at dksX5_findsThief_3 16 rfl rfl)
theorem dX5_findsThief_89 : decode cX5_findsThief 89 = .ok (.aload_n 0, 1) := dk_42 (dk_at dksX5_findsThief_3 18 rfl rfl)
theorem dX5_findsThief_90 : decode cX5_findsThief 90 = .ok (.iload_n 1, 1) := dk_27 (dk_at dksX5_findsThief_3 19 rfl rfl)
theorem dX5_findsThief_91 : decode cX5_findsThief 91 = .ok (.iload_n 2, 1) := dk_28 (dk_at dksX5_findsThief_3 20 rfl rfl)
theorem dX5_findsThief_92 : decode cX5_findsThief 92 = .ok (.invokevirtual 178, 3) := dk_182 0 178 (dk_at dksX5_findsThief_3 21 rfl rfl)
theorem dX5_findsThief_95 : decode cX5_findsThief 95 = .ok (.istore 6, 2) := dk_54 6 (dk_at dksX5_findsThief_4 0 rfl rfl)
theorem dX5_findsThief_97 : decode cX5_findsThief 97 = .ok (.aload_n 0, 1) := dk_42 (dk_at dksX5_findsThief_4 2 rfl rfl)
theorem dX5_findsThief_98 : decode cX5_findsThief 98 = .ok (.iconst (-1), 1) := dk_2 (dk_at dksX5_findsThief_4 3 rfl rfl)
theorem dX5_findsThief_99 : decode cX5_findsThief 99 = .ok (.putfield 430, 3) := dk_181 1 174 (dk_at dksX5_findsThief_4 4 rfl rfl)
theorem dX5_findsThief_102 : decode cX5_findsThief 102 = .ok (.iconst 0, 1) := dk_3 (dk_at dksX5_findsThief_4 7 rfl rfl)
theorem dX5_findsThief_103 : decode cX5_findsThief 103 = .ok (.istore 7, 2) := dk_54 7 (dk_at dksX5_findsThief_4 8 rfl rfl)
theorem dX5_findsThief_105 : decode cX5_findsThief 105 = .ok (.iload 7, 2) := dk_21 7 (dk_at dksX5_findsThief_4 10 rfl rfl)
theorem dX5_findsThief_107 : decode cX5_findsThief 107 = .ok (.iconst 1, 1) := dk_4 (dk_at dksX5_findsThief_4 12 rfl rfl)
theorem dX5_findsThief_108 : decode cX5_findsThief 108 = .ok (.aload_n 0, 1) := dk_42 (dk_at dksX5_findsThief_4 13 rfl rfl)
theorem dX5_findsThief_109 : decode cX5_findsThief 109 = .ok (.invokevirtual 137, 3) := dk_182 0 137 (dk_at dksX5_findsThief_4 14 rfl rfl)
theorem dX5_findsThief_112 : decode cX5_findsThief 112 = .ok (.ishl, 1) := dk_120 (dk_at dksX5_findsThief_4 17 rfl rfl)
theorem dX5_findsThief_113 : decode cX5_findsThief 113 = .ok (.if_icmp .ge 181, 3) := dk_162 0 181 (dk_at dksX5_findsThief_4 18 rfl rfl)
theorem dX5_findsThief_116 : decode cX5_findsThief 116 = .ok (.iload 7, 2) := dk_21 7 (dk_at dksX5_findsThief_4 21 rfl rfl)
theorem dX5_findsThief_118 : decode cX5_findsThief 118 = .ok (.iload 4, 2) := dk_21 4 (dk_at dksX5_findsThief_5 0 rfl rfl)
theorem dX5_findsThief_120 : decode cX5_findsThief 120 = .ok (.iconst (-1), 1) := dk_2 (dk_at dksX5_findsThief_5 2 rfl rfl)
theorem dX5_findsThief_121 : decode cX5_findsThief 121 = .ok (.ixor, 1) := dk_130 (dk_at dksX5_findsThief_5 3 rfl rfl)
theorem dX5_findsThief_122 : decode cX5_findsThief 122 = .ok (.iand, 1) := dk_126 (dk_at dksX5_findsThief_5 4 rfl rfl)
theorem dX5_findsThief_123 : decode cX5_findsThief 123 = .ok (.ifCond .eq 6, 3) := dk_153 0 6 (dk_at dksX5_findsThief_5 5 rfl rfl)
theorem dX5_findsThief_126 : decode cX5_findsThief 126 = .ok (.goto 162, 3) := dk_167 0 162 (dk_at dksX5_findsThief_5 8 rfl rfl)
theorem dX5_findsThief_129 : decode cX5_findsThief 129 = .ok (.iconst 0, 1) := dk_3 (dk_at dksX5_findsThief_5 11 rfl rfl)
theorem dX5_findsThief_130 : decode cX5_findsThief 130 = .ok (.istore 8, 2) := dk_54 8 (dk_at dksX5_findsThief_5 12 rfl rfl)
theorem dX5_findsThief_132 : decode cX5_findsThief 132 = .ok (.iconst 0, 1) := dk_3 (dk_at dksX5_findsThief_5 14 rfl rfl)
theorem dX5_findsThief_133 : decode cX5_findsThief 133 = .ok (.istore 9, 2) := dk_54 9 (dk_at dksX5_findsThief_5 15 rfl rfl)
theorem dX5_findsThief_135 : decode cX5_findsThief 135 = .ok (.iconst 0, 1) := dk_3 (dk_at dksX5_findsThief_5 17 rfl rfl)
theorem dX5_findsThief_136 : decode cX5_findsThief 136 = .ok (.istore 10, 2) := dk_54 10 (dk_at dksX5_findsThief_5 18 rfl rfl)
theorem dX5_findsThief_138 : decode cX5_findsThief 138 = .ok (.iload 10, 2) := dk_21 10 (dk_at dksX5_findsThief_5 20 rfl rfl)
theorem dX5_findsThief_140 : decode cX5_findsThief 140 = .ok (.aload_n 0, 1) := dk_42 (dk_at dksX5_findsThief_5 22 rfl rfl)
theorem dX5_findsThief_141 : decode cX5_findsThief 141 = .ok (.invokevirtual 137, 3) := dk_182 0 137 (dk_at dksX5_findsThief_6 0 rfl rfl)
theorem dX5_findsThief_144 : decode cX5_findsThief 144 = .ok (.if_icmp .ge 68, 3) := dk_162 0 68 (dk_at dksX5_findsThief_6 3 rfl rfl)
theorem dX5_findsThief_147 : decode cX5_findsThief 147 = .ok (.iload 8, 2) := dk_21 8 (dk_at dksX5_findsThief_6 6 rfl rfl)
theorem dX5_findsThief_149 : decode cX5_findsThief 149 = .ok (.iload 7, 2) := dk_21 7 (dk_at dksX5_findsThief_6 8 rfl rfl)
theorem dX5_findsThief_151 : decode cX5_findsThief 151 = .ok (.iload 10, 2) := dk_21 10 (dk_at dksX5_findsThief_6 10 rfl rfl)
theorem dX5_findsThief_153 : decode cX5_findsThief 153 = .ok (.invokestatic 406, 3) := dk_184 1 150 (dk_at dksX5_findsThief_6 12 rfl rfl)
theorem dX5_findsThief_156 : decode cX5_findsThief 156 = .ok (.ifCond .eq 20, 3) := dk_153 0 20 (dk_at dksX5_findsThief_6 15 rfl rfl)
theorem dX5_findsThief_159 : decode cX5_findsThief 159 = .ok (.aload_n 0, 1) := dk_42 (dk_at dksX5_findsThief_6 18 rfl rfl)
theorem dX5_findsThief_160 : decode cX5_findsThief 160 = .ok (.getfield 24, 3) := dk_180 0 24 (dk_at dksX5_findsThief_6 19 rfl rfl)
theorem dX5_findsThief_163 : decode cX5_findsThief 163 = .ok (.bipush 7, 2) := dk_16 7 (dk_at dksX5_findsThief_6 22 rfl rfl)
theorem dX5_findsThief_165 : decode cX5_findsThief 165 = .ok (.iconst 4, 1) := dk_7 (dk_at dksX5_findsThief_7 0 rfl rfl)
theorem dX5_findsThief_166 : decode cX5_findsThief 166 = .ok (.iload 10, 2) := dk_21 10 (dk_at dksX5_findsThief_7 1 rfl rfl)
theorem dX5_findsThief_168 : decode cX5_findsThief 168 = .ok (.imul, 1) := dk_104 (dk_at dksX5_findsThief_7 3 rfl rfl)
theorem dX5_findsThief_169 : decode cX5_findsThief 169 = .ok (.iadd, 1) := dk_96 (dk_at dksX5_findsThief_7 4 rfl rfl)
theorem dX5_findsThief_170 : decode cX5_findsThief 170 = .ok (.iconst 2, 1) := dk_5 (dk_at dksX5_findsThief_7 5 rfl rfl)
theorem dX5_findsThief_171 : decode cX5_findsThief 171 = .ok (.iadd, 1) := dk_96 (dk_at dksX5_findsThief_7 6 rfl rfl)
theorem dX5_findsThief_172 : decode cX5_findsThief 172 = .ok (.iaload, 1) := dk_46 (dk_at dksX5_findsThief_7 7 rfl rfl)
theorem dX5_findsThief_173 : decode cX5_findsThief 173 = .ok (.goto 4, 3) := dk_167 0 4 (dk_at dksX5_findsThief_7 8 rfl rfl)
theorem dX5_findsThief_176 : decode cX5_findsThief 176 = .ok (.iconst 0, 1) := dk_3 (dk_at dksX5_findsThief_7 11 rfl rfl)
theorem dX5_findsThief_177 : decode cX5_findsThief 177 = .ok (.iadd, 1) := dk_96 (dk_at dksX5_findsThief_7 12 rfl rfl)
theorem dX5_findsThief_178 : decode cX5_findsThief 178 = .ok (.istore 8, 2) := dk_54 8 (dk_at dksX5_findsThief_7 13 rfl rfl)
theorem dX5_findsThief_180 : decode cX5_findsThief 180 = .ok (.iload 9, 2) := dk_21 9 (dk_at dksX5_findsThief_7 15 rfl rfl)
theorem dX5_findsThief_182 : decode cX5_findsThief 182 = .ok (.iload 7, 2) := dk_21 7 (dk_at dksX5_findsThief_7 17 rfl rfl)
theorem dX5_findsThief_184 : decode cX5_findsThief 184 = .ok (.iload 10, 2) := dk_21 10 (dk_at dksX5_findsThief_7 19 rfl rfl)
theorem dX5_findsThief_186 : decode cX5_findsThief 186 = .ok (.invokestatic 406, 3) := dk_184 1 150 (dk_at dksX5_findsThief_7 21 rfl rfl)
theorem dX5_findsThief_189 : decode cX5_findsThief 189 = .ok (.ifCond .eq 13, 3) := dk_153 0 13 (dk_at dksX5_findsThief_8 0 rfl rfl)
theorem dX5_findsThief_192 : decode cX5_findsThief 192 = .ok (.aload_n 0, 1) := dk_42 (dk_at dksX5_findsThief_8 3 rfl rfl)
theorem dX5_findsThief_193 : decode cX5_findsThief 193 = .ok (.getfield 92, 3) := dk_180 0 92 (dk_at dksX5_findsThief_8 4 rfl rfl)
theorem dX5_findsThief_196 : decode cX5_findsThief 196 = .ok (.iload 10, 2) := dk_21 10 (dk_at dksX5_findsThief_8 7 rfl rfl)
theorem dX5_findsThief_198 : decode cX5_findsThief 198 = .ok (.iaload, 1) := dk_46 (dk_at dksX5_findsThief_8 9 rfl rfl)
theorem dX5_findsThief_199 : decode cX5_findsThief 199 = .ok (.goto 4, 3) := dk_167 0 4 (dk_at dksX5_findsThief_8 10 rfl rfl)
theorem dX5_findsThief_202 : decode cX5_findsThief 202 = .ok (.iconst 0, 1) := dk_3 (dk_at dksX5_findsThief_8 13 rfl rfl)
theorem dX5_findsThief_203 : decode cX5_findsThief 203 = .ok (.iadd, 1) := dk_96 (dk_at dksX5_findsThief_8 14 rfl rfl)
theorem dX5_findsThief_204 : decode cX5_findsThief 204 = .ok (.istore 9, 2) := dk_54 9 (dk_at dksX5_findsThief_8 15 rfl rfl)
theorem dX5_findsThief_206 : decode cX5_findsThief 206 = .ok (.iinc 10 1, 3) := dk_132 10 1 (dk_at dksX5_findsThief_8 17 rfl rfl)
theorem dX5_findsThief_209 : decode cX5_findsThief 209 = .ok (.goto (-71), 3) := dk_167 255 185 (dk_at dksX5_findsThief_8 20 rfl rfl)
theorem dX5_findsThief_212 : decode cX5_findsThief 212 = .ok (.aload_n 0, 1) := dk_42 (dk_at dksX5_findsThief_8 23 rfl rfl)
theorem dX5_findsThief_213 : decode cX5_findsThief 213 = .ok (.getfield 430, 3) := dk_180 1 174 (dk_at dksX5_findsThief_9 0 rfl rfl)
theorem dX5_findsThief_216 : decode cX5_findsThief 216 = .ok (.iconst (-1), 1) := dk_2 (dk_at dksX5_findsThief_9 3 rfl rfl)
theorem dX5_findsThief_217 : decode cX5_findsThief 217 = .ok (.if_icmp .eq 39, 3) := dk_159 0 39 (dk_at dksX5_findsThief_9 4 rfl rfl)
theorem dX5_findsThief_220 : decode cX5_findsThief 220 = .ok (.iload 9, 2) := dk_21 9 (dk_at dksX5_findsThief_9 7 rfl rfl)
theorem dX5_findsThief_222 : decode cX5_findsThief 222 = .ok (.aload_n 0, 1) := dk_42 (dk_at dksX5_findsThief_9 9 rfl rfl)
theorem dX5_findsThief_223 : decode cX5_findsThief 223 = .ok (.getfield 433, 3) := dk_180 1 177 (dk_at dksX5_findsThief_9 10 rfl rfl)
theorem dX5_findsThief_226 : decode cX5_findsThief 226 = .ok (.if_icmp .gt 62, 3) := dk_163 0 62 (dk_at dksX5_findsThief_9 13 rfl rfl)
theorem dX5_findsThief_229 : decode cX5_findsThief 229 = .ok (.iload 9, 2) := dk_21 9 (dk_at dksX5_findsThief_9 16 rfl rfl)
theorem dX5_findsThief_231 : decode cX5_findsThief 231 = .ok (.aload_n 0, 1) := dk_42 (dk_at dksX5_findsThief_9 18 rfl rfl)
theorem dX5_findsThief_232 : decode cX5_findsThief 232 = .ok (.getfield 433, 3) := dk_180 1 177 (dk_at dksX5_findsThief_9 19 rfl rfl)
theorem dX5_findsThief_235 : decode cX5_findsThief 235 = .ok (.if_icmp .ne 21, 3) := dk_160 0 21 (dk_at dksX5_findsThief_10 0 rfl rfl)
theorem dX5_findsThief_238 : decode cX5_findsThief 238 = .ok (.iload 7, 2) := dk_21 7 (dk_at dksX5_findsThief_10 3 rfl rfl)
theorem dX5_findsThief_240 : decode cX5_findsThief 240 = .ok (.invokestatic 436, 3) := dk_184 1 180 (dk_at dksX5_findsThief_10 5 rfl rfl)
theorem dX5_findsThief_243 : decode cX5_findsThief 243 = .ok (.aload_n 0, 1) := dk_42 (dk_at dksX5_findsThief_10 8 rfl rfl)
theorem dX5_findsThief_244 : decode cX5_findsThief 244 = .ok (.getfield 430, 3) := dk_180 1 174 (dk_at dksX5_findsThief_10 9 rfl rfl)
theorem dX5_findsThief_247 : decode cX5_findsThief 247 = .ok (.invokestatic 436, 3) := dk_184 1 180 (dk_at dksX5_findsThief_10 12 rfl rfl)
theorem dX5_findsThief_250 : decode cX5_findsThief 250 = .ok (.if_icmp .lt 6, 3) := dk_161 0 6 (dk_at dksX5_findsThief_10 15 rfl rfl)
theorem dX5_findsThief_253 : decode cX5_findsThief 253 = .ok (.goto 35, 3) := dk_167 0 35 (dk_at dksX5_findsThief_10 18 rfl rfl)
theorem dX5_findsThief_256 : decode cX5_findsThief 256 = .ok (.aload_n 0, 1) := dk_42 (dk_at dksX5_findsThief_10 21 rfl rfl)
theorem dX5_findsThief_257 : decode cX5_findsThief 257 = .ok (.iload_n 2, 1) := dk_28 (dk_at dksX5_findsThief_10 22 rfl rfl)
theorem dX5_findsThief_258 : decode cX5_findsThief 258 = .ok (.iload_n 1, 1) := dk_27 (dk_at dksX5_findsThief_10 23 rfl rfl)
theorem dX5_findsThief_259 : decode cX5_findsThief 259 = .ok (.iload 5, 2) := dk_21 5 (dk_at dksX5_findsThief_11 0 rfl rfl)
theorem dX5_findsThief_261 : decode cX5_findsThief 261 = .ok (.iload 8, 2) := dk_21 8 (dk_at dksX5_findsThief_11 2 rfl rfl)
theorem dX5_findsThief_263 : decode cX5_findsThief 263 = .ok (.iadd, 1) := dk_96 (dk_at dksX5_findsThief_11 4 rfl rfl)
theorem dX5_findsThief_264 : decode cX5_findsThief 264 = .ok (.iload 6, 2) := dk_21 6 (dk_at dksX5_findsThief_11 5 rfl rfl)
theorem dX5_findsThief_266 : decode cX5_findsThief 266 = .ok (.invokevirtual 338, 3) := dk_182 1 82 (dk_at dksX5_findsThief_11 7 rfl rfl)
theorem dX5_findsThief_269 : decode cX5_findsThief 269 = .ok (.iload_n 3, 1) := dk_29 (dk_at dksX5_findsThief_11 10 rfl rfl)
theorem dX5_findsThief_270 : decode cX5_findsThief 270 = .ok (.if_icmp .ge 6, 3) := dk_162 0 6 (dk_at dksX5_findsThief_11 11 rfl rfl)
theorem dX5_findsThief_273 : decode cX5_findsThief 273 = .ok (.goto 15, 3) := dk_167 0 15 (dk_at dksX5_findsThief_11 14 rfl rfl)
theorem dX5_findsThief_276 : decode cX5_findsThief 276 = .ok (.aload_n 0, 1) := dk_42 (dk_at dksX5_findsThief_11 17 rfl rfl)
theorem dX5_findsThief_277 : decode cX5_findsThief 277 = .ok (.iload 7, 2) := dk_21 7 (dk_at dksX5_findsThief_11 18 rfl rfl)
theorem dX5_findsThief_279 : decode cX5_findsThief 279 = .ok (.putfield 430, 3) := dk_181 1 174 (dk_at dksX5_findsThief_11 20 rfl rfl)
theorem dX5_findsThief_282 : decode cX5_findsThief 282 = .ok (.aload_n 0, 1) := dk_42 (dk_at dksX5_findsThief_11 23 rfl rfl)
theorem dX5_findsThief_283 : decode cX5_findsThief 283 = .ok (.iload 9, 2) := dk_21 9 (dk_at dksX5_findsThief_12 0 rfl rfl)
theorem dX5_findsThief_285 : decode cX5_findsThief 285 = .ok (.putfield 433, 3) := dk_181 1 177 (dk_at dksX5_findsThief_12 2 rfl rfl)
theorem dX5_findsThief_288 : decode cX5_findsThief 288 = .ok (.iinc 7 1, 3) := dk_132 7 1 (dk_at dksX5_findsThief_12 5 rfl rfl)
theorem dX5_findsThief_291 : decode cX5_findsThief 291 = .ok (.goto (-186), 3) := dk_167 255 70 (dk_at dksX5_findsThief_12 8 rfl rfl)
theorem dX5_findsThief_294 : decode cX5_findsThief 294 = .ok (.return_, 1) := dk_177 (dk_at dksX5_findsThief_12 11 rfl rfl)
theorem ff_X5_430_5 : ax_FF RX5 430 5 39 (tyX5 39) 0 false := ⟨RX5, TX5, 61, tyX5, "DebtDoorsModel", kd5, in_X5, tyX5_ok, apX5, by decide, rfl, ⟨fun _ => rfl, fun h => absurd h (by decide)⟩, q2001, Or.inl rfl, fun h => absurd h (by decide)⟩
theorem ff_X5_433_5 : ax_FF RX5 433 5 38 (tyX5 38) 0 false := ⟨RX5, TX5, 61, tyX5, "DebtDoorsModel", kd5, in_X5, tyX5_ok, apX5, by decide, rfl, ⟨fun _ => rfl, fun h => absurd h (by decide)⟩, q2000, Or.inl rfl, fun h => absurd h (by decide)⟩
noncomputable def f_X5_findsThief_72 (E : ax_E) (x0 : Option Nat) (x1 : Int) (x2 : Int) (x3 : Int) (x5 : Int) (s0 : Int) (s1 : Int) (h : ax_H) : Option ((Int × Int × ax_H) ⊕ (ax_H)) :=
  some (.inl ((ax_or s0 s1), (x5 + 1), h))
noncomputable def f_X5_findsThief_71 (E : ax_E) (x0 : Option Nat) (x1 : Int) (x2 : Int) (x3 : Int) (x5 : Int) (s0 : Int) (h : ax_H) : Option ((Int × Int × ax_H) ⊕ (ax_H)) :=
  f_X5_findsThief_72 E x0 x1 x2 x3 x5 s0 0 h
noncomputable def f_X5_findsThief_288 (E : ax_E) (x0 : Option Nat) (x1 : Int) (x2 : Int) (x3 : Int) (x4 : Int) (x5 : Int) (x6 : Int) (x7 : Int) (h : ax_H) : Option ((Int × ax_H) ⊕ (ax_H)) :=
  some (.inl ((x7 + 1), h))
noncomputable def f_X5_findsThief_203 (E : ax_E) (x0 : Option Nat) (x1 : Int) (x2 : Int) (x3 : Int) (x4 : Int) (x5 : Int) (x6 : Int) (x7 : Int) (x8 : Int) (x10 : Int) (s0 : Int) (s1 : Int) (h : ax_H) : Option ((Int × Int × Int × ax_H) ⊕ ((Int × ax_H) ⊕ (ax_H))) :=
  some (.inl (x8, (s0 + s1), (x10 + 1), h))
noncomputable def f_X5_findsThief_177 (E : ax_E) (x0 : Option Nat) (x1 : Int) (x2 : Int) (x3 : Int) (x4 : Int) (x5 : Int) (x6 : Int) (x7 : Int) (x9 : Int) (x10 : Int) (s0 : Int) (s1 : Int) (h : ax_H) : Option ((Int × Int × Int × ax_H) ⊕ ((Int × ax_H) ⊕ (ax_H))) :=
  (f_X5_isIn E x7 x10 h).bind fun q1 =>
  if i2 q1.1 = 0 then
    f_X5_findsThief_203 E x0 x1 x2 x3 x4 x5 x6 x7 (s0 + s1) x10 x9 0 q1.2
  else
    (ax_gR E q1.2 x0 5 40).bind fun v2 =>
    (ax_ld E q1.2 v2 100 x10).bind fun v3 =>
    f_X5_findsThief_203 E x0 x1 x2 x3 x4 x5 x6 x7 (s0 + s1) x10 x9 v3 q1.2
noncomputable def f_X5_findsThief_256 (E : ax_E) (x0 : Option Nat) (x1 : Int) (x2 : Int) (x3 : Int) (x4 : Int) (x5 : Int) (x6 : Int) (x7 : Int) (x8 : Int) (x9 : Int) (h : ax_H) : Option ((Int × ax_H) ⊕ (ax_H)) :=
  (ax_ce E h x0 5).bind fun _ => (f_X5_deepBy E x0 x2 x1 (x5 + x8) x6 h).bind fun q1 =>
  if i2 q1.1 < i2 x3 then
    f_X5_findsThief_288 E x0 x1 x2 x3 x4 x5 x6 x7 q1.2
  else
    (ax_pI q1.2 x0 5 39 x7).bind fun h2 =>
    (ax_pI h2 x0 5 38 x9).bind fun h3 =>
    f_X5_findsThief_288 E x0 x1 x2 x3 x4 x5 x6 x7 h3
noncomputable def lb_X5_findsThief_138 (E : ax_E) (x0 : Option Nat) (x1 : Int) (x2 : Int) (x3 : Int) (x4 : Int) (x5 : Int) (x6 : Int) (x7 : Int) (x8 : Int) (x9 : Int) (x10 : Int) (h : ax_H) : Option ((Int × Int × Int × ax_H) ⊕ ((Int × ax_H) ⊕ (ax_H))) :=
  (ax_ce E h x0 5).bind fun _ => (f_X5_debts E x0 h).bind fun q1 =>
  if i2 x10 < i2 q1.1 then
    (f_X5_isIn E x7 x10 q1.2).bind fun q2 =>
    if i2 q2.1 = 0 then
      f_X5_findsThief_177 E x0 x1 x2 x3 x4 x5 x6 x7 x9 x10 x8 0 q2.2
    else
      (ax_gR E q2.2 x0 5 2).bind fun v3 =>
      (ax_ld E q2.2 v3 100 ((7 + (4 * x10)) + 2)).bind fun v4 =>
      f_X5_findsThief_177 E x0 x1 x2 x3 x4 x5 x6 x7 x9 x10 x8 v4 q2.2
  else
    ((ax_gI E q1.2 x0 5 39).bind fun v5 =>
    if i2 v5 = i2 (-1) then
      f_X5_findsThief_256 E x0 x1 x2 x3 x4 x5 x6 x7 x8 x9 q1.2
    else
      (ax_gI E q1.2 x0 5 38).bind fun v6 =>
      if i2 v6 < i2 x9 then
        f_X5_findsThief_288 E x0 x1 x2 x3 x4 x5 x6 x7 q1.2
      else
        (ax_gI E q1.2 x0 5 38).bind fun v7 =>
        if i2 x9 = i2 v7 then
          (f_X5_ones E x7 q1.2).bind fun q8 =>
          (ax_gI E q8.2 x0 5 39).bind fun v9 =>
          (f_X5_ones E v9 q8.2).bind fun q10 =>
          if i2 q8.1 < i2 q10.1 then
            f_X5_findsThief_256 E x0 x1 x2 x3 x4 x5 x6 x7 x8 x9 q10.2
          else
            f_X5_findsThief_288 E x0 x1 x2 x3 x4 x5 x6 x7 q10.2
        else
          f_X5_findsThief_256 E x0 x1 x2 x3 x4 x5 x6 x7 x8 x9 q1.2).map Sum.inr
noncomputable def f_X5_findsThief_138 (E : ax_E) (x0 : Option Nat) (x1 : Int) (x2 : Int) (x3 : Int) (x4 : Int) (x5 : Int) (x6 : Int) (x7 : Int) (x8 : Int) (x9 : Int) (x10 : Int) (h : ax_H) : Option ((Int × ax_H) ⊕ (ax_H)) :=
  ax_iter (fun s : Int × Int × Int × ax_H => lb_X5_findsThief_138 E x0 x1 x2 x3 x4 x5 x6 x7 s.1 s.2.1 s.2.2.1 s.2.2.2) (x8, x9, x10, h)
noncomputable def lb_X5_findsThief_105 (E : ax_E) (x0 : Option Nat) (x1 : Int) (x2 : Int) (x3 : Int) (x4 : Int) (x5 : Int) (x6 : Int) (x7 : Int) (h : ax_H) : Option ((Int × ax_H) ⊕ (ax_H)) :=
  (ax_ce E h x0 5).bind fun _ => (f_X5_debts E x0 h).bind fun q1 =>
  if i2 x7 < i2 (ax_shl 1 q1.1) then
    if i2 (ax_and x7 (ax_xor x4 (-1))) = 0 then
      f_X5_findsThief_138 E x0 x1 x2 x3 x4 x5 x6 x7 0 0 0 q1.2
    else
      f_X5_findsThief_288 E x0 x1 x2 x3 x4 x5 x6 x7 q1.2
  else
    (some q1.2).map Sum.inr
noncomputable def f_X5_findsThief_105 (E : ax_E) (x0 : Option Nat) (x1 : Int) (x2 : Int) (x3 : Int) (x4 : Int) (x5 : Int) (x6 : Int) (x7 : Int) (h : ax_H) : Option (ax_H) :=
  ax_iter (fun s : Int × ax_H => lb_X5_findsThief_105 E x0 x1 x2 x3 x4 x5 x6 s.1 s.2) (x7, h)
noncomputable def lb_X5_findsThief_6 (E : ax_E) (x0 : Option Nat) (x1 : Int) (x2 : Int) (x3 : Int) (x4 : Int) (x5 : Int) (h : ax_H) : Option ((Int × Int × ax_H) ⊕ (ax_H)) :=
  (ax_ce E h x0 5).bind fun _ => (f_X5_debts E x0 h).bind fun q1 =>
  if i2 x5 < i2 q1.1 then
    (ax_gR E q1.2 x0 5 40).bind fun v2 =>
    (ax_ce E q1.2 x0 5).bind fun _ => (f_X5_soldFor E x0 x5 q1.2).bind fun q3 =>
    (ax_sto q3.2 v2 100 x5 q3.1).bind fun h4 =>
    (ax_gR E h4 x0 5 2).bind fun v5 =>
    (ax_ld E h4 v5 100 (7 + (4 * x5))).bind fun v6 =>
    if i2 v6 = i2 x2 then
      (ax_gR E h4 x0 5 2).bind fun v7 =>
      (ax_ld E h4 v7 100 ((7 + (4 * x5)) + 1)).bind fun v8 =>
      if i2 v8 = i2 x1 then
        f_X5_findsThief_71 E x0 x1 x2 x3 x5 x4 h4
      else
        f_X5_findsThief_72 E x0 x1 x2 x3 x5 x4 (ax_shl 1 x5) h4
    else
      f_X5_findsThief_71 E x0 x1 x2 x3 x5 x4 h4
  else
    ((ax_ce E q1.2 x0 5).bind fun _ => (f_X5_owed E x0 x2 x1 q1.2).bind fun q9 =>
    (ax_ce E q9.2 x0 5).bind fun _ => (f_X5_owed E x0 x1 x2 q9.2).bind fun q10 =>
    (ax_pI q10.2 x0 5 39 (-1)).bind fun h11 =>
    f_X5_findsThief_105 E x0 x1 x2 x3 x4 q9.1 q10.1 0 h11).map Sum.inr
noncomputable def f_X5_findsThief_6 (E : ax_E) (x0 : Option Nat) (x1 : Int) (x2 : Int) (x3 : Int) (x4 : Int) (x5 : Int) (h : ax_H) : Option (ax_H) :=
  ax_iter (fun s : Int × Int × ax_H => lb_X5_findsThief_6 E x0 x1 x2 x3 s.1 s.2.1 s.2.2) (x4, x5, h)
noncomputable def f_X5_findsThief (E : ax_E) (x0 : Option Nat) (x1 : Int) (x2 : Int) (x3 : Int) (h : ax_H) : Option (ax_H) :=
  f_X5_findsThief_6 E x0 x1 x2 x3 0 0 h
def pi_X5_findsThief_138 (G : ax_G) (X : ax_X) (Q : State → Prop) (x0 : Option Nat) (x1 : Int) (x2 : Int) (x3 : Int) (x4 : Int) (x5 : Int) (x6 : Int) (x7 : Int) : Int × Int × Int × ax_H → Prop := fun s => ∀ ls : Array Slot, ax_hl ls 11 [(0, .inr (.inr x0)), (1, .inl x1), (2, .inl x2), (3, .inl x3), (4, .inl x4), (5, .inl x5), (6, .inl x6), (7, .inl x7), (8, .inl s.1), (9, .inl s.2.1), (10, .inl s.2.2.1)] → ax_W G X Q s.2.2.2 138 ls []
def pi_X5_findsThief_105 (G : ax_G) (X : ax_X) (Q : State → Prop) (x0 : Option Nat) (x1 : Int) (x2 : Int) (x3 : Int) (x4 : Int) (x5 : Int) (x6 : Int) : Int × ax_H → Prop := fun s => ∀ ls : Array Slot, ax_hl ls 11 [(0, .inr (.inr x0)), (1, .inl x1), (2, .inl x2), (3, .inl x3), (4, .inl x4), (5, .inl x5), (6, .inl x6), (7, .inl s.1)] → ax_W G X Q s.2 105 ls []
def pi_X5_findsThief_6 (G : ax_G) (X : ax_X) (Q : State → Prop) (x0 : Option Nat) (x1 : Int) (x2 : Int) (x3 : Int) : Int × Int × ax_H → Prop := fun s => ∀ ls : Array Slot, ax_hl ls 11 [(0, .inr (.inr x0)), (1, .inl x1), (2, .inl x2), (3, .inl x3), (4, .inl s.1), (5, .inl s.2.1)] → ax_W G X Q s.2.2 6 ls []
set_option maxHeartbeats 4000000 in
theorem w_X5_findsThief_72 {l : Launch} {G : ax_G} {X : ax_X} {Q : State → Prop} {h0 h : ax_H} {ls : Array Slot} (hSF : ax_SF G) (B : ax_BL l G X cX5_findsThief 11 RX5 135 3519) (Z : ax_Z X h0 none) (hn : X.2.2.2.2.2.2.2.2.1.name = yX5_findsThief.name) (x0 : Option Nat) (x1 : Int) (x2 : Int) (x3 : Int) (x5 : Int) (s0 : Int) (s1 : Int) {w : (Int × Int × ax_H) ⊕ (ax_H)} (hl : ax_hl ls 11 [(0, .inr (.inr x0)), (1, .inl x1), (2, .inl x2), (3, .inl x3), (5, .inl x5)]) (e : f_X5_findsThief_72 G.2.2 x0 x1 x2 x3 x5 s0 s1 h = some w) (hp : (ax_PL (pi_X5_findsThief_6 G X Q x0 x1 x2 x3) (fun w : ax_H => Q = ax_Q G X h0 w none)) w) : ax_W G X Q h 72 ls [.int (Int32.ofInt s1), .int (Int32.ofInt s0)] := by
  unfold f_X5_findsThief_72 at e
  refine ax_ior' B dX5_findsThief_72 ?_
  refine ax_istore (L' := [(4, .inl (ax_or s0 s1)), (0, .inr (.inr x0)), (1, .inl x1), (2, .inl x2), (3, .inl x3), (5, .inl x5)]) B dX5_findsThief_73 hl (by decide) rfl (fun ls hl => ?_)
  refine ax_iinc (L' := [(5, .inl (x5 + 1)), (4, .inl (ax_or s0 s1)), (0, .inr (.inr x0)), (1, .inl x1), (2, .inl x2), (3, .inl x3)]) B dX5_findsThief_75 hl 5 rfl (by decide) rfl (fun ls hl => ?_)
  refine ax_goto (tgt := 6) B dX5_findsThief_78 (by decide) ?_
  cases e
  exact hp _ (hl.sub [2, 3, 4, 5, 1, 0] rfl)
set_option maxHeartbeats 4000000 in
theorem w_X5_findsThief_71 {l : Launch} {G : ax_G} {X : ax_X} {Q : State → Prop} {h0 h : ax_H} {ls : Array Slot} (hSF : ax_SF G) (B : ax_BL l G X cX5_findsThief 11 RX5 135 3519) (Z : ax_Z X h0 none) (hn : X.2.2.2.2.2.2.2.2.1.name = yX5_findsThief.name) (x0 : Option Nat) (x1 : Int) (x2 : Int) (x3 : Int) (x5 : Int) (s0 : Int) {w : (Int × Int × ax_H) ⊕ (ax_H)} (hl : ax_hl ls 11 [(0, .inr (.inr x0)), (1, .inl x1), (2, .inl x2), (3, .inl x3), (5, .inl x5)]) (e : f_X5_findsThief_71 G.2.2 x0 x1 x2 x3 x5 s0 h = some w) (hp : (ax_PL (pi_X5_findsThief_6 G X Q x0 x1 x2 x3) (fun w : ax_H => Q = ax_Q G X h0 w none)) w) : ax_W G X Q h 71 ls [.int (Int32.ofInt s0)] := by
  unfold f_X5_findsThief_71 at e
  refine ax_iconst B dX5_findsThief_71 ?_
  exact w_X5_findsThief_72 hSF B Z hn x0 x1 x2 x3 x5 s0 0 (hl.sub [0, 1, 2, 3, 4] rfl) e hp
set_option maxHeartbeats 4000000 in
theorem w_X5_findsThief_288 {l : Launch} {G : ax_G} {X : ax_X} {Q : State → Prop} {h0 h : ax_H} {ls : Array Slot} (hSF : ax_SF G) (B : ax_BL l G X cX5_findsThief 11 RX5 135 3519) (Z : ax_Z X h0 none) (hn : X.2.2.2.2.2.2.2.2.1.name = yX5_findsThief.name) (x0 : Option Nat) (x1 : Int) (x2 : Int) (x3 : Int) (x4 : Int) (x5 : Int) (x6 : Int) (x7 : Int) {w : (Int × ax_H) ⊕ (ax_H)} (hl : ax_hl ls 11 [(0, .inr (.inr x0)), (1, .inl x1), (2, .inl x2), (3, .inl x3), (4, .inl x4), (5, .inl x5), (6, .inl x6), (7, .inl x7)]) (e : f_X5_findsThief_288 G.2.2 x0 x1 x2 x3 x4 x5 x6 x7 h = some w) (hp : (ax_PL (pi_X5_findsThief_105 G X Q x0 x1 x2 x3 x4 x5 x6) (fun w : ax_H => Q = ax_Q G X h0 w none)) w) : ax_W G X Q h 288 ls [] := by
  unfold f_X5_findsThief_288 at e
  refine ax_iinc (L' := [(7, .inl (x7 + 1)), (0, .inr (.inr x0)), (1, .inl x1), (2, .inl x2), (3, .inl x3), (4, .inl x4), (5, .inl x5), (6, .inl x6)]) B dX5_findsThief_288 hl 7 rfl (by decide) rfl (fun ls hl => ?_)
  refine ax_goto (tgt := 105) B dX5_findsThief_291 (by decide) ?_
  cases e
  exact hp _ (hl.sub [1, 2, 3, 4, 5, 6, 7, 0] rfl)
set_option maxHeartbeats 4000000 in
theorem w_X5_findsThief_203 {l : Launch} {G : ax_G} {X : ax_X} {Q : State → Prop} {h0 h : ax_H} {ls : Array Slot} (hSF : ax_SF G) (B : ax_BL l G X cX5_findsThief 11 RX5 135 3519) (Z : ax_Z X h0 none) (hn : X.2.2.2.2.2.2.2.2.1.name = yX5_findsThief.name) (x0 : Option Nat) (x1 : Int) (x2 : Int) (x3 : Int) (x4 : Int) (x5 : Int) (x6 : Int) (x7 : Int) (x8 : Int) (x10 : Int) (s0 : Int) (s1 : Int) {w : (Int × Int × Int × ax_H) ⊕ ((Int × ax_H) ⊕ (ax_H))} (hl : ax_hl ls 11 [(0, .inr (.inr x0)), (1, .inl x1), (2, .inl x2), (3, .inl x3), (4, .inl x4), (5, .inl x5), (6, .inl x6), (7, .inl x7), (8, .inl x8), (10, .inl x10)]) (e : f_X5_findsThief_203 G.2.2 x0 x1 x2 x3 x4 x5 x6 x7 x8 x10 s0 s1 h = some w) (hp : (ax_PL (pi_X5_findsThief_138 G X Q x0 x1 x2 x3 x4 x5 x6 x7) (ax_PL (pi_X5_findsThief_105 G X Q x0 x1 x2 x3 x4 x5 x6) (fun w : ax_H => Q = ax_Q G X h0 w none))) w) : ax_W G X Q h 203 ls [.int (Int32.ofInt s1), .int (Int32.ofInt s0)] := by
  unfold f_X5_findsThief_203 at e
  refine ax_iadd' B dX5_findsThief_203 ?_
  refine ax_istore (L' := [(9, .inl (s0 + s1)), (0, .inr (.inr x0)), (1, .inl x1), (2, .inl x2), (3, .inl x3), (4, .inl x4), (5, .inl x5), (6, .inl x6), (7, .inl x7), (8, .inl x8), (10, .inl x10)]) B dX5_findsThief_204 hl (by decide) rfl (fun ls hl => ?_)
  refine ax_iinc (L' := [(10, .inl (x10 + 1)), (9, .inl (s0 + s1)), (0, .inr (.inr x0)), (1, .inl x1), (2, .inl x2), (3, .inl x3), (4, .inl x4), (5, .inl x5), (6, .inl x6), (7, .inl x7), (8, .inl x8)]) B dX5_findsThief_206 hl 10 rfl (by decide) rfl (fun ls hl => ?_)
  refine ax_goto (tgt := 138) B dX5_findsThief_209 (by decide) ?_
  cases e
  exact hp _ (hl.sub [2, 3, 4, 5, 6, 7, 8, 9, 10, 1, 0] rfl)
set_option maxHeartbeats 4000000 in
theorem w_X5_findsThief_177 {l : Launch} {G : ax_G} {X : ax_X} {Q : State → Prop} {h0 h : ax_H} {ls : Array Slot} (hSF : ax_SF G) (B : ax_BL l G X cX5_findsThief 11 RX5 135 3519) (Z : ax_Z X h0 none) (hn : X.2.2.2.2.2.2.2.2.1.name = yX5_findsThief.name) (x0 : Option Nat) (x1 : Int) (x2 : Int) (x3 : Int) (x4 : Int) (x5 : Int) (x6 : Int) (x7 : Int) (x9 : Int) (x10 : Int) (s0 : Int) (s1 : Int) {w : (Int × Int × Int × ax_H) ⊕ ((Int × ax_H) ⊕ (ax_H))} (hl : ax_hl ls 11 [(0, .inr (.inr x0)), (1, .inl x1), (2, .inl x2), (3, .inl x3), (4, .inl x4), (5, .inl x5), (6, .inl x6), (7, .inl x7), (9, .inl x9), (10, .inl x10)]) (e : f_X5_findsThief_177 G.2.2 x0 x1 x2 x3 x4 x5 x6 x7 x9 x10 s0 s1 h = some w) (hp : (ax_PL (pi_X5_findsThief_138 G X Q x0 x1 x2 x3 x4 x5 x6 x7) (ax_PL (pi_X5_findsThief_105 G X Q x0 x1 x2 x3 x4 x5 x6) (fun w : ax_H => Q = ax_Q G X h0 w none))) w) : ax_W G X Q h 177 ls [.int (Int32.ofInt s1), .int (Int32.ofInt s0)] := by
  unfold f_X5_findsThief_177 at e
  refine ax_iadd' B dX5_findsThief_177 ?_
  refine ax_istore (L' := [(8, .inl (s0 + s1)), (0, .inr (.inr x0)), (1, .inl x1), (2, .inl x2), (3, .inl x3), (4, .inl x4), (5, .inl x5), (6, .inl x6), (7, .inl x7), (9, .inl x9), (10, .inl x10)]) B dX5_findsThief_178 hl (by decide) rfl (fun ls hl => ?_)
  refine ax_iload B dX5_findsThief_180 hl 9 rfl ?_
  refine ax_iload B dX5_findsThief_182 hl 8 rfl ?_
  refine ax_iload B dX5_findsThief_184 hl 10 rfl ?_
  refine ax_isI (y := yX5_isIn) (n := 2) (As := [.int (Int32.ofInt x7), .int (Int32.ofInt x10)]) B (lw_S q2562 q2563 q133 q2564) (by decide +kernel) ⟨Nat.le_of_ble_eq_true rfl, Nat.le_of_ble_eq_true rfl⟩ (fun w1 e1 => mt_X5_isIn l G hSF x7 x10 _ w1 e1) rfl hl.size (by simp only [List.map_cons, List.map_nil, List.sum_cons, List.sum_nil, va_rf_cat, ax_catI, ax_catL]; decide) dX5_findsThief_186 e (fun q1 e => ?_)
  refine ax_if_eq (tgt := 202) B dX5_findsThief_189 (by decide) e (fun e => ?_) (fun e => ?_)
  · refine ax_iconst B dX5_findsThief_202 ?_
    exact w_X5_findsThief_203 hSF B Z hn x0 x1 x2 x3 x4 x5 x6 x7 (s0 + s1) x10 x9 0 (hl.sub [1, 2, 3, 4, 5, 6, 7, 8, 0, 10] rfl) e hp
  · refine ax_aload_n B dX5_findsThief_192 rfl hl 1 rfl ?_
    refine ax_getR B ff_X5_92_5 (fun _ _ => rfl) dX5_findsThief_193 e (fun v2 e => ?_)
    refine ax_iload B dX5_findsThief_196 hl 10 rfl ?_
    refine ax_iald B kd100 dX5_findsThief_198 e (fun v3 e => ?_)
    refine ax_goto (tgt := 203) B dX5_findsThief_199 (by decide) ?_
    exact w_X5_findsThief_203 hSF B Z hn x0 x1 x2 x3 x4 x5 x6 x7 (s0 + s1) x10 x9 v3 (hl.sub [1, 2, 3, 4, 5, 6, 7, 8, 0, 10] rfl) e hp
set_option maxHeartbeats 4000000 in
theorem w_X5_findsThief_256 {l : Launch} {G : ax_G} {X : ax_X} {Q : State → Prop} {h0 h : ax_H} {ls : Array Slot} (hSF : ax_SF G) (B : ax_BL l G X cX5_findsThief 11 RX5 135 3519) (Z : ax_Z X h0 none) (hn : X.2.2.2.2.2.2.2.2.1.name = yX5_findsThief.name) (x0 : Option Nat) (x1 : Int) (x2 : Int) (x3 : Int) (x4 : Int) (x5 : Int) (x6 : Int) (x7 : Int) (x8 : Int) (x9 : Int) {w : (Int × ax_H) ⊕ (ax_H)} (hl : ax_hl ls 11 [(0, .inr (.inr x0)), (1, .inl x1), (2, .inl x2), (3, .inl x3), (4, .inl x4), (5, .inl x5), (6, .inl x6), (7, .inl x7), (8, .inl x8), (9, .inl x9)]) (e : f_X5_findsThief_256 G.2.2 x0 x1 x2 x3 x4 x5 x6 x7 x8 x9 h = some w) (hp : (ax_PL (pi_X5_findsThief_105 G X Q x0 x1 x2 x3 x4 x5 x6) (fun w : ax_H => Q = ax_Q G X h0 w none)) w) : ax_W G X Q h 256 ls [] := by
  unfold f_X5_findsThief_256 at e
  refine ax_aload_n B dX5_findsThief_256 rfl hl 0 rfl ?_
  refine ax_iload_n B dX5_findsThief_257 rfl hl 2 rfl ?_
  refine ax_iload_n B dX5_findsThief_258 rfl hl 1 rfl ?_
  refine ax_iload B dX5_findsThief_259 hl 5 rfl ?_
  refine ax_iload B dX5_findsThief_261 hl 8 rfl ?_
  refine ax_iadd' B dX5_findsThief_263 ?_
  refine ax_iload B dX5_findsThief_264 hl 6 rfl ?_
  refine ax_ivI (y := yX5_deepBy) (n := 4) (As := [.int (Int32.ofInt x2), .int (Int32.ofInt x1), .int (Int32.ofInt (x5 + x8)), .int (Int32.ofInt x6)]) B kd5 (lw_V q2435 q2437 qs89 q133 q2438) (by decide +kernel) ⟨Nat.le_of_ble_eq_true rfl, Nat.le_of_ble_eq_true rfl⟩ (fun w1 e1 => mt_X5_deepBy l G hSF x0 x2 x1 (x5 + x8) x6 _ w1 e1) rfl hl.size (by decide) dX5_findsThief_266 e (fun q1 e => ?_)
  refine ax_iload_n B dX5_findsThief_269 rfl hl 3 rfl ?_
  refine ax_icmp_ge (tgt := 276) B dX5_findsThief_270 (by decide) e (fun e => ?_) (fun e => ?_)
  · refine ax_goto (tgt := 288) B dX5_findsThief_273 (by decide) ?_
    exact w_X5_findsThief_288 hSF B Z hn x0 x1 x2 x3 x4 x5 x6 x7 (hl.sub [0, 1, 2, 3, 4, 5, 6, 7] rfl) e hp
  · refine ax_aload_n B dX5_findsThief_276 rfl hl 0 rfl ?_
    refine ax_iload B dX5_findsThief_277 hl 7 rfl ?_
    refine ax_putI B ff_X5_430_5 (Or.inl rfl) rfl dX5_findsThief_279 e (fun h2 e => ?_)
    refine ax_aload_n B dX5_findsThief_282 rfl hl 0 rfl ?_
    refine ax_iload B dX5_findsThief_283 hl 9 rfl ?_
    refine ax_putI B ff_X5_433_5 (Or.inl rfl) rfl dX5_findsThief_285 e (fun h3 e => ?_)
    exact w_X5_findsThief_288 hSF B Z hn x0 x1 x2 x3 x4 x5 x6 x7 (hl.sub [0, 1, 2, 3, 4, 5, 6, 7] rfl) e hp
set_option maxHeartbeats 4000000 in
theorem wb_X5_findsThief_138 {l : Launch} {G : ax_G} {X : ax_X} {Q : State → Prop} {h0 h : ax_H} {ls : Array Slot} (hSF : ax_SF G) (B : ax_BL l G X cX5_findsThief 11 RX5 135 3519) (Z : ax_Z X h0 none) (hn : X.2.2.2.2.2.2.2.2.1.name = yX5_findsThief.name) (x0 : Option Nat) (x1 : Int) (x2 : Int) (x3 : Int) (x4 : Int) (x5 : Int) (x6 : Int) (x7 : Int) (x8 : Int) (x9 : Int) (x10 : Int) {w : (Int × Int × Int × ax_H) ⊕ ((Int × ax_H) ⊕ (ax_H))} (hl : ax_hl ls 11 [(0, .inr (.inr x0)), (1, .inl x1), (2, .inl x2), (3, .inl x3), (4, .inl x4), (5, .inl x5), (6, .inl x6), (7, .inl x7), (8, .inl x8), (9, .inl x9), (10, .inl x10)]) (e : lb_X5_findsThief_138 G.2.2 x0 x1 x2 x3 x4 x5 x6 x7 x8 x9 x10 h = some w) (hp : (ax_PL (pi_X5_findsThief_138 G X Q x0 x1 x2 x3 x4 x5 x6 x7) (ax_PL (pi_X5_findsThief_105 G X Q x0 x1 x2 x3 x4 x5 x6) (fun w : ax_H => Q = ax_Q G X h0 w none))) w) : ax_W G X Q h 138 ls [] := by
  unfold lb_X5_findsThief_138 at e
  refine ax_iload B dX5_findsThief_138 hl 10 rfl ?_
  refine ax_aload_n B dX5_findsThief_140 rfl hl 0 rfl ?_
  refine ax_ivI (y := yX5_debts) (n := 0) (As := []) B kd5 (lw_V q2210 q2212 qs47 q133 q2213) (by decide +kernel) ⟨Nat.le_of_ble_eq_true rfl, Nat.le_of_ble_eq_true rfl⟩ (fun w1 e1 => mt_X5_debts l G hSF x0 _ w1 e1) rfl hl.size (by simp only [List.map_cons, List.map_nil, List.sum_cons, List.sum_nil, va_rf_cat, ax_catI, ax_catL]; decide) dX5_findsThief_141 e (fun q1 e => ?_)
  refine ax_icmp_ge (tgt := 212) B dX5_findsThief_144 (by decide) e (fun e => ?_) (fun e => ?_)
  · refine ax_iload B dX5_findsThief_147 hl 8 rfl ?_
    refine ax_iload B dX5_findsThief_149 hl 7 rfl ?_
    refine ax_iload B dX5_findsThief_151 hl 10 rfl ?_
    refine ax_isI (y := yX5_isIn) (n := 2) (As := [.int (Int32.ofInt x7), .int (Int32.ofInt x10)]) B (lw_S q2562 q2563 q133 q2564) (by decide +kernel) ⟨Nat.le_of_ble_eq_true rfl, Nat.le_of_ble_eq_true rfl⟩ (fun w1 e1 => mt_X5_isIn l G hSF x7 x10 _ w1 e1) rfl hl.size (by simp only [List.map_cons, List.map_nil, List.sum_cons, List.sum_nil, va_rf_cat, ax_catI, ax_catL]; decide) dX5_findsThief_153 e (fun q2 e => ?_)
    refine ax_if_eq (tgt := 176) B dX5_findsThief_156 (by decide) e (fun e => ?_) (fun e => ?_)
    · refine ax_iconst B dX5_findsThief_176 ?_
      exact w_X5_findsThief_177 hSF B Z hn x0 x1 x2 x3 x4 x5 x6 x7 x9 x10 x8 0 (hl.sub [0, 1, 2, 3, 4, 5, 6, 7, 9, 10] rfl) e hp
    · refine ax_aload_n B dX5_findsThief_159 rfl hl 0 rfl ?_
      refine ax_getR B ff_X5_24_5 (fun _ _ => rfl) dX5_findsThief_160 e (fun v3 e => ?_)
      refine ax_bipush B dX5_findsThief_163 (by decide) ?_
      refine ax_iconst B dX5_findsThief_165 ?_
      refine ax_iload B dX5_findsThief_166 hl 10 rfl ?_
      refine ax_imul' B dX5_findsThief_168 ?_
      refine ax_iadd' B dX5_findsThief_169 ?_
      refine ax_iconst B dX5_findsThief_170 ?_
      refine ax_iadd' B dX5_findsThief_171 ?_
      refine ax_iald B kd100 dX5_findsThief_172 e (fun v4 e => ?_)
      refine ax_goto (tgt := 177) B dX5_findsThief_173 (by decide) ?_
      exact w_X5_findsThief_177 hSF B Z hn x0 x1 x2 x3 x4 x5 x6 x7 x9 x10 x8 v4 (hl.sub [0, 1, 2, 3, 4, 5, 6, 7, 9, 10] rfl) e hp
  · obtain ⟨w, e9_1, rfl⟩ := Option.map_eq_some_iff.mp e
    have e := e9_1
    refine ax_aload_n B dX5_findsThief_212 rfl hl 0 rfl ?_
    refine ax_getI B ff_X5_430_5 (fun _ _ => rfl) dX5_findsThief_213 e (fun v5 e => ?_)
    refine ax_iconst B dX5_findsThief_216 ?_
    refine ax_icmp_eq (tgt := 256) B dX5_findsThief_217 (by decide) e (fun e => ?_) (fun e => ?_)
    · exact w_X5_findsThief_256 hSF B Z hn x0 x1 x2 x3 x4 x5 x6 x7 x8 x9 (hl.sub [0, 1, 2, 3, 4, 5, 6, 7, 8, 9] rfl) e hp
    · refine ax_iload B dX5_findsThief_220 hl 9 rfl ?_
      refine ax_aload_n B dX5_findsThief_222 rfl hl 0 rfl ?_
      refine ax_getI B ff_X5_433_5 (fun _ _ => rfl) dX5_findsThief_223 e (fun v6 e => ?_)
      refine ax_icmp_gt (tgt := 288) B dX5_findsThief_226 (by decide) e (fun e => ?_) (fun e => ?_)
      · exact w_X5_findsThief_288 hSF B Z hn x0 x1 x2 x3 x4 x5 x6 x7 (hl.sub [0, 1, 2, 3, 4, 5, 6, 7] rfl) e hp
      · refine ax_iload B dX5_findsThief_229 hl 9 rfl ?_
        refine ax_aload_n B dX5_findsThief_231 rfl hl 0 rfl ?_
        refine ax_getI B ff_X5_433_5 (fun _ _ => rfl) dX5_findsThief_232 e (fun v7 e => ?_)
        refine ax_icmp_ne (tgt := 256) B dX5_findsThief_235 (by decide) e (fun e => ?_) (fun e => ?_)
        · refine ax_iload B dX5_findsThief_238 hl 7 rfl ?_
          refine ax_isI (y := yX5_ones) (n := 1) (As := [.int (Int32.ofInt x7)]) B (lw_S q2593 q2594 q133 q2595) (by decide +kernel) ⟨Nat.le_of_ble_eq_true rfl, Nat.le_of_ble_eq_true rfl⟩ (fun w1 e1 => mt_X5_ones l G hSF x7 _ w1 e1) rfl hl.size (by decide) dX5_findsThief_240 e (fun q8 e => ?_)
          refine ax_aload_n B dX5_findsThief_243 rfl hl 0 rfl ?_
          refine ax_getI B ff_X5_430_5 (fun _ _ => rfl) dX5_findsThief_244 e (fun v9 e => ?_)
          refine ax_isI (y := yX5_ones) (n := 1) (As := [.int (Int32.ofInt v9)]) B (lw_S q2593 q2594 q133 q2595) (by decide +kernel) ⟨Nat.le_of_ble_eq_true rfl, Nat.le_of_ble_eq_true rfl⟩ (fun w1 e1 => mt_X5_ones l G hSF v9 _ w1 e1) rfl hl.size (by simp only [List.map_cons, List.map_nil, List.sum_cons, List.sum_nil, va_rf_cat, ax_catI, ax_catL]; decide) dX5_findsThief_247 e (fun q10 e => ?_)
          refine ax_icmp_lt (tgt := 256) B dX5_findsThief_250 (by decide) e (fun e => ?_) (fun e => ?_)
          · exact w_X5_findsThief_256 hSF B Z hn x0 x1 x2 x3 x4 x5 x6 x7 x8 x9 (hl.sub [0, 1, 2, 3, 4, 5, 6, 7, 8, 9] rfl) e hp
          · refine ax_goto (tgt := 288) B dX5_findsThief_253 (by decide) ?_
            exact w_X5_findsThief_288 hSF B Z hn x0 x1 x2 x3 x4 x5 x6 x7 (hl.sub [0, 1, 2, 3, 4, 5, 6, 7] rfl) e hp
        · exact w_X5_findsThief_256 hSF B Z hn x0 x1 x2 x3 x4 x5 x6 x7 x8 x9 (hl.sub [0, 1, 2, 3, 4, 5, 6, 7, 8, 9] rfl) e hp
theorem w_X5_findsThief_138 {l : Launch} {G : ax_G} {X : ax_X} {Q : State → Prop} {h0 h : ax_H} {ls : Array Slot} (hSF : ax_SF G) (B : ax_BL l G X cX5_findsThief 11 RX5 135 3519) (Z : ax_Z X h0 none) (hn : X.2.2.2.2.2.2.2.2.1.name = yX5_findsThief.name) (x0 : Option Nat) (x1 : Int) (x2 : Int) (x3 : Int) (x4 : Int) (x5 : Int) (x6 : Int) (x7 : Int) (x8 : Int) (x9 : Int) (x10 : Int) {w : (Int × ax_H) ⊕ (ax_H)} (hl : ax_hl ls 11 [(0, .inr (.inr x0)), (1, .inl x1), (2, .inl x2), (3, .inl x3), (4, .inl x4), (5, .inl x5), (6, .inl x6), (7, .inl x7), (8, .inl x8), (9, .inl x9), (10, .inl x10)]) (e : f_X5_findsThief_138 G.2.2 x0 x1 x2 x3 x4 x5 x6 x7 x8 x9 x10 h = some w) (hp : (ax_PL (pi_X5_findsThief_105 G X Q x0 x1 x2 x3 x4 x5 x6) (fun w : ax_H => Q = ax_Q G X h0 w none)) w) : ax_W G X Q h 138 ls [] :=
  ax_iter_W (Pin := pi_X5_findsThief_138 G X Q x0 x1 x2 x3 x4 x5 x6 x7) (Pout := (ax_PL (pi_X5_findsThief_105 G X Q x0 x1 x2 x3 x4 x5 x6) (fun w : ax_H => Q = ax_Q G X h0 w none))) (fun s w e hp ls hl => wb_X5_findsThief_138 hSF B Z hn x0 x1 x2 x3 x4 x5 x6 x7 s.1 s.2.1 s.2.2.1 hl e hp) _ _ e hp ls hl
set_option maxHeartbeats 4000000 in
theorem wb_X5_findsThief_105 {l : Launch} {G : ax_G} {X : ax_X} {Q : State → Prop} {h0 h : ax_H} {ls : Array Slot} (hSF : ax_SF G) (B : ax_BL l G X cX5_findsThief 11 RX5 135 3519) (Z : ax_Z X h0 none) (hn : X.2.2.2.2.2.2.2.2.1.name = yX5_findsThief.name) (x0 : Option Nat) (x1 : Int) (x2 : Int) (x3 : Int) (x4 : Int) (x5 : Int) (x6 : Int) (x7 : Int) {w : (Int × ax_H) ⊕ (ax_H)} (hl : ax_hl ls 11 [(0, .inr (.inr x0)), (1, .inl x1), (2, .inl x2), (3, .inl x3), (4, .inl x4), (5, .inl x5), (6, .inl x6), (7, .inl x7)]) (e : lb_X5_findsThief_105 G.2.2 x0 x1 x2 x3 x4 x5 x6 x7 h = some w) (hp : (ax_PL (pi_X5_findsThief_105 G X Q x0 x1 x2 x3 x4 x5 x6) (fun w : ax_H => Q = ax_Q G X h0 w none)) w) : ax_W G X Q h 105 ls [] := by
  unfold lb_X5_findsThief_105 at e
  refine ax_iload B dX5_findsThief_105 hl 7 rfl ?_
  refine ax_iconst B dX5_findsThief_107 ?_
  refine ax_aload_n B dX5_findsThief_108 rfl hl 0 rfl ?_
  refine ax_ivI (y := yX5_debts) (n := 0) (As := []) B kd5 (lw_V q2210 q2212 qs47 q133 q2213) (by decide +kernel) ⟨Nat.le_of_ble_eq_true rfl, Nat.le_of_ble_eq_true rfl⟩ (fun w1 e1 => mt_X5_debts l G hSF x0 _ w1 e1) rfl hl.size (by simp only [List.map_cons, List.map_nil, List.sum_cons, List.sum_nil, va_rf_cat, ax_catI, ax_catL]; decide) dX5_findsThief_109 e (fun q1 e => ?_)
  refine ax_ishl' B dX5_findsThief_112 ?_
  refine ax_icmp_ge (tgt := 294) B dX5_findsThief_113 (by decide) e (fun e => ?_) (fun e => ?_)
  · refine ax_iload B dX5_findsThief_116 hl 7 rfl ?_
    refine ax_iload B dX5_findsThief_118 hl 4 rfl ?_
    refine ax_iconst B dX5_findsThief_120 ?_
    refine ax_ixor' B dX5_findsThief_121 ?_
    refine ax_iand' B dX5_findsThief_122 ?_
    refine ax_if_eq (tgt := 129) B dX5_findsThief_123 (by decide) e (fun e => ?_) (fun e => ?_)
    · refine ax_iconst B dX5_findsThief_129 ?_
      refine ax_istore (L' := [(8, .inl 0), (0, .inr (.inr x0)), (1, .inl x1), (2, .inl x2), (3, .inl x3), (4, .inl x4), (5, .inl x5), (6, .inl x6), (7, .inl x7)]) B dX5_findsThief_130 hl (by decide) rfl (fun ls hl => ?_)
      refine ax_iconst B dX5_findsThief_132 ?_
      refine ax_istore (L' := [(9, .inl 0), (8, .inl 0), (0, .inr (.inr x0)), (1, .inl x1), (2, .inl x2), (3, .inl x3), (4, .inl x4), (5, .inl x5), (6, .inl x6), (7, .inl x7)]) B dX5_findsThief_133 hl (by decide) rfl (fun ls hl => ?_)
      refine ax_iconst B dX5_findsThief_135 ?_
      refine ax_istore (L' := [(10, .inl 0), (9, .inl 0), (8, .inl 0), (0, .inr (.inr x0)), (1, .inl x1), (2, .inl x2), (3, .inl x3), (4, .inl x4), (5, .inl x5), (6, .inl x6), (7, .inl x7)]) B dX5_findsThief_136 hl (by decide) rfl (fun ls hl => ?_)
      exact w_X5_findsThief_138 hSF B Z hn x0 x1 x2 x3 x4 x5 x6 x7 0 0 0 (hl.sub [3, 4, 5, 6, 7, 8, 9, 10, 2, 1, 0] rfl) e hp
    · refine ax_goto (tgt := 288) B dX5_findsThief_126 (by decide) ?_
      exact w_X5_findsThief_288 hSF B Z hn x0 x1 x2 x3 x4 x5 x6 x7 (hl.sub [0, 1, 2, 3, 4, 5, 6, 7] rfl) e hp
  · obtain ⟨w, e9_2, rfl⟩ := Option.map_eq_some_iff.mp e
    have e := e9_2
    have e8 := e
    have hp : Q = _ := hp
    subst hp
    exact ax_return B Z dX5_findsThief_294 e8
theorem w_X5_findsThief_105 {l : Launch} {G : ax_G} {X : ax_X} {Q : State → Prop} {h0 h : ax_H} {ls : Array Slot} (hSF : ax_SF G) (B : ax_BL l G X cX5_findsThief 11 RX5 135 3519) (Z : ax_Z X h0 none) (hn : X.2.2.2.2.2.2.2.2.1.name = yX5_findsThief.name) (x0 : Option Nat) (x1 : Int) (x2 : Int) (x3 : Int) (x4 : Int) (x5 : Int) (x6 : Int) (x7 : Int) {w : ax_H} (hl : ax_hl ls 11 [(0, .inr (.inr x0)), (1, .inl x1), (2, .inl x2), (3, .inl x3), (4, .inl x4), (5, .inl x5), (6, .inl x6), (7, .inl x7)]) (e : f_X5_findsThief_105 G.2.2 x0 x1 x2 x3 x4 x5 x6 x7 h = some w) (hp : (fun w : ax_H => Q = ax_Q G X h0 w none) w) : ax_W G X Q h 105 ls [] :=
  ax_iter_W (Pin := pi_X5_findsThief_105 G X Q x0 x1 x2 x3 x4 x5 x6) (Pout := (fun w : ax_H => Q = ax_Q G X h0 w none)) (fun s w e hp ls hl => wb_X5_findsThief_105 hSF B Z hn x0 x1 x2 x3 x4 x5 x6 s.1 hl e hp) _ _ e hp ls hl
set_option maxHeartbeats 4000000 in
theorem wb_X5_findsThief_6 {l : Launch} {G : ax_G} {X : ax_X} {Q : State → Prop} {h0 h : ax_H} {ls : Array Slot} (hSF : ax_SF G) (B : ax_BL l G X cX5_findsThief 11 RX5 135 3519) (Z : ax_Z X h0 none) (hn : X.2.2.2.2.2.2.2.2.1.name = yX5_findsThief.name) (x0 : Option Nat) (x1 : Int) (x2 : Int) (x3 : Int) (x4 : Int) (x5 : Int) {w : (Int × Int × ax_H) ⊕ (ax_H)} (hl : ax_hl ls 11 [(0, .inr (.inr x0)), (1, .inl x1), (2, .inl x2), (3, .inl x3), (4, .inl x4), (5, .inl x5)]) (e : lb_X5_findsThief_6 G.2.2 x0 x1 x2 x3 x4 x5 h = some w) (hp : (ax_PL (pi_X5_findsThief_6 G X Q x0 x1 x2 x3) (fun w : ax_H => Q = ax_Q G X h0 w none)) w) : ax_W G X Q h 6 ls [] := by
  unfold lb_X5_findsThief_6 at e
  refine ax_iload B dX5_findsThief_6 hl 5 rfl ?_
  refine ax_aload_n B dX5_findsThief_8 rfl hl 0 rfl ?_
  refine ax_ivI (y := yX5_debts) (n := 0) (As := []) B kd5 (lw_V q2210 q2212 qs47 q133 q2213) (by decide +kernel) ⟨Nat.le_of_ble_eq_true rfl, Nat.le_of_ble_eq_true rfl⟩ (fun w1 e1 => mt_X5_debts l G hSF x0 _ w1 e1) rfl hl.size (by simp only [List.map_cons, List.map_nil, List.sum_cons, List.sum_nil, va_rf_cat, ax_catI, ax_catL]; decide) dX5_findsThief_9 e (fun q1 e => ?_)
  refine ax_icmp_ge (tgt := 81) B dX5_findsThief_12 (by decide) e (fun e => ?_) (fun e => ?_)
  · refine ax_aload_n B dX5_findsThief_15 rfl hl 0 rfl ?_
    refine ax_getR B ff_X5_92_5 (fun _ _ => rfl) dX5_findsThief_16 e (fun v2 e => ?_)
    refine ax_iload B dX5_findsThief_19 hl 5 rfl ?_
    refine ax_aload_n B dX5_findsThief_21 rfl hl 0 rfl ?_
    refine ax_iload B dX5_findsThief_22 hl 5 rfl ?_
    refine ax_ivI (y := yX5_soldFor) (n := 1) (As := [.int (Int32.ofInt x5)]) B kd5 (lw_V q2226 q2228 qs50 q133 q2229) (by decide +kernel) ⟨Nat.le_of_ble_eq_true rfl, Nat.le_of_ble_eq_true rfl⟩ (fun w1 e1 => mt_X5_soldFor l G hSF x0 x5 _ w1 e1) rfl hl.size (by simp only [List.map_cons, List.map_nil, List.sum_cons, List.sum_nil, va_rf_cat, ax_catI, ax_catL]; decide) dX5_findsThief_24 e (fun q3 e => ?_)
    refine ax_iast B kd100 dX5_findsThief_27 e (fun h4 e => ?_)
    refine ax_iload B dX5_findsThief_28 hl 4 rfl ?_
    refine ax_aload_n B dX5_findsThief_30 rfl hl 0 rfl ?_
    refine ax_getR B ff_X5_24_5 (fun _ _ => rfl) dX5_findsThief_31 e (fun v5 e => ?_)
    refine ax_bipush B dX5_findsThief_34 (by decide) ?_
    refine ax_iconst B dX5_findsThief_36 ?_
    refine ax_iload B dX5_findsThief_37 hl 5 rfl ?_
    refine ax_imul' B dX5_findsThief_39 ?_
    refine ax_iadd' B dX5_findsThief_40 ?_
    refine ax_iald B kd100 dX5_findsThief_41 e (fun v6 e => ?_)
    refine ax_iload_n B dX5_findsThief_42 rfl hl 2 rfl ?_
    refine ax_icmp_ne (tgt := 71) B dX5_findsThief_43 (by decide) e (fun e => ?_) (fun e => ?_)
    · refine ax_aload_n B dX5_findsThief_46 rfl hl 0 rfl ?_
      refine ax_getR B ff_X5_24_5 (fun _ _ => rfl) dX5_findsThief_47 e (fun v7 e => ?_)
      refine ax_bipush B dX5_findsThief_50 (by decide) ?_
      refine ax_iconst B dX5_findsThief_52 ?_
      refine ax_iload B dX5_findsThief_53 hl 5 rfl ?_
      refine ax_imul' B dX5_findsThief_55 ?_
      refine ax_iadd' B dX5_findsThief_56 ?_
      refine ax_iconst B dX5_findsThief_57 ?_
      refine ax_iadd' B dX5_findsThief_58 ?_
      refine ax_iald B kd100 dX5_findsThief_59 e (fun v8 e => ?_)
      refine ax_iload_n B dX5_findsThief_60 rfl hl 1 rfl ?_
      refine ax_icmp_eq (tgt := 71) B dX5_findsThief_61 (by decide) e (fun e => ?_) (fun e => ?_)
      · exact w_X5_findsThief_71 hSF B Z hn x0 x1 x2 x3 x5 x4 (hl.sub [0, 1, 2, 3, 5] rfl) e hp
      · refine ax_iconst B dX5_findsThief_64 ?_
        refine ax_iload B dX5_findsThief_65 hl 5 rfl ?_
        refine ax_ishl' B dX5_findsThief_67 ?_
        refine ax_goto (tgt := 72) B dX5_findsThief_68 (by decide) ?_
        exact w_X5_findsThief_72 hSF B Z hn x0 x1 x2 x3 x5 x4 (ax_shl 1 x5) (hl.sub [0, 1, 2, 3, 5] rfl) e hp
    · exact w_X5_findsThief_71 hSF B Z hn x0 x1 x2 x3 x5 x4 (hl.sub [0, 1, 2, 3, 5] rfl) e hp
  · obtain ⟨w, e9_3, rfl⟩ := Option.map_eq_some_iff.mp e
    have e := e9_3
    refine ax_aload_n B dX5_findsThief_81 rfl hl 0 rfl ?_
    refine ax_iload_n B dX5_findsThief_82 rfl hl 2 rfl ?_
    refine ax_iload_n B dX5_findsThief_83 rfl hl 1 rfl ?_
    refine ax_ivI (y := yX5_owed) (n := 2) (As := [.int (Int32.ofInt x2), .int (Int32.ofInt x1)]) B kd5 (lw_V q2234 q2236 qs52 q133 q2237) (by decide +kernel) ⟨Nat.le_of_ble_eq_true rfl, Nat.le_of_ble_eq_true rfl⟩ (fun w1 e1 => mt_X5_owed l G hSF x0 x2 x1 _ w1 e1) rfl hl.size (by decide) dX5_findsThief_84 e (fun q9 e => ?_)
    refine ax_istore (L' := [(5, .inl q9.1), (0, .inr (.inr x0)), (1, .inl x1), (2, .inl x2), (3, .inl x3), (4, .inl x4)]) B dX5_findsThief_87 hl (by decide) rfl (fun ls hl => ?_)
    refine ax_aload_n B dX5_findsThief_89 rfl hl 1 rfl ?_
    refine ax_iload_n B dX5_findsThief_90 rfl hl 2 rfl ?_
    refine ax_iload_n B dX5_findsThief_91 rfl hl 3 rfl ?_
    refine ax_ivI (y := yX5_owed) (n := 2) (As := [.int (Int32.ofInt x1), .int (Int32.ofInt x2)]) B kd5 (lw_V q2234 q2236 qs52 q133 q2237) (by decide +kernel) ⟨Nat.le_of_ble_eq_true rfl, Nat.le_of_ble_eq_true rfl⟩ (fun w1 e1 => mt_X5_owed l G hSF x0 x1 x2 _ w1 e1) rfl hl.size (by decide) dX5_findsThief_92 e (fun q10 e => ?_)
    refine ax_istore (L' := [(6, .inl q10.1), (5, .inl q9.1), (0, .inr (.inr x0)), (1, .inl x1), (2, .inl x2), (3, .inl x3), (4, .inl x4)]) B dX5_findsThief_95 hl (by decide) rfl (fun ls hl => ?_)
    refine ax_aload_n B dX5_findsThief_97 rfl hl 2 rfl ?_
    refine ax_iconst B dX5_findsThief_98 ?_
    refine ax_putI B ff_X5_430_5 (Or.inl rfl) rfl dX5_findsThief_99 e (fun h11 e => ?_)
    refine ax_iconst B dX5_findsThief_102 ?_
    refine ax_istore (L' := [(7, .inl 0), (6, .inl q10.1), (5, .inl q9.1), (0, .inr (.inr x0)), (1, .inl x1), (2, .inl x2), (3, .inl x3), (4, .inl x4)]) B dX5_findsThief_103 hl (by decide) rfl (fun ls hl => ?_)
    exact w_X5_findsThief_105 hSF B Z hn x0 x1 x2 x3 x4 q9.1 q10.1 0 (hl.sub [3, 4, 5, 6, 7, 2, 1, 0] rfl) e hp
theorem w_X5_findsThief_6 {l : Launch} {G : ax_G} {X : ax_X} {Q : State → Prop} {h0 h : ax_H} {ls : Array Slot} (hSF : ax_SF G) (B : ax_BL l G X cX5_findsThief 11 RX5 135 3519) (Z : ax_Z X h0 none) (hn : X.2.2.2.2.2.2.2.2.1.name = yX5_findsThief.name) (x0 : Option Nat) (x1 : Int) (x2 : Int) (x3 : Int) (x4 : Int) (x5 : Int) {w : ax_H} (hl : ax_hl ls 11 [(0, .inr (.inr x0)), (1, .inl x1), (2, .inl x2), (3, .inl x3), (4, .inl x4), (5, .inl x5)]) (e : f_X5_findsThief_6 G.2.2 x0 x1 x2 x3 x4 x5 h = some w) (hp : (fun w : ax_H => Q = ax_Q G X h0 w none) w) : ax_W G X Q h 6 ls [] :=
  ax_iter_W (Pin := pi_X5_findsThief_6 G X Q x0 x1 x2 x3) (Pout := (fun w : ax_H => Q = ax_Q G X h0 w none)) (fun s w e hp ls hl => wb_X5_findsThief_6 hSF B Z hn x0 x1 x2 x3 s.1 s.2.1 hl e hp) _ _ e hp ls hl
set_option maxHeartbeats 4000000 in
theorem we_X5_findsThief {l : Launch} {G : ax_G} {X : ax_X} {Q : State → Prop} {h0 h : ax_H} {ls : Array Slot} (hSF : ax_SF G) (B : ax_BL l G X cX5_findsThief 11 RX5 135 3519) (Z : ax_Z X h0 none) (hn : X.2.2.2.2.2.2.2.2.1.name = yX5_findsThief.name) (x0 : Option Nat) (x1 : Int) (x2 : Int) (x3 : Int) {w : ax_H} (hl : ax_hl ls 11 [(0, .inr (.inr x0)), (1, .inl x1), (2, .inl x2), (3, .inl x3)]) (e : f_X5_findsThief G.2.2 x0 x1 x2 x3 h = some w) (hp : (fun w : ax_H => Q = ax_Q G X h0 w none) w) : ax_W G X Q h 0 ls [] := by
  unfold f_X5_findsThief at e
  refine ax_iconst B dX5_findsThief_0 ?_
  refine ax_istore (L' := [(4, .inl 0), (0, .inr (.inr x0)), (1, .inl x1), (2, .inl x2), (3, .inl x3)]) B dX5_findsThief_1 hl (by decide) rfl (fun ls hl => ?_)
  refine ax_iconst B dX5_findsThief_3 ?_
  refine ax_istore (L' := [(5, .inl 0), (4, .inl 0), (0, .inr (.inr x0)), (1, .inl x1), (2, .inl x2), (3, .inl x3)]) B dX5_findsThief_4 hl (by decide) rfl (fun ls hl => ?_)
  exact w_X5_findsThief_6 hSF B Z hn x0 x1 x2 x3 0 0 (hl.sub [2, 3, 4, 5, 1, 0] rfl) e hp
theorem mt_X5_findsThief (l : Launch) (G : ax_G) (hSF : ax_SF G) (x0 : Option Nat) (x1 : Int) (x2 : Int) (x3 : Int) (h : ax_H) (w : ax_H) (e : f_X5_findsThief G.2.2 x0 x1 x2 x3 h = some w) : ax_Met l G yX5_findsThief cX5_findsThief 11 none 135 3519 [va_rf x0, .int (Int32.ofInt x1), .int (Int32.ofInt x2), .int (Int32.ofInt x3)] h w none :=
  ax_enter [.inr (.inr x0), .inl x1, .inl x2, .inl x3] (y := yX5_findsThief) hSF (plainFor_of_name (by decide +kernel)) (Nat.le_of_ble_eq_true rfl) (fun X ls B Z hn hl => we_X5_findsThief hSF B Z hn x0 x1 x2 x3 hl e rfl)
def dkwX5_thief_2 : List UInt8 := [21, 4, 154, 0, 10, 42, 180, 1, 177, 167, 0, 7, 42, 180, 1, 174, 172]
abbrev dktX5_thief_2 : List UInt8 := dkwX5_thief_2 ++ []
def dkwX5_thief_1 : List UInt8 := [154, 0, 5, 2, 172, 42, 27, 28, 29, 182, 1, 183, 42, 180, 1, 174, 2, 160, 0, 7, 2, 167, 0, 19]
abbrev dktX5_thief_1 : List UInt8 := dkwX5_thief_1 ++ dktX5_thief_2
def dkwX5_thief_0 : List UInt8 := [42, 27, 28, 182, 1, 89, 153, 0, 20, 29, 184, 0, 140, 153, 0, 13, 21, 4, 3, 4, 184, 0, 123]
abbrev dktX5_thief_0 : List UInt8 := dkwX5_thief_0 ++ dktX5_thief_1
theorem dksX5_thief_0 : cX5_thief.data.toList.drop 0 = dktX5_thief_0 := by decide +kernel
theorem dksX5_thief_1 : cX5_thief.data.toList.drop 23 = dktX5_thief_1 := dk_seg dksX5_thief_0 23 rfl rfl
theorem dksX5_thief_2 : cX5_thief.data.toList.drop 47 = dktX5_thief_2 := dk_seg dksX5_thief_1 24 rfl rfl
theorem dX5_thief_0 : decode cX5_thief 0 = .ok (.aload_n 0, 1) := dk_42 (dk_at dksX5_thief_0 0 rfl rfl)
theorem dX5_thief_1 : decode cX5_thief 1 = .ok (.iload_n 1, 1) := dk_27 (dk_at dksX5_thief_0 1 rfl rfl)
theorem dX5_thief_2 : decode cX5_thief 2 = .ok (.iload_n 2, 1) := dk_28 (dk_at dksX5_thief_0 2 rfl rfl)
theorem dX5_thief_3 : decode cX5_thief 3 = .ok (.invokevirtual 345, 3) := dk_182 1 89 (dk_at dksX5_thief_0 3 rfl rfl)
theorem dX5_thief_6 : decode cX5_thief 6 = .ok (.ifCond .eq 20, 3) := dk_153 0 20 (dk_at dksX5_thief_0 6 rfl rfl)
theorem dX5_thief_9 : decode cX5_thief 9 = .ok (.iload_n 3, 1) := dk_29 (dk_at dksX5_thief_0 9 rfl rfl)
theorem dX5_thief_10 : decode cX5_thief 10 = .ok (.invokestatic 140, 3) := dk_184 0 140 (dk_at dksX5_thief_0 10 rfl rfl)
theorem dX5_thief_13 : decode cX5_thief 13 = .ok (.ifCond .eq 13, 3) := dk_153 0 13 (dk_at dksX5_thief_0 13 rfl rfl)
theorem dX5_thief_16 : decode cX5_thief 16 = .ok (.iload 4, 2) := dk_21 4 (dk_at dksX5_thief_0 16 rfl rfl)
theorem dX5_thief_18 : decode cX5_thief 18 = .ok (.iconst 0, 1) := dk_3 (dk_at dksX5_thief_0 18 rfl rfl)
theorem dX5_thief_19 : decode cX5_thief 19 = .ok (.iconst 1, 1) := dk_4 (dk_at dksX5_thief_0 19 rfl rfl)
theorem dX5_thief_20 : decode cX5_thief 20 = .ok (.invokestatic 123, 3) := dk_184 0 123 (dk_at dksX5_thief_0 20 rfl rfl)
theorem dX5_thief_23 : decode cX5_thief 23 = .ok (.ifCond .ne 5, 3) := dk_154 0 5 (dk_at dksX5_thief_1 0 rfl rfl)
theorem dX5_thief_26 : decode cX5_thief 26 = .ok (.iconst (-1), 1) := dk_2 (dk_at dksX5_thief_1 3 rfl rfl)
theorem dX5_thief_27 : decode cX5_thief 27 = .ok (.ireturn, 1) := dk_172 (dk_at dksX5_thief_1 4 rfl rfl)
theorem dX5_thief_28 : decode cX5_thief 28 = .ok (.aload_n 0, 1) := dk_42 (dk_at dksX5_thief_1 5 rfl rfl)
theorem dX5_thief_29 : decode cX5_thief 29 = .ok (.iload_n 1, 1) := dk_27 (dk_at dksX5_thief_1 6 rfl rfl)
theorem dX5_thief_30 : decode cX5_thief 30 = .ok (.iload_n 2, 1) := dk_28 (dk_at dksX5_thief_1 7 rfl rfl)
theorem dX5_thief_31 : decode cX5_thief 31 = .ok (.iload_n 3, 1) := dk_29 (dk_at dksX5_thief_1 8 rfl rfl)
theorem dX5_thief_32 : decode cX5_thief 32 = .ok (.invokevirtual 439, 3) := dk_182 1 183 (dk_at dksX5_thief_1 9 rfl rfl)
theorem dX5_thief_35 : decode cX5_thief 35 = .ok (.aload_n 0, 1) := dk_42 (dk_at dksX5_thief_1 12 rfl rfl)
theorem dX5_thief_36 : decode cX5_thief 36 = .ok (.getfield 430, 3) := dk_180 1 174 (dk_at dksX5_thief_1 13 rfl rfl)
theorem dX5_thief_39 : decode cX5_thief 39 = .ok (.iconst (-1), 1) := dk_2 (dk_at dksX5_thief_1 16 rfl rfl)
theorem dX5_thief_40 : decode cX5_thief 40 = .ok (.if_icmp .ne 7, 3) := dk_160 0 7 (dk_at dksX5_thief_1 17 rfl rfl)
theorem dX5_thief_43 : decode cX5_thief 43 = .ok (.iconst (-1), 1) := dk_2 (dk_at dksX5_thief_1 20 rfl rfl)
theorem dX5_thief_44 : decode cX5_thief 44 = .ok (.goto 19, 3) := dk_167 0 19 (dk_at dksX5_thief_1 21 rfl rfl)
theorem dX5_thief_47 : decode cX5_thief 47 = .ok (.iload 4, 2) := dk_21 4 (dk_at dksX5_thief_2 0 rfl rfl)
theorem dX5_thief_49 : decode cX5_thief 49 = .ok (.ifCond .ne 10, 3) := dk_154 0 10 (dk_at dksX5_thief_2 2 rfl rfl)
theorem dX5_thief_52 : decode cX5_thief 52 = .ok (.aload_n 0, 1) := dk_42 (dk_at dksX5_thief_2 5 rfl rfl)
theorem dX5_thief_53 : decode cX5_thief 53 = .ok (.getfield 433, 3) := dk_180 1 177 (dk_at dksX5_thief_2 6 rfl rfl)
theorem dX5_thief_56 : decode cX5_thief 56 = .ok (.goto 7, 3) := dk_167 0 7 (dk_at dksX5_thief_2 9 rfl rfl)
theorem dX5_thief_59 : decode cX5_thief 59 = .ok (.aload_n 0, 1) := dk_42 (dk_at dksX5_thief_2 12 rfl rfl)
theorem dX5_thief_60 : decode cX5_thief 60 = .ok (.getfield 430, 3) := dk_180 1 174 (dk_at dksX5_thief_2 13 rfl rfl)
theorem dX5_thief_63 : decode cX5_thief 63 = .ok (.ireturn, 1) := dk_172 (dk_at dksX5_thief_2 16 rfl rfl)
noncomputable def f_X5_thief_26 (E : ax_E) (h : ax_H) : Option (Int × ax_H) :=
  some ((-1), h)
noncomputable def f_X5_thief (E : ax_E) (x0 : Option Nat) (x1 : Int) (x2 : Int) (x3 : Int) (x4 : Int) (h : ax_H) : Option (Int × ax_H) :=
  (ax_ce E h x0 5).bind fun _ => (f_X5_areTwo E x0 x1 x2 h).bind fun q1 =>
  if i2 q1.1 = 0 then
    f_X5_thief_26 E q1.2
  else
    (f_X5_isRoom E x3 q1.2).bind fun q2 =>
    if i2 q2.1 = 0 then
      f_X5_thief_26 E q2.2
    else
      (f_X5_lies E x4 0 1 q2.2).bind fun q3 =>
      if i2 q3.1 = 0 then
        f_X5_thief_26 E q3.2
      else
        (ax_ce E q3.2 x0 5).bind fun _ => (f_X5_findsThief E x0 x1 x2 x3 q3.2).bind fun h4 =>
        (ax_gI E h4 x0 5 39).bind fun v5 =>
        if i2 v5 = i2 (-1) then
          some ((-1), h4)
        else
          if i2 x4 = 0 then
            (ax_gI E h4 x0 5 38).bind fun v6 =>
            some (v6, h4)
          else
            (ax_gI E h4 x0 5 39).bind fun v7 =>
            some (v7, h4)
set_option maxHeartbeats 4000000 in
theorem w_X5_thief_26 {l : Launch} {G : ax_G} {X : ax_X} {Q : State → Prop} {h0 h : ax_H} {ls : Array Slot} (hSF : ax_SF G) (B : ax_BL l G X cX5_thief 5 RX5 136 3549) (Z : ax_Z X h0 ((some FieldType.int))) (hn : X.2.2.2.2.2.2.2.2.1.name = yX5_thief.name) {w : Int × ax_H} (hl : ax_hl ls 5 []) (e : f_X5_thief_26 G.2.2 h = some w) (hp : (fun w : Int × ax_H => Q = ax_Q G X h0 w.2 (some (.int (Int32.ofInt w.1)))) w) : ax_W G X Q h 26 ls [] := by
  unfold f_X5_thief_26 at e
  refine ax_iconst B dX5_thief_26 ?_
  have e8 := e
  have hp : Q = _ := hp
  subst hp
  exact ax_ireturn B Z dX5_thief_27 e8
set_option maxHeartbeats 4000000 in
theorem we_X5_thief {l : Launch} {G : ax_G} {X : ax_X} {Q : State → Prop} {h0 h : ax_H} {ls : Array Slot} (hSF : ax_SF G) (B : ax_BL l G X cX5_thief 5 RX5 136 3549) (Z : ax_Z X h0 ((some FieldType.int))) (hn : X.2.2.2.2.2.2.2.2.1.name = yX5_thief.name) (x0 : Option Nat) (x1 : Int) (x2 : Int) (x3 : Int) (x4 : Int) {w : Int × ax_H} (hl : ax_hl ls 5 [(0, .inr (.inr x0)), (1, .inl x1), (2, .inl x2), (3, .inl x3), (4, .inl x4)]) (e : f_X5_thief G.2.2 x0 x1 x2 x3 x4 h = some w) (hp : (fun w : Int × ax_H => Q = ax_Q G X h0 w.2 (some (.int (Int32.ofInt w.1)))) w) : ax_W G X Q h 0 ls [] := by
  unfold f_X5_thief at e
  refine ax_aload_n B dX5_thief_0 rfl hl 0 rfl ?_
  refine ax_iload_n B dX5_thief_1 rfl hl 1 rfl ?_
  refine ax_iload_n B dX5_thief_2 rfl hl 2 rfl ?_
  refine ax_ivI (y := yX5_areTwo) (n := 2) (As := [.int (Int32.ofInt x1), .int (Int32.ofInt x2)]) B kd5 (lw_V q2427 q2429 qs87 q133 q2430) (by decide +kernel) ⟨Nat.le_of_ble_eq_true rfl, Nat.le_of_ble_eq_true rfl⟩ (fun w1 e1 => mt_X5_areTwo l G hSF x0 x1 x2 _ w1 e1) rfl hl.size (by decide) dX5_thief_3 e (fun q1 e => ?_)
  refine ax_if_eq (tgt := 26) B dX5_thief_6 (by decide) e (fun e => ?_) (fun e => ?_)
  · exact w_X5_thief_26 hSF B Z hn (hl.sub [] rfl) e hp
  · refine ax_iload_n B dX5_thief_9 rfl hl 3 rfl ?_
    refine ax_isI (y := yX5_isRoom) (n := 1) (As := [.int (Int32.ofInt x3)]) B (lw_S q2177 q2178 q133 q2179) (by decide +kernel) ⟨Nat.le_of_ble_eq_true rfl, Nat.le_of_ble_eq_true rfl⟩ (fun w1 e1 => mt_X5_isRoom l G hSF x3 _ w1 e1) rfl hl.size (by decide) dX5_thief_10 e (fun q2 e => ?_)
    refine ax_if_eq (tgt := 26) B dX5_thief_13 (by decide) e (fun e => ?_) (fun e => ?_)
    · exact w_X5_thief_26 hSF B Z hn (hl.sub [] rfl) e hp
    · refine ax_iload B dX5_thief_16 hl 4 rfl ?_
      refine ax_iconst B dX5_thief_18 ?_
      refine ax_iconst B dX5_thief_19 ?_
      refine ax_isI (y := yX5_lies) (n := 3) (As := [.int (Int32.ofInt x4), .int (Int32.ofInt 0), .int (Int32.ofInt 1)]) B (lw_S q2151 q2152 q133 q2153) (by decide +kernel) ⟨Nat.le_of_ble_eq_true rfl, Nat.le_of_ble_eq_true rfl⟩ (fun w1 e1 => mt_X5_lies l G hSF x4 0 1 _ w1 e1) rfl hl.size (by decide) dX5_thief_20 e (fun q3 e => ?_)
      refine ax_if_ne (tgt := 28) B dX5_thief_23 (by decide) e (fun e => ?_) (fun e => ?_)
      · exact w_X5_thief_26 hSF B Z hn (hl.sub [] rfl) e hp
      · refine ax_aload_n B dX5_thief_28 rfl hl 0 rfl ?_
        refine ax_iload_n B dX5_thief_29 rfl hl 1 rfl ?_
        refine ax_iload_n B dX5_thief_30 rfl hl 2 rfl ?_
        refine ax_iload_n B dX5_thief_31 rfl hl 3 rfl ?_
        refine ax_ivV (y := yX5_findsThief) (n := 3) (As := [.int (Int32.ofInt x1), .int (Int32.ofInt x2), .int (Int32.ofInt x3)]) B kd5 (lw_V q2589 q2591 qs113 q133 q2592) (by decide +kernel) ⟨Nat.le_of_ble_eq_true rfl, Nat.le_of_ble_eq_true rfl⟩ (fun w1 e1 => mt_X5_findsThief l G hSF x0 x1 x2 x3 _ w1 e1) rfl hl.size (by decide) dX5_thief_32 e (fun h4 e => ?_)
        refine ax_aload_n B dX5_thief_35 rfl hl 0 rfl ?_
        refine ax_getI B ff_X5_430_5 (fun _ _ => rfl) dX5_thief_36 e (fun v5 e => ?_)
        refine ax_iconst B dX5_thief_39 ?_
        refine ax_icmp_ne (tgt := 47) B dX5_thief_40 (by decide) e (fun e => ?_) (fun e => ?_)
        · refine ax_iconst B dX5_thief_43 ?_
          refine ax_goto (tgt := 63) B dX5_thief_44 (by decide) ?_
          have e8 := e
          have hp : Q = _ := hp
          subst hp
          exact ax_ireturn B Z dX5_thief_63 e8
        · refine ax_iload B dX5_thief_47 hl 4 rfl ?_
          refine ax_if_ne (tgt := 59) B dX5_thief_49 (by decide) e (fun e => ?_) (fun e => ?_)
          · refine ax_aload_n B dX5_thief_52 rfl hl 0 rfl ?_
            refine ax_getI B ff_X5_433_5 (fun _ _ => rfl) dX5_thief_53 e (fun v6 e => ?_)
            refine ax_goto (tgt := 63) B dX5_thief_56 (by decide) ?_
            have e8 := e
            have hp : Q = _ := hp
            subst hp
            exact ax_ireturn B Z dX5_thief_63 e8
          · refine ax_aload_n B dX5_thief_59 rfl hl 0 rfl ?_
            refine ax_getI B ff_X5_430_5 (fun _ _ => rfl) dX5_thief_60 e (fun v7 e => ?_)
            have e8 := e
            have hp : Q = _ := hp
            subst hp
            exact ax_ireturn B Z dX5_thief_63 e8
theorem mt_X5_thief (l : Launch) (G : ax_G) (hSF : ax_SF G) (x0 : Option Nat) (x1 : Int) (x2 : Int) (x3 : Int) (x4 : Int) (h : ax_H) (w : Int × ax_H) (e : f_X5_thief G.2.2 x0 x1 x2 x3 x4 h = some w) : ax_Met l G yX5_thief cX5_thief 5 ((some FieldType.int)) 136 3549 [va_rf x0, .int (Int32.ofInt x1), .int (Int32.ofInt x2), .int (Int32.ofInt x3), .int (Int32.ofInt x4)] h w.2 (some (.int (Int32.ofInt w.1))) :=
  ax_enter [.inr (.inr x0), .inl x1, .inl x2, .inl x3, .inl x4] (y := yX5_thief) hSF (plainFor_of_name (by decide +kernel)) (Nat.le_of_ble_eq_true rfl) (fun X ls B Z hn hl => we_X5_thief hSF B Z hn x0 x1 x2 x3 x4 hl e rfl)
def dkwX5_shutBy_2 : List UInt8 := [132, 6, 1, 167, 255, 226, 2, 172]
abbrev dktX5_shutBy_2 : List UInt8 := dkwX5_shutBy_2 ++ []
def dkwX5_shutBy_1 : List UInt8 := [163, 0, 29, 42, 27, 28, 21, 4, 21, 6, 100, 21, 5, 182, 1, 82, 29, 162, 0, 6, 21, 6, 172]
abbrev dktX5_shutBy_1 : List UInt8 := dkwX5_shutBy_1 ++ dktX5_shutBy_2
def dkwX5_shutBy_0 : List UInt8 := [42, 27, 28, 182, 0, 178, 54, 4, 42, 28, 27, 182, 0, 178, 54, 5, 3, 54, 6, 21, 6, 21, 4]
abbrev dktX5_shutBy_0 : List UInt8 := dkwX5_shutBy_0 ++ dktX5_shutBy_1
theorem dksX5_shutBy_0 : cX5_shutBy.data.toList.drop 0 = dktX5_shutBy_0 := by decide +kernel
theorem dksX5_shutBy_1 : cX5_shutBy.data.toList.drop 23 = dktX5_shutBy_1 := dk_seg dksX5_shutBy_0 23 rfl rfl
theorem dksX5_shutBy_2 : cX5_shutBy.data.toList.drop 46 = dktX5_shutBy_2 := dk_seg dksX5_shutBy_1 23 rfl rfl
theorem dX5_shutBy_0 : decode cX5_shutBy 0 = .ok (.aload_n 0, 1) := dk_42 (dk_at dksX5_shutBy_0 0 rfl rfl)
theorem dX5_shutBy_1 : decode cX5_shutBy 1 = .ok (.iload_n 1, 1) := dk_27 (dk_at dksX5_shutBy_0 1 rfl rfl)
theorem dX5_shutBy_2 : decode cX5_shutBy 2 = .ok (.iload_n 2, 1) := dk_28 (dk_at dksX5_shutBy_0 2 rfl rfl)
theorem dX5_shutBy_3 : decode cX5_shutBy 3 = .ok (.invokevirtual 178, 3) := dk_182 0 178 (dk_at dksX5_shutBy_0 3 rfl rfl)
theorem dX5_shutBy_6 : decode cX5_shutBy 6 = .ok (.istore 4, 2) := dk_54 4 (dk_at dksX5_shutBy_0 6 rfl rfl)
theorem dX5_shutBy_8 : decode cX5_shutBy 8 = .ok (.aload_n 0, 1) := dk_42 (dk_at dksX5_shutBy_0 8 rfl rfl)
theorem dX5_shutBy_9 : decode cX5_shutBy 9 = .ok (.iload_n 2, 1) := dk_28 (dk_at dksX5_shutBy_0 9 rfl rfl)
theorem dX5_shutBy_10 : decode cX5_shutBy 10 = .ok (.iload_n 1, 1) := dk_27 (dk_at dksX5_shutBy_0 10 rfl rfl)
theorem dX5_shutBy_11 : decode cX5_shutBy 11 = .ok (.invokevirtual 178, 3) := dk_182 0 178 (dk_at dksX5_shutBy_0 11 rfl rfl)
theorem dX5_shutBy_14 : decode cX5_shutBy 14 = .ok (.istore 5, 2) := dk_54 5 (dk_at dksX5_shutBy_0 14 rfl rfl)
theorem dX5_shutBy_16 : decode cX5_shutBy 16 = .ok (.iconst 0, 1) := dk_3 (dk_at dksX5_shutBy_0 16 rfl rfl)
theorem dX5_shutBy_17 : decode cX5_shutBy 17 = .ok (.istore 6, 2) := dk_54 6 (dk_at dksX5_shutBy_0 17 rfl rfl)
theorem dX5_shutBy_19 : decode cX5_shutBy 19 = .ok (.iload 6, 2) := dk_21 6 (dk_at dksX5_shutBy_0 19 rfl rfl)
theorem dX5_shutBy_21 : decode cX5_shutBy 21 = .ok (.iload 4, 2) := dk_21 4 (dk_at dksX5_shutBy_0 21 rfl rfl)
theorem dX5_shutBy_23 : decode cX5_shutBy 23 = .ok (.if_icmp .gt 29, 3) := dk_163 0 29 (dk_at dksX5_shutBy_1 0 rfl rfl)
theorem dX5_shutBy_26 : decode cX5_shutBy 26 = .ok (.aload_n 0, 1) := dk_42 (dk_at dksX5_shutBy_1 3 rfl rfl)
theorem dX5_shutBy_27 : decode cX5_shutBy 27 = .ok (.iload_n 1, 1) := dk_27 (dk_at dksX5_shutBy_1 4 rfl rfl)
theorem dX5_shutBy_28 : decode cX5_shutBy 28 = .ok (.iload_n 2, 1) := dk_28 (dk_at dksX5_shutBy_1 5 rfl rfl)
theorem dX5_shutBy_29 : decode cX5_shutBy 29 = .ok (.iload 4, 2) := dk_21 4 (dk_at dksX5_shutBy_1 6 rfl rfl)
theorem dX5_shutBy_31 : decode cX5_shutBy 31 = .ok (.iload 6, 2) := dk_21 6 (dk_at dksX5_shutBy_1 8 rfl rfl)
theorem dX5_shutBy_33 : decode cX5_shutBy 33 = .ok (.isub, 1) := dk_100 (dk_at dksX5_shutBy_1 10 rfl rfl)
theorem dX5_shutBy_34 : decode cX5_shutBy 34 = .ok (.iload 5, 2) := dk_21 5 (dk_at dksX5_shutBy_1 11 rfl rfl)
theorem dX5_shutBy_36 : decode cX5_shutBy 36 = .ok (.invokevirtual 338, 3) := dk_182 1 82 (dk_at dksX5_shutBy_1 13 rfl rfl)
theorem dX5_shutBy_39 : decode cX5_shutBy 39 = .ok (.iload_n 3, 1) := dk_29 (dk_at dksX5_shutBy_1 16 rfl rfl)
theorem dX5_shutBy_40 : decode cX5_shutBy 40 = .ok (.if_icmp .ge 6, 3) := dk_162 0 6 (dk_at dksX5_shutBy_1 17 rfl rfl)
theorem dX5_shutBy_43 : decode cX5_shutBy 43 = .ok (.iload 6, 2) := dk_21 6 (dk_at dksX5_shutBy_1 20 rfl rfl)
theorem dX5_shutBy_45 : decode cX5_shutBy 45 = .ok (.ireturn, 1) := dk_172 (dk_at dksX5_shutBy_1 22 rfl rfl)
theorem dX5_shutBy_46 : decode cX5_shutBy 46 = .ok (.iinc 6 1, 3) := dk_132 6 1 (dk_at dksX5_shutBy_2 0 rfl rfl)
theorem dX5_shutBy_49 : decode cX5_shutBy 49 = .ok (.goto (-30), 3) := dk_167 255 226 (dk_at dksX5_shutBy_2 3 rfl rfl)
theorem dX5_shutBy_52 : decode cX5_shutBy 52 = .ok (.iconst (-1), 1) := dk_2 (dk_at dksX5_shutBy_2 6 rfl rfl)
theorem dX5_shutBy_53 : decode cX5_shutBy 53 = .ok (.ireturn, 1) := dk_172 (dk_at dksX5_shutBy_2 7 rfl rfl)
noncomputable def lb_X5_shutBy_19 (E : ax_E) (x0 : Option Nat) (x1 : Int) (x2 : Int) (x3 : Int) (x4 : Int) (x5 : Int) (x6 : Int) (h : ax_H) : Option ((Int × ax_H) ⊕ (Int × ax_H)) :=
  if i2 x4 < i2 x6 then
    (some ((-1), h)).map Sum.inr
  else
    (ax_ce E h x0 5).bind fun _ => (f_X5_deepBy E x0 x1 x2 (x4 - x6) x5 h).bind fun q1 =>
    if i2 q1.1 < i2 x3 then
      (some (x6, q1.2)).map Sum.inr
    else
      some (.inl ((x6 + 1), q1.2))
noncomputable def f_X5_shutBy_19 (E : ax_E) (x0 : Option Nat) (x1 : Int) (x2 : Int) (x3 : Int) (x4 : Int) (x5 : Int) (x6 : Int) (h : ax_H) : Option (Int × ax_H) :=
  ax_iter (fun s : Int × ax_H => lb_X5_shutBy_19 E x0 x1 x2 x3 x4 x5 s.1 s.2) (x6, h)
noncomputable def f_X5_shutBy (E : ax_E) (x0 : Option Nat) (x1 : Int) (x2 : Int) (x3 : Int) (h : ax_H) : Option (Int × ax_H) :=
  (ax_ce E h x0 5).bind fun _ => (f_X5_owed E x0 x1 x2 h).bind fun q1 =>
  (ax_ce E q1.2 x0 5).bind fun _ => (f_X5_owed E x0 x2 x1 q1.2).bind fun q2 =>
  f_X5_shutBy_19 E x0 x1 x2 x3 q1.1 q2.1 0 q2.2
def pi_X5_shutBy_19 (G : ax_G) (X : ax_X) (Q : State → Prop) (x0 : Option Nat) (x1 : Int) (x2 : Int) (x3 : Int) (x4 : Int) (x5 : Int) : Int × ax_H → Prop := fun s => ∀ ls : Array Slot, ax_hl ls 7 [(0, .inr (.inr x0)), (1, .inl x1), (2, .inl x2), (3, .inl x3), (4, .inl x4), (5, .inl x5), (6, .inl s.1)] → ax_W G X Q s.2 19 ls []
set_option maxHeartbeats 4000000 in
theorem wb_X5_shutBy_19 {l : Launch} {G : ax_G} {X : ax_X} {Q : State → Prop} {h0 h : ax_H} {ls : Array Slot} (hSF : ax_SF G) (B : ax_BL l G X cX5_shutBy 7 RX5 135 3519) (Z : ax_Z X h0 ((some FieldType.int))) (hn : X.2.2.2.2.2.2.2.2.1.name = yX5_shutBy.name) (x0 : Option Nat) (x1 : Int) (x2 : Int) (x3 : Int) (x4 : Int) (x5 : Int) (x6 : Int) {w : (Int × ax_H) ⊕ (Int × ax_H)} (hl : ax_hl ls 7 [(0, .inr (.inr x0)), (1, .inl x1), (2, .inl x2), (3, .inl x3), (4, .inl x4), (5, .inl x5), (6, .inl x6)]) (e : lb_X5_shutBy_19 G.2.2 x0 x1 x2 x3 x4 x5 x6 h = some w) (hp : (ax_PL (pi_X5_shutBy_19 G X Q x0 x1 x2 x3 x4 x5) (fun w : Int × ax_H => Q = ax_Q G X h0 w.2 (some (.int (Int32.ofInt w.1))))) w) : ax_W G X Q h 19 ls [] := by
  unfold lb_X5_shutBy_19 at e
  refine ax_iload B dX5_shutBy_19 hl 6 rfl ?_
  refine ax_iload B dX5_shutBy_21 hl 4 rfl ?_
  refine ax_icmp_gt (tgt := 52) B dX5_shutBy_23 (by decide) e (fun e => ?_) (fun e => ?_)
  · obtain ⟨w, e9_1, rfl⟩ := Option.map_eq_some_iff.mp e
    have e := e9_1
    refine ax_iconst B dX5_shutBy_52 ?_
    have e8 := e
    have hp : Q = _ := hp
    subst hp
    exact ax_ireturn B Z dX5_shutBy_53 e8
  · refine ax_aload_n B dX5_shutBy_26 rfl hl 0 rfl ?_
    refine ax_iload_n B dX5_shutBy_27 rfl hl 1 rfl ?_
    refine ax_iload_n B dX5_shutBy_28 rfl hl 2 rfl ?_
    refine ax_iload B dX5_shutBy_29 hl 4 rfl ?_
    refine ax_iload B dX5_shutBy_31 hl 6 rfl ?_
    refine ax_isub' B dX5_shutBy_33 ?_
    refine ax_iload B dX5_shutBy_34 hl 5 rfl ?_
    refine ax_ivI (y := yX5_deepBy) (n := 4) (As := [.int (Int32.ofInt x1), .int (Int32.ofInt x2), .int (Int32.ofInt (x4 - x6)), .int (Int32.ofInt x5)]) B kd5 (lw_V q2435 q2437 qs89 q133 q2438) (by decide +kernel) ⟨Nat.le_of_ble_eq_true rfl, Nat.le_of_ble_eq_true rfl⟩ (fun w1 e1 => mt_X5_deepBy l G hSF x0 x1 x2 (x4 - x6) x5 _ w1 e1) rfl hl.size (by decide) dX5_shutBy_36 e (fun q1 e => ?_)
    refine ax_iload_n B dX5_shutBy_39 rfl hl 3 rfl ?_
    refine ax_icmp_ge (tgt := 46) B dX5_shutBy_40 (by decide) e (fun e => ?_) (fun e => ?_)
    · obtain ⟨w, e9_2, rfl⟩ := Option.map_eq_some_iff.mp e
      have e := e9_2
      refine ax_iload B dX5_shutBy_43 hl 6 rfl ?_
      have e8 := e
      have hp : Q = _ := hp
      subst hp
      exact ax_ireturn B Z dX5_shutBy_45 e8
    · refine ax_iinc (L' := [(6, .inl (x6 + 1)), (0, .inr (.inr x0)), (1, .inl x1), (2, .inl x2), (3, .inl x3), (4, .inl x4), (5, .inl x5)]) B dX5_shutBy_46 hl 6 rfl (by decide) rfl (fun ls hl => ?_)
      refine ax_goto (tgt := 19) B dX5_shutBy_49 (by decide) ?_
      cases e
      exact hp _ (hl.sub [1, 2, 3, 4, 5, 6, 0] rfl)
theorem w_X5_shutBy_19 {l : Launch} {G : ax_G} {X : ax_X} {Q : State → Prop} {h0 h : ax_H} {ls : Array Slot} (hSF : ax_SF G) (B : ax_BL l G X cX5_shutBy 7 RX5 135 3519) (Z : ax_Z X h0 ((some FieldType.int))) (hn : X.2.2.2.2.2.2.2.2.1.name = yX5_shutBy.name) (x0 : Option Nat) (x1 : Int) (x2 : Int) (x3 : Int) (x4 : Int) (x5 : Int) (x6 : Int) {w : Int × ax_H} (hl : ax_hl ls 7 [(0, .inr (.inr x0)), (1, .inl x1), (2, .inl x2), (3, .inl x3), (4, .inl x4), (5, .inl x5), (6, .inl x6)]) (e : f_X5_shutBy_19 G.2.2 x0 x1 x2 x3 x4 x5 x6 h = some w) (hp : (fun w : Int × ax_H => Q = ax_Q G X h0 w.2 (some (.int (Int32.ofInt w.1)))) w) : ax_W G X Q h 19 ls [] :=
  ax_iter_W (Pin := pi_X5_shutBy_19 G X Q x0 x1 x2 x3 x4 x5) (Pout := (fun w : Int × ax_H => Q = ax_Q G X h0 w.2 (some (.int (Int32.ofInt w.1))))) (fun s w e hp ls hl => wb_X5_shutBy_19 hSF B Z hn x0 x1 x2 x3 x4 x5 s.1 hl e hp) _ _ e hp ls hl
set_option maxHeartbeats 4000000 in
theorem we_X5_shutBy {l : Launch} {G : ax_G} {X : ax_X} {Q : State → Prop} {h0 h : ax_H} {ls : Array Slot} (hSF : ax_SF G) (B : ax_BL l G X cX5_shutBy 7 RX5 135 3519) (Z : ax_Z X h0 ((some FieldType.int))) (hn : X.2.2.2.2.2.2.2.2.1.name = yX5_shutBy.name) (x0 : Option Nat) (x1 : Int) (x2 : Int) (x3 : Int) {w : Int × ax_H} (hl : ax_hl ls 7 [(0, .inr (.inr x0)), (1, .inl x1), (2, .inl x2), (3, .inl x3)]) (e : f_X5_shutBy G.2.2 x0 x1 x2 x3 h = some w) (hp : (fun w : Int × ax_H => Q = ax_Q G X h0 w.2 (some (.int (Int32.ofInt w.1)))) w) : ax_W G X Q h 0 ls [] := by
  unfold f_X5_shutBy at e
  refine ax_aload_n B dX5_shutBy_0 rfl hl 0 rfl ?_
  refine ax_iload_n B dX5_shutBy_1 rfl hl 1 rfl ?_
  refine ax_iload_n B dX5_shutBy_2 rfl hl 2 rfl ?_
  refine ax_ivI (y := yX5_owed) (n := 2) (As := [.int (Int32.ofInt x1), .int (Int32.ofInt x2)]) B kd5 (lw_V q2234 q2236 qs52 q133 q2237) (by decide +kernel) ⟨Nat.le_of_ble_eq_true rfl, Nat.le_of_ble_eq_true rfl⟩ (fun w1 e1 => mt_X5_owed l G hSF x0 x1 x2 _ w1 e1) rfl hl.size (by decide) dX5_shutBy_3 e (fun q1 e => ?_)
  refine ax_istore (L' := [(4, .inl q1.1), (0, .inr (.inr x0)), (1, .inl x1), (2, .inl x2), (3, .inl x3)]) B dX5_shutBy_6 hl (by decide) rfl (fun ls hl => ?_)
  refine ax_aload_n B dX5_shutBy_8 rfl hl 1 rfl ?_
  refine ax_iload_n B dX5_shutBy_9 rfl hl 3 rfl ?_
  refine ax_iload_n B dX5_shutBy_10 rfl hl 2 rfl ?_
  refine ax_ivI (y := yX5_owed) (n := 2) (As := [.int (Int32.ofInt x2), .int (Int32.ofInt x1)]) B kd5 (lw_V q2234 q2236 qs52 q133 q2237) (by decide +kernel) ⟨Nat.le_of_ble_eq_true rfl, Nat.le_of_ble_eq_true rfl⟩ (fun w1 e1 => mt_X5_owed l G hSF x0 x2 x1 _ w1 e1) rfl hl.size (by decide) dX5_shutBy_11 e (fun q2 e => ?_)
  refine ax_istore (L' := [(5, .inl q2.1), (4, .inl q1.1), (0, .inr (.inr x0)), (1, .inl x1), (2, .inl x2), (3, .inl x3)]) B dX5_shutBy_14 hl (by decide) rfl (fun ls hl => ?_)
  refine ax_iconst B dX5_shutBy_16 ?_
  refine ax_istore (L' := [(6, .inl 0), (5, .inl q2.1), (4, .inl q1.1), (0, .inr (.inr x0)), (1, .inl x1), (2, .inl x2), (3, .inl x3)]) B dX5_shutBy_17 hl (by decide) rfl (fun ls hl => ?_)
  exact w_X5_shutBy_19 hSF B Z hn x0 x1 x2 x3 q1.1 q2.1 0 (hl.sub [3, 4, 5, 6, 2, 1, 0] rfl) e hp
theorem mt_X5_shutBy (l : Launch) (G : ax_G) (hSF : ax_SF G) (x0 : Option Nat) (x1 : Int) (x2 : Int) (x3 : Int) (h : ax_H) (w : Int × ax_H) (e : f_X5_shutBy G.2.2 x0 x1 x2 x3 h = some w) : ax_Met l G yX5_shutBy cX5_shutBy 7 ((some FieldType.int)) 135 3519 [va_rf x0, .int (Int32.ofInt x1), .int (Int32.ofInt x2), .int (Int32.ofInt x3)] h w.2 (some (.int (Int32.ofInt w.1))) :=
  ax_enter [.inr (.inr x0), .inl x1, .inl x2, .inl x3] (y := yX5_shutBy) hSF (plainFor_of_name (by decide +kernel)) (Nat.le_of_ble_eq_true rfl) (fun X ls B Z hn hl => we_X5_shutBy hSF B Z hn x0 x1 x2 x3 hl e rfl)
def dkwX5_shut_1 : List UInt8 := [167, 0, 4, 2, 172]
abbrev dktX5_shut_1 : List UInt8 := dkwX5_shut_1 ++ []
def dkwX5_shut_0 : List UInt8 := [42, 27, 28, 182, 1, 89, 153, 0, 20, 29, 184, 0, 140, 153, 0, 13, 42, 27, 28, 29, 182, 1, 186]
abbrev dktX5_shut_0 : List UInt8 := dkwX5_shut_0 ++ dktX5_shut_1
theorem dksX5_shut_0 : cX5_shut.data.toList.drop 0 = dktX5_shut_0 := by decide +kernel
theorem dksX5_shut_1 : cX5_shut.data.toList.drop 23 = dktX5_shut_1 := dk_seg dksX5_shut_0 23 rfl rfl
theorem dX5_shut_0 : decode cX5_shut 0 = .ok (.aload_n 0, 1) := dk_42 (dk_at dksX5_shut_0 0 rfl rfl)
theorem dX5_shut_1 : decode cX5_shut 1 = .ok (.iload_n 1, 1) := dk_27 (dk_at dksX5_shut_0 1 rfl rfl)
theorem dX5_shut_2 : decode cX5_shut 2 = .ok (.iload_n 2, 1) := dk_28 (dk_at dksX5_shut_0 2 rfl rfl)
theorem dX5_shut_3 : decode cX5_shut 3 = .ok (.invokevirtual 345, 3) := dk_182 1 89 (dk_at dksX5_shut_0 3 rfl rfl)
theorem dX5_shut_6 : decode cX5_shut 6 = .ok (.ifCond .eq 20, 3) := dk_153 0 20 (dk_at dksX5_shut_0 6 rfl rfl)
theorem dX5_shut_9 : decode cX5_shut 9 = .ok (.iload_n 3, 1) := dk_29 (dk_at dksX5_shut_0 9 rfl rfl)
theorem dX5_shut_10 : decode cX5_shut 10 = .ok (.invokestatic 140, 3) := dk_184 0 140 (dk_at dksX5_shut_0 10 rfl rfl)
theorem dX5_shut_13 : decode cX5_shut 13 = .ok (.ifCond .eq 13, 3) := dk_153 0 13 (dk_at dksX5_shut_0 13 rfl rfl)
theorem dX5_shut_16 : decode cX5_shut 16 = .ok (.aload_n 0, 1) := dk_42 (dk_at dksX5_shut_0 16 rfl rfl)
theorem dX5_shut_17 : decode cX5_shut 17 = .ok (.iload_n 1, 1) := dk_27 (dk_at dksX5_shut_0 17 rfl rfl)
theorem dX5_shut_18 : decode cX5_shut 18 = .ok (.iload_n 2, 1) := dk_28 (dk_at dksX5_shut_0 18 rfl rfl)
theorem dX5_shut_19 : decode cX5_shut 19 = .ok (.iload_n 3, 1) := dk_29 (dk_at dksX5_shut_0 19 rfl rfl)
theorem dX5_shut_20 : decode cX5_shut 20 = .ok (.invokevirtual 442, 3) := dk_182 1 186 (dk_at dksX5_shut_0 20 rfl rfl)
theorem dX5_shut_23 : decode cX5_shut 23 = .ok (.goto 4, 3) := dk_167 0 4 (dk_at dksX5_shut_1 0 rfl rfl)
theorem dX5_shut_26 : decode cX5_shut 26 = .ok (.iconst (-1), 1) := dk_2 (dk_at dksX5_shut_1 3 rfl rfl)
theorem dX5_shut_27 : decode cX5_shut 27 = .ok (.ireturn, 1) := dk_172 (dk_at dksX5_shut_1 4 rfl rfl)
noncomputable def f_X5_shut_26 (E : ax_E) (h : ax_H) : Option (Int × ax_H) :=
  some ((-1), h)
noncomputable def f_X5_shut (E : ax_E) (x0 : Option Nat) (x1 : Int) (x2 : Int) (x3 : Int) (h : ax_H) : Option (Int × ax_H) :=
  (ax_ce E h x0 5).bind fun _ => (f_X5_areTwo E x0 x1 x2 h).bind fun q1 =>
  if i2 q1.1 = 0 then
    f_X5_shut_26 E q1.2
  else
    (f_X5_isRoom E x3 q1.2).bind fun q2 =>
    if i2 q2.1 = 0 then
      f_X5_shut_26 E q2.2
    else
      (ax_ce E q2.2 x0 5).bind fun _ => (f_X5_shutBy E x0 x1 x2 x3 q2.2).bind fun q3 =>
      some (q3.1, q3.2)
set_option maxHeartbeats 4000000 in
theorem w_X5_shut_26 {l : Launch} {G : ax_G} {X : ax_X} {Q : State → Prop} {h0 h : ax_H} {ls : Array Slot} (hSF : ax_SF G) (B : ax_BL l G X cX5_shut 4 RX5 136 3545) (Z : ax_Z X h0 ((some FieldType.int))) (hn : X.2.2.2.2.2.2.2.2.1.name = yX5_shut.name) {w : Int × ax_H} (hl : ax_hl ls 4 []) (e : f_X5_shut_26 G.2.2 h = some w) (hp : (fun w : Int × ax_H => Q = ax_Q G X h0 w.2 (some (.int (Int32.ofInt w.1)))) w) : ax_W G X Q h 26 ls [] := by
  unfold f_X5_shut_26 at e
  refine ax_iconst B dX5_shut_26 ?_
  have e8 := e
  have hp : Q = _ := hp
  subst hp
  exact ax_ireturn B Z dX5_shut_27 e8
set_option maxHeartbeats 4000000 in
theorem we_X5_shut {l : Launch} {G : ax_G} {X : ax_X} {Q : State → Prop} {h0 h : ax_H} {ls : Array Slot} (hSF : ax_SF G) (B : ax_BL l G X cX5_shut 4 RX5 136 3545) (Z : ax_Z X h0 ((some FieldType.int))) (hn : X.2.2.2.2.2.2.2.2.1.name = yX5_shut.name) (x0 : Option Nat) (x1 : Int) (x2 : Int) (x3 : Int) {w : Int × ax_H} (hl : ax_hl ls 4 [(0, .inr (.inr x0)), (1, .inl x1), (2, .inl x2), (3, .inl x3)]) (e : f_X5_shut G.2.2 x0 x1 x2 x3 h = some w) (hp : (fun w : Int × ax_H => Q = ax_Q G X h0 w.2 (some (.int (Int32.ofInt w.1)))) w) : ax_W G X Q h 0 ls [] := by
  unfold f_X5_shut at e
  refine ax_aload_n B dX5_shut_0 rfl hl 0 rfl ?_
  refine ax_iload_n B dX5_shut_1 rfl hl 1 rfl ?_
  refine ax_iload_n B dX5_shut_2 rfl hl 2 rfl ?_
  refine ax_ivI (y := yX5_areTwo) (n := 2) (As := [.int (Int32.ofInt x1), .int (Int32.ofInt x2)]) B kd5 (lw_V q2427 q2429 qs87 q133 q2430) (by decide +kernel) ⟨Nat.le_of_ble_eq_true rfl, Nat.le_of_ble_eq_true rfl⟩ (fun w1 e1 => mt_X5_areTwo l G hSF x0 x1 x2 _ w1 e1) rfl hl.size (by decide) dX5_shut_3 e (fun q1 e => ?_)
  refine ax_if_eq (tgt := 26) B dX5_shut_6 (by decide) e (fun e => ?_) (fun e => ?_)
  · exact w_X5_shut_26 hSF B Z hn (hl.sub [] rfl) e hp
  · refine ax_iload_n B dX5_shut_9 rfl hl 3 rfl ?_
    refine ax_isI (y := yX5_isRoom) (n := 1) (As := [.int (Int32.ofInt x3)]) B (lw_S q2177 q2178 q133 q2179) (by decide +kernel) ⟨Nat.le_of_ble_eq_true rfl, Nat.le_of_ble_eq_true rfl⟩ (fun w1 e1 => mt_X5_isRoom l G hSF x3 _ w1 e1) rfl hl.size (by decide) dX5_shut_10 e (fun q2 e => ?_)
    refine ax_if_eq (tgt := 26) B dX5_shut_13 (by decide) e (fun e => ?_) (fun e => ?_)
    · exact w_X5_shut_26 hSF B Z hn (hl.sub [] rfl) e hp
    · refine ax_aload_n B dX5_shut_16 rfl hl 0 rfl ?_
      refine ax_iload_n B dX5_shut_17 rfl hl 1 rfl ?_
      refine ax_iload_n B dX5_shut_18 rfl hl 2 rfl ?_
      refine ax_iload_n B dX5_shut_19 rfl hl 3 rfl ?_
      refine ax_ivI (y := yX5_shutBy) (n := 3) (As := [.int (Int32.ofInt x1), .int (Int32.ofInt x2), .int (Int32.ofInt x3)]) B kd5 (lw_V q2600 q2602 qs114 q133 q2603) (by decide +kernel) ⟨Nat.le_of_ble_eq_true rfl, Nat.le_of_ble_eq_true rfl⟩ (fun w1 e1 => mt_X5_shutBy l G hSF x0 x1 x2 x3 _ w1 e1) rfl hl.size (by decide) dX5_shut_20 e (fun q3 e => ?_)
      refine ax_goto (tgt := 27) B dX5_shut_23 (by decide) ?_
      have e8 := e
      have hp : Q = _ := hp
      subst hp
      exact ax_ireturn B Z dX5_shut_27 e8
theorem mt_X5_shut (l : Launch) (G : ax_G) (hSF : ax_SF G) (x0 : Option Nat) (x1 : Int) (x2 : Int) (x3 : Int) (h : ax_H) (w : Int × ax_H) (e : f_X5_shut G.2.2 x0 x1 x2 x3 h = some w) : ax_Met l G yX5_shut cX5_shut 4 ((some FieldType.int)) 136 3545 [va_rf x0, .int (Int32.ofInt x1), .int (Int32.ofInt x2), .int (Int32.ofInt x3)] h w.2 (some (.int (Int32.ofInt w.1))) :=
  ax_enter [.inr (.inr x0), .inl x1, .inl x2, .inl x3] (y := yX5_shut) hSF (plainFor_of_name (by decide +kernel)) (Nat.le_of_ble_eq_true rfl) (fun X ls B Z hn hl => we_X5_shut hSF B Z hn x0 x1 x2 x3 hl e rfl)
def dkwX5_ban_2 : List UInt8 := [21, 4, 96, 61, 132, 3, 1, 167, 255, 215, 28, 172]
abbrev dktX5_ban_2 : List UInt8 := dkwX5_ban_2 ++ []
def dkwX5_ban_1 : List UInt8 := [160, 0, 6, 167, 0, 25, 42, 29, 27, 4, 182, 1, 186, 54, 4, 21, 4, 2, 160, 0, 5, 2, 172, 28]
abbrev dktX5_ban_1 : List UInt8 := dkwX5_ban_1 ++ dktX5_ban_2
def dkwX5_ban_0 : List UInt8 := [42, 27, 182, 0, 152, 154, 0, 5, 2, 172, 3, 61, 3, 62, 29, 42, 182, 0, 133, 162, 0, 39, 29, 27]
abbrev dktX5_ban_0 : List UInt8 := dkwX5_ban_0 ++ dktX5_ban_1
theorem dksX5_ban_0 : cX5_ban.data.toList.drop 0 = dktX5_ban_0 := by decide +kernel
theorem dksX5_ban_1 : cX5_ban.data.toList.drop 24 = dktX5_ban_1 := dk_seg dksX5_ban_0 24 rfl rfl
theorem dksX5_ban_2 : cX5_ban.data.toList.drop 48 = dktX5_ban_2 := dk_seg dksX5_ban_1 24 rfl rfl
theorem dX5_ban_0 : decode cX5_ban 0 = .ok (.aload_n 0, 1) := dk_42 (dk_at dksX5_ban_0 0 rfl rfl)
theorem dX5_ban_1 : decode cX5_ban 1 = .ok (.iload_n 1, 1) := dk_27 (dk_at dksX5_ban_0 1 rfl rfl)
theorem dX5_ban_2 : decode cX5_ban 2 = .ok (.invokevirtual 152, 3) := dk_182 0 152 (dk_at dksX5_ban_0 2 rfl rfl)
theorem dX5_ban_5 : decode cX5_ban 5 = .ok (.ifCond .ne 5, 3) := dk_154 0 5 (dk_at dksX5_ban_0 5 rfl rfl)
theorem dX5_ban_8 : decode cX5_ban 8 = .ok (.iconst (-1), 1) := dk_2 (dk_at dksX5_ban_0 8 rfl rfl)
theorem dX5_ban_9 : decode cX5_ban 9 = .ok (.ireturn, 1) := dk_172 (dk_at dksX5_ban_0 9 rfl rfl)
theorem dX5_ban_10 : decode cX5_ban 10 = .ok (.iconst 0, 1) := dk_3 (dk_at dksX5_ban_0 10 rfl rfl)
theorem dX5_ban_11 : decode cX5_ban 11 = .ok (.istore_n 2, 1) := dk_61 (dk_at dksX5_ban_0 11 rfl rfl)
theorem dX5_ban_12 : decode cX5_ban 12 = .ok (.iconst 0, 1) := dk_3 (dk_at dksX5_ban_0 12 rfl rfl)
theorem dX5_ban_13 : decode cX5_ban 13 = .ok (.istore_n 3, 1) := dk_62 (dk_at dksX5_ban_0 13 rfl rfl)
theorem dX5_ban_14 : decode cX5_ban 14 = .ok (.iload_n 3, 1) := dk_29 (dk_at dksX5_ban_0 14 rfl rfl)
theorem dX5_ban_15 : decode cX5_ban 15 = .ok (.aload_n 0, 1) := dk_42 (dk_at dksX5_ban_0 15 rfl rfl)
theorem dX5_ban_16 : decode cX5_ban 16 = .ok (.invokevirtual 133, 3) := dk_182 0 133 (dk_at dksX5_ban_0 16 rfl rfl)
theorem dX5_ban_19 : decode cX5_ban 19 = .ok (.if_icmp .ge 39, 3) := dk_162 0 39 (dk_at dksX5_ban_0 19 rfl rfl)
theorem dX5_ban_22 : decode cX5_ban 22 = .ok (.iload_n 3, 1) := dk_29 (dk_at dksX5_ban_0 22 rfl rfl)
theorem dX5_ban_23 : decode cX5_ban 23 = .ok (.iload_n 1, 1) := dk_27 (dk_at dksX5_ban_0 23 rfl rfl)
theorem dX5_ban_24 : decode cX5_ban 24 = .ok (.if_icmp .ne 6, 3) := dk_160 0 6 (dk_at dksX5_ban_1 0 rfl rfl)
theorem dX5_ban_27 : decode cX5_ban 27 = .ok (.goto 25, 3) := dk_167 0 25 (dk_at dksX5_ban_1 3 rfl rfl)
theorem dX5_ban_30 : decode cX5_ban 30 = .ok (.aload_n 0, 1) := dk_42 (dk_at dksX5_ban_1 6 rfl rfl)
theorem dX5_ban_31 : decode cX5_ban 31 = .ok (.iload_n 3, 1) := dk_29 (dk_at dksX5_ban_1 7 rfl rfl)
theorem dX5_ban_32 : decode cX5_ban 32 = .ok (.iload_n 1, 1) := dk_27 (dk_at dksX5_ban_1 8 rfl rfl)
theorem dX5_ban_33 : decode cX5_ban 33 = .ok (.iconst 1, 1) := dk_4 (dk_at dksX5_ban_1 9 rfl rfl)
theorem dX5_ban_34 : decode cX5_ban 34 = .ok (.invokevirtual 442, 3) := dk_182 1 186 (dk_at dksX5_ban_1 10 rfl rfl)
theorem dX5_ban_37 : decode cX5_ban 37 = .ok (.istore 4, 2) := dk_54 4 (dk_at dksX5_ban_1 13 rfl rfl)
theorem dX5_ban_39 : decode cX5_ban 39 = .ok (.iload 4, 2) := dk_21 4 (dk_at dksX5_ban_1 15 rfl rfl)
theorem dX5_ban_41 : decode cX5_ban 41 = .ok (.iconst (-1), 1) := dk_2 (dk_at dksX5_ban_1 17 rfl rfl)
theorem dX5_ban_42 : decode cX5_ban 42 = .ok (.if_icmp .ne 5, 3) := dk_160 0 5 (dk_at dksX5_ban_1 18 rfl rfl)
theorem dX5_ban_45 : decode cX5_ban 45 = .ok (.iconst (-1), 1) := dk_2 (dk_at dksX5_ban_1 21 rfl rfl)
theorem dX5_ban_46 : decode cX5_ban 46 = .ok (.ireturn, 1) := dk_172 (dk_at dksX5_ban_1 22 rfl rfl)
theorem dX5_ban_47 : decode cX5_ban 47 = .ok (.iload_n 2, 1) := dk_28 (dk_at dksX5_ban_1 23 rfl rfl)
theorem dX5_ban_48 : decode cX5_ban 48 = .ok (.iload 4, 2) := dk_21 4 (dk_at dksX5_ban_2 0 rfl rfl)
theorem dX5_ban_50 : decode cX5_ban 50 = .ok (.iadd, 1) := dk_96 (dk_at dksX5_ban_2 2 rfl rfl)
theorem dX5_ban_51 : decode cX5_ban 51 = .ok (.istore_n 2, 1) := dk_61 (dk_at dksX5_ban_2 3 rfl rfl)
theorem dX5_ban_52 : decode cX5_ban 52 = .ok (.iinc 3 1, 3) := dk_132 3 1 (dk_at dksX5_ban_2 4 rfl rfl)
theorem dX5_ban_55 : decode cX5_ban 55 = .ok (.goto (-41), 3) := dk_167 255 215 (dk_at dksX5_ban_2 7 rfl rfl)
theorem dX5_ban_58 : decode cX5_ban 58 = .ok (.iload_n 2, 1) := dk_28 (dk_at dksX5_ban_2 10 rfl rfl)
theorem dX5_ban_59 : decode cX5_ban 59 = .ok (.ireturn, 1) := dk_172 (dk_at dksX5_ban_2 11 rfl rfl)
noncomputable def f_X5_ban_52 (E : ax_E) (x0 : Option Nat) (x1 : Int) (x2 : Int) (x3 : Int) (h : ax_H) : Option ((Int × Int × ax_H) ⊕ (Int × ax_H)) :=
  some (.inl (x2, (x3 + 1), h))
noncomputable def lb_X5_ban_14 (E : ax_E) (x0 : Option Nat) (x1 : Int) (x2 : Int) (x3 : Int) (h : ax_H) : Option ((Int × Int × ax_H) ⊕ (Int × ax_H)) :=
  (ax_ce E h x0 5).bind fun _ => (f_X5_people E x0 h).bind fun q1 =>
  if i2 x3 < i2 q1.1 then
    if i2 x3 = i2 x1 then
      f_X5_ban_52 E x0 x1 x2 x3 q1.2
    else
      (ax_ce E q1.2 x0 5).bind fun _ => (f_X5_shutBy E x0 x3 x1 1 q1.2).bind fun q2 =>
      if i2 q2.1 = i2 (-1) then
        (some ((-1), q2.2)).map Sum.inr
      else
        f_X5_ban_52 E x0 x1 (x2 + q2.1) x3 q2.2
  else
    (some (x2, q1.2)).map Sum.inr
noncomputable def f_X5_ban_14 (E : ax_E) (x0 : Option Nat) (x1 : Int) (x2 : Int) (x3 : Int) (h : ax_H) : Option (Int × ax_H) :=
  ax_iter (fun s : Int × Int × ax_H => lb_X5_ban_14 E x0 x1 s.1 s.2.1 s.2.2) (x2, x3, h)
noncomputable def f_X5_ban (E : ax_E) (x0 : Option Nat) (x1 : Int) (h : ax_H) : Option (Int × ax_H) :=
  (ax_ce E h x0 5).bind fun _ => (f_X5_isPerson E x0 x1 h).bind fun q1 =>
  if i2 q1.1 = 0 then
    some ((-1), q1.2)
  else
    f_X5_ban_14 E x0 x1 0 0 q1.2
def pi_X5_ban_14 (G : ax_G) (X : ax_X) (Q : State → Prop) (x0 : Option Nat) (x1 : Int) : Int × Int × ax_H → Prop := fun s => ∀ ls : Array Slot, ax_hl ls 5 [(0, .inr (.inr x0)), (1, .inl x1), (2, .inl s.1), (3, .inl s.2.1)] → ax_W G X Q s.2.2 14 ls []
set_option maxHeartbeats 4000000 in
theorem w_X5_ban_52 {l : Launch} {G : ax_G} {X : ax_X} {Q : State → Prop} {h0 h : ax_H} {ls : Array Slot} (hSF : ax_SF G) (B : ax_BL l G X cX5_ban 5 RX5 136 3545) (Z : ax_Z X h0 ((some FieldType.int))) (hn : X.2.2.2.2.2.2.2.2.1.name = yX5_ban.name) (x0 : Option Nat) (x1 : Int) (x2 : Int) (x3 : Int) {w : (Int × Int × ax_H) ⊕ (Int × ax_H)} (hl : ax_hl ls 5 [(0, .inr (.inr x0)), (1, .inl x1), (2, .inl x2), (3, .inl x3)]) (e : f_X5_ban_52 G.2.2 x0 x1 x2 x3 h = some w) (hp : (ax_PL (pi_X5_ban_14 G X Q x0 x1) (fun w : Int × ax_H => Q = ax_Q G X h0 w.2 (some (.int (Int32.ofInt w.1))))) w) : ax_W G X Q h 52 ls [] := by
  unfold f_X5_ban_52 at e
  refine ax_iinc (L' := [(3, .inl (x3 + 1)), (0, .inr (.inr x0)), (1, .inl x1), (2, .inl x2)]) B dX5_ban_52 hl 3 rfl (by decide) rfl (fun ls hl => ?_)
  refine ax_goto (tgt := 14) B dX5_ban_55 (by decide) ?_
  cases e
  exact hp _ (hl.sub [1, 2, 3, 0] rfl)
set_option maxHeartbeats 4000000 in
theorem wb_X5_ban_14 {l : Launch} {G : ax_G} {X : ax_X} {Q : State → Prop} {h0 h : ax_H} {ls : Array Slot} (hSF : ax_SF G) (B : ax_BL l G X cX5_ban 5 RX5 136 3545) (Z : ax_Z X h0 ((some FieldType.int))) (hn : X.2.2.2.2.2.2.2.2.1.name = yX5_ban.name) (x0 : Option Nat) (x1 : Int) (x2 : Int) (x3 : Int) {w : (Int × Int × ax_H) ⊕ (Int × ax_H)} (hl : ax_hl ls 5 [(0, .inr (.inr x0)), (1, .inl x1), (2, .inl x2), (3, .inl x3)]) (e : lb_X5_ban_14 G.2.2 x0 x1 x2 x3 h = some w) (hp : (ax_PL (pi_X5_ban_14 G X Q x0 x1) (fun w : Int × ax_H => Q = ax_Q G X h0 w.2 (some (.int (Int32.ofInt w.1))))) w) : ax_W G X Q h 14 ls [] := by
  unfold lb_X5_ban_14 at e
  refine ax_iload_n B dX5_ban_14 rfl hl 3 rfl ?_
  refine ax_aload_n B dX5_ban_15 rfl hl 0 rfl ?_
  refine ax_ivI (y := yX5_people) (n := 0) (As := []) B kd5 (lw_V q2180 q2182 qs44 q133 q2183) (by decide +kernel) ⟨Nat.le_of_ble_eq_true rfl, Nat.le_of_ble_eq_true rfl⟩ (fun w1 e1 => mt_X5_people l G hSF x0 _ w1 e1) rfl hl.size (by simp only [List.map_cons, List.map_nil, List.sum_cons, List.sum_nil, va_rf_cat, ax_catI, ax_catL]; decide) dX5_ban_16 e (fun q1 e => ?_)
  refine ax_icmp_ge (tgt := 58) B dX5_ban_19 (by decide) e (fun e => ?_) (fun e => ?_)
  · refine ax_iload_n B dX5_ban_22 rfl hl 3 rfl ?_
    refine ax_iload_n B dX5_ban_23 rfl hl 1 rfl ?_
    refine ax_icmp_ne (tgt := 30) B dX5_ban_24 (by decide) e (fun e => ?_) (fun e => ?_)
    · refine ax_goto (tgt := 52) B dX5_ban_27 (by decide) ?_
      exact w_X5_ban_52 hSF B Z hn x0 x1 x2 x3 (hl.sub [0, 1, 2, 3] rfl) e hp
    · refine ax_aload_n B dX5_ban_30 rfl hl 0 rfl ?_
      refine ax_iload_n B dX5_ban_31 rfl hl 3 rfl ?_
      refine ax_iload_n B dX5_ban_32 rfl hl 1 rfl ?_
      refine ax_iconst B dX5_ban_33 ?_
      refine ax_ivI (y := yX5_shutBy) (n := 3) (As := [.int (Int32.ofInt x3), .int (Int32.ofInt x1), .int (Int32.ofInt 1)]) B kd5 (lw_V q2600 q2602 qs114 q133 q2603) (by decide +kernel) ⟨Nat.le_of_ble_eq_true rfl, Nat.le_of_ble_eq_true rfl⟩ (fun w1 e1 => mt_X5_shutBy l G hSF x0 x3 x1 1 _ w1 e1) rfl hl.size (by decide) dX5_ban_34 e (fun q2 e => ?_)
      refine ax_istore (L' := [(4, .inl q2.1), (0, .inr (.inr x0)), (1, .inl x1), (2, .inl x2), (3, .inl x3)]) B dX5_ban_37 hl (by decide) rfl (fun ls hl => ?_)
      refine ax_iload B dX5_ban_39 hl 0 rfl ?_
      refine ax_iconst B dX5_ban_41 ?_
      refine ax_icmp_ne (tgt := 47) B dX5_ban_42 (by decide) e (fun e => ?_) (fun e => ?_)
      · obtain ⟨w, e9_1, rfl⟩ := Option.map_eq_some_iff.mp e
        have e := e9_1
        refine ax_iconst B dX5_ban_45 ?_
        have e8 := e
        have hp : Q = _ := hp
        subst hp
        exact ax_ireturn B Z dX5_ban_46 e8
      · refine ax_iload_n B dX5_ban_47 rfl hl 3 rfl ?_
        refine ax_iload B dX5_ban_48 hl 0 rfl ?_
        refine ax_iadd' B dX5_ban_50 ?_
        refine ax_istore_n (L' := [(2, .inl (x2 + q2.1)), (4, .inl q2.1), (0, .inr (.inr x0)), (1, .inl x1), (3, .inl x3)]) B dX5_ban_51 rfl hl (by decide) rfl (fun ls hl => ?_)
        exact w_X5_ban_52 hSF B Z hn x0 x1 (x2 + q2.1) x3 (hl.sub [2, 3, 0, 4] rfl) e hp
  · obtain ⟨w, e9_2, rfl⟩ := Option.map_eq_some_iff.mp e
    have e := e9_2
    refine ax_iload_n B dX5_ban_58 rfl hl 2 rfl ?_
    have e8 := e
    have hp : Q = _ := hp
    subst hp
    exact ax_ireturn B Z dX5_ban_59 e8
theorem w_X5_ban_14 {l : Launch} {G : ax_G} {X : ax_X} {Q : State → Prop} {h0 h : ax_H} {ls : Array Slot} (hSF : ax_SF G) (B : ax_BL l G X cX5_ban 5 RX5 136 3545) (Z : ax_Z X h0 ((some FieldType.int))) (hn : X.2.2.2.2.2.2.2.2.1.name = yX5_ban.name) (x0 : Option Nat) (x1 : Int) (x2 : Int) (x3 : Int) {w : Int × ax_H} (hl : ax_hl ls 5 [(0, .inr (.inr x0)), (1, .inl x1), (2, .inl x2), (3, .inl x3)]) (e : f_X5_ban_14 G.2.2 x0 x1 x2 x3 h = some w) (hp : (fun w : Int × ax_H => Q = ax_Q G X h0 w.2 (some (.int (Int32.ofInt w.1)))) w) : ax_W G X Q h 14 ls [] :=
  ax_iter_W (Pin := pi_X5_ban_14 G X Q x0 x1) (Pout := (fun w : Int × ax_H => Q = ax_Q G X h0 w.2 (some (.int (Int32.ofInt w.1))))) (fun s w e hp ls hl => wb_X5_ban_14 hSF B Z hn x0 x1 s.1 s.2.1 hl e hp) _ _ e hp ls hl
set_option maxHeartbeats 4000000 in
theorem we_X5_ban {l : Launch} {G : ax_G} {X : ax_X} {Q : State → Prop} {h0 h : ax_H} {ls : Array Slot} (hSF : ax_SF G) (B : ax_BL l G X cX5_ban 5 RX5 136 3545) (Z : ax_Z X h0 ((some FieldType.int))) (hn : X.2.2.2.2.2.2.2.2.1.name = yX5_ban.name) (x0 : Option Nat) (x1 : Int) {w : Int × ax_H} (hl : ax_hl ls 5 [(0, .inr (.inr x0)), (1, .inl x1)]) (e : f_X5_ban G.2.2 x0 x1 h = some w) (hp : (fun w : Int × ax_H => Q = ax_Q G X h0 w.2 (some (.int (Int32.ofInt w.1)))) w) : ax_W G X Q h 0 ls [] := by
  unfold f_X5_ban at e
  refine ax_aload_n B dX5_ban_0 rfl hl 0 rfl ?_
  refine ax_iload_n B dX5_ban_1 rfl hl 1 rfl ?_
  refine ax_ivI (y := yX5_isPerson) (n := 1) (As := [.int (Int32.ofInt x1)]) B kd5 (lw_V q2191 q2193 qs45 q133 q2194) (by decide +kernel) ⟨Nat.le_of_ble_eq_true rfl, Nat.le_of_ble_eq_true rfl⟩ (fun w1 e1 => mt_X5_isPerson l G hSF x0 x1 _ w1 e1) rfl hl.size (by decide) dX5_ban_2 e (fun q1 e => ?_)
  refine ax_if_ne (tgt := 10) B dX5_ban_5 (by decide) e (fun e => ?_) (fun e => ?_)
  · refine ax_iconst B dX5_ban_8 ?_
    have e8 := e
    have hp : Q = _ := hp
    subst hp
    exact ax_ireturn B Z dX5_ban_9 e8
  · refine ax_iconst B dX5_ban_10 ?_
    refine ax_istore_n (L' := [(2, .inl 0), (0, .inr (.inr x0)), (1, .inl x1)]) B dX5_ban_11 rfl hl (by decide) rfl (fun ls hl => ?_)
    refine ax_iconst B dX5_ban_12 ?_
    refine ax_istore_n (L' := [(3, .inl 0), (2, .inl 0), (0, .inr (.inr x0)), (1, .inl x1)]) B dX5_ban_13 rfl hl (by decide) rfl (fun ls hl => ?_)
    exact w_X5_ban_14 hSF B Z hn x0 x1 0 0 (hl.sub [2, 3, 1, 0] rfl) e hp
theorem mt_X5_ban (l : Launch) (G : ax_G) (hSF : ax_SF G) (x0 : Option Nat) (x1 : Int) (h : ax_H) (w : Int × ax_H) (e : f_X5_ban G.2.2 x0 x1 h = some w) : ax_Met l G yX5_ban cX5_ban 5 ((some FieldType.int)) 136 3545 [va_rf x0, .int (Int32.ofInt x1)] h w.2 (some (.int (Int32.ofInt w.1))) :=
  ax_enter [.inr (.inr x0), .inl x1] (y := yX5_ban) hSF (plainFor_of_name (by decide +kernel)) (Nat.le_of_ble_eq_true rfl) (fun X ls B Z hn hl => we_X5_ban hSF B Z hn x0 x1 hl e rfl)
def dkwX5_party_5 : List UInt8 := [167, 255, 160, 28, 2, 160, 0, 7, 2, 167, 0, 12, 27, 154, 0, 7, 28, 167, 0, 4, 29, 172]
abbrev dktX5_party_5 : List UInt8 := dkwX5_party_5 ++ []
def dkwX5_party_4 : List UInt8 := [132, 6, 1, 167, 255, 196, 21, 5, 29, 161, 0, 6, 167, 0, 9, 21, 5, 62, 21, 4, 61, 132, 4, 1]
abbrev dktX5_party_4 : List UInt8 := dkwX5_party_4 ++ dktX5_party_5
def dkwX5_party_3 : List UInt8 := [182, 1, 134, 54, 7, 21, 7, 2, 160, 0, 9, 19, 1, 189, 167, 0, 8, 21, 5, 21, 7, 96, 54, 5]
abbrev dktX5_party_3 : List UInt8 := dkwX5_party_3 ++ dktX5_party_4
def dkwX5_party_2 : List UInt8 := [19, 1, 189, 162, 0, 49, 21, 6, 21, 4, 160, 0, 6, 167, 0, 33, 42, 21, 6, 21, 4, 4]
abbrev dktX5_party_2 : List UInt8 := dkwX5_party_2 ++ dktX5_party_3
def dkwX5_party_1 : List UInt8 := [182, 0, 133, 162, 0, 93, 3, 54, 5, 3, 54, 6, 21, 6, 42, 182, 0, 133, 162, 0, 57, 21, 5]
abbrev dktX5_party_1 : List UInt8 := dkwX5_party_1 ++ dktX5_party_2
def dkwX5_party_0 : List UInt8 := [27, 3, 4, 184, 0, 123, 154, 0, 5, 2, 172, 2, 61, 19, 1, 189, 62, 3, 54, 4, 21, 4, 42]
abbrev dktX5_party_0 : List UInt8 := dkwX5_party_0 ++ dktX5_party_1
theorem dksX5_party_0 : cX5_party.data.toList.drop 0 = dktX5_party_0 := by decide +kernel
theorem dksX5_party_1 : cX5_party.data.toList.drop 23 = dktX5_party_1 := dk_seg dksX5_party_0 23 rfl rfl
theorem dksX5_party_2 : cX5_party.data.toList.drop 46 = dktX5_party_2 := dk_seg dksX5_party_1 23 rfl rfl
theorem dksX5_party_3 : cX5_party.data.toList.drop 68 = dktX5_party_3 := dk_seg dksX5_party_2 22 rfl rfl
theorem dksX5_party_4 : cX5_party.data.toList.drop 92 = dktX5_party_4 := dk_seg dksX5_party_3 24 rfl rfl
theorem dksX5_party_5 : cX5_party.data.toList.drop 116 = dktX5_party_5 := dk_seg dksX5_party_4 24 rfl rfl
theorem dX5_party_0 : decode cX5_party 0 = .ok (.iload_n 1, 1) := dk_27 (dk_at dksX5_party_0 0 rfl rfl)
theorem dX5_party_1 : decode cX5_party 1 = .ok (.iconst 0, 1) := dk_3 (dk_at dksX5_party_0 1 rfl rfl)
theorem dX5_party_2 : decode cX5_party 2 = .ok (.iconst 1, 1) := dk_4 (dk_at dksX5_party_0 2 rfl rfl)
theorem dX5_party_3 : decode cX5_party 3 = .ok (.invokestatic 123, 3) := dk_184 0 123 (dk_at dksX5_party_0 3 rfl rfl)
theorem dX5_party_6 : decode cX5_party 6 = .ok (.ifCond .ne 5, 3) := dk_154 0 5 (dk_at dksX5_party_0 6 rfl rfl)
theorem dX5_party_9 : decode cX5_party 9 = .ok (.iconst (-1), 1) := dk_2 (dk_at dksX5_party_0 9 rfl rfl)
theorem dX5_party_10 : decode cX5_party 10 = .ok (.ireturn, 1) := dk_172 (dk_at dksX5_party_0 10 rfl rfl)
theorem dX5_party_11 : decode cX5_party 11 = .ok (.iconst (-1), 1) := dk_2 (dk_at dksX5_party_0 11 rfl rfl)
theorem dX5_party_12 : decode cX5_party 12 = .ok (.istore_n 2, 1) := dk_61 (dk_at dksX5_party_0 12 rfl rfl)
theorem dX5_party_13 : decode cX5_party 13 = .ok (.ldc_w 445, 3) := dk_19 1 189 (dk_at dksX5_party_0 13 rfl rfl)
theorem dX5_party_16 : decode cX5_party 16 = .ok (.istore_n 3, 1) := dk_62 (dk_at dksX5_party_0 16 rfl rfl)
theorem dX5_party_17 : decode cX5_party 17 = .ok (.iconst 0, 1) := dk_3 (dk_at dksX5_party_0 17 rfl rfl)
theorem dX5_party_18 : decode cX5_party 18 = .ok (.istore 4, 2) := dk_54 4 (dk_at dksX5_party_0 18 rfl rfl)
theorem dX5_party_20 : decode cX5_party 20 = .ok (.iload 4, 2) := dk_21 4 (dk_at dksX5_party_0 20 rfl rfl)
theorem dX5_party_22 : decode cX5_party 22 = .ok (.aload_n 0, 1) := dk_42 (dk_at dksX5_party_0 22 rfl rfl)
theorem dX5_party_23 : decode cX5_party 23 = .ok (.invokevirtual 133, 3) := dk_182 0 133 (dk_at dksX5_party_1 0 rfl rfl)
theorem dX5_party_26 : decode cX5_party 26 = .ok (.if_icmp .ge 93, 3) := dk_162 0 93 (dk_at dksX5_party_1 3 rfl rfl)
theorem dX5_party_29 : decode cX5_party 29 = .ok (.iconst 0, 1) := dk_3 (dk_at dksX5_party_1 6 rfl rfl)
theorem dX5_party_30 : decode cX5_party 30 = .ok (.istore 5, 2) := dk_54 5 (dk_at dksX5_party_1 7 rfl rfl)
theorem dX5_party_32 : decode cX5_party 32 = .ok (.iconst 0, 1) := dk_3 (dk_at dksX5_party_1 9 rfl rfl)
theorem dX5_party_33 : decode cX5_party 33 = .ok (.istore 6, 2) := dk_54 6 (dk_at dksX5_party_1 10 rfl rfl)
theorem dX5_party_35 : decode cX5_party 35 = .ok (.iload 6, 2) := dk_21 6 (dk_at dksX5_party_1 12 rfl rfl)
theorem dX5_party_37 : decode cX5_party 37 = .ok (.aload_n 0, 1) := dk_42 (dk_at dksX5_party_1 14 rfl rfl)
theorem dX5_party_38 : decode cX5_party 38 = .ok (.invokevirtual 133, 3) := dk_182 0 133 (dk_at dksX5_party_1 15 rfl rfl)
theorem dX5_party_41 : decode cX5_party 41 = .ok (.if_icmp .ge 57, 3) := dk_162 0 57 (dk_at dksX5_party_1 18 rfl rfl)
theorem dX5_party_44 : decode cX5_party 44 = .ok (.iload 5, 2) := dk_21 5 (dk_at dksX5_party_1 21 rfl rfl)
theorem dX5_party_46 : decode cX5_party 46 = .ok (.ldc_w 445, 3) := dk_19 1 189 (dk_at dksX5_party_2 0 rfl rfl)
theorem dX5_party_49 : decode cX5_party 49 = .ok (.if_icmp .ge 49, 3) := dk_162 0 49 (dk_at dksX5_party_2 3 rfl rfl)
theorem dX5_party_52 : decode cX5_party 52 = .ok (.iload 6, 2) := dk_21 6 (dk_at dksX5_party_2 6 rfl rfl)
theorem dX5_party_54 : decode cX5_party 54 = .ok (.iload 4, 2) := dk_21 4 (dk_at dksX5_party_2 8 rfl rfl)
theorem dX5_party_56 : decode cX5_party 56 = .ok (.if_icmp .ne 6, 3) := dk_160 0 6 (dk_at dksX5_party_2 10 rfl rfl)
theorem dX5_party_59 : decode cX5_party 59 = .ok (.goto 33, 3) := dk_167 0 33 (dk_at dksX5_party_2 13 rfl rfl)
theorem dX5_party_62 : decode cX5_party 62 = .ok (.aload_n 0, 1) := dk_42 (dk_at dksX5_party_2 16 rfl rfl)
theorem dX5_party_63 : decode cX5_party 63 = .ok (.iload 6, 2) := dk_21 6 (dk_at dksX5_party_2 17 rfl rfl)
theorem dX5_party_65 : decode cX5_party 65 = .ok (.iload 4, 2) := dk_21 4 (dk_at dksX5_party_2 19 rfl rfl)
theorem dX5_party_67 : decode cX5_party 67 = .ok (.iconst 1, 1) := dk_4 (dk_at dksX5_party_2 21 rfl rfl)
theorem dX5_party_68 : decode cX5_party 68 = .ok (.invokevirtual 390, 3) := dk_182 1 134 (dk_at dksX5_party_3 0 rfl rfl)
theorem dX5_party_71 : decode cX5_party 71 = .ok (.istore 7, 2) := dk_54 7 (dk_at dksX5_party_3 3 rfl rfl)
theorem dX5_party_73 : decode cX5_party 73 = .ok (.iload 7, 2) := dk_21 7 (dk_at dksX5_party_3 5 rfl rfl)
theorem dX5_party_75 : decode cX5_party 75 = .ok (.iconst (-1), 1) := dk_2 (dk_at dksX5_party_3 7 rfl rfl)
theorem dX5_party_76 : decode cX5_party 76 = .ok (.if_icmp .ne 9, 3) := dk_160 0 9 (dk_at dksX5_party_3 8 rfl rfl)
theorem dX5_party_79 : decode cX5_party 79 = .ok (.ldc_w 445, 3) := dk_19 1 189 (dk_at dksX5_party_3 11 rfl rfl)
theorem dX5_party_82 : decode cX5_party 82 = .ok (.goto 8, 3) := dk_167 0 8 (dk_at dksX5_party_3 14 rfl rfl)
theorem dX5_party_85 : decode cX5_party 85 = .ok (.iload 5, 2) := dk_21 5 (dk_at dksX5_party_3 17 rfl rfl)
theorem dX5_party_87 : decode cX5_party 87 = .ok (.iload 7, 2) := dk_21 7 (dk_at dksX5_party_3 19 rfl rfl)
theorem dX5_party_89 : decode cX5_party 89 = .ok (.iadd, 1) := dk_96 (dk_at dksX5_party_3 21 rfl rfl)
theorem dX5_party_90 : decode cX5_party 90 = .ok (.istore 5, 2) := dk_54 5 (dk_at dksX5_party_3 22 rfl rfl)
theorem dX5_party_92 : decode cX5_party 92 = .ok (.iinc 6 1, 3) := dk_132 6 1 (dk_at dksX5_party_4 0 rfl rfl)
theorem dX5_party_95 : decode cX5_party 95 = .ok (.goto (-60), 3) := dk_167 255 196 (dk_at dksX5_party_4 3 rfl rfl)
theorem dX5_party_98 : decode cX5_party 98 = .ok (.iload 5, 2) := dk_21 5 (dk_at dksX5_party_4 6 rfl rfl)
theorem dX5_party_100 : decode cX5_party 100 = .ok (.iload_n 3, 1) := dk_29 (dk_at dksX5_party_4 8 rfl rfl)
theorem dX5_party_101 : decode cX5_party 101 = .ok (.if_icmp .lt 6, 3) := dk_161 0 6 (dk_at dksX5_party_4 9 rfl rfl)
theorem dX5_party_104 : decode cX5_party 104 = .ok (.goto 9, 3) := dk_167 0 9 (dk_at dksX5_party_4 12 rfl rfl)
theorem dX5_party_107 : decode cX5_party 107 = .ok (.iload 5, 2) := dk_21 5 (dk_at dksX5_party_4 15 rfl rfl)
theorem dX5_party_109 : decode cX5_party 109 = .ok (.istore_n 3, 1) := dk_62 (dk_at dksX5_party_4 17 rfl rfl)
theorem dX5_party_110 : decode cX5_party 110 = .ok (.iload 4, 2) := dk_21 4 (dk_at dksX5_party_4 18 rfl rfl)
theorem dX5_party_112 : decode cX5_party 112 = .ok (.istore_n 2, 1) := dk_61 (dk_at dksX5_party_4 20 rfl rfl)
theorem dX5_party_113 : decode cX5_party 113 = .ok (.iinc 4 1, 3) := dk_132 4 1 (dk_at dksX5_party_4 21 rfl rfl)
theorem dX5_party_116 : decode cX5_party 116 = .ok (.goto (-96), 3) := dk_167 255 160 (dk_at dksX5_party_5 0 rfl rfl)
theorem dX5_party_119 : decode cX5_party 119 = .ok (.iload_n 2, 1) := dk_28 (dk_at dksX5_party_5 3 rfl rfl)
theorem dX5_party_120 : decode cX5_party 120 = .ok (.iconst (-1), 1) := dk_2 (dk_at dksX5_party_5 4 rfl rfl)
theorem dX5_party_121 : decode cX5_party 121 = .ok (.if_icmp .ne 7, 3) := dk_160 0 7 (dk_at dksX5_party_5 5 rfl rfl)
theorem dX5_party_124 : decode cX5_party 124 = .ok (.iconst (-1), 1) := dk_2 (dk_at dksX5_party_5 8 rfl rfl)
theorem dX5_party_125 : decode cX5_party 125 = .ok (.goto 12, 3) := dk_167 0 12 (dk_at dksX5_party_5 9 rfl rfl)
theorem dX5_party_128 : decode cX5_party 128 = .ok (.iload_n 1, 1) := dk_27 (dk_at dksX5_party_5 12 rfl rfl)
theorem dX5_party_129 : decode cX5_party 129 = .ok (.ifCond .ne 7, 3) := dk_154 0 7 (dk_at dksX5_party_5 13 rfl rfl)
theorem dX5_party_132 : decode cX5_party 132 = .ok (.iload_n 2, 1) := dk_28 (dk_at dksX5_party_5 16 rfl rfl)
theorem dX5_party_133 : decode cX5_party 133 = .ok (.goto 4, 3) := dk_167 0 4 (dk_at dksX5_party_5 17 rfl rfl)
theorem dX5_party_136 : decode cX5_party 136 = .ok (.iload_n 3, 1) := dk_29 (dk_at dksX5_party_5 20 rfl rfl)
theorem dX5_party_137 : decode cX5_party 137 = .ok (.ireturn, 1) := dk_172 (dk_at dksX5_party_5 21 rfl rfl)
theorem cn_X5_445 : Jvm.Cond.constant RX5 445 (Int32.ofInt 1000000000) ∈ lw_all := by rw [show Int32.ofInt 1000000000 = (1000000000 : Int32) by decide]; exact q2612
noncomputable def f_X5_party_92 (E : ax_E) (x0 : Option Nat) (x1 : Int) (x2 : Int) (x3 : Int) (x4 : Int) (x5 : Int) (x6 : Int) (h : ax_H) : Option ((Int × Int × ax_H) ⊕ ((Int × Int × Int × ax_H) ⊕ (Int × ax_H))) :=
  some (.inl (x5, (x6 + 1), h))
noncomputable def f_X5_party_90 (E : ax_E) (x0 : Option Nat) (x1 : Int) (x2 : Int) (x3 : Int) (x4 : Int) (x6 : Int) (s0 : Int) (h : ax_H) : Option ((Int × Int × ax_H) ⊕ ((Int × Int × Int × ax_H) ⊕ (Int × ax_H))) :=
  f_X5_party_92 E x0 x1 x2 x3 x4 s0 x6 h
noncomputable def f_X5_party_113 (E : ax_E) (x0 : Option Nat) (x1 : Int) (x2 : Int) (x3 : Int) (x4 : Int) (h : ax_H) : Option ((Int × Int × Int × ax_H) ⊕ (Int × ax_H)) :=
  some (.inl (x2, x3, (x4 + 1), h))
noncomputable def f_X5_party_98 (E : ax_E) (x0 : Option Nat) (x1 : Int) (x2 : Int) (x3 : Int) (x4 : Int) (x5 : Int) (h : ax_H) : Option ((Int × Int × Int × ax_H) ⊕ (Int × ax_H)) :=
  if i2 x5 < i2 x3 then
    f_X5_party_113 E x0 x1 x4 x5 x4 h
  else
    f_X5_party_113 E x0 x1 x2 x3 x4 h
noncomputable def lb_X5_party_35 (E : ax_E) (x0 : Option Nat) (x1 : Int) (x2 : Int) (x3 : Int) (x4 : Int) (x5 : Int) (x6 : Int) (h : ax_H) : Option ((Int × Int × ax_H) ⊕ ((Int × Int × Int × ax_H) ⊕ (Int × ax_H))) :=
  (ax_ce E h x0 5).bind fun _ => (f_X5_people E x0 h).bind fun q1 =>
  if i2 x6 < i2 q1.1 then
    if i2 x5 < i2 1000000000 then
      if i2 x6 = i2 x4 then
        f_X5_party_92 E x0 x1 x2 x3 x4 x5 x6 q1.2
      else
        (ax_ce E q1.2 x0 5).bind fun _ => (f_X5_needOf E x0 x6 x4 1 q1.2).bind fun q2 =>
        if i2 q2.1 = i2 (-1) then
          f_X5_party_90 E x0 x1 x2 x3 x4 x6 1000000000 q2.2
        else
          f_X5_party_90 E x0 x1 x2 x3 x4 x6 (x5 + q2.1) q2.2
    else
      (f_X5_party_98 E x0 x1 x2 x3 x4 x5 q1.2).map Sum.inr
  else
    (f_X5_party_98 E x0 x1 x2 x3 x4 x5 q1.2).map Sum.inr
noncomputable def f_X5_party_35 (E : ax_E) (x0 : Option Nat) (x1 : Int) (x2 : Int) (x3 : Int) (x4 : Int) (x5 : Int) (x6 : Int) (h : ax_H) : Option ((Int × Int × Int × ax_H) ⊕ (Int × ax_H)) :=
  ax_iter (fun s : Int × Int × ax_H => lb_X5_party_35 E x0 x1 x2 x3 x4 s.1 s.2.1 s.2.2) (x5, x6, h)
noncomputable def lb_X5_party_20 (E : ax_E) (x0 : Option Nat) (x1 : Int) (x2 : Int) (x3 : Int) (x4 : Int) (h : ax_H) : Option ((Int × Int × Int × ax_H) ⊕ (Int × ax_H)) :=
  (ax_ce E h x0 5).bind fun _ => (f_X5_people E x0 h).bind fun q1 =>
  if i2 x4 < i2 q1.1 then
    f_X5_party_35 E x0 x1 x2 x3 x4 0 0 q1.2
  else
    (if i2 x2 = i2 (-1) then
      some ((-1), q1.2)
    else
      if i2 x1 = 0 then
        some (x2, q1.2)
      else
        some (x3, q1.2)).map Sum.inr
noncomputable def f_X5_party_20 (E : ax_E) (x0 : Option Nat) (x1 : Int) (x2 : Int) (x3 : Int) (x4 : Int) (h : ax_H) : Option (Int × ax_H) :=
  ax_iter (fun s : Int × Int × Int × ax_H => lb_X5_party_20 E x0 x1 s.1 s.2.1 s.2.2.1 s.2.2.2) (x2, x3, x4, h)
noncomputable def f_X5_party (E : ax_E) (x0 : Option Nat) (x1 : Int) (h : ax_H) : Option (Int × ax_H) :=
  (f_X5_lies E x1 0 1 h).bind fun q1 =>
  if i2 q1.1 = 0 then
    some ((-1), q1.2)
  else
    f_X5_party_20 E x0 x1 (-1) 1000000000 0 q1.2
def pi_X5_party_35 (G : ax_G) (X : ax_X) (Q : State → Prop) (x0 : Option Nat) (x1 : Int) (x2 : Int) (x3 : Int) (x4 : Int) : Int × Int × ax_H → Prop := fun s => ∀ ls : Array Slot, ax_hl ls 8 [(0, .inr (.inr x0)), (1, .inl x1), (2, .inl x2), (3, .inl x3), (4, .inl x4), (5, .inl s.1), (6, .inl s.2.1)] → ax_W G X Q s.2.2 35 ls []
def pi_X5_party_20 (G : ax_G) (X : ax_X) (Q : State → Prop) (x0 : Option Nat) (x1 : Int) : Int × Int × Int × ax_H → Prop := fun s => ∀ ls : Array Slot, ax_hl ls 8 [(0, .inr (.inr x0)), (1, .inl x1), (2, .inl s.1), (3, .inl s.2.1), (4, .inl s.2.2.1)] → ax_W G X Q s.2.2.2 20 ls []
set_option maxHeartbeats 4000000 in
theorem w_X5_party_92 {l : Launch} {G : ax_G} {X : ax_X} {Q : State → Prop} {h0 h : ax_H} {ls : Array Slot} (hSF : ax_SF G) (B : ax_BL l G X cX5_party 8 RX5 136 3545) (Z : ax_Z X h0 ((some FieldType.int))) (hn : X.2.2.2.2.2.2.2.2.1.name = yX5_party.name) (x0 : Option Nat) (x1 : Int) (x2 : Int) (x3 : Int) (x4 : Int) (x5 : Int) (x6 : Int) {w : (Int × Int × ax_H) ⊕ ((Int × Int × Int × ax_H) ⊕ (Int × ax_H))} (hl : ax_hl ls 8 [(0, .inr (.inr x0)), (1, .inl x1), (2, .inl x2), (3, .inl x3), (4, .inl x4), (5, .inl x5), (6, .inl x6)]) (e : f_X5_party_92 G.2.2 x0 x1 x2 x3 x4 x5 x6 h = some w) (hp : (ax_PL (pi_X5_party_35 G X Q x0 x1 x2 x3 x4) (ax_PL (pi_X5_party_20 G X Q x0 x1) (fun w : Int × ax_H => Q = ax_Q G X h0 w.2 (some (.int (Int32.ofInt w.1)))))) w) : ax_W G X Q h 92 ls [] := by
  unfold f_X5_party_92 at e
  refine ax_iinc (L' := [(6, .inl (x6 + 1)), (0, .inr (.inr x0)), (1, .inl x1), (2, .inl x2), (3, .inl x3), (4, .inl x4), (5, .inl x5)]) B dX5_party_92 hl 6 rfl (by decide) rfl (fun ls hl => ?_)
  refine ax_goto (tgt := 35) B dX5_party_95 (by decide) ?_
  cases e
  exact hp _ (hl.sub [1, 2, 3, 4, 5, 6, 0] rfl)
set_option maxHeartbeats 4000000 in
theorem w_X5_party_90 {l : Launch} {G : ax_G} {X : ax_X} {Q : State → Prop} {h0 h : ax_H} {ls : Array Slot} (hSF : ax_SF G) (B : ax_BL l G X cX5_party 8 RX5 136 3545) (Z : ax_Z X h0 ((some FieldType.int))) (hn : X.2.2.2.2.2.2.2.2.1.name = yX5_party.name) (x0 : Option Nat) (x1 : Int) (x2 : Int) (x3 : Int) (x4 : Int) (x6 : Int) (s0 : Int) {w : (Int × Int × ax_H) ⊕ ((Int × Int × Int × ax_H) ⊕ (Int × ax_H))} (hl : ax_hl ls 8 [(0, .inr (.inr x0)), (1, .inl x1), (2, .inl x2), (3, .inl x3), (4, .inl x4), (6, .inl x6)]) (e : f_X5_party_90 G.2.2 x0 x1 x2 x3 x4 x6 s0 h = some w) (hp : (ax_PL (pi_X5_party_35 G X Q x0 x1 x2 x3 x4) (ax_PL (pi_X5_party_20 G X Q x0 x1) (fun w : Int × ax_H => Q = ax_Q G X h0 w.2 (some (.int (Int32.ofInt w.1)))))) w) : ax_W G X Q h 90 ls [.int (Int32.ofInt s0)] := by
  unfold f_X5_party_90 at e
  refine ax_istore (L' := [(5, .inl s0), (0, .inr (.inr x0)), (1, .inl x1), (2, .inl x2), (3, .inl x3), (4, .inl x4), (6, .inl x6)]) B dX5_party_90 hl (by decide) rfl (fun ls hl => ?_)
  exact w_X5_party_92 hSF B Z hn x0 x1 x2 x3 x4 s0 x6 (hl.sub [1, 2, 3, 4, 5, 0, 6] rfl) e hp
set_option maxHeartbeats 4000000 in
theorem w_X5_party_113 {l : Launch} {G : ax_G} {X : ax_X} {Q : State → Prop} {h0 h : ax_H} {ls : Array Slot} (hSF : ax_SF G) (B : ax_BL l G X cX5_party 8 RX5 136 3545) (Z : ax_Z X h0 ((some FieldType.int))) (hn : X.2.2.2.2.2.2.2.2.1.name = yX5_party.name) (x0 : Option Nat) (x1 : Int) (x2 : Int) (x3 : Int) (x4 : Int) {w : (Int × Int × Int × ax_H) ⊕ (Int × ax_H)} (hl : ax_hl ls 8 [(0, .inr (.inr x0)), (1, .inl x1), (2, .inl x2), (3, .inl x3), (4, .inl x4)]) (e : f_X5_party_113 G.2.2 x0 x1 x2 x3 x4 h = some w) (hp : (ax_PL (pi_X5_party_20 G X Q x0 x1) (fun w : Int × ax_H => Q = ax_Q G X h0 w.2 (some (.int (Int32.ofInt w.1))))) w) : ax_W G X Q h 113 ls [] := by
  unfold f_X5_party_113 at e
  refine ax_iinc (L' := [(4, .inl (x4 + 1)), (0, .inr (.inr x0)), (1, .inl x1), (2, .inl x2), (3, .inl x3)]) B dX5_party_113 hl 4 rfl (by decide) rfl (fun ls hl => ?_)
  refine ax_goto (tgt := 20) B dX5_party_116 (by decide) ?_
  cases e
  exact hp _ (hl.sub [1, 2, 3, 4, 0] rfl)
set_option maxHeartbeats 4000000 in
theorem w_X5_party_98 {l : Launch} {G : ax_G} {X : ax_X} {Q : State → Prop} {h0 h : ax_H} {ls : Array Slot} (hSF : ax_SF G) (B : ax_BL l G X cX5_party 8 RX5 136 3545) (Z : ax_Z X h0 ((some FieldType.int))) (hn : X.2.2.2.2.2.2.2.2.1.name = yX5_party.name) (x0 : Option Nat) (x1 : Int) (x2 : Int) (x3 : Int) (x4 : Int) (x5 : Int) {w : (Int × Int × Int × ax_H) ⊕ (Int × ax_H)} (hl : ax_hl ls 8 [(0, .inr (.inr x0)), (1, .inl x1), (2, .inl x2), (3, .inl x3), (4, .inl x4), (5, .inl x5)]) (e : f_X5_party_98 G.2.2 x0 x1 x2 x3 x4 x5 h = some w) (hp : (ax_PL (pi_X5_party_20 G X Q x0 x1) (fun w : Int × ax_H => Q = ax_Q G X h0 w.2 (some (.int (Int32.ofInt w.1))))) w) : ax_W G X Q h 98 ls [] := by
  unfold f_X5_party_98 at e
  refine ax_iload B dX5_party_98 hl 5 rfl ?_
  refine ax_iload_n B dX5_party_100 rfl hl 3 rfl ?_
  refine ax_icmp_lt (tgt := 107) B dX5_party_101 (by decide) e (fun e => ?_) (fun e => ?_)
  · refine ax_iload B dX5_party_107 hl 5 rfl ?_
    refine ax_istore_n (L' := [(3, .inl x5), (0, .inr (.inr x0)), (1, .inl x1), (2, .inl x2), (4, .inl x4), (5, .inl x5)]) B dX5_party_109 rfl hl (by decide) rfl (fun ls hl => ?_)
    refine ax_iload B dX5_party_110 hl 4 rfl ?_
    refine ax_istore_n (L' := [(2, .inl x4), (3, .inl x5), (0, .inr (.inr x0)), (1, .inl x1), (4, .inl x4), (5, .inl x5)]) B dX5_party_112 rfl hl (by decide) rfl (fun ls hl => ?_)
    exact w_X5_party_113 hSF B Z hn x0 x1 x4 x5 x4 (hl.sub [2, 3, 0, 1, 4] rfl) e hp
  · refine ax_goto (tgt := 113) B dX5_party_104 (by decide) ?_
    exact w_X5_party_113 hSF B Z hn x0 x1 x2 x3 x4 (hl.sub [0, 1, 2, 3, 4] rfl) e hp
set_option maxHeartbeats 4000000 in
theorem wb_X5_party_35 {l : Launch} {G : ax_G} {X : ax_X} {Q : State → Prop} {h0 h : ax_H} {ls : Array Slot} (hSF : ax_SF G) (B : ax_BL l G X cX5_party 8 RX5 136 3545) (Z : ax_Z X h0 ((some FieldType.int))) (hn : X.2.2.2.2.2.2.2.2.1.name = yX5_party.name) (x0 : Option Nat) (x1 : Int) (x2 : Int) (x3 : Int) (x4 : Int) (x5 : Int) (x6 : Int) {w : (Int × Int × ax_H) ⊕ ((Int × Int × Int × ax_H) ⊕ (Int × ax_H))} (hl : ax_hl ls 8 [(0, .inr (.inr x0)), (1, .inl x1), (2, .inl x2), (3, .inl x3), (4, .inl x4), (5, .inl x5), (6, .inl x6)]) (e : lb_X5_party_35 G.2.2 x0 x1 x2 x3 x4 x5 x6 h = some w) (hp : (ax_PL (pi_X5_party_35 G X Q x0 x1 x2 x3 x4) (ax_PL (pi_X5_party_20 G X Q x0 x1) (fun w : Int × ax_H => Q = ax_Q G X h0 w.2 (some (.int (Int32.ofInt w.1)))))) w) : ax_W G X Q h 35 ls [] := by
  unfold lb_X5_party_35 at e
  refine ax_iload B dX5_party_35 hl 6 rfl ?_
  refine ax_aload_n B dX5_party_37 rfl hl 0 rfl ?_
  refine ax_ivI (y := yX5_people) (n := 0) (As := []) B kd5 (lw_V q2180 q2182 qs44 q133 q2183) (by decide +kernel) ⟨Nat.le_of_ble_eq_true rfl, Nat.le_of_ble_eq_true rfl⟩ (fun w1 e1 => mt_X5_people l G hSF x0 _ w1 e1) rfl hl.size (by simp only [List.map_cons, List.map_nil, List.sum_cons, List.sum_nil, va_rf_cat, ax_catI, ax_catL]; decide) dX5_party_38 e (fun q1 e => ?_)
  refine ax_icmp_ge (tgt := 98) B dX5_party_41 (by decide) e (fun e => ?_) (fun e => ?_)
  · refine ax_iload B dX5_party_44 hl 5 rfl ?_
    refine ax_ldcw B cn_X5_445 dX5_party_46 ?_
    refine ax_icmp_ge (tgt := 98) B dX5_party_49 (by decide) e (fun e => ?_) (fun e => ?_)
    · refine ax_iload B dX5_party_52 hl 6 rfl ?_
      refine ax_iload B dX5_party_54 hl 4 rfl ?_
      refine ax_icmp_ne (tgt := 62) B dX5_party_56 (by decide) e (fun e => ?_) (fun e => ?_)
      · refine ax_goto (tgt := 92) B dX5_party_59 (by decide) ?_
        exact w_X5_party_92 hSF B Z hn x0 x1 x2 x3 x4 x5 x6 (hl.sub [0, 1, 2, 3, 4, 5, 6] rfl) e hp
      · refine ax_aload_n B dX5_party_62 rfl hl 0 rfl ?_
        refine ax_iload B dX5_party_63 hl 6 rfl ?_
        refine ax_iload B dX5_party_65 hl 4 rfl ?_
        refine ax_iconst B dX5_party_67 ?_
        refine ax_ivI (y := yX5_needOf) (n := 3) (As := [.int (Int32.ofInt x6), .int (Int32.ofInt x4), .int (Int32.ofInt 1)]) B kd5 (lw_V q2526 q2528 qs103 q133 q2529) (by decide +kernel) ⟨Nat.le_of_ble_eq_true rfl, Nat.le_of_ble_eq_true rfl⟩ (fun w1 e1 => mt_X5_needOf l G hSF x0 x6 x4 1 _ w1 e1) rfl hl.size (by decide) dX5_party_68 e (fun q2 e => ?_)
        refine ax_istore (L' := [(7, .inl q2.1), (0, .inr (.inr x0)), (1, .inl x1), (2, .inl x2), (3, .inl x3), (4, .inl x4), (5, .inl x5), (6, .inl x6)]) B dX5_party_71 hl (by decide) rfl (fun ls hl => ?_)
        refine ax_iload B dX5_party_73 hl 0 rfl ?_
        refine ax_iconst B dX5_party_75 ?_
        refine ax_icmp_ne (tgt := 85) B dX5_party_76 (by decide) e (fun e => ?_) (fun e => ?_)
        · refine ax_ldcw B cn_X5_445 dX5_party_79 ?_
          refine ax_goto (tgt := 90) B dX5_party_82 (by decide) ?_
          exact w_X5_party_90 hSF B Z hn x0 x1 x2 x3 x4 x6 1000000000 (hl.sub [1, 2, 3, 4, 5, 7] rfl) e hp
        · refine ax_iload B dX5_party_85 hl 6 rfl ?_
          refine ax_iload B dX5_party_87 hl 0 rfl ?_
          refine ax_iadd' B dX5_party_89 ?_
          exact w_X5_party_90 hSF B Z hn x0 x1 x2 x3 x4 x6 (x5 + q2.1) (hl.sub [1, 2, 3, 4, 5, 7] rfl) e hp
    · obtain ⟨w, e9_1, rfl⟩ := Option.map_eq_some_iff.mp e
      have e := e9_1
      exact w_X5_party_98 hSF B Z hn x0 x1 x2 x3 x4 x5 (hl.sub [0, 1, 2, 3, 4, 5] rfl) e hp
  · obtain ⟨w, e9_2, rfl⟩ := Option.map_eq_some_iff.mp e
    have e := e9_2
    exact w_X5_party_98 hSF B Z hn x0 x1 x2 x3 x4 x5 (hl.sub [0, 1, 2, 3, 4, 5] rfl) e hp
theorem w_X5_party_35 {l : Launch} {G : ax_G} {X : ax_X} {Q : State → Prop} {h0 h : ax_H} {ls : Array Slot} (hSF : ax_SF G) (B : ax_BL l G X cX5_party 8 RX5 136 3545) (Z : ax_Z X h0 ((some FieldType.int))) (hn : X.2.2.2.2.2.2.2.2.1.name = yX5_party.name) (x0 : Option Nat) (x1 : Int) (x2 : Int) (x3 : Int) (x4 : Int) (x5 : Int) (x6 : Int) {w : (Int × Int × Int × ax_H) ⊕ (Int × ax_H)} (hl : ax_hl ls 8 [(0, .inr (.inr x0)), (1, .inl x1), (2, .inl x2), (3, .inl x3), (4, .inl x4), (5, .inl x5), (6, .inl x6)]) (e : f_X5_party_35 G.2.2 x0 x1 x2 x3 x4 x5 x6 h = some w) (hp : (ax_PL (pi_X5_party_20 G X Q x0 x1) (fun w : Int × ax_H => Q = ax_Q G X h0 w.2 (some (.int (Int32.ofInt w.1))))) w) : ax_W G X Q h 35 ls [] :=
  ax_iter_W (Pin := pi_X5_party_35 G X Q x0 x1 x2 x3 x4) (Pout := (ax_PL (pi_X5_party_20 G X Q x0 x1) (fun w : Int × ax_H => Q = ax_Q G X h0 w.2 (some (.int (Int32.ofInt w.1)))))) (fun s w e hp ls hl => wb_X5_party_35 hSF B Z hn x0 x1 x2 x3 x4 s.1 s.2.1 hl e hp) _ _ e hp ls hl
set_option maxHeartbeats 4000000 in
theorem wb_X5_party_20 {l : Launch} {G : ax_G} {X : ax_X} {Q : State → Prop} {h0 h : ax_H} {ls : Array Slot} (hSF : ax_SF G) (B : ax_BL l G X cX5_party 8 RX5 136 3545) (Z : ax_Z X h0 ((some FieldType.int))) (hn : X.2.2.2.2.2.2.2.2.1.name = yX5_party.name) (x0 : Option Nat) (x1 : Int) (x2 : Int) (x3 : Int) (x4 : Int) {w : (Int × Int × Int × ax_H) ⊕ (Int × ax_H)} (hl : ax_hl ls 8 [(0, .inr (.inr x0)), (1, .inl x1), (2, .inl x2), (3, .inl x3), (4, .inl x4)]) (e : lb_X5_party_20 G.2.2 x0 x1 x2 x3 x4 h = some w) (hp : (ax_PL (pi_X5_party_20 G X Q x0 x1) (fun w : Int × ax_H => Q = ax_Q G X h0 w.2 (some (.int (Int32.ofInt w.1))))) w) : ax_W G X Q h 20 ls [] := by
  unfold lb_X5_party_20 at e
  refine ax_iload B dX5_party_20 hl 4 rfl ?_
  refine ax_aload_n B dX5_party_22 rfl hl 0 rfl ?_
  refine ax_ivI (y := yX5_people) (n := 0) (As := []) B kd5 (lw_V q2180 q2182 qs44 q133 q2183) (by decide +kernel) ⟨Nat.le_of_ble_eq_true rfl, Nat.le_of_ble_eq_true rfl⟩ (fun w1 e1 => mt_X5_people l G hSF x0 _ w1 e1) rfl hl.size (by simp only [List.map_cons, List.map_nil, List.sum_cons, List.sum_nil, va_rf_cat, ax_catI, ax_catL]; decide) dX5_party_23 e (fun q1 e => ?_)
  refine ax_icmp_ge (tgt := 119) B dX5_party_26 (by decide) e (fun e => ?_) (fun e => ?_)
  · refine ax_iconst B dX5_party_29 ?_
    refine ax_istore (L' := [(5, .inl 0), (0, .inr (.inr x0)), (1, .inl x1), (2, .inl x2), (3, .inl x3), (4, .inl x4)]) B dX5_party_30 hl (by decide) rfl (fun ls hl => ?_)
    refine ax_iconst B dX5_party_32 ?_
    refine ax_istore (L' := [(6, .inl 0), (5, .inl 0), (0, .inr (.inr x0)), (1, .inl x1), (2, .inl x2), (3, .inl x3), (4, .inl x4)]) B dX5_party_33 hl (by decide) rfl (fun ls hl => ?_)
    exact w_X5_party_35 hSF B Z hn x0 x1 x2 x3 x4 0 0 (hl.sub [2, 3, 4, 5, 6, 1, 0] rfl) e hp
  · obtain ⟨w, e9_3, rfl⟩ := Option.map_eq_some_iff.mp e
    have e := e9_3
    refine ax_iload_n B dX5_party_119 rfl hl 2 rfl ?_
    refine ax_iconst B dX5_party_120 ?_
    refine ax_icmp_ne (tgt := 128) B dX5_party_121 (by decide) e (fun e => ?_) (fun e => ?_)
    · refine ax_iconst B dX5_party_124 ?_
      refine ax_goto (tgt := 137) B dX5_party_125 (by decide) ?_
      have e8 := e
      have hp : Q = _ := hp
      subst hp
      exact ax_ireturn B Z dX5_party_137 e8
    · refine ax_iload_n B dX5_party_128 rfl hl 1 rfl ?_
      refine ax_if_ne (tgt := 136) B dX5_party_129 (by decide) e (fun e => ?_) (fun e => ?_)
      · refine ax_iload_n B dX5_party_132 rfl hl 2 rfl ?_
        refine ax_goto (tgt := 137) B dX5_party_133 (by decide) ?_
        have e8 := e
        have hp : Q = _ := hp
        subst hp
        exact ax_ireturn B Z dX5_party_137 e8
      · refine ax_iload_n B dX5_party_136 rfl hl 3 rfl ?_
        have e8 := e
        have hp : Q = _ := hp
        subst hp
        exact ax_ireturn B Z dX5_party_137 e8
theorem w_X5_party_20 {l : Launch} {G : ax_G} {X : ax_X} {Q : State → Prop} {h0 h : ax_H} {ls : Array Slot} (hSF : ax_SF G) (B : ax_BL l G X cX5_party 8 RX5 136 3545) (Z : ax_Z X h0 ((some FieldType.int))) (hn : X.2.2.2.2.2.2.2.2.1.name = yX5_party.name) (x0 : Option Nat) (x1 : Int) (x2 : Int) (x3 : Int) (x4 : Int) {w : Int × ax_H} (hl : ax_hl ls 8 [(0, .inr (.inr x0)), (1, .inl x1), (2, .inl x2), (3, .inl x3), (4, .inl x4)]) (e : f_X5_party_20 G.2.2 x0 x1 x2 x3 x4 h = some w) (hp : (fun w : Int × ax_H => Q = ax_Q G X h0 w.2 (some (.int (Int32.ofInt w.1)))) w) : ax_W G X Q h 20 ls [] :=
  ax_iter_W (Pin := pi_X5_party_20 G X Q x0 x1) (Pout := (fun w : Int × ax_H => Q = ax_Q G X h0 w.2 (some (.int (Int32.ofInt w.1))))) (fun s w e hp ls hl => wb_X5_party_20 hSF B Z hn x0 x1 s.1 s.2.1 s.2.2.1 hl e hp) _ _ e hp ls hl
set_option maxHeartbeats 4000000 in
theorem we_X5_party {l : Launch} {G : ax_G} {X : ax_X} {Q : State → Prop} {h0 h : ax_H} {ls : Array Slot} (hSF : ax_SF G) (B : ax_BL l G X cX5_party 8 RX5 136 3545) (Z : ax_Z X h0 ((some FieldType.int))) (hn : X.2.2.2.2.2.2.2.2.1.name = yX5_party.name) (x0 : Option Nat) (x1 : Int) {w : Int × ax_H} (hl : ax_hl ls 8 [(0, .inr (.inr x0)), (1, .inl x1)]) (e : f_X5_party G.2.2 x0 x1 h = some w) (hp : (fun w : Int × ax_H => Q = ax_Q G X h0 w.2 (some (.int (Int32.ofInt w.1)))) w) : ax_W G X Q h 0 ls [] := by
  unfold f_X5_party at e
  refine ax_iload_n B dX5_party_0 rfl hl 1 rfl ?_
  refine ax_iconst B dX5_party_1 ?_
  refine ax_iconst B dX5_party_2 ?_
  refine ax_isI (y := yX5_lies) (n := 3) (As := [.int (Int32.ofInt x1), .int (Int32.ofInt 0), .int (Int32.ofInt 1)]) B (lw_S q2151 q2152 q133 q2153) (by decide +kernel) ⟨Nat.le_of_ble_eq_true rfl, Nat.le_of_ble_eq_true rfl⟩ (fun w1 e1 => mt_X5_lies l G hSF x1 0 1 _ w1 e1) rfl hl.size (by decide) dX5_party_3 e (fun q1 e => ?_)
  refine ax_if_ne (tgt := 11) B dX5_party_6 (by decide) e (fun e => ?_) (fun e => ?_)
  · refine ax_iconst B dX5_party_9 ?_
    have e8 := e
    have hp : Q = _ := hp
    subst hp
    exact ax_ireturn B Z dX5_party_10 e8
  · refine ax_iconst B dX5_party_11 ?_
    refine ax_istore_n (L' := [(2, .inl (-1)), (0, .inr (.inr x0)), (1, .inl x1)]) B dX5_party_12 rfl hl (by decide) rfl (fun ls hl => ?_)
    refine ax_ldcw B cn_X5_445 dX5_party_13 ?_
    refine ax_istore_n (L' := [(3, .inl 1000000000), (2, .inl (-1)), (0, .inr (.inr x0)), (1, .inl x1)]) B dX5_party_16 rfl hl (by decide) rfl (fun ls hl => ?_)
    refine ax_iconst B dX5_party_17 ?_
    refine ax_istore (L' := [(4, .inl 0), (3, .inl 1000000000), (2, .inl (-1)), (0, .inr (.inr x0)), (1, .inl x1)]) B dX5_party_18 hl (by decide) rfl (fun ls hl => ?_)
    exact w_X5_party_20 hSF B Z hn x0 x1 (-1) 1000000000 0 (hl.sub [3, 4, 2, 1, 0] rfl) e hp
theorem mt_X5_party (l : Launch) (G : ax_G) (hSF : ax_SF G) (x0 : Option Nat) (x1 : Int) (h : ax_H) (w : Int × ax_H) (e : f_X5_party G.2.2 x0 x1 h = some w) : ax_Met l G yX5_party cX5_party 8 ((some FieldType.int)) 136 3545 [va_rf x0, .int (Int32.ofInt x1)] h w.2 (some (.int (Int32.ofInt w.1))) :=
  ax_enter [.inr (.inr x0), .inl x1] (y := yX5_party) hSF (plainFor_of_name (by decide +kernel)) (Nat.le_of_ble_eq_true rfl) (fun X ls B Z hn hl => we_X5_party hSF B Z hn x0 x1 hl e rfl)
def dkwX5_triesRing_7 : List UInt8 := [132, 4, 1, 167, 255, 201, 177]
abbrev dktX5_triesRing_7 : List UInt8 := dkwX5_triesRing_7 ++ []
def dkwX5_triesRing_6 : List UInt8 := [167, 0, 24, 42, 180, 0, 95, 27, 21, 4, 79, 42, 27, 4, 96, 28, 4, 21, 4, 120, 128, 182, 1, 196]
abbrev dktX5_triesRing_6 : List UInt8 := dkwX5_triesRing_6 ++ dktX5_triesRing_7
def dkwX5_triesRing_5 : List UInt8 := [162, 0, 52, 28, 21, 4, 184, 1, 150, 154, 0, 37, 42, 29, 21, 4, 182, 0, 178, 154, 0, 6]
abbrev dktX5_triesRing_5 : List UInt8 := dkwX5_triesRing_5 ++ dktX5_triesRing_6
def dkwX5_triesRing_4 : List UInt8 := [132, 4, 1, 167, 255, 233, 42, 180, 0, 95, 3, 46, 4, 96, 54, 4, 21, 4, 42, 182, 0, 133]
abbrev dktX5_triesRing_4 : List UInt8 := dkwX5_triesRing_4 ++ dktX5_triesRing_5
def dkwX5_triesRing_3 : List UInt8 := [3, 54, 4, 21, 4, 27, 162, 0, 23, 42, 180, 0, 98, 21, 4, 42, 180, 0, 95, 21, 4, 46, 79]
abbrev dktX5_triesRing_3 : List UInt8 := dkwX5_triesRing_3 ++ dktX5_triesRing_4
def dkwX5_triesRing_2 : List UInt8 := [180, 1, 190, 160, 0, 50, 28, 42, 180, 1, 193, 162, 0, 42, 42, 27, 181, 1, 190, 42, 28, 181, 1, 193]
abbrev dktX5_triesRing_2 : List UInt8 := dkwX5_triesRing_2 ++ dktX5_triesRing_3
def dkwX5_triesRing_1 : List UInt8 := [182, 0, 178, 158, 0, 73, 42, 180, 1, 190, 153, 0, 27, 27, 42, 180, 1, 190, 161, 0, 19, 27, 42]
abbrev dktX5_triesRing_1 : List UInt8 := dkwX5_triesRing_1 ++ dktX5_triesRing_2
def dkwX5_triesRing_0 : List UInt8 := [42, 180, 0, 95, 27, 4, 100, 46, 62, 27, 4, 164, 0, 87, 42, 29, 42, 180, 0, 95, 3, 46]
abbrev dktX5_triesRing_0 : List UInt8 := dkwX5_triesRing_0 ++ dktX5_triesRing_1
theorem dksX5_triesRing_0 : cX5_triesRing.data.toList.drop 0 = dktX5_triesRing_0 := by decide +kernel
theorem dksX5_triesRing_1 : cX5_triesRing.data.toList.drop 22 = dktX5_triesRing_1 := dk_seg dksX5_triesRing_0 22 rfl rfl
theorem dksX5_triesRing_2 : cX5_triesRing.data.toList.drop 45 = dktX5_triesRing_2 := dk_seg dksX5_triesRing_1 23 rfl rfl
theorem dksX5_triesRing_3 : cX5_triesRing.data.toList.drop 69 = dktX5_triesRing_3 := dk_seg dksX5_triesRing_2 24 rfl rfl
theorem dksX5_triesRing_4 : cX5_triesRing.data.toList.drop 92 = dktX5_triesRing_4 := dk_seg dksX5_triesRing_3 23 rfl rfl
theorem dksX5_triesRing_5 : cX5_triesRing.data.toList.drop 114 = dktX5_triesRing_5 := dk_seg dksX5_triesRing_4 22 rfl rfl
theorem dksX5_triesRing_6 : cX5_triesRing.data.toList.drop 136 = dktX5_triesRing_6 := dk_seg dksX5_triesRing_5 22 rfl rfl
theorem dksX5_triesRing_7 : cX5_triesRing.data.toList.drop 160 = dktX5_triesRing_7 := dk_seg dksX5_triesRing_6 24 rfl rfl
theorem dX5_triesRing_0 : decode cX5_triesRing 0 = .ok (.aload_n 0, 1) := dk_42 (dk_at dksX5_triesRing_0 0 rfl rfl)
theorem dX5_triesRing_1 : decode cX5_triesRing 1 = .ok (.getfield 95, 3) := dk_180 0 95 (dk_at dksX5_triesRing_0 1 rfl rfl)
theorem dX5_triesRing_4 : decode cX5_triesRing 4 = .ok (.iload_n 1, 1) := dk_27 (dk_at dksX5_triesRing_0 4 rfl rfl)
theorem dX5_triesRing_5 : decode cX5_triesRing 5 = .ok (.iconst 1, 1) := dk_4 (dk_at dksX5_triesRing_0 5 rfl rfl)
theorem dX5_triesRing_6 : decode cX5_triesRing 6 = .ok (.isub, 1) := dk_100 (dk_at dksX5_triesRing_0 6 rfl rfl)
theorem dX5_triesRing_7 : decode cX5_triesRing 7 = .ok (.iaload, 1) := dk_46 (dk_at dksX5_triesRing_0 7 rfl rfl)
theorem dX5_triesRing_8 : decode cX5_triesRing 8 = .ok (.istore_n 3, 1) := dk_62 (dk_at dksX5_triesRing_0 8 rfl rfl)
theorem dX5_triesRing_9 : decode cX5_triesRing 9 = .ok (.iload_n 1, 1) := dk_27 (dk_at dksX5_triesRing_0 9 rfl rfl)
theorem dX5_triesRing_10 : decode cX5_triesRing 10 = .ok (.iconst 1, 1) := dk_4 (dk_at dksX5_triesRing_0 10 rfl rfl)
theorem dX5_triesRing_11 : decode cX5_triesRing 11 = .ok (.if_icmp .le 87, 3) := dk_164 0 87 (dk_at dksX5_triesRing_0 11 rfl rfl)
theorem dX5_triesRing_14 : decode cX5_triesRing 14 = .ok (.aload_n 0, 1) := dk_42 (dk_at dksX5_triesRing_0 14 rfl rfl)
theorem dX5_triesRing_15 : decode cX5_triesRing 15 = .ok (.iload_n 3, 1) := dk_29 (dk_at dksX5_triesRing_0 15 rfl rfl)
theorem dX5_triesRing_16 : decode cX5_triesRing 16 = .ok (.aload_n 0, 1) := dk_42 (dk_at dksX5_triesRing_0 16 rfl rfl)
theorem dX5_triesRing_17 : decode cX5_triesRing 17 = .ok (.getfield 95, 3) := dk_180 0 95 (dk_at dksX5_triesRing_0 17 rfl rfl)
theorem dX5_triesRing_20 : decode cX5_triesRing 20 = .ok (.iconst 0, 1) := dk_3 (dk_at dksX5_triesRing_0 20 rfl rfl)
theorem dX5_triesRing_21 : decode cX5_triesRing 21 = .ok (.iaload, 1) := dk_46 (dk_at dksX5_triesRing_0 21 rfl rfl)
theorem dX5_triesRing_22 : decode cX5_triesRing 22 = .ok (.invokevirtual 178, 3) := dk_182 0 178 (dk_at dksX5_triesRing_1 0 rfl rfl)
theorem dX5_triesRing_25 : decode cX5_triesRing 25 = .ok (.ifCond .le 73, 3) := dk_158 0 73 (dk_at dksX5_triesRing_1 3 rfl rfl)
theorem dX5_triesRing_28 : decode cX5_triesRing 28 = .ok (.aload_n 0, 1) := dk_42 (dk_at dksX5_triesRing_1 6 rfl rfl)
theorem dX5_triesRing_29 : decode cX5_triesRing 29 = .ok (.getfield 446, 3) := dk_180 1 190 (dk_at dksX5_triesRing_1 7 rfl rfl)
theorem dX5_triesRing_32 : decode cX5_triesRing 32 = .ok (.ifCond .eq 27, 3) := dk_153 0 27 (dk_at dksX5_triesRing_1 10 rfl rfl)
theorem dX5_triesRing_35 : decode cX5_triesRing 35 = .ok (.iload_n 1, 1) := dk_27 (dk_at dksX5_triesRing_1 13 rfl rfl)
theorem dX5_triesRing_36 : decode cX5_triesRing 36 = .ok (.aload_n 0, 1) := dk_42 (dk_at dksX5_triesRing_1 14 rfl rfl)
theorem dX5_triesRing_37 : decode cX5_triesRing 37 = .ok (.getfield 446, 3) := dk_180 1 190 (dk_at dksX5_triesRing_1 15 rfl rfl)
theorem dX5_triesRing_40 : decode cX5_triesRing 40 = .ok (.if_icmp .lt 19, 3) := dk_161 0 19 (dk_at dksX5_triesRing_1 18 rfl rfl)
theorem dX5_triesRing_43 : decode cX5_triesRing 43 = .ok (.iload_n 1, 1) := dk_27 (dk_at dksX5_triesRing_1 21 rfl rfl)
theorem dX5_triesRing_44 : decode cX5_triesRing 44 = .ok (.aload_n 0, 1) := dk_42 (dk_at dksX5_triesRing_1 22 rfl rfl)
theorem dX5_triesRing_45 : decode cX5_triesRing 45 = .ok (.getfield 446, 3) := dk_180 1 190 (dk_at dksX5_triesRing_2 0 rfl rfl)
theorem dX5_triesRing_48 : decode cX5_triesRing 48 = .ok (.if_icmp .ne 50, 3) := dk_160 0 50 (dk_at dksX5_triesRing_2 3 rfl rfl)
theorem dX5_triesRing_51 : decode cX5_triesRing 51 = .ok (.iload_n 2, 1) := dk_28 (dk_at dksX5_triesRing_2 6 rfl rfl)
theorem dX5_triesRing_52 : decode cX5_triesRing 52 = .ok (.aload_n 0, 1) := dk_42 (dk_at dksX5_triesRing_2 7 rfl rfl)
theorem dX5_triesRing_53 : decode cX5_triesRing 53 = .ok (.getfield 449, 3) := dk_180 1 193 (dk_at dksX5_triesRing_2 8 rfl rfl)
theorem dX5_triesRing_56 : decode cX5_triesRing 56 = .ok (.if_icmp .ge 42, 3) := dk_162 0 42 (dk_at dksX5_triesRing_2 11 rfl rfl)
theorem dX5_triesRing_59 : decode cX5_triesRing 59 = .ok (.aload_n 0, 1) := dk_42 (dk_at dksX5_triesRing_2 14 rfl rfl)
theorem dX5_triesRing_60 : decode cX5_triesRing 60 = .ok (.iload_n 1, 1) := dk_27 (dk_at dksX5_triesRing_2 15 rfl rfl)
theorem dX5_triesRing_61 : decode cX5_triesRing 61 = .ok (.putfield 446, 3) := dk_181 1 190 (dk_at dksX5_triesRing_2 16 rfl rfl)
theorem dX5_triesRing_64 : decode cX5_triesRing 64 = .ok (.aload_n 0, 1) := dk_42 (dk_at dksX5_triesRing_2 19 rfl rfl)
theorem dX5_triesRing_65 : decode cX5_triesRing 65 = .ok (.iload_n 2, 1) := dk_28 (dk_at dksX5_triesRing_2 20 rfl rfl)
theorem dX5_triesRing_66 : decode cX5_triesRing 66 = .ok (.putfield 449, 3) := dk_181 1 193 (dk_at dksX5_triesRing_2 21 rfl rfl)
theorem dX5_triesRing_69 : decode cX5_triesRing 69 = .ok (.iconst 0, 1) := dk_3 (dk_at dksX5_triesRing_3 0 rfl rfl)
theorem dX5_triesRing_70 : decode cX5_triesRing 70 = .ok (.istore 4, 2) := dk_54 4 (dk_at dksX5_triesRing_3 1 rfl rfl)
theorem dX5_triesRing_72 : decode cX5_triesRing 72 = .ok (.iload 4, 2) := dk_21 4 (dk_at dksX5_triesRing_3 3 rfl rfl)
theorem dX5_triesRing_74 : decode cX5_triesRing 74 = .ok (.iload_n 1, 1) := dk_27 (dk_at dksX5_triesRing_3 5 rfl rfl)
theorem dX5_triesRing_75 : decode cX5_triesRing 75 = .ok (.if_icmp .ge 23, 3) := dk_162 0 23 (dk_at dksX5_triesRing_3 6 rfl rfl)
theorem dX5_triesRing_78 : decode cX5_triesRing 78 = .ok (.aload_n 0, 1) := dk_42 (dk_at dksX5_triesRing_3 9 rfl rfl)
theorem dX5_triesRing_79 : decode cX5_triesRing 79 = .ok (.getfield 98, 3) := dk_180 0 98 (dk_at dksX5_triesRing_3 10 rfl rfl)
theorem dX5_triesRing_82 : decode cX5_triesRing 82 = .ok (.iload 4, 2) := dk_21 4 (dk_at dksX5_triesRing_3 13 rfl rfl)
theorem dX5_triesRing_84 : decode cX5_triesRing 84 = .ok (.aload_n 0, 1) := dk_42 (dk_at dksX5_triesRing_3 15 rfl rfl)
theorem dX5_triesRing_85 : decode cX5_triesRing 85 = .ok (.getfield 95, 3) := dk_180 0 95 (dk_at dksX5_triesRing_3 16 rfl rfl)
theorem dX5_triesRing_88 : decode cX5_triesRing 88 = .ok (.iload 4, 2) := dk_21 4 (dk_at dksX5_triesRing_3 19 rfl rfl)
theorem dX5_triesRing_90 : decode cX5_triesRing 90 = .ok (.iaload, 1) := dk_46 (dk_at dksX5_triesRing_3 21 rfl rfl)
theorem dX5_triesRing_91 : decode cX5_triesRing 91 = .ok (.iastore, 1) := dk_79 (dk_at dksX5_triesRing_3 22 rfl rfl)
theorem dX5_triesRing_92 : decode cX5_triesRing 92 = .ok (.iinc 4 1, 3) := dk_132 4 1 (dk_at dksX5_triesRing_4 0 rfl rfl)
theorem dX5_triesRing_95 : decode cX5_triesRing 95 = .ok (.goto (-23), 3) := dk_167 255 233 (dk_at dksX5_triesRing_4 3 rfl rfl)
theorem dX5_triesRing_98 : decode cX5_triesRing 98 = .ok (.aload_n 0, 1) := dk_42 (dk_at dksX5_triesRing_4 6 rfl rfl)
theorem dX5_triesRing_99 : decode cX5_triesRing 99 = .ok (.getfield 95, 3) := dk_180 0 95 (dk_at dksX5_triesRing_4 7 rfl rfl)
theorem dX5_triesRing_102 : decode cX5_triesRing 102 = .ok (.iconst 0, 1) := dk_3 (dk_at dksX5_triesRing_4 10 rfl rfl)
theorem dX5_triesRing_103 : decode cX5_triesRing 103 = .ok (.iaload, 1) := dk_46 (dk_at dksX5_triesRing_4 11 rfl rfl)
theorem dX5_triesRing_104 : decode cX5_triesRing 104 = .ok (.iconst 1, 1) := dk_4 (dk_at dksX5_triesRing_4 12 rfl rfl)
theorem dX5_triesRing_105 : decode cX5_triesRing 105 = .ok (.iadd, 1) := dk_96 (dk_at dksX5_triesRing_4 13 rfl rfl)
theorem dX5_triesRing_106 : decode cX5_triesRing 106 = .ok (.istore 4, 2) := dk_54 4 (dk_at dksX5_triesRing_4 14 rfl rfl)
theorem dX5_triesRing_108 : decode cX5_triesRing 108 = .ok (.iload 4, 2) := dk_21 4 (dk_at dksX5_triesRing_4 16 rfl rfl)
theorem dX5_triesRing_110 : decode cX5_triesRing 110 = .ok (.aload_n 0, 1) := dk_42 (dk_at dksX5_triesRing_4 18 rfl rfl)
theorem dX5_triesRing_111 : decode cX5_triesRing 111 = .ok (.invokevirtual 133, 3) := dk_182 0 133 (dk_at dksX5_triesRing_4 19 rfl rfl)
theorem dX5_triesRing_114 : decode cX5_triesRing 114 = .ok (.if_icmp .ge 52, 3) := dk_162 0 52 (dk_at dksX5_triesRing_5 0 rfl rfl)
theorem dX5_triesRing_117 : decode cX5_triesRing 117 = .ok (.iload_n 2, 1) := dk_28 (dk_at dksX5_triesRing_5 3 rfl rfl)
theorem dX5_triesRing_118 : decode cX5_triesRing 118 = .ok (.iload 4, 2) := dk_21 4 (dk_at dksX5_triesRing_5 4 rfl rfl)
theorem dX5_triesRing_120 : decode cX5_triesRing 120 = .ok (.invokestatic 406, 3) := dk_184 1 150 (dk_at dksX5_triesRing_5 6 rfl rfl)
theorem dX5_triesRing_123 : decode cX5_triesRing 123 = .ok (.ifCond .ne 37, 3) := dk_154 0 37 (dk_at dksX5_triesRing_5 9 rfl rfl)
theorem dX5_triesRing_126 : decode cX5_triesRing 126 = .ok (.aload_n 0, 1) := dk_42 (dk_at dksX5_triesRing_5 12 rfl rfl)
theorem dX5_triesRing_127 : decode cX5_triesRing 127 = .ok (.iload_n 3, 1) := dk_29 (dk_at dksX5_triesRing_5 13 rfl rfl)
theorem dX5_triesRing_128 : decode cX5_triesRing 128 = .ok (.iload 4, 2) := dk_21 4 (dk_at dksX5_triesRing_5 14 rfl rfl)
theorem dX5_triesRing_130 : decode cX5_triesRing 130 = .ok (.invokevirtual 178, 3) := dk_182 0 178 (dk_at dksX5_triesRing_5 16 rfl rfl)
theorem dX5_triesRing_133 : decode cX5_triesRing 133 = .ok (.ifCond .ne 6, 3) := dk_154 0 6 (dk_at dksX5_triesRing_5 19 rfl rfl)
theorem dX5_triesRing_136 : decode cX5_triesRing 136 = .ok (.goto 24, 3) := dk_167 0 24 (dk_at dksX5_triesRing_6 0 rfl rfl)
theorem dX5_triesRing_139 : decode cX5_triesRing 139 = .ok (.aload_n 0, 1) := dk_42 (dk_at dksX5_triesRing_6 3 rfl rfl)
theorem dX5_triesRing_140 : decode cX5_triesRing 140 = .ok (.getfield 95, 3) := dk_180 0 95 (dk_at dksX5_triesRing_6 4 rfl rfl)
theorem dX5_triesRing_143 : decode cX5_triesRing 143 = .ok (.iload_n 1, 1) := dk_27 (dk_at dksX5_triesRing_6 7 rfl rfl)
theorem dX5_triesRing_144 : decode cX5_triesRing 144 = .ok (.iload 4, 2) := dk_21 4 (dk_at dksX5_triesRing_6 8 rfl rfl)
theorem dX5_triesRing_146 : decode cX5_triesRing 146 = .ok (.iastore, 1) := dk_79 (dk_at dksX5_triesRing_6 10 rfl rfl)
theorem dX5_triesRing_147 : decode cX5_triesRing 147 = .ok (.aload_n 0, 1) := dk_42 (dk_at dksX5_triesRing_6 11 rfl rfl)
theorem dX5_triesRing_148 : decode cX5_triesRing 148 = .ok (.iload_n 1, 1) := dk_27 (dk_at dksX5_triesRing_6 12 rfl rfl)
theorem dX5_triesRing_149 : decode cX5_triesRing 149 = .ok (.iconst 1, 1) := dk_4 (dk_at dksX5_triesRing_6 13 rfl rfl)
theorem dX5_triesRing_150 : decode cX5_triesRing 150 = .ok (.iadd, 1) := dk_96 (dk_at dksX5_triesRing_6 14 rfl rfl)
theorem dX5_triesRing_151 : decode cX5_triesRing 151 = .ok (.iload_n 2, 1) := dk_28 (dk_at dksX5_triesRing_6 15 rfl rfl)
theorem dX5_triesRing_152 : decode cX5_triesRing 152 = .ok (.iconst 1, 1) := dk_4 (dk_at dksX5_triesRing_6 16 rfl rfl)
theorem dX5_triesRing_153 : decode cX5_triesRing 153 = .ok (.iload 4, 2) := dk_21 4 (dk_at dksX5_triesRing_6 17 rfl rfl)
theorem dX5_triesRing_155 : decode cX5_triesRing 155 = .ok (.ishl, 1) := dk_120 (dk_at dksX5_triesRing_6 19 rfl rfl)
theorem dX5_triesRing_156 : decode cX5_triesRing 156 = .ok (.ior, 1) := dk_128 (dk_at dksX5_triesRing_6 20 rfl rfl)
theorem dX5_triesRing_157 : decode cX5_triesRing 157 = .ok (.invokevirtual 452, 3) := dk_182 1 196 (dk_at dksX5_triesRing_6 21 rfl rfl)
theorem dX5_triesRing_160 : decode cX5_triesRing 160 = .ok (.iinc 4 1, 3) := dk_132 4 1 (dk_at dksX5_triesRing_7 0 rfl rfl)
theorem dX5_triesRing_163 : decode cX5_triesRing 163 = .ok (.goto (-55), 3) := dk_167 255 201 (dk_at dksX5_triesRing_7 3 rfl rfl)
theorem dX5_triesRing_166 : decode cX5_triesRing 166 = .ok (.return_, 1) := dk_177 (dk_at dksX5_triesRing_7 6 rfl rfl)
theorem ff_X5_446_5 : ax_FF RX5 446 5 43 (tyX5 43) 0 false := ⟨RX5, TX5, 61, tyX5, "DebtDoorsModel", kd5, in_X5, tyX5_ok, apX5, by decide, rfl, ⟨fun _ => rfl, fun h => absurd h (by decide)⟩, q2005, Or.inl rfl, fun h => absurd h (by decide)⟩
theorem ff_X5_449_5 : ax_FF RX5 449 5 44 (tyX5 44) 0 false := ⟨RX5, TX5, 61, tyX5, "DebtDoorsModel", kd5, in_X5, tyX5_ok, apX5, by decide, rfl, ⟨fun _ => rfl, fun h => absurd h (by decide)⟩, q2006, Or.inl rfl, fun h => absurd h (by decide)⟩
noncomputable def f_X5_triesRing_160 (E : ax_E) (g0 : Option Nat → Int → Int → ax_H → Option (ax_H)) (x0 : Option Nat) (x1 : Int) (x2 : Int) (x3 : Int) (x4 : Int) (h : ax_H) : Option ((Int × ax_H) ⊕ (ax_H)) :=
  some (.inl ((x4 + 1), h))
noncomputable def lb_X5_triesRing_108 (E : ax_E) (g0 : Option Nat → Int → Int → ax_H → Option (ax_H)) (x0 : Option Nat) (x1 : Int) (x2 : Int) (x3 : Int) (x4 : Int) (h : ax_H) : Option ((Int × ax_H) ⊕ (ax_H)) :=
  (ax_ce E h x0 5).bind fun _ => (f_X5_people E x0 h).bind fun q1 =>
  if i2 x4 < i2 q1.1 then
    (f_X5_isIn E x2 x4 q1.2).bind fun q2 =>
    if i2 q2.1 = 0 then
      (ax_ce E q2.2 x0 5).bind fun _ => (f_X5_owed E x0 x3 x4 q2.2).bind fun q3 =>
      if i2 q3.1 = 0 then
        f_X5_triesRing_160 E g0 x0 x1 x2 x3 x4 q3.2
      else
        (ax_gR E q3.2 x0 5 41).bind fun v4 =>
        (ax_sto q3.2 v4 100 x1 x4).bind fun h5 =>
        (ax_ce E h5 x0 5).bind fun _ => (g0 x0 (x1 + 1) (ax_or x2 (ax_shl 1 x4)) h5).bind fun h6 =>
        f_X5_triesRing_160 E g0 x0 x1 x2 x3 x4 h6
    else
      f_X5_triesRing_160 E g0 x0 x1 x2 x3 x4 q2.2
  else
    (some q1.2).map Sum.inr
noncomputable def f_X5_triesRing_108 (E : ax_E) (g0 : Option Nat → Int → Int → ax_H → Option (ax_H)) (x0 : Option Nat) (x1 : Int) (x2 : Int) (x3 : Int) (x4 : Int) (h : ax_H) : Option (ax_H) :=
  ax_iter (fun s : Int × ax_H => lb_X5_triesRing_108 E g0 x0 x1 x2 x3 s.1 s.2) (x4, h)
noncomputable def f_X5_triesRing_98 (E : ax_E) (g0 : Option Nat → Int → Int → ax_H → Option (ax_H)) (x0 : Option Nat) (x1 : Int) (x2 : Int) (x3 : Int) (h : ax_H) : Option (ax_H) :=
  (ax_gR E h x0 5 41).bind fun v1 =>
  (ax_ld E h v1 100 0).bind fun v2 =>
  f_X5_triesRing_108 E g0 x0 x1 x2 x3 (v2 + 1) h
noncomputable def lb_X5_triesRing_72 (E : ax_E) (g0 : Option Nat → Int → Int → ax_H → Option (ax_H)) (x0 : Option Nat) (x1 : Int) (x2 : Int) (x3 : Int) (x4 : Int) (h : ax_H) : Option ((Int × ax_H) ⊕ (ax_H)) :=
  if i2 x4 < i2 x1 then
    (ax_gR E h x0 5 42).bind fun v1 =>
    (ax_gR E h x0 5 41).bind fun v2 =>
    (ax_ld E h v2 100 x4).bind fun v3 =>
    (ax_sto h v1 100 x4 v3).bind fun h4 =>
    some (.inl ((x4 + 1), h4))
  else
    (f_X5_triesRing_98 E g0 x0 x1 x2 x3 h).map Sum.inr
noncomputable def f_X5_triesRing_72 (E : ax_E) (g0 : Option Nat → Int → Int → ax_H → Option (ax_H)) (x0 : Option Nat) (x1 : Int) (x2 : Int) (x3 : Int) (x4 : Int) (h : ax_H) : Option (ax_H) :=
  ax_iter (fun s : Int × ax_H => lb_X5_triesRing_72 E g0 x0 x1 x2 x3 s.1 s.2) (x4, h)
noncomputable def f_X5_triesRing_59 (E : ax_E) (g0 : Option Nat → Int → Int → ax_H → Option (ax_H)) (x0 : Option Nat) (x1 : Int) (x2 : Int) (x3 : Int) (h : ax_H) : Option (ax_H) :=
  (ax_pI h x0 5 43 x1).bind fun h1 =>
  (ax_pI h1 x0 5 44 x2).bind fun h2 =>
  f_X5_triesRing_72 E g0 x0 x1 x2 x3 0 h2
noncomputable def f_X5_triesRing (E : ax_E) (g0 : Option Nat → Int → Int → ax_H → Option (ax_H)) (x0 : Option Nat) (x1 : Int) (x2 : Int) (h : ax_H) : Option (ax_H) :=
  (ax_gR E h x0 5 41).bind fun v1 =>
  (ax_ld E h v1 100 (x1 - 1)).bind fun v2 =>
  if i2 1 < i2 x1 then
    (ax_gR E h x0 5 41).bind fun v3 =>
    (ax_ld E h v3 100 0).bind fun v4 =>
    (ax_ce E h x0 5).bind fun _ => (f_X5_owed E x0 v2 v4 h).bind fun q5 =>
    if 0 < i2 q5.1 then
      (ax_gI E q5.2 x0 5 43).bind fun v6 =>
      if i2 v6 = 0 then
        f_X5_triesRing_59 E g0 x0 x1 x2 v2 q5.2
      else
        (ax_gI E q5.2 x0 5 43).bind fun v7 =>
        if i2 x1 < i2 v7 then
          f_X5_triesRing_59 E g0 x0 x1 x2 v2 q5.2
        else
          (ax_gI E q5.2 x0 5 43).bind fun v8 =>
          if i2 x1 = i2 v8 then
            (ax_gI E q5.2 x0 5 44).bind fun v9 =>
            if i2 x2 < i2 v9 then
              f_X5_triesRing_59 E g0 x0 x1 x2 v2 q5.2
            else
              f_X5_triesRing_98 E g0 x0 x1 x2 v2 q5.2
          else
            f_X5_triesRing_98 E g0 x0 x1 x2 v2 q5.2
    else
      f_X5_triesRing_98 E g0 x0 x1 x2 v2 q5.2
  else
    f_X5_triesRing_98 E g0 x0 x1 x2 v2 h
noncomputable def rg_X5_triesRing (E : ax_E) : Nat → (Option Nat → Int → Int → ax_H → Option (ax_H))
  | 0 => (fun x0 x1 x2 h => none)
  | n + 1 => (fun x0 x1 x2 h => f_X5_triesRing E (rg_X5_triesRing E n) x0 x1 x2 h)
noncomputable def fn_X5_triesRing (E : ax_E) (n : Nat) (x0 : Option Nat) (x1 : Int) (x2 : Int) (h : ax_H) : Option (ax_H) := (rg_X5_triesRing E n) x0 x1 x2 h
def pi_X5_triesRing_108 (G : ax_G) (X : ax_X) (Q : State → Prop) (x0 : Option Nat) (x1 : Int) (x2 : Int) (x3 : Int) : Int × ax_H → Prop := fun s => ∀ ls : Array Slot, ax_hl ls 5 [(0, .inr (.inr x0)), (1, .inl x1), (2, .inl x2), (3, .inl x3), (4, .inl s.1)] → ax_W G X Q s.2 108 ls []
def pi_X5_triesRing_72 (G : ax_G) (X : ax_X) (Q : State → Prop) (x0 : Option Nat) (x1 : Int) (x2 : Int) (x3 : Int) : Int × ax_H → Prop := fun s => ∀ ls : Array Slot, ax_hl ls 5 [(0, .inr (.inr x0)), (1, .inl x1), (2, .inl x2), (3, .inl x3), (4, .inl s.1)] → ax_W G X Q s.2 72 ls []
set_option maxHeartbeats 4000000 in
theorem w_X5_triesRing_160 {l : Launch} {G : ax_G} {X : ax_X} {Q : State → Prop} {h0 h : ax_H} {ls : Array Slot} {g0 : Option Nat → Int → Int → ax_H → Option (ax_H)} {fr lo fr1 lo1 : Nat} (hF : fr1 + 1 ≤ fr ∧ 3 ≤ fr ∧ lo1 + 24 ≤ lo ∧ 87 ≤ lo) (hg0 : ∀ (x0 : Option Nat) (x1 : Int) (x2 : Int) (h : ax_H) (w : ax_H), g0 x0 x1 x2 h = some w → ax_Met l G yX5_triesRing cX5_triesRing 5 none fr1 lo1 [va_rf x0, .int (Int32.ofInt x1), .int (Int32.ofInt x2)] h w none) (hSF : ax_SF G) (B : ax_BL l G X cX5_triesRing 5 RX5 fr lo) (Z : ax_Z X h0 none) (hn : X.2.2.2.2.2.2.2.2.1.name = yX5_triesRing.name) (x0 : Option Nat) (x1 : Int) (x2 : Int) (x3 : Int) (x4 : Int) {w : (Int × ax_H) ⊕ (ax_H)} (hl : ax_hl ls 5 [(0, .inr (.inr x0)), (1, .inl x1), (2, .inl x2), (3, .inl x3), (4, .inl x4)]) (e : f_X5_triesRing_160 G.2.2 g0 x0 x1 x2 x3 x4 h = some w) (hp : (ax_PL (pi_X5_triesRing_108 G X Q x0 x1 x2 x3) (fun w : ax_H => Q = ax_Q G X h0 w none)) w) : ax_W G X Q h 160 ls [] := by
  unfold f_X5_triesRing_160 at e
  refine ax_iinc (L' := [(4, .inl (x4 + 1)), (0, .inr (.inr x0)), (1, .inl x1), (2, .inl x2), (3, .inl x3)]) B dX5_triesRing_160 hl 4 rfl (by decide) rfl (fun ls hl => ?_)
  refine ax_goto (tgt := 108) B dX5_triesRing_163 (by decide) ?_
  cases e
  exact hp _ (hl.sub [1, 2, 3, 4, 0] rfl)
set_option maxHeartbeats 4000000 in
theorem wb_X5_triesRing_108 {l : Launch} {G : ax_G} {X : ax_X} {Q : State → Prop} {h0 h : ax_H} {ls : Array Slot} {g0 : Option Nat → Int → Int → ax_H → Option (ax_H)} {fr lo fr1 lo1 : Nat} (hF : fr1 + 1 ≤ fr ∧ 3 ≤ fr ∧ lo1 + 24 ≤ lo ∧ 87 ≤ lo) (hg0 : ∀ (x0 : Option Nat) (x1 : Int) (x2 : Int) (h : ax_H) (w : ax_H), g0 x0 x1 x2 h = some w → ax_Met l G yX5_triesRing cX5_triesRing 5 none fr1 lo1 [va_rf x0, .int (Int32.ofInt x1), .int (Int32.ofInt x2)] h w none) (hSF : ax_SF G) (B : ax_BL l G X cX5_triesRing 5 RX5 fr lo) (Z : ax_Z X h0 none) (hn : X.2.2.2.2.2.2.2.2.1.name = yX5_triesRing.name) (x0 : Option Nat) (x1 : Int) (x2 : Int) (x3 : Int) (x4 : Int) {w : (Int × ax_H) ⊕ (ax_H)} (hl : ax_hl ls 5 [(0, .inr (.inr x0)), (1, .inl x1), (2, .inl x2), (3, .inl x3), (4, .inl x4)]) (e : lb_X5_triesRing_108 G.2.2 g0 x0 x1 x2 x3 x4 h = some w) (hp : (ax_PL (pi_X5_triesRing_108 G X Q x0 x1 x2 x3) (fun w : ax_H => Q = ax_Q G X h0 w none)) w) : ax_W G X Q h 108 ls [] := by
  unfold lb_X5_triesRing_108 at e
  refine ax_iload B dX5_triesRing_108 hl 4 rfl ?_
  refine ax_aload_n B dX5_triesRing_110 rfl hl 0 rfl ?_
  refine ax_ivI (y := yX5_people) (n := 0) (As := []) B kd5 (lw_V q2180 q2182 qs44 q133 q2183) (by decide +kernel) (by omega) (fun w1 e1 => mt_X5_people l G hSF x0 _ w1 e1) rfl hl.size (by simp only [List.map_cons, List.map_nil, List.sum_cons, List.sum_nil, va_rf_cat, ax_catI, ax_catL]; decide) dX5_triesRing_111 e (fun q1 e => ?_)
  refine ax_icmp_ge (tgt := 166) B dX5_triesRing_114 (by decide) e (fun e => ?_) (fun e => ?_)
  · refine ax_iload_n B dX5_triesRing_117 rfl hl 2 rfl ?_
    refine ax_iload B dX5_triesRing_118 hl 4 rfl ?_
    refine ax_isI (y := yX5_isIn) (n := 2) (As := [.int (Int32.ofInt x2), .int (Int32.ofInt x4)]) B (lw_S q2562 q2563 q133 q2564) (by decide +kernel) (by omega) (fun w1 e1 => mt_X5_isIn l G hSF x2 x4 _ w1 e1) rfl hl.size (by decide) dX5_triesRing_120 e (fun q2 e => ?_)
    refine ax_if_ne (tgt := 160) B dX5_triesRing_123 (by decide) e (fun e => ?_) (fun e => ?_)
    · refine ax_aload_n B dX5_triesRing_126 rfl hl 0 rfl ?_
      refine ax_iload_n B dX5_triesRing_127 rfl hl 3 rfl ?_
      refine ax_iload B dX5_triesRing_128 hl 4 rfl ?_
      refine ax_ivI (y := yX5_owed) (n := 2) (As := [.int (Int32.ofInt x3), .int (Int32.ofInt x4)]) B kd5 (lw_V q2234 q2236 qs52 q133 q2237) (by decide +kernel) (by omega) (fun w1 e1 => mt_X5_owed l G hSF x0 x3 x4 _ w1 e1) rfl hl.size (by decide) dX5_triesRing_130 e (fun q3 e => ?_)
      refine ax_if_ne (tgt := 139) B dX5_triesRing_133 (by decide) e (fun e => ?_) (fun e => ?_)
      · refine ax_goto (tgt := 160) B dX5_triesRing_136 (by decide) ?_
        exact w_X5_triesRing_160 hF hg0 hSF B Z hn x0 x1 x2 x3 x4 (hl.sub [0, 1, 2, 3, 4] rfl) e hp
      · refine ax_aload_n B dX5_triesRing_139 rfl hl 0 rfl ?_
        refine ax_getR B ff_X5_95_5 (fun _ _ => rfl) dX5_triesRing_140 e (fun v4 e => ?_)
        refine ax_iload_n B dX5_triesRing_143 rfl hl 1 rfl ?_
        refine ax_iload B dX5_triesRing_144 hl 4 rfl ?_
        refine ax_iast B kd100 dX5_triesRing_146 e (fun h5 e => ?_)
        refine ax_aload_n B dX5_triesRing_147 rfl hl 0 rfl ?_
        refine ax_iload_n B dX5_triesRing_148 rfl hl 1 rfl ?_
        refine ax_iconst B dX5_triesRing_149 ?_
        refine ax_iadd' B dX5_triesRing_150 ?_
        refine ax_iload_n B dX5_triesRing_151 rfl hl 2 rfl ?_
        refine ax_iconst B dX5_triesRing_152 ?_
        refine ax_iload B dX5_triesRing_153 hl 4 rfl ?_
        refine ax_ishl' B dX5_triesRing_155 ?_
        refine ax_ior' B dX5_triesRing_156 ?_
        refine ax_ivV (y := yX5_triesRing) (n := 2) (As := [.int (Int32.ofInt (x1 + 1)), .int (Int32.ofInt (ax_or x2 (ax_shl 1 x4)))]) B kd5 (lw_V q2621 q2623 qs116 q133 q2624) (by decide +kernel) (by omega) (fun w1 e1 => hg0 x0 (x1 + 1) (ax_or x2 (ax_shl 1 x4)) _ w1 e1) rfl hl.size (by decide) dX5_triesRing_157 e (fun h6 e => ?_)
        exact w_X5_triesRing_160 hF hg0 hSF B Z hn x0 x1 x2 x3 x4 (hl.sub [0, 1, 2, 3, 4] rfl) e hp
    · exact w_X5_triesRing_160 hF hg0 hSF B Z hn x0 x1 x2 x3 x4 (hl.sub [0, 1, 2, 3, 4] rfl) e hp
  · obtain ⟨w, e9_1, rfl⟩ := Option.map_eq_some_iff.mp e
    have e := e9_1
    have e8 := e
    have hp : Q = _ := hp
    subst hp
    exact ax_return B Z dX5_triesRing_166 e8
theorem w_X5_triesRing_108 {l : Launch} {G : ax_G} {X : ax_X} {Q : State → Prop} {h0 h : ax_H} {ls : Array Slot} {g0 : Option Nat → Int → Int → ax_H → Option (ax_H)} {fr lo fr1 lo1 : Nat} (hF : fr1 + 1 ≤ fr ∧ 3 ≤ fr ∧ lo1 + 24 ≤ lo ∧ 87 ≤ lo) (hg0 : ∀ (x0 : Option Nat) (x1 : Int) (x2 : Int) (h : ax_H) (w : ax_H), g0 x0 x1 x2 h = some w → ax_Met l G yX5_triesRing cX5_triesRing 5 none fr1 lo1 [va_rf x0, .int (Int32.ofInt x1), .int (Int32.ofInt x2)] h w none) (hSF : ax_SF G) (B : ax_BL l G X cX5_triesRing 5 RX5 fr lo) (Z : ax_Z X h0 none) (hn : X.2.2.2.2.2.2.2.2.1.name = yX5_triesRing.name) (x0 : Option Nat) (x1 : Int) (x2 : Int) (x3 : Int) (x4 : Int) {w : ax_H} (hl : ax_hl ls 5 [(0, .inr (.inr x0)), (1, .inl x1), (2, .inl x2), (3, .inl x3), (4, .inl x4)]) (e : f_X5_triesRing_108 G.2.2 g0 x0 x1 x2 x3 x4 h = some w) (hp : (fun w : ax_H => Q = ax_Q G X h0 w none) w) : ax_W G X Q h 108 ls [] :=
  ax_iter_W (Pin := pi_X5_triesRing_108 G X Q x0 x1 x2 x3) (Pout := (fun w : ax_H => Q = ax_Q G X h0 w none)) (fun s w e hp ls hl => wb_X5_triesRing_108 hF hg0 hSF B Z hn x0 x1 x2 x3 s.1 hl e hp) _ _ e hp ls hl
set_option maxHeartbeats 4000000 in
theorem w_X5_triesRing_98 {l : Launch} {G : ax_G} {X : ax_X} {Q : State → Prop} {h0 h : ax_H} {ls : Array Slot} {g0 : Option Nat → Int → Int → ax_H → Option (ax_H)} {fr lo fr1 lo1 : Nat} (hF : fr1 + 1 ≤ fr ∧ 3 ≤ fr ∧ lo1 + 24 ≤ lo ∧ 87 ≤ lo) (hg0 : ∀ (x0 : Option Nat) (x1 : Int) (x2 : Int) (h : ax_H) (w : ax_H), g0 x0 x1 x2 h = some w → ax_Met l G yX5_triesRing cX5_triesRing 5 none fr1 lo1 [va_rf x0, .int (Int32.ofInt x1), .int (Int32.ofInt x2)] h w none) (hSF : ax_SF G) (B : ax_BL l G X cX5_triesRing 5 RX5 fr lo) (Z : ax_Z X h0 none) (hn : X.2.2.2.2.2.2.2.2.1.name = yX5_triesRing.name) (x0 : Option Nat) (x1 : Int) (x2 : Int) (x3 : Int) {w : ax_H} (hl : ax_hl ls 5 [(0, .inr (.inr x0)), (1, .inl x1), (2, .inl x2), (3, .inl x3)]) (e : f_X5_triesRing_98 G.2.2 g0 x0 x1 x2 x3 h = some w) (hp : (fun w : ax_H => Q = ax_Q G X h0 w none) w) : ax_W G X Q h 98 ls [] := by
  unfold f_X5_triesRing_98 at e
  refine ax_aload_n B dX5_triesRing_98 rfl hl 0 rfl ?_
  refine ax_getR B ff_X5_95_5 (fun _ _ => rfl) dX5_triesRing_99 e (fun v1 e => ?_)
  refine ax_iconst B dX5_triesRing_102 ?_
  refine ax_iald B kd100 dX5_triesRing_103 e (fun v2 e => ?_)
  refine ax_iconst B dX5_triesRing_104 ?_
  refine ax_iadd' B dX5_triesRing_105 ?_
  refine ax_istore (L' := [(4, .inl (v2 + 1)), (0, .inr (.inr x0)), (1, .inl x1), (2, .inl x2), (3, .inl x3)]) B dX5_triesRing_106 hl (by decide) rfl (fun ls hl => ?_)
  exact w_X5_triesRing_108 hF hg0 hSF B Z hn x0 x1 x2 x3 (v2 + 1) (hl.sub [1, 2, 3, 4, 0] rfl) e hp
set_option maxHeartbeats 4000000 in
theorem wb_X5_triesRing_72 {l : Launch} {G : ax_G} {X : ax_X} {Q : State → Prop} {h0 h : ax_H} {ls : Array Slot} {g0 : Option Nat → Int → Int → ax_H → Option (ax_H)} {fr lo fr1 lo1 : Nat} (hF : fr1 + 1 ≤ fr ∧ 3 ≤ fr ∧ lo1 + 24 ≤ lo ∧ 87 ≤ lo) (hg0 : ∀ (x0 : Option Nat) (x1 : Int) (x2 : Int) (h : ax_H) (w : ax_H), g0 x0 x1 x2 h = some w → ax_Met l G yX5_triesRing cX5_triesRing 5 none fr1 lo1 [va_rf x0, .int (Int32.ofInt x1), .int (Int32.ofInt x2)] h w none) (hSF : ax_SF G) (B : ax_BL l G X cX5_triesRing 5 RX5 fr lo) (Z : ax_Z X h0 none) (hn : X.2.2.2.2.2.2.2.2.1.name = yX5_triesRing.name) (x0 : Option Nat) (x1 : Int) (x2 : Int) (x3 : Int) (x4 : Int) {w : (Int × ax_H) ⊕ (ax_H)} (hl : ax_hl ls 5 [(0, .inr (.inr x0)), (1, .inl x1), (2, .inl x2), (3, .inl x3), (4, .inl x4)]) (e : lb_X5_triesRing_72 G.2.2 g0 x0 x1 x2 x3 x4 h = some w) (hp : (ax_PL (pi_X5_triesRing_72 G X Q x0 x1 x2 x3) (fun w : ax_H => Q = ax_Q G X h0 w none)) w) : ax_W G X Q h 72 ls [] := by
  unfold lb_X5_triesRing_72 at e
  refine ax_iload B dX5_triesRing_72 hl 4 rfl ?_
  refine ax_iload_n B dX5_triesRing_74 rfl hl 1 rfl ?_
  refine ax_icmp_ge (tgt := 98) B dX5_triesRing_75 (by decide) e (fun e => ?_) (fun e => ?_)
  · refine ax_aload_n B dX5_triesRing_78 rfl hl 0 rfl ?_
    refine ax_getR B ff_X5_98_5 (fun _ _ => rfl) dX5_triesRing_79 e (fun v1 e => ?_)
    refine ax_iload B dX5_triesRing_82 hl 4 rfl ?_
    refine ax_aload_n B dX5_triesRing_84 rfl hl 0 rfl ?_
    refine ax_getR B ff_X5_95_5 (fun _ _ => rfl) dX5_triesRing_85 e (fun v2 e => ?_)
    refine ax_iload B dX5_triesRing_88 hl 4 rfl ?_
    refine ax_iald B kd100 dX5_triesRing_90 e (fun v3 e => ?_)
    refine ax_iast B kd100 dX5_triesRing_91 e (fun h4 e => ?_)
    refine ax_iinc (L' := [(4, .inl (x4 + 1)), (0, .inr (.inr x0)), (1, .inl x1), (2, .inl x2), (3, .inl x3)]) B dX5_triesRing_92 hl 4 rfl (by decide) rfl (fun ls hl => ?_)
    refine ax_goto (tgt := 72) B dX5_triesRing_95 (by decide) ?_
    cases e
    exact hp _ (hl.sub [1, 2, 3, 4, 0] rfl)
  · obtain ⟨w, e9_2, rfl⟩ := Option.map_eq_some_iff.mp e
    have e := e9_2
    exact w_X5_triesRing_98 hF hg0 hSF B Z hn x0 x1 x2 x3 (hl.sub [0, 1, 2, 3] rfl) e hp
theorem w_X5_triesRing_72 {l : Launch} {G : ax_G} {X : ax_X} {Q : State → Prop} {h0 h : ax_H} {ls : Array Slot} {g0 : Option Nat → Int → Int → ax_H → Option (ax_H)} {fr lo fr1 lo1 : Nat} (hF : fr1 + 1 ≤ fr ∧ 3 ≤ fr ∧ lo1 + 24 ≤ lo ∧ 87 ≤ lo) (hg0 : ∀ (x0 : Option Nat) (x1 : Int) (x2 : Int) (h : ax_H) (w : ax_H), g0 x0 x1 x2 h = some w → ax_Met l G yX5_triesRing cX5_triesRing 5 none fr1 lo1 [va_rf x0, .int (Int32.ofInt x1), .int (Int32.ofInt x2)] h w none) (hSF : ax_SF G) (B : ax_BL l G X cX5_triesRing 5 RX5 fr lo) (Z : ax_Z X h0 none) (hn : X.2.2.2.2.2.2.2.2.1.name = yX5_triesRing.name) (x0 : Option Nat) (x1 : Int) (x2 : Int) (x3 : Int) (x4 : Int) {w : ax_H} (hl : ax_hl ls 5 [(0, .inr (.inr x0)), (1, .inl x1), (2, .inl x2), (3, .inl x3), (4, .inl x4)]) (e : f_X5_triesRing_72 G.2.2 g0 x0 x1 x2 x3 x4 h = some w) (hp : (fun w : ax_H => Q = ax_Q G X h0 w none) w) : ax_W G X Q h 72 ls [] :=
  ax_iter_W (Pin := pi_X5_triesRing_72 G X Q x0 x1 x2 x3) (Pout := (fun w : ax_H => Q = ax_Q G X h0 w none)) (fun s w e hp ls hl => wb_X5_triesRing_72 hF hg0 hSF B Z hn x0 x1 x2 x3 s.1 hl e hp) _ _ e hp ls hl
set_option maxHeartbeats 4000000 in
theorem w_X5_triesRing_59 {l : Launch} {G : ax_G} {X : ax_X} {Q : State → Prop} {h0 h : ax_H} {ls : Array Slot} {g0 : Option Nat → Int → Int → ax_H → Option (ax_H)} {fr lo fr1 lo1 : Nat} (hF : fr1 + 1 ≤ fr ∧ 3 ≤ fr ∧ lo1 + 24 ≤ lo ∧ 87 ≤ lo) (hg0 : ∀ (x0 : Option Nat) (x1 : Int) (x2 : Int) (h : ax_H) (w : ax_H), g0 x0 x1 x2 h = some w → ax_Met l G yX5_triesRing cX5_triesRing 5 none fr1 lo1 [va_rf x0, .int (Int32.ofInt x1), .int (Int32.ofInt x2)] h w none) (hSF : ax_SF G) (B : ax_BL l G X cX5_triesRing 5 RX5 fr lo) (Z : ax_Z X h0 none) (hn : X.2.2.2.2.2.2.2.2.1.name = yX5_triesRing.name) (x0 : Option Nat) (x1 : Int) (x2 : Int) (x3 : Int) {w : ax_H} (hl : ax_hl ls 5 [(0, .inr (.inr x0)), (1, .inl x1), (2, .inl x2), (3, .inl x3)]) (e : f_X5_triesRing_59 G.2.2 g0 x0 x1 x2 x3 h = some w) (hp : (fun w : ax_H => Q = ax_Q G X h0 w none) w) : ax_W G X Q h 59 ls [] := by
  unfold f_X5_triesRing_59 at e
  refine ax_aload_n B dX5_triesRing_59 rfl hl 0 rfl ?_
  refine ax_iload_n B dX5_triesRing_60 rfl hl 1 rfl ?_
  refine ax_putI B ff_X5_446_5 (Or.inl rfl) rfl dX5_triesRing_61 e (fun h1 e => ?_)
  refine ax_aload_n B dX5_triesRing_64 rfl hl 0 rfl ?_
  refine ax_iload_n B dX5_triesRing_65 rfl hl 2 rfl ?_
  refine ax_putI B ff_X5_449_5 (Or.inl rfl) rfl dX5_triesRing_66 e (fun h2 e => ?_)
  refine ax_iconst B dX5_triesRing_69 ?_
  refine ax_istore (L' := [(4, .inl 0), (0, .inr (.inr x0)), (1, .inl x1), (2, .inl x2), (3, .inl x3)]) B dX5_triesRing_70 hl (by decide) rfl (fun ls hl => ?_)
  exact w_X5_triesRing_72 hF hg0 hSF B Z hn x0 x1 x2 x3 0 (hl.sub [1, 2, 3, 4, 0] rfl) e hp
set_option maxHeartbeats 4000000 in
theorem we_X5_triesRing {l : Launch} {G : ax_G} {X : ax_X} {Q : State → Prop} {h0 h : ax_H} {ls : Array Slot} {g0 : Option Nat → Int → Int → ax_H → Option (ax_H)} {fr lo fr1 lo1 : Nat} (hF : fr1 + 1 ≤ fr ∧ 3 ≤ fr ∧ lo1 + 24 ≤ lo ∧ 87 ≤ lo) (hg0 : ∀ (x0 : Option Nat) (x1 : Int) (x2 : Int) (h : ax_H) (w : ax_H), g0 x0 x1 x2 h = some w → ax_Met l G yX5_triesRing cX5_triesRing 5 none fr1 lo1 [va_rf x0, .int (Int32.ofInt x1), .int (Int32.ofInt x2)] h w none) (hSF : ax_SF G) (B : ax_BL l G X cX5_triesRing 5 RX5 fr lo) (Z : ax_Z X h0 none) (hn : X.2.2.2.2.2.2.2.2.1.name = yX5_triesRing.name) (x0 : Option Nat) (x1 : Int) (x2 : Int) {w : ax_H} (hl : ax_hl ls 5 [(0, .inr (.inr x0)), (1, .inl x1), (2, .inl x2)]) (e : f_X5_triesRing G.2.2 g0 x0 x1 x2 h = some w) (hp : (fun w : ax_H => Q = ax_Q G X h0 w none) w) : ax_W G X Q h 0 ls [] := by
  unfold f_X5_triesRing at e
  refine ax_aload_n B dX5_triesRing_0 rfl hl 0 rfl ?_
  refine ax_getR B ff_X5_95_5 (fun _ _ => rfl) dX5_triesRing_1 e (fun v1 e => ?_)
  refine ax_iload_n B dX5_triesRing_4 rfl hl 1 rfl ?_
  refine ax_iconst B dX5_triesRing_5 ?_
  refine ax_isub' B dX5_triesRing_6 ?_
  refine ax_iald B kd100 dX5_triesRing_7 e (fun v2 e => ?_)
  refine ax_istore_n (L' := [(3, .inl v2), (0, .inr (.inr x0)), (1, .inl x1), (2, .inl x2)]) B dX5_triesRing_8 rfl hl (by decide) rfl (fun ls hl => ?_)
  refine ax_iload_n B dX5_triesRing_9 rfl hl 2 rfl ?_
  refine ax_iconst B dX5_triesRing_10 ?_
  refine ax_icmp_le (tgt := 98) B dX5_triesRing_11 (by decide) e (fun e => ?_) (fun e => ?_)
  · refine ax_aload_n B dX5_triesRing_14 rfl hl 1 rfl ?_
    refine ax_iload_n B dX5_triesRing_15 rfl hl 0 rfl ?_
    refine ax_aload_n B dX5_triesRing_16 rfl hl 1 rfl ?_
    refine ax_getR B ff_X5_95_5 (fun _ _ => rfl) dX5_triesRing_17 e (fun v3 e => ?_)
    refine ax_iconst B dX5_triesRing_20 ?_
    refine ax_iald B kd100 dX5_triesRing_21 e (fun v4 e => ?_)
    refine ax_ivI (y := yX5_owed) (n := 2) (As := [.int (Int32.ofInt v2), .int (Int32.ofInt v4)]) B kd5 (lw_V q2234 q2236 qs52 q133 q2237) (by decide +kernel) (by omega) (fun w1 e1 => mt_X5_owed l G hSF x0 v2 v4 _ w1 e1) rfl hl.size (by decide) dX5_triesRing_22 e (fun q5 e => ?_)
    refine ax_if_le (tgt := 98) B dX5_triesRing_25 (by decide) e (fun e => ?_) (fun e => ?_)
    · refine ax_aload_n B dX5_triesRing_28 rfl hl 1 rfl ?_
      refine ax_getI B ff_X5_446_5 (fun _ _ => rfl) dX5_triesRing_29 e (fun v6 e => ?_)
      refine ax_if_eq (tgt := 59) B dX5_triesRing_32 (by decide) e (fun e => ?_) (fun e => ?_)
      · exact w_X5_triesRing_59 hF hg0 hSF B Z hn x0 x1 x2 v2 (hl.sub [1, 2, 3, 0] rfl) e hp
      · refine ax_iload_n B dX5_triesRing_35 rfl hl 2 rfl ?_
        refine ax_aload_n B dX5_triesRing_36 rfl hl 1 rfl ?_
        refine ax_getI B ff_X5_446_5 (fun _ _ => rfl) dX5_triesRing_37 e (fun v7 e => ?_)
        refine ax_icmp_lt (tgt := 59) B dX5_triesRing_40 (by decide) e (fun e => ?_) (fun e => ?_)
        · exact w_X5_triesRing_59 hF hg0 hSF B Z hn x0 x1 x2 v2 (hl.sub [1, 2, 3, 0] rfl) e hp
        · refine ax_iload_n B dX5_triesRing_43 rfl hl 2 rfl ?_
          refine ax_aload_n B dX5_triesRing_44 rfl hl 1 rfl ?_
          refine ax_getI B ff_X5_446_5 (fun _ _ => rfl) dX5_triesRing_45 e (fun v8 e => ?_)
          refine ax_icmp_ne (tgt := 98) B dX5_triesRing_48 (by decide) e (fun e => ?_) (fun e => ?_)
          · refine ax_iload_n B dX5_triesRing_51 rfl hl 3 rfl ?_
            refine ax_aload_n B dX5_triesRing_52 rfl hl 1 rfl ?_
            refine ax_getI B ff_X5_449_5 (fun _ _ => rfl) dX5_triesRing_53 e (fun v9 e => ?_)
            refine ax_icmp_ge (tgt := 98) B dX5_triesRing_56 (by decide) e (fun e => ?_) (fun e => ?_)
            · exact w_X5_triesRing_59 hF hg0 hSF B Z hn x0 x1 x2 v2 (hl.sub [1, 2, 3, 0] rfl) e hp
            · exact w_X5_triesRing_98 hF hg0 hSF B Z hn x0 x1 x2 v2 (hl.sub [1, 2, 3, 0] rfl) e hp
          · exact w_X5_triesRing_98 hF hg0 hSF B Z hn x0 x1 x2 v2 (hl.sub [1, 2, 3, 0] rfl) e hp
    · exact w_X5_triesRing_98 hF hg0 hSF B Z hn x0 x1 x2 v2 (hl.sub [1, 2, 3, 0] rfl) e hp
  · exact w_X5_triesRing_98 hF hg0 hSF B Z hn x0 x1 x2 v2 (hl.sub [1, 2, 3, 0] rfl) e hp
theorem mt_X5_triesRing (l : Launch) (G : ax_G) (hSF : ax_SF G) {g0 : Option Nat → Int → Int → ax_H → Option (ax_H)} {fr lo fr1 lo1 : Nat} (hF : fr1 + 1 ≤ fr ∧ 3 ≤ fr ∧ lo1 + 24 ≤ lo ∧ 87 ≤ lo) (hg0 : ∀ (x0 : Option Nat) (x1 : Int) (x2 : Int) (h : ax_H) (w : ax_H), g0 x0 x1 x2 h = some w → ax_Met l G yX5_triesRing cX5_triesRing 5 none fr1 lo1 [va_rf x0, .int (Int32.ofInt x1), .int (Int32.ofInt x2)] h w none) (x0 : Option Nat) (x1 : Int) (x2 : Int) (h : ax_H) (w : ax_H) (e : f_X5_triesRing G.2.2 g0 x0 x1 x2 h = some w) : ax_Met l G yX5_triesRing cX5_triesRing 5 none fr lo [va_rf x0, .int (Int32.ofInt x1), .int (Int32.ofInt x2)] h w none :=
  ax_enter [.inr (.inr x0), .inl x1, .inl x2] (y := yX5_triesRing) hSF (plainFor_of_name (by decide +kernel)) (Nat.le_of_ble_eq_true rfl) (fun X ls B Z hn hl => we_X5_triesRing hF hg0 hSF B Z hn x0 x1 x2 hl e rfl)
theorem mg_X5_triesRing (l : Launch) (G : ax_G) (hSF : ax_SF G) : ∀ n : Nat, (∀ (x0 : Option Nat) (x1 : Int) (x2 : Int) (h : ax_H) (w : ax_H), (rg_X5_triesRing G.2.2 n) x0 x1 x2 h = some w → ax_Met l G yX5_triesRing cX5_triesRing 5 none (3 + n) (87 + n * 24) [va_rf x0, .int (Int32.ofInt x1), .int (Int32.ofInt x2)] h w none)
  | 0 => fun _ _ _ _ _ e => (by cases e)
  | n + 1 => by
    have ih := mg_X5_triesRing l G hSF n
    exact fun x0 x1 x2 h w e => mt_X5_triesRing l G hSF (fr1 := 3 + n) (lo1 := 87 + n * 24) (by omega) (ih) x0 x1 x2 h w e
theorem mf_X5_triesRing (l : Launch) (G : ax_G) (hSF : ax_SF G) (n : Nat) (x0 : Option Nat) (x1 : Int) (x2 : Int) (h : ax_H) (w : ax_H) (e : fn_X5_triesRing G.2.2 n x0 x1 x2 h = some w) : ax_Met l G yX5_triesRing cX5_triesRing 5 none (3 + n) (87 + n * 24) [va_rf x0, .int (Int32.ofInt x1), .int (Int32.ofInt x2)] h w none := (mg_X5_triesRing l G hSF n) x0 x1 x2 h w e
def dkwX5_findsRing_1 : List UInt8 := [4, 27, 120, 182, 1, 196, 132, 1, 1, 167, 255, 230, 177]
abbrev dktX5_findsRing_1 : List UInt8 := dkwX5_findsRing_1 ++ []
def dkwX5_findsRing_0 : List UInt8 := [42, 3, 181, 1, 190, 3, 60, 27, 42, 182, 0, 133, 162, 0, 24, 42, 180, 0, 95, 3, 27, 79, 42, 4]
abbrev dktX5_findsRing_0 : List UInt8 := dkwX5_findsRing_0 ++ dktX5_findsRing_1
theorem dksX5_findsRing_0 : cX5_findsRing.data.toList.drop 0 = dktX5_findsRing_0 := by decide +kernel
theorem dksX5_findsRing_1 : cX5_findsRing.data.toList.drop 24 = dktX5_findsRing_1 := dk_seg dksX5_findsRing_0 24 rfl rfl
theorem dX5_findsRing_0 : decode cX5_findsRing 0 = .ok (.aload_n 0, 1) := dk_42 (dk_at dksX5_findsRing_0 0 rfl rfl)
theorem dX5_findsRing_1 : decode cX5_findsRing 1 = .ok (.iconst 0, 1) := dk_3 (dk_at dksX5_findsRing_0 1 rfl rfl)
theorem dX5_findsRing_2 : decode cX5_findsRing 2 = .ok (.putfield 446, 3) := dk_181 1 190 (dk_at dksX5_findsRing_0 2 rfl rfl)
theorem dX5_findsRing_5 : decode cX5_findsRing 5 = .ok (.iconst 0, 1) := dk_3 (dk_at dksX5_findsRing_0 5 rfl rfl)
theorem dX5_findsRing_6 : decode cX5_findsRing 6 = .ok (.istore_n 1, 1) := dk_60 (dk_at dksX5_findsRing_0 6 rfl rfl)
theorem dX5_findsRing_7 : decode cX5_findsRing 7 = .ok (.iload_n 1, 1) := dk_27 (dk_at dksX5_findsRing_0 7 rfl rfl)
theorem dX5_findsRing_8 : decode cX5_findsRing 8 = .ok (.aload_n 0, 1) := dk_42 (dk_at dksX5_findsRing_0 8 rfl rfl)
theorem dX5_findsRing_9 : decode cX5_findsRing 9 = .ok (.invokevirtual 133, 3) := dk_182 0 133 (dk_at dksX5_findsRing_0 9 rfl rfl)
theorem dX5_findsRing_12 : decode cX5_findsRing 12 = .ok (.if_icmp .ge 24, 3) := dk_162 0 24 (dk_at dksX5_findsRing_0 12 rfl rfl)
theorem dX5_findsRing_15 : decode cX5_findsRing 15 = .ok (.aload_n 0, 1) := dk_42 (dk_at dksX5_findsRing_0 15 rfl rfl)
theorem dX5_findsRing_16 : decode cX5_findsRing 16 = .ok (.getfield 95, 3) := dk_180 0 95 (dk_at dksX5_findsRing_0 16 rfl rfl)
theorem dX5_findsRing_19 : decode cX5_findsRing 19 = .ok (.iconst 0, 1) := dk_3 (dk_at dksX5_findsRing_0 19 rfl rfl)
theorem dX5_findsRing_20 : decode cX5_findsRing 20 = .ok (.iload_n 1, 1) := dk_27 (dk_at dksX5_findsRing_0 20 rfl rfl)
theorem dX5_findsRing_21 : decode cX5_findsRing 21 = .ok (.iastore, 1) := dk_79 (dk_at dksX5_findsRing_0 21 rfl rfl)
theorem dX5_findsRing_22 : decode cX5_findsRing 22 = .ok (.aload_n 0, 1) := dk_42 (dk_at dksX5_findsRing_0 22 rfl rfl)
theorem dX5_findsRing_23 : decode cX5_findsRing 23 = .ok (.iconst 1, 1) := dk_4 (dk_at dksX5_findsRing_0 23 rfl rfl)
theorem dX5_findsRing_24 : decode cX5_findsRing 24 = .ok (.iconst 1, 1) := dk_4 (dk_at dksX5_findsRing_1 0 rfl rfl)
theorem dX5_findsRing_25 : decode cX5_findsRing 25 = .ok (.iload_n 1, 1) := dk_27 (dk_at dksX5_findsRing_1 1 rfl rfl)
theorem dX5_findsRing_26 : decode cX5_findsRing 26 = .ok (.ishl, 1) := dk_120 (dk_at dksX5_findsRing_1 2 rfl rfl)
theorem dX5_findsRing_27 : decode cX5_findsRing 27 = .ok (.invokevirtual 452, 3) := dk_182 1 196 (dk_at dksX5_findsRing_1 3 rfl rfl)
theorem dX5_findsRing_30 : decode cX5_findsRing 30 = .ok (.iinc 1 1, 3) := dk_132 1 1 (dk_at dksX5_findsRing_1 6 rfl rfl)
theorem dX5_findsRing_33 : decode cX5_findsRing 33 = .ok (.goto (-26), 3) := dk_167 255 230 (dk_at dksX5_findsRing_1 9 rfl rfl)
theorem dX5_findsRing_36 : decode cX5_findsRing 36 = .ok (.return_, 1) := dk_177 (dk_at dksX5_findsRing_1 12 rfl rfl)
noncomputable def lb_X5_findsRing_7 (E : ax_E) (x0 : Option Nat) (x1 : Int) (h : ax_H) : Option ((Int × ax_H) ⊕ (ax_H)) :=
  (ax_ce E h x0 5).bind fun _ => (f_X5_people E x0 h).bind fun q1 =>
  if i2 x1 < i2 q1.1 then
    (ax_gR E q1.2 x0 5 41).bind fun v2 =>
    (ax_sto q1.2 v2 100 0 x1).bind fun h3 =>
    (ax_ce E h3 x0 5).bind fun _ => (fn_X5_triesRing E 64 x0 1 (ax_shl 1 x1) h3).bind fun h4 =>
    some (.inl ((x1 + 1), h4))
  else
    (some q1.2).map Sum.inr
noncomputable def f_X5_findsRing_7 (E : ax_E) (x0 : Option Nat) (x1 : Int) (h : ax_H) : Option (ax_H) :=
  ax_iter (fun s : Int × ax_H => lb_X5_findsRing_7 E x0 s.1 s.2) (x1, h)
noncomputable def f_X5_findsRing (E : ax_E) (x0 : Option Nat) (h : ax_H) : Option (ax_H) :=
  (ax_pI h x0 5 43 0).bind fun h1 =>
  f_X5_findsRing_7 E x0 0 h1
def pi_X5_findsRing_7 (G : ax_G) (X : ax_X) (Q : State → Prop) (x0 : Option Nat) : Int × ax_H → Prop := fun s => ∀ ls : Array Slot, ax_hl ls 2 [(0, .inr (.inr x0)), (1, .inl s.1)] → ax_W G X Q s.2 7 ls []
set_option maxHeartbeats 4000000 in
theorem wb_X5_findsRing_7 {l : Launch} {G : ax_G} {X : ax_X} {Q : State → Prop} {h0 h : ax_H} {ls : Array Slot} (hSF : ax_SF G) (B : ax_BL l G X cX5_findsRing 2 RX5 68 1647) (Z : ax_Z X h0 none) (hn : X.2.2.2.2.2.2.2.2.1.name = yX5_findsRing.name) (x0 : Option Nat) (x1 : Int) {w : (Int × ax_H) ⊕ (ax_H)} (hl : ax_hl ls 2 [(0, .inr (.inr x0)), (1, .inl x1)]) (e : lb_X5_findsRing_7 G.2.2 x0 x1 h = some w) (hp : (ax_PL (pi_X5_findsRing_7 G X Q x0) (fun w : ax_H => Q = ax_Q G X h0 w none)) w) : ax_W G X Q h 7 ls [] := by
  unfold lb_X5_findsRing_7 at e
  refine ax_iload_n B dX5_findsRing_7 rfl hl 1 rfl ?_
  refine ax_aload_n B dX5_findsRing_8 rfl hl 0 rfl ?_
  refine ax_ivI (y := yX5_people) (n := 0) (As := []) B kd5 (lw_V q2180 q2182 qs44 q133 q2183) (by decide +kernel) ⟨Nat.le_of_ble_eq_true rfl, Nat.le_of_ble_eq_true rfl⟩ (fun w1 e1 => mt_X5_people l G hSF x0 _ w1 e1) rfl hl.size (by simp only [List.map_cons, List.map_nil, List.sum_cons, List.sum_nil, va_rf_cat, ax_catI, ax_catL]; decide) dX5_findsRing_9 e (fun q1 e => ?_)
  refine ax_icmp_ge (tgt := 36) B dX5_findsRing_12 (by decide) e (fun e => ?_) (fun e => ?_)
  · refine ax_aload_n B dX5_findsRing_15 rfl hl 0 rfl ?_
    refine ax_getR B ff_X5_95_5 (fun _ _ => rfl) dX5_findsRing_16 e (fun v2 e => ?_)
    refine ax_iconst B dX5_findsRing_19 ?_
    refine ax_iload_n B dX5_findsRing_20 rfl hl 1 rfl ?_
    refine ax_iast B kd100 dX5_findsRing_21 e (fun h3 e => ?_)
    refine ax_aload_n B dX5_findsRing_22 rfl hl 0 rfl ?_
    refine ax_iconst B dX5_findsRing_23 ?_
    refine ax_iconst B dX5_findsRing_24 ?_
    refine ax_iload_n B dX5_findsRing_25 rfl hl 1 rfl ?_
    refine ax_ishl' B dX5_findsRing_26 ?_
    refine ax_ivV (y := yX5_triesRing) (n := 2) (As := [.int (Int32.ofInt 1), .int (Int32.ofInt (ax_shl 1 x1))]) B kd5 (lw_V q2621 q2623 qs116 q133 q2624) (by decide +kernel) ⟨Nat.le_of_ble_eq_true rfl, Nat.le_of_ble_eq_true rfl⟩ (fun w1 e1 => mf_X5_triesRing l G hSF 64 x0 1 (ax_shl 1 x1) _ w1 e1) rfl hl.size (by decide) dX5_findsRing_27 e (fun h4 e => ?_)
    refine ax_iinc (L' := [(1, .inl (x1 + 1)), (0, .inr (.inr x0))]) B dX5_findsRing_30 hl 1 rfl (by decide) rfl (fun ls hl => ?_)
    refine ax_goto (tgt := 7) B dX5_findsRing_33 (by decide) ?_
    cases e
    exact hp _ (hl.sub [1, 0] rfl)
  · obtain ⟨w, e9_1, rfl⟩ := Option.map_eq_some_iff.mp e
    have e := e9_1
    have e8 := e
    have hp : Q = _ := hp
    subst hp
    exact ax_return B Z dX5_findsRing_36 e8
theorem w_X5_findsRing_7 {l : Launch} {G : ax_G} {X : ax_X} {Q : State → Prop} {h0 h : ax_H} {ls : Array Slot} (hSF : ax_SF G) (B : ax_BL l G X cX5_findsRing 2 RX5 68 1647) (Z : ax_Z X h0 none) (hn : X.2.2.2.2.2.2.2.2.1.name = yX5_findsRing.name) (x0 : Option Nat) (x1 : Int) {w : ax_H} (hl : ax_hl ls 2 [(0, .inr (.inr x0)), (1, .inl x1)]) (e : f_X5_findsRing_7 G.2.2 x0 x1 h = some w) (hp : (fun w : ax_H => Q = ax_Q G X h0 w none) w) : ax_W G X Q h 7 ls [] :=
  ax_iter_W (Pin := pi_X5_findsRing_7 G X Q x0) (Pout := (fun w : ax_H => Q = ax_Q G X h0 w none)) (fun s w e hp ls hl => wb_X5_findsRing_7 hSF B Z hn x0 s.1 hl e hp) _ _ e hp ls hl
set_option maxHeartbeats 4000000 in
theorem we_X5_findsRing {l : Launch} {G : ax_G} {X : ax_X} {Q : State → Prop} {h0 h : ax_H} {ls : Array Slot} (hSF : ax_SF G) (B : ax_BL l G X cX5_findsRing 2 RX5 68 1647) (Z : ax_Z X h0 none) (hn : X.2.2.2.2.2.2.2.2.1.name = yX5_findsRing.name) (x0 : Option Nat) {w : ax_H} (hl : ax_hl ls 2 [(0, .inr (.inr x0))]) (e : f_X5_findsRing G.2.2 x0 h = some w) (hp : (fun w : ax_H => Q = ax_Q G X h0 w none) w) : ax_W G X Q h 0 ls [] := by
  unfold f_X5_findsRing at e
  refine ax_aload_n B dX5_findsRing_0 rfl hl 0 rfl ?_
  refine ax_iconst B dX5_findsRing_1 ?_
  refine ax_putI B ff_X5_446_5 (Or.inl rfl) rfl dX5_findsRing_2 e (fun h1 e => ?_)
  refine ax_iconst B dX5_findsRing_5 ?_
  refine ax_istore_n (L' := [(1, .inl 0), (0, .inr (.inr x0))]) B dX5_findsRing_6 rfl hl (by decide) rfl (fun ls hl => ?_)
  exact w_X5_findsRing_7 hSF B Z hn x0 0 (hl.sub [1, 0] rfl) e hp
theorem mt_X5_findsRing (l : Launch) (G : ax_G) (hSF : ax_SF G) (x0 : Option Nat) (h : ax_H) (w : ax_H) (e : f_X5_findsRing G.2.2 x0 h = some w) : ax_Met l G yX5_findsRing cX5_findsRing 2 none 68 1647 [va_rf x0] h w none :=
  ax_enter [.inr (.inr x0)] (y := yX5_findsRing) hSF (plainFor_of_name (by decide +kernel)) (Nat.le_of_ble_eq_true rfl) (fun X ls B Z hn hl => we_X5_findsRing hSF B Z hn x0 hl e rfl)
