set_option maxRecDepth 100000
def dkwX0_isLetter_0 : List UInt8 := [26, 16, 97, 161, 0, 13, 26, 16, 122, 163, 0, 7, 4, 167, 0, 4, 3, 172]
abbrev dktX0_isLetter_0 : List UInt8 := dkwX0_isLetter_0 ++ []
theorem dksX0_isLetter_0 : cX0_isLetter.data.toList.drop 0 = dktX0_isLetter_0 := by decide +kernel
theorem dX0_isLetter_0 : decode cX0_isLetter 0 = .ok (.iload_n 0, 1) := dk_26 (dk_at dksX0_isLetter_0 0 rfl rfl)
theorem dX0_isLetter_1 : decode cX0_isLetter 1 = .ok (.bipush 97, 2) := dk_16 97 (dk_at dksX0_isLetter_0 1 rfl rfl)
theorem dX0_isLetter_3 : decode cX0_isLetter 3 = .ok (.if_icmp .lt 13, 3) := dk_161 0 13 (dk_at dksX0_isLetter_0 3 rfl rfl)
theorem dX0_isLetter_6 : decode cX0_isLetter 6 = .ok (.iload_n 0, 1) := dk_26 (dk_at dksX0_isLetter_0 6 rfl rfl)
theorem dX0_isLetter_7 : decode cX0_isLetter 7 = .ok (.bipush 122, 2) := dk_16 122 (dk_at dksX0_isLetter_0 7 rfl rfl)
theorem dX0_isLetter_9 : decode cX0_isLetter 9 = .ok (.if_icmp .gt 7, 3) := dk_163 0 7 (dk_at dksX0_isLetter_0 9 rfl rfl)
theorem dX0_isLetter_12 : decode cX0_isLetter 12 = .ok (.iconst 1, 1) := dk_4 (dk_at dksX0_isLetter_0 12 rfl rfl)
theorem dX0_isLetter_13 : decode cX0_isLetter 13 = .ok (.goto 4, 3) := dk_167 0 4 (dk_at dksX0_isLetter_0 13 rfl rfl)
theorem dX0_isLetter_16 : decode cX0_isLetter 16 = .ok (.iconst 0, 1) := dk_3 (dk_at dksX0_isLetter_0 16 rfl rfl)
theorem dX0_isLetter_17 : decode cX0_isLetter 17 = .ok (.ireturn, 1) := dk_172 (dk_at dksX0_isLetter_0 17 rfl rfl)
noncomputable def f_X0_isLetter_16 (E : ax_E) (h : ax_H) : Option (Int × ax_H) :=
  some (0, h)
noncomputable def f_X0_isLetter (E : ax_E) (x0 : Int) (h : ax_H) : Option (Int × ax_H) :=
  if i2 x0 < i2 97 then
    f_X0_isLetter_16 E h
  else
    if i2 122 < i2 x0 then
      f_X0_isLetter_16 E h
    else
      some (1, h)
set_option maxHeartbeats 4000000 in
theorem w_X0_isLetter_16 {l : Launch} {G : ax_G} {X : ax_X} {Q : State → Prop} {h0 h : ax_H} {ls : Array Slot} (hSF : ax_SF G) (B : ax_BL l G X cX0_isLetter 1 RX0 1 40) (Z : ax_Z X h0 ((some FieldType.boolean))) (hn : X.2.2.2.2.2.2.2.2.1.name = yX0_isLetter.name) {w : Int × ax_H} (hl : ax_hl ls 1 []) (e : f_X0_isLetter_16 G.2.2 h = some w) (hp : (fun w : Int × ax_H => Q = ax_Q G X h0 w.2 (some (.int (Int32.ofInt w.1)))) w) : ax_W G X Q h 16 ls [] := by
  unfold f_X0_isLetter_16 at e
  refine ax_iconst B dX0_isLetter_16 ?_
  have e8 := e
  have hp : Q = _ := hp
  subst hp
  exact ax_zreturnL (by decide) B Z dX0_isLetter_17 e8
set_option maxHeartbeats 4000000 in
theorem we_X0_isLetter {l : Launch} {G : ax_G} {X : ax_X} {Q : State → Prop} {h0 h : ax_H} {ls : Array Slot} (hSF : ax_SF G) (B : ax_BL l G X cX0_isLetter 1 RX0 1 40) (Z : ax_Z X h0 ((some FieldType.boolean))) (hn : X.2.2.2.2.2.2.2.2.1.name = yX0_isLetter.name) (x0 : Int) {w : Int × ax_H} (hl : ax_hl ls 1 [(0, .inl x0)]) (e : f_X0_isLetter G.2.2 x0 h = some w) (hp : (fun w : Int × ax_H => Q = ax_Q G X h0 w.2 (some (.int (Int32.ofInt w.1)))) w) : ax_W G X Q h 0 ls [] := by
  unfold f_X0_isLetter at e
  refine ax_iload_n B dX0_isLetter_0 rfl hl 0 rfl ?_
  refine ax_bipush B dX0_isLetter_1 (by decide) ?_
  refine ax_icmp_lt (tgt := 16) B dX0_isLetter_3 (by decide) e (fun e => ?_) (fun e => ?_)
  · exact w_X0_isLetter_16 hSF B Z hn (hl.sub [] rfl) e hp
  · refine ax_iload_n B dX0_isLetter_6 rfl hl 0 rfl ?_
    refine ax_bipush B dX0_isLetter_7 (by decide) ?_
    refine ax_icmp_gt (tgt := 16) B dX0_isLetter_9 (by decide) e (fun e => ?_) (fun e => ?_)
    · exact w_X0_isLetter_16 hSF B Z hn (hl.sub [] rfl) e hp
    · refine ax_iconst B dX0_isLetter_12 ?_
      refine ax_goto (tgt := 17) B dX0_isLetter_13 (by decide) ?_
      have e8 := e
      have hp : Q = _ := hp
      subst hp
      exact ax_zreturnL (by decide) B Z dX0_isLetter_17 e8
theorem mt_X0_isLetter (l : Launch) (G : ax_G) (hSF : ax_SF G) (x0 : Int) (h : ax_H) (w : Int × ax_H) (e : f_X0_isLetter G.2.2 x0 h = some w) : ax_Met l G yX0_isLetter cX0_isLetter 1 ((some FieldType.boolean)) 1 40 [.int (Int32.ofInt x0)] h w.2 (some (.int (Int32.ofInt w.1))) :=
  ax_enter [.inl x0] (y := yX0_isLetter) hSF (plainFor_of_name (by decide +kernel)) (Nat.le_of_ble_eq_true rfl) (fun X ls B Z hn hl => we_X0_isLetter hSF B Z hn x0 hl e rfl)
def dkwX0_isDigit_0 : List UInt8 := [26, 16, 48, 161, 0, 13, 26, 16, 57, 163, 0, 7, 4, 167, 0, 4, 3, 172]
abbrev dktX0_isDigit_0 : List UInt8 := dkwX0_isDigit_0 ++ []
theorem dksX0_isDigit_0 : cX0_isDigit.data.toList.drop 0 = dktX0_isDigit_0 := by decide +kernel
theorem dX0_isDigit_0 : decode cX0_isDigit 0 = .ok (.iload_n 0, 1) := dk_26 (dk_at dksX0_isDigit_0 0 rfl rfl)
theorem dX0_isDigit_1 : decode cX0_isDigit 1 = .ok (.bipush 48, 2) := dk_16 48 (dk_at dksX0_isDigit_0 1 rfl rfl)
theorem dX0_isDigit_3 : decode cX0_isDigit 3 = .ok (.if_icmp .lt 13, 3) := dk_161 0 13 (dk_at dksX0_isDigit_0 3 rfl rfl)
theorem dX0_isDigit_6 : decode cX0_isDigit 6 = .ok (.iload_n 0, 1) := dk_26 (dk_at dksX0_isDigit_0 6 rfl rfl)
theorem dX0_isDigit_7 : decode cX0_isDigit 7 = .ok (.bipush 57, 2) := dk_16 57 (dk_at dksX0_isDigit_0 7 rfl rfl)
theorem dX0_isDigit_9 : decode cX0_isDigit 9 = .ok (.if_icmp .gt 7, 3) := dk_163 0 7 (dk_at dksX0_isDigit_0 9 rfl rfl)
theorem dX0_isDigit_12 : decode cX0_isDigit 12 = .ok (.iconst 1, 1) := dk_4 (dk_at dksX0_isDigit_0 12 rfl rfl)
theorem dX0_isDigit_13 : decode cX0_isDigit 13 = .ok (.goto 4, 3) := dk_167 0 4 (dk_at dksX0_isDigit_0 13 rfl rfl)
theorem dX0_isDigit_16 : decode cX0_isDigit 16 = .ok (.iconst 0, 1) := dk_3 (dk_at dksX0_isDigit_0 16 rfl rfl)
theorem dX0_isDigit_17 : decode cX0_isDigit 17 = .ok (.ireturn, 1) := dk_172 (dk_at dksX0_isDigit_0 17 rfl rfl)
noncomputable def f_X0_isDigit_16 (E : ax_E) (h : ax_H) : Option (Int × ax_H) :=
  some (0, h)
noncomputable def f_X0_isDigit (E : ax_E) (x0 : Int) (h : ax_H) : Option (Int × ax_H) :=
  if i2 x0 < i2 48 then
    f_X0_isDigit_16 E h
  else
    if i2 57 < i2 x0 then
      f_X0_isDigit_16 E h
    else
      some (1, h)
set_option maxHeartbeats 4000000 in
theorem w_X0_isDigit_16 {l : Launch} {G : ax_G} {X : ax_X} {Q : State → Prop} {h0 h : ax_H} {ls : Array Slot} (hSF : ax_SF G) (B : ax_BL l G X cX0_isDigit 1 RX0 1 40) (Z : ax_Z X h0 ((some FieldType.boolean))) (hn : X.2.2.2.2.2.2.2.2.1.name = yX0_isDigit.name) {w : Int × ax_H} (hl : ax_hl ls 1 []) (e : f_X0_isDigit_16 G.2.2 h = some w) (hp : (fun w : Int × ax_H => Q = ax_Q G X h0 w.2 (some (.int (Int32.ofInt w.1)))) w) : ax_W G X Q h 16 ls [] := by
  unfold f_X0_isDigit_16 at e
  refine ax_iconst B dX0_isDigit_16 ?_
  have e8 := e
  have hp : Q = _ := hp
  subst hp
  exact ax_zreturnL (by decide) B Z dX0_isDigit_17 e8
set_option maxHeartbeats 4000000 in
theorem we_X0_isDigit {l : Launch} {G : ax_G} {X : ax_X} {Q : State → Prop} {h0 h : ax_H} {ls : Array Slot} (hSF : ax_SF G) (B : ax_BL l G X cX0_isDigit 1 RX0 1 40) (Z : ax_Z X h0 ((some FieldType.boolean))) (hn : X.2.2.2.2.2.2.2.2.1.name = yX0_isDigit.name) (x0 : Int) {w : Int × ax_H} (hl : ax_hl ls 1 [(0, .inl x0)]) (e : f_X0_isDigit G.2.2 x0 h = some w) (hp : (fun w : Int × ax_H => Q = ax_Q G X h0 w.2 (some (.int (Int32.ofInt w.1)))) w) : ax_W G X Q h 0 ls [] := by
  unfold f_X0_isDigit at e
  refine ax_iload_n B dX0_isDigit_0 rfl hl 0 rfl ?_
  refine ax_bipush B dX0_isDigit_1 (by decide) ?_
  refine ax_icmp_lt (tgt := 16) B dX0_isDigit_3 (by decide) e (fun e => ?_) (fun e => ?_)
  · exact w_X0_isDigit_16 hSF B Z hn (hl.sub [] rfl) e hp
  · refine ax_iload_n B dX0_isDigit_6 rfl hl 0 rfl ?_
    refine ax_bipush B dX0_isDigit_7 (by decide) ?_
    refine ax_icmp_gt (tgt := 16) B dX0_isDigit_9 (by decide) e (fun e => ?_) (fun e => ?_)
    · exact w_X0_isDigit_16 hSF B Z hn (hl.sub [] rfl) e hp
    · refine ax_iconst B dX0_isDigit_12 ?_
      refine ax_goto (tgt := 17) B dX0_isDigit_13 (by decide) ?_
      have e8 := e
      have hp : Q = _ := hp
      subst hp
      exact ax_zreturnL (by decide) B Z dX0_isDigit_17 e8
theorem mt_X0_isDigit (l : Launch) (G : ax_G) (hSF : ax_SF G) (x0 : Int) (h : ax_H) (w : Int × ax_H) (e : f_X0_isDigit G.2.2 x0 h = some w) : ax_Met l G yX0_isDigit cX0_isDigit 1 ((some FieldType.boolean)) 1 40 [.int (Int32.ofInt x0)] h w.2 (some (.int (Int32.ofInt w.1))) :=
  ax_enter [.inl x0] (y := yX0_isDigit) hSF (plainFor_of_name (by decide +kernel)) (Nat.le_of_ble_eq_true rfl) (fun X ls B Z hn hl => we_X0_isDigit hSF B Z hn x0 hl e rfl)
def dkwX6_next_8 : List UInt8 := [181, 0, 49, 167, 255, 188, 177]
abbrev dktX6_next_8 : List UInt8 := dkwX6_next_8 ++ []
def dkwX6_next_7 : List UInt8 := [180, 0, 3, 180, 0, 52, 42, 180, 0, 49, 51, 184, 0, 60, 153, 0, 16, 42, 89, 180, 0, 49, 4, 96]
abbrev dktX6_next_7 : List UInt8 := dkwX6_next_7 ++ dktX6_next_8
def dkwX6_next_6 : List UInt8 := [180, 0, 3, 180, 0, 52, 42, 180, 0, 49, 51, 184, 0, 56, 154, 0, 25, 28, 153, 0, 34, 42]
abbrev dktX6_next_6 : List UInt8 := dkwX6_next_6 ++ dktX6_next_7
def dkwX6_next_5 : List UInt8 := [181, 0, 49, 42, 180, 0, 49, 42, 180, 0, 3, 180, 0, 46, 162, 0, 60, 27, 153, 0, 21, 42]
abbrev dktX6_next_5 : List UInt8 := dkwX6_next_5 ++ dktX6_next_6
def dkwX6_next_4 : List UInt8 := [180, 0, 3, 180, 0, 52, 42, 180, 0, 49, 51, 184, 0, 60, 61, 42, 89, 180, 0, 49, 4, 96]
abbrev dktX6_next_4 : List UInt8 := dkwX6_next_4 ++ dktX6_next_5
def dkwX6_next_3 : List UInt8 := [180, 0, 46, 160, 0, 4, 177, 42, 180, 0, 3, 180, 0, 52, 42, 180, 0, 49, 51, 184, 0, 56, 60, 42]
abbrev dktX6_next_3 : List UInt8 := dkwX6_next_3 ++ dktX6_next_4
def dkwX6_next_2 : List UInt8 := [181, 0, 42, 167, 255, 215, 42, 42, 180, 0, 42, 181, 0, 49, 42, 180, 0, 49, 42, 180, 0, 3]
abbrev dktX6_next_2 : List UInt8 := dkwX6_next_2 ++ dktX6_next_3
def dkwX6_next_1 : List UInt8 := [180, 0, 3, 180, 0, 52, 42, 180, 0, 42, 51, 16, 32, 160, 0, 16, 42, 89, 180, 0, 42, 4, 96]
abbrev dktX6_next_1 : List UInt8 := dkwX6_next_1 ++ dktX6_next_2
def dkwX6_next_0 : List UInt8 := [42, 42, 180, 0, 49, 181, 0, 42, 42, 180, 0, 42, 42, 180, 0, 3, 180, 0, 46, 162, 0, 33, 42]
abbrev dktX6_next_0 : List UInt8 := dkwX6_next_0 ++ dktX6_next_1
theorem dksX6_next_0 : cX6_next.data.toList.drop 0 = dktX6_next_0 := by decide +kernel
theorem dksX6_next_1 : cX6_next.data.toList.drop 23 = dktX6_next_1 := dk_seg dksX6_next_0 23 rfl rfl
theorem dksX6_next_2 : cX6_next.data.toList.drop 46 = dktX6_next_2 := dk_seg dksX6_next_1 23 rfl rfl
theorem dksX6_next_3 : cX6_next.data.toList.drop 68 = dktX6_next_3 := dk_seg dksX6_next_2 22 rfl rfl
theorem dksX6_next_4 : cX6_next.data.toList.drop 92 = dktX6_next_4 := dk_seg dksX6_next_3 24 rfl rfl
theorem dksX6_next_5 : cX6_next.data.toList.drop 114 = dktX6_next_5 := dk_seg dksX6_next_4 22 rfl rfl
theorem dksX6_next_6 : cX6_next.data.toList.drop 136 = dktX6_next_6 := dk_seg dksX6_next_5 22 rfl rfl
theorem dksX6_next_7 : cX6_next.data.toList.drop 158 = dktX6_next_7 := dk_seg dksX6_next_6 22 rfl rfl
theorem dksX6_next_8 : cX6_next.data.toList.drop 182 = dktX6_next_8 := dk_seg dksX6_next_7 24 rfl rfl
theorem dX6_next_0 : decode cX6_next 0 = .ok (.aload_n 0, 1) := dk_42 (dk_at dksX6_next_0 0 rfl rfl)
theorem dX6_next_1 : decode cX6_next 1 = .ok (.aload_n 0, 1) := dk_42 (dk_at dksX6_next_0 1 rfl rfl)
theorem dX6_next_2 : decode cX6_next 2 = .ok (.getfield 49, 3) := dk_180 0 49 (dk_at dksX6_next_0 2 rfl rfl)
theorem dX6_next_5 : decode cX6_next 5 = .ok (.putfield 42, 3) := dk_181 0 42 (dk_at dksX6_next_0 5 rfl rfl)
theorem dX6_next_8 : decode cX6_next 8 = .ok (.aload_n 0, 1) := dk_42 (dk_at dksX6_next_0 8 rfl rfl)
theorem dX6_next_9 : decode cX6_next 9 = .ok (.getfield 42, 3) := dk_180 0 42 (dk_at dksX6_next_0 9 rfl rfl)
theorem dX6_next_12 : decode cX6_next 12 = .ok (.aload_n 0, 1) := dk_42 (dk_at dksX6_next_0 12 rfl rfl)
theorem dX6_next_13 : decode cX6_next 13 = .ok (.getfield 3, 3) := dk_180 0 3 (dk_at dksX6_next_0 13 rfl rfl)
theorem dX6_next_16 : decode cX6_next 16 = .ok (.getfield 46, 3) := dk_180 0 46 (dk_at dksX6_next_0 16 rfl rfl)
theorem dX6_next_19 : decode cX6_next 19 = .ok (.if_icmp .ge 33, 3) := dk_162 0 33 (dk_at dksX6_next_0 19 rfl rfl)
theorem dX6_next_22 : decode cX6_next 22 = .ok (.aload_n 0, 1) := dk_42 (dk_at dksX6_next_0 22 rfl rfl)
theorem dX6_next_23 : decode cX6_next 23 = .ok (.getfield 3, 3) := dk_180 0 3 (dk_at dksX6_next_1 0 rfl rfl)
theorem dX6_next_26 : decode cX6_next 26 = .ok (.getfield 52, 3) := dk_180 0 52 (dk_at dksX6_next_1 3 rfl rfl)
theorem dX6_next_29 : decode cX6_next 29 = .ok (.aload_n 0, 1) := dk_42 (dk_at dksX6_next_1 6 rfl rfl)
theorem dX6_next_30 : decode cX6_next 30 = .ok (.getfield 42, 3) := dk_180 0 42 (dk_at dksX6_next_1 7 rfl rfl)
theorem dX6_next_33 : decode cX6_next 33 = .ok (.baload, 1) := dk_51 (dk_at dksX6_next_1 10 rfl rfl)
theorem dX6_next_34 : decode cX6_next 34 = .ok (.bipush 32, 2) := dk_16 32 (dk_at dksX6_next_1 11 rfl rfl)
theorem dX6_next_36 : decode cX6_next 36 = .ok (.if_icmp .ne 16, 3) := dk_160 0 16 (dk_at dksX6_next_1 13 rfl rfl)
theorem dX6_next_39 : decode cX6_next 39 = .ok (.aload_n 0, 1) := dk_42 (dk_at dksX6_next_1 16 rfl rfl)
theorem dX6_next_40 : decode cX6_next 40 = .ok (.dup, 1) := dk_89 (dk_at dksX6_next_1 17 rfl rfl)
theorem dX6_next_41 : decode cX6_next 41 = .ok (.getfield 42, 3) := dk_180 0 42 (dk_at dksX6_next_1 18 rfl rfl)
theorem dX6_next_44 : decode cX6_next 44 = .ok (.iconst 1, 1) := dk_4 (dk_at dksX6_next_1 21 rfl rfl)
theorem dX6_next_45 : decode cX6_next 45 = .ok (.iadd, 1) := dk_96 (dk_at dksX6_next_1 22 rfl rfl)
theorem dX6_next_46 : decode cX6_next 46 = .ok (.putfield 42, 3) := dk_181 0 42 (dk_at dksX6_next_2 0 rfl rfl)
theorem dX6_next_49 : decode cX6_next 49 = .ok (.goto (-41), 3) := dk_167 255 215 (dk_at dksX6_next_2 3 rfl rfl)
theorem dX6_next_52 : decode cX6_next 52 = .ok (.aload_n 0, 1) := dk_42 (dk_at dksX6_next_2 6 rfl rfl)
theorem dX6_next_53 : decode cX6_next 53 = .ok (.aload_n 0, 1) := dk_42 (dk_at dksX6_next_2 7 rfl rfl)
theorem dX6_next_54 : decode cX6_next 54 = .ok (.getfield 42, 3) := dk_180 0 42 (dk_at dksX6_next_2 8 rfl rfl)
theorem dX6_next_57 : decode cX6_next 57 = .ok (.putfield 49, 3) := dk_181 0 49 (dk_at dksX6_next_2 11 rfl rfl)
theorem dX6_next_60 : decode cX6_next 60 = .ok (.aload_n 0, 1) := dk_42 (dk_at dksX6_next_2 14 rfl rfl)
theorem dX6_next_61 : decode cX6_next 61 = .ok (.getfield 49, 3) := dk_180 0 49 (dk_at dksX6_next_2 15 rfl rfl)
theorem dX6_next_64 : decode cX6_next 64 = .ok (.aload_n 0, 1) := dk_42 (dk_at dksX6_next_2 18 rfl rfl)
theorem dX6_next_65 : decode cX6_next 65 = .ok (.getfield 3, 3) := dk_180 0 3 (dk_at dksX6_next_2 19 rfl rfl)
theorem dX6_next_68 : decode cX6_next 68 = .ok (.getfield 46, 3) := dk_180 0 46 (dk_at dksX6_next_3 0 rfl rfl)
theorem dX6_next_71 : decode cX6_next 71 = .ok (.if_icmp .ne 4, 3) := dk_160 0 4 (dk_at dksX6_next_3 3 rfl rfl)
theorem dX6_next_74 : decode cX6_next 74 = .ok (.return_, 1) := dk_177 (dk_at dksX6_next_3 6 rfl rfl)
theorem dX6_next_75 : decode cX6_next 75 = .ok (.aload_n 0, 1) := dk_42 (dk_at dksX6_next_3 7 rfl rfl)
theorem dX6_next_76 : decode cX6_next 76 = .ok (.getfield 3, 3) := dk_180 0 3 (dk_at dksX6_next_3 8 rfl rfl)
theorem dX6_next_79 : decode cX6_next 79 = .ok (.getfield 52, 3) := dk_180 0 52 (dk_at dksX6_next_3 11 rfl rfl)
theorem dX6_next_82 : decode cX6_next 82 = .ok (.aload_n 0, 1) := dk_42 (dk_at dksX6_next_3 14 rfl rfl)
theorem dX6_next_83 : decode cX6_next 83 = .ok (.getfield 49, 3) := dk_180 0 49 (dk_at dksX6_next_3 15 rfl rfl)
theorem dX6_next_86 : decode cX6_next 86 = .ok (.baload, 1) := dk_51 (dk_at dksX6_next_3 18 rfl rfl)
theorem dX6_next_87 : decode cX6_next 87 = .ok (.invokestatic 56, 3) := dk_184 0 56 (dk_at dksX6_next_3 19 rfl rfl)
theorem dX6_next_90 : decode cX6_next 90 = .ok (.istore_n 1, 1) := dk_60 (dk_at dksX6_next_3 22 rfl rfl)
theorem dX6_next_91 : decode cX6_next 91 = .ok (.aload_n 0, 1) := dk_42 (dk_at dksX6_next_3 23 rfl rfl)
theorem dX6_next_92 : decode cX6_next 92 = .ok (.getfield 3, 3) := dk_180 0 3 (dk_at dksX6_next_4 0 rfl rfl)
theorem dX6_next_95 : decode cX6_next 95 = .ok (.getfield 52, 3) := dk_180 0 52 (dk_at dksX6_next_4 3 rfl rfl)
theorem dX6_next_98 : decode cX6_next 98 = .ok (.aload_n 0, 1) := dk_42 (dk_at dksX6_next_4 6 rfl rfl)
theorem dX6_next_99 : decode cX6_next 99 = .ok (.getfield 49, 3) := dk_180 0 49 (dk_at dksX6_next_4 7 rfl rfl)
theorem dX6_next_102 : decode cX6_next 102 = .ok (.baload, 1) := dk_51 (dk_at dksX6_next_4 10 rfl rfl)
theorem dX6_next_103 : decode cX6_next 103 = .ok (.invokestatic 60, 3) := dk_184 0 60 (dk_at dksX6_next_4 11 rfl rfl)
theorem dX6_next_106 : decode cX6_next 106 = .ok (.istore_n 2, 1) := dk_61 (dk_at dksX6_next_4 14 rfl rfl)
theorem dX6_next_107 : decode cX6_next 107 = .ok (.aload_n 0, 1) := dk_42 (dk_at dksX6_next_4 15 rfl rfl)
theorem dX6_next_108 : decode cX6_next 108 = .ok (.dup, 1) := dk_89 (dk_at dksX6_next_4 16 rfl rfl)
theorem dX6_next_109 : decode cX6_next 109 = .ok (.getfield 49, 3) := dk_180 0 49 (dk_at dksX6_next_4 17 rfl rfl)
theorem dX6_next_112 : decode cX6_next 112 = .ok (.iconst 1, 1) := dk_4 (dk_at dksX6_next_4 20 rfl rfl)
theorem dX6_next_113 : decode cX6_next 113 = .ok (.iadd, 1) := dk_96 (dk_at dksX6_next_4 21 rfl rfl)
theorem dX6_next_114 : decode cX6_next 114 = .ok (.putfield 49, 3) := dk_181 0 49 (dk_at dksX6_next_5 0 rfl rfl)
theorem dX6_next_117 : decode cX6_next 117 = .ok (.aload_n 0, 1) := dk_42 (dk_at dksX6_next_5 3 rfl rfl)
theorem dX6_next_118 : decode cX6_next 118 = .ok (.getfield 49, 3) := dk_180 0 49 (dk_at dksX6_next_5 4 rfl rfl)
theorem dX6_next_121 : decode cX6_next 121 = .ok (.aload_n 0, 1) := dk_42 (dk_at dksX6_next_5 7 rfl rfl)
theorem dX6_next_122 : decode cX6_next 122 = .ok (.getfield 3, 3) := dk_180 0 3 (dk_at dksX6_next_5 8 rfl rfl)
theorem dX6_next_125 : decode cX6_next 125 = .ok (.getfield 46, 3) := dk_180 0 46 (dk_at dksX6_next_5 11 rfl rfl)
theorem dX6_next_128 : decode cX6_next 128 = .ok (.if_icmp .ge 60, 3) := dk_162 0 60 (dk_at dksX6_next_5 14 rfl rfl)
theorem dX6_next_131 : decode cX6_next 131 = .ok (.iload_n 1, 1) := dk_27 (dk_at dksX6_next_5 17 rfl rfl)
theorem dX6_next_132 : decode cX6_next 132 = .ok (.ifCond .eq 21, 3) := dk_153 0 21 (dk_at dksX6_next_5 18 rfl rfl)
theorem dX6_next_135 : decode cX6_next 135 = .ok (.aload_n 0, 1) := dk_42 (dk_at dksX6_next_5 21 rfl rfl)
theorem dX6_next_136 : decode cX6_next 136 = .ok (.getfield 3, 3) := dk_180 0 3 (dk_at dksX6_next_6 0 rfl rfl)
theorem dX6_next_139 : decode cX6_next 139 = .ok (.getfield 52, 3) := dk_180 0 52 (dk_at dksX6_next_6 3 rfl rfl)
theorem dX6_next_142 : decode cX6_next 142 = .ok (.aload_n 0, 1) := dk_42 (dk_at dksX6_next_6 6 rfl rfl)
theorem dX6_next_143 : decode cX6_next 143 = .ok (.getfield 49, 3) := dk_180 0 49 (dk_at dksX6_next_6 7 rfl rfl)
theorem dX6_next_146 : decode cX6_next 146 = .ok (.baload, 1) := dk_51 (dk_at dksX6_next_6 10 rfl rfl)
theorem dX6_next_147 : decode cX6_next 147 = .ok (.invokestatic 56, 3) := dk_184 0 56 (dk_at dksX6_next_6 11 rfl rfl)
theorem dX6_next_150 : decode cX6_next 150 = .ok (.ifCond .ne 25, 3) := dk_154 0 25 (dk_at dksX6_next_6 14 rfl rfl)
theorem dX6_next_153 : decode cX6_next 153 = .ok (.iload_n 2, 1) := dk_28 (dk_at dksX6_next_6 17 rfl rfl)
theorem dX6_next_154 : decode cX6_next 154 = .ok (.ifCond .eq 34, 3) := dk_153 0 34 (dk_at dksX6_next_6 18 rfl rfl)
theorem dX6_next_157 : decode cX6_next 157 = .ok (.aload_n 0, 1) := dk_42 (dk_at dksX6_next_6 21 rfl rfl)
theorem dX6_next_158 : decode cX6_next 158 = .ok (.getfield 3, 3) := dk_180 0 3 (dk_at dksX6_next_7 0 rfl rfl)
theorem dX6_next_161 : decode cX6_next 161 = .ok (.getfield 52, 3) := dk_180 0 52 (dk_at dksX6_next_7 3 rfl rfl)
theorem dX6_next_164 : decode cX6_next 164 = .ok (.aload_n 0, 1) := dk_42 (dk_at dksX6_next_7 6 rfl rfl)
theorem dX6_next_165 : decode cX6_next 165 = .ok (.getfield 49, 3) := dk_180 0 49 (dk_at dksX6_next_7 7 rfl rfl)
theorem dX6_next_168 : decode cX6_next 168 = .ok (.baload, 1) := dk_51 (dk_at dksX6_next_7 10 rfl rfl)
theorem dX6_next_169 : decode cX6_next 169 = .ok (.invokestatic 60, 3) := dk_184 0 60 (dk_at dksX6_next_7 11 rfl rfl)
theorem dX6_next_172 : decode cX6_next 172 = .ok (.ifCond .eq 16, 3) := dk_153 0 16 (dk_at dksX6_next_7 14 rfl rfl)
theorem dX6_next_175 : decode cX6_next 175 = .ok (.aload_n 0, 1) := dk_42 (dk_at dksX6_next_7 17 rfl rfl)
theorem dX6_next_176 : decode cX6_next 176 = .ok (.dup, 1) := dk_89 (dk_at dksX6_next_7 18 rfl rfl)
theorem dX6_next_177 : decode cX6_next 177 = .ok (.getfield 49, 3) := dk_180 0 49 (dk_at dksX6_next_7 19 rfl rfl)
theorem dX6_next_180 : decode cX6_next 180 = .ok (.iconst 1, 1) := dk_4 (dk_at dksX6_next_7 22 rfl rfl)
theorem dX6_next_181 : decode cX6_next 181 = .ok (.iadd, 1) := dk_96 (dk_at dksX6_next_7 23 rfl rfl)
theorem dX6_next_182 : decode cX6_next 182 = .ok (.putfield 49, 3) := dk_181 0 49 (dk_at dksX6_next_8 0 rfl rfl)
theorem dX6_next_185 : decode cX6_next 185 = .ok (.goto (-68), 3) := dk_167 255 188 (dk_at dksX6_next_8 3 rfl rfl)
theorem dX6_next_188 : decode cX6_next 188 = .ok (.return_, 1) := dk_177 (dk_at dksX6_next_8 6 rfl rfl)
noncomputable def f_X6_next_175 (E : ax_E) (x0 : Option Nat) (x1 : Int) (x2 : Int) (h : ax_H) : Option ((ax_H) ⊕ (ax_H)) :=
  (ax_gIs E h x0 [(25, 1), (7, 1)]).bind fun v1 =>
  (ax_pIs h x0 [(25, 1), (7, 1)] (v1 + 1)).bind fun h2 =>
  some (.inl h2)
noncomputable def f_X6_next_153 (E : ax_E) (x0 : Option Nat) (x1 : Int) (x2 : Int) (h : ax_H) : Option ((ax_H) ⊕ (ax_H)) :=
  if i2 x2 = 0 then
    (some h).map Sum.inr
  else
    (ax_gRs E h x0 [(25, 7), (7, 7)]).bind fun v1 =>
    (ax_gR E h v1 0 11).bind fun v2 =>
    (ax_gIs E h x0 [(25, 1), (7, 1)]).bind fun v3 =>
    (ax_ld E h v2 101 v3).bind fun v4 =>
    (f_X0_isDigit E v4 h).bind fun q5 =>
    if i2 q5.1 = 0 then
      (some q5.2).map Sum.inr
    else
      f_X6_next_175 E x0 x1 x2 q5.2
noncomputable def lb_X6_next_117 (E : ax_E) (x0 : Option Nat) (x1 : Int) (x2 : Int) (h : ax_H) : Option ((ax_H) ⊕ (ax_H)) :=
  (ax_gIs E h x0 [(25, 1), (7, 1)]).bind fun v1 =>
  (ax_gRs E h x0 [(25, 7), (7, 7)]).bind fun v2 =>
  (ax_gI E h v2 0 12).bind fun v3 =>
  if i2 v1 < i2 v3 then
    if i2 x1 = 0 then
      f_X6_next_153 E x0 x1 x2 h
    else
      (ax_gRs E h x0 [(25, 7), (7, 7)]).bind fun v4 =>
      (ax_gR E h v4 0 11).bind fun v5 =>
      (ax_gIs E h x0 [(25, 1), (7, 1)]).bind fun v6 =>
      (ax_ld E h v5 101 v6).bind fun v7 =>
      (f_X0_isLetter E v7 h).bind fun q8 =>
      if i2 q8.1 = 0 then
        f_X6_next_153 E x0 x1 x2 q8.2
      else
        f_X6_next_175 E x0 x1 x2 q8.2
  else
    (some h).map Sum.inr
noncomputable def f_X6_next_117 (E : ax_E) (x0 : Option Nat) (x1 : Int) (x2 : Int) (h : ax_H) : Option (ax_H) :=
  ax_iter (fun s : ax_H => lb_X6_next_117 E x0 x1 x2 s) h
noncomputable def f_X6_next_52 (E : ax_E) (x0 : Option Nat) (h : ax_H) : Option (ax_H) :=
  (ax_gIs E h x0 [(25, 0), (7, 0)]).bind fun v1 =>
  (ax_pIs h x0 [(25, 1), (7, 1)] v1).bind fun h2 =>
  (ax_gIs E h2 x0 [(25, 1), (7, 1)]).bind fun v3 =>
  (ax_gRs E h2 x0 [(25, 7), (7, 7)]).bind fun v4 =>
  (ax_gI E h2 v4 0 12).bind fun v5 =>
  if i2 v3 = i2 v5 then
    some h2
  else
    (ax_gRs E h2 x0 [(25, 7), (7, 7)]).bind fun v6 =>
    (ax_gR E h2 v6 0 11).bind fun v7 =>
    (ax_gIs E h2 x0 [(25, 1), (7, 1)]).bind fun v8 =>
    (ax_ld E h2 v7 101 v8).bind fun v9 =>
    (f_X0_isLetter E v9 h2).bind fun q10 =>
    (ax_gRs E q10.2 x0 [(25, 7), (7, 7)]).bind fun v11 =>
    (ax_gR E q10.2 v11 0 11).bind fun v12 =>
    (ax_gIs E q10.2 x0 [(25, 1), (7, 1)]).bind fun v13 =>
    (ax_ld E q10.2 v12 101 v13).bind fun v14 =>
    (f_X0_isDigit E v14 q10.2).bind fun q15 =>
    (ax_gIs E q15.2 x0 [(25, 1), (7, 1)]).bind fun v16 =>
    (ax_pIs q15.2 x0 [(25, 1), (7, 1)] (v16 + 1)).bind fun h17 =>
    f_X6_next_117 E x0 q10.1 q15.1 h17
noncomputable def lb_X6_next_8 (E : ax_E) (x0 : Option Nat) (h : ax_H) : Option ((ax_H) ⊕ (ax_H)) :=
  (ax_gIs E h x0 [(25, 0), (7, 0)]).bind fun v1 =>
  (ax_gRs E h x0 [(25, 7), (7, 7)]).bind fun v2 =>
  (ax_gI E h v2 0 12).bind fun v3 =>
  if i2 v1 < i2 v3 then
    (ax_gRs E h x0 [(25, 7), (7, 7)]).bind fun v4 =>
    (ax_gR E h v4 0 11).bind fun v5 =>
    (ax_gIs E h x0 [(25, 0), (7, 0)]).bind fun v6 =>
    (ax_ld E h v5 101 v6).bind fun v7 =>
    if i2 v7 = i2 32 then
      (ax_gIs E h x0 [(25, 0), (7, 0)]).bind fun v8 =>
      (ax_pIs h x0 [(25, 0), (7, 0)] (v8 + 1)).bind fun h9 =>
      some (.inl h9)
    else
      (f_X6_next_52 E x0 h).map Sum.inr
  else
    (f_X6_next_52 E x0 h).map Sum.inr
noncomputable def f_X6_next_8 (E : ax_E) (x0 : Option Nat) (h : ax_H) : Option (ax_H) :=
  ax_iter (fun s : ax_H => lb_X6_next_8 E x0 s) h
noncomputable def f_X6_next (E : ax_E) (x0 : Option Nat) (h : ax_H) : Option (ax_H) :=
  (ax_gIs E h x0 [(25, 1), (7, 1)]).bind fun v1 =>
  (ax_pIs h x0 [(25, 0), (7, 0)] v1).bind fun h2 =>
  f_X6_next_8 E x0 h2
def pi_X6_next_117 (G : ax_G) (X : ax_X) (Q : State → Prop) (x0 : Option Nat) (x1 : Int) (x2 : Int) : ax_H → Prop := fun s => ∀ ls : Array Slot, ax_hl ls 3 [(0, .inr (.inr x0)), (1, .inl x1), (2, .inl x2)] → ax_W G X Q s 117 ls []
def pi_X6_next_8 (G : ax_G) (X : ax_X) (Q : State → Prop) (x0 : Option Nat) : ax_H → Prop := fun s => ∀ ls : Array Slot, ax_hl ls 3 [(0, .inr (.inr x0))] → ax_W G X Q s 8 ls []
set_option maxHeartbeats 4000000 in
theorem w_X6_next_175 {l : Launch} {G : ax_G} {X : ax_X} {Q : State → Prop} {h0 h : ax_H} {ls : Array Slot} (hSF : ax_SF G) (B : ax_BL l G X cX6_next 3 RX6 2 60) (Z : ax_Z X h0 none) (hn : X.2.2.2.2.2.2.2.2.1.name = yX6_next.name) (x0 : Option Nat) (x1 : Int) (x2 : Int) {w : (ax_H) ⊕ (ax_H)} (hl : ax_hl ls 3 [(0, .inr (.inr x0)), (1, .inl x1), (2, .inl x2)]) (e : f_X6_next_175 G.2.2 x0 x1 x2 h = some w) (hp : (ax_PL (pi_X6_next_117 G X Q x0 x1 x2) (fun w : ax_H => Q = ax_Q G X h0 w none)) w) : ax_W G X Q h 175 ls [] := by
  unfold f_X6_next_175 at e
  refine ax_aload_n B dX6_next_175 rfl hl 0 rfl ?_
  refine ax_dup B dX6_next_176 (va_rf_cat _) ?_
  refine ax_getIs B fs_X6_49 (fun _ _ => rfl) dX6_next_177 e (fun v1 e => ?_)
  refine ax_iconst B dX6_next_180 ?_
  refine ax_iadd' B dX6_next_181 ?_
  refine ax_putIs B fs_X6_49 (Or.inl rfl) rfl dX6_next_182 e (fun h2 e => ?_)
  refine ax_goto (tgt := 117) B dX6_next_185 (by decide) ?_
  cases e
  exact hp _ (hl.sub [0, 1, 2] rfl)
set_option maxHeartbeats 4000000 in
theorem w_X6_next_153 {l : Launch} {G : ax_G} {X : ax_X} {Q : State → Prop} {h0 h : ax_H} {ls : Array Slot} (hSF : ax_SF G) (B : ax_BL l G X cX6_next 3 RX6 2 60) (Z : ax_Z X h0 none) (hn : X.2.2.2.2.2.2.2.2.1.name = yX6_next.name) (x0 : Option Nat) (x1 : Int) (x2 : Int) {w : (ax_H) ⊕ (ax_H)} (hl : ax_hl ls 3 [(0, .inr (.inr x0)), (1, .inl x1), (2, .inl x2)]) (e : f_X6_next_153 G.2.2 x0 x1 x2 h = some w) (hp : (ax_PL (pi_X6_next_117 G X Q x0 x1 x2) (fun w : ax_H => Q = ax_Q G X h0 w none)) w) : ax_W G X Q h 153 ls [] := by
  unfold f_X6_next_153 at e
  refine ax_iload_n B dX6_next_153 rfl hl 2 rfl ?_
  refine ax_if_eq (tgt := 188) B dX6_next_154 (by decide) e (fun e => ?_) (fun e => ?_)
  · obtain ⟨w, e9_1, rfl⟩ := Option.map_eq_some_iff.mp e
    have e := e9_1
    have e8 := e
    have hp : Q = _ := hp
    subst hp
    exact ax_return B Z dX6_next_188 e8
  · refine ax_aload_n B dX6_next_157 rfl hl 0 rfl ?_
    refine ax_getRs B fs_X6_3 (fun _ _ => rfl) dX6_next_158 e (fun v1 e => ?_)
    refine ax_getR B ff_X6_52_0 (fun _ _ => rfl) dX6_next_161 e (fun v2 e => ?_)
    refine ax_aload_n B dX6_next_164 rfl hl 0 rfl ?_
    refine ax_getIs B fs_X6_49 (fun _ _ => rfl) dX6_next_165 e (fun v3 e => ?_)
    refine ax_bald B kd101 dX6_next_168 e (fun v4 e => ?_)
    refine ax_isNI (y := yX0_isDigit) (n := 1) (As := [.int (Int32.ofInt v4)]) B q798 q799 q125 q800 (by decide +kernel) ⟨Nat.le_of_ble_eq_true rfl, Nat.le_of_ble_eq_true rfl⟩ (fun w1 e1 => mt_X0_isDigit l G hSF v4 _ w1 e1) rfl hl.size (by decide) dX6_next_169 e (fun q5 e => ?_)
    refine ax_if_eq (tgt := 188) B dX6_next_172 (by decide) e (fun e => ?_) (fun e => ?_)
    · obtain ⟨w, e9_2, rfl⟩ := Option.map_eq_some_iff.mp e
      have e := e9_2
      have e8 := e
      have hp : Q = _ := hp
      subst hp
      exact ax_return B Z dX6_next_188 e8
    · exact w_X6_next_175 hSF B Z hn x0 x1 x2 (hl.sub [0, 1, 2] rfl) e hp
set_option maxHeartbeats 4000000 in
theorem wb_X6_next_117 {l : Launch} {G : ax_G} {X : ax_X} {Q : State → Prop} {h0 h : ax_H} {ls : Array Slot} (hSF : ax_SF G) (B : ax_BL l G X cX6_next 3 RX6 2 60) (Z : ax_Z X h0 none) (hn : X.2.2.2.2.2.2.2.2.1.name = yX6_next.name) (x0 : Option Nat) (x1 : Int) (x2 : Int) {w : (ax_H) ⊕ (ax_H)} (hl : ax_hl ls 3 [(0, .inr (.inr x0)), (1, .inl x1), (2, .inl x2)]) (e : lb_X6_next_117 G.2.2 x0 x1 x2 h = some w) (hp : (ax_PL (pi_X6_next_117 G X Q x0 x1 x2) (fun w : ax_H => Q = ax_Q G X h0 w none)) w) : ax_W G X Q h 117 ls [] := by
  unfold lb_X6_next_117 at e
  refine ax_aload_n B dX6_next_117 rfl hl 0 rfl ?_
  refine ax_getIs B fs_X6_49 (fun _ _ => rfl) dX6_next_118 e (fun v1 e => ?_)
  refine ax_aload_n B dX6_next_121 rfl hl 0 rfl ?_
  refine ax_getRs B fs_X6_3 (fun _ _ => rfl) dX6_next_122 e (fun v2 e => ?_)
  refine ax_getI B ff_X6_46_0 (fun _ _ => rfl) dX6_next_125 e (fun v3 e => ?_)
  refine ax_icmp_ge (tgt := 188) B dX6_next_128 (by decide) e (fun e => ?_) (fun e => ?_)
  · refine ax_iload_n B dX6_next_131 rfl hl 1 rfl ?_
    refine ax_if_eq (tgt := 153) B dX6_next_132 (by decide) e (fun e => ?_) (fun e => ?_)
    · exact w_X6_next_153 hSF B Z hn x0 x1 x2 (hl.sub [0, 1, 2] rfl) e hp
    · refine ax_aload_n B dX6_next_135 rfl hl 0 rfl ?_
      refine ax_getRs B fs_X6_3 (fun _ _ => rfl) dX6_next_136 e (fun v4 e => ?_)
      refine ax_getR B ff_X6_52_0 (fun _ _ => rfl) dX6_next_139 e (fun v5 e => ?_)
      refine ax_aload_n B dX6_next_142 rfl hl 0 rfl ?_
      refine ax_getIs B fs_X6_49 (fun _ _ => rfl) dX6_next_143 e (fun v6 e => ?_)
      refine ax_bald B kd101 dX6_next_146 e (fun v7 e => ?_)
      refine ax_isNI (y := yX0_isLetter) (n := 1) (As := [.int (Int32.ofInt v7)]) B q795 q796 q125 q797 (by decide +kernel) ⟨Nat.le_of_ble_eq_true rfl, Nat.le_of_ble_eq_true rfl⟩ (fun w1 e1 => mt_X0_isLetter l G hSF v7 _ w1 e1) rfl hl.size (by decide) dX6_next_147 e (fun q8 e => ?_)
      refine ax_if_ne (tgt := 175) B dX6_next_150 (by decide) e (fun e => ?_) (fun e => ?_)
      · exact w_X6_next_153 hSF B Z hn x0 x1 x2 (hl.sub [0, 1, 2] rfl) e hp
      · exact w_X6_next_175 hSF B Z hn x0 x1 x2 (hl.sub [0, 1, 2] rfl) e hp
  · obtain ⟨w, e9_3, rfl⟩ := Option.map_eq_some_iff.mp e
    have e := e9_3
    have e8 := e
    have hp : Q = _ := hp
    subst hp
    exact ax_return B Z dX6_next_188 e8
theorem w_X6_next_117 {l : Launch} {G : ax_G} {X : ax_X} {Q : State → Prop} {h0 h : ax_H} {ls : Array Slot} (hSF : ax_SF G) (B : ax_BL l G X cX6_next 3 RX6 2 60) (Z : ax_Z X h0 none) (hn : X.2.2.2.2.2.2.2.2.1.name = yX6_next.name) (x0 : Option Nat) (x1 : Int) (x2 : Int) {w : ax_H} (hl : ax_hl ls 3 [(0, .inr (.inr x0)), (1, .inl x1), (2, .inl x2)]) (e : f_X6_next_117 G.2.2 x0 x1 x2 h = some w) (hp : (fun w : ax_H => Q = ax_Q G X h0 w none) w) : ax_W G X Q h 117 ls [] :=
  ax_iter_W (Pin := pi_X6_next_117 G X Q x0 x1 x2) (Pout := (fun w : ax_H => Q = ax_Q G X h0 w none)) (fun s w e hp ls hl => wb_X6_next_117 hSF B Z hn x0 x1 x2 hl e hp) _ _ e hp ls hl
set_option maxHeartbeats 4000000 in
theorem w_X6_next_52 {l : Launch} {G : ax_G} {X : ax_X} {Q : State → Prop} {h0 h : ax_H} {ls : Array Slot} (hSF : ax_SF G) (B : ax_BL l G X cX6_next 3 RX6 2 60) (Z : ax_Z X h0 none) (hn : X.2.2.2.2.2.2.2.2.1.name = yX6_next.name) (x0 : Option Nat) {w : ax_H} (hl : ax_hl ls 3 [(0, .inr (.inr x0))]) (e : f_X6_next_52 G.2.2 x0 h = some w) (hp : (fun w : ax_H => Q = ax_Q G X h0 w none) w) : ax_W G X Q h 52 ls [] := by
  unfold f_X6_next_52 at e
  refine ax_aload_n B dX6_next_52 rfl hl 0 rfl ?_
  refine ax_aload_n B dX6_next_53 rfl hl 0 rfl ?_
  refine ax_getIs B fs_X6_42 (fun _ _ => rfl) dX6_next_54 e (fun v1 e => ?_)
  refine ax_putIs B fs_X6_49 (Or.inl rfl) rfl dX6_next_57 e (fun h2 e => ?_)
  refine ax_aload_n B dX6_next_60 rfl hl 0 rfl ?_
  refine ax_getIs B fs_X6_49 (fun _ _ => rfl) dX6_next_61 e (fun v3 e => ?_)
  refine ax_aload_n B dX6_next_64 rfl hl 0 rfl ?_
  refine ax_getRs B fs_X6_3 (fun _ _ => rfl) dX6_next_65 e (fun v4 e => ?_)
  refine ax_getI B ff_X6_46_0 (fun _ _ => rfl) dX6_next_68 e (fun v5 e => ?_)
  refine ax_icmp_ne (tgt := 75) B dX6_next_71 (by decide) e (fun e => ?_) (fun e => ?_)
  · have e8 := e
    have hp : Q = _ := hp
    subst hp
    exact ax_return B Z dX6_next_74 e8
  · refine ax_aload_n B dX6_next_75 rfl hl 0 rfl ?_
    refine ax_getRs B fs_X6_3 (fun _ _ => rfl) dX6_next_76 e (fun v6 e => ?_)
    refine ax_getR B ff_X6_52_0 (fun _ _ => rfl) dX6_next_79 e (fun v7 e => ?_)
    refine ax_aload_n B dX6_next_82 rfl hl 0 rfl ?_
    refine ax_getIs B fs_X6_49 (fun _ _ => rfl) dX6_next_83 e (fun v8 e => ?_)
    refine ax_bald B kd101 dX6_next_86 e (fun v9 e => ?_)
    refine ax_isNI (y := yX0_isLetter) (n := 1) (As := [.int (Int32.ofInt v9)]) B q795 q796 q125 q797 (by decide +kernel) ⟨Nat.le_of_ble_eq_true rfl, Nat.le_of_ble_eq_true rfl⟩ (fun w1 e1 => mt_X0_isLetter l G hSF v9 _ w1 e1) rfl hl.size (by decide) dX6_next_87 e (fun q10 e => ?_)
    refine ax_istore_n (L' := [(1, .inl q10.1), (0, .inr (.inr x0))]) B dX6_next_90 rfl hl (by decide) rfl (fun ls hl => ?_)
    refine ax_aload_n B dX6_next_91 rfl hl 1 rfl ?_
    refine ax_getRs B fs_X6_3 (fun _ _ => rfl) dX6_next_92 e (fun v11 e => ?_)
    refine ax_getR B ff_X6_52_0 (fun _ _ => rfl) dX6_next_95 e (fun v12 e => ?_)
    refine ax_aload_n B dX6_next_98 rfl hl 1 rfl ?_
    refine ax_getIs B fs_X6_49 (fun _ _ => rfl) dX6_next_99 e (fun v13 e => ?_)
    refine ax_bald B kd101 dX6_next_102 e (fun v14 e => ?_)
    refine ax_isNI (y := yX0_isDigit) (n := 1) (As := [.int (Int32.ofInt v14)]) B q798 q799 q125 q800 (by decide +kernel) ⟨Nat.le_of_ble_eq_true rfl, Nat.le_of_ble_eq_true rfl⟩ (fun w1 e1 => mt_X0_isDigit l G hSF v14 _ w1 e1) rfl hl.size (by decide) dX6_next_103 e (fun q15 e => ?_)
    refine ax_istore_n (L' := [(2, .inl q15.1), (1, .inl q10.1), (0, .inr (.inr x0))]) B dX6_next_106 rfl hl (by decide) rfl (fun ls hl => ?_)
    refine ax_aload_n B dX6_next_107 rfl hl 2 rfl ?_
    refine ax_dup B dX6_next_108 (va_rf_cat _) ?_
    refine ax_getIs B fs_X6_49 (fun _ _ => rfl) dX6_next_109 e (fun v16 e => ?_)
    refine ax_iconst B dX6_next_112 ?_
    refine ax_iadd' B dX6_next_113 ?_
    refine ax_putIs B fs_X6_49 (Or.inl rfl) rfl dX6_next_114 e (fun h17 e => ?_)
    exact w_X6_next_117 hSF B Z hn x0 q10.1 q15.1 (hl.sub [2, 1, 0] rfl) e hp
set_option maxHeartbeats 4000000 in
theorem wb_X6_next_8 {l : Launch} {G : ax_G} {X : ax_X} {Q : State → Prop} {h0 h : ax_H} {ls : Array Slot} (hSF : ax_SF G) (B : ax_BL l G X cX6_next 3 RX6 2 60) (Z : ax_Z X h0 none) (hn : X.2.2.2.2.2.2.2.2.1.name = yX6_next.name) (x0 : Option Nat) {w : (ax_H) ⊕ (ax_H)} (hl : ax_hl ls 3 [(0, .inr (.inr x0))]) (e : lb_X6_next_8 G.2.2 x0 h = some w) (hp : (ax_PL (pi_X6_next_8 G X Q x0) (fun w : ax_H => Q = ax_Q G X h0 w none)) w) : ax_W G X Q h 8 ls [] := by
  unfold lb_X6_next_8 at e
  refine ax_aload_n B dX6_next_8 rfl hl 0 rfl ?_
  refine ax_getIs B fs_X6_42 (fun _ _ => rfl) dX6_next_9 e (fun v1 e => ?_)
  refine ax_aload_n B dX6_next_12 rfl hl 0 rfl ?_
  refine ax_getRs B fs_X6_3 (fun _ _ => rfl) dX6_next_13 e (fun v2 e => ?_)
  refine ax_getI B ff_X6_46_0 (fun _ _ => rfl) dX6_next_16 e (fun v3 e => ?_)
  refine ax_icmp_ge (tgt := 52) B dX6_next_19 (by decide) e (fun e => ?_) (fun e => ?_)
  · refine ax_aload_n B dX6_next_22 rfl hl 0 rfl ?_
    refine ax_getRs B fs_X6_3 (fun _ _ => rfl) dX6_next_23 e (fun v4 e => ?_)
    refine ax_getR B ff_X6_52_0 (fun _ _ => rfl) dX6_next_26 e (fun v5 e => ?_)
    refine ax_aload_n B dX6_next_29 rfl hl 0 rfl ?_
    refine ax_getIs B fs_X6_42 (fun _ _ => rfl) dX6_next_30 e (fun v6 e => ?_)
    refine ax_bald B kd101 dX6_next_33 e (fun v7 e => ?_)
    refine ax_bipush B dX6_next_34 (by decide) ?_
    refine ax_icmp_ne (tgt := 52) B dX6_next_36 (by decide) e (fun e => ?_) (fun e => ?_)
    · refine ax_aload_n B dX6_next_39 rfl hl 0 rfl ?_
      refine ax_dup B dX6_next_40 (va_rf_cat _) ?_
      refine ax_getIs B fs_X6_42 (fun _ _ => rfl) dX6_next_41 e (fun v8 e => ?_)
      refine ax_iconst B dX6_next_44 ?_
      refine ax_iadd' B dX6_next_45 ?_
      refine ax_putIs B fs_X6_42 (Or.inl rfl) rfl dX6_next_46 e (fun h9 e => ?_)
      refine ax_goto (tgt := 8) B dX6_next_49 (by decide) ?_
      cases e
      exact hp _ (hl.sub [0] rfl)
    · obtain ⟨w, e9_4, rfl⟩ := Option.map_eq_some_iff.mp e
      have e := e9_4
      exact w_X6_next_52 hSF B Z hn x0 (hl.sub [0] rfl) e hp
  · obtain ⟨w, e9_5, rfl⟩ := Option.map_eq_some_iff.mp e
    have e := e9_5
    exact w_X6_next_52 hSF B Z hn x0 (hl.sub [0] rfl) e hp
theorem w_X6_next_8 {l : Launch} {G : ax_G} {X : ax_X} {Q : State → Prop} {h0 h : ax_H} {ls : Array Slot} (hSF : ax_SF G) (B : ax_BL l G X cX6_next 3 RX6 2 60) (Z : ax_Z X h0 none) (hn : X.2.2.2.2.2.2.2.2.1.name = yX6_next.name) (x0 : Option Nat) {w : ax_H} (hl : ax_hl ls 3 [(0, .inr (.inr x0))]) (e : f_X6_next_8 G.2.2 x0 h = some w) (hp : (fun w : ax_H => Q = ax_Q G X h0 w none) w) : ax_W G X Q h 8 ls [] :=
  ax_iter_W (Pin := pi_X6_next_8 G X Q x0) (Pout := (fun w : ax_H => Q = ax_Q G X h0 w none)) (fun s w e hp ls hl => wb_X6_next_8 hSF B Z hn x0 hl e hp) _ _ e hp ls hl
set_option maxHeartbeats 4000000 in
theorem we_X6_next {l : Launch} {G : ax_G} {X : ax_X} {Q : State → Prop} {h0 h : ax_H} {ls : Array Slot} (hSF : ax_SF G) (B : ax_BL l G X cX6_next 3 RX6 2 60) (Z : ax_Z X h0 none) (hn : X.2.2.2.2.2.2.2.2.1.name = yX6_next.name) (x0 : Option Nat) {w : ax_H} (hl : ax_hl ls 3 [(0, .inr (.inr x0))]) (e : f_X6_next G.2.2 x0 h = some w) (hp : (fun w : ax_H => Q = ax_Q G X h0 w none) w) : ax_W G X Q h 0 ls [] := by
  unfold f_X6_next at e
  refine ax_aload_n B dX6_next_0 rfl hl 0 rfl ?_
  refine ax_aload_n B dX6_next_1 rfl hl 0 rfl ?_
  refine ax_getIs B fs_X6_49 (fun _ _ => rfl) dX6_next_2 e (fun v1 e => ?_)
  refine ax_putIs B fs_X6_42 (Or.inl rfl) rfl dX6_next_5 e (fun h2 e => ?_)
  exact w_X6_next_8 hSF B Z hn x0 (hl.sub [0] rfl) e hp
theorem mt_X6_next (l : Launch) (G : ax_G) (hSF : ax_SF G) (x0 : Option Nat) (h : ax_H) (w : ax_H) (e : f_X6_next G.2.2 x0 h = some w) : ax_Met l G yX6_next cX6_next 3 none 2 60 [va_rf x0] h w none :=
  ax_enter [.inr (.inr x0)] (y := yX6_next) hSF (plainFor_of_name (by decide +kernel)) (Nat.le_of_ble_eq_true rfl) (fun X ls B Z hn hl => we_X6_next hSF B Z hn x0 hl e rfl)
def dkwJ6_init_3_2 : List UInt8 := [44, 181, 0, 7, 29, 154, 0, 8, 42, 1, 181, 0, 24, 177]
abbrev dktJ6_init_3_2 : List UInt8 := dkwJ6_init_3_2 ++ []
def dkwJ6_init_3_1 : List UInt8 := [21, 4, 153, 0, 11, 42, 182, 0, 27, 87, 167, 0, 8, 42, 1, 181, 0, 17, 42, 43, 181, 0, 31, 42]
abbrev dktJ6_init_3_1 : List UInt8 := dkwJ6_init_3_1 ++ dktJ6_init_3_2
def dkwJ6_init_3_0 : List UInt8 := [42, 183, 0, 1, 42, 42, 181, 0, 7, 42, 178, 0, 13, 181, 0, 17, 42, 178, 0, 20, 181, 0, 24]
abbrev dktJ6_init_3_0 : List UInt8 := dkwJ6_init_3_0 ++ dktJ6_init_3_1
theorem dksJ6_init_3_0 : cJ6_init_3.data.toList.drop 0 = dktJ6_init_3_0 := by decide +kernel
theorem dksJ6_init_3_1 : cJ6_init_3.data.toList.drop 23 = dktJ6_init_3_1 := dk_seg dksJ6_init_3_0 23 rfl rfl
theorem dksJ6_init_3_2 : cJ6_init_3.data.toList.drop 47 = dktJ6_init_3_2 := dk_seg dksJ6_init_3_1 24 rfl rfl
theorem dJ6_init_3_0 : decode cJ6_init_3 0 = .ok (.aload_n 0, 1) := dk_42 (dk_at dksJ6_init_3_0 0 rfl rfl)
theorem dJ6_init_3_1 : decode cJ6_init_3 1 = .ok (.invokespecial 1, 3) := dk_183 0 1 (dk_at dksJ6_init_3_0 1 rfl rfl)
theorem dJ6_init_3_4 : decode cJ6_init_3 4 = .ok (.aload_n 0, 1) := dk_42 (dk_at dksJ6_init_3_0 4 rfl rfl)
theorem dJ6_init_3_5 : decode cJ6_init_3 5 = .ok (.aload_n 0, 1) := dk_42 (dk_at dksJ6_init_3_0 5 rfl rfl)
theorem dJ6_init_3_6 : decode cJ6_init_3 6 = .ok (.putfield 7, 3) := dk_181 0 7 (dk_at dksJ6_init_3_0 6 rfl rfl)
theorem dJ6_init_3_9 : decode cJ6_init_3 9 = .ok (.aload_n 0, 1) := dk_42 (dk_at dksJ6_init_3_0 9 rfl rfl)
theorem dJ6_init_3_10 : decode cJ6_init_3 10 = .ok (.getstatic 13, 3) := dk_178 0 13 (dk_at dksJ6_init_3_0 10 rfl rfl)
theorem dJ6_init_3_13 : decode cJ6_init_3 13 = .ok (.putfield 17, 3) := dk_181 0 17 (dk_at dksJ6_init_3_0 13 rfl rfl)
theorem dJ6_init_3_16 : decode cJ6_init_3 16 = .ok (.aload_n 0, 1) := dk_42 (dk_at dksJ6_init_3_0 16 rfl rfl)
theorem dJ6_init_3_17 : decode cJ6_init_3 17 = .ok (.getstatic 20, 3) := dk_178 0 20 (dk_at dksJ6_init_3_0 17 rfl rfl)
theorem dJ6_init_3_20 : decode cJ6_init_3 20 = .ok (.putfield 24, 3) := dk_181 0 24 (dk_at dksJ6_init_3_0 20 rfl rfl)
theorem dJ6_init_3_23 : decode cJ6_init_3 23 = .ok (.iload 4, 2) := dk_21 4 (dk_at dksJ6_init_3_1 0 rfl rfl)
theorem dJ6_init_3_25 : decode cJ6_init_3 25 = .ok (.ifCond .eq 11, 3) := dk_153 0 11 (dk_at dksJ6_init_3_1 2 rfl rfl)
theorem dJ6_init_3_28 : decode cJ6_init_3 28 = .ok (.aload_n 0, 1) := dk_42 (dk_at dksJ6_init_3_1 5 rfl rfl)
theorem dJ6_init_3_29 : decode cJ6_init_3 29 = .ok (.invokevirtual 27, 3) := dk_182 0 27 (dk_at dksJ6_init_3_1 6 rfl rfl)
theorem dJ6_init_3_32 : decode cJ6_init_3 32 = .ok (.pop, 1) := dk_87 (dk_at dksJ6_init_3_1 9 rfl rfl)
theorem dJ6_init_3_33 : decode cJ6_init_3 33 = .ok (.goto 8, 3) := dk_167 0 8 (dk_at dksJ6_init_3_1 10 rfl rfl)
theorem dJ6_init_3_36 : decode cJ6_init_3 36 = .ok (.aload_n 0, 1) := dk_42 (dk_at dksJ6_init_3_1 13 rfl rfl)
theorem dJ6_init_3_37 : decode cJ6_init_3 37 = .ok (.aconst_null, 1) := dk_1 (dk_at dksJ6_init_3_1 14 rfl rfl)
theorem dJ6_init_3_38 : decode cJ6_init_3 38 = .ok (.putfield 17, 3) := dk_181 0 17 (dk_at dksJ6_init_3_1 15 rfl rfl)
theorem dJ6_init_3_41 : decode cJ6_init_3 41 = .ok (.aload_n 0, 1) := dk_42 (dk_at dksJ6_init_3_1 18 rfl rfl)
theorem dJ6_init_3_42 : decode cJ6_init_3 42 = .ok (.aload_n 1, 1) := dk_43 (dk_at dksJ6_init_3_1 19 rfl rfl)
theorem dJ6_init_3_43 : decode cJ6_init_3 43 = .ok (.putfield 31, 3) := dk_181 0 31 (dk_at dksJ6_init_3_1 20 rfl rfl)
theorem dJ6_init_3_46 : decode cJ6_init_3 46 = .ok (.aload_n 0, 1) := dk_42 (dk_at dksJ6_init_3_1 23 rfl rfl)
theorem dJ6_init_3_47 : decode cJ6_init_3 47 = .ok (.aload_n 2, 1) := dk_44 (dk_at dksJ6_init_3_2 0 rfl rfl)
theorem dJ6_init_3_48 : decode cJ6_init_3 48 = .ok (.putfield 7, 3) := dk_181 0 7 (dk_at dksJ6_init_3_2 1 rfl rfl)
theorem dJ6_init_3_51 : decode cJ6_init_3 51 = .ok (.iload_n 3, 1) := dk_29 (dk_at dksJ6_init_3_2 4 rfl rfl)
theorem dJ6_init_3_52 : decode cJ6_init_3 52 = .ok (.ifCond .ne 8, 3) := dk_154 0 8 (dk_at dksJ6_init_3_2 5 rfl rfl)
theorem dJ6_init_3_55 : decode cJ6_init_3 55 = .ok (.aload_n 0, 1) := dk_42 (dk_at dksJ6_init_3_2 8 rfl rfl)
theorem dJ6_init_3_56 : decode cJ6_init_3 56 = .ok (.aconst_null, 1) := dk_1 (dk_at dksJ6_init_3_2 9 rfl rfl)
theorem dJ6_init_3_57 : decode cJ6_init_3 57 = .ok (.putfield 24, 3) := dk_181 0 24 (dk_at dksJ6_init_3_2 10 rfl rfl)
theorem dJ6_init_3_60 : decode cJ6_init_3 60 = .ok (.return_, 1) := dk_177 (dk_at dksJ6_init_3_2 13 rfl rfl)
noncomputable def f_J6_init_3 (E : ax_E) (x0 : Option Nat) (x1 : Option Nat) (x2 : Option Nat) (x3 : Int) (x4 : Int) (h : ax_H) : Option (ax_H) :=
  x0.bind fun _ =>
  (ax_pRs h x0 [(46, 0), (8, 0)] x0).bind fun h1 =>
  (ax_cso E 2).bind fun v2 =>
  (ax_pRs h1 x0 [(46, 1), (8, 1)] v2).bind fun h3 =>
  (ax_cso E 3).bind fun v4 =>
  (ax_pRs h3 x0 [(46, 2), (8, 2)] v4).bind fun h5 =>
  if i2 x4 = 0 then
    (ax_pRs h5 x0 [(46, 1), (8, 1)] none).bind fun h6 =>
    (ax_pRs h6 x0 [(46, 3), (8, 3)] x1).bind fun h7 =>
    (ax_pRs h7 x0 [(46, 0), (8, 0)] x2).bind fun h8 =>
    if i2 x3 = 0 then
      (ax_pRs h8 x0 [(46, 2), (8, 2)] none).bind fun h9 =>
      some h9
    else
      some h8
  else
    none
set_option maxHeartbeats 4000000 in
theorem we_J6_init_3 {l : Launch} {G : ax_G} {X : ax_X} {Q : State → Prop} {h0 h : ax_H} {ls : Array Slot} (hSF : ax_SF G) (B : ax_BL l G X cJ6_init_3 5 RJ6 1 40) (Z : ax_Z X h0 none) (hn : X.2.2.2.2.2.2.2.2.1.name = yJ6_init_3.name) (x0 : Option Nat) (x1 : Option Nat) (x2 : Option Nat) (x3 : Int) (x4 : Int) {w : ax_H} (hl : ax_hl ls 5 [(0, .inr (.inr x0)), (1, .inr (.inr x1)), (2, .inr (.inr x2)), (3, .inl x3), (4, .inl x4)]) (e : f_J6_init_3 G.2.2 x0 x1 x2 x3 x4 h = some w) (hp : (fun w : ax_H => Q = ax_Q G X h0 w none) w) : ax_W G X Q h 0 ls [] := by
  unfold f_J6_init_3 at e
  refine ax_aload_n B dJ6_init_3_0 rfl hl 0 rfl ?_
  refine ax_oiR B q636 q183 q184 hl.size (by decide) (by decide) dJ6_init_3_1 e (fun e => ?_)
  refine ax_aload_n B dJ6_init_3_4 rfl hl 0 rfl ?_
  refine ax_aload_n B dJ6_init_3_5 rfl hl 0 rfl ?_
  refine ax_putRs B fs_J6_7 (Or.inl rfl) rfl dJ6_init_3_6 e (fun h1 e => ?_)
  refine ax_aload_n B dJ6_init_3_9 rfl hl 0 rfl ?_
  refine ax_gst B (ax_sx B).1.2.2.1 q637 (Or.inl rfl) dJ6_init_3_10 e (fun v2 e => ?_)
  refine ax_putRs B fs_J6_17 (Or.inl rfl) rfl dJ6_init_3_13 e (fun h3 e => ?_)
  refine ax_aload_n B dJ6_init_3_16 rfl hl 0 rfl ?_
  refine ax_gst B (ax_sx B).1.2.2.2.1 q639 (Or.inl rfl) dJ6_init_3_17 e (fun v4 e => ?_)
  refine ax_putRs B fs_J6_24 (Or.inl rfl) rfl dJ6_init_3_20 e (fun h5 e => ?_)
  refine ax_iload B dJ6_init_3_23 hl 4 rfl ?_
  refine ax_if_eq (tgt := 36) B dJ6_init_3_25 (by decide) e (fun e => ?_) (fun e => ?_)
  · refine ax_aload_n B dJ6_init_3_36 rfl hl 0 rfl ?_
    refine ax_null B dJ6_init_3_37 ?_
    refine ax_putRs B fs_J6_17 (Or.inl rfl) rfl dJ6_init_3_38 e (fun h6 e => ?_)
    refine ax_aload_n B dJ6_init_3_41 rfl hl 0 rfl ?_
    refine ax_aload_n B dJ6_init_3_42 rfl hl 1 rfl ?_
    refine ax_putRs B fs_J6_31 (Or.inl rfl) rfl dJ6_init_3_43 e (fun h7 e => ?_)
    refine ax_aload_n B dJ6_init_3_46 rfl hl 0 rfl ?_
    refine ax_aload_n B dJ6_init_3_47 rfl hl 2 rfl ?_
    refine ax_putRs B fs_J6_7 (Or.inl rfl) rfl dJ6_init_3_48 e (fun h8 e => ?_)
    refine ax_iload_n B dJ6_init_3_51 rfl hl 3 rfl ?_
    refine ax_if_ne (tgt := 60) B dJ6_init_3_52 (by decide) e (fun e => ?_) (fun e => ?_)
    · refine ax_aload_n B dJ6_init_3_55 rfl hl 0 rfl ?_
      refine ax_null B dJ6_init_3_56 ?_
      refine ax_putRs B fs_J6_24 (Or.inl rfl) rfl dJ6_init_3_57 e (fun h9 e => ?_)
      have e8 := e
      have hp : Q = _ := hp
      subst hp
      exact ax_return B Z dJ6_init_3_60 e8
    · have e8 := e
      have hp : Q = _ := hp
      subst hp
      exact ax_return B Z dJ6_init_3_60 e8
  · refine ax_aload_n B dJ6_init_3_28 rfl hl 0 rfl ?_
    cases e
theorem mt_J6_init_3 (l : Launch) (G : ax_G) (hSF : ax_SF G) (x0 : Option Nat) (x1 : Option Nat) (x2 : Option Nat) (x3 : Int) (x4 : Int) (h : ax_H) (w : ax_H) (e : f_J6_init_3 G.2.2 x0 x1 x2 x3 x4 h = some w) : ax_Met l G yJ6_init_3 cJ6_init_3 5 none 1 40 [va_rf x0, va_rf x1, va_rf x2, .int (Int32.ofInt x3), .int (Int32.ofInt x4)] h w none :=
  ax_enter [.inr (.inr x0), .inr (.inr x1), .inr (.inr x2), .inl x3, .inl x4] (y := yJ6_init_3) hSF (plainFor_of_name (by decide +kernel)) (Nat.le_of_ble_eq_true rfl) (fun X ls B Z hn hl => we_J6_init_3 hSF B Z hn x0 x1 x2 x3 x4 hl e rfl)
def dkwJ7_init_2_0 : List UInt8 := [42, 43, 44, 29, 21, 4, 183, 0, 16, 177]
abbrev dktJ7_init_2_0 : List UInt8 := dkwJ7_init_2_0 ++ []
theorem dksJ7_init_2_0 : cJ7_init_2.data.toList.drop 0 = dktJ7_init_2_0 := by decide +kernel
theorem dJ7_init_2_0 : decode cJ7_init_2 0 = .ok (.aload_n 0, 1) := dk_42 (dk_at dksJ7_init_2_0 0 rfl rfl)
theorem dJ7_init_2_1 : decode cJ7_init_2 1 = .ok (.aload_n 1, 1) := dk_43 (dk_at dksJ7_init_2_0 1 rfl rfl)
theorem dJ7_init_2_2 : decode cJ7_init_2 2 = .ok (.aload_n 2, 1) := dk_44 (dk_at dksJ7_init_2_0 2 rfl rfl)
theorem dJ7_init_2_3 : decode cJ7_init_2 3 = .ok (.iload_n 3, 1) := dk_29 (dk_at dksJ7_init_2_0 3 rfl rfl)
theorem dJ7_init_2_4 : decode cJ7_init_2 4 = .ok (.iload 4, 2) := dk_21 4 (dk_at dksJ7_init_2_0 4 rfl rfl)
theorem dJ7_init_2_6 : decode cJ7_init_2 6 = .ok (.invokespecial 16, 3) := dk_183 0 16 (dk_at dksJ7_init_2_0 6 rfl rfl)
theorem dJ7_init_2_9 : decode cJ7_init_2 9 = .ok (.return_, 1) := dk_177 (dk_at dksJ7_init_2_0 9 rfl rfl)
noncomputable def f_J7_init_2 (E : ax_E) (x0 : Option Nat) (x1 : Option Nat) (x2 : Option Nat) (x3 : Int) (x4 : Int) (h : ax_H) : Option (ax_H) :=
  x0.bind fun _ => (f_J6_init_3 E x0 x1 x2 x3 x4 h).bind fun h1 =>
  some h1
set_option maxHeartbeats 4000000 in
theorem we_J7_init_2 {l : Launch} {G : ax_G} {X : ax_X} {Q : State → Prop} {h0 h : ax_H} {ls : Array Slot} (hSF : ax_SF G) (B : ax_BL l G X cJ7_init_2 5 RJ7 2 64) (Z : ax_Z X h0 none) (hn : X.2.2.2.2.2.2.2.2.1.name = yJ7_init_2.name) (x0 : Option Nat) (x1 : Option Nat) (x2 : Option Nat) (x3 : Int) (x4 : Int) {w : ax_H} (hl : ax_hl ls 5 [(0, .inr (.inr x0)), (1, .inr (.inr x1)), (2, .inr (.inr x2)), (3, .inl x3), (4, .inl x4)]) (e : f_J7_init_2 G.2.2 x0 x1 x2 x3 x4 h = some w) (hp : (fun w : ax_H => Q = ax_Q G X h0 w none) w) : ax_W G X Q h 0 ls [] := by
  unfold f_J7_init_2 at e
  refine ax_aload_n B dJ7_init_2_0 rfl hl 0 rfl ?_
  refine ax_aload_n B dJ7_init_2_1 rfl hl 1 rfl ?_
  refine ax_aload_n B dJ7_init_2_2 rfl hl 2 rfl ?_
  refine ax_iload_n B dJ7_init_2_3 rfl hl 3 rfl ?_
  refine ax_iload B dJ7_init_2_4 hl 4 rfl ?_
  refine ax_iiR (y := yJ6_init_3) (n := 4) (As := [va_rf x1, va_rf x2, .int (Int32.ofInt x3), .int (Int32.ofInt x4)]) B q822 q823 q137 q824 rfl (by decide +kernel) ⟨Nat.le_of_ble_eq_true rfl, Nat.le_of_ble_eq_true rfl⟩ (fun w1 e1 => mt_J6_init_3 l G hSF x0 x1 x2 x3 x4 _ w1 e1) rfl hl.size (by decide) dJ7_init_2_6 e (fun h1 e => ?_)
  have e8 := e
  have hp : Q = _ := hp
  subst hp
  exact ax_return B Z dJ7_init_2_9 e8
theorem mt_J7_init_2 (l : Launch) (G : ax_G) (hSF : ax_SF G) (x0 : Option Nat) (x1 : Option Nat) (x2 : Option Nat) (x3 : Int) (x4 : Int) (h : ax_H) (w : ax_H) (e : f_J7_init_2 G.2.2 x0 x1 x2 x3 x4 h = some w) : ax_Met l G yJ7_init_2 cJ7_init_2 5 none 2 64 [va_rf x0, va_rf x1, va_rf x2, .int (Int32.ofInt x3), .int (Int32.ofInt x4)] h w none :=
  ax_enter [.inr (.inr x0), .inr (.inr x1), .inr (.inr x2), .inl x3, .inl x4] (y := yJ7_init_2) hSF (plainFor_of_name (by decide +kernel)) (Nat.le_of_ble_eq_true rfl) (fun X ls B Z hn hl => we_J7_init_2 hSF B Z hn x0 x1 x2 x3 x4 hl e rfl)
def dkwX8_init_0 : List UInt8 := [42, 1, 1, 3, 3, 183, 0, 1, 42, 27, 181, 0, 7, 177]
abbrev dktX8_init_0 : List UInt8 := dkwX8_init_0 ++ []
theorem dksX8_init_0 : cX8_init.data.toList.drop 0 = dktX8_init_0 := by decide +kernel
theorem dX8_init_0 : decode cX8_init 0 = .ok (.aload_n 0, 1) := dk_42 (dk_at dksX8_init_0 0 rfl rfl)
theorem dX8_init_1 : decode cX8_init 1 = .ok (.aconst_null, 1) := dk_1 (dk_at dksX8_init_0 1 rfl rfl)
theorem dX8_init_2 : decode cX8_init 2 = .ok (.aconst_null, 1) := dk_1 (dk_at dksX8_init_0 2 rfl rfl)
theorem dX8_init_3 : decode cX8_init 3 = .ok (.iconst 0, 1) := dk_3 (dk_at dksX8_init_0 3 rfl rfl)
theorem dX8_init_4 : decode cX8_init 4 = .ok (.iconst 0, 1) := dk_3 (dk_at dksX8_init_0 4 rfl rfl)
theorem dX8_init_5 : decode cX8_init 5 = .ok (.invokespecial 1, 3) := dk_183 0 1 (dk_at dksX8_init_0 5 rfl rfl)
theorem dX8_init_8 : decode cX8_init 8 = .ok (.aload_n 0, 1) := dk_42 (dk_at dksX8_init_0 8 rfl rfl)
theorem dX8_init_9 : decode cX8_init 9 = .ok (.iload_n 1, 1) := dk_27 (dk_at dksX8_init_0 9 rfl rfl)
theorem dX8_init_10 : decode cX8_init 10 = .ok (.putfield 7, 3) := dk_181 0 7 (dk_at dksX8_init_0 10 rfl rfl)
theorem dX8_init_13 : decode cX8_init 13 = .ok (.return_, 1) := dk_177 (dk_at dksX8_init_0 13 rfl rfl)
noncomputable def f_X8_init (E : ax_E) (x0 : Option Nat) (x1 : Int) (h : ax_H) : Option (ax_H) :=
  x0.bind fun _ => (f_J7_init_2 E x0 none none 0 0 h).bind fun h1 =>
  (ax_pI h1 x0 8 6 x1).bind fun h2 =>
  some h2
set_option maxHeartbeats 4000000 in
theorem we_X8_init {l : Launch} {G : ax_G} {X : ax_X} {Q : State → Prop} {h0 h : ax_H} {ls : Array Slot} (hSF : ax_SF G) (B : ax_BL l G X cX8_init 2 RX8 3 88) (Z : ax_Z X h0 none) (hn : X.2.2.2.2.2.2.2.2.1.name = yX8_init.name) (x0 : Option Nat) (x1 : Int) {w : ax_H} (hl : ax_hl ls 2 [(0, .inr (.inr x0)), (1, .inl x1)]) (e : f_X8_init G.2.2 x0 x1 h = some w) (hp : (fun w : ax_H => Q = ax_Q G X h0 w none) w) : ax_W G X Q h 0 ls [] := by
  unfold f_X8_init at e
  refine ax_aload_n B dX8_init_0 rfl hl 0 rfl ?_
  refine ax_null B dX8_init_1 ?_
  refine ax_null B dX8_init_2 ?_
  refine ax_iconst B dX8_init_3 ?_
  refine ax_iconst B dX8_init_4 ?_
  refine ax_iiR (y := yJ7_init_2) (n := 4) (As := [va_rf none, va_rf none, .int (Int32.ofInt 0), .int (Int32.ofInt 0)]) B q819 q820 q138 q821 rfl (by decide +kernel) ⟨Nat.le_of_ble_eq_true rfl, Nat.le_of_ble_eq_true rfl⟩ (fun w1 e1 => mt_J7_init_2 l G hSF x0 none none 0 0 _ w1 e1) rfl hl.size (by decide) dX8_init_5 e (fun h1 e => ?_)
  refine ax_aload_n B dX8_init_8 rfl hl 0 rfl ?_
  refine ax_iload_n B dX8_init_9 rfl hl 1 rfl ?_
  refine ax_putI B ff_X8_7_8 (Or.inr ⟨rfl, rfl, hn⟩) rfl dX8_init_10 e (fun h2 e => ?_)
  have e8 := e
  have hp : Q = _ := hp
  subst hp
  exact ax_return B Z dX8_init_13 e8
theorem mt_X8_init (l : Launch) (G : ax_G) (hSF : ax_SF G) (x0 : Option Nat) (x1 : Int) (h : ax_H) (w : ax_H) (e : f_X8_init G.2.2 x0 x1 h = some w) : ax_Met l G yX8_init cX8_init 2 none 3 88 [va_rf x0, .int (Int32.ofInt x1)] h w none :=
  ax_enter [.inr (.inr x0), .inl x1] (y := yX8_init) hSF (plainFor_of_name (by decide +kernel)) (Nat.le_of_ble_eq_true rfl) (fun X ls B Z hn hl => we_X8_init hSF B Z hn x0 x1 hl e rfl)
def dkwJ11_coder_0 : List UInt8 := [178, 0, 38, 153, 0, 10, 42, 180, 0, 15, 167, 0, 4, 4, 172]
abbrev dktJ11_coder_0 : List UInt8 := dkwJ11_coder_0 ++ []
theorem dksJ11_coder_0 : cJ11_coder.data.toList.drop 0 = dktJ11_coder_0 := by decide +kernel
theorem dJ11_coder_0 : decode cJ11_coder 0 = .ok (.getstatic 38, 3) := dk_178 0 38 (dk_at dksJ11_coder_0 0 rfl rfl)
theorem dJ11_coder_3 : decode cJ11_coder 3 = .ok (.ifCond .eq 10, 3) := dk_153 0 10 (dk_at dksJ11_coder_0 3 rfl rfl)
theorem dJ11_coder_6 : decode cJ11_coder 6 = .ok (.aload_n 0, 1) := dk_42 (dk_at dksJ11_coder_0 6 rfl rfl)
theorem dJ11_coder_7 : decode cJ11_coder 7 = .ok (.getfield 15, 3) := dk_180 0 15 (dk_at dksJ11_coder_0 7 rfl rfl)
theorem dJ11_coder_10 : decode cJ11_coder 10 = .ok (.goto 4, 3) := dk_167 0 4 (dk_at dksJ11_coder_0 10 rfl rfl)
theorem dJ11_coder_13 : decode cJ11_coder 13 = .ok (.iconst 1, 1) := dk_4 (dk_at dksJ11_coder_0 13 rfl rfl)
theorem dJ11_coder_14 : decode cJ11_coder 14 = .ok (.ireturn, 1) := dk_172 (dk_at dksJ11_coder_0 14 rfl rfl)
noncomputable def f_J11_coder (E : ax_E) (x0 : Option Nat) (h : ax_H) : Option (Int × ax_H) :=
  if i2 1 = 0 then
    if -128 ≤ 1 ∧ 1 < 128 then some (1, h) else none
  else
    (ax_gI E h x0 51 1).bind fun v1 =>
    if -128 ≤ v1 ∧ v1 < 128 then some (v1, h) else none
set_option maxHeartbeats 4000000 in
theorem we_J11_coder {l : Launch} {G : ax_G} {X : ax_X} {Q : State → Prop} {h0 h : ax_H} {ls : Array Slot} (hSF : ax_SF G) (B : ax_BL l G X cJ11_coder 1 RJ11 1 40) (Z : ax_Z X h0 ((some FieldType.byte))) (hn : X.2.2.2.2.2.2.2.2.1.name = yJ11_coder.name) (x0 : Option Nat) {w : Int × ax_H} (hl : ax_hl ls 1 [(0, .inr (.inr x0))]) (e : f_J11_coder G.2.2 x0 h = some w) (hp : (fun w : Int × ax_H => Q = ax_Q G X h0 w.2 (some (.int (Int32.ofInt w.1)))) w) : ax_W G X Q h 0 ls [] := by
  unfold f_J11_coder at e
  refine ax_gstv B (ax_sx B).1.2.2.2.2.2 q857 (Or.inl rfl) dJ11_coder_0 ?_
  refine ax_if_eq (tgt := 13) B dJ11_coder_3 (by decide) e (fun e => ?_) (fun e => ?_)
  · refine ax_iconst B dJ11_coder_13 ?_
    have e8 := e
    have hp : Q = _ := hp
    subst hp
    exact ax_breturn B Z dJ11_coder_14 e8
  · refine ax_aload_n B dJ11_coder_6 rfl hl 0 rfl ?_
    refine ax_getI B ff_J11_15_51 (fun _ _ => rfl) dJ11_coder_7 e (fun v1 e => ?_)
    refine ax_goto (tgt := 14) B dJ11_coder_10 (by decide) ?_
    have e8 := e
    have hp : Q = _ := hp
    subst hp
    exact ax_breturn B Z dJ11_coder_14 e8
theorem mt_J11_coder (l : Launch) (G : ax_G) (hSF : ax_SF G) (x0 : Option Nat) (h : ax_H) (w : Int × ax_H) (e : f_J11_coder G.2.2 x0 h = some w) : ax_Met l G yJ11_coder cJ11_coder 1 ((some FieldType.byte)) 1 40 [va_rf x0] h w.2 (some (.int (Int32.ofInt w.1))) :=
  ax_enter [.inr (.inr x0)] (y := yJ11_coder) hSF (plainFor_of_name (by decide +kernel)) (Nat.le_of_ble_eq_true rfl) (fun X ls B Z hn hl => we_J11_coder hSF B Z hn x0 hl e rfl)
def dkwJ11_length_0 : List UInt8 := [42, 180, 0, 9, 190, 42, 182, 1, 79, 122, 172]
abbrev dktJ11_length_0 : List UInt8 := dkwJ11_length_0 ++ []
theorem dksJ11_length_0 : cJ11_length.data.toList.drop 0 = dktJ11_length_0 := by decide +kernel
theorem dJ11_length_0 : decode cJ11_length 0 = .ok (.aload_n 0, 1) := dk_42 (dk_at dksJ11_length_0 0 rfl rfl)
theorem dJ11_length_1 : decode cJ11_length 1 = .ok (.getfield 9, 3) := dk_180 0 9 (dk_at dksJ11_length_0 1 rfl rfl)
theorem dJ11_length_4 : decode cJ11_length 4 = .ok (.arraylength, 1) := dk_190 (dk_at dksJ11_length_0 4 rfl rfl)
theorem dJ11_length_5 : decode cJ11_length 5 = .ok (.aload_n 0, 1) := dk_42 (dk_at dksJ11_length_0 5 rfl rfl)
theorem dJ11_length_6 : decode cJ11_length 6 = .ok (.invokevirtual 335, 3) := dk_182 1 79 (dk_at dksJ11_length_0 6 rfl rfl)
theorem dJ11_length_9 : decode cJ11_length 9 = .ok (.ishr, 1) := dk_122 (dk_at dksJ11_length_0 9 rfl rfl)
theorem dJ11_length_10 : decode cJ11_length 10 = .ok (.ireturn, 1) := dk_172 (dk_at dksJ11_length_0 10 rfl rfl)
noncomputable def f_J11_length (E : ax_E) (x0 : Option Nat) (h : ax_H) : Option (Int × ax_H) :=
  (ax_gR E h x0 51 0).bind fun v1 =>
  (ax_len E h v1 101).bind fun v2 =>
  (ax_ce E h x0 51).bind fun _ => (f_J11_coder E x0 h).bind fun q3 =>
  some ((ax_shr v2 q3.1), q3.2)
set_option maxHeartbeats 4000000 in
theorem we_J11_length {l : Launch} {G : ax_G} {X : ax_X} {Q : State → Prop} {h0 h : ax_H} {ls : Array Slot} (hSF : ax_SF G) (B : ax_BL l G X cJ11_length 1 RJ11 2 60) (Z : ax_Z X h0 ((some FieldType.int))) (hn : X.2.2.2.2.2.2.2.2.1.name = yJ11_length.name) (x0 : Option Nat) {w : Int × ax_H} (hl : ax_hl ls 1 [(0, .inr (.inr x0))]) (e : f_J11_length G.2.2 x0 h = some w) (hp : (fun w : Int × ax_H => Q = ax_Q G X h0 w.2 (some (.int (Int32.ofInt w.1)))) w) : ax_W G X Q h 0 ls [] := by
  unfold f_J11_length at e
  refine ax_aload_n B dJ11_length_0 rfl hl 0 rfl ?_
  refine ax_getR B ff_J11_9_51 (fun _ _ => rfl) dJ11_length_1 e (fun v1 e => ?_)
  refine ax_alen B kd101 dJ11_length_4 e (fun v2 e => ?_)
  refine ax_aload_n B dJ11_length_5 rfl hl 0 rfl ?_
  refine ax_ivI (y := yJ11_coder) (n := 0) (As := []) B kd51 (lw_V q853 q854 q855 q142 q856) (by decide +kernel) ⟨Nat.le_of_ble_eq_true rfl, Nat.le_of_ble_eq_true rfl⟩ (fun w1 e1 => mt_J11_coder l G hSF x0 _ w1 e1) rfl hl.size (by simp only [List.map_cons, List.map_nil, List.sum_cons, List.sum_nil, va_rf_cat, ax_catI, ax_catL]; decide) dJ11_length_6 e (fun q3 e => ?_)
  refine ax_ishr' B dJ11_length_9 ?_
  have e8 := e
  have hp : Q = _ := hp
  subst hp
  exact ax_ireturn B Z dJ11_length_10 e8
theorem mt_J11_length (l : Launch) (G : ax_G) (hSF : ax_SF G) (x0 : Option Nat) (h : ax_H) (w : Int × ax_H) (e : f_J11_length G.2.2 x0 h = some w) : ax_Met l G yJ11_length cJ11_length 1 ((some FieldType.int)) 2 60 [va_rf x0] h w.2 (some (.int (Int32.ofInt w.1))) :=
  ax_enter [.inr (.inr x0)] (y := yJ11_length) hSF (plainFor_of_name (by decide +kernel)) (Nat.le_of_ble_eq_true rfl) (fun X ls B Z hn hl => we_J11_length hSF B Z hn x0 hl e rfl)
def dkwJ11_isLatin1_0 : List UInt8 := [178, 0, 38, 153, 0, 14, 42, 180, 0, 15, 154, 0, 7, 4, 167, 0, 4, 3, 172]
abbrev dktJ11_isLatin1_0 : List UInt8 := dkwJ11_isLatin1_0 ++ []
theorem dksJ11_isLatin1_0 : cJ11_isLatin1.data.toList.drop 0 = dktJ11_isLatin1_0 := by decide +kernel
theorem dJ11_isLatin1_0 : decode cJ11_isLatin1 0 = .ok (.getstatic 38, 3) := dk_178 0 38 (dk_at dksJ11_isLatin1_0 0 rfl rfl)
theorem dJ11_isLatin1_3 : decode cJ11_isLatin1 3 = .ok (.ifCond .eq 14, 3) := dk_153 0 14 (dk_at dksJ11_isLatin1_0 3 rfl rfl)
theorem dJ11_isLatin1_6 : decode cJ11_isLatin1 6 = .ok (.aload_n 0, 1) := dk_42 (dk_at dksJ11_isLatin1_0 6 rfl rfl)
theorem dJ11_isLatin1_7 : decode cJ11_isLatin1 7 = .ok (.getfield 15, 3) := dk_180 0 15 (dk_at dksJ11_isLatin1_0 7 rfl rfl)
theorem dJ11_isLatin1_10 : decode cJ11_isLatin1 10 = .ok (.ifCond .ne 7, 3) := dk_154 0 7 (dk_at dksJ11_isLatin1_0 10 rfl rfl)
theorem dJ11_isLatin1_13 : decode cJ11_isLatin1 13 = .ok (.iconst 1, 1) := dk_4 (dk_at dksJ11_isLatin1_0 13 rfl rfl)
theorem dJ11_isLatin1_14 : decode cJ11_isLatin1 14 = .ok (.goto 4, 3) := dk_167 0 4 (dk_at dksJ11_isLatin1_0 14 rfl rfl)
theorem dJ11_isLatin1_17 : decode cJ11_isLatin1 17 = .ok (.iconst 0, 1) := dk_3 (dk_at dksJ11_isLatin1_0 17 rfl rfl)
theorem dJ11_isLatin1_18 : decode cJ11_isLatin1 18 = .ok (.ireturn, 1) := dk_172 (dk_at dksJ11_isLatin1_0 18 rfl rfl)
noncomputable def f_J11_isLatin1_17 (E : ax_E) (h : ax_H) : Option (Int × ax_H) :=
  some (0, h)
noncomputable def f_J11_isLatin1 (E : ax_E) (x0 : Option Nat) (h : ax_H) : Option (Int × ax_H) :=
  if i2 1 = 0 then
    f_J11_isLatin1_17 E h
  else
    (ax_gI E h x0 51 1).bind fun v1 =>
    if i2 v1 = 0 then
      some (1, h)
    else
      f_J11_isLatin1_17 E h
set_option maxHeartbeats 4000000 in
theorem w_J11_isLatin1_17 {l : Launch} {G : ax_G} {X : ax_X} {Q : State → Prop} {h0 h : ax_H} {ls : Array Slot} (hSF : ax_SF G) (B : ax_BL l G X cJ11_isLatin1 1 RJ11 1 40) (Z : ax_Z X h0 ((some FieldType.boolean))) (hn : X.2.2.2.2.2.2.2.2.1.name = yJ11_isLatin1.name) {w : Int × ax_H} (hl : ax_hl ls 1 []) (e : f_J11_isLatin1_17 G.2.2 h = some w) (hp : (fun w : Int × ax_H => Q = ax_Q G X h0 w.2 (some (.int (Int32.ofInt w.1)))) w) : ax_W G X Q h 17 ls [] := by
  unfold f_J11_isLatin1_17 at e
  refine ax_iconst B dJ11_isLatin1_17 ?_
  have e8 := e
  have hp : Q = _ := hp
  subst hp
  exact ax_zreturnL (by decide) B Z dJ11_isLatin1_18 e8
set_option maxHeartbeats 4000000 in
theorem we_J11_isLatin1 {l : Launch} {G : ax_G} {X : ax_X} {Q : State → Prop} {h0 h : ax_H} {ls : Array Slot} (hSF : ax_SF G) (B : ax_BL l G X cJ11_isLatin1 1 RJ11 1 40) (Z : ax_Z X h0 ((some FieldType.boolean))) (hn : X.2.2.2.2.2.2.2.2.1.name = yJ11_isLatin1.name) (x0 : Option Nat) {w : Int × ax_H} (hl : ax_hl ls 1 [(0, .inr (.inr x0))]) (e : f_J11_isLatin1 G.2.2 x0 h = some w) (hp : (fun w : Int × ax_H => Q = ax_Q G X h0 w.2 (some (.int (Int32.ofInt w.1)))) w) : ax_W G X Q h 0 ls [] := by
  unfold f_J11_isLatin1 at e
  refine ax_gstv B (ax_sx B).1.2.2.2.2.2 q857 (Or.inl rfl) dJ11_isLatin1_0 ?_
  refine ax_if_eq (tgt := 17) B dJ11_isLatin1_3 (by decide) e (fun e => ?_) (fun e => ?_)
  · exact w_J11_isLatin1_17 hSF B Z hn (hl.sub [] rfl) e hp
  · refine ax_aload_n B dJ11_isLatin1_6 rfl hl 0 rfl ?_
    refine ax_getI B ff_J11_15_51 (fun _ _ => rfl) dJ11_isLatin1_7 e (fun v1 e => ?_)
    refine ax_if_ne (tgt := 17) B dJ11_isLatin1_10 (by decide) e (fun e => ?_) (fun e => ?_)
    · refine ax_iconst B dJ11_isLatin1_13 ?_
      refine ax_goto (tgt := 18) B dJ11_isLatin1_14 (by decide) ?_
      have e8 := e
      have hp : Q = _ := hp
      subst hp
      exact ax_zreturnL (by decide) B Z dJ11_isLatin1_18 e8
    · exact w_J11_isLatin1_17 hSF B Z hn (hl.sub [] rfl) e hp
theorem mt_J11_isLatin1 (l : Launch) (G : ax_G) (hSF : ax_SF G) (x0 : Option Nat) (h : ax_H) (w : Int × ax_H) (e : f_J11_isLatin1 G.2.2 x0 h = some w) : ax_Met l G yJ11_isLatin1 cJ11_isLatin1 1 ((some FieldType.boolean)) 1 40 [va_rf x0] h w.2 (some (.int (Int32.ofInt w.1))) :=
  ax_enter [.inr (.inr x0)] (y := yJ11_isLatin1) hSF (plainFor_of_name (by decide +kernel)) (Nat.le_of_ble_eq_true rfl) (fun X ls B Z hn hl => we_J11_isLatin1 hSF B Z hn x0 hl e rfl)
def dkwJ11_checkIndex_0 : List UInt8 := [26, 27, 178, 4, 29, 184, 4, 35, 87, 177]
abbrev dktJ11_checkIndex_0 : List UInt8 := dkwJ11_checkIndex_0 ++ []
theorem dksJ11_checkIndex_0 : cJ11_checkIndex.data.toList.drop 0 = dktJ11_checkIndex_0 := by decide +kernel
theorem dJ11_checkIndex_0 : decode cJ11_checkIndex 0 = .ok (.iload_n 0, 1) := dk_26 (dk_at dksJ11_checkIndex_0 0 rfl rfl)
theorem dJ11_checkIndex_1 : decode cJ11_checkIndex 1 = .ok (.iload_n 1, 1) := dk_27 (dk_at dksJ11_checkIndex_0 1 rfl rfl)
theorem dJ11_checkIndex_2 : decode cJ11_checkIndex 2 = .ok (.getstatic 1053, 3) := dk_178 4 29 (dk_at dksJ11_checkIndex_0 2 rfl rfl)
theorem dJ11_checkIndex_5 : decode cJ11_checkIndex 5 = .ok (.invokestatic 1059, 3) := dk_184 4 35 (dk_at dksJ11_checkIndex_0 5 rfl rfl)
theorem dJ11_checkIndex_8 : decode cJ11_checkIndex 8 = .ok (.pop, 1) := dk_87 (dk_at dksJ11_checkIndex_0 8 rfl rfl)
theorem dJ11_checkIndex_9 : decode cJ11_checkIndex 9 = .ok (.return_, 1) := dk_177 (dk_at dksJ11_checkIndex_0 9 rfl rfl)
noncomputable def f_J11_checkIndex (E : ax_E) (x0 : Int) (x1 : Int) (h : ax_H) : Option (ax_H) :=
  (ax_cso E 6).bind fun v1 =>
  (f_J5_checkIndex E x0 x1 v1 h).bind fun q2 =>
  some q2.2
set_option maxHeartbeats 4000000 in
theorem we_J11_checkIndex {l : Launch} {G : ax_G} {X : ax_X} {Q : State → Prop} {h0 h : ax_H} {ls : Array Slot} (hSF : ax_SF G) (B : ax_BL l G X cJ11_checkIndex 2 RJ11 2 62) (Z : ax_Z X h0 none) (hn : X.2.2.2.2.2.2.2.2.1.name = yJ11_checkIndex.name) (x0 : Int) (x1 : Int) {w : ax_H} (hl : ax_hl ls 2 [(0, .inl x0), (1, .inl x1)]) (e : f_J11_checkIndex G.2.2 x0 x1 h = some w) (hp : (fun w : ax_H => Q = ax_Q G X h0 w none) w) : ax_W G X Q h 0 ls [] := by
  unfold f_J11_checkIndex at e
  refine ax_iload_n B dJ11_checkIndex_0 rfl hl 0 rfl ?_
  refine ax_iload_n B dJ11_checkIndex_1 rfl hl 1 rfl ?_
  refine ax_gst B (ax_sx B).1.2.2.2.2.1 q873 (Or.inl rfl) dJ11_checkIndex_2 e (fun v1 e => ?_)
  refine ax_isI (y := yJ5_checkIndex) (n := 3) (As := [.int (Int32.ofInt x0), .int (Int32.ofInt x1), va_rf v1]) B (lw_S q875 q532 q136 q533) (by decide +kernel) ⟨Nat.le_of_ble_eq_true rfl, Nat.le_of_ble_eq_true rfl⟩ (fun w1 e1 => mt_J5_checkIndex l G hSF x0 x1 v1 _ w1 e1) rfl hl.size (by decide) dJ11_checkIndex_5 e (fun q2 e => ?_)
  refine ax_pop B dJ11_checkIndex_8 (rfl) ?_
  have e8 := e
  have hp : Q = _ := hp
  subst hp
  exact ax_return B Z dJ11_checkIndex_9 e8
theorem mt_J11_checkIndex (l : Launch) (G : ax_G) (hSF : ax_SF G) (x0 : Int) (x1 : Int) (h : ax_H) (w : ax_H) (e : f_J11_checkIndex G.2.2 x0 x1 h = some w) : ax_Met l G yJ11_checkIndex cJ11_checkIndex 2 none 2 62 [.int (Int32.ofInt x0), .int (Int32.ofInt x1)] h w none :=
  ax_enter [.inl x0, .inl x1] (y := yJ11_checkIndex) hSF (plainFor_of_name (by decide +kernel)) (Nat.le_of_ble_eq_true rfl) (fun X ls B Z hn hl => we_J11_checkIndex hSF B Z hn x0 x1 hl e rfl)
def dkwJ12_charAt_0 : List UInt8 := [27, 42, 190, 184, 0, 9, 42, 27, 51, 17, 0, 255, 126, 146, 172]
abbrev dktJ12_charAt_0 : List UInt8 := dkwJ12_charAt_0 ++ []
theorem dksJ12_charAt_0 : cJ12_charAt.data.toList.drop 0 = dktJ12_charAt_0 := by decide +kernel
theorem dJ12_charAt_0 : decode cJ12_charAt 0 = .ok (.iload_n 1, 1) := dk_27 (dk_at dksJ12_charAt_0 0 rfl rfl)
theorem dJ12_charAt_1 : decode cJ12_charAt 1 = .ok (.aload_n 0, 1) := dk_42 (dk_at dksJ12_charAt_0 1 rfl rfl)
theorem dJ12_charAt_2 : decode cJ12_charAt 2 = .ok (.arraylength, 1) := dk_190 (dk_at dksJ12_charAt_0 2 rfl rfl)
theorem dJ12_charAt_3 : decode cJ12_charAt 3 = .ok (.invokestatic 9, 3) := dk_184 0 9 (dk_at dksJ12_charAt_0 3 rfl rfl)
theorem dJ12_charAt_6 : decode cJ12_charAt 6 = .ok (.aload_n 0, 1) := dk_42 (dk_at dksJ12_charAt_0 6 rfl rfl)
theorem dJ12_charAt_7 : decode cJ12_charAt 7 = .ok (.iload_n 1, 1) := dk_27 (dk_at dksJ12_charAt_0 7 rfl rfl)
theorem dJ12_charAt_8 : decode cJ12_charAt 8 = .ok (.baload, 1) := dk_51 (dk_at dksJ12_charAt_0 8 rfl rfl)
theorem dJ12_charAt_9 : decode cJ12_charAt 9 = .ok (.sipush 255, 3) := dk_17 0 255 (dk_at dksJ12_charAt_0 9 rfl rfl)
theorem dJ12_charAt_12 : decode cJ12_charAt 12 = .ok (.iand, 1) := dk_126 (dk_at dksJ12_charAt_0 12 rfl rfl)
theorem dJ12_charAt_13 : decode cJ12_charAt 13 = .ok (.i2c, 1) := dk_146 (dk_at dksJ12_charAt_0 13 rfl rfl)
theorem dJ12_charAt_14 : decode cJ12_charAt 14 = .ok (.ireturn, 1) := dk_172 (dk_at dksJ12_charAt_0 14 rfl rfl)
noncomputable def f_J12_charAt (E : ax_E) (x0 : Option Nat) (x1 : Int) (h : ax_H) : Option (Int × ax_H) :=
  (ax_len E h x0 101).bind fun v1 =>
  (f_J11_checkIndex E x1 v1 h).bind fun h2 =>
  (ax_ld E h2 x0 101 x1).bind fun v3 =>
  if 0 ≤ ((ax_and v3 255) % 65536) ∧ ((ax_and v3 255) % 65536) < 65536 then some (((ax_and v3 255) % 65536), h2) else none
set_option maxHeartbeats 4000000 in
theorem we_J12_charAt {l : Launch} {G : ax_G} {X : ax_X} {Q : State → Prop} {h0 h : ax_H} {ls : Array Slot} (hSF : ax_SF G) (B : ax_BL l G X cJ12_charAt 2 RJ12 3 83) (Z : ax_Z X h0 ((some FieldType.char))) (hn : X.2.2.2.2.2.2.2.2.1.name = yJ12_charAt.name) (x0 : Option Nat) (x1 : Int) {w : Int × ax_H} (hl : ax_hl ls 2 [(0, .inr (.inr x0)), (1, .inl x1)]) (e : f_J12_charAt G.2.2 x0 x1 h = some w) (hp : (fun w : Int × ax_H => Q = ax_Q G X h0 w.2 (some (.int (Int32.ofInt w.1)))) w) : ax_W G X Q h 0 ls [] := by
  unfold f_J12_charAt at e
  refine ax_iload_n B dJ12_charAt_0 rfl hl 1 rfl ?_
  refine ax_aload_n B dJ12_charAt_1 rfl hl 0 rfl ?_
  refine ax_alen B kd101 dJ12_charAt_2 e (fun v1 e => ?_)
  refine ax_isV (y := yJ11_checkIndex) (n := 2) (As := [.int (Int32.ofInt x1), .int (Int32.ofInt v1)]) B (lw_S q870 q871 q142 q872) (by decide +kernel) ⟨Nat.le_of_ble_eq_true rfl, Nat.le_of_ble_eq_true rfl⟩ (fun w1 e1 => mt_J11_checkIndex l G hSF x1 v1 _ w1 e1) rfl hl.size (by decide) dJ12_charAt_3 e (fun h2 e => ?_)
  refine ax_aload_n B dJ12_charAt_6 rfl hl 0 rfl ?_
  refine ax_iload_n B dJ12_charAt_7 rfl hl 1 rfl ?_
  refine ax_bald B kd101 dJ12_charAt_8 e (fun v3 e => ?_)
  refine ax_sipush B dJ12_charAt_9 (by decide) ?_
  refine ax_iand' B dJ12_charAt_12 ?_
  refine ax_i2c' B dJ12_charAt_13 ?_
  have e8 := e
  have hp : Q = _ := hp
  subst hp
  exact ax_creturn B Z dJ12_charAt_14 e8
theorem mt_J12_charAt (l : Launch) (G : ax_G) (hSF : ax_SF G) (x0 : Option Nat) (x1 : Int) (h : ax_H) (w : Int × ax_H) (e : f_J12_charAt G.2.2 x0 x1 h = some w) : ax_Met l G yJ12_charAt cJ12_charAt 2 ((some FieldType.char)) 3 83 [va_rf x0, .int (Int32.ofInt x1)] h w.2 (some (.int (Int32.ofInt w.1))) :=
  ax_enter [.inr (.inr x0), .inl x1] (y := yJ12_charAt) hSF (plainFor_of_name (by decide +kernel)) (Nat.le_of_ble_eq_true rfl) (fun X ls B Z hn hl => we_J12_charAt hSF B Z hn x0 x1 hl e rfl)
def dkwJ11_charAt_1 : List UInt8 := [172]
abbrev dktJ11_charAt_1 : List UInt8 := dkwJ11_charAt_1 ++ []
def dkwJ11_charAt_0 : List UInt8 := [42, 182, 1, 236, 153, 0, 12, 42, 180, 0, 9, 27, 184, 1, 239, 172, 42, 180, 0, 9, 27, 184, 1, 242]
abbrev dktJ11_charAt_0 : List UInt8 := dkwJ11_charAt_0 ++ dktJ11_charAt_1
theorem dksJ11_charAt_0 : cJ11_charAt.data.toList.drop 0 = dktJ11_charAt_0 := by decide +kernel
theorem dksJ11_charAt_1 : cJ11_charAt.data.toList.drop 24 = dktJ11_charAt_1 := dk_seg dksJ11_charAt_0 24 rfl rfl
theorem dJ11_charAt_0 : decode cJ11_charAt 0 = .ok (.aload_n 0, 1) := dk_42 (dk_at dksJ11_charAt_0 0 rfl rfl)
theorem dJ11_charAt_1 : decode cJ11_charAt 1 = .ok (.invokevirtual 492, 3) := dk_182 1 236 (dk_at dksJ11_charAt_0 1 rfl rfl)
theorem dJ11_charAt_4 : decode cJ11_charAt 4 = .ok (.ifCond .eq 12, 3) := dk_153 0 12 (dk_at dksJ11_charAt_0 4 rfl rfl)
theorem dJ11_charAt_7 : decode cJ11_charAt 7 = .ok (.aload_n 0, 1) := dk_42 (dk_at dksJ11_charAt_0 7 rfl rfl)
theorem dJ11_charAt_8 : decode cJ11_charAt 8 = .ok (.getfield 9, 3) := dk_180 0 9 (dk_at dksJ11_charAt_0 8 rfl rfl)
theorem dJ11_charAt_11 : decode cJ11_charAt 11 = .ok (.iload_n 1, 1) := dk_27 (dk_at dksJ11_charAt_0 11 rfl rfl)
theorem dJ11_charAt_12 : decode cJ11_charAt 12 = .ok (.invokestatic 495, 3) := dk_184 1 239 (dk_at dksJ11_charAt_0 12 rfl rfl)
theorem dJ11_charAt_15 : decode cJ11_charAt 15 = .ok (.ireturn, 1) := dk_172 (dk_at dksJ11_charAt_0 15 rfl rfl)
theorem dJ11_charAt_16 : decode cJ11_charAt 16 = .ok (.aload_n 0, 1) := dk_42 (dk_at dksJ11_charAt_0 16 rfl rfl)
theorem dJ11_charAt_17 : decode cJ11_charAt 17 = .ok (.getfield 9, 3) := dk_180 0 9 (dk_at dksJ11_charAt_0 17 rfl rfl)
theorem dJ11_charAt_20 : decode cJ11_charAt 20 = .ok (.iload_n 1, 1) := dk_27 (dk_at dksJ11_charAt_0 20 rfl rfl)
theorem dJ11_charAt_21 : decode cJ11_charAt 21 = .ok (.invokestatic 498, 3) := dk_184 1 242 (dk_at dksJ11_charAt_0 21 rfl rfl)
theorem dJ11_charAt_24 : decode cJ11_charAt 24 = .ok (.ireturn, 1) := dk_172 (dk_at dksJ11_charAt_1 0 rfl rfl)
noncomputable def f_J11_charAt (E : ax_E) (x0 : Option Nat) (x1 : Int) (h : ax_H) : Option (Int × ax_H) :=
  (ax_ce E h x0 51).bind fun _ => (f_J11_isLatin1 E x0 h).bind fun q1 =>
  if i2 q1.1 = 0 then
    (ax_gR E q1.2 x0 51 0).bind fun v2 =>
    none
  else
    (ax_gR E q1.2 x0 51 0).bind fun v3 =>
    (f_J12_charAt E v3 x1 q1.2).bind fun q4 =>
    if 0 ≤ q4.1 ∧ q4.1 < 65536 then some (q4.1, q4.2) else none
set_option maxHeartbeats 4000000 in
theorem we_J11_charAt {l : Launch} {G : ax_G} {X : ax_X} {Q : State → Prop} {h0 h : ax_H} {ls : Array Slot} (hSF : ax_SF G) (B : ax_BL l G X cJ11_charAt 2 RJ11 4 104) (Z : ax_Z X h0 ((some FieldType.char))) (hn : X.2.2.2.2.2.2.2.2.1.name = yJ11_charAt.name) (x0 : Option Nat) (x1 : Int) {w : Int × ax_H} (hl : ax_hl ls 2 [(0, .inr (.inr x0)), (1, .inl x1)]) (e : f_J11_charAt G.2.2 x0 x1 h = some w) (hp : (fun w : Int × ax_H => Q = ax_Q G X h0 w.2 (some (.int (Int32.ofInt w.1)))) w) : ax_W G X Q h 0 ls [] := by
  unfold f_J11_charAt at e
  refine ax_aload_n B dJ11_charAt_0 rfl hl 0 rfl ?_
  refine ax_ivI (y := yJ11_isLatin1) (n := 0) (As := []) B kd51 (lw_V q863 q864 q865 q142 q866) (by decide +kernel) ⟨Nat.le_of_ble_eq_true rfl, Nat.le_of_ble_eq_true rfl⟩ (fun w1 e1 => mt_J11_isLatin1 l G hSF x0 _ w1 e1) rfl hl.size (by decide) dJ11_charAt_1 e (fun q1 e => ?_)
  refine ax_if_eq (tgt := 16) B dJ11_charAt_4 (by decide) e (fun e => ?_) (fun e => ?_)
  · refine ax_aload_n B dJ11_charAt_16 rfl hl 0 rfl ?_
    refine ax_getR B ff_J11_9_51 (fun _ _ => rfl) dJ11_charAt_17 e (fun v2 e => ?_)
    refine ax_iload_n B dJ11_charAt_20 rfl hl 1 rfl ?_
    cases e
  · refine ax_aload_n B dJ11_charAt_7 rfl hl 0 rfl ?_
    refine ax_getR B ff_J11_9_51 (fun _ _ => rfl) dJ11_charAt_8 e (fun v3 e => ?_)
    refine ax_iload_n B dJ11_charAt_11 rfl hl 1 rfl ?_
    refine ax_isI (y := yJ12_charAt) (n := 2) (As := [va_rf v3, .int (Int32.ofInt x1)]) B (lw_S q867 q868 q147 q869) (by decide +kernel) ⟨Nat.le_of_ble_eq_true rfl, Nat.le_of_ble_eq_true rfl⟩ (fun w1 e1 => mt_J12_charAt l G hSF v3 x1 _ w1 e1) rfl hl.size (by decide) dJ11_charAt_12 e (fun q4 e => ?_)
    have e8 := e
    have hp : Q = _ := hp
    subst hp
    exact ax_creturn B Z dJ11_charAt_15 e8
theorem mt_J11_charAt (l : Launch) (G : ax_G) (hSF : ax_SF G) (x0 : Option Nat) (x1 : Int) (h : ax_H) (w : Int × ax_H) (e : f_J11_charAt G.2.2 x0 x1 h = some w) : ax_Met l G yJ11_charAt cJ11_charAt 2 ((some FieldType.char)) 4 104 [va_rf x0, .int (Int32.ofInt x1)] h w.2 (some (.int (Int32.ofInt w.1))) :=
  ax_enter [.inr (.inr x0), .inl x1] (y := yJ11_charAt) hSF (plainFor_of_name (by decide +kernel)) (Nat.le_of_ble_eq_true rfl) (fun X ls B Z hn hl => we_J11_charAt hSF B Z hn x0 x1 hl e rfl)
def dkwX6_isWord_2 : List UInt8 := [182, 0, 69, 159, 0, 5, 3, 172, 132, 2, 1, 167, 255, 221, 4, 172]
abbrev dktX6_isWord_2 : List UInt8 := dkwX6_isWord_2 ++ []
def dkwX6_isWord_1 : List UInt8 := [182, 0, 63, 162, 0, 33, 42, 180, 0, 3, 180, 0, 52, 42, 180, 0, 42, 28, 96, 51, 43, 28]
abbrev dktX6_isWord_1 : List UInt8 := dkwX6_isWord_1 ++ dktX6_isWord_2
def dkwX6_isWord_0 : List UInt8 := [42, 180, 0, 49, 42, 180, 0, 42, 100, 43, 182, 0, 63, 159, 0, 5, 3, 172, 3, 61, 28, 43]
abbrev dktX6_isWord_0 : List UInt8 := dkwX6_isWord_0 ++ dktX6_isWord_1
theorem dksX6_isWord_0 : cX6_isWord.data.toList.drop 0 = dktX6_isWord_0 := by decide +kernel
theorem dksX6_isWord_1 : cX6_isWord.data.toList.drop 22 = dktX6_isWord_1 := dk_seg dksX6_isWord_0 22 rfl rfl
theorem dksX6_isWord_2 : cX6_isWord.data.toList.drop 44 = dktX6_isWord_2 := dk_seg dksX6_isWord_1 22 rfl rfl
theorem dX6_isWord_0 : decode cX6_isWord 0 = .ok (.aload_n 0, 1) := dk_42 (dk_at dksX6_isWord_0 0 rfl rfl)
theorem dX6_isWord_1 : decode cX6_isWord 1 = .ok (.getfield 49, 3) := dk_180 0 49 (dk_at dksX6_isWord_0 1 rfl rfl)
theorem dX6_isWord_4 : decode cX6_isWord 4 = .ok (.aload_n 0, 1) := dk_42 (dk_at dksX6_isWord_0 4 rfl rfl)
theorem dX6_isWord_5 : decode cX6_isWord 5 = .ok (.getfield 42, 3) := dk_180 0 42 (dk_at dksX6_isWord_0 5 rfl rfl)
theorem dX6_isWord_8 : decode cX6_isWord 8 = .ok (.isub, 1) := dk_100 (dk_at dksX6_isWord_0 8 rfl rfl)
theorem dX6_isWord_9 : decode cX6_isWord 9 = .ok (.aload_n 1, 1) := dk_43 (dk_at dksX6_isWord_0 9 rfl rfl)
theorem dX6_isWord_10 : decode cX6_isWord 10 = .ok (.invokevirtual 63, 3) := dk_182 0 63 (dk_at dksX6_isWord_0 10 rfl rfl)
theorem dX6_isWord_13 : decode cX6_isWord 13 = .ok (.if_icmp .eq 5, 3) := dk_159 0 5 (dk_at dksX6_isWord_0 13 rfl rfl)
theorem dX6_isWord_16 : decode cX6_isWord 16 = .ok (.iconst 0, 1) := dk_3 (dk_at dksX6_isWord_0 16 rfl rfl)
theorem dX6_isWord_17 : decode cX6_isWord 17 = .ok (.ireturn, 1) := dk_172 (dk_at dksX6_isWord_0 17 rfl rfl)
theorem dX6_isWord_18 : decode cX6_isWord 18 = .ok (.iconst 0, 1) := dk_3 (dk_at dksX6_isWord_0 18 rfl rfl)
theorem dX6_isWord_19 : decode cX6_isWord 19 = .ok (.istore_n 2, 1) := dk_61 (dk_at dksX6_isWord_0 19 rfl rfl)
theorem dX6_isWord_20 : decode cX6_isWord 20 = .ok (.iload_n 2, 1) := dk_28 (dk_at dksX6_isWord_0 20 rfl rfl)
theorem dX6_isWord_21 : decode cX6_isWord 21 = .ok (.aload_n 1, 1) := dk_43 (dk_at dksX6_isWord_0 21 rfl rfl)
theorem dX6_isWord_22 : decode cX6_isWord 22 = .ok (.invokevirtual 63, 3) := dk_182 0 63 (dk_at dksX6_isWord_1 0 rfl rfl)
theorem dX6_isWord_25 : decode cX6_isWord 25 = .ok (.if_icmp .ge 33, 3) := dk_162 0 33 (dk_at dksX6_isWord_1 3 rfl rfl)
theorem dX6_isWord_28 : decode cX6_isWord 28 = .ok (.aload_n 0, 1) := dk_42 (dk_at dksX6_isWord_1 6 rfl rfl)
theorem dX6_isWord_29 : decode cX6_isWord 29 = .ok (.getfield 3, 3) := dk_180 0 3 (dk_at dksX6_isWord_1 7 rfl rfl)
theorem dX6_isWord_32 : decode cX6_isWord 32 = .ok (.getfield 52, 3) := dk_180 0 52 (dk_at dksX6_isWord_1 10 rfl rfl)
theorem dX6_isWord_35 : decode cX6_isWord 35 = .ok (.aload_n 0, 1) := dk_42 (dk_at dksX6_isWord_1 13 rfl rfl)
theorem dX6_isWord_36 : decode cX6_isWord 36 = .ok (.getfield 42, 3) := dk_180 0 42 (dk_at dksX6_isWord_1 14 rfl rfl)
theorem dX6_isWord_39 : decode cX6_isWord 39 = .ok (.iload_n 2, 1) := dk_28 (dk_at dksX6_isWord_1 17 rfl rfl)
theorem dX6_isWord_40 : decode cX6_isWord 40 = .ok (.iadd, 1) := dk_96 (dk_at dksX6_isWord_1 18 rfl rfl)
theorem dX6_isWord_41 : decode cX6_isWord 41 = .ok (.baload, 1) := dk_51 (dk_at dksX6_isWord_1 19 rfl rfl)
theorem dX6_isWord_42 : decode cX6_isWord 42 = .ok (.aload_n 1, 1) := dk_43 (dk_at dksX6_isWord_1 20 rfl rfl)
theorem dX6_isWord_43 : decode cX6_isWord 43 = .ok (.iload_n 2, 1) := dk_28 (dk_at dksX6_isWord_1 21 rfl rfl)
theorem dX6_isWord_44 : decode cX6_isWord 44 = .ok (.invokevirtual 69, 3) := dk_182 0 69 (dk_at dksX6_isWord_2 0 rfl rfl)
theorem dX6_isWord_47 : decode cX6_isWord 47 = .ok (.if_icmp .eq 5, 3) := dk_159 0 5 (dk_at dksX6_isWord_2 3 rfl rfl)
theorem dX6_isWord_50 : decode cX6_isWord 50 = .ok (.iconst 0, 1) := dk_3 (dk_at dksX6_isWord_2 6 rfl rfl)
theorem dX6_isWord_51 : decode cX6_isWord 51 = .ok (.ireturn, 1) := dk_172 (dk_at dksX6_isWord_2 7 rfl rfl)
theorem dX6_isWord_52 : decode cX6_isWord 52 = .ok (.iinc 2 1, 3) := dk_132 2 1 (dk_at dksX6_isWord_2 8 rfl rfl)
theorem dX6_isWord_55 : decode cX6_isWord 55 = .ok (.goto (-35), 3) := dk_167 255 221 (dk_at dksX6_isWord_2 11 rfl rfl)
theorem dX6_isWord_58 : decode cX6_isWord 58 = .ok (.iconst 1, 1) := dk_4 (dk_at dksX6_isWord_2 14 rfl rfl)
theorem dX6_isWord_59 : decode cX6_isWord 59 = .ok (.ireturn, 1) := dk_172 (dk_at dksX6_isWord_2 15 rfl rfl)
noncomputable def lb_X6_isWord_20 (E : ax_E) (x0 : Option Nat) (x1 : Option Nat) (x2 : Int) (h : ax_H) : Option ((Int × ax_H) ⊕ (Int × ax_H)) :=
  (ax_ce E h x1 51).bind fun _ => (f_J11_length E x1 h).bind fun q1 =>
  if i2 x2 < i2 q1.1 then
    (ax_gRs E q1.2 x0 [(25, 7), (7, 7)]).bind fun v2 =>
    (ax_gR E q1.2 v2 0 11).bind fun v3 =>
    (ax_gIs E q1.2 x0 [(25, 0), (7, 0)]).bind fun v4 =>
    (ax_ld E q1.2 v3 101 (v4 + x2)).bind fun v5 =>
    (ax_ce E q1.2 x1 51).bind fun _ => (f_J11_charAt E x1 x2 q1.2).bind fun q6 =>
    if i2 v5 = i2 q6.1 then
      some (.inl ((x2 + 1), q6.2))
    else
      (some (0, q6.2)).map Sum.inr
  else
    (some (1, q1.2)).map Sum.inr
noncomputable def f_X6_isWord_20 (E : ax_E) (x0 : Option Nat) (x1 : Option Nat) (x2 : Int) (h : ax_H) : Option (Int × ax_H) :=
  ax_iter (fun s : Int × ax_H => lb_X6_isWord_20 E x0 x1 s.1 s.2) (x2, h)
noncomputable def f_X6_isWord (E : ax_E) (x0 : Option Nat) (x1 : Option Nat) (h : ax_H) : Option (Int × ax_H) :=
  (ax_gIs E h x0 [(25, 1), (7, 1)]).bind fun v1 =>
  (ax_gIs E h x0 [(25, 0), (7, 0)]).bind fun v2 =>
  (ax_ce E h x1 51).bind fun _ => (f_J11_length E x1 h).bind fun q3 =>
  if i2 (v1 - v2) = i2 q3.1 then
    f_X6_isWord_20 E x0 x1 0 q3.2
  else
    some (0, q3.2)
def pi_X6_isWord_20 (G : ax_G) (X : ax_X) (Q : State → Prop) (x0 : Option Nat) (x1 : Option Nat) : Int × ax_H → Prop := fun s => ∀ ls : Array Slot, ax_hl ls 3 [(0, .inr (.inr x0)), (1, .inr (.inr x1)), (2, .inl s.1)] → ax_W G X Q s.2 20 ls []
set_option maxHeartbeats 4000000 in
theorem wb_X6_isWord_20 {l : Launch} {G : ax_G} {X : ax_X} {Q : State → Prop} {h0 h : ax_H} {ls : Array Slot} (hSF : ax_SF G) (B : ax_BL l G X cX6_isWord 3 RX6 5 125) (Z : ax_Z X h0 ((some FieldType.boolean))) (hn : X.2.2.2.2.2.2.2.2.1.name = yX6_isWord.name) (x0 : Option Nat) (x1 : Option Nat) (x2 : Int) {w : (Int × ax_H) ⊕ (Int × ax_H)} (hl : ax_hl ls 3 [(0, .inr (.inr x0)), (1, .inr (.inr x1)), (2, .inl x2)]) (e : lb_X6_isWord_20 G.2.2 x0 x1 x2 h = some w) (hp : (ax_PL (pi_X6_isWord_20 G X Q x0 x1) (fun w : Int × ax_H => Q = ax_Q G X h0 w.2 (some (.int (Int32.ofInt w.1))))) w) : ax_W G X Q h 20 ls [] := by
  unfold lb_X6_isWord_20 at e
  refine ax_iload_n B dX6_isWord_20 rfl hl 2 rfl ?_
  refine ax_aload_n B dX6_isWord_21 rfl hl 1 rfl ?_
  refine ax_ivI (y := yJ11_length) (n := 0) (As := []) B kd51 (lw_V q849 q850 q851 q142 q852) (by decide +kernel) ⟨Nat.le_of_ble_eq_true rfl, Nat.le_of_ble_eq_true rfl⟩ (fun w1 e1 => mt_J11_length l G hSF x1 _ w1 e1) rfl hl.size (by simp only [List.map_cons, List.map_nil, List.sum_cons, List.sum_nil, va_rf_cat, ax_catI, ax_catL]; decide) dX6_isWord_22 e (fun q1 e => ?_)
  refine ax_icmp_ge (tgt := 58) B dX6_isWord_25 (by decide) e (fun e => ?_) (fun e => ?_)
  · refine ax_aload_n B dX6_isWord_28 rfl hl 0 rfl ?_
    refine ax_getRs B fs_X6_3 (fun _ _ => rfl) dX6_isWord_29 e (fun v2 e => ?_)
    refine ax_getR B ff_X6_52_0 (fun _ _ => rfl) dX6_isWord_32 e (fun v3 e => ?_)
    refine ax_aload_n B dX6_isWord_35 rfl hl 0 rfl ?_
    refine ax_getIs B fs_X6_42 (fun _ _ => rfl) dX6_isWord_36 e (fun v4 e => ?_)
    refine ax_iload_n B dX6_isWord_39 rfl hl 2 rfl ?_
    refine ax_iadd' B dX6_isWord_40 ?_
    refine ax_bald B kd101 dX6_isWord_41 e (fun v5 e => ?_)
    refine ax_aload_n B dX6_isWord_42 rfl hl 1 rfl ?_
    refine ax_iload_n B dX6_isWord_43 rfl hl 2 rfl ?_
    refine ax_ivI (y := yJ11_charAt) (n := 1) (As := [.int (Int32.ofInt x2)]) B kd51 (lw_V q859 q860 q861 q142 q862) (by decide +kernel) ⟨Nat.le_of_ble_eq_true rfl, Nat.le_of_ble_eq_true rfl⟩ (fun w1 e1 => mt_J11_charAt l G hSF x1 x2 _ w1 e1) rfl hl.size (by simp only [List.map_cons, List.map_nil, List.sum_cons, List.sum_nil, va_rf_cat, ax_catI, ax_catL]; decide) dX6_isWord_44 e (fun q6 e => ?_)
    refine ax_icmp_eq (tgt := 52) B dX6_isWord_47 (by decide) e (fun e => ?_) (fun e => ?_)
    · refine ax_iinc (L' := [(2, .inl (x2 + 1)), (0, .inr (.inr x0)), (1, .inr (.inr x1))]) B dX6_isWord_52 hl 2 rfl (by decide) rfl (fun ls hl => ?_)
      refine ax_goto (tgt := 20) B dX6_isWord_55 (by decide) ?_
      cases e
      exact hp _ (hl.sub [1, 2, 0] rfl)
    · obtain ⟨w, e9_1, rfl⟩ := Option.map_eq_some_iff.mp e
      have e := e9_1
      refine ax_iconst B dX6_isWord_50 ?_
      have e8 := e
      have hp : Q = _ := hp
      subst hp
      exact ax_zreturnL (by decide) B Z dX6_isWord_51 e8
  · obtain ⟨w, e9_2, rfl⟩ := Option.map_eq_some_iff.mp e
    have e := e9_2
    refine ax_iconst B dX6_isWord_58 ?_
    have e8 := e
    have hp : Q = _ := hp
    subst hp
    exact ax_zreturnL (by decide) B Z dX6_isWord_59 e8
theorem w_X6_isWord_20 {l : Launch} {G : ax_G} {X : ax_X} {Q : State → Prop} {h0 h : ax_H} {ls : Array Slot} (hSF : ax_SF G) (B : ax_BL l G X cX6_isWord 3 RX6 5 125) (Z : ax_Z X h0 ((some FieldType.boolean))) (hn : X.2.2.2.2.2.2.2.2.1.name = yX6_isWord.name) (x0 : Option Nat) (x1 : Option Nat) (x2 : Int) {w : Int × ax_H} (hl : ax_hl ls 3 [(0, .inr (.inr x0)), (1, .inr (.inr x1)), (2, .inl x2)]) (e : f_X6_isWord_20 G.2.2 x0 x1 x2 h = some w) (hp : (fun w : Int × ax_H => Q = ax_Q G X h0 w.2 (some (.int (Int32.ofInt w.1)))) w) : ax_W G X Q h 20 ls [] :=
  ax_iter_W (Pin := pi_X6_isWord_20 G X Q x0 x1) (Pout := (fun w : Int × ax_H => Q = ax_Q G X h0 w.2 (some (.int (Int32.ofInt w.1))))) (fun s w e hp ls hl => wb_X6_isWord_20 hSF B Z hn x0 x1 s.1 hl e hp) _ _ e hp ls hl
set_option maxHeartbeats 4000000 in
theorem we_X6_isWord {l : Launch} {G : ax_G} {X : ax_X} {Q : State → Prop} {h0 h : ax_H} {ls : Array Slot} (hSF : ax_SF G) (B : ax_BL l G X cX6_isWord 3 RX6 5 125) (Z : ax_Z X h0 ((some FieldType.boolean))) (hn : X.2.2.2.2.2.2.2.2.1.name = yX6_isWord.name) (x0 : Option Nat) (x1 : Option Nat) {w : Int × ax_H} (hl : ax_hl ls 3 [(0, .inr (.inr x0)), (1, .inr (.inr x1))]) (e : f_X6_isWord G.2.2 x0 x1 h = some w) (hp : (fun w : Int × ax_H => Q = ax_Q G X h0 w.2 (some (.int (Int32.ofInt w.1)))) w) : ax_W G X Q h 0 ls [] := by
  unfold f_X6_isWord at e
  refine ax_aload_n B dX6_isWord_0 rfl hl 0 rfl ?_
  refine ax_getIs B fs_X6_49 (fun _ _ => rfl) dX6_isWord_1 e (fun v1 e => ?_)
  refine ax_aload_n B dX6_isWord_4 rfl hl 0 rfl ?_
  refine ax_getIs B fs_X6_42 (fun _ _ => rfl) dX6_isWord_5 e (fun v2 e => ?_)
  refine ax_isub' B dX6_isWord_8 ?_
  refine ax_aload_n B dX6_isWord_9 rfl hl 1 rfl ?_
  refine ax_ivI (y := yJ11_length) (n := 0) (As := []) B kd51 (lw_V q849 q850 q851 q142 q852) (by decide +kernel) ⟨Nat.le_of_ble_eq_true rfl, Nat.le_of_ble_eq_true rfl⟩ (fun w1 e1 => mt_J11_length l G hSF x1 _ w1 e1) rfl hl.size (by simp only [List.map_cons, List.map_nil, List.sum_cons, List.sum_nil, va_rf_cat, ax_catI, ax_catL]; decide) dX6_isWord_10 e (fun q3 e => ?_)
  refine ax_icmp_eq (tgt := 18) B dX6_isWord_13 (by decide) e (fun e => ?_) (fun e => ?_)
  · refine ax_iconst B dX6_isWord_18 ?_
    refine ax_istore_n (L' := [(2, .inl 0), (0, .inr (.inr x0)), (1, .inr (.inr x1))]) B dX6_isWord_19 rfl hl (by decide) rfl (fun ls hl => ?_)
    exact w_X6_isWord_20 hSF B Z hn x0 x1 0 (hl.sub [1, 2, 0] rfl) e hp
  · refine ax_iconst B dX6_isWord_16 ?_
    have e8 := e
    have hp : Q = _ := hp
    subst hp
    exact ax_zreturnL (by decide) B Z dX6_isWord_17 e8
theorem mt_X6_isWord (l : Launch) (G : ax_G) (hSF : ax_SF G) (x0 : Option Nat) (x1 : Option Nat) (h : ax_H) (w : Int × ax_H) (e : f_X6_isWord G.2.2 x0 x1 h = some w) : ax_Met l G yX6_isWord cX6_isWord 3 ((some FieldType.boolean)) 5 125 [va_rf x0, va_rf x1] h w.2 (some (.int (Int32.ofInt w.1))) :=
  ax_enter [.inr (.inr x0), .inr (.inr x1)] (y := yX6_isWord) hSF (plainFor_of_name (by decide +kernel)) (Nat.le_of_ble_eq_true rfl) (fun X ls B Z hn hl => we_X6_isWord hSF B Z hn x0 x1 hl e rfl)
def dkwX6_accept_0 : List UInt8 := [42, 43, 182, 0, 73, 61, 28, 153, 0, 7, 42, 182, 0, 25, 28, 172]
abbrev dktX6_accept_0 : List UInt8 := dkwX6_accept_0 ++ []
theorem dksX6_accept_0 : cX6_accept.data.toList.drop 0 = dktX6_accept_0 := by decide +kernel
theorem dX6_accept_0 : decode cX6_accept 0 = .ok (.aload_n 0, 1) := dk_42 (dk_at dksX6_accept_0 0 rfl rfl)
theorem dX6_accept_1 : decode cX6_accept 1 = .ok (.aload_n 1, 1) := dk_43 (dk_at dksX6_accept_0 1 rfl rfl)
theorem dX6_accept_2 : decode cX6_accept 2 = .ok (.invokevirtual 73, 3) := dk_182 0 73 (dk_at dksX6_accept_0 2 rfl rfl)
theorem dX6_accept_5 : decode cX6_accept 5 = .ok (.istore_n 2, 1) := dk_61 (dk_at dksX6_accept_0 5 rfl rfl)
theorem dX6_accept_6 : decode cX6_accept 6 = .ok (.iload_n 2, 1) := dk_28 (dk_at dksX6_accept_0 6 rfl rfl)
theorem dX6_accept_7 : decode cX6_accept 7 = .ok (.ifCond .eq 7, 3) := dk_153 0 7 (dk_at dksX6_accept_0 7 rfl rfl)
theorem dX6_accept_10 : decode cX6_accept 10 = .ok (.aload_n 0, 1) := dk_42 (dk_at dksX6_accept_0 10 rfl rfl)
theorem dX6_accept_11 : decode cX6_accept 11 = .ok (.invokevirtual 25, 3) := dk_182 0 25 (dk_at dksX6_accept_0 11 rfl rfl)
theorem dX6_accept_14 : decode cX6_accept 14 = .ok (.iload_n 2, 1) := dk_28 (dk_at dksX6_accept_0 14 rfl rfl)
theorem dX6_accept_15 : decode cX6_accept 15 = .ok (.ireturn, 1) := dk_172 (dk_at dksX6_accept_0 15 rfl rfl)
noncomputable def f_X6_accept_14 (E : ax_E) (x2 : Int) (h : ax_H) : Option (Int × ax_H) :=
  if x2 = 0 ∨ x2 = 1 then some (x2, h) else none
noncomputable def f_X6_accept (E : ax_E) (x0 : Option Nat) (x1 : Option Nat) (h : ax_H) : Option (Int × ax_H) :=
  (ax_dp E h x0 fun t => if t = 25 ∨ t = 7 then f_X6_isWord E x0 x1 h else none).bind fun q1 =>
  if i2 q1.1 = 0 then
    f_X6_accept_14 E q1.1 q1.2
  else
    (ax_dp E q1.2 x0 fun t => if t = 25 ∨ t = 7 then f_X6_next E x0 q1.2 else none).bind fun h2 =>
    f_X6_accept_14 E q1.1 h2
set_option maxHeartbeats 4000000 in
theorem w_X6_accept_14 {l : Launch} {G : ax_G} {X : ax_X} {Q : State → Prop} {h0 h : ax_H} {ls : Array Slot} (hSF : ax_SF G) (B : ax_BL l G X cX6_accept 3 RX6 6 147) (Z : ax_Z X h0 ((some FieldType.boolean))) (hn : X.2.2.2.2.2.2.2.2.1.name = yX6_accept.name) (x2 : Int) {w : Int × ax_H} (hl : ax_hl ls 3 [(2, .inl x2)]) (e : f_X6_accept_14 G.2.2 x2 h = some w) (hp : (fun w : Int × ax_H => Q = ax_Q G X h0 w.2 (some (.int (Int32.ofInt w.1)))) w) : ax_W G X Q h 14 ls [] := by
  unfold f_X6_accept_14 at e
  refine ax_iload_n B dX6_accept_14 rfl hl 0 rfl ?_
  have e8 := e
  have hp : Q = _ := hp
  subst hp
  exact ax_zreturn B Z dX6_accept_15 e8
set_option maxHeartbeats 4000000 in
theorem we_X6_accept {l : Launch} {G : ax_G} {X : ax_X} {Q : State → Prop} {h0 h : ax_H} {ls : Array Slot} (hSF : ax_SF G) (B : ax_BL l G X cX6_accept 3 RX6 6 147) (Z : ax_Z X h0 ((some FieldType.boolean))) (hn : X.2.2.2.2.2.2.2.2.1.name = yX6_accept.name) (x0 : Option Nat) (x1 : Option Nat) {w : Int × ax_H} (hl : ax_hl ls 3 [(0, .inr (.inr x0)), (1, .inr (.inr x1))]) (e : f_X6_accept G.2.2 x0 x1 h = some w) (hp : (fun w : Int × ax_H => Q = ax_Q G X h0 w.2 (some (.int (Int32.ofInt w.1)))) w) : ax_W G X Q h 0 ls [] := by
  unfold f_X6_accept at e
  refine ax_aload_n B dX6_accept_0 rfl hl 0 rfl ?_
  refine ax_aload_n B dX6_accept_1 rfl hl 1 rfl ?_
  refine ax_iwI (x := ⟨"DebtDoors$Reader", "isWord", "(Ljava/lang/String;)Z"⟩) (n := 1) (As := [va_rf x1]) B (fun w1 e1 => ?_) rfl hl.size (by decide) dX6_accept_2 e (fun q1 e => ?_)
  · obtain ⟨t, c, e2, e1⟩ := ax_dp_spec e1
    rcases ax_ite e1 with ⟨hk, e1⟩ | ⟨-, e1⟩
    · rcases hk with rfl | rfl
      · exact ax_cal B kd25 e2 q843 q845 (ax_dcC B q844 q848) (B.2.1.2.2.2.2 _ q847) q844 q144 q848 (by decide +kernel) ⟨Nat.le_of_ble_eq_true rfl, Nat.le_of_ble_eq_true rfl⟩ (mt_X6_isWord l G hSF x0 x1 _ w1 e1)
      · exact ax_cal B kd7 e2 q843 q845 (ax_dcC B q844 q848) (B.2.1.2.2.2.2 _ q846) q844 q144 q848 (by decide +kernel) ⟨Nat.le_of_ble_eq_true rfl, Nat.le_of_ble_eq_true rfl⟩ (mt_X6_isWord l G hSF x0 x1 _ w1 e1)
    cases e1
  refine ax_istore_n (L' := [(2, .inl q1.1), (0, .inr (.inr x0)), (1, .inr (.inr x1))]) B dX6_accept_5 rfl hl (by decide) rfl (fun ls hl => ?_)
  refine ax_iload_n B dX6_accept_6 rfl hl 0 rfl ?_
  refine ax_if_eq (tgt := 14) B dX6_accept_7 (by decide) e (fun e => ?_) (fun e => ?_)
  · exact w_X6_accept_14 hSF B Z hn q1.1 (hl.sub [0] rfl) e hp
  · refine ax_aload_n B dX6_accept_10 rfl hl 1 rfl ?_
    refine ax_iwV (x := ⟨"DebtDoors$Reader", "next", "()V"⟩) (n := 0) (As := []) B (fun w1 e1 => ?_) rfl hl.size (by decide) dX6_accept_11 e (fun h2 e => ?_)
    · obtain ⟨t, c, e2, e1⟩ := ax_dp_spec e1
      rcases ax_ite e1 with ⟨hk, e1⟩ | ⟨-, e1⟩
      · rcases hk with rfl | rfl
        · exact ax_cal B kd25 e2 q789 q791 (ax_dcD B q901) (B.2.1.2.2.2.2 _ q793) q790 q144 q794 (by decide +kernel) ⟨Nat.le_of_ble_eq_true rfl, Nat.le_of_ble_eq_true rfl⟩ (mt_X6_next l G hSF x0 _ w1 e1)
        · exact ax_cal B kd7 e2 q789 q791 (ax_dcD B q901) (B.2.1.2.2.2.2 _ q792) q790 q144 q794 (by decide +kernel) ⟨Nat.le_of_ble_eq_true rfl, Nat.le_of_ble_eq_true rfl⟩ (mt_X6_next l G hSF x0 _ w1 e1)
      cases e1
    exact w_X6_accept_14 hSF B Z hn q1.1 (hl.sub [0] rfl) e hp
theorem mt_X6_accept (l : Launch) (G : ax_G) (hSF : ax_SF G) (x0 : Option Nat) (x1 : Option Nat) (h : ax_H) (w : Int × ax_H) (e : f_X6_accept G.2.2 x0 x1 h = some w) : ax_Met l G yX6_accept cX6_accept 3 ((some FieldType.boolean)) 6 147 [va_rf x0, va_rf x1] h w.2 (some (.int (Int32.ofInt w.1))) :=
  ax_enter [.inr (.inr x0), .inr (.inr x1)] (y := yX6_accept) hSF (plainFor_of_name (by decide +kernel)) (Nat.le_of_ble_eq_true rfl) (fun X ls B Z hn hl => we_X6_accept hSF B Z hn x0 x1 hl e rfl)
def dkwX20_init_0 : List UInt8 := [42, 43, 181, 0, 3, 42, 183, 0, 9, 42, 4, 181, 0, 15, 177]
abbrev dktX20_init_0 : List UInt8 := dkwX20_init_0 ++ []
theorem dksX20_init_0 : cX20_init.data.toList.drop 0 = dktX20_init_0 := by decide +kernel
theorem dX20_init_0 : decode cX20_init 0 = .ok (.aload_n 0, 1) := dk_42 (dk_at dksX20_init_0 0 rfl rfl)
theorem dX20_init_1 : decode cX20_init 1 = .ok (.aload_n 1, 1) := dk_43 (dk_at dksX20_init_0 1 rfl rfl)
theorem dX20_init_2 : decode cX20_init 2 = .ok (.putfield 3, 3) := dk_181 0 3 (dk_at dksX20_init_0 2 rfl rfl)
theorem dX20_init_5 : decode cX20_init 5 = .ok (.aload_n 0, 1) := dk_42 (dk_at dksX20_init_0 5 rfl rfl)
theorem dX20_init_6 : decode cX20_init 6 = .ok (.invokespecial 9, 3) := dk_183 0 9 (dk_at dksX20_init_0 6 rfl rfl)
theorem dX20_init_9 : decode cX20_init 9 = .ok (.aload_n 0, 1) := dk_42 (dk_at dksX20_init_0 9 rfl rfl)
theorem dX20_init_10 : decode cX20_init 10 = .ok (.iconst 1, 1) := dk_4 (dk_at dksX20_init_0 10 rfl rfl)
theorem dX20_init_11 : decode cX20_init 11 = .ok (.putfield 15, 3) := dk_181 0 15 (dk_at dksX20_init_0 11 rfl rfl)
theorem dX20_init_14 : decode cX20_init 14 = .ok (.return_, 1) := dk_177 (dk_at dksX20_init_0 14 rfl rfl)
noncomputable def f_X20_init (E : ax_E) (x0 : Option Nat) (x1 : Option Nat) (h : ax_H) : Option (ax_H) :=
  (ax_pRs h x0 [(21, 3), (23, 7), (24, 7)] x1).bind fun h1 =>
  x0.bind fun _ =>
  (ax_pIs h1 x0 [(21, 1), (23, 5), (24, 5)] 1).bind fun h2 =>
  some h2
set_option maxHeartbeats 4000000 in
theorem we_X20_init {l : Launch} {G : ax_G} {X : ax_X} {Q : State → Prop} {h0 h : ax_H} {ls : Array Slot} (hSF : ax_SF G) (B : ax_BL l G X cX20_init 2 RX20 1 40) (Z : ax_Z X h0 none) (hn : X.2.2.2.2.2.2.2.2.1.name = yX20_init.name) (x0 : Option Nat) (x1 : Option Nat) {w : ax_H} (hl : ax_hl ls 2 [(0, .inr (.inr x0)), (1, .inr (.inr x1))]) (e : f_X20_init G.2.2 x0 x1 h = some w) (hp : (fun w : ax_H => Q = ax_Q G X h0 w none) w) : ax_W G X Q h 0 ls [] := by
  unfold f_X20_init at e
  refine ax_aload_n B dX20_init_0 rfl hl 0 rfl ?_
  refine ax_aload_n B dX20_init_1 rfl hl 1 rfl ?_
  refine ax_putRs B fs_X20_3 (Or.inr ⟨rfl, rfl, hn⟩) rfl dX20_init_2 e (fun h1 e => ?_)
  refine ax_aload_n B dX20_init_5 rfl hl 0 rfl ?_
  refine ax_oiR B q1151 q183 q184 hl.size (by decide) (by decide) dX20_init_6 e (fun e => ?_)
  refine ax_aload_n B dX20_init_9 rfl hl 0 rfl ?_
  refine ax_iconst B dX20_init_10 ?_
  refine ax_putIs B fs_X20_15 (Or.inl rfl) rfl dX20_init_11 e (fun h2 e => ?_)
  have e8 := e
  have hp : Q = _ := hp
  subst hp
  exact ax_return B Z dX20_init_14 e8
theorem mt_X20_init (l : Launch) (G : ax_G) (hSF : ax_SF G) (x0 : Option Nat) (x1 : Option Nat) (h : ax_H) (w : ax_H) (e : f_X20_init G.2.2 x0 x1 h = some w) : ax_Met l G yX20_init cX20_init 2 none 1 40 [va_rf x0, va_rf x1] h w none :=
  ax_enter [.inr (.inr x0), .inr (.inr x1)] (y := yX20_init) hSF (plainFor_of_name (by decide +kernel)) (Nat.le_of_ble_eq_true rfl) (fun X ls B Z hn hl => we_X20_init hSF B Z hn x0 x1 hl e rfl)
def dkwX21_init_0 : List UInt8 := [42, 43, 181, 0, 1, 42, 43, 183, 0, 7, 177]
abbrev dktX21_init_0 : List UInt8 := dkwX21_init_0 ++ []
theorem dksX21_init_0 : cX21_init.data.toList.drop 0 = dktX21_init_0 := by decide +kernel
theorem dX21_init_0 : decode cX21_init 0 = .ok (.aload_n 0, 1) := dk_42 (dk_at dksX21_init_0 0 rfl rfl)
theorem dX21_init_1 : decode cX21_init 1 = .ok (.aload_n 1, 1) := dk_43 (dk_at dksX21_init_0 1 rfl rfl)
theorem dX21_init_2 : decode cX21_init 2 = .ok (.putfield 1, 3) := dk_181 0 1 (dk_at dksX21_init_0 2 rfl rfl)
theorem dX21_init_5 : decode cX21_init 5 = .ok (.aload_n 0, 1) := dk_42 (dk_at dksX21_init_0 5 rfl rfl)
theorem dX21_init_6 : decode cX21_init 6 = .ok (.aload_n 1, 1) := dk_43 (dk_at dksX21_init_0 6 rfl rfl)
theorem dX21_init_7 : decode cX21_init 7 = .ok (.invokespecial 7, 3) := dk_183 0 7 (dk_at dksX21_init_0 7 rfl rfl)
theorem dX21_init_10 : decode cX21_init 10 = .ok (.return_, 1) := dk_177 (dk_at dksX21_init_0 10 rfl rfl)
noncomputable def f_X21_init (E : ax_E) (x0 : Option Nat) (x1 : Option Nat) (h : ax_H) : Option (ax_H) :=
  (ax_pR h x0 21 4 x1).bind fun h1 =>
  x0.bind fun _ => (f_X20_init E x0 x1 h1).bind fun h2 =>
  some h2
set_option maxHeartbeats 4000000 in
theorem we_X21_init {l : Launch} {G : ax_G} {X : ax_X} {Q : State → Prop} {h0 h : ax_H} {ls : Array Slot} (hSF : ax_SF G) (B : ax_BL l G X cX21_init 2 RX21 2 61) (Z : ax_Z X h0 none) (hn : X.2.2.2.2.2.2.2.2.1.name = yX21_init.name) (x0 : Option Nat) (x1 : Option Nat) {w : ax_H} (hl : ax_hl ls 2 [(0, .inr (.inr x0)), (1, .inr (.inr x1))]) (e : f_X21_init G.2.2 x0 x1 h = some w) (hp : (fun w : ax_H => Q = ax_Q G X h0 w none) w) : ax_W G X Q h 0 ls [] := by
  unfold f_X21_init at e
  refine ax_aload_n B dX21_init_0 rfl hl 0 rfl ?_
  refine ax_aload_n B dX21_init_1 rfl hl 1 rfl ?_
  refine ax_putR B ff_X21_1_21 (Or.inr ⟨rfl, rfl, hn⟩) rfl dX21_init_2 e (fun h1 e => ?_)
  refine ax_aload_n B dX21_init_5 rfl hl 0 rfl ?_
  refine ax_aload_n B dX21_init_6 rfl hl 1 rfl ?_
  refine ax_iiNR (y := yX20_init) (n := 1) (As := [va_rf x1]) B q1148 q1149 q160 q1150 rfl (by decide +kernel) ⟨Nat.le_of_ble_eq_true rfl, Nat.le_of_ble_eq_true rfl⟩ (fun w1 e1 => mt_X20_init l G hSF x0 x1 _ w1 e1) rfl hl.size (by decide) dX21_init_7 e (fun h2 e => ?_)
  have e8 := e
  have hp : Q = _ := hp
  subst hp
  exact ax_return B Z dX21_init_10 e8
theorem mt_X21_init (l : Launch) (G : ax_G) (hSF : ax_SF G) (x0 : Option Nat) (x1 : Option Nat) (h : ax_H) (w : ax_H) (e : f_X21_init G.2.2 x0 x1 h = some w) : ax_Met l G yX21_init cX21_init 2 none 2 61 [va_rf x0, va_rf x1] h w none :=
  ax_enter [.inr (.inr x0), .inr (.inr x1)] (y := yX21_init) hSF (plainFor_of_name (by decide +kernel)) (Nat.le_of_ble_eq_true rfl) (fun X ls B Z hn hl => we_X21_init hSF B Z hn x0 x1 hl e rfl)
def dkwX6_which_1 : List UInt8 := [167, 255, 235, 2, 172]
abbrev dktX6_which_1 : List UInt8 := dkwX6_which_1 ++ []
def dkwX6_which_0 : List UInt8 := [3, 61, 28, 43, 190, 162, 0, 21, 42, 43, 28, 50, 182, 0, 73, 153, 0, 5, 28, 172, 132, 2, 1]
abbrev dktX6_which_0 : List UInt8 := dkwX6_which_0 ++ dktX6_which_1
theorem dksX6_which_0 : cX6_which.data.toList.drop 0 = dktX6_which_0 := by decide +kernel
theorem dksX6_which_1 : cX6_which.data.toList.drop 23 = dktX6_which_1 := dk_seg dksX6_which_0 23 rfl rfl
theorem dX6_which_0 : decode cX6_which 0 = .ok (.iconst 0, 1) := dk_3 (dk_at dksX6_which_0 0 rfl rfl)
theorem dX6_which_1 : decode cX6_which 1 = .ok (.istore_n 2, 1) := dk_61 (dk_at dksX6_which_0 1 rfl rfl)
theorem dX6_which_2 : decode cX6_which 2 = .ok (.iload_n 2, 1) := dk_28 (dk_at dksX6_which_0 2 rfl rfl)
theorem dX6_which_3 : decode cX6_which 3 = .ok (.aload_n 1, 1) := dk_43 (dk_at dksX6_which_0 3 rfl rfl)
theorem dX6_which_4 : decode cX6_which 4 = .ok (.arraylength, 1) := dk_190 (dk_at dksX6_which_0 4 rfl rfl)
theorem dX6_which_5 : decode cX6_which 5 = .ok (.if_icmp .ge 21, 3) := dk_162 0 21 (dk_at dksX6_which_0 5 rfl rfl)
theorem dX6_which_8 : decode cX6_which 8 = .ok (.aload_n 0, 1) := dk_42 (dk_at dksX6_which_0 8 rfl rfl)
theorem dX6_which_9 : decode cX6_which 9 = .ok (.aload_n 1, 1) := dk_43 (dk_at dksX6_which_0 9 rfl rfl)
theorem dX6_which_10 : decode cX6_which 10 = .ok (.iload_n 2, 1) := dk_28 (dk_at dksX6_which_0 10 rfl rfl)
theorem dX6_which_11 : decode cX6_which 11 = .ok (.aaload, 1) := dk_50 (dk_at dksX6_which_0 11 rfl rfl)
theorem dX6_which_12 : decode cX6_which 12 = .ok (.invokevirtual 73, 3) := dk_182 0 73 (dk_at dksX6_which_0 12 rfl rfl)
theorem dX6_which_15 : decode cX6_which 15 = .ok (.ifCond .eq 5, 3) := dk_153 0 5 (dk_at dksX6_which_0 15 rfl rfl)
theorem dX6_which_18 : decode cX6_which 18 = .ok (.iload_n 2, 1) := dk_28 (dk_at dksX6_which_0 18 rfl rfl)
theorem dX6_which_19 : decode cX6_which 19 = .ok (.ireturn, 1) := dk_172 (dk_at dksX6_which_0 19 rfl rfl)
theorem dX6_which_20 : decode cX6_which 20 = .ok (.iinc 2 1, 3) := dk_132 2 1 (dk_at dksX6_which_0 20 rfl rfl)
theorem dX6_which_23 : decode cX6_which 23 = .ok (.goto (-21), 3) := dk_167 255 235 (dk_at dksX6_which_1 0 rfl rfl)
theorem dX6_which_26 : decode cX6_which 26 = .ok (.iconst (-1), 1) := dk_2 (dk_at dksX6_which_1 3 rfl rfl)
theorem dX6_which_27 : decode cX6_which 27 = .ok (.ireturn, 1) := dk_172 (dk_at dksX6_which_1 4 rfl rfl)
noncomputable def lb_X6_which_2 (E : ax_E) (x0 : Option Nat) (x1 : Option Nat) (x2 : Int) (h : ax_H) : Option ((Int × ax_H) ⊕ (Int × ax_H)) :=
  (ax_len E h x1 108).bind fun v1 =>
  if i2 x2 < i2 v1 then
    (ax_ldR E h x1 108 x2).bind fun v2 =>
    (ax_dp E h x0 fun t => if t = 25 ∨ t = 7 then f_X6_isWord E x0 v2 h else none).bind fun q3 =>
    if i2 q3.1 = 0 then
      some (.inl ((x2 + 1), q3.2))
    else
      (some (x2, q3.2)).map Sum.inr
  else
    (some ((-1), h)).map Sum.inr
noncomputable def f_X6_which_2 (E : ax_E) (x0 : Option Nat) (x1 : Option Nat) (x2 : Int) (h : ax_H) : Option (Int × ax_H) :=
  ax_iter (fun s : Int × ax_H => lb_X6_which_2 E x0 x1 s.1 s.2) (x2, h)
noncomputable def f_X6_which (E : ax_E) (x0 : Option Nat) (x1 : Option Nat) (h : ax_H) : Option (Int × ax_H) :=
  f_X6_which_2 E x0 x1 0 h
def pi_X6_which_2 (G : ax_G) (X : ax_X) (Q : State → Prop) (x0 : Option Nat) (x1 : Option Nat) : Int × ax_H → Prop := fun s => ∀ ls : Array Slot, ax_hl ls 3 [(0, .inr (.inr x0)), (1, .inr (.inr x1)), (2, .inl s.1)] → ax_W G X Q s.2 2 ls []
set_option maxHeartbeats 4000000 in
theorem wb_X6_which_2 {l : Launch} {G : ax_G} {X : ax_X} {Q : State → Prop} {h0 h : ax_H} {ls : Array Slot} (hSF : ax_SF G) (B : ax_BL l G X cX6_which 3 RX6 6 147) (Z : ax_Z X h0 ((some FieldType.int))) (hn : X.2.2.2.2.2.2.2.2.1.name = yX6_which.name) (x0 : Option Nat) (x1 : Option Nat) (x2 : Int) {w : (Int × ax_H) ⊕ (Int × ax_H)} (hl : ax_hl ls 3 [(0, .inr (.inr x0)), (1, .inr (.inr x1)), (2, .inl x2)]) (e : lb_X6_which_2 G.2.2 x0 x1 x2 h = some w) (hp : (ax_PL (pi_X6_which_2 G X Q x0 x1) (fun w : Int × ax_H => Q = ax_Q G X h0 w.2 (some (.int (Int32.ofInt w.1))))) w) : ax_W G X Q h 2 ls [] := by
  unfold lb_X6_which_2 at e
  refine ax_iload_n B dX6_which_2 rfl hl 2 rfl ?_
  refine ax_aload_n B dX6_which_3 rfl hl 1 rfl ?_
  refine ax_alen B kd108 dX6_which_4 e (fun v1 e => ?_)
  refine ax_icmp_ge (tgt := 26) B dX6_which_5 (by decide) e (fun e => ?_) (fun e => ?_)
  · refine ax_aload_n B dX6_which_8 rfl hl 0 rfl ?_
    refine ax_aload_n B dX6_which_9 rfl hl 1 rfl ?_
    refine ax_iload_n B dX6_which_10 rfl hl 2 rfl ?_
    refine ax_aald rfl B kd108 dX6_which_11 e (fun v2 e => ?_)
    refine ax_iwI (x := ⟨"DebtDoors$Reader", "isWord", "(Ljava/lang/String;)Z"⟩) (n := 1) (As := [va_rf v2]) B (fun w1 e1 => ?_) rfl hl.size (by decide) dX6_which_12 e (fun q3 e => ?_)
    · obtain ⟨t, c, e2, e1⟩ := ax_dp_spec e1
      rcases ax_ite e1 with ⟨hk, e1⟩ | ⟨-, e1⟩
      · rcases hk with rfl | rfl
        · exact ax_cal B kd25 e2 q843 q845 (ax_dcC B q844 q848) (B.2.1.2.2.2.2 _ q847) q844 q144 q848 (by decide +kernel) ⟨Nat.le_of_ble_eq_true rfl, Nat.le_of_ble_eq_true rfl⟩ (mt_X6_isWord l G hSF x0 v2 _ w1 e1)
        · exact ax_cal B kd7 e2 q843 q845 (ax_dcC B q844 q848) (B.2.1.2.2.2.2 _ q846) q844 q144 q848 (by decide +kernel) ⟨Nat.le_of_ble_eq_true rfl, Nat.le_of_ble_eq_true rfl⟩ (mt_X6_isWord l G hSF x0 v2 _ w1 e1)
      cases e1
    refine ax_if_eq (tgt := 20) B dX6_which_15 (by decide) e (fun e => ?_) (fun e => ?_)
    · refine ax_iinc (L' := [(2, .inl (x2 + 1)), (0, .inr (.inr x0)), (1, .inr (.inr x1))]) B dX6_which_20 hl 2 rfl (by decide) rfl (fun ls hl => ?_)
      refine ax_goto (tgt := 2) B dX6_which_23 (by decide) ?_
      cases e
      exact hp _ (hl.sub [1, 2, 0] rfl)
    · obtain ⟨w, e9_1, rfl⟩ := Option.map_eq_some_iff.mp e
      have e := e9_1
      refine ax_iload_n B dX6_which_18 rfl hl 2 rfl ?_
      have e8 := e
      have hp : Q = _ := hp
      subst hp
      exact ax_ireturn B Z dX6_which_19 e8
  · obtain ⟨w, e9_2, rfl⟩ := Option.map_eq_some_iff.mp e
    have e := e9_2
    refine ax_iconst B dX6_which_26 ?_
    have e8 := e
    have hp : Q = _ := hp
    subst hp
    exact ax_ireturn B Z dX6_which_27 e8
theorem w_X6_which_2 {l : Launch} {G : ax_G} {X : ax_X} {Q : State → Prop} {h0 h : ax_H} {ls : Array Slot} (hSF : ax_SF G) (B : ax_BL l G X cX6_which 3 RX6 6 147) (Z : ax_Z X h0 ((some FieldType.int))) (hn : X.2.2.2.2.2.2.2.2.1.name = yX6_which.name) (x0 : Option Nat) (x1 : Option Nat) (x2 : Int) {w : Int × ax_H} (hl : ax_hl ls 3 [(0, .inr (.inr x0)), (1, .inr (.inr x1)), (2, .inl x2)]) (e : f_X6_which_2 G.2.2 x0 x1 x2 h = some w) (hp : (fun w : Int × ax_H => Q = ax_Q G X h0 w.2 (some (.int (Int32.ofInt w.1)))) w) : ax_W G X Q h 2 ls [] :=
  ax_iter_W (Pin := pi_X6_which_2 G X Q x0 x1) (Pout := (fun w : Int × ax_H => Q = ax_Q G X h0 w.2 (some (.int (Int32.ofInt w.1))))) (fun s w e hp ls hl => wb_X6_which_2 hSF B Z hn x0 x1 s.1 hl e hp) _ _ e hp ls hl
set_option maxHeartbeats 4000000 in
theorem we_X6_which {l : Launch} {G : ax_G} {X : ax_X} {Q : State → Prop} {h0 h : ax_H} {ls : Array Slot} (hSF : ax_SF G) (B : ax_BL l G X cX6_which 3 RX6 6 147) (Z : ax_Z X h0 ((some FieldType.int))) (hn : X.2.2.2.2.2.2.2.2.1.name = yX6_which.name) (x0 : Option Nat) (x1 : Option Nat) {w : Int × ax_H} (hl : ax_hl ls 3 [(0, .inr (.inr x0)), (1, .inr (.inr x1))]) (e : f_X6_which G.2.2 x0 x1 h = some w) (hp : (fun w : Int × ax_H => Q = ax_Q G X h0 w.2 (some (.int (Int32.ofInt w.1)))) w) : ax_W G X Q h 0 ls [] := by
  unfold f_X6_which at e
  refine ax_iconst B dX6_which_0 ?_
  refine ax_istore_n (L' := [(2, .inl 0), (0, .inr (.inr x0)), (1, .inr (.inr x1))]) B dX6_which_1 rfl hl (by decide) rfl (fun ls hl => ?_)
  exact w_X6_which_2 hSF B Z hn x0 x1 0 (hl.sub [1, 2, 0] rfl) e hp
theorem mt_X6_which (l : Launch) (G : ax_G) (hSF : ax_SF G) (x0 : Option Nat) (x1 : Option Nat) (h : ax_H) (w : Int × ax_H) (e : f_X6_which G.2.2 x0 x1 h = some w) : ax_Met l G yX6_which cX6_which 3 ((some FieldType.int)) 6 147 [va_rf x0, va_rf x1] h w.2 (some (.int (Int32.ofInt w.1))) :=
  ax_enter [.inr (.inr x0), .inr (.inr x1)] (y := yX6_which) hSF (plainFor_of_name (by decide +kernel)) (Nat.le_of_ble_eq_true rfl) (fun X ls B Z hn hl => we_X6_which hSF B Z hn x0 x1 hl e rfl)
theorem dX9_init_0 : decode cX9_init 0 = .ok (.aload_n 0, 1) := by decide +kernel
theorem dX9_init_1 : decode cX9_init 1 = .ok (.invokespecial 1, 3) := by decide +kernel
theorem dX9_init_4 : decode cX9_init 4 = .ok (.return_, 1) := by decide +kernel
noncomputable def f_X9_init (E : ax_E) (x0 : Option Nat) (h : ax_H) : Option (ax_H) :=
  x0.bind fun _ =>
  some h
set_option maxHeartbeats 4000000 in
theorem we_X9_init {l : Launch} {G : ax_G} {X : ax_X} {Q : State → Prop} {h0 h : ax_H} {ls : Array Slot} (hSF : ax_SF G) (B : ax_BL l G X cX9_init 1 RX9 1 40) (Z : ax_Z X h0 none) (hn : X.2.2.2.2.2.2.2.2.1.name = yX9_init.name) (x0 : Option Nat) {w : ax_H} (hl : ax_hl ls 1 [(0, .inr (.inr x0))]) (e : f_X9_init G.2.2 x0 h = some w) (hp : (fun w : ax_H => Q = ax_Q G X h0 w none) w) : ax_W G X Q h 0 ls [] := by
  unfold f_X9_init at e
  refine ax_aload_n B dX9_init_0 rfl hl 0 rfl ?_
  refine ax_oiR B q953 q183 q184 hl.size (by decide) (by decide) dX9_init_1 e (fun e => ?_)
  have e8 := e
  have hp : Q = _ := hp
  subst hp
  exact ax_return B Z dX9_init_4 e8
theorem mt_X9_init (l : Launch) (G : ax_G) (hSF : ax_SF G) (x0 : Option Nat) (h : ax_H) (w : ax_H) (e : f_X9_init G.2.2 x0 h = some w) : ax_Met l G yX9_init cX9_init 1 none 1 40 [va_rf x0] h w none :=
  ax_enter [.inr (.inr x0)] (y := yX9_init) hSF (plainFor_of_name (by decide +kernel)) (Nat.le_of_ble_eq_true rfl) (fun X ls B Z hn hl => we_X9_init hSF B Z hn x0 hl e rfl)
def dkwX10_init_0 : List UInt8 := [42, 183, 0, 1, 42, 27, 181, 0, 7, 177]
abbrev dktX10_init_0 : List UInt8 := dkwX10_init_0 ++ []
theorem dksX10_init_0 : cX10_init.data.toList.drop 0 = dktX10_init_0 := by decide +kernel
theorem dX10_init_0 : decode cX10_init 0 = .ok (.aload_n 0, 1) := dk_42 (dk_at dksX10_init_0 0 rfl rfl)
theorem dX10_init_1 : decode cX10_init 1 = .ok (.invokespecial 1, 3) := dk_183 0 1 (dk_at dksX10_init_0 1 rfl rfl)
theorem dX10_init_4 : decode cX10_init 4 = .ok (.aload_n 0, 1) := dk_42 (dk_at dksX10_init_0 4 rfl rfl)
theorem dX10_init_5 : decode cX10_init 5 = .ok (.iload_n 1, 1) := dk_27 (dk_at dksX10_init_0 5 rfl rfl)
theorem dX10_init_6 : decode cX10_init 6 = .ok (.putfield 7, 3) := dk_181 0 7 (dk_at dksX10_init_0 6 rfl rfl)
theorem dX10_init_9 : decode cX10_init 9 = .ok (.return_, 1) := dk_177 (dk_at dksX10_init_0 9 rfl rfl)
noncomputable def f_X10_init (E : ax_E) (x0 : Option Nat) (x1 : Int) (h : ax_H) : Option (ax_H) :=
  x0.bind fun _ => (f_X9_init E x0 h).bind fun h1 =>
  (ax_pI h1 x0 10 0 x1).bind fun h2 =>
  some h2
set_option maxHeartbeats 4000000 in
theorem we_X10_init {l : Launch} {G : ax_G} {X : ax_X} {Q : State → Prop} {h0 h : ax_H} {ls : Array Slot} (hSF : ax_SF G) (B : ax_BL l G X cX10_init 2 RX10 2 60) (Z : ax_Z X h0 none) (hn : X.2.2.2.2.2.2.2.2.1.name = yX10_init.name) (x0 : Option Nat) (x1 : Int) {w : ax_H} (hl : ax_hl ls 2 [(0, .inr (.inr x0)), (1, .inl x1)]) (e : f_X10_init G.2.2 x0 x1 h = some w) (hp : (fun w : ax_H => Q = ax_Q G X h0 w none) w) : ax_W G X Q h 0 ls [] := by
  unfold f_X10_init at e
  refine ax_aload_n B dX10_init_0 rfl hl 0 rfl ?_
  refine ax_iiNR (y := yX9_init) (n := 0) (As := []) B q950 q951 q149 q952 rfl (by decide +kernel) ⟨Nat.le_of_ble_eq_true rfl, Nat.le_of_ble_eq_true rfl⟩ (fun w1 e1 => mt_X9_init l G hSF x0 _ w1 e1) rfl hl.size (by decide) dX10_init_1 e (fun h1 e => ?_)
  refine ax_aload_n B dX10_init_4 rfl hl 0 rfl ?_
  refine ax_iload_n B dX10_init_5 rfl hl 1 rfl ?_
  refine ax_putI B ff_X10_7_10 (Or.inr ⟨rfl, rfl, hn⟩) rfl dX10_init_6 e (fun h2 e => ?_)
  have e8 := e
  have hp : Q = _ := hp
  subst hp
  exact ax_return B Z dX10_init_9 e8
theorem mt_X10_init (l : Launch) (G : ax_G) (hSF : ax_SF G) (x0 : Option Nat) (x1 : Int) (h : ax_H) (w : ax_H) (e : f_X10_init G.2.2 x0 x1 h = some w) : ax_Met l G yX10_init cX10_init 2 none 2 60 [va_rf x0, .int (Int32.ofInt x1)] h w none :=
  ax_enter [.inr (.inr x0), .inl x1] (y := yX10_init) hSF (plainFor_of_name (by decide +kernel)) (Nat.le_of_ble_eq_true rfl) (fun X ls B Z hn hl => we_X10_init hSF B Z hn x0 x1 hl e rfl)
def dkwX12_init_0 : List UInt8 := [42, 43, 181, 0, 3, 42, 183, 0, 9, 42, 28, 181, 0, 15, 177]
abbrev dktX12_init_0 : List UInt8 := dkwX12_init_0 ++ []
theorem dksX12_init_0 : cX12_init.data.toList.drop 0 = dktX12_init_0 := by decide +kernel
theorem dX12_init_0 : decode cX12_init 0 = .ok (.aload_n 0, 1) := dk_42 (dk_at dksX12_init_0 0 rfl rfl)
theorem dX12_init_1 : decode cX12_init 1 = .ok (.aload_n 1, 1) := dk_43 (dk_at dksX12_init_0 1 rfl rfl)
theorem dX12_init_2 : decode cX12_init 2 = .ok (.putfield 3, 3) := dk_181 0 3 (dk_at dksX12_init_0 2 rfl rfl)
theorem dX12_init_5 : decode cX12_init 5 = .ok (.aload_n 0, 1) := dk_42 (dk_at dksX12_init_0 5 rfl rfl)
theorem dX12_init_6 : decode cX12_init 6 = .ok (.invokespecial 9, 3) := dk_183 0 9 (dk_at dksX12_init_0 6 rfl rfl)
theorem dX12_init_9 : decode cX12_init 9 = .ok (.aload_n 0, 1) := dk_42 (dk_at dksX12_init_0 9 rfl rfl)
theorem dX12_init_10 : decode cX12_init 10 = .ok (.iload_n 2, 1) := dk_28 (dk_at dksX12_init_0 10 rfl rfl)
theorem dX12_init_11 : decode cX12_init 11 = .ok (.putfield 15, 3) := dk_181 0 15 (dk_at dksX12_init_0 11 rfl rfl)
theorem dX12_init_14 : decode cX12_init 14 = .ok (.return_, 1) := dk_177 (dk_at dksX12_init_0 14 rfl rfl)
noncomputable def f_X12_init (E : ax_E) (x0 : Option Nat) (x1 : Option Nat) (x2 : Int) (h : ax_H) : Option (ax_H) :=
  (ax_pR h x0 12 1 x1).bind fun h1 =>
  x0.bind fun _ => (f_X9_init E x0 h1).bind fun h2 =>
  (ax_pI h2 x0 12 0 x2).bind fun h3 =>
  some h3
set_option maxHeartbeats 4000000 in
theorem we_X12_init {l : Launch} {G : ax_G} {X : ax_X} {Q : State → Prop} {h0 h : ax_H} {ls : Array Slot} (hSF : ax_SF G) (B : ax_BL l G X cX12_init 3 RX12 2 60) (Z : ax_Z X h0 none) (hn : X.2.2.2.2.2.2.2.2.1.name = yX12_init.name) (x0 : Option Nat) (x1 : Option Nat) (x2 : Int) {w : ax_H} (hl : ax_hl ls 3 [(0, .inr (.inr x0)), (1, .inr (.inr x1)), (2, .inl x2)]) (e : f_X12_init G.2.2 x0 x1 x2 h = some w) (hp : (fun w : ax_H => Q = ax_Q G X h0 w none) w) : ax_W G X Q h 0 ls [] := by
  unfold f_X12_init at e
  refine ax_aload_n B dX12_init_0 rfl hl 0 rfl ?_
  refine ax_aload_n B dX12_init_1 rfl hl 1 rfl ?_
  refine ax_putR B ff_X12_3_12 (Or.inr ⟨rfl, rfl, hn⟩) rfl dX12_init_2 e (fun h1 e => ?_)
  refine ax_aload_n B dX12_init_5 rfl hl 0 rfl ?_
  refine ax_iiNR (y := yX9_init) (n := 0) (As := []) B q974 q951 q149 q952 rfl (by decide +kernel) ⟨Nat.le_of_ble_eq_true rfl, Nat.le_of_ble_eq_true rfl⟩ (fun w1 e1 => mt_X9_init l G hSF x0 _ w1 e1) rfl hl.size (by decide) dX12_init_6 e (fun h2 e => ?_)
  refine ax_aload_n B dX12_init_9 rfl hl 0 rfl ?_
  refine ax_iload_n B dX12_init_10 rfl hl 2 rfl ?_
  refine ax_putI B ff_X12_15_12 (Or.inr ⟨rfl, rfl, hn⟩) rfl dX12_init_11 e (fun h3 e => ?_)
  have e8 := e
  have hp : Q = _ := hp
  subst hp
  exact ax_return B Z dX12_init_14 e8
theorem mt_X12_init (l : Launch) (G : ax_G) (hSF : ax_SF G) (x0 : Option Nat) (x1 : Option Nat) (x2 : Int) (h : ax_H) (w : ax_H) (e : f_X12_init G.2.2 x0 x1 x2 h = some w) : ax_Met l G yX12_init cX12_init 3 none 2 60 [va_rf x0, va_rf x1, .int (Int32.ofInt x2)] h w none :=
  ax_enter [.inr (.inr x0), .inr (.inr x1), .inl x2] (y := yX12_init) hSF (plainFor_of_name (by decide +kernel)) (Nat.le_of_ble_eq_true rfl) (fun X ls B Z hn hl => we_X12_init hSF B Z hn x0 x1 x2 hl e rfl)
def dkwX11_init_0 : List UInt8 := [42, 183, 0, 1, 42, 27, 181, 0, 7, 177]
abbrev dktX11_init_0 : List UInt8 := dkwX11_init_0 ++ []
theorem dksX11_init_0 : cX11_init.data.toList.drop 0 = dktX11_init_0 := by decide +kernel
theorem dX11_init_0 : decode cX11_init 0 = .ok (.aload_n 0, 1) := dk_42 (dk_at dksX11_init_0 0 rfl rfl)
theorem dX11_init_1 : decode cX11_init 1 = .ok (.invokespecial 1, 3) := dk_183 0 1 (dk_at dksX11_init_0 1 rfl rfl)
theorem dX11_init_4 : decode cX11_init 4 = .ok (.aload_n 0, 1) := dk_42 (dk_at dksX11_init_0 4 rfl rfl)
theorem dX11_init_5 : decode cX11_init 5 = .ok (.iload_n 1, 1) := dk_27 (dk_at dksX11_init_0 5 rfl rfl)
theorem dX11_init_6 : decode cX11_init 6 = .ok (.putfield 7, 3) := dk_181 0 7 (dk_at dksX11_init_0 6 rfl rfl)
theorem dX11_init_9 : decode cX11_init 9 = .ok (.return_, 1) := dk_177 (dk_at dksX11_init_0 9 rfl rfl)
noncomputable def f_X11_init (E : ax_E) (x0 : Option Nat) (x1 : Int) (h : ax_H) : Option (ax_H) :=
  x0.bind fun _ => (f_X9_init E x0 h).bind fun h1 =>
  (ax_pI h1 x0 11 0 x1).bind fun h2 =>
  some h2
set_option maxHeartbeats 4000000 in
theorem we_X11_init {l : Launch} {G : ax_G} {X : ax_X} {Q : State → Prop} {h0 h : ax_H} {ls : Array Slot} (hSF : ax_SF G) (B : ax_BL l G X cX11_init 2 RX11 2 60) (Z : ax_Z X h0 none) (hn : X.2.2.2.2.2.2.2.2.1.name = yX11_init.name) (x0 : Option Nat) (x1 : Int) {w : ax_H} (hl : ax_hl ls 2 [(0, .inr (.inr x0)), (1, .inl x1)]) (e : f_X11_init G.2.2 x0 x1 h = some w) (hp : (fun w : ax_H => Q = ax_Q G X h0 w none) w) : ax_W G X Q h 0 ls [] := by
  unfold f_X11_init at e
  refine ax_aload_n B dX11_init_0 rfl hl 0 rfl ?_
  refine ax_iiNR (y := yX9_init) (n := 0) (As := []) B q987 q951 q149 q952 rfl (by decide +kernel) ⟨Nat.le_of_ble_eq_true rfl, Nat.le_of_ble_eq_true rfl⟩ (fun w1 e1 => mt_X9_init l G hSF x0 _ w1 e1) rfl hl.size (by decide) dX11_init_1 e (fun h1 e => ?_)
  refine ax_aload_n B dX11_init_4 rfl hl 0 rfl ?_
  refine ax_iload_n B dX11_init_5 rfl hl 1 rfl ?_
  refine ax_putI B ff_X11_7_11 (Or.inr ⟨rfl, rfl, hn⟩) rfl dX11_init_6 e (fun h2 e => ?_)
  have e8 := e
  have hp : Q = _ := hp
  subst hp
  exact ax_return B Z dX11_init_9 e8
theorem mt_X11_init (l : Launch) (G : ax_G) (hSF : ax_SF G) (x0 : Option Nat) (x1 : Int) (h : ax_H) (w : ax_H) (e : f_X11_init G.2.2 x0 x1 h = some w) : ax_Met l G yX11_init cX11_init 2 none 2 60 [va_rf x0, .int (Int32.ofInt x1)] h w none :=
  ax_enter [.inr (.inr x0), .inl x1] (y := yX11_init) hSF (plainFor_of_name (by decide +kernel)) (Nat.le_of_ble_eq_true rfl) (fun X ls B Z hn hl => we_X11_init hSF B Z hn x0 x1 hl e rfl)
def dkwX13_init_0 : List UInt8 := [42, 43, 181, 0, 1, 42, 183, 0, 7, 42, 28, 181, 0, 13, 42, 29, 181, 0, 17, 177]
abbrev dktX13_init_0 : List UInt8 := dkwX13_init_0 ++ []
theorem dksX13_init_0 : cX13_init.data.toList.drop 0 = dktX13_init_0 := by decide +kernel
theorem dX13_init_0 : decode cX13_init 0 = .ok (.aload_n 0, 1) := dk_42 (dk_at dksX13_init_0 0 rfl rfl)
theorem dX13_init_1 : decode cX13_init 1 = .ok (.aload_n 1, 1) := dk_43 (dk_at dksX13_init_0 1 rfl rfl)
theorem dX13_init_2 : decode cX13_init 2 = .ok (.putfield 1, 3) := dk_181 0 1 (dk_at dksX13_init_0 2 rfl rfl)
theorem dX13_init_5 : decode cX13_init 5 = .ok (.aload_n 0, 1) := dk_42 (dk_at dksX13_init_0 5 rfl rfl)
theorem dX13_init_6 : decode cX13_init 6 = .ok (.invokespecial 7, 3) := dk_183 0 7 (dk_at dksX13_init_0 6 rfl rfl)
theorem dX13_init_9 : decode cX13_init 9 = .ok (.aload_n 0, 1) := dk_42 (dk_at dksX13_init_0 9 rfl rfl)
theorem dX13_init_10 : decode cX13_init 10 = .ok (.iload_n 2, 1) := dk_28 (dk_at dksX13_init_0 10 rfl rfl)
theorem dX13_init_11 : decode cX13_init 11 = .ok (.putfield 13, 3) := dk_181 0 13 (dk_at dksX13_init_0 11 rfl rfl)
theorem dX13_init_14 : decode cX13_init 14 = .ok (.aload_n 0, 1) := dk_42 (dk_at dksX13_init_0 14 rfl rfl)
theorem dX13_init_15 : decode cX13_init 15 = .ok (.iload_n 3, 1) := dk_29 (dk_at dksX13_init_0 15 rfl rfl)
theorem dX13_init_16 : decode cX13_init 16 = .ok (.putfield 17, 3) := dk_181 0 17 (dk_at dksX13_init_0 16 rfl rfl)
theorem dX13_init_19 : decode cX13_init 19 = .ok (.return_, 1) := dk_177 (dk_at dksX13_init_0 19 rfl rfl)
noncomputable def f_X13_init (E : ax_E) (x0 : Option Nat) (x1 : Option Nat) (x2 : Int) (x3 : Int) (h : ax_H) : Option (ax_H) :=
  (ax_pR h x0 13 2 x1).bind fun h1 =>
  x0.bind fun _ => (f_X9_init E x0 h1).bind fun h2 =>
  (ax_pI h2 x0 13 0 x2).bind fun h3 =>
  (ax_pI h3 x0 13 1 x3).bind fun h4 =>
  some h4
set_option maxHeartbeats 4000000 in
theorem we_X13_init {l : Launch} {G : ax_G} {X : ax_X} {Q : State → Prop} {h0 h : ax_H} {ls : Array Slot} (hSF : ax_SF G) (B : ax_BL l G X cX13_init 4 RX13 2 60) (Z : ax_Z X h0 none) (hn : X.2.2.2.2.2.2.2.2.1.name = yX13_init.name) (x0 : Option Nat) (x1 : Option Nat) (x2 : Int) (x3 : Int) {w : ax_H} (hl : ax_hl ls 4 [(0, .inr (.inr x0)), (1, .inr (.inr x1)), (2, .inl x2), (3, .inl x3)]) (e : f_X13_init G.2.2 x0 x1 x2 x3 h = some w) (hp : (fun w : ax_H => Q = ax_Q G X h0 w none) w) : ax_W G X Q h 0 ls [] := by
  unfold f_X13_init at e
  refine ax_aload_n B dX13_init_0 rfl hl 0 rfl ?_
  refine ax_aload_n B dX13_init_1 rfl hl 1 rfl ?_
  refine ax_putR B ff_X13_1_13 (Or.inr ⟨rfl, rfl, hn⟩) rfl dX13_init_2 e (fun h1 e => ?_)
  refine ax_aload_n B dX13_init_5 rfl hl 0 rfl ?_
  refine ax_iiNR (y := yX9_init) (n := 0) (As := []) B q997 q951 q149 q952 rfl (by decide +kernel) ⟨Nat.le_of_ble_eq_true rfl, Nat.le_of_ble_eq_true rfl⟩ (fun w1 e1 => mt_X9_init l G hSF x0 _ w1 e1) rfl hl.size (by decide) dX13_init_6 e (fun h2 e => ?_)
  refine ax_aload_n B dX13_init_9 rfl hl 0 rfl ?_
  refine ax_iload_n B dX13_init_10 rfl hl 2 rfl ?_
  refine ax_putI B ff_X13_13_13 (Or.inr ⟨rfl, rfl, hn⟩) rfl dX13_init_11 e (fun h3 e => ?_)
  refine ax_aload_n B dX13_init_14 rfl hl 0 rfl ?_
  refine ax_iload_n B dX13_init_15 rfl hl 3 rfl ?_
  refine ax_putI B ff_X13_17_13 (Or.inr ⟨rfl, rfl, hn⟩) rfl dX13_init_16 e (fun h4 e => ?_)
  have e8 := e
  have hp : Q = _ := hp
  subst hp
  exact ax_return B Z dX13_init_19 e8
theorem mt_X13_init (l : Launch) (G : ax_G) (hSF : ax_SF G) (x0 : Option Nat) (x1 : Option Nat) (x2 : Int) (x3 : Int) (h : ax_H) (w : ax_H) (e : f_X13_init G.2.2 x0 x1 x2 x3 h = some w) : ax_Met l G yX13_init cX13_init 4 none 2 60 [va_rf x0, va_rf x1, .int (Int32.ofInt x2), .int (Int32.ofInt x3)] h w none :=
  ax_enter [.inr (.inr x0), .inr (.inr x1), .inl x2, .inl x3] (y := yX13_init) hSF (plainFor_of_name (by decide +kernel)) (Nat.le_of_ble_eq_true rfl) (fun X ls B Z hn hl => we_X13_init hSF B Z hn x0 x1 x2 x3 hl e rfl)
def dkwX14_init_0 : List UInt8 := [42, 183, 0, 1, 42, 43, 181, 0, 7, 42, 28, 181, 0, 13, 42, 45, 181, 0, 17, 177]
abbrev dktX14_init_0 : List UInt8 := dkwX14_init_0 ++ []
theorem dksX14_init_0 : cX14_init.data.toList.drop 0 = dktX14_init_0 := by decide +kernel
theorem dX14_init_0 : decode cX14_init 0 = .ok (.aload_n 0, 1) := dk_42 (dk_at dksX14_init_0 0 rfl rfl)
theorem dX14_init_1 : decode cX14_init 1 = .ok (.invokespecial 1, 3) := dk_183 0 1 (dk_at dksX14_init_0 1 rfl rfl)
theorem dX14_init_4 : decode cX14_init 4 = .ok (.aload_n 0, 1) := dk_42 (dk_at dksX14_init_0 4 rfl rfl)
theorem dX14_init_5 : decode cX14_init 5 = .ok (.aload_n 1, 1) := dk_43 (dk_at dksX14_init_0 5 rfl rfl)
theorem dX14_init_6 : decode cX14_init 6 = .ok (.putfield 7, 3) := dk_181 0 7 (dk_at dksX14_init_0 6 rfl rfl)
theorem dX14_init_9 : decode cX14_init 9 = .ok (.aload_n 0, 1) := dk_42 (dk_at dksX14_init_0 9 rfl rfl)
theorem dX14_init_10 : decode cX14_init 10 = .ok (.iload_n 2, 1) := dk_28 (dk_at dksX14_init_0 10 rfl rfl)
theorem dX14_init_11 : decode cX14_init 11 = .ok (.putfield 13, 3) := dk_181 0 13 (dk_at dksX14_init_0 11 rfl rfl)
theorem dX14_init_14 : decode cX14_init 14 = .ok (.aload_n 0, 1) := dk_42 (dk_at dksX14_init_0 14 rfl rfl)
theorem dX14_init_15 : decode cX14_init 15 = .ok (.aload_n 3, 1) := dk_45 (dk_at dksX14_init_0 15 rfl rfl)
theorem dX14_init_16 : decode cX14_init 16 = .ok (.putfield 17, 3) := dk_181 0 17 (dk_at dksX14_init_0 16 rfl rfl)
theorem dX14_init_19 : decode cX14_init 19 = .ok (.return_, 1) := dk_177 (dk_at dksX14_init_0 19 rfl rfl)
noncomputable def f_X14_init (E : ax_E) (x0 : Option Nat) (x1 : Option Nat) (x2 : Int) (x3 : Option Nat) (h : ax_H) : Option (ax_H) :=
  x0.bind fun _ => (f_X9_init E x0 h).bind fun h1 =>
  (ax_pR h1 x0 14 0 x1).bind fun h2 =>
  (ax_pI h2 x0 14 2 x2).bind fun h3 =>
  (ax_pR h3 x0 14 1 x3).bind fun h4 =>
  some h4
set_option maxHeartbeats 4000000 in
theorem we_X14_init {l : Launch} {G : ax_G} {X : ax_X} {Q : State → Prop} {h0 h : ax_H} {ls : Array Slot} (hSF : ax_SF G) (B : ax_BL l G X cX14_init 4 RX14 2 60) (Z : ax_Z X h0 none) (hn : X.2.2.2.2.2.2.2.2.1.name = yX14_init.name) (x0 : Option Nat) (x1 : Option Nat) (x2 : Int) (x3 : Option Nat) {w : ax_H} (hl : ax_hl ls 4 [(0, .inr (.inr x0)), (1, .inr (.inr x1)), (2, .inl x2), (3, .inr (.inr x3))]) (e : f_X14_init G.2.2 x0 x1 x2 x3 h = some w) (hp : (fun w : ax_H => Q = ax_Q G X h0 w none) w) : ax_W G X Q h 0 ls [] := by
  unfold f_X14_init at e
  refine ax_aload_n B dX14_init_0 rfl hl 0 rfl ?_
  refine ax_iiNR (y := yX9_init) (n := 0) (As := []) B q1019 q951 q149 q952 rfl (by decide +kernel) ⟨Nat.le_of_ble_eq_true rfl, Nat.le_of_ble_eq_true rfl⟩ (fun w1 e1 => mt_X9_init l G hSF x0 _ w1 e1) rfl hl.size (by decide) dX14_init_1 e (fun h1 e => ?_)
  refine ax_aload_n B dX14_init_4 rfl hl 0 rfl ?_
  refine ax_aload_n B dX14_init_5 rfl hl 1 rfl ?_
  refine ax_putR B ff_X14_7_14 (Or.inr ⟨rfl, rfl, hn⟩) rfl dX14_init_6 e (fun h2 e => ?_)
  refine ax_aload_n B dX14_init_9 rfl hl 0 rfl ?_
  refine ax_iload_n B dX14_init_10 rfl hl 2 rfl ?_
  refine ax_putI B ff_X14_13_14 (Or.inr ⟨rfl, rfl, hn⟩) rfl dX14_init_11 e (fun h3 e => ?_)
  refine ax_aload_n B dX14_init_14 rfl hl 0 rfl ?_
  refine ax_aload_n B dX14_init_15 rfl hl 3 rfl ?_
  refine ax_putR B ff_X14_17_14 (Or.inr ⟨rfl, rfl, hn⟩) rfl dX14_init_16 e (fun h4 e => ?_)
  have e8 := e
  have hp : Q = _ := hp
  subst hp
  exact ax_return B Z dX14_init_19 e8
theorem mt_X14_init (l : Launch) (G : ax_G) (hSF : ax_SF G) (x0 : Option Nat) (x1 : Option Nat) (x2 : Int) (x3 : Option Nat) (h : ax_H) (w : ax_H) (e : f_X14_init G.2.2 x0 x1 x2 x3 h = some w) : ax_Met l G yX14_init cX14_init 4 none 2 60 [va_rf x0, va_rf x1, .int (Int32.ofInt x2), va_rf x3] h w none :=
  ax_enter [.inr (.inr x0), .inr (.inr x1), .inl x2, .inr (.inr x3)] (y := yX14_init) hSF (plainFor_of_name (by decide +kernel)) (Nat.le_of_ble_eq_true rfl) (fun X ls B Z hn hl => we_X14_init hSF B Z hn x0 x1 x2 x3 hl e rfl)
def dkwX22_init_1 : List UInt8 := [181, 0, 20, 177]
abbrev dktX22_init_1 : List UInt8 := dkwX22_init_1 ++ []
def dkwX22_init_0 : List UInt8 := [42, 43, 181, 0, 1, 42, 43, 183, 0, 7, 42, 44, 181, 0, 13, 42, 45, 181, 0, 17, 42, 25, 4]
abbrev dktX22_init_0 : List UInt8 := dkwX22_init_0 ++ dktX22_init_1
theorem dksX22_init_0 : cX22_init.data.toList.drop 0 = dktX22_init_0 := by decide +kernel
theorem dksX22_init_1 : cX22_init.data.toList.drop 23 = dktX22_init_1 := dk_seg dksX22_init_0 23 rfl rfl
theorem dX22_init_0 : decode cX22_init 0 = .ok (.aload_n 0, 1) := dk_42 (dk_at dksX22_init_0 0 rfl rfl)
theorem dX22_init_1 : decode cX22_init 1 = .ok (.aload_n 1, 1) := dk_43 (dk_at dksX22_init_0 1 rfl rfl)
theorem dX22_init_2 : decode cX22_init 2 = .ok (.putfield 1, 3) := dk_181 0 1 (dk_at dksX22_init_0 2 rfl rfl)
theorem dX22_init_5 : decode cX22_init 5 = .ok (.aload_n 0, 1) := dk_42 (dk_at dksX22_init_0 5 rfl rfl)
theorem dX22_init_6 : decode cX22_init 6 = .ok (.aload_n 1, 1) := dk_43 (dk_at dksX22_init_0 6 rfl rfl)
theorem dX22_init_7 : decode cX22_init 7 = .ok (.invokespecial 7, 3) := dk_183 0 7 (dk_at dksX22_init_0 7 rfl rfl)
theorem dX22_init_10 : decode cX22_init 10 = .ok (.aload_n 0, 1) := dk_42 (dk_at dksX22_init_0 10 rfl rfl)
theorem dX22_init_11 : decode cX22_init 11 = .ok (.aload_n 2, 1) := dk_44 (dk_at dksX22_init_0 11 rfl rfl)
theorem dX22_init_12 : decode cX22_init 12 = .ok (.putfield 13, 3) := dk_181 0 13 (dk_at dksX22_init_0 12 rfl rfl)
theorem dX22_init_15 : decode cX22_init 15 = .ok (.aload_n 0, 1) := dk_42 (dk_at dksX22_init_0 15 rfl rfl)
theorem dX22_init_16 : decode cX22_init 16 = .ok (.aload_n 3, 1) := dk_45 (dk_at dksX22_init_0 16 rfl rfl)
theorem dX22_init_17 : decode cX22_init 17 = .ok (.putfield 17, 3) := dk_181 0 17 (dk_at dksX22_init_0 17 rfl rfl)
theorem dX22_init_20 : decode cX22_init 20 = .ok (.aload_n 0, 1) := dk_42 (dk_at dksX22_init_0 20 rfl rfl)
theorem dX22_init_21 : decode cX22_init 21 = .ok (.aload 4, 2) := dk_25 4 (dk_at dksX22_init_0 21 rfl rfl)
theorem dX22_init_23 : decode cX22_init 23 = .ok (.putfield 20, 3) := dk_181 0 20 (dk_at dksX22_init_1 0 rfl rfl)
theorem dX22_init_26 : decode cX22_init 26 = .ok (.return_, 1) := dk_177 (dk_at dksX22_init_1 3 rfl rfl)
noncomputable def f_X22_init (E : ax_E) (x0 : Option Nat) (x1 : Option Nat) (x2 : Option Nat) (x3 : Option Nat) (x4 : Option Nat) (h : ax_H) : Option (ax_H) :=
  (ax_pRs h x0 [(23, 3), (24, 3)] x1).bind fun h1 =>
  x0.bind fun _ => (f_X20_init E x0 x1 h1).bind fun h2 =>
  (ax_pRs h2 x0 [(23, 0), (24, 0)] x2).bind fun h3 =>
  (ax_pRs h3 x0 [(23, 1), (24, 1)] x3).bind fun h4 =>
  (ax_pRs h4 x0 [(23, 2), (24, 2)] x4).bind fun h5 =>
  some h5
set_option maxHeartbeats 4000000 in
theorem we_X22_init {l : Launch} {G : ax_G} {X : ax_X} {Q : State → Prop} {h0 h : ax_H} {ls : Array Slot} (hSF : ax_SF G) (B : ax_BL l G X cX22_init 5 RX22 2 61) (Z : ax_Z X h0 none) (hn : X.2.2.2.2.2.2.2.2.1.name = yX22_init.name) (x0 : Option Nat) (x1 : Option Nat) (x2 : Option Nat) (x3 : Option Nat) (x4 : Option Nat) {w : ax_H} (hl : ax_hl ls 5 [(0, .inr (.inr x0)), (1, .inr (.inr x1)), (2, .inr (.inr x2)), (3, .inr (.inr x3)), (4, .inr (.inr x4))]) (e : f_X22_init G.2.2 x0 x1 x2 x3 x4 h = some w) (hp : (fun w : ax_H => Q = ax_Q G X h0 w none) w) : ax_W G X Q h 0 ls [] := by
  unfold f_X22_init at e
  refine ax_aload_n B dX22_init_0 rfl hl 0 rfl ?_
  refine ax_aload_n B dX22_init_1 rfl hl 1 rfl ?_
  refine ax_putRs B fs_X22_1 (Or.inr ⟨rfl, rfl, hn⟩) rfl dX22_init_2 e (fun h1 e => ?_)
  refine ax_aload_n B dX22_init_5 rfl hl 0 rfl ?_
  refine ax_aload_n B dX22_init_6 rfl hl 1 rfl ?_
  refine ax_iiNR (y := yX20_init) (n := 1) (As := [va_rf x1]) B q1193 q1149 q160 q1150 rfl (by decide +kernel) ⟨Nat.le_of_ble_eq_true rfl, Nat.le_of_ble_eq_true rfl⟩ (fun w1 e1 => mt_X20_init l G hSF x0 x1 _ w1 e1) rfl hl.size (by decide) dX22_init_7 e (fun h2 e => ?_)
  refine ax_aload_n B dX22_init_10 rfl hl 0 rfl ?_
  refine ax_aload_n B dX22_init_11 rfl hl 2 rfl ?_
  refine ax_putRs B fs_X22_13 (Or.inr ⟨rfl, rfl, hn⟩) rfl dX22_init_12 e (fun h3 e => ?_)
  refine ax_aload_n B dX22_init_15 rfl hl 0 rfl ?_
  refine ax_aload_n B dX22_init_16 rfl hl 3 rfl ?_
  refine ax_putRs B fs_X22_17 (Or.inr ⟨rfl, rfl, hn⟩) rfl dX22_init_17 e (fun h4 e => ?_)
  refine ax_aload_n B dX22_init_20 rfl hl 0 rfl ?_
  refine ax_aload B dX22_init_21 hl 4 rfl ?_
  refine ax_putRs B fs_X22_20 (Or.inr ⟨rfl, rfl, hn⟩) rfl dX22_init_23 e (fun h5 e => ?_)
  have e8 := e
  have hp : Q = _ := hp
  subst hp
  exact ax_return B Z dX22_init_26 e8
theorem mt_X22_init (l : Launch) (G : ax_G) (hSF : ax_SF G) (x0 : Option Nat) (x1 : Option Nat) (x2 : Option Nat) (x3 : Option Nat) (x4 : Option Nat) (h : ax_H) (w : ax_H) (e : f_X22_init G.2.2 x0 x1 x2 x3 x4 h = some w) : ax_Met l G yX22_init cX22_init 5 none 2 61 [va_rf x0, va_rf x1, va_rf x2, va_rf x3, va_rf x4] h w none :=
  ax_enter [.inr (.inr x0), .inr (.inr x1), .inr (.inr x2), .inr (.inr x3), .inr (.inr x4)] (y := yX22_init) hSF (plainFor_of_name (by decide +kernel)) (Nat.le_of_ble_eq_true rfl) (fun X ls B Z hn hl => we_X22_init hSF B Z hn x0 x1 x2 x3 x4 hl e rfl)
def dkwX23_init_0 : List UInt8 := [42, 43, 181, 0, 1, 42, 43, 44, 45, 25, 4, 183, 0, 7, 177]
abbrev dktX23_init_0 : List UInt8 := dkwX23_init_0 ++ []
theorem dksX23_init_0 : cX23_init.data.toList.drop 0 = dktX23_init_0 := by decide +kernel
theorem dX23_init_0 : decode cX23_init 0 = .ok (.aload_n 0, 1) := dk_42 (dk_at dksX23_init_0 0 rfl rfl)
theorem dX23_init_1 : decode cX23_init 1 = .ok (.aload_n 1, 1) := dk_43 (dk_at dksX23_init_0 1 rfl rfl)
theorem dX23_init_2 : decode cX23_init 2 = .ok (.putfield 1, 3) := dk_181 0 1 (dk_at dksX23_init_0 2 rfl rfl)
theorem dX23_init_5 : decode cX23_init 5 = .ok (.aload_n 0, 1) := dk_42 (dk_at dksX23_init_0 5 rfl rfl)
theorem dX23_init_6 : decode cX23_init 6 = .ok (.aload_n 1, 1) := dk_43 (dk_at dksX23_init_0 6 rfl rfl)
theorem dX23_init_7 : decode cX23_init 7 = .ok (.aload_n 2, 1) := dk_44 (dk_at dksX23_init_0 7 rfl rfl)
theorem dX23_init_8 : decode cX23_init 8 = .ok (.aload_n 3, 1) := dk_45 (dk_at dksX23_init_0 8 rfl rfl)
theorem dX23_init_9 : decode cX23_init 9 = .ok (.aload 4, 2) := dk_25 4 (dk_at dksX23_init_0 9 rfl rfl)
theorem dX23_init_11 : decode cX23_init 11 = .ok (.invokespecial 7, 3) := dk_183 0 7 (dk_at dksX23_init_0 11 rfl rfl)
theorem dX23_init_14 : decode cX23_init 14 = .ok (.return_, 1) := dk_177 (dk_at dksX23_init_0 14 rfl rfl)
noncomputable def f_X23_init (E : ax_E) (x0 : Option Nat) (x1 : Option Nat) (x2 : Option Nat) (x3 : Option Nat) (x4 : Option Nat) (h : ax_H) : Option (ax_H) :=
  (ax_pR h x0 23 8 x1).bind fun h1 =>
  x0.bind fun _ => (f_X22_init E x0 x1 x2 x3 x4 h1).bind fun h2 =>
  some h2
set_option maxHeartbeats 4000000 in
theorem we_X23_init {l : Launch} {G : ax_G} {X : ax_X} {Q : State → Prop} {h0 h : ax_H} {ls : Array Slot} (hSF : ax_SF G) (B : ax_BL l G X cX23_init 5 RX23 3 85) (Z : ax_Z X h0 none) (hn : X.2.2.2.2.2.2.2.2.1.name = yX23_init.name) (x0 : Option Nat) (x1 : Option Nat) (x2 : Option Nat) (x3 : Option Nat) (x4 : Option Nat) {w : ax_H} (hl : ax_hl ls 5 [(0, .inr (.inr x0)), (1, .inr (.inr x1)), (2, .inr (.inr x2)), (3, .inr (.inr x3)), (4, .inr (.inr x4))]) (e : f_X23_init G.2.2 x0 x1 x2 x3 x4 h = some w) (hp : (fun w : ax_H => Q = ax_Q G X h0 w none) w) : ax_W G X Q h 0 ls [] := by
  unfold f_X23_init at e
  refine ax_aload_n B dX23_init_0 rfl hl 0 rfl ?_
  refine ax_aload_n B dX23_init_1 rfl hl 1 rfl ?_
  refine ax_putR B ff_X23_1_23 (Or.inr ⟨rfl, rfl, hn⟩) rfl dX23_init_2 e (fun h1 e => ?_)
  refine ax_aload_n B dX23_init_5 rfl hl 0 rfl ?_
  refine ax_aload_n B dX23_init_6 rfl hl 1 rfl ?_
  refine ax_aload_n B dX23_init_7 rfl hl 2 rfl ?_
  refine ax_aload_n B dX23_init_8 rfl hl 3 rfl ?_
  refine ax_aload B dX23_init_9 hl 4 rfl ?_
  refine ax_iiR (y := yX22_init) (n := 4) (As := [va_rf x1, va_rf x2, va_rf x3, va_rf x4]) B q1190 q1191 q162 q1192 rfl (by decide +kernel) ⟨Nat.le_of_ble_eq_true rfl, Nat.le_of_ble_eq_true rfl⟩ (fun w1 e1 => mt_X22_init l G hSF x0 x1 x2 x3 x4 _ w1 e1) rfl hl.size (by decide) dX23_init_11 e (fun h2 e => ?_)
  have e8 := e
  have hp : Q = _ := hp
  subst hp
  exact ax_return B Z dX23_init_14 e8
theorem mt_X23_init (l : Launch) (G : ax_G) (hSF : ax_SF G) (x0 : Option Nat) (x1 : Option Nat) (x2 : Option Nat) (x3 : Option Nat) (x4 : Option Nat) (h : ax_H) (w : ax_H) (e : f_X23_init G.2.2 x0 x1 x2 x3 x4 h = some w) : ax_Met l G yX23_init cX23_init 5 none 3 85 [va_rf x0, va_rf x1, va_rf x2, va_rf x3, va_rf x4] h w none :=
  ax_enter [.inr (.inr x0), .inr (.inr x1), .inr (.inr x2), .inr (.inr x3), .inr (.inr x4)] (y := yX23_init) hSF (plainFor_of_name (by decide +kernel)) (Nat.le_of_ble_eq_true rfl) (fun X ls B Z hn hl => we_X23_init hSF B Z hn x0 x1 x2 x3 x4 hl e rfl)
def dkwX24_init_0 : List UInt8 := [42, 43, 181, 0, 1, 42, 43, 44, 45, 25, 4, 183, 0, 7, 177]
abbrev dktX24_init_0 : List UInt8 := dkwX24_init_0 ++ []
theorem dksX24_init_0 : cX24_init.data.toList.drop 0 = dktX24_init_0 := by decide +kernel
theorem dX24_init_0 : decode cX24_init 0 = .ok (.aload_n 0, 1) := dk_42 (dk_at dksX24_init_0 0 rfl rfl)
theorem dX24_init_1 : decode cX24_init 1 = .ok (.aload_n 1, 1) := dk_43 (dk_at dksX24_init_0 1 rfl rfl)
theorem dX24_init_2 : decode cX24_init 2 = .ok (.putfield 1, 3) := dk_181 0 1 (dk_at dksX24_init_0 2 rfl rfl)
theorem dX24_init_5 : decode cX24_init 5 = .ok (.aload_n 0, 1) := dk_42 (dk_at dksX24_init_0 5 rfl rfl)
theorem dX24_init_6 : decode cX24_init 6 = .ok (.aload_n 1, 1) := dk_43 (dk_at dksX24_init_0 6 rfl rfl)
theorem dX24_init_7 : decode cX24_init 7 = .ok (.aload_n 2, 1) := dk_44 (dk_at dksX24_init_0 7 rfl rfl)
theorem dX24_init_8 : decode cX24_init 8 = .ok (.aload_n 3, 1) := dk_45 (dk_at dksX24_init_0 8 rfl rfl)
theorem dX24_init_9 : decode cX24_init 9 = .ok (.aload 4, 2) := dk_25 4 (dk_at dksX24_init_0 9 rfl rfl)
theorem dX24_init_11 : decode cX24_init 11 = .ok (.invokespecial 7, 3) := dk_183 0 7 (dk_at dksX24_init_0 11 rfl rfl)
theorem dX24_init_14 : decode cX24_init 14 = .ok (.return_, 1) := dk_177 (dk_at dksX24_init_0 14 rfl rfl)
noncomputable def f_X24_init (E : ax_E) (x0 : Option Nat) (x1 : Option Nat) (x2 : Option Nat) (x3 : Option Nat) (x4 : Option Nat) (h : ax_H) : Option (ax_H) :=
  (ax_pR h x0 24 8 x1).bind fun h1 =>
  x0.bind fun _ => (f_X22_init E x0 x1 x2 x3 x4 h1).bind fun h2 =>
  some h2
set_option maxHeartbeats 4000000 in
theorem we_X24_init {l : Launch} {G : ax_G} {X : ax_X} {Q : State → Prop} {h0 h : ax_H} {ls : Array Slot} (hSF : ax_SF G) (B : ax_BL l G X cX24_init 5 RX24 3 85) (Z : ax_Z X h0 none) (hn : X.2.2.2.2.2.2.2.2.1.name = yX24_init.name) (x0 : Option Nat) (x1 : Option Nat) (x2 : Option Nat) (x3 : Option Nat) (x4 : Option Nat) {w : ax_H} (hl : ax_hl ls 5 [(0, .inr (.inr x0)), (1, .inr (.inr x1)), (2, .inr (.inr x2)), (3, .inr (.inr x3)), (4, .inr (.inr x4))]) (e : f_X24_init G.2.2 x0 x1 x2 x3 x4 h = some w) (hp : (fun w : ax_H => Q = ax_Q G X h0 w none) w) : ax_W G X Q h 0 ls [] := by
  unfold f_X24_init at e
  refine ax_aload_n B dX24_init_0 rfl hl 0 rfl ?_
  refine ax_aload_n B dX24_init_1 rfl hl 1 rfl ?_
  refine ax_putR B ff_X24_1_24 (Or.inr ⟨rfl, rfl, hn⟩) rfl dX24_init_2 e (fun h1 e => ?_)
  refine ax_aload_n B dX24_init_5 rfl hl 0 rfl ?_
  refine ax_aload_n B dX24_init_6 rfl hl 1 rfl ?_
  refine ax_aload_n B dX24_init_7 rfl hl 2 rfl ?_
  refine ax_aload_n B dX24_init_8 rfl hl 3 rfl ?_
  refine ax_aload B dX24_init_9 hl 4 rfl ?_
  refine ax_iiR (y := yX22_init) (n := 4) (As := [va_rf x1, va_rf x2, va_rf x3, va_rf x4]) B q1219 q1191 q162 q1192 rfl (by decide +kernel) ⟨Nat.le_of_ble_eq_true rfl, Nat.le_of_ble_eq_true rfl⟩ (fun w1 e1 => mt_X22_init l G hSF x0 x1 x2 x3 x4 _ w1 e1) rfl hl.size (by decide) dX24_init_11 e (fun h2 e => ?_)
  have e8 := e
  have hp : Q = _ := hp
  subst hp
  exact ax_return B Z dX24_init_14 e8
theorem mt_X24_init (l : Launch) (G : ax_G) (hSF : ax_SF G) (x0 : Option Nat) (x1 : Option Nat) (x2 : Option Nat) (x3 : Option Nat) (x4 : Option Nat) (h : ax_H) (w : ax_H) (e : f_X24_init G.2.2 x0 x1 x2 x3 x4 h = some w) : ax_Met l G yX24_init cX24_init 5 none 3 85 [va_rf x0, va_rf x1, va_rf x2, va_rf x3, va_rf x4] h w none :=
  ax_enter [.inr (.inr x0), .inr (.inr x1), .inr (.inr x2), .inr (.inr x3), .inr (.inr x4)] (y := yX24_init) hSF (plainFor_of_name (by decide +kernel)) (Nat.le_of_ble_eq_true rfl) (fun X ls B Z hn hl => we_X24_init hSF B Z hn x0 x1 x2 x3 x4 hl e rfl)
def dkwX25_isNought_2 : List UInt8 := [167, 0, 4, 3, 126, 60, 132, 2, 1, 167, 255, 223, 27, 172]
abbrev dktX25_isNought_2 : List UInt8 := dkwX25_isNought_2 ++ []
def dkwX25_isNought_1 : List UInt8 := [180, 0, 61, 162, 0, 31, 27, 42, 180, 0, 3, 180, 0, 64, 28, 51, 16, 48, 160, 0, 7, 4]
abbrev dktX25_isNought_1 : List UInt8 := dkwX25_isNought_1 ++ dktX25_isNought_2
def dkwX25_isNought_0 : List UInt8 := [42, 180, 0, 57, 42, 180, 0, 61, 162, 0, 7, 4, 167, 0, 4, 3, 60, 42, 180, 0, 57, 61, 28, 42]
abbrev dktX25_isNought_0 : List UInt8 := dkwX25_isNought_0 ++ dktX25_isNought_1
theorem dksX25_isNought_0 : cX25_isNought.data.toList.drop 0 = dktX25_isNought_0 := by decide +kernel
theorem dksX25_isNought_1 : cX25_isNought.data.toList.drop 24 = dktX25_isNought_1 := dk_seg dksX25_isNought_0 24 rfl rfl
theorem dksX25_isNought_2 : cX25_isNought.data.toList.drop 46 = dktX25_isNought_2 := dk_seg dksX25_isNought_1 22 rfl rfl
theorem dX25_isNought_0 : decode cX25_isNought 0 = .ok (.aload_n 0, 1) := dk_42 (dk_at dksX25_isNought_0 0 rfl rfl)
theorem dX25_isNought_1 : decode cX25_isNought 1 = .ok (.getfield 57, 3) := dk_180 0 57 (dk_at dksX25_isNought_0 1 rfl rfl)
theorem dX25_isNought_4 : decode cX25_isNought 4 = .ok (.aload_n 0, 1) := dk_42 (dk_at dksX25_isNought_0 4 rfl rfl)
theorem dX25_isNought_5 : decode cX25_isNought 5 = .ok (.getfield 61, 3) := dk_180 0 61 (dk_at dksX25_isNought_0 5 rfl rfl)
theorem dX25_isNought_8 : decode cX25_isNought 8 = .ok (.if_icmp .ge 7, 3) := dk_162 0 7 (dk_at dksX25_isNought_0 8 rfl rfl)
theorem dX25_isNought_11 : decode cX25_isNought 11 = .ok (.iconst 1, 1) := dk_4 (dk_at dksX25_isNought_0 11 rfl rfl)
theorem dX25_isNought_12 : decode cX25_isNought 12 = .ok (.goto 4, 3) := dk_167 0 4 (dk_at dksX25_isNought_0 12 rfl rfl)
theorem dX25_isNought_15 : decode cX25_isNought 15 = .ok (.iconst 0, 1) := dk_3 (dk_at dksX25_isNought_0 15 rfl rfl)
theorem dX25_isNought_16 : decode cX25_isNought 16 = .ok (.istore_n 1, 1) := dk_60 (dk_at dksX25_isNought_0 16 rfl rfl)
theorem dX25_isNought_17 : decode cX25_isNought 17 = .ok (.aload_n 0, 1) := dk_42 (dk_at dksX25_isNought_0 17 rfl rfl)
theorem dX25_isNought_18 : decode cX25_isNought 18 = .ok (.getfield 57, 3) := dk_180 0 57 (dk_at dksX25_isNought_0 18 rfl rfl)
theorem dX25_isNought_21 : decode cX25_isNought 21 = .ok (.istore_n 2, 1) := dk_61 (dk_at dksX25_isNought_0 21 rfl rfl)
theorem dX25_isNought_22 : decode cX25_isNought 22 = .ok (.iload_n 2, 1) := dk_28 (dk_at dksX25_isNought_0 22 rfl rfl)
theorem dX25_isNought_23 : decode cX25_isNought 23 = .ok (.aload_n 0, 1) := dk_42 (dk_at dksX25_isNought_0 23 rfl rfl)
theorem dX25_isNought_24 : decode cX25_isNought 24 = .ok (.getfield 61, 3) := dk_180 0 61 (dk_at dksX25_isNought_1 0 rfl rfl)
theorem dX25_isNought_27 : decode cX25_isNought 27 = .ok (.if_icmp .ge 31, 3) := dk_162 0 31 (dk_at dksX25_isNought_1 3 rfl rfl)
theorem dX25_isNought_30 : decode cX25_isNought 30 = .ok (.iload_n 1, 1) := dk_27 (dk_at dksX25_isNought_1 6 rfl rfl)
theorem dX25_isNought_31 : decode cX25_isNought 31 = .ok (.aload_n 0, 1) := dk_42 (dk_at dksX25_isNought_1 7 rfl rfl)
theorem dX25_isNought_32 : decode cX25_isNought 32 = .ok (.getfield 3, 3) := dk_180 0 3 (dk_at dksX25_isNought_1 8 rfl rfl)
theorem dX25_isNought_35 : decode cX25_isNought 35 = .ok (.getfield 64, 3) := dk_180 0 64 (dk_at dksX25_isNought_1 11 rfl rfl)
theorem dX25_isNought_38 : decode cX25_isNought 38 = .ok (.iload_n 2, 1) := dk_28 (dk_at dksX25_isNought_1 14 rfl rfl)
theorem dX25_isNought_39 : decode cX25_isNought 39 = .ok (.baload, 1) := dk_51 (dk_at dksX25_isNought_1 15 rfl rfl)
theorem dX25_isNought_40 : decode cX25_isNought 40 = .ok (.bipush 48, 2) := dk_16 48 (dk_at dksX25_isNought_1 16 rfl rfl)
theorem dX25_isNought_42 : decode cX25_isNought 42 = .ok (.if_icmp .ne 7, 3) := dk_160 0 7 (dk_at dksX25_isNought_1 18 rfl rfl)
theorem dX25_isNought_45 : decode cX25_isNought 45 = .ok (.iconst 1, 1) := dk_4 (dk_at dksX25_isNought_1 21 rfl rfl)
theorem dX25_isNought_46 : decode cX25_isNought 46 = .ok (.goto 4, 3) := dk_167 0 4 (dk_at dksX25_isNought_2 0 rfl rfl)
theorem dX25_isNought_49 : decode cX25_isNought 49 = .ok (.iconst 0, 1) := dk_3 (dk_at dksX25_isNought_2 3 rfl rfl)
theorem dX25_isNought_50 : decode cX25_isNought 50 = .ok (.iand, 1) := dk_126 (dk_at dksX25_isNought_2 4 rfl rfl)
theorem dX25_isNought_51 : decode cX25_isNought 51 = .ok (.istore_n 1, 1) := dk_60 (dk_at dksX25_isNought_2 5 rfl rfl)
theorem dX25_isNought_52 : decode cX25_isNought 52 = .ok (.iinc 2 1, 3) := dk_132 2 1 (dk_at dksX25_isNought_2 6 rfl rfl)
theorem dX25_isNought_55 : decode cX25_isNought 55 = .ok (.goto (-33), 3) := dk_167 255 223 (dk_at dksX25_isNought_2 9 rfl rfl)
theorem dX25_isNought_58 : decode cX25_isNought 58 = .ok (.iload_n 1, 1) := dk_27 (dk_at dksX25_isNought_2 12 rfl rfl)
theorem dX25_isNought_59 : decode cX25_isNought 59 = .ok (.ireturn, 1) := dk_172 (dk_at dksX25_isNought_2 13 rfl rfl)
noncomputable def f_X25_isNought_50 (E : ax_E) (x0 : Option Nat) (x2 : Int) (s0 : Int) (s1 : Int) (h : ax_H) : Option ((Int × Int × ax_H) ⊕ (Int × ax_H)) :=
  some (.inl ((ax_and s0 s1), (x2 + 1), h))
noncomputable def lb_X25_isNought_22 (E : ax_E) (x0 : Option Nat) (x1 : Int) (x2 : Int) (h : ax_H) : Option ((Int × Int × ax_H) ⊕ (Int × ax_H)) :=
  (ax_gI E h x0 25 1).bind fun v1 =>
  if i2 x2 < i2 v1 then
    (ax_gR E h x0 25 9).bind fun v2 =>
    (ax_gR E h v2 0 11).bind fun v3 =>
    (ax_ld E h v3 101 x2).bind fun v4 =>
    if i2 v4 = i2 48 then
      f_X25_isNought_50 E x0 x2 x1 1 h
    else
      f_X25_isNought_50 E x0 x2 x1 0 h
  else
    (if x1 = 0 ∨ x1 = 1 then some (x1, h) else none).map Sum.inr
noncomputable def f_X25_isNought_22 (E : ax_E) (x0 : Option Nat) (x1 : Int) (x2 : Int) (h : ax_H) : Option (Int × ax_H) :=
  ax_iter (fun s : Int × Int × ax_H => lb_X25_isNought_22 E x0 s.1 s.2.1 s.2.2) (x1, x2, h)
noncomputable def f_X25_isNought_16 (E : ax_E) (x0 : Option Nat) (s0 : Int) (h : ax_H) : Option (Int × ax_H) :=
  (ax_gI E h x0 25 0).bind fun v1 =>
  f_X25_isNought_22 E x0 s0 v1 h
noncomputable def f_X25_isNought (E : ax_E) (x0 : Option Nat) (h : ax_H) : Option (Int × ax_H) :=
  (ax_gI E h x0 25 0).bind fun v1 =>
  (ax_gI E h x0 25 1).bind fun v2 =>
  if i2 v1 < i2 v2 then
    f_X25_isNought_16 E x0 1 h
  else
    f_X25_isNought_16 E x0 0 h
def pi_X25_isNought_22 (G : ax_G) (X : ax_X) (Q : State → Prop) (x0 : Option Nat) : Int × Int × ax_H → Prop := fun s => ∀ ls : Array Slot, ax_hl ls 3 [(0, .inr (.inr x0)), (1, .inl s.1), (2, .inl s.2.1)] → ax_W G X Q s.2.2 22 ls []
set_option maxHeartbeats 4000000 in
theorem w_X25_isNought_50 {l : Launch} {G : ax_G} {X : ax_X} {Q : State → Prop} {h0 h : ax_H} {ls : Array Slot} (hSF : ax_SF G) (B : ax_BL l G X cX25_isNought 3 RX25 1 40) (Z : ax_Z X h0 ((some FieldType.boolean))) (hn : X.2.2.2.2.2.2.2.2.1.name = yX25_isNought.name) (x0 : Option Nat) (x2 : Int) (s0 : Int) (s1 : Int) {w : (Int × Int × ax_H) ⊕ (Int × ax_H)} (hl : ax_hl ls 3 [(0, .inr (.inr x0)), (2, .inl x2)]) (e : f_X25_isNought_50 G.2.2 x0 x2 s0 s1 h = some w) (hp : (ax_PL (pi_X25_isNought_22 G X Q x0) (fun w : Int × ax_H => Q = ax_Q G X h0 w.2 (some (.int (Int32.ofInt w.1))))) w) : ax_W G X Q h 50 ls [.int (Int32.ofInt s1), .int (Int32.ofInt s0)] := by
  unfold f_X25_isNought_50 at e
  refine ax_iand' B dX25_isNought_50 ?_
  refine ax_istore_n (L' := [(1, .inl (ax_and s0 s1)), (0, .inr (.inr x0)), (2, .inl x2)]) B dX25_isNought_51 rfl hl (by decide) rfl (fun ls hl => ?_)
  refine ax_iinc (L' := [(2, .inl (x2 + 1)), (1, .inl (ax_and s0 s1)), (0, .inr (.inr x0))]) B dX25_isNought_52 hl 2 rfl (by decide) rfl (fun ls hl => ?_)
  refine ax_goto (tgt := 22) B dX25_isNought_55 (by decide) ?_
  cases e
  exact hp _ (hl.sub [2, 1, 0] rfl)
set_option maxHeartbeats 4000000 in
theorem wb_X25_isNought_22 {l : Launch} {G : ax_G} {X : ax_X} {Q : State → Prop} {h0 h : ax_H} {ls : Array Slot} (hSF : ax_SF G) (B : ax_BL l G X cX25_isNought 3 RX25 1 40) (Z : ax_Z X h0 ((some FieldType.boolean))) (hn : X.2.2.2.2.2.2.2.2.1.name = yX25_isNought.name) (x0 : Option Nat) (x1 : Int) (x2 : Int) {w : (Int × Int × ax_H) ⊕ (Int × ax_H)} (hl : ax_hl ls 3 [(0, .inr (.inr x0)), (1, .inl x1), (2, .inl x2)]) (e : lb_X25_isNought_22 G.2.2 x0 x1 x2 h = some w) (hp : (ax_PL (pi_X25_isNought_22 G X Q x0) (fun w : Int × ax_H => Q = ax_Q G X h0 w.2 (some (.int (Int32.ofInt w.1))))) w) : ax_W G X Q h 22 ls [] := by
  unfold lb_X25_isNought_22 at e
  refine ax_iload_n B dX25_isNought_22 rfl hl 2 rfl ?_
  refine ax_aload_n B dX25_isNought_23 rfl hl 0 rfl ?_
  refine ax_getI B ff_X25_61_25 (fun _ _ => rfl) dX25_isNought_24 e (fun v1 e => ?_)
  refine ax_icmp_ge (tgt := 58) B dX25_isNought_27 (by decide) e (fun e => ?_) (fun e => ?_)
  · refine ax_iload_n B dX25_isNought_30 rfl hl 1 rfl ?_
    refine ax_aload_n B dX25_isNought_31 rfl hl 0 rfl ?_
    refine ax_getR B ff_X25_3_25 (fun _ _ => rfl) dX25_isNought_32 e (fun v2 e => ?_)
    refine ax_getR B ff_X25_64_0 (fun _ _ => rfl) dX25_isNought_35 e (fun v3 e => ?_)
    refine ax_iload_n B dX25_isNought_38 rfl hl 2 rfl ?_
    refine ax_bald B kd101 dX25_isNought_39 e (fun v4 e => ?_)
    refine ax_bipush B dX25_isNought_40 (by decide) ?_
    refine ax_icmp_ne (tgt := 49) B dX25_isNought_42 (by decide) e (fun e => ?_) (fun e => ?_)
    · refine ax_iconst B dX25_isNought_45 ?_
      refine ax_goto (tgt := 50) B dX25_isNought_46 (by decide) ?_
      exact w_X25_isNought_50 hSF B Z hn x0 x2 x1 1 (hl.sub [0, 2] rfl) e hp
    · refine ax_iconst B dX25_isNought_49 ?_
      exact w_X25_isNought_50 hSF B Z hn x0 x2 x1 0 (hl.sub [0, 2] rfl) e hp
  · obtain ⟨w, e9_1, rfl⟩ := Option.map_eq_some_iff.mp e
    have e := e9_1
    refine ax_iload_n B dX25_isNought_58 rfl hl 1 rfl ?_
    have e8 := e
    have hp : Q = _ := hp
    subst hp
    exact ax_zreturn B Z dX25_isNought_59 e8
theorem w_X25_isNought_22 {l : Launch} {G : ax_G} {X : ax_X} {Q : State → Prop} {h0 h : ax_H} {ls : Array Slot} (hSF : ax_SF G) (B : ax_BL l G X cX25_isNought 3 RX25 1 40) (Z : ax_Z X h0 ((some FieldType.boolean))) (hn : X.2.2.2.2.2.2.2.2.1.name = yX25_isNought.name) (x0 : Option Nat) (x1 : Int) (x2 : Int) {w : Int × ax_H} (hl : ax_hl ls 3 [(0, .inr (.inr x0)), (1, .inl x1), (2, .inl x2)]) (e : f_X25_isNought_22 G.2.2 x0 x1 x2 h = some w) (hp : (fun w : Int × ax_H => Q = ax_Q G X h0 w.2 (some (.int (Int32.ofInt w.1)))) w) : ax_W G X Q h 22 ls [] :=
  ax_iter_W (Pin := pi_X25_isNought_22 G X Q x0) (Pout := (fun w : Int × ax_H => Q = ax_Q G X h0 w.2 (some (.int (Int32.ofInt w.1))))) (fun s w e hp ls hl => wb_X25_isNought_22 hSF B Z hn x0 s.1 s.2.1 hl e hp) _ _ e hp ls hl
set_option maxHeartbeats 4000000 in
theorem w_X25_isNought_16 {l : Launch} {G : ax_G} {X : ax_X} {Q : State → Prop} {h0 h : ax_H} {ls : Array Slot} (hSF : ax_SF G) (B : ax_BL l G X cX25_isNought 3 RX25 1 40) (Z : ax_Z X h0 ((some FieldType.boolean))) (hn : X.2.2.2.2.2.2.2.2.1.name = yX25_isNought.name) (x0 : Option Nat) (s0 : Int) {w : Int × ax_H} (hl : ax_hl ls 3 [(0, .inr (.inr x0))]) (e : f_X25_isNought_16 G.2.2 x0 s0 h = some w) (hp : (fun w : Int × ax_H => Q = ax_Q G X h0 w.2 (some (.int (Int32.ofInt w.1)))) w) : ax_W G X Q h 16 ls [.int (Int32.ofInt s0)] := by
  unfold f_X25_isNought_16 at e
  refine ax_istore_n (L' := [(1, .inl s0), (0, .inr (.inr x0))]) B dX25_isNought_16 rfl hl (by decide) rfl (fun ls hl => ?_)
  refine ax_aload_n B dX25_isNought_17 rfl hl 1 rfl ?_
  refine ax_getI B ff_X25_57_25 (fun _ _ => rfl) dX25_isNought_18 e (fun v1 e => ?_)
  refine ax_istore_n (L' := [(2, .inl v1), (1, .inl s0), (0, .inr (.inr x0))]) B dX25_isNought_21 rfl hl (by decide) rfl (fun ls hl => ?_)
  exact w_X25_isNought_22 hSF B Z hn x0 s0 v1 (hl.sub [2, 1, 0] rfl) e hp
set_option maxHeartbeats 4000000 in
theorem we_X25_isNought {l : Launch} {G : ax_G} {X : ax_X} {Q : State → Prop} {h0 h : ax_H} {ls : Array Slot} (hSF : ax_SF G) (B : ax_BL l G X cX25_isNought 3 RX25 1 40) (Z : ax_Z X h0 ((some FieldType.boolean))) (hn : X.2.2.2.2.2.2.2.2.1.name = yX25_isNought.name) (x0 : Option Nat) {w : Int × ax_H} (hl : ax_hl ls 3 [(0, .inr (.inr x0))]) (e : f_X25_isNought G.2.2 x0 h = some w) (hp : (fun w : Int × ax_H => Q = ax_Q G X h0 w.2 (some (.int (Int32.ofInt w.1)))) w) : ax_W G X Q h 0 ls [] := by
  unfold f_X25_isNought at e
  refine ax_aload_n B dX25_isNought_0 rfl hl 0 rfl ?_
  refine ax_getI B ff_X25_57_25 (fun _ _ => rfl) dX25_isNought_1 e (fun v1 e => ?_)
  refine ax_aload_n B dX25_isNought_4 rfl hl 0 rfl ?_
  refine ax_getI B ff_X25_61_25 (fun _ _ => rfl) dX25_isNought_5 e (fun v2 e => ?_)
  refine ax_icmp_ge (tgt := 15) B dX25_isNought_8 (by decide) e (fun e => ?_) (fun e => ?_)
  · refine ax_iconst B dX25_isNought_11 ?_
    refine ax_goto (tgt := 16) B dX25_isNought_12 (by decide) ?_
    exact w_X25_isNought_16 hSF B Z hn x0 1 (hl.sub [0] rfl) e hp
  · refine ax_iconst B dX25_isNought_15 ?_
    exact w_X25_isNought_16 hSF B Z hn x0 0 (hl.sub [0] rfl) e hp
theorem mt_X25_isNought (l : Launch) (G : ax_G) (hSF : ax_SF G) (x0 : Option Nat) (h : ax_H) (w : Int × ax_H) (e : f_X25_isNought G.2.2 x0 h = some w) : ax_Met l G yX25_isNought cX25_isNought 3 ((some FieldType.boolean)) 1 40 [va_rf x0] h w.2 (some (.int (Int32.ofInt w.1))) :=
  ax_enter [.inr (.inr x0)] (y := yX25_isNought) hSF (plainFor_of_name (by decide +kernel)) (Nat.le_of_ble_eq_true rfl) (fun X ls B Z hn hl => we_X25_isNought hSF B Z hn x0 hl e rfl)
theorem dX16_init_0 : decode cX16_init 0 = .ok (.aload_n 0, 1) := by decide +kernel
theorem dX16_init_1 : decode cX16_init 1 = .ok (.invokespecial 1, 3) := by decide +kernel
theorem dX16_init_4 : decode cX16_init 4 = .ok (.return_, 1) := by decide +kernel
noncomputable def f_X16_init (E : ax_E) (x0 : Option Nat) (h : ax_H) : Option (ax_H) :=
  x0.bind fun _ =>
  some h
set_option maxHeartbeats 4000000 in
theorem we_X16_init {l : Launch} {G : ax_G} {X : ax_X} {Q : State → Prop} {h0 h : ax_H} {ls : Array Slot} (hSF : ax_SF G) (B : ax_BL l G X cX16_init 1 RX16 1 40) (Z : ax_Z X h0 none) (hn : X.2.2.2.2.2.2.2.2.1.name = yX16_init.name) (x0 : Option Nat) {w : ax_H} (hl : ax_hl ls 1 [(0, .inr (.inr x0))]) (e : f_X16_init G.2.2 x0 h = some w) (hp : (fun w : ax_H => Q = ax_Q G X h0 w none) w) : ax_W G X Q h 0 ls [] := by
  unfold f_X16_init at e
  refine ax_aload_n B dX16_init_0 rfl hl 0 rfl ?_
  refine ax_oiR B q1067 q183 q184 hl.size (by decide) (by decide) dX16_init_1 e (fun e => ?_)
  have e8 := e
  have hp : Q = _ := hp
  subst hp
  exact ax_return B Z dX16_init_4 e8
theorem mt_X16_init (l : Launch) (G : ax_G) (hSF : ax_SF G) (x0 : Option Nat) (h : ax_H) (w : ax_H) (e : f_X16_init G.2.2 x0 h = some w) : ax_Met l G yX16_init cX16_init 1 none 1 40 [va_rf x0] h w none :=
  ax_enter [.inr (.inr x0)] (y := yX16_init) hSF (plainFor_of_name (by decide +kernel)) (Nat.le_of_ble_eq_true rfl) (fun X ls B Z hn hl => we_X16_init hSF B Z hn x0 hl e rfl)
def dkwX17_init_0 : List UInt8 := [42, 183, 0, 1, 42, 43, 181, 0, 7, 42, 28, 181, 0, 13, 42, 45, 181, 0, 17, 177]
abbrev dktX17_init_0 : List UInt8 := dkwX17_init_0 ++ []
theorem dksX17_init_0 : cX17_init.data.toList.drop 0 = dktX17_init_0 := by decide +kernel
theorem dX17_init_0 : decode cX17_init 0 = .ok (.aload_n 0, 1) := dk_42 (dk_at dksX17_init_0 0 rfl rfl)
theorem dX17_init_1 : decode cX17_init 1 = .ok (.invokespecial 1, 3) := dk_183 0 1 (dk_at dksX17_init_0 1 rfl rfl)
theorem dX17_init_4 : decode cX17_init 4 = .ok (.aload_n 0, 1) := dk_42 (dk_at dksX17_init_0 4 rfl rfl)
theorem dX17_init_5 : decode cX17_init 5 = .ok (.aload_n 1, 1) := dk_43 (dk_at dksX17_init_0 5 rfl rfl)
theorem dX17_init_6 : decode cX17_init 6 = .ok (.putfield 7, 3) := dk_181 0 7 (dk_at dksX17_init_0 6 rfl rfl)
theorem dX17_init_9 : decode cX17_init 9 = .ok (.aload_n 0, 1) := dk_42 (dk_at dksX17_init_0 9 rfl rfl)
theorem dX17_init_10 : decode cX17_init 10 = .ok (.iload_n 2, 1) := dk_28 (dk_at dksX17_init_0 10 rfl rfl)
theorem dX17_init_11 : decode cX17_init 11 = .ok (.putfield 13, 3) := dk_181 0 13 (dk_at dksX17_init_0 11 rfl rfl)
theorem dX17_init_14 : decode cX17_init 14 = .ok (.aload_n 0, 1) := dk_42 (dk_at dksX17_init_0 14 rfl rfl)
theorem dX17_init_15 : decode cX17_init 15 = .ok (.aload_n 3, 1) := dk_45 (dk_at dksX17_init_0 15 rfl rfl)
theorem dX17_init_16 : decode cX17_init 16 = .ok (.putfield 17, 3) := dk_181 0 17 (dk_at dksX17_init_0 16 rfl rfl)
theorem dX17_init_19 : decode cX17_init 19 = .ok (.return_, 1) := dk_177 (dk_at dksX17_init_0 19 rfl rfl)
noncomputable def f_X17_init (E : ax_E) (x0 : Option Nat) (x1 : Option Nat) (x2 : Int) (x3 : Option Nat) (h : ax_H) : Option (ax_H) :=
  x0.bind fun _ => (f_X16_init E x0 h).bind fun h1 =>
  (ax_pR h1 x0 17 0 x1).bind fun h2 =>
  (ax_pI h2 x0 17 2 x2).bind fun h3 =>
  (ax_pR h3 x0 17 1 x3).bind fun h4 =>
  some h4
set_option maxHeartbeats 4000000 in
theorem we_X17_init {l : Launch} {G : ax_G} {X : ax_X} {Q : State → Prop} {h0 h : ax_H} {ls : Array Slot} (hSF : ax_SF G) (B : ax_BL l G X cX17_init 4 RX17 2 60) (Z : ax_Z X h0 none) (hn : X.2.2.2.2.2.2.2.2.1.name = yX17_init.name) (x0 : Option Nat) (x1 : Option Nat) (x2 : Int) (x3 : Option Nat) {w : ax_H} (hl : ax_hl ls 4 [(0, .inr (.inr x0)), (1, .inr (.inr x1)), (2, .inl x2), (3, .inr (.inr x3))]) (e : f_X17_init G.2.2 x0 x1 x2 x3 h = some w) (hp : (fun w : ax_H => Q = ax_Q G X h0 w none) w) : ax_W G X Q h 0 ls [] := by
  unfold f_X17_init at e
  refine ax_aload_n B dX17_init_0 rfl hl 0 rfl ?_
  refine ax_iiNR (y := yX16_init) (n := 0) (As := []) B q1064 q1065 q156 q1066 rfl (by decide +kernel) ⟨Nat.le_of_ble_eq_true rfl, Nat.le_of_ble_eq_true rfl⟩ (fun w1 e1 => mt_X16_init l G hSF x0 _ w1 e1) rfl hl.size (by decide) dX17_init_1 e (fun h1 e => ?_)
  refine ax_aload_n B dX17_init_4 rfl hl 0 rfl ?_
  refine ax_aload_n B dX17_init_5 rfl hl 1 rfl ?_
  refine ax_putR B ff_X17_7_17 (Or.inr ⟨rfl, rfl, hn⟩) rfl dX17_init_6 e (fun h2 e => ?_)
  refine ax_aload_n B dX17_init_9 rfl hl 0 rfl ?_
  refine ax_iload_n B dX17_init_10 rfl hl 2 rfl ?_
  refine ax_putI B ff_X17_13_17 (Or.inr ⟨rfl, rfl, hn⟩) rfl dX17_init_11 e (fun h3 e => ?_)
  refine ax_aload_n B dX17_init_14 rfl hl 0 rfl ?_
  refine ax_aload_n B dX17_init_15 rfl hl 3 rfl ?_
  refine ax_putR B ff_X17_17_17 (Or.inr ⟨rfl, rfl, hn⟩) rfl dX17_init_16 e (fun h4 e => ?_)
  have e8 := e
  have hp : Q = _ := hp
  subst hp
  exact ax_return B Z dX17_init_19 e8
theorem mt_X17_init (l : Launch) (G : ax_G) (hSF : ax_SF G) (x0 : Option Nat) (x1 : Option Nat) (x2 : Int) (x3 : Option Nat) (h : ax_H) (w : ax_H) (e : f_X17_init G.2.2 x0 x1 x2 x3 h = some w) : ax_Met l G yX17_init cX17_init 4 none 2 60 [va_rf x0, va_rf x1, .int (Int32.ofInt x2), va_rf x3] h w none :=
  ax_enter [.inr (.inr x0), .inr (.inr x1), .inl x2, .inr (.inr x3)] (y := yX17_init) hSF (plainFor_of_name (by decide +kernel)) (Nat.le_of_ble_eq_true rfl) (fun X ls B Z hn hl => we_X17_init hSF B Z hn x0 x1 x2 x3 hl e rfl)
def dkwX18_init_0 : List UInt8 := [42, 183, 0, 1, 42, 43, 181, 0, 7, 177]
abbrev dktX18_init_0 : List UInt8 := dkwX18_init_0 ++ []
theorem dksX18_init_0 : cX18_init.data.toList.drop 0 = dktX18_init_0 := by decide +kernel
theorem dX18_init_0 : decode cX18_init 0 = .ok (.aload_n 0, 1) := dk_42 (dk_at dksX18_init_0 0 rfl rfl)
theorem dX18_init_1 : decode cX18_init 1 = .ok (.invokespecial 1, 3) := dk_183 0 1 (dk_at dksX18_init_0 1 rfl rfl)
theorem dX18_init_4 : decode cX18_init 4 = .ok (.aload_n 0, 1) := dk_42 (dk_at dksX18_init_0 4 rfl rfl)
theorem dX18_init_5 : decode cX18_init 5 = .ok (.aload_n 1, 1) := dk_43 (dk_at dksX18_init_0 5 rfl rfl)
theorem dX18_init_6 : decode cX18_init 6 = .ok (.putfield 7, 3) := dk_181 0 7 (dk_at dksX18_init_0 6 rfl rfl)
theorem dX18_init_9 : decode cX18_init 9 = .ok (.return_, 1) := dk_177 (dk_at dksX18_init_0 9 rfl rfl)
noncomputable def f_X18_init (E : ax_E) (x0 : Option Nat) (x1 : Option Nat) (h : ax_H) : Option (ax_H) :=
  x0.bind fun _ => (f_X16_init E x0 h).bind fun h1 =>
  (ax_pR h1 x0 18 0 x1).bind fun h2 =>
  some h2
set_option maxHeartbeats 4000000 in
theorem we_X18_init {l : Launch} {G : ax_G} {X : ax_X} {Q : State → Prop} {h0 h : ax_H} {ls : Array Slot} (hSF : ax_SF G) (B : ax_BL l G X cX18_init 2 RX18 2 60) (Z : ax_Z X h0 none) (hn : X.2.2.2.2.2.2.2.2.1.name = yX18_init.name) (x0 : Option Nat) (x1 : Option Nat) {w : ax_H} (hl : ax_hl ls 2 [(0, .inr (.inr x0)), (1, .inr (.inr x1))]) (e : f_X18_init G.2.2 x0 x1 h = some w) (hp : (fun w : ax_H => Q = ax_Q G X h0 w none) w) : ax_W G X Q h 0 ls [] := by
  unfold f_X18_init at e
  refine ax_aload_n B dX18_init_0 rfl hl 0 rfl ?_
  refine ax_iiNR (y := yX16_init) (n := 0) (As := []) B q1083 q1065 q156 q1066 rfl (by decide +kernel) ⟨Nat.le_of_ble_eq_true rfl, Nat.le_of_ble_eq_true rfl⟩ (fun w1 e1 => mt_X16_init l G hSF x0 _ w1 e1) rfl hl.size (by decide) dX18_init_1 e (fun h1 e => ?_)
  refine ax_aload_n B dX18_init_4 rfl hl 0 rfl ?_
  refine ax_aload_n B dX18_init_5 rfl hl 1 rfl ?_
  refine ax_putR B ff_X18_7_18 (Or.inr ⟨rfl, rfl, hn⟩) rfl dX18_init_6 e (fun h2 e => ?_)
  have e8 := e
  have hp : Q = _ := hp
  subst hp
  exact ax_return B Z dX18_init_9 e8
theorem mt_X18_init (l : Launch) (G : ax_G) (hSF : ax_SF G) (x0 : Option Nat) (x1 : Option Nat) (h : ax_H) (w : ax_H) (e : f_X18_init G.2.2 x0 x1 h = some w) : ax_Met l G yX18_init cX18_init 2 none 2 60 [va_rf x0, va_rf x1] h w none :=
  ax_enter [.inr (.inr x0), .inr (.inr x1)] (y := yX18_init) hSF (plainFor_of_name (by decide +kernel)) (Nat.le_of_ble_eq_true rfl) (fun X ls B Z hn hl => we_X18_init hSF B Z hn x0 x1 hl e rfl)
def dkwX6_add_0 : List UInt8 := [42, 180, 0, 17, 42, 180, 0, 80, 43, 83, 42, 89, 180, 0, 80, 4, 96, 181, 0, 80, 177]
abbrev dktX6_add_0 : List UInt8 := dkwX6_add_0 ++ []
theorem dksX6_add_0 : cX6_add.data.toList.drop 0 = dktX6_add_0 := by decide +kernel
theorem dX6_add_0 : decode cX6_add 0 = .ok (.aload_n 0, 1) := dk_42 (dk_at dksX6_add_0 0 rfl rfl)
theorem dX6_add_1 : decode cX6_add 1 = .ok (.getfield 17, 3) := dk_180 0 17 (dk_at dksX6_add_0 1 rfl rfl)
theorem dX6_add_4 : decode cX6_add 4 = .ok (.aload_n 0, 1) := dk_42 (dk_at dksX6_add_0 4 rfl rfl)
theorem dX6_add_5 : decode cX6_add 5 = .ok (.getfield 80, 3) := dk_180 0 80 (dk_at dksX6_add_0 5 rfl rfl)
theorem dX6_add_8 : decode cX6_add 8 = .ok (.aload_n 1, 1) := dk_43 (dk_at dksX6_add_0 8 rfl rfl)
theorem dX6_add_9 : decode cX6_add 9 = .ok (.aastore, 1) := dk_83 (dk_at dksX6_add_0 9 rfl rfl)
theorem dX6_add_10 : decode cX6_add 10 = .ok (.aload_n 0, 1) := dk_42 (dk_at dksX6_add_0 10 rfl rfl)
theorem dX6_add_11 : decode cX6_add 11 = .ok (.dup, 1) := dk_89 (dk_at dksX6_add_0 11 rfl rfl)
theorem dX6_add_12 : decode cX6_add 12 = .ok (.getfield 80, 3) := dk_180 0 80 (dk_at dksX6_add_0 12 rfl rfl)
theorem dX6_add_15 : decode cX6_add 15 = .ok (.iconst 1, 1) := dk_4 (dk_at dksX6_add_0 15 rfl rfl)
theorem dX6_add_16 : decode cX6_add 16 = .ok (.iadd, 1) := dk_96 (dk_at dksX6_add_0 16 rfl rfl)
theorem dX6_add_17 : decode cX6_add 17 = .ok (.putfield 80, 3) := dk_181 0 80 (dk_at dksX6_add_0 17 rfl rfl)
theorem dX6_add_20 : decode cX6_add 20 = .ok (.return_, 1) := dk_177 (dk_at dksX6_add_0 20 rfl rfl)
noncomputable def f_X6_add (E : ax_E) (x0 : Option Nat) (x1 : Option Nat) (h : ax_H) : Option (ax_H) :=
  (ax_gRs E h x0 [(25, 5), (7, 5)]).bind fun v1 =>
  (ax_gIs E h x0 [(25, 4), (7, 4)]).bind fun v2 =>
  (ax_stR E oj_109 h v1 109 v2 x1).bind fun h3 =>
  (ax_gIs E h3 x0 [(25, 4), (7, 4)]).bind fun v4 =>
  (ax_pIs h3 x0 [(25, 4), (7, 4)] (v4 + 1)).bind fun h5 =>
  some h5
set_option maxHeartbeats 4000000 in
theorem we_X6_add {l : Launch} {G : ax_G} {X : ax_X} {Q : State → Prop} {h0 h : ax_H} {ls : Array Slot} (hSF : ax_SF G) (B : ax_BL l G X cX6_add 2 RX6 1 40) (Z : ax_Z X h0 none) (hn : X.2.2.2.2.2.2.2.2.1.name = yX6_add.name) (x0 : Option Nat) (x1 : Option Nat) {w : ax_H} (hl : ax_hl ls 2 [(0, .inr (.inr x0)), (1, .inr (.inr x1))]) (e : f_X6_add G.2.2 x0 x1 h = some w) (hp : (fun w : ax_H => Q = ax_Q G X h0 w none) w) : ax_W G X Q h 0 ls [] := by
  unfold f_X6_add at e
  refine ax_aload_n B dX6_add_0 rfl hl 0 rfl ?_
  refine ax_getRs B fs_X6_17 (fun _ _ => rfl) dX6_add_1 e (fun v1 e => ?_)
  refine ax_aload_n B dX6_add_4 rfl hl 0 rfl ?_
  refine ax_getIs B fs_X6_80 (fun _ _ => rfl) dX6_add_5 e (fun v2 e => ?_)
  refine ax_aload_n B dX6_add_8 rfl hl 1 rfl ?_
  refine ax_aast B kd109 (ok_109 B) dX6_add_9 e (fun h3 e => ?_)
  refine ax_aload_n B dX6_add_10 rfl hl 0 rfl ?_
  refine ax_dup B dX6_add_11 (va_rf_cat _) ?_
  refine ax_getIs B fs_X6_80 (fun _ _ => rfl) dX6_add_12 e (fun v4 e => ?_)
  refine ax_iconst B dX6_add_15 ?_
  refine ax_iadd' B dX6_add_16 ?_
  refine ax_putIs B fs_X6_80 (Or.inl rfl) rfl dX6_add_17 e (fun h5 e => ?_)
  have e8 := e
  have hp : Q = _ := hp
  subst hp
  exact ax_return B Z dX6_add_20 e8
theorem mt_X6_add (l : Launch) (G : ax_G) (hSF : ax_SF G) (x0 : Option Nat) (x1 : Option Nat) (h : ax_H) (w : ax_H) (e : f_X6_add G.2.2 x0 x1 h = some w) : ax_Met l G yX6_add cX6_add 2 none 1 40 [va_rf x0, va_rf x1] h w none :=
  ax_enter [.inr (.inr x0), .inr (.inr x1)] (y := yX6_add) hSF (plainFor_of_name (by decide +kernel)) (Nat.le_of_ble_eq_true rfl) (fun X ls B Z hn hl => we_X6_add hSF B Z hn x0 x1 hl e rfl)
def dkwX19_init_0 : List UInt8 := [42, 183, 0, 1, 42, 27, 181, 0, 7, 42, 44, 181, 0, 13, 177]
abbrev dktX19_init_0 : List UInt8 := dkwX19_init_0 ++ []
theorem dksX19_init_0 : cX19_init.data.toList.drop 0 = dktX19_init_0 := by decide +kernel
theorem dX19_init_0 : decode cX19_init 0 = .ok (.aload_n 0, 1) := dk_42 (dk_at dksX19_init_0 0 rfl rfl)
theorem dX19_init_1 : decode cX19_init 1 = .ok (.invokespecial 1, 3) := dk_183 0 1 (dk_at dksX19_init_0 1 rfl rfl)
theorem dX19_init_4 : decode cX19_init 4 = .ok (.aload_n 0, 1) := dk_42 (dk_at dksX19_init_0 4 rfl rfl)
theorem dX19_init_5 : decode cX19_init 5 = .ok (.iload_n 1, 1) := dk_27 (dk_at dksX19_init_0 5 rfl rfl)
theorem dX19_init_6 : decode cX19_init 6 = .ok (.putfield 7, 3) := dk_181 0 7 (dk_at dksX19_init_0 6 rfl rfl)
theorem dX19_init_9 : decode cX19_init 9 = .ok (.aload_n 0, 1) := dk_42 (dk_at dksX19_init_0 9 rfl rfl)
theorem dX19_init_10 : decode cX19_init 10 = .ok (.aload_n 2, 1) := dk_44 (dk_at dksX19_init_0 10 rfl rfl)
theorem dX19_init_11 : decode cX19_init 11 = .ok (.putfield 13, 3) := dk_181 0 13 (dk_at dksX19_init_0 11 rfl rfl)
theorem dX19_init_14 : decode cX19_init 14 = .ok (.return_, 1) := dk_177 (dk_at dksX19_init_0 14 rfl rfl)
noncomputable def f_X19_init (E : ax_E) (x0 : Option Nat) (x1 : Int) (x2 : Option Nat) (h : ax_H) : Option (ax_H) :=
  x0.bind fun _ => (f_X16_init E x0 h).bind fun h1 =>
  if x1 = 0 ∨ x1 = 1 then (ax_pI h1 x0 19 0 x1).bind fun h2 =>
    (ax_pR h2 x0 19 1 x2).bind fun h3 =>
    some h3
  else none
set_option maxHeartbeats 4000000 in
theorem we_X19_init {l : Launch} {G : ax_G} {X : ax_X} {Q : State → Prop} {h0 h : ax_H} {ls : Array Slot} (hSF : ax_SF G) (B : ax_BL l G X cX19_init 3 RX19 2 60) (Z : ax_Z X h0 none) (hn : X.2.2.2.2.2.2.2.2.1.name = yX19_init.name) (x0 : Option Nat) (x1 : Int) (x2 : Option Nat) {w : ax_H} (hl : ax_hl ls 3 [(0, .inr (.inr x0)), (1, .inl x1), (2, .inr (.inr x2))]) (e : f_X19_init G.2.2 x0 x1 x2 h = some w) (hp : (fun w : ax_H => Q = ax_Q G X h0 w none) w) : ax_W G X Q h 0 ls [] := by
  unfold f_X19_init at e
  refine ax_aload_n B dX19_init_0 rfl hl 0 rfl ?_
  refine ax_iiNR (y := yX16_init) (n := 0) (As := []) B q1103 q1065 q156 q1066 rfl (by decide +kernel) ⟨Nat.le_of_ble_eq_true rfl, Nat.le_of_ble_eq_true rfl⟩ (fun w1 e1 => mt_X16_init l G hSF x0 _ w1 e1) rfl hl.size (by decide) dX19_init_1 e (fun h1 e => ?_)
  refine ax_aload_n B dX19_init_4 rfl hl 0 rfl ?_
  refine ax_iload_n B dX19_init_5 rfl hl 1 rfl ?_
  refine ax_putZ B ff_X19_7_19 (Or.inr ⟨rfl, rfl, hn⟩) dX19_init_6 e (fun h2 e => ?_)
  refine ax_aload_n B dX19_init_9 rfl hl 0 rfl ?_
  refine ax_aload_n B dX19_init_10 rfl hl 2 rfl ?_
  refine ax_putR B ff_X19_13_19 (Or.inr ⟨rfl, rfl, hn⟩) rfl dX19_init_11 e (fun h3 e => ?_)
  have e8 := e
  have hp : Q = _ := hp
  subst hp
  exact ax_return B Z dX19_init_14 e8
theorem mt_X19_init (l : Launch) (G : ax_G) (hSF : ax_SF G) (x0 : Option Nat) (x1 : Int) (x2 : Option Nat) (h : ax_H) (w : ax_H) (e : f_X19_init G.2.2 x0 x1 x2 h = some w) : ax_Met l G yX19_init cX19_init 3 none 2 60 [va_rf x0, .int (Int32.ofInt x1), va_rf x2] h w none :=
  ax_enter [.inr (.inr x0), .inl x1, .inr (.inr x2)] (y := yX19_init) hSF (plainFor_of_name (by decide +kernel)) (Nat.le_of_ble_eq_true rfl) (fun X ls B Z hn hl => we_X19_init hSF B Z hn x0 x1 x2 hl e rfl)
def dkwX6_row_2 : List UInt8 := [25, 4, 183, 0, 110, 78, 42, 28, 181, 0, 80, 45, 176]
abbrev dktX6_row_2 : List UInt8 := dkwX6_row_2 ++ []
def dkwX6_row_1 : List UInt8 := [189, 0, 15, 58, 4, 42, 180, 0, 17, 28, 25, 4, 3, 25, 4, 190, 184, 0, 102, 187, 0, 108, 89, 27]
abbrev dktX6_row_1 : List UInt8 := dkwX6_row_1 ++ dktX6_row_2
def dkwX6_row_0 : List UInt8 := [42, 180, 0, 17, 28, 50, 78, 42, 180, 0, 80, 28, 100, 4, 164, 0, 39, 42, 180, 0, 80, 28, 100]
abbrev dktX6_row_0 : List UInt8 := dkwX6_row_0 ++ dktX6_row_1
theorem dksX6_row_0 : cX6_row.data.toList.drop 0 = dktX6_row_0 := by decide +kernel
theorem dksX6_row_1 : cX6_row.data.toList.drop 23 = dktX6_row_1 := dk_seg dksX6_row_0 23 rfl rfl
theorem dksX6_row_2 : cX6_row.data.toList.drop 47 = dktX6_row_2 := dk_seg dksX6_row_1 24 rfl rfl
theorem dX6_row_0 : decode cX6_row 0 = .ok (.aload_n 0, 1) := dk_42 (dk_at dksX6_row_0 0 rfl rfl)
theorem dX6_row_1 : decode cX6_row 1 = .ok (.getfield 17, 3) := dk_180 0 17 (dk_at dksX6_row_0 1 rfl rfl)
theorem dX6_row_4 : decode cX6_row 4 = .ok (.iload_n 2, 1) := dk_28 (dk_at dksX6_row_0 4 rfl rfl)
theorem dX6_row_5 : decode cX6_row 5 = .ok (.aaload, 1) := dk_50 (dk_at dksX6_row_0 5 rfl rfl)
theorem dX6_row_6 : decode cX6_row 6 = .ok (.astore_n 3, 1) := dk_78 (dk_at dksX6_row_0 6 rfl rfl)
theorem dX6_row_7 : decode cX6_row 7 = .ok (.aload_n 0, 1) := dk_42 (dk_at dksX6_row_0 7 rfl rfl)
theorem dX6_row_8 : decode cX6_row 8 = .ok (.getfield 80, 3) := dk_180 0 80 (dk_at dksX6_row_0 8 rfl rfl)
theorem dX6_row_11 : decode cX6_row 11 = .ok (.iload_n 2, 1) := dk_28 (dk_at dksX6_row_0 11 rfl rfl)
theorem dX6_row_12 : decode cX6_row 12 = .ok (.isub, 1) := dk_100 (dk_at dksX6_row_0 12 rfl rfl)
theorem dX6_row_13 : decode cX6_row 13 = .ok (.iconst 1, 1) := dk_4 (dk_at dksX6_row_0 13 rfl rfl)
theorem dX6_row_14 : decode cX6_row 14 = .ok (.if_icmp .le 39, 3) := dk_164 0 39 (dk_at dksX6_row_0 14 rfl rfl)
theorem dX6_row_17 : decode cX6_row 17 = .ok (.aload_n 0, 1) := dk_42 (dk_at dksX6_row_0 17 rfl rfl)
theorem dX6_row_18 : decode cX6_row 18 = .ok (.getfield 80, 3) := dk_180 0 80 (dk_at dksX6_row_0 18 rfl rfl)
theorem dX6_row_21 : decode cX6_row 21 = .ok (.iload_n 2, 1) := dk_28 (dk_at dksX6_row_0 21 rfl rfl)
theorem dX6_row_22 : decode cX6_row 22 = .ok (.isub, 1) := dk_100 (dk_at dksX6_row_0 22 rfl rfl)
theorem dX6_row_23 : decode cX6_row 23 = .ok (.anewarray 15, 3) := dk_189 0 15 (dk_at dksX6_row_1 0 rfl rfl)
theorem dX6_row_26 : decode cX6_row 26 = .ok (.astore 4, 2) := dk_58 4 (dk_at dksX6_row_1 3 rfl rfl)
theorem dX6_row_28 : decode cX6_row 28 = .ok (.aload_n 0, 1) := dk_42 (dk_at dksX6_row_1 5 rfl rfl)
theorem dX6_row_29 : decode cX6_row 29 = .ok (.getfield 17, 3) := dk_180 0 17 (dk_at dksX6_row_1 6 rfl rfl)
theorem dX6_row_32 : decode cX6_row 32 = .ok (.iload_n 2, 1) := dk_28 (dk_at dksX6_row_1 9 rfl rfl)
theorem dX6_row_33 : decode cX6_row 33 = .ok (.aload 4, 2) := dk_25 4 (dk_at dksX6_row_1 10 rfl rfl)
theorem dX6_row_35 : decode cX6_row 35 = .ok (.iconst 0, 1) := dk_3 (dk_at dksX6_row_1 12 rfl rfl)
theorem dX6_row_36 : decode cX6_row 36 = .ok (.aload 4, 2) := dk_25 4 (dk_at dksX6_row_1 13 rfl rfl)
theorem dX6_row_38 : decode cX6_row 38 = .ok (.arraylength, 1) := dk_190 (dk_at dksX6_row_1 15 rfl rfl)
theorem dX6_row_39 : decode cX6_row 39 = .ok (.invokestatic 102, 3) := dk_184 0 102 (dk_at dksX6_row_1 16 rfl rfl)
theorem dX6_row_42 : decode cX6_row 42 = .ok (.new 108, 3) := dk_187 0 108 (dk_at dksX6_row_1 19 rfl rfl)
theorem dX6_row_45 : decode cX6_row 45 = .ok (.dup, 1) := dk_89 (dk_at dksX6_row_1 22 rfl rfl)
theorem dX6_row_46 : decode cX6_row 46 = .ok (.iload_n 1, 1) := dk_27 (dk_at dksX6_row_1 23 rfl rfl)
theorem dX6_row_47 : decode cX6_row 47 = .ok (.aload 4, 2) := dk_25 4 (dk_at dksX6_row_2 0 rfl rfl)
theorem dX6_row_49 : decode cX6_row 49 = .ok (.invokespecial 110, 3) := dk_183 0 110 (dk_at dksX6_row_2 2 rfl rfl)
theorem dX6_row_52 : decode cX6_row 52 = .ok (.astore_n 3, 1) := dk_78 (dk_at dksX6_row_2 5 rfl rfl)
theorem dX6_row_53 : decode cX6_row 53 = .ok (.aload_n 0, 1) := dk_42 (dk_at dksX6_row_2 6 rfl rfl)
theorem dX6_row_54 : decode cX6_row 54 = .ok (.iload_n 2, 1) := dk_28 (dk_at dksX6_row_2 7 rfl rfl)
theorem dX6_row_55 : decode cX6_row 55 = .ok (.putfield 80, 3) := dk_181 0 80 (dk_at dksX6_row_2 8 rfl rfl)
theorem dX6_row_58 : decode cX6_row 58 = .ok (.aload_n 3, 1) := dk_45 (dk_at dksX6_row_2 11 rfl rfl)
theorem dX6_row_59 : decode cX6_row 59 = .ok (.areturn, 1) := dk_176 (dk_at dksX6_row_2 12 rfl rfl)
noncomputable def f_X6_row_53 (E : ax_E) (x0 : Option Nat) (x2 : Int) (x3 : Option Nat) (h : ax_H) : Option (Option Nat × ax_H) :=
  (ax_pIs h x0 [(25, 4), (7, 4)] x2).bind fun h1 =>
  some (x3, h1)
noncomputable def f_X6_row (E : ax_E) (x0 : Option Nat) (x1 : Int) (x2 : Int) (h : ax_H) : Option (Option Nat × ax_H) :=
  (ax_gRs E h x0 [(25, 5), (7, 5)]).bind fun v1 =>
  (ax_ldR E h v1 109 x2).bind fun v2 =>
  (ax_gIs E h x0 [(25, 4), (7, 4)]).bind fun v3 =>
  if i2 1 < i2 (v3 - x2) then
    (ax_gIs E h x0 [(25, 4), (7, 4)]).bind fun v4 =>
    (ax_na E h 109 (v4 - x2)).bind fun q5 =>
    (ax_gRs E q5.2 x0 [(25, 5), (7, 5)]).bind fun v6 =>
    (ax_len E q5.2 (some q5.1) 109).bind fun v7 =>
    (ax_cp E q5.2 (ax_refP E q5.2 oj_109) v6 109 x2 (some q5.1) 0 v7).bind fun h8 =>
    (ax_nw E h8 19 0 2).bind fun q9 =>
    (some q9.1).bind fun _ => (f_X19_init E (some q9.1) x1 (some q5.1) q9.2).bind fun h10 =>
    f_X6_row_53 E x0 x2 (some q9.1) h10
  else
    f_X6_row_53 E x0 x2 v2 h
set_option maxHeartbeats 4000000 in
theorem w_X6_row_53 {l : Launch} {G : ax_G} {X : ax_X} {Q : State → Prop} {h0 h : ax_H} {ls : Array Slot} (hSF : ax_SF G) (B : ax_BL l G X cX6_row 5 RX6 3 82) (Z : ax_Z X h0 ((some (FieldType.object "DebtDoors$Test")))) (hn : X.2.2.2.2.2.2.2.2.1.name = yX6_row.name) (x0 : Option Nat) (x2 : Int) (x3 : Option Nat) {w : Option Nat × ax_H} (hl : ax_hl ls 5 [(0, .inr (.inr x0)), (2, .inl x2), (3, .inr (.inr x3))]) (e : f_X6_row_53 G.2.2 x0 x2 x3 h = some w) (hp : (fun w : Option Nat × ax_H => Q = ax_Q G X h0 w.2 (some (va_rf w.1))) w) : ax_W G X Q h 53 ls [] := by
  unfold f_X6_row_53 at e
  refine ax_aload_n B dX6_row_53 rfl hl 0 rfl ?_
  refine ax_iload_n B dX6_row_54 rfl hl 1 rfl ?_
  refine ax_putIs B fs_X6_80 (Or.inl rfl) rfl dX6_row_55 e (fun h1 e => ?_)
  refine ax_aload_n B dX6_row_58 rfl hl 2 rfl ?_
  have e8 := e
  have hp : Q = _ := hp
  subst hp
  exact ax_areturn B Z (Or.inl ⟨_, rfl⟩) dX6_row_59 e8
set_option maxHeartbeats 4000000 in
theorem we_X6_row {l : Launch} {G : ax_G} {X : ax_X} {Q : State → Prop} {h0 h : ax_H} {ls : Array Slot} (hSF : ax_SF G) (B : ax_BL l G X cX6_row 5 RX6 3 82) (Z : ax_Z X h0 ((some (FieldType.object "DebtDoors$Test")))) (hn : X.2.2.2.2.2.2.2.2.1.name = yX6_row.name) (x0 : Option Nat) (x1 : Int) (x2 : Int) {w : Option Nat × ax_H} (hl : ax_hl ls 5 [(0, .inr (.inr x0)), (1, .inl x1), (2, .inl x2)]) (e : f_X6_row G.2.2 x0 x1 x2 h = some w) (hp : (fun w : Option Nat × ax_H => Q = ax_Q G X h0 w.2 (some (va_rf w.1))) w) : ax_W G X Q h 0 ls [] := by
  unfold f_X6_row at e
  refine ax_aload_n B dX6_row_0 rfl hl 0 rfl ?_
  refine ax_getRs B fs_X6_17 (fun _ _ => rfl) dX6_row_1 e (fun v1 e => ?_)
  refine ax_iload_n B dX6_row_4 rfl hl 2 rfl ?_
  refine ax_aald rfl B kd109 dX6_row_5 e (fun v2 e => ?_)
  refine ax_astore_n (L' := [(3, .inr (.inr v2)), (0, .inr (.inr x0)), (1, .inl x1), (2, .inl x2)]) B dX6_row_6 rfl hl (by decide) rfl (fun ls hl => ?_)
  refine ax_aload_n B dX6_row_7 rfl hl 1 rfl ?_
  refine ax_getIs B fs_X6_80 (fun _ _ => rfl) dX6_row_8 e (fun v3 e => ?_)
  refine ax_iload_n B dX6_row_11 rfl hl 3 rfl ?_
  refine ax_isub' B dX6_row_12 ?_
  refine ax_iconst B dX6_row_13 ?_
  refine ax_icmp_le (tgt := 53) B dX6_row_14 (by decide) e (fun e => ?_) (fun e => ?_)
  · refine ax_aload_n B dX6_row_17 rfl hl 1 rfl ?_
    refine ax_getIs B fs_X6_80 (fun _ _ => rfl) dX6_row_18 e (fun v4 e => ?_)
    refine ax_iload_n B dX6_row_21 rfl hl 3 rfl ?_
    refine ax_isub' B dX6_row_22 ?_
    refine ax_anew B kd109 q734 q735 dX6_row_23 e (fun q5 e => ?_)
    refine ax_astore (L' := [(4, .inr (.inr (some q5.1))), (3, .inr (.inr v2)), (0, .inr (.inr x0)), (1, .inl x1), (2, .inl x2)]) B dX6_row_26 hl (by decide) rfl (fun ls hl => ?_)
    refine ax_aload_n B dX6_row_28 rfl hl 2 rfl ?_
    refine ax_getRs B fs_X6_17 (fun _ _ => rfl) dX6_row_29 e (fun v6 e => ?_)
    refine ax_iload_n B dX6_row_32 rfl hl 4 rfl ?_
    refine ax_aload B dX6_row_33 hl 0 rfl ?_
    refine ax_iconst B dX6_row_35 ?_
    refine ax_aload B dX6_row_36 hl 0 rfl ?_
    refine ax_alen B kd109 dX6_row_38 e (fun v7 e => ?_)
    refine ax_copyR B kd109 (ok_109 B) q1097 q696 q695 q143 hl.size (by decide) (by decide) dX6_row_39 e (fun h8 e => ?_)
    refine ax_new B kd19 in_X19 tyX19_ok (fun k hk => ax_dv _ (dfX19 k hk)) q1098 q1099 q159 dX6_row_42 e (fun q9 e => ?_)
    refine ax_dup B dX6_row_45 (va_rf_cat _) ?_
    refine ax_iload_n B dX6_row_46 rfl hl 3 rfl ?_
    refine ax_aload B dX6_row_47 hl 0 rfl ?_
    refine ax_iiR (y := yX19_init) (n := 2) (As := [.int (Int32.ofInt x1), va_rf (some q5.1)]) B q1100 q1101 q159 q1102 rfl (by decide +kernel) ⟨Nat.le_of_ble_eq_true rfl, Nat.le_of_ble_eq_true rfl⟩ (fun w1 e1 => mt_X19_init l G hSF (some q9.1) x1 (some q5.1) _ w1 e1) rfl hl.size (by simp only [List.map_cons, List.map_nil, List.sum_cons, List.sum_nil, va_rf_cat, ax_catI, ax_catL]; decide) dX6_row_49 e (fun h10 e => ?_)
    refine ax_astore_n (L' := [(3, .inr (.inr (some q9.1))), (4, .inr (.inr (some q5.1))), (0, .inr (.inr x0)), (1, .inl x1), (2, .inl x2)]) B dX6_row_52 rfl hl (by decide) rfl (fun ls hl => ?_)
    exact w_X6_row_53 hSF B Z hn x0 x2 (some q9.1) (hl.sub [2, 4, 0] rfl) e hp
  · exact w_X6_row_53 hSF B Z hn x0 x2 v2 (hl.sub [1, 3, 0] rfl) e hp
theorem mt_X6_row (l : Launch) (G : ax_G) (hSF : ax_SF G) (x0 : Option Nat) (x1 : Int) (x2 : Int) (h : ax_H) (w : Option Nat × ax_H) (e : f_X6_row G.2.2 x0 x1 x2 h = some w) : ax_Met l G yX6_row cX6_row 5 ((some (FieldType.object "DebtDoors$Test"))) 3 82 [va_rf x0, .int (Int32.ofInt x1), .int (Int32.ofInt x2)] h w.2 (some (va_rf w.1)) :=
  ax_enter [.inr (.inr x0), .inl x1, .inl x2] (y := yX6_row) hSF (plainFor_of_name (by decide +kernel)) (Nat.le_of_ble_eq_true rfl) (fun X ls B Z hn hl => we_X6_row hSF B Z hn x0 x1 x2 hl e rfl)
def dkwX15_init_0 : List UInt8 := [42, 183, 0, 1, 42, 27, 181, 0, 7, 42, 44, 181, 0, 13, 42, 45, 181, 0, 17, 177]
abbrev dktX15_init_0 : List UInt8 := dkwX15_init_0 ++ []
theorem dksX15_init_0 : cX15_init.data.toList.drop 0 = dktX15_init_0 := by decide +kernel
theorem dX15_init_0 : decode cX15_init 0 = .ok (.aload_n 0, 1) := dk_42 (dk_at dksX15_init_0 0 rfl rfl)
theorem dX15_init_1 : decode cX15_init 1 = .ok (.invokespecial 1, 3) := dk_183 0 1 (dk_at dksX15_init_0 1 rfl rfl)
theorem dX15_init_4 : decode cX15_init 4 = .ok (.aload_n 0, 1) := dk_42 (dk_at dksX15_init_0 4 rfl rfl)
theorem dX15_init_5 : decode cX15_init 5 = .ok (.iload_n 1, 1) := dk_27 (dk_at dksX15_init_0 5 rfl rfl)
theorem dX15_init_6 : decode cX15_init 6 = .ok (.putfield 7, 3) := dk_181 0 7 (dk_at dksX15_init_0 6 rfl rfl)
theorem dX15_init_9 : decode cX15_init 9 = .ok (.aload_n 0, 1) := dk_42 (dk_at dksX15_init_0 9 rfl rfl)
theorem dX15_init_10 : decode cX15_init 10 = .ok (.aload_n 2, 1) := dk_44 (dk_at dksX15_init_0 10 rfl rfl)
theorem dX15_init_11 : decode cX15_init 11 = .ok (.putfield 13, 3) := dk_181 0 13 (dk_at dksX15_init_0 11 rfl rfl)
theorem dX15_init_14 : decode cX15_init 14 = .ok (.aload_n 0, 1) := dk_42 (dk_at dksX15_init_0 14 rfl rfl)
theorem dX15_init_15 : decode cX15_init 15 = .ok (.aload_n 3, 1) := dk_45 (dk_at dksX15_init_0 15 rfl rfl)
theorem dX15_init_16 : decode cX15_init 16 = .ok (.putfield 17, 3) := dk_181 0 17 (dk_at dksX15_init_0 16 rfl rfl)
theorem dX15_init_19 : decode cX15_init 19 = .ok (.return_, 1) := dk_177 (dk_at dksX15_init_0 19 rfl rfl)
noncomputable def f_X15_init (E : ax_E) (x0 : Option Nat) (x1 : Int) (x2 : Option Nat) (x3 : Option Nat) (h : ax_H) : Option (ax_H) :=
  x0.bind fun _ =>
  (ax_pI h x0 15 0 x1).bind fun h1 =>
  (ax_pR h1 x0 15 1 x2).bind fun h2 =>
  (ax_pR h2 x0 15 2 x3).bind fun h3 =>
  some h3
set_option maxHeartbeats 4000000 in
theorem we_X15_init {l : Launch} {G : ax_G} {X : ax_X} {Q : State → Prop} {h0 h : ax_H} {ls : Array Slot} (hSF : ax_SF G) (B : ax_BL l G X cX15_init 4 RX15 1 40) (Z : ax_Z X h0 none) (hn : X.2.2.2.2.2.2.2.2.1.name = yX15_init.name) (x0 : Option Nat) (x1 : Int) (x2 : Option Nat) (x3 : Option Nat) {w : ax_H} (hl : ax_hl ls 4 [(0, .inr (.inr x0)), (1, .inl x1), (2, .inr (.inr x2)), (3, .inr (.inr x3))]) (e : f_X15_init G.2.2 x0 x1 x2 x3 h = some w) (hp : (fun w : ax_H => Q = ax_Q G X h0 w none) w) : ax_W G X Q h 0 ls [] := by
  unfold f_X15_init at e
  refine ax_aload_n B dX15_init_0 rfl hl 0 rfl ?_
  refine ax_oiR B q1115 q183 q184 hl.size (by decide) (by decide) dX15_init_1 e (fun e => ?_)
  refine ax_aload_n B dX15_init_4 rfl hl 0 rfl ?_
  refine ax_iload_n B dX15_init_5 rfl hl 1 rfl ?_
  refine ax_putI B ff_X15_7_15 (Or.inr ⟨rfl, rfl, hn⟩) rfl dX15_init_6 e (fun h1 e => ?_)
  refine ax_aload_n B dX15_init_9 rfl hl 0 rfl ?_
  refine ax_aload_n B dX15_init_10 rfl hl 2 rfl ?_
  refine ax_putR B ff_X15_13_15 (Or.inr ⟨rfl, rfl, hn⟩) rfl dX15_init_11 e (fun h2 e => ?_)
  refine ax_aload_n B dX15_init_14 rfl hl 0 rfl ?_
  refine ax_aload_n B dX15_init_15 rfl hl 3 rfl ?_
  refine ax_putR B ff_X15_17_15 (Or.inr ⟨rfl, rfl, hn⟩) rfl dX15_init_16 e (fun h3 e => ?_)
  have e8 := e
  have hp : Q = _ := hp
  subst hp
  exact ax_return B Z dX15_init_19 e8
theorem mt_X15_init (l : Launch) (G : ax_G) (hSF : ax_SF G) (x0 : Option Nat) (x1 : Int) (x2 : Option Nat) (x3 : Option Nat) (h : ax_H) (w : ax_H) (e : f_X15_init G.2.2 x0 x1 x2 x3 h = some w) : ax_Met l G yX15_init cX15_init 4 none 1 40 [va_rf x0, .int (Int32.ofInt x1), va_rf x2, va_rf x3] h w none :=
  ax_enter [.inr (.inr x0), .inl x1, .inr (.inr x2), .inr (.inr x3)] (y := yX15_init) hSF (plainFor_of_name (by decide +kernel)) (Nat.le_of_ble_eq_true rfl) (fun X ls B Z hn hl => we_X15_init hSF B Z hn x0 x1 x2 x3 hl e rfl)
def dkwJ3_max_2_0 : List UInt8 := [26, 27, 161, 0, 7, 26, 167, 0, 4, 27, 172]
abbrev dktJ3_max_2_0 : List UInt8 := dkwJ3_max_2_0 ++ []
theorem dksJ3_max_2_0 : cJ3_max_2.data.toList.drop 0 = dktJ3_max_2_0 := by decide +kernel
theorem dJ3_max_2_0 : decode cJ3_max_2 0 = .ok (.iload_n 0, 1) := dk_26 (dk_at dksJ3_max_2_0 0 rfl rfl)
theorem dJ3_max_2_1 : decode cJ3_max_2 1 = .ok (.iload_n 1, 1) := dk_27 (dk_at dksJ3_max_2_0 1 rfl rfl)
theorem dJ3_max_2_2 : decode cJ3_max_2 2 = .ok (.if_icmp .lt 7, 3) := dk_161 0 7 (dk_at dksJ3_max_2_0 2 rfl rfl)
theorem dJ3_max_2_5 : decode cJ3_max_2 5 = .ok (.iload_n 0, 1) := dk_26 (dk_at dksJ3_max_2_0 5 rfl rfl)
theorem dJ3_max_2_6 : decode cJ3_max_2 6 = .ok (.goto 4, 3) := dk_167 0 4 (dk_at dksJ3_max_2_0 6 rfl rfl)
theorem dJ3_max_2_9 : decode cJ3_max_2 9 = .ok (.iload_n 1, 1) := dk_27 (dk_at dksJ3_max_2_0 9 rfl rfl)
theorem dJ3_max_2_10 : decode cJ3_max_2 10 = .ok (.ireturn, 1) := dk_172 (dk_at dksJ3_max_2_0 10 rfl rfl)
noncomputable def f_J3_max_2 (E : ax_E) (x0 : Int) (x1 : Int) (h : ax_H) : Option (Int × ax_H) :=
  if i2 x0 < i2 x1 then
    some (x1, h)
  else
    some (x0, h)
set_option maxHeartbeats 4000000 in
theorem we_J3_max_2 {l : Launch} {G : ax_G} {X : ax_X} {Q : State → Prop} {h0 h : ax_H} {ls : Array Slot} (hSF : ax_SF G) (B : ax_BL l G X cJ3_max_2 2 RJ3 1 40) (Z : ax_Z X h0 ((some FieldType.int))) (hn : X.2.2.2.2.2.2.2.2.1.name = yJ3_max_2.name) (x0 : Int) (x1 : Int) {w : Int × ax_H} (hl : ax_hl ls 2 [(0, .inl x0), (1, .inl x1)]) (e : f_J3_max_2 G.2.2 x0 x1 h = some w) (hp : (fun w : Int × ax_H => Q = ax_Q G X h0 w.2 (some (.int (Int32.ofInt w.1)))) w) : ax_W G X Q h 0 ls [] := by
  unfold f_J3_max_2 at e
  refine ax_iload_n B dJ3_max_2_0 rfl hl 0 rfl ?_
  refine ax_iload_n B dJ3_max_2_1 rfl hl 1 rfl ?_
  refine ax_icmp_lt (tgt := 9) B dJ3_max_2_2 (by decide) e (fun e => ?_) (fun e => ?_)
  · refine ax_iload_n B dJ3_max_2_9 rfl hl 1 rfl ?_
    have e8 := e
    have hp : Q = _ := hp
    subst hp
    exact ax_ireturn B Z dJ3_max_2_10 e8
  · refine ax_iload_n B dJ3_max_2_5 rfl hl 0 rfl ?_
    refine ax_goto (tgt := 10) B dJ3_max_2_6 (by decide) ?_
    have e8 := e
    have hp : Q = _ := hp
    subst hp
    exact ax_ireturn B Z dJ3_max_2_10 e8
theorem mt_J3_max_2 (l : Launch) (G : ax_G) (hSF : ax_SF G) (x0 : Int) (x1 : Int) (h : ax_H) (w : Int × ax_H) (e : f_J3_max_2 G.2.2 x0 x1 h = some w) : ax_Met l G yJ3_max_2 cJ3_max_2 2 ((some FieldType.int)) 1 40 [.int (Int32.ofInt x0), .int (Int32.ofInt x1)] h w.2 (some (.int (Int32.ofInt w.1))) :=
  ax_enter [.inl x0, .inl x1] (y := yJ3_max_2) hSF (by decide +kernel) (Nat.le_of_ble_eq_true rfl) (fun X ls B Z hn hl => we_J3_max_2 hSF B Z hn x0 x1 hl e rfl)
def dkwJ14_newLength_1 : List UInt8 := [184, 0, 201, 172]
abbrev dktJ14_newLength_1 : List UInt8 := dkwJ14_newLength_1 ++ []
def dkwJ14_newLength_0 : List UInt8 := [26, 27, 28, 184, 0, 194, 96, 62, 3, 29, 162, 0, 11, 29, 18, 200, 163, 0, 5, 29, 172, 26, 27]
abbrev dktJ14_newLength_0 : List UInt8 := dkwJ14_newLength_0 ++ dktJ14_newLength_1
theorem dksJ14_newLength_0 : cJ14_newLength.data.toList.drop 0 = dktJ14_newLength_0 := by decide +kernel
theorem dksJ14_newLength_1 : cJ14_newLength.data.toList.drop 23 = dktJ14_newLength_1 := dk_seg dksJ14_newLength_0 23 rfl rfl
theorem dJ14_newLength_0 : decode cJ14_newLength 0 = .ok (.iload_n 0, 1) := dk_26 (dk_at dksJ14_newLength_0 0 rfl rfl)
theorem dJ14_newLength_1 : decode cJ14_newLength 1 = .ok (.iload_n 1, 1) := dk_27 (dk_at dksJ14_newLength_0 1 rfl rfl)
theorem dJ14_newLength_2 : decode cJ14_newLength 2 = .ok (.iload_n 2, 1) := dk_28 (dk_at dksJ14_newLength_0 2 rfl rfl)
theorem dJ14_newLength_3 : decode cJ14_newLength 3 = .ok (.invokestatic 194, 3) := dk_184 0 194 (dk_at dksJ14_newLength_0 3 rfl rfl)
theorem dJ14_newLength_6 : decode cJ14_newLength 6 = .ok (.iadd, 1) := dk_96 (dk_at dksJ14_newLength_0 6 rfl rfl)
theorem dJ14_newLength_7 : decode cJ14_newLength 7 = .ok (.istore_n 3, 1) := dk_62 (dk_at dksJ14_newLength_0 7 rfl rfl)
theorem dJ14_newLength_8 : decode cJ14_newLength 8 = .ok (.iconst 0, 1) := dk_3 (dk_at dksJ14_newLength_0 8 rfl rfl)
theorem dJ14_newLength_9 : decode cJ14_newLength 9 = .ok (.iload_n 3, 1) := dk_29 (dk_at dksJ14_newLength_0 9 rfl rfl)
theorem dJ14_newLength_10 : decode cJ14_newLength 10 = .ok (.if_icmp .ge 11, 3) := dk_162 0 11 (dk_at dksJ14_newLength_0 10 rfl rfl)
theorem dJ14_newLength_13 : decode cJ14_newLength 13 = .ok (.iload_n 3, 1) := dk_29 (dk_at dksJ14_newLength_0 13 rfl rfl)
theorem dJ14_newLength_14 : decode cJ14_newLength 14 = .ok (.ldc 200, 2) := dk_18 200 (dk_at dksJ14_newLength_0 14 rfl rfl)
theorem dJ14_newLength_16 : decode cJ14_newLength 16 = .ok (.if_icmp .gt 5, 3) := dk_163 0 5 (dk_at dksJ14_newLength_0 16 rfl rfl)
theorem dJ14_newLength_19 : decode cJ14_newLength 19 = .ok (.iload_n 3, 1) := dk_29 (dk_at dksJ14_newLength_0 19 rfl rfl)
theorem dJ14_newLength_20 : decode cJ14_newLength 20 = .ok (.ireturn, 1) := dk_172 (dk_at dksJ14_newLength_0 20 rfl rfl)
theorem dJ14_newLength_21 : decode cJ14_newLength 21 = .ok (.iload_n 0, 1) := dk_26 (dk_at dksJ14_newLength_0 21 rfl rfl)
theorem dJ14_newLength_22 : decode cJ14_newLength 22 = .ok (.iload_n 1, 1) := dk_27 (dk_at dksJ14_newLength_0 22 rfl rfl)
theorem dJ14_newLength_23 : decode cJ14_newLength 23 = .ok (.invokestatic 201, 3) := dk_184 0 201 (dk_at dksJ14_newLength_1 0 rfl rfl)
theorem dJ14_newLength_26 : decode cJ14_newLength 26 = .ok (.ireturn, 1) := dk_172 (dk_at dksJ14_newLength_1 3 rfl rfl)
noncomputable def f_J14_newLength_21 (E : ax_E) (x0 : Int) (x1 : Int) (h : ax_H) : Option (Int × ax_H) :=
  none
noncomputable def f_J14_newLength (E : ax_E) (x0 : Int) (x1 : Int) (x2 : Int) (h : ax_H) : Option (Int × ax_H) :=
  (f_J3_max_2 E x1 x2 h).bind fun q1 =>
  if i2 0 < i2 (x0 + q1.1) then
    if i2 2147483639 < i2 (x0 + q1.1) then
      f_J14_newLength_21 E x0 x1 q1.2
    else
      some ((x0 + q1.1), q1.2)
  else
    f_J14_newLength_21 E x0 x1 q1.2
set_option maxHeartbeats 4000000 in
theorem w_J14_newLength_21 {l : Launch} {G : ax_G} {X : ax_X} {Q : State → Prop} {h0 h : ax_H} {ls : Array Slot} (hSF : ax_SF G) (B : ax_BL l G X cJ14_newLength 4 RJ14 2 61) (Z : ax_Z X h0 ((some FieldType.int))) (hn : X.2.2.2.2.2.2.2.2.1.name = yJ14_newLength.name) (x0 : Int) (x1 : Int) {w : Int × ax_H} (hl : ax_hl ls 4 [(0, .inl x0), (1, .inl x1)]) (e : f_J14_newLength_21 G.2.2 x0 x1 h = some w) (hp : (fun w : Int × ax_H => Q = ax_Q G X h0 w.2 (some (.int (Int32.ofInt w.1)))) w) : ax_W G X Q h 21 ls [] := by
  unfold f_J14_newLength_21 at e
  refine ax_iload_n B dJ14_newLength_21 rfl hl 0 rfl ?_
  refine ax_iload_n B dJ14_newLength_22 rfl hl 1 rfl ?_
  cases e
set_option maxHeartbeats 4000000 in
theorem we_J14_newLength {l : Launch} {G : ax_G} {X : ax_X} {Q : State → Prop} {h0 h : ax_H} {ls : Array Slot} (hSF : ax_SF G) (B : ax_BL l G X cJ14_newLength 4 RJ14 2 61) (Z : ax_Z X h0 ((some FieldType.int))) (hn : X.2.2.2.2.2.2.2.2.1.name = yJ14_newLength.name) (x0 : Int) (x1 : Int) (x2 : Int) {w : Int × ax_H} (hl : ax_hl ls 4 [(0, .inl x0), (1, .inl x1), (2, .inl x2)]) (e : f_J14_newLength G.2.2 x0 x1 x2 h = some w) (hp : (fun w : Int × ax_H => Q = ax_Q G X h0 w.2 (some (.int (Int32.ofInt w.1)))) w) : ax_W G X Q h 0 ls [] := by
  unfold f_J14_newLength at e
  refine ax_iload_n B dJ14_newLength_0 rfl hl 0 rfl ?_
  refine ax_iload_n B dJ14_newLength_1 rfl hl 1 rfl ?_
  refine ax_iload_n B dJ14_newLength_2 rfl hl 2 rfl ?_
  refine ax_isI (y := yJ3_max_2) (n := 2) (As := [.int (Int32.ofInt x1), .int (Int32.ofInt x2)]) B (lw_S q1264 q1265 q134 q1266) (by decide +kernel) ⟨Nat.le_of_ble_eq_true rfl, Nat.le_of_ble_eq_true rfl⟩ (fun w1 e1 => mt_J3_max_2 l G hSF x1 x2 _ w1 e1) rfl hl.size (by simp only [List.map_cons, List.map_nil, List.sum_cons, List.sum_nil, va_rf_cat, ax_catI, ax_catL]; decide) dJ14_newLength_3 e (fun q1 e => ?_)
  refine ax_iadd' B dJ14_newLength_6 ?_
  refine ax_istore_n (L' := [(3, .inl (x0 + q1.1)), (0, .inl x0), (1, .inl x1), (2, .inl x2)]) B dJ14_newLength_7 rfl hl (by decide) rfl (fun ls hl => ?_)
  refine ax_iconst B dJ14_newLength_8 ?_
  refine ax_iload_n B dJ14_newLength_9 rfl hl 0 rfl ?_
  refine ax_icmp_ge (tgt := 21) B dJ14_newLength_10 (by decide) e (fun e => ?_) (fun e => ?_)
  · refine ax_iload_n B dJ14_newLength_13 rfl hl 0 rfl ?_
    refine ax_ldc B cn_J14_200 dJ14_newLength_14 ?_
    refine ax_icmp_gt (tgt := 21) B dJ14_newLength_16 (by decide) e (fun e => ?_) (fun e => ?_)
    · exact w_J14_newLength_21 hSF B Z hn x0 x1 (hl.sub [1, 2] rfl) e hp
    · refine ax_iload_n B dJ14_newLength_19 rfl hl 0 rfl ?_
      have e8 := e
      have hp : Q = _ := hp
      subst hp
      exact ax_ireturn B Z dJ14_newLength_20 e8
  · exact w_J14_newLength_21 hSF B Z hn x0 x1 (hl.sub [1, 2] rfl) e hp
theorem mt_J14_newLength (l : Launch) (G : ax_G) (hSF : ax_SF G) (x0 : Int) (x1 : Int) (x2 : Int) (h : ax_H) (w : Int × ax_H) (e : f_J14_newLength G.2.2 x0 x1 x2 h = some w) : ax_Met l G yJ14_newLength cJ14_newLength 4 ((some FieldType.int)) 2 61 [.int (Int32.ofInt x0), .int (Int32.ofInt x1), .int (Int32.ofInt x2)] h w.2 (some (.int (Int32.ofInt w.1))) :=
  ax_enter [.inl x0, .inl x1, .inl x2] (y := yJ14_newLength) hSF (plainFor_of_name (by decide +kernel)) (Nat.le_of_ble_eq_true rfl) (fun X ls B Z hn hl => we_J14_newLength hSF B Z hn x0 x1 x2 hl e rfl)
def dkwJ15_copyOf_2_1 : List UInt8 := [78, 42, 3, 45, 3, 42, 190, 27, 184, 1, 48, 184, 0, 150, 45, 176]
abbrev dktJ15_copyOf_2_1 : List UInt8 := dkwJ15_copyOf_2_1 ++ []
def dkwJ15_copyOf_2_0 : List UInt8 := [44, 18, 110, 166, 0, 10, 27, 189, 0, 2, 167, 0, 14, 44, 182, 0, 90, 27, 184, 0, 95, 192, 0, 110]
abbrev dktJ15_copyOf_2_0 : List UInt8 := dkwJ15_copyOf_2_0 ++ dktJ15_copyOf_2_1
theorem dksJ15_copyOf_2_0 : cJ15_copyOf_2.data.toList.drop 0 = dktJ15_copyOf_2_0 := by decide +kernel
theorem dksJ15_copyOf_2_1 : cJ15_copyOf_2.data.toList.drop 24 = dktJ15_copyOf_2_1 := dk_seg dksJ15_copyOf_2_0 24 rfl rfl
theorem dJ15_copyOf_2_0 : decode cJ15_copyOf_2 0 = .ok (.aload_n 2, 1) := dk_44 (dk_at dksJ15_copyOf_2_0 0 rfl rfl)
theorem dJ15_copyOf_2_1 : decode cJ15_copyOf_2 1 = .ok (.ldc 110, 2) := dk_18 110 (dk_at dksJ15_copyOf_2_0 1 rfl rfl)
theorem dJ15_copyOf_2_3 : decode cJ15_copyOf_2 3 = .ok (.if_acmp .ne 10, 3) := dk_166 0 10 (dk_at dksJ15_copyOf_2_0 3 rfl rfl)
theorem dJ15_copyOf_2_6 : decode cJ15_copyOf_2 6 = .ok (.iload_n 1, 1) := dk_27 (dk_at dksJ15_copyOf_2_0 6 rfl rfl)
theorem dJ15_copyOf_2_7 : decode cJ15_copyOf_2 7 = .ok (.anewarray 2, 3) := dk_189 0 2 (dk_at dksJ15_copyOf_2_0 7 rfl rfl)
theorem dJ15_copyOf_2_10 : decode cJ15_copyOf_2 10 = .ok (.goto 14, 3) := dk_167 0 14 (dk_at dksJ15_copyOf_2_0 10 rfl rfl)
theorem dJ15_copyOf_2_13 : decode cJ15_copyOf_2 13 = .ok (.aload_n 2, 1) := dk_44 (dk_at dksJ15_copyOf_2_0 13 rfl rfl)
theorem dJ15_copyOf_2_14 : decode cJ15_copyOf_2 14 = .ok (.invokevirtual 90, 3) := dk_182 0 90 (dk_at dksJ15_copyOf_2_0 14 rfl rfl)
theorem dJ15_copyOf_2_17 : decode cJ15_copyOf_2 17 = .ok (.iload_n 1, 1) := dk_27 (dk_at dksJ15_copyOf_2_0 17 rfl rfl)
theorem dJ15_copyOf_2_18 : decode cJ15_copyOf_2 18 = .ok (.invokestatic 95, 3) := dk_184 0 95 (dk_at dksJ15_copyOf_2_0 18 rfl rfl)
theorem dJ15_copyOf_2_21 : decode cJ15_copyOf_2 21 = .ok (.checkcast 110, 3) := dk_192 0 110 (dk_at dksJ15_copyOf_2_0 21 rfl rfl)
theorem dJ15_copyOf_2_24 : decode cJ15_copyOf_2 24 = .ok (.astore_n 3, 1) := dk_78 (dk_at dksJ15_copyOf_2_1 0 rfl rfl)
theorem dJ15_copyOf_2_25 : decode cJ15_copyOf_2 25 = .ok (.aload_n 0, 1) := dk_42 (dk_at dksJ15_copyOf_2_1 1 rfl rfl)
theorem dJ15_copyOf_2_26 : decode cJ15_copyOf_2 26 = .ok (.iconst 0, 1) := dk_3 (dk_at dksJ15_copyOf_2_1 2 rfl rfl)
theorem dJ15_copyOf_2_27 : decode cJ15_copyOf_2 27 = .ok (.aload_n 3, 1) := dk_45 (dk_at dksJ15_copyOf_2_1 3 rfl rfl)
theorem dJ15_copyOf_2_28 : decode cJ15_copyOf_2 28 = .ok (.iconst 0, 1) := dk_3 (dk_at dksJ15_copyOf_2_1 4 rfl rfl)
theorem dJ15_copyOf_2_29 : decode cJ15_copyOf_2 29 = .ok (.aload_n 0, 1) := dk_42 (dk_at dksJ15_copyOf_2_1 5 rfl rfl)
theorem dJ15_copyOf_2_30 : decode cJ15_copyOf_2 30 = .ok (.arraylength, 1) := dk_190 (dk_at dksJ15_copyOf_2_1 6 rfl rfl)
theorem dJ15_copyOf_2_31 : decode cJ15_copyOf_2 31 = .ok (.iload_n 1, 1) := dk_27 (dk_at dksJ15_copyOf_2_1 7 rfl rfl)
theorem dJ15_copyOf_2_32 : decode cJ15_copyOf_2 32 = .ok (.invokestatic 304, 3) := dk_184 1 48 (dk_at dksJ15_copyOf_2_1 8 rfl rfl)
theorem dJ15_copyOf_2_35 : decode cJ15_copyOf_2 35 = .ok (.invokestatic 150, 3) := dk_184 0 150 (dk_at dksJ15_copyOf_2_1 11 rfl rfl)
theorem dJ15_copyOf_2_38 : decode cJ15_copyOf_2 38 = .ok (.aload_n 3, 1) := dk_45 (dk_at dksJ15_copyOf_2_1 14 rfl rfl)
theorem dJ15_copyOf_2_39 : decode cJ15_copyOf_2 39 = .ok (.areturn, 1) := dk_176 (dk_at dksJ15_copyOf_2_1 15 rfl rfl)
noncomputable def f_J15_copyOf_2 (E : ax_E) (x0 : Option Nat) (x1 : Int) (x2 : Option Nat) (h : ax_H) : Option (Option Nat × ax_H) :=
  (ax_cst E 4).bind fun v1 =>
  if x2 = v1 then
    (ax_na E h 104 x1).bind fun q2 =>
    (ax_len E q2.2 x0 104).bind fun v3 =>
    (f_J3_min E v3 x1 q2.2).bind fun q4 =>
    (ax_cp E q4.2 (ax_refP E q4.2 oj_104) x0 104 0 (some q2.1) 0 q4.1).bind fun h5 =>
    some ((some q2.1), h5)
  else
    none
set_option maxHeartbeats 4000000 in
theorem we_J15_copyOf_2 {l : Launch} {G : ax_G} {X : ax_X} {Q : State → Prop} {h0 h : ax_H} {ls : Array Slot} (hSF : ax_SF G) (B : ax_BL l G X cJ15_copyOf_2 4 RJ15 2 61) (Z : ax_Z X h0 ((some (FieldType.array (FieldType.object "java/lang/Object"))))) (hn : X.2.2.2.2.2.2.2.2.1.name = yJ15_copyOf_2.name) (x0 : Option Nat) (x1 : Int) (x2 : Option Nat) {w : Option Nat × ax_H} (hl : ax_hl ls 4 [(0, .inr (.inr x0)), (1, .inl x1), (2, .inr (.inr x2))]) (e : f_J15_copyOf_2 G.2.2 x0 x1 x2 h = some w) (hp : (fun w : Option Nat × ax_H => Q = ax_Q G X h0 w.2 (some (va_rf w.1))) w) : ax_W G X Q h 0 ls [] := by
  unfold f_J15_copyOf_2 at e
  refine ax_aload_n B dJ15_copyOf_2_0 rfl hl 2 rfl ?_
  refine ax_ldcM B (ax_sx B).2.2.1 q1311 dJ15_copyOf_2_1 e (fun v1 e => ?_)
  refine ax_acmp_ne (tgt := 13) B dJ15_copyOf_2_3 (by decide) e (fun e => ?_) (fun e => ?_)
  · refine ax_iload_n B dJ15_copyOf_2_6 rfl hl 1 rfl ?_
    refine ax_anew B kd104 q1313 q1312 dJ15_copyOf_2_7 e (fun q2 e => ?_)
    refine ax_goto (tgt := 24) B dJ15_copyOf_2_10 (by decide) ?_
    refine ax_astore_n (L' := [(3, .inr (.inr (some q2.1))), (0, .inr (.inr x0)), (1, .inl x1), (2, .inr (.inr x2))]) B dJ15_copyOf_2_24 rfl hl (by decide) rfl (fun ls hl => ?_)
    refine ax_aload_n B dJ15_copyOf_2_25 rfl hl 1 rfl ?_
    refine ax_iconst B dJ15_copyOf_2_26 ?_
    refine ax_aload_n B dJ15_copyOf_2_27 rfl hl 0 rfl ?_
    refine ax_iconst B dJ15_copyOf_2_28 ?_
    refine ax_aload_n B dJ15_copyOf_2_29 rfl hl 1 rfl ?_
    refine ax_alen B kd104 dJ15_copyOf_2_30 e (fun v3 e => ?_)
    refine ax_iload_n B dJ15_copyOf_2_31 rfl hl 2 rfl ?_
    refine ax_isI (y := yJ3_min) (n := 2) (As := [.int (Int32.ofInt v3), .int (Int32.ofInt x1)]) B (lw_S q1314 q441 q134 q442) (by decide +kernel) ⟨Nat.le_of_ble_eq_true rfl, Nat.le_of_ble_eq_true rfl⟩ (fun w1 e1 => mt_J3_min l G hSF v3 x1 _ w1 e1) rfl hl.size (by simp only [List.map_cons, List.map_nil, List.sum_cons, List.sum_nil, va_rf_cat, ax_catI, ax_catL]; decide) dJ15_copyOf_2_32 e (fun q4 e => ?_)
    refine ax_copyR B kd104 (ok_104 B) q1315 q696 q695 q143 hl.size (by decide) (by decide) dJ15_copyOf_2_35 e (fun h5 e => ?_)
    refine ax_aload_n B dJ15_copyOf_2_38 rfl hl 0 rfl ?_
    have e8 := e
    have hp : Q = _ := hp
    subst hp
    exact ax_areturn B Z (Or.inr ⟨_, rfl⟩) dJ15_copyOf_2_39 e8
  · refine ax_aload_n B dJ15_copyOf_2_13 rfl hl 2 rfl ?_
    cases e
theorem mt_J15_copyOf_2 (l : Launch) (G : ax_G) (hSF : ax_SF G) (x0 : Option Nat) (x1 : Int) (x2 : Option Nat) (h : ax_H) (w : Option Nat × ax_H) (e : f_J15_copyOf_2 G.2.2 x0 x1 x2 h = some w) : ax_Met l G yJ15_copyOf_2 cJ15_copyOf_2 4 ((some (FieldType.array (FieldType.object "java/lang/Object")))) 2 61 [va_rf x0, .int (Int32.ofInt x1), va_rf x2] h w.2 (some (va_rf w.1)) :=
  ax_enter [.inr (.inr x0), .inl x1, .inr (.inr x2)] (y := yJ15_copyOf_2) hSF (plainFor_of_name (by decide +kernel)) (Nat.le_of_ble_eq_true rfl) (fun X ls B Z hn hl => we_J15_copyOf_2 hSF B Z hn x0 x1 x2 hl e rfl)
def dkwJ15_copyOf_0 : List UInt8 := [42, 27, 42, 182, 0, 86, 184, 1, 44, 176]
abbrev dktJ15_copyOf_0 : List UInt8 := dkwJ15_copyOf_0 ++ []
theorem dksJ15_copyOf_0 : cJ15_copyOf.data.toList.drop 0 = dktJ15_copyOf_0 := by decide +kernel
theorem dJ15_copyOf_0 : decode cJ15_copyOf 0 = .ok (.aload_n 0, 1) := dk_42 (dk_at dksJ15_copyOf_0 0 rfl rfl)
theorem dJ15_copyOf_1 : decode cJ15_copyOf 1 = .ok (.iload_n 1, 1) := dk_27 (dk_at dksJ15_copyOf_0 1 rfl rfl)
theorem dJ15_copyOf_2 : decode cJ15_copyOf 2 = .ok (.aload_n 0, 1) := dk_42 (dk_at dksJ15_copyOf_0 2 rfl rfl)
theorem dJ15_copyOf_3 : decode cJ15_copyOf 3 = .ok (.invokevirtual 86, 3) := dk_182 0 86 (dk_at dksJ15_copyOf_0 3 rfl rfl)
theorem dJ15_copyOf_6 : decode cJ15_copyOf 6 = .ok (.invokestatic 300, 3) := dk_184 1 44 (dk_at dksJ15_copyOf_0 6 rfl rfl)
theorem dJ15_copyOf_9 : decode cJ15_copyOf 9 = .ok (.areturn, 1) := dk_176 (dk_at dksJ15_copyOf_0 9 rfl rfl)
noncomputable def f_J15_copyOf (E : ax_E) (x0 : Option Nat) (x1 : Int) (h : ax_H) : Option (Option Nat × ax_H) :=
  (ax_ce E h x0 104).bind fun _ => (ax_cst E 4).bind fun v1 =>
  (f_J15_copyOf_2 E x0 x1 v1 h).bind fun q2 =>
  some (q2.1, q2.2)
set_option maxHeartbeats 4000000 in
theorem we_J15_copyOf {l : Launch} {G : ax_G} {X : ax_X} {Q : State → Prop} {h0 h : ax_H} {ls : Array Slot} (hSF : ax_SF G) (B : ax_BL l G X cJ15_copyOf 2 RJ15 3 84) (Z : ax_Z X h0 ((some (FieldType.array (FieldType.object "java/lang/Object"))))) (hn : X.2.2.2.2.2.2.2.2.1.name = yJ15_copyOf.name) (x0 : Option Nat) (x1 : Int) {w : Option Nat × ax_H} (hl : ax_hl ls 2 [(0, .inr (.inr x0)), (1, .inl x1)]) (e : f_J15_copyOf G.2.2 x0 x1 h = some w) (hp : (fun w : Option Nat × ax_H => Q = ax_Q G X h0 w.2 (some (va_rf w.1))) w) : ax_W G X Q h 0 ls [] := by
  unfold f_J15_copyOf at e
  refine ax_aload_n B dJ15_copyOf_0 rfl hl 0 rfl ?_
  refine ax_iload_n B dJ15_copyOf_1 rfl hl 1 rfl ?_
  refine ax_aload_n B dJ15_copyOf_2 rfl hl 0 rfl ?_
  refine ax_getC B q1274 q1833 q2782 q1275 q1307 hl.size (by decide) (by simp only [List.map_cons, List.map_nil, List.sum_cons, List.sum_nil, va_rf_cat, ax_catI, ax_catL]; decide) dJ15_copyOf_3 e (fun v1 e => ?_)
  refine ax_isR (y := yJ15_copyOf_2) (n := 3) (As := [va_rf x0, .int (Int32.ofInt x1), va_rf v1]) B (lw_S q1308 q1309 q166 q1310) (by decide +kernel) ⟨Nat.le_of_ble_eq_true rfl, Nat.le_of_ble_eq_true rfl⟩ (fun w1 e1 => mt_J15_copyOf_2 l G hSF x0 x1 v1 _ w1 e1) rfl hl.size (by decide) dJ15_copyOf_6 e (fun q2 e => ?_)
  have e8 := e
  have hp : Q = _ := hp
  subst hp
  exact ax_areturn B Z (Or.inr ⟨_, rfl⟩) dJ15_copyOf_9 e8
theorem mt_J15_copyOf (l : Launch) (G : ax_G) (hSF : ax_SF G) (x0 : Option Nat) (x1 : Int) (h : ax_H) (w : Option Nat × ax_H) (e : f_J15_copyOf G.2.2 x0 x1 h = some w) : ax_Met l G yJ15_copyOf cJ15_copyOf 2 ((some (FieldType.array (FieldType.object "java/lang/Object")))) 3 84 [va_rf x0, .int (Int32.ofInt x1)] h w.2 (some (va_rf w.1)) :=
  ax_enter [.inr (.inr x0), .inl x1] (y := yJ15_copyOf) hSF (plainFor_of_name (by decide +kernel)) (Nat.le_of_ble_eq_true rfl) (fun X ls B Z hn hl => we_J15_copyOf hSF B Z hn x0 x1 hl e rfl)
def dkwJ2_grow_2_2 : List UInt8 := [27, 184, 0, 79, 189, 0, 7, 90, 181, 0, 9, 176]
abbrev dktJ2_grow_2_2 : List UInt8 := dkwJ2_grow_2_2 ++ []
def dkwJ2_grow_2_1 : List UInt8 := [28, 4, 122, 184, 0, 73, 62, 42, 42, 180, 0, 9, 29, 184, 0, 66, 90, 181, 0, 9, 176, 42, 16, 10]
abbrev dktJ2_grow_2_1 : List UInt8 := dkwJ2_grow_2_1 ++ dktJ2_grow_2_2
def dkwJ2_grow_2_0 : List UInt8 := [42, 180, 0, 9, 190, 61, 28, 157, 0, 13, 42, 180, 0, 9, 178, 0, 39, 165, 0, 28, 28, 27, 28, 100]
abbrev dktJ2_grow_2_0 : List UInt8 := dkwJ2_grow_2_0 ++ dktJ2_grow_2_1
theorem dksJ2_grow_2_0 : cJ2_grow_2.data.toList.drop 0 = dktJ2_grow_2_0 := by decide +kernel
theorem dksJ2_grow_2_1 : cJ2_grow_2.data.toList.drop 24 = dktJ2_grow_2_1 := dk_seg dksJ2_grow_2_0 24 rfl rfl
theorem dksJ2_grow_2_2 : cJ2_grow_2.data.toList.drop 48 = dktJ2_grow_2_2 := dk_seg dksJ2_grow_2_1 24 rfl rfl
theorem dJ2_grow_2_0 : decode cJ2_grow_2 0 = .ok (.aload_n 0, 1) := dk_42 (dk_at dksJ2_grow_2_0 0 rfl rfl)
theorem dJ2_grow_2_1 : decode cJ2_grow_2 1 = .ok (.getfield 9, 3) := dk_180 0 9 (dk_at dksJ2_grow_2_0 1 rfl rfl)
theorem dJ2_grow_2_4 : decode cJ2_grow_2 4 = .ok (.arraylength, 1) := dk_190 (dk_at dksJ2_grow_2_0 4 rfl rfl)
theorem dJ2_grow_2_5 : decode cJ2_grow_2 5 = .ok (.istore_n 2, 1) := dk_61 (dk_at dksJ2_grow_2_0 5 rfl rfl)
theorem dJ2_grow_2_6 : decode cJ2_grow_2 6 = .ok (.iload_n 2, 1) := dk_28 (dk_at dksJ2_grow_2_0 6 rfl rfl)
theorem dJ2_grow_2_7 : decode cJ2_grow_2 7 = .ok (.ifCond .gt 13, 3) := dk_157 0 13 (dk_at dksJ2_grow_2_0 7 rfl rfl)
theorem dJ2_grow_2_10 : decode cJ2_grow_2 10 = .ok (.aload_n 0, 1) := dk_42 (dk_at dksJ2_grow_2_0 10 rfl rfl)
theorem dJ2_grow_2_11 : decode cJ2_grow_2 11 = .ok (.getfield 9, 3) := dk_180 0 9 (dk_at dksJ2_grow_2_0 11 rfl rfl)
theorem dJ2_grow_2_14 : decode cJ2_grow_2 14 = .ok (.getstatic 39, 3) := dk_178 0 39 (dk_at dksJ2_grow_2_0 14 rfl rfl)
theorem dJ2_grow_2_17 : decode cJ2_grow_2 17 = .ok (.if_acmp .eq 28, 3) := dk_165 0 28 (dk_at dksJ2_grow_2_0 17 rfl rfl)
theorem dJ2_grow_2_20 : decode cJ2_grow_2 20 = .ok (.iload_n 2, 1) := dk_28 (dk_at dksJ2_grow_2_0 20 rfl rfl)
theorem dJ2_grow_2_21 : decode cJ2_grow_2 21 = .ok (.iload_n 1, 1) := dk_27 (dk_at dksJ2_grow_2_0 21 rfl rfl)
theorem dJ2_grow_2_22 : decode cJ2_grow_2 22 = .ok (.iload_n 2, 1) := dk_28 (dk_at dksJ2_grow_2_0 22 rfl rfl)
theorem dJ2_grow_2_23 : decode cJ2_grow_2 23 = .ok (.isub, 1) := dk_100 (dk_at dksJ2_grow_2_0 23 rfl rfl)
theorem dJ2_grow_2_24 : decode cJ2_grow_2 24 = .ok (.iload_n 2, 1) := dk_28 (dk_at dksJ2_grow_2_1 0 rfl rfl)
theorem dJ2_grow_2_25 : decode cJ2_grow_2 25 = .ok (.iconst 1, 1) := dk_4 (dk_at dksJ2_grow_2_1 1 rfl rfl)
theorem dJ2_grow_2_26 : decode cJ2_grow_2 26 = .ok (.ishr, 1) := dk_122 (dk_at dksJ2_grow_2_1 2 rfl rfl)
theorem dJ2_grow_2_27 : decode cJ2_grow_2 27 = .ok (.invokestatic 73, 3) := dk_184 0 73 (dk_at dksJ2_grow_2_1 3 rfl rfl)
theorem dJ2_grow_2_30 : decode cJ2_grow_2 30 = .ok (.istore_n 3, 1) := dk_62 (dk_at dksJ2_grow_2_1 6 rfl rfl)
theorem dJ2_grow_2_31 : decode cJ2_grow_2 31 = .ok (.aload_n 0, 1) := dk_42 (dk_at dksJ2_grow_2_1 7 rfl rfl)
theorem dJ2_grow_2_32 : decode cJ2_grow_2 32 = .ok (.aload_n 0, 1) := dk_42 (dk_at dksJ2_grow_2_1 8 rfl rfl)
theorem dJ2_grow_2_33 : decode cJ2_grow_2 33 = .ok (.getfield 9, 3) := dk_180 0 9 (dk_at dksJ2_grow_2_1 9 rfl rfl)
theorem dJ2_grow_2_36 : decode cJ2_grow_2 36 = .ok (.iload_n 3, 1) := dk_29 (dk_at dksJ2_grow_2_1 12 rfl rfl)
theorem dJ2_grow_2_37 : decode cJ2_grow_2 37 = .ok (.invokestatic 66, 3) := dk_184 0 66 (dk_at dksJ2_grow_2_1 13 rfl rfl)
theorem dJ2_grow_2_40 : decode cJ2_grow_2 40 = .ok (.dup_x1, 1) := dk_90 (dk_at dksJ2_grow_2_1 16 rfl rfl)
theorem dJ2_grow_2_41 : decode cJ2_grow_2 41 = .ok (.putfield 9, 3) := dk_181 0 9 (dk_at dksJ2_grow_2_1 17 rfl rfl)
theorem dJ2_grow_2_44 : decode cJ2_grow_2 44 = .ok (.areturn, 1) := dk_176 (dk_at dksJ2_grow_2_1 20 rfl rfl)
theorem dJ2_grow_2_45 : decode cJ2_grow_2 45 = .ok (.aload_n 0, 1) := dk_42 (dk_at dksJ2_grow_2_1 21 rfl rfl)
theorem dJ2_grow_2_46 : decode cJ2_grow_2 46 = .ok (.bipush 10, 2) := dk_16 10 (dk_at dksJ2_grow_2_1 22 rfl rfl)
theorem dJ2_grow_2_48 : decode cJ2_grow_2 48 = .ok (.iload_n 1, 1) := dk_27 (dk_at dksJ2_grow_2_2 0 rfl rfl)
theorem dJ2_grow_2_49 : decode cJ2_grow_2 49 = .ok (.invokestatic 79, 3) := dk_184 0 79 (dk_at dksJ2_grow_2_2 1 rfl rfl)
theorem dJ2_grow_2_52 : decode cJ2_grow_2 52 = .ok (.anewarray 7, 3) := dk_189 0 7 (dk_at dksJ2_grow_2_2 4 rfl rfl)
theorem dJ2_grow_2_55 : decode cJ2_grow_2 55 = .ok (.dup_x1, 1) := dk_90 (dk_at dksJ2_grow_2_2 7 rfl rfl)
theorem dJ2_grow_2_56 : decode cJ2_grow_2 56 = .ok (.putfield 9, 3) := dk_181 0 9 (dk_at dksJ2_grow_2_2 8 rfl rfl)
theorem dJ2_grow_2_59 : decode cJ2_grow_2 59 = .ok (.areturn, 1) := dk_176 (dk_at dksJ2_grow_2_2 11 rfl rfl)
noncomputable def f_J2_grow_2_20 (E : ax_E) (x0 : Option Nat) (x1 : Int) (x2 : Int) (h : ax_H) : Option (Option Nat × ax_H) :=
  (f_J14_newLength E x2 (x1 - x2) (ax_shr x2 1) h).bind fun q1 =>
  (ax_gR E q1.2 x0 42 1).bind fun v2 =>
  (f_J15_copyOf E v2 q1.1 q1.2).bind fun q3 =>
  (ax_pR q3.2 x0 42 1 q3.1).bind fun h4 =>
  some (q3.1, h4)
noncomputable def f_J2_grow_2 (E : ax_E) (x0 : Option Nat) (x1 : Int) (h : ax_H) : Option (Option Nat × ax_H) :=
  (ax_gR E h x0 42 1).bind fun v1 =>
  (ax_len E h v1 104).bind fun v2 =>
  if 0 < i2 v2 then
    f_J2_grow_2_20 E x0 x1 v2 h
  else
    (ax_gR E h x0 42 1).bind fun v3 =>
    (ax_cst E 0).bind fun v4 =>
    if v3 = v4 then
      (f_J3_max_2 E 10 x1 h).bind fun q5 =>
      (ax_na E q5.2 104 q5.1).bind fun q6 =>
      (ax_pR q6.2 x0 42 1 (some q6.1)).bind fun h7 =>
      some ((some q6.1), h7)
    else
      f_J2_grow_2_20 E x0 x1 v2 h
set_option maxHeartbeats 4000000 in
theorem w_J2_grow_2_20 {l : Launch} {G : ax_G} {X : ax_X} {Q : State → Prop} {h0 h : ax_H} {ls : Array Slot} (hSF : ax_SF G) (B : ax_BL l G X cJ2_grow_2 4 RJ2 4 105) (Z : ax_Z X h0 ((some (FieldType.array (FieldType.object "java/lang/Object"))))) (hn : X.2.2.2.2.2.2.2.2.1.name = yJ2_grow_2.name) (x0 : Option Nat) (x1 : Int) (x2 : Int) {w : Option Nat × ax_H} (hl : ax_hl ls 4 [(0, .inr (.inr x0)), (1, .inl x1), (2, .inl x2)]) (e : f_J2_grow_2_20 G.2.2 x0 x1 x2 h = some w) (hp : (fun w : Option Nat × ax_H => Q = ax_Q G X h0 w.2 (some (va_rf w.1))) w) : ax_W G X Q h 20 ls [] := by
  unfold f_J2_grow_2_20 at e
  refine ax_iload_n B dJ2_grow_2_20 rfl hl 2 rfl ?_
  refine ax_iload_n B dJ2_grow_2_21 rfl hl 1 rfl ?_
  refine ax_iload_n B dJ2_grow_2_22 rfl hl 2 rfl ?_
  refine ax_isub' B dJ2_grow_2_23 ?_
  refine ax_iload_n B dJ2_grow_2_24 rfl hl 2 rfl ?_
  refine ax_iconst B dJ2_grow_2_25 ?_
  refine ax_ishr' B dJ2_grow_2_26 ?_
  refine ax_isI (y := yJ14_newLength) (n := 3) (As := [.int (Int32.ofInt x2), .int (Int32.ofInt (x1 - x2)), .int (Int32.ofInt (ax_shr x2 1))]) B (lw_S q1261 q1262 q165 q1263) (by decide +kernel) ⟨Nat.le_of_ble_eq_true rfl, Nat.le_of_ble_eq_true rfl⟩ (fun w1 e1 => mt_J14_newLength l G hSF x2 (x1 - x2) (ax_shr x2 1) _ w1 e1) rfl hl.size (by decide) dJ2_grow_2_27 e (fun q1 e => ?_)
  refine ax_istore_n (L' := [(3, .inl q1.1), (0, .inr (.inr x0)), (1, .inl x1), (2, .inl x2)]) B dJ2_grow_2_30 rfl hl (by decide) rfl (fun ls hl => ?_)
  refine ax_aload_n B dJ2_grow_2_31 rfl hl 1 rfl ?_
  refine ax_aload_n B dJ2_grow_2_32 rfl hl 1 rfl ?_
  refine ax_getR B ff_J2_9_42 (fun _ _ => rfl) dJ2_grow_2_33 e (fun v2 e => ?_)
  refine ax_iload_n B dJ2_grow_2_36 rfl hl 0 rfl ?_
  refine ax_isR (y := yJ15_copyOf) (n := 2) (As := [va_rf v2, .int (Int32.ofInt q1.1)]) B (lw_S q1271 q1272 q166 q1273) (by decide +kernel) ⟨Nat.le_of_ble_eq_true rfl, Nat.le_of_ble_eq_true rfl⟩ (fun w1 e1 => mt_J15_copyOf l G hSF v2 q1.1 _ w1 e1) rfl hl.size (by simp only [List.map_cons, List.map_nil, List.sum_cons, List.sum_nil, va_rf_cat, ax_catI, ax_catL]; decide) dJ2_grow_2_37 e (fun q3 e => ?_)
  refine ax_dup_x1 B dJ2_grow_2_40 (va_rf_cat _) (va_rf_cat _) ?_
  refine ax_putR B ff_J2_9_42 (Or.inl rfl) rfl dJ2_grow_2_41 e (fun h4 e => ?_)
  have e8 := e
  have hp : Q = _ := hp
  subst hp
  exact ax_areturn B Z (Or.inr ⟨_, rfl⟩) dJ2_grow_2_44 e8
set_option maxHeartbeats 4000000 in
theorem we_J2_grow_2 {l : Launch} {G : ax_G} {X : ax_X} {Q : State → Prop} {h0 h : ax_H} {ls : Array Slot} (hSF : ax_SF G) (B : ax_BL l G X cJ2_grow_2 4 RJ2 4 105) (Z : ax_Z X h0 ((some (FieldType.array (FieldType.object "java/lang/Object"))))) (hn : X.2.2.2.2.2.2.2.2.1.name = yJ2_grow_2.name) (x0 : Option Nat) (x1 : Int) {w : Option Nat × ax_H} (hl : ax_hl ls 4 [(0, .inr (.inr x0)), (1, .inl x1)]) (e : f_J2_grow_2 G.2.2 x0 x1 h = some w) (hp : (fun w : Option Nat × ax_H => Q = ax_Q G X h0 w.2 (some (va_rf w.1))) w) : ax_W G X Q h 0 ls [] := by
  unfold f_J2_grow_2 at e
  refine ax_aload_n B dJ2_grow_2_0 rfl hl 0 rfl ?_
  refine ax_getR B ff_J2_9_42 (fun _ _ => rfl) dJ2_grow_2_1 e (fun v1 e => ?_)
  refine ax_alen B kd104 dJ2_grow_2_4 e (fun v2 e => ?_)
  refine ax_istore_n (L' := [(2, .inl v2), (0, .inr (.inr x0)), (1, .inl x1)]) B dJ2_grow_2_5 rfl hl (by decide) rfl (fun ls hl => ?_)
  refine ax_iload_n B dJ2_grow_2_6 rfl hl 0 rfl ?_
  refine ax_if_gt (tgt := 20) B dJ2_grow_2_7 (by decide) e (fun e => ?_) (fun e => ?_)
  · exact w_J2_grow_2_20 hSF B Z hn x0 x1 v2 (hl.sub [1, 2, 0] rfl) e hp
  · refine ax_aload_n B dJ2_grow_2_10 rfl hl 1 rfl ?_
    refine ax_getR B ff_J2_9_42 (fun _ _ => rfl) dJ2_grow_2_11 e (fun v3 e => ?_)
    refine ax_gst B (ax_sx B).1.1 q203 (Or.inl rfl) dJ2_grow_2_14 e (fun v4 e => ?_)
    refine ax_acmp_eq (tgt := 45) B dJ2_grow_2_17 (by decide) e (fun e => ?_) (fun e => ?_)
    · refine ax_aload_n B dJ2_grow_2_45 rfl hl 1 rfl ?_
      refine ax_bipush B dJ2_grow_2_46 (by decide) ?_
      refine ax_iload_n B dJ2_grow_2_48 rfl hl 2 rfl ?_
      refine ax_isI (y := yJ3_max_2) (n := 2) (As := [.int (Int32.ofInt 10), .int (Int32.ofInt x1)]) B (lw_S q1316 q1265 q134 q1266) (by decide +kernel) ⟨Nat.le_of_ble_eq_true rfl, Nat.le_of_ble_eq_true rfl⟩ (fun w1 e1 => mt_J3_max_2 l G hSF 10 x1 _ w1 e1) rfl hl.size (by simp only [List.map_cons, List.map_nil, List.sum_cons, List.sum_nil, va_rf_cat, ax_catI, ax_catL]; decide) dJ2_grow_2_49 e (fun q5 e => ?_)
      refine ax_anew B kd104 q1317 q1312 dJ2_grow_2_52 e (fun q6 e => ?_)
      refine ax_dup_x1 B dJ2_grow_2_55 (va_rf_cat _) (va_rf_cat _) ?_
      refine ax_putR B ff_J2_9_42 (Or.inl rfl) rfl dJ2_grow_2_56 e (fun h7 e => ?_)
      have e8 := e
      have hp : Q = _ := hp
      subst hp
      exact ax_areturn B Z (Or.inr ⟨_, rfl⟩) dJ2_grow_2_59 e8
    · exact w_J2_grow_2_20 hSF B Z hn x0 x1 v2 (hl.sub [1, 2, 0] rfl) e hp
theorem mt_J2_grow_2 (l : Launch) (G : ax_G) (hSF : ax_SF G) (x0 : Option Nat) (x1 : Int) (h : ax_H) (w : Option Nat × ax_H) (e : f_J2_grow_2 G.2.2 x0 x1 h = some w) : ax_Met l G yJ2_grow_2 cJ2_grow_2 4 ((some (FieldType.array (FieldType.object "java/lang/Object")))) 4 105 [va_rf x0, .int (Int32.ofInt x1)] h w.2 (some (va_rf w.1)) :=
  ax_enter [.inr (.inr x0), .inl x1] (y := yJ2_grow_2) hSF (plainFor_of_name (by decide +kernel)) (Nat.le_of_ble_eq_true rfl) (fun X ls B Z hn hl => we_J2_grow_2 hSF B Z hn x0 x1 hl e rfl)
def dkwJ2_grow_0 : List UInt8 := [42, 42, 180, 0, 48, 4, 96, 182, 0, 69, 176]
abbrev dktJ2_grow_0 : List UInt8 := dkwJ2_grow_0 ++ []
theorem dksJ2_grow_0 : cJ2_grow.data.toList.drop 0 = dktJ2_grow_0 := by decide +kernel
theorem dJ2_grow_0 : decode cJ2_grow 0 = .ok (.aload_n 0, 1) := dk_42 (dk_at dksJ2_grow_0 0 rfl rfl)
theorem dJ2_grow_1 : decode cJ2_grow 1 = .ok (.aload_n 0, 1) := dk_42 (dk_at dksJ2_grow_0 1 rfl rfl)
theorem dJ2_grow_2 : decode cJ2_grow 2 = .ok (.getfield 48, 3) := dk_180 0 48 (dk_at dksJ2_grow_0 2 rfl rfl)
theorem dJ2_grow_5 : decode cJ2_grow 5 = .ok (.iconst 1, 1) := dk_4 (dk_at dksJ2_grow_0 5 rfl rfl)
theorem dJ2_grow_6 : decode cJ2_grow 6 = .ok (.iadd, 1) := dk_96 (dk_at dksJ2_grow_0 6 rfl rfl)
theorem dJ2_grow_7 : decode cJ2_grow 7 = .ok (.invokevirtual 69, 3) := dk_182 0 69 (dk_at dksJ2_grow_0 7 rfl rfl)
theorem dJ2_grow_10 : decode cJ2_grow 10 = .ok (.areturn, 1) := dk_176 (dk_at dksJ2_grow_0 10 rfl rfl)
noncomputable def f_J2_grow (E : ax_E) (x0 : Option Nat) (h : ax_H) : Option (Option Nat × ax_H) :=
  (ax_gI E h x0 42 2).bind fun v1 =>
  (ax_ce E h x0 42).bind fun _ => (f_J2_grow_2 E x0 (v1 + 1) h).bind fun q2 =>
  some (q2.1, q2.2)
set_option maxHeartbeats 4000000 in
theorem we_J2_grow {l : Launch} {G : ax_G} {X : ax_X} {Q : State → Prop} {h0 h : ax_H} {ls : Array Slot} (hSF : ax_SF G) (B : ax_BL l G X cJ2_grow 1 RJ2 5 128) (Z : ax_Z X h0 ((some (FieldType.array (FieldType.object "java/lang/Object"))))) (hn : X.2.2.2.2.2.2.2.2.1.name = yJ2_grow.name) (x0 : Option Nat) {w : Option Nat × ax_H} (hl : ax_hl ls 1 [(0, .inr (.inr x0))]) (e : f_J2_grow G.2.2 x0 h = some w) (hp : (fun w : Option Nat × ax_H => Q = ax_Q G X h0 w.2 (some (va_rf w.1))) w) : ax_W G X Q h 0 ls [] := by
  unfold f_J2_grow at e
  refine ax_aload_n B dJ2_grow_0 rfl hl 0 rfl ?_
  refine ax_aload_n B dJ2_grow_1 rfl hl 0 rfl ?_
  refine ax_getI B ff_J2_48_42 (fun _ _ => rfl) dJ2_grow_2 e (fun v1 e => ?_)
  refine ax_iconst B dJ2_grow_5 ?_
  refine ax_iadd' B dJ2_grow_6 ?_
  refine ax_ivR (y := yJ2_grow_2) (n := 1) (As := [.int (Int32.ofInt (v1 + 1))]) B kd42 (lw_V q1257 q1259 qs21 q129 q1260) (by decide +kernel) ⟨Nat.le_of_ble_eq_true rfl, Nat.le_of_ble_eq_true rfl⟩ (fun w1 e1 => mt_J2_grow_2 l G hSF x0 (v1 + 1) _ w1 e1) rfl hl.size (by decide) dJ2_grow_7 e (fun q2 e => ?_)
  have e8 := e
  have hp : Q = _ := hp
  subst hp
  exact ax_areturn B Z (Or.inr ⟨_, rfl⟩) dJ2_grow_10 e8
theorem mt_J2_grow (l : Launch) (G : ax_G) (hSF : ax_SF G) (x0 : Option Nat) (h : ax_H) (w : Option Nat × ax_H) (e : f_J2_grow G.2.2 x0 h = some w) : ax_Met l G yJ2_grow cJ2_grow 1 ((some (FieldType.array (FieldType.object "java/lang/Object")))) 5 128 [va_rf x0] h w.2 (some (va_rf w.1)) :=
  ax_enter [.inr (.inr x0)] (y := yJ2_grow) hSF (plainFor_of_name (by decide +kernel)) (Nat.le_of_ble_eq_true rfl) (fun X ls B Z hn hl => we_J2_grow hSF B Z hn x0 hl e rfl)
def dkwJ2_add_2_0 : List UInt8 := [29, 44, 190, 160, 0, 8, 42, 182, 0, 129, 77, 44, 29, 43, 83, 42, 29, 4, 96, 181, 0, 48, 177]
abbrev dktJ2_add_2_0 : List UInt8 := dkwJ2_add_2_0 ++ []
theorem dksJ2_add_2_0 : cJ2_add_2.data.toList.drop 0 = dktJ2_add_2_0 := by decide +kernel
theorem dJ2_add_2_0 : decode cJ2_add_2 0 = .ok (.iload_n 3, 1) := dk_29 (dk_at dksJ2_add_2_0 0 rfl rfl)
theorem dJ2_add_2_1 : decode cJ2_add_2 1 = .ok (.aload_n 2, 1) := dk_44 (dk_at dksJ2_add_2_0 1 rfl rfl)
theorem dJ2_add_2_2 : decode cJ2_add_2 2 = .ok (.arraylength, 1) := dk_190 (dk_at dksJ2_add_2_0 2 rfl rfl)
theorem dJ2_add_2_3 : decode cJ2_add_2 3 = .ok (.if_icmp .ne 8, 3) := dk_160 0 8 (dk_at dksJ2_add_2_0 3 rfl rfl)
theorem dJ2_add_2_6 : decode cJ2_add_2 6 = .ok (.aload_n 0, 1) := dk_42 (dk_at dksJ2_add_2_0 6 rfl rfl)
theorem dJ2_add_2_7 : decode cJ2_add_2 7 = .ok (.invokevirtual 129, 3) := dk_182 0 129 (dk_at dksJ2_add_2_0 7 rfl rfl)
theorem dJ2_add_2_10 : decode cJ2_add_2 10 = .ok (.astore_n 2, 1) := dk_77 (dk_at dksJ2_add_2_0 10 rfl rfl)
theorem dJ2_add_2_11 : decode cJ2_add_2 11 = .ok (.aload_n 2, 1) := dk_44 (dk_at dksJ2_add_2_0 11 rfl rfl)
theorem dJ2_add_2_12 : decode cJ2_add_2 12 = .ok (.iload_n 3, 1) := dk_29 (dk_at dksJ2_add_2_0 12 rfl rfl)
theorem dJ2_add_2_13 : decode cJ2_add_2 13 = .ok (.aload_n 1, 1) := dk_43 (dk_at dksJ2_add_2_0 13 rfl rfl)
theorem dJ2_add_2_14 : decode cJ2_add_2 14 = .ok (.aastore, 1) := dk_83 (dk_at dksJ2_add_2_0 14 rfl rfl)
theorem dJ2_add_2_15 : decode cJ2_add_2 15 = .ok (.aload_n 0, 1) := dk_42 (dk_at dksJ2_add_2_0 15 rfl rfl)
theorem dJ2_add_2_16 : decode cJ2_add_2 16 = .ok (.iload_n 3, 1) := dk_29 (dk_at dksJ2_add_2_0 16 rfl rfl)
theorem dJ2_add_2_17 : decode cJ2_add_2 17 = .ok (.iconst 1, 1) := dk_4 (dk_at dksJ2_add_2_0 17 rfl rfl)
theorem dJ2_add_2_18 : decode cJ2_add_2 18 = .ok (.iadd, 1) := dk_96 (dk_at dksJ2_add_2_0 18 rfl rfl)
theorem dJ2_add_2_19 : decode cJ2_add_2 19 = .ok (.putfield 48, 3) := dk_181 0 48 (dk_at dksJ2_add_2_0 19 rfl rfl)
theorem dJ2_add_2_22 : decode cJ2_add_2 22 = .ok (.return_, 1) := dk_177 (dk_at dksJ2_add_2_0 22 rfl rfl)
noncomputable def f_J2_add_2_11 (E : ax_E) (x0 : Option Nat) (x1 : Option Nat) (x2 : Option Nat) (x3 : Int) (h : ax_H) : Option (ax_H) :=
  (ax_stR E oj_104 h x2 104 x3 x1).bind fun h1 =>
  (ax_pI h1 x0 42 2 (x3 + 1)).bind fun h2 =>
  some h2
noncomputable def f_J2_add_2 (E : ax_E) (x0 : Option Nat) (x1 : Option Nat) (x2 : Option Nat) (x3 : Int) (h : ax_H) : Option (ax_H) :=
  (ax_len E h x2 104).bind fun v1 =>
  if i2 x3 = i2 v1 then
    (ax_ce E h x0 42).bind fun _ => (f_J2_grow E x0 h).bind fun q2 =>
    f_J2_add_2_11 E x0 x1 q2.1 x3 q2.2
  else
    f_J2_add_2_11 E x0 x1 x2 x3 h
set_option maxHeartbeats 4000000 in
theorem w_J2_add_2_11 {l : Launch} {G : ax_G} {X : ax_X} {Q : State → Prop} {h0 h : ax_H} {ls : Array Slot} (hSF : ax_SF G) (B : ax_BL l G X cJ2_add_2 4 RJ2 6 148) (Z : ax_Z X h0 none) (hn : X.2.2.2.2.2.2.2.2.1.name = yJ2_add_2.name) (x0 : Option Nat) (x1 : Option Nat) (x2 : Option Nat) (x3 : Int) {w : ax_H} (hl : ax_hl ls 4 [(0, .inr (.inr x0)), (1, .inr (.inr x1)), (2, .inr (.inr x2)), (3, .inl x3)]) (e : f_J2_add_2_11 G.2.2 x0 x1 x2 x3 h = some w) (hp : (fun w : ax_H => Q = ax_Q G X h0 w none) w) : ax_W G X Q h 11 ls [] := by
  unfold f_J2_add_2_11 at e
  refine ax_aload_n B dJ2_add_2_11 rfl hl 2 rfl ?_
  refine ax_iload_n B dJ2_add_2_12 rfl hl 3 rfl ?_
  refine ax_aload_n B dJ2_add_2_13 rfl hl 1 rfl ?_
  refine ax_aast B kd104 (ok_104 B) dJ2_add_2_14 e (fun h1 e => ?_)
  refine ax_aload_n B dJ2_add_2_15 rfl hl 0 rfl ?_
  refine ax_iload_n B dJ2_add_2_16 rfl hl 3 rfl ?_
  refine ax_iconst B dJ2_add_2_17 ?_
  refine ax_iadd' B dJ2_add_2_18 ?_
  refine ax_putI B ff_J2_48_42 (Or.inl rfl) rfl dJ2_add_2_19 e (fun h2 e => ?_)
  have e8 := e
  have hp : Q = _ := hp
  subst hp
  exact ax_return B Z dJ2_add_2_22 e8
set_option maxHeartbeats 4000000 in
theorem we_J2_add_2 {l : Launch} {G : ax_G} {X : ax_X} {Q : State → Prop} {h0 h : ax_H} {ls : Array Slot} (hSF : ax_SF G) (B : ax_BL l G X cJ2_add_2 4 RJ2 6 148) (Z : ax_Z X h0 none) (hn : X.2.2.2.2.2.2.2.2.1.name = yJ2_add_2.name) (x0 : Option Nat) (x1 : Option Nat) (x2 : Option Nat) (x3 : Int) {w : ax_H} (hl : ax_hl ls 4 [(0, .inr (.inr x0)), (1, .inr (.inr x1)), (2, .inr (.inr x2)), (3, .inl x3)]) (e : f_J2_add_2 G.2.2 x0 x1 x2 x3 h = some w) (hp : (fun w : ax_H => Q = ax_Q G X h0 w none) w) : ax_W G X Q h 0 ls [] := by
  unfold f_J2_add_2 at e
  refine ax_iload_n B dJ2_add_2_0 rfl hl 3 rfl ?_
  refine ax_aload_n B dJ2_add_2_1 rfl hl 2 rfl ?_
  refine ax_alen B kd104 dJ2_add_2_2 e (fun v1 e => ?_)
  refine ax_icmp_ne (tgt := 11) B dJ2_add_2_3 (by decide) e (fun e => ?_) (fun e => ?_)
  · refine ax_aload_n B dJ2_add_2_6 rfl hl 0 rfl ?_
    refine ax_ivR (y := yJ2_grow) (n := 0) (As := []) B kd42 (lw_V q1253 q1255 qs20 q129 q1256) (by decide +kernel) ⟨Nat.le_of_ble_eq_true rfl, Nat.le_of_ble_eq_true rfl⟩ (fun w1 e1 => mt_J2_grow l G hSF x0 _ w1 e1) rfl hl.size (by decide) dJ2_add_2_7 e (fun q2 e => ?_)
    refine ax_astore_n (L' := [(2, .inr (.inr q2.1)), (0, .inr (.inr x0)), (1, .inr (.inr x1)), (3, .inl x3)]) B dJ2_add_2_10 rfl hl (by decide) rfl (fun ls hl => ?_)
    exact w_J2_add_2_11 hSF B Z hn x0 x1 q2.1 x3 (hl.sub [1, 2, 0, 3] rfl) e hp
  · exact w_J2_add_2_11 hSF B Z hn x0 x1 x2 x3 (hl.sub [0, 1, 2, 3] rfl) e hp
theorem mt_J2_add_2 (l : Launch) (G : ax_G) (hSF : ax_SF G) (x0 : Option Nat) (x1 : Option Nat) (x2 : Option Nat) (x3 : Int) (h : ax_H) (w : ax_H) (e : f_J2_add_2 G.2.2 x0 x1 x2 x3 h = some w) : ax_Met l G yJ2_add_2 cJ2_add_2 4 none 6 148 [va_rf x0, va_rf x1, va_rf x2, .int (Int32.ofInt x3)] h w none :=
  ax_enter [.inr (.inr x0), .inr (.inr x1), .inr (.inr x2), .inl x3] (y := yJ2_add_2) hSF (plainFor_of_name (by decide +kernel)) (Nat.le_of_ble_eq_true rfl) (fun X ls B Z hn hl => we_J2_add_2 hSF B Z hn x0 x1 x2 x3 hl e rfl)
def dkwJ2_add_1 : List UInt8 := [172]
abbrev dktJ2_add_1 : List UInt8 := dkwJ2_add_1 ++ []
def dkwJ2_add_0 : List UInt8 := [42, 89, 180, 0, 63, 4, 96, 181, 0, 63, 42, 43, 42, 180, 0, 9, 42, 180, 0, 48, 182, 0, 131, 4]
abbrev dktJ2_add_0 : List UInt8 := dkwJ2_add_0 ++ dktJ2_add_1
theorem dksJ2_add_0 : cJ2_add.data.toList.drop 0 = dktJ2_add_0 := by decide +kernel
theorem dksJ2_add_1 : cJ2_add.data.toList.drop 24 = dktJ2_add_1 := dk_seg dksJ2_add_0 24 rfl rfl
theorem dJ2_add_0 : decode cJ2_add 0 = .ok (.aload_n 0, 1) := dk_42 (dk_at dksJ2_add_0 0 rfl rfl)
theorem dJ2_add_1 : decode cJ2_add 1 = .ok (.dup, 1) := dk_89 (dk_at dksJ2_add_0 1 rfl rfl)
theorem dJ2_add_2 : decode cJ2_add 2 = .ok (.getfield 63, 3) := dk_180 0 63 (dk_at dksJ2_add_0 2 rfl rfl)
theorem dJ2_add_5 : decode cJ2_add 5 = .ok (.iconst 1, 1) := dk_4 (dk_at dksJ2_add_0 5 rfl rfl)
theorem dJ2_add_6 : decode cJ2_add 6 = .ok (.iadd, 1) := dk_96 (dk_at dksJ2_add_0 6 rfl rfl)
theorem dJ2_add_7 : decode cJ2_add 7 = .ok (.putfield 63, 3) := dk_181 0 63 (dk_at dksJ2_add_0 7 rfl rfl)
theorem dJ2_add_10 : decode cJ2_add 10 = .ok (.aload_n 0, 1) := dk_42 (dk_at dksJ2_add_0 10 rfl rfl)
theorem dJ2_add_11 : decode cJ2_add 11 = .ok (.aload_n 1, 1) := dk_43 (dk_at dksJ2_add_0 11 rfl rfl)
theorem dJ2_add_12 : decode cJ2_add 12 = .ok (.aload_n 0, 1) := dk_42 (dk_at dksJ2_add_0 12 rfl rfl)
theorem dJ2_add_13 : decode cJ2_add 13 = .ok (.getfield 9, 3) := dk_180 0 9 (dk_at dksJ2_add_0 13 rfl rfl)
theorem dJ2_add_16 : decode cJ2_add 16 = .ok (.aload_n 0, 1) := dk_42 (dk_at dksJ2_add_0 16 rfl rfl)
theorem dJ2_add_17 : decode cJ2_add 17 = .ok (.getfield 48, 3) := dk_180 0 48 (dk_at dksJ2_add_0 17 rfl rfl)
theorem dJ2_add_20 : decode cJ2_add 20 = .ok (.invokevirtual 131, 3) := dk_182 0 131 (dk_at dksJ2_add_0 20 rfl rfl)
theorem dJ2_add_23 : decode cJ2_add 23 = .ok (.iconst 1, 1) := dk_4 (dk_at dksJ2_add_0 23 rfl rfl)
theorem dJ2_add_24 : decode cJ2_add 24 = .ok (.ireturn, 1) := dk_172 (dk_at dksJ2_add_1 0 rfl rfl)
noncomputable def f_J2_add (E : ax_E) (x0 : Option Nat) (x1 : Option Nat) (h : ax_H) : Option (Int × ax_H) :=
  (ax_gI E h x0 42 0).bind fun v1 =>
  (ax_pI h x0 42 0 (v1 + 1)).bind fun h2 =>
  (ax_gR E h2 x0 42 1).bind fun v3 =>
  (ax_gI E h2 x0 42 2).bind fun v4 =>
  (ax_ce E h2 x0 42).bind fun _ => (f_J2_add_2 E x0 x1 v3 v4 h2).bind fun h5 =>
  some (1, h5)
set_option maxHeartbeats 4000000 in
theorem we_J2_add {l : Launch} {G : ax_G} {X : ax_X} {Q : State → Prop} {h0 h : ax_H} {ls : Array Slot} (hSF : ax_SF G) (B : ax_BL l G X cJ2_add 2 RJ2 7 171) (Z : ax_Z X h0 ((some FieldType.boolean))) (hn : X.2.2.2.2.2.2.2.2.1.name = yJ2_add.name) (x0 : Option Nat) (x1 : Option Nat) {w : Int × ax_H} (hl : ax_hl ls 2 [(0, .inr (.inr x0)), (1, .inr (.inr x1))]) (e : f_J2_add G.2.2 x0 x1 h = some w) (hp : (fun w : Int × ax_H => Q = ax_Q G X h0 w.2 (some (.int (Int32.ofInt w.1)))) w) : ax_W G X Q h 0 ls [] := by
  unfold f_J2_add at e
  refine ax_aload_n B dJ2_add_0 rfl hl 0 rfl ?_
  refine ax_dup B dJ2_add_1 (va_rf_cat _) ?_
  refine ax_getI B ff_J2_63_42 (fun _ _ => rfl) dJ2_add_2 e (fun v1 e => ?_)
  refine ax_iconst B dJ2_add_5 ?_
  refine ax_iadd' B dJ2_add_6 ?_
  refine ax_putI B ff_J2_63_42 (Or.inl rfl) rfl dJ2_add_7 e (fun h2 e => ?_)
  refine ax_aload_n B dJ2_add_10 rfl hl 0 rfl ?_
  refine ax_aload_n B dJ2_add_11 rfl hl 1 rfl ?_
  refine ax_aload_n B dJ2_add_12 rfl hl 0 rfl ?_
  refine ax_getR B ff_J2_9_42 (fun _ _ => rfl) dJ2_add_13 e (fun v3 e => ?_)
  refine ax_aload_n B dJ2_add_16 rfl hl 0 rfl ?_
  refine ax_getI B ff_J2_48_42 (fun _ _ => rfl) dJ2_add_17 e (fun v4 e => ?_)
  refine ax_ivV (y := yJ2_add_2) (n := 3) (As := [va_rf x1, va_rf v3, .int (Int32.ofInt v4)]) B kd42 (lw_V q1249 q1251 qs19 q129 q1252) (by decide +kernel) ⟨Nat.le_of_ble_eq_true rfl, Nat.le_of_ble_eq_true rfl⟩ (fun w1 e1 => mt_J2_add_2 l G hSF x0 x1 v3 v4 _ w1 e1) rfl hl.size (by decide) dJ2_add_20 e (fun h5 e => ?_)
  refine ax_iconst B dJ2_add_23 ?_
  have e8 := e
  have hp : Q = _ := hp
  subst hp
  exact ax_zreturnL (by decide) B Z dJ2_add_24 e8
theorem mt_J2_add (l : Launch) (G : ax_G) (hSF : ax_SF G) (x0 : Option Nat) (x1 : Option Nat) (h : ax_H) (w : Int × ax_H) (e : f_J2_add G.2.2 x0 x1 h = some w) : ax_Met l G yJ2_add cJ2_add 2 ((some FieldType.boolean)) 7 171 [va_rf x0, va_rf x1] h w.2 (some (.int (Int32.ofInt w.1))) :=
  ax_enter [.inr (.inr x0), .inr (.inr x1)] (y := yJ2_add) hSF (plainFor_of_name (by decide +kernel)) (Nat.le_of_ble_eq_true rfl) (fun X ls B Z hn hl => we_J2_add hSF B Z hn x0 x1 hl e rfl)
theorem dX0_fault_0 : decode cX0_fault 0 = .ok (.aload_n 0, 1) := by decide +kernel
theorem dX0_fault_1 : decode cX0_fault 1 = .ok (.getfield 60, 3) := by decide +kernel
theorem dX0_fault_4 : decode cX0_fault 4 = .ok (.ireturn, 1) := by decide +kernel
noncomputable def f_X0_fault (E : ax_E) (x0 : Option Nat) (h : ax_H) : Option (Int × ax_H) :=
  (ax_gI E h x0 0 8).bind fun v1 =>
  some (v1, h)
set_option maxHeartbeats 4000000 in
theorem we_X0_fault {l : Launch} {G : ax_G} {X : ax_X} {Q : State → Prop} {h0 h : ax_H} {ls : Array Slot} (hSF : ax_SF G) (B : ax_BL l G X cX0_fault 1 RX0 1 40) (Z : ax_Z X h0 ((some FieldType.int))) (hn : X.2.2.2.2.2.2.2.2.1.name = yX0_fault.name) (x0 : Option Nat) {w : Int × ax_H} (hl : ax_hl ls 1 [(0, .inr (.inr x0))]) (e : f_X0_fault G.2.2 x0 h = some w) (hp : (fun w : Int × ax_H => Q = ax_Q G X h0 w.2 (some (.int (Int32.ofInt w.1)))) w) : ax_W G X Q h 0 ls [] := by
  unfold f_X0_fault at e
  refine ax_aload_n B dX0_fault_0 rfl hl 0 rfl ?_
  refine ax_getI B ff_X0_60_0 (fun _ _ => rfl) dX0_fault_1 e (fun v1 e => ?_)
  have e8 := e
  have hp : Q = _ := hp
  subst hp
  exact ax_ireturn B Z dX0_fault_4 e8
theorem mt_X0_fault (l : Launch) (G : ax_G) (hSF : ax_SF G) (x0 : Option Nat) (h : ax_H) (w : Int × ax_H) (e : f_X0_fault G.2.2 x0 h = some w) : ax_Met l G yX0_fault cX0_fault 1 ((some FieldType.int)) 1 40 [va_rf x0] h w.2 (some (.int (Int32.ofInt w.1))) :=
  ax_enter [.inr (.inr x0)] (y := yX0_fault) hSF (plainFor_of_name (by decide +kernel)) (Nat.le_of_ble_eq_true rfl) (fun X ls B Z hn hl => we_X0_fault hSF B Z hn x0 hl e rfl)
def dkwX0_force_2 : List UInt8 := [181, 0, 239, 42, 3, 181, 0, 88, 28, 172]
abbrev dktX0_force_2 : List UInt8 := dkwX0_force_2 ++ []
def dkwX0_force_1 : List UInt8 := [154, 0, 10, 42, 16, 254, 182, 0, 94, 172, 42, 180, 0, 20, 180, 0, 239, 61, 42, 180, 0, 20, 27]
abbrev dktX0_force_1 : List UInt8 := dkwX0_force_1 ++ dktX0_force_2
def dkwX0_force_0 : List UInt8 := [27, 2, 159, 0, 32, 27, 133, 9, 42, 180, 0, 20, 180, 0, 215, 182, 0, 218, 4, 100, 133, 184, 0, 5]
abbrev dktX0_force_0 : List UInt8 := dkwX0_force_0 ++ dktX0_force_1
theorem dksX0_force_0 : cX0_force.data.toList.drop 0 = dktX0_force_0 := by decide +kernel
theorem dksX0_force_1 : cX0_force.data.toList.drop 24 = dktX0_force_1 := dk_seg dksX0_force_0 24 rfl rfl
theorem dksX0_force_2 : cX0_force.data.toList.drop 47 = dktX0_force_2 := dk_seg dksX0_force_1 23 rfl rfl
theorem dX0_force_0 : decode cX0_force 0 = .ok (.iload_n 1, 1) := dk_27 (dk_at dksX0_force_0 0 rfl rfl)
theorem dX0_force_1 : decode cX0_force 1 = .ok (.iconst (-1), 1) := dk_2 (dk_at dksX0_force_0 1 rfl rfl)
theorem dX0_force_2 : decode cX0_force 2 = .ok (.if_icmp .eq 32, 3) := dk_159 0 32 (dk_at dksX0_force_0 2 rfl rfl)
theorem dX0_force_5 : decode cX0_force 5 = .ok (.iload_n 1, 1) := dk_27 (dk_at dksX0_force_0 5 rfl rfl)
theorem dX0_force_6 : decode cX0_force 6 = .ok (.i2l, 1) := dk_133 (dk_at dksX0_force_0 6 rfl rfl)
theorem dX0_force_7 : decode cX0_force 7 = .ok (.lconst 0, 1) := dk_9 (dk_at dksX0_force_0 7 rfl rfl)
theorem dX0_force_8 : decode cX0_force 8 = .ok (.aload_n 0, 1) := dk_42 (dk_at dksX0_force_0 8 rfl rfl)
theorem dX0_force_9 : decode cX0_force 9 = .ok (.getfield 20, 3) := dk_180 0 20 (dk_at dksX0_force_0 9 rfl rfl)
theorem dX0_force_12 : decode cX0_force 12 = .ok (.getfield 215, 3) := dk_180 0 215 (dk_at dksX0_force_0 12 rfl rfl)
theorem dX0_force_15 : decode cX0_force 15 = .ok (.invokevirtual 218, 3) := dk_182 0 218 (dk_at dksX0_force_0 15 rfl rfl)
theorem dX0_force_18 : decode cX0_force 18 = .ok (.iconst 1, 1) := dk_4 (dk_at dksX0_force_0 18 rfl rfl)
theorem dX0_force_19 : decode cX0_force 19 = .ok (.isub, 1) := dk_100 (dk_at dksX0_force_0 19 rfl rfl)
theorem dX0_force_20 : decode cX0_force 20 = .ok (.i2l, 1) := dk_133 (dk_at dksX0_force_0 20 rfl rfl)
theorem dX0_force_21 : decode cX0_force 21 = .ok (.invokestatic 5, 3) := dk_184 0 5 (dk_at dksX0_force_0 21 rfl rfl)
theorem dX0_force_24 : decode cX0_force 24 = .ok (.ifCond .ne 10, 3) := dk_154 0 10 (dk_at dksX0_force_1 0 rfl rfl)
theorem dX0_force_27 : decode cX0_force 27 = .ok (.aload_n 0, 1) := dk_42 (dk_at dksX0_force_1 3 rfl rfl)
theorem dX0_force_28 : decode cX0_force 28 = .ok (.bipush (-2), 2) := dk_16 254 (dk_at dksX0_force_1 4 rfl rfl)
theorem dX0_force_30 : decode cX0_force 30 = .ok (.invokevirtual 94, 3) := dk_182 0 94 (dk_at dksX0_force_1 6 rfl rfl)
theorem dX0_force_33 : decode cX0_force 33 = .ok (.ireturn, 1) := dk_172 (dk_at dksX0_force_1 9 rfl rfl)
theorem dX0_force_34 : decode cX0_force 34 = .ok (.aload_n 0, 1) := dk_42 (dk_at dksX0_force_1 10 rfl rfl)
theorem dX0_force_35 : decode cX0_force 35 = .ok (.getfield 20, 3) := dk_180 0 20 (dk_at dksX0_force_1 11 rfl rfl)
theorem dX0_force_38 : decode cX0_force 38 = .ok (.getfield 239, 3) := dk_180 0 239 (dk_at dksX0_force_1 14 rfl rfl)
theorem dX0_force_41 : decode cX0_force 41 = .ok (.istore_n 2, 1) := dk_61 (dk_at dksX0_force_1 17 rfl rfl)
theorem dX0_force_42 : decode cX0_force 42 = .ok (.aload_n 0, 1) := dk_42 (dk_at dksX0_force_1 18 rfl rfl)
theorem dX0_force_43 : decode cX0_force 43 = .ok (.getfield 20, 3) := dk_180 0 20 (dk_at dksX0_force_1 19 rfl rfl)
theorem dX0_force_46 : decode cX0_force 46 = .ok (.iload_n 1, 1) := dk_27 (dk_at dksX0_force_1 22 rfl rfl)
theorem dX0_force_47 : decode cX0_force 47 = .ok (.putfield 239, 3) := dk_181 0 239 (dk_at dksX0_force_2 0 rfl rfl)
theorem dX0_force_50 : decode cX0_force 50 = .ok (.aload_n 0, 1) := dk_42 (dk_at dksX0_force_2 3 rfl rfl)
theorem dX0_force_51 : decode cX0_force 51 = .ok (.iconst 0, 1) := dk_3 (dk_at dksX0_force_2 4 rfl rfl)
theorem dX0_force_52 : decode cX0_force 52 = .ok (.putfield 88, 3) := dk_181 0 88 (dk_at dksX0_force_2 5 rfl rfl)
theorem dX0_force_55 : decode cX0_force 55 = .ok (.iload_n 2, 1) := dk_28 (dk_at dksX0_force_2 8 rfl rfl)
theorem dX0_force_56 : decode cX0_force 56 = .ok (.ireturn, 1) := dk_172 (dk_at dksX0_force_2 9 rfl rfl)
noncomputable def f_X0_force_34 (E : ax_E) (x0 : Option Nat) (x1 : Int) (h : ax_H) : Option (Int × ax_H) :=
  (ax_gR E h x0 0 0).bind fun v1 =>
  (ax_gI E h v1 1 8).bind fun v2 =>
  (ax_gR E h x0 0 0).bind fun v3 =>
  (ax_pI h v3 1 8 x1).bind fun h4 =>
  (ax_pI h4 x0 0 7 0).bind fun h5 =>
  some (v2, h5)
noncomputable def f_X0_force (E : ax_E) (x0 : Option Nat) (x1 : Int) (h : ax_H) : Option (Int × ax_H) :=
  if i2 x1 = i2 (-1) then
    f_X0_force_34 E x0 x1 h
  else
    (ax_gR E h x0 0 0).bind fun v1 =>
    (ax_gR E h v1 1 0).bind fun v2 =>
    (ax_ce E h v2 42).bind fun _ => (f_J2_size E v2 h).bind fun q3 =>
    (f_X0_in E (i2 x1) 0 (i2 (q3.1 - 1)) q3.2).bind fun q4 =>
    if i2 q4.1 = 0 then
      (ax_ce E q4.2 x0 0).bind fun _ => (f_X0_tell E x0 (-2) q4.2).bind fun q5 =>
      some (q5.1, q5.2)
    else
      f_X0_force_34 E x0 x1 q4.2
set_option maxHeartbeats 4000000 in
theorem w_X0_force_34 {l : Launch} {G : ax_G} {X : ax_X} {Q : State → Prop} {h0 h : ax_H} {ls : Array Slot} (hSF : ax_SF G) (B : ax_BL l G X cX0_force 3 RX0 3 82) (Z : ax_Z X h0 ((some FieldType.int))) (hn : X.2.2.2.2.2.2.2.2.1.name = yX0_force.name) (x0 : Option Nat) (x1 : Int) {w : Int × ax_H} (hl : ax_hl ls 3 [(0, .inr (.inr x0)), (1, .inl x1)]) (e : f_X0_force_34 G.2.2 x0 x1 h = some w) (hp : (fun w : Int × ax_H => Q = ax_Q G X h0 w.2 (some (.int (Int32.ofInt w.1)))) w) : ax_W G X Q h 34 ls [] := by
  unfold f_X0_force_34 at e
  refine ax_aload_n B dX0_force_34 rfl hl 0 rfl ?_
  refine ax_getR B ff_X0_20_0 (fun _ _ => rfl) dX0_force_35 e (fun v1 e => ?_)
  refine ax_getI B ff_X0_239_1 (fun _ _ => rfl) dX0_force_38 e (fun v2 e => ?_)
  refine ax_istore_n (L' := [(2, .inl v2), (0, .inr (.inr x0)), (1, .inl x1)]) B dX0_force_41 rfl hl (by decide) rfl (fun ls hl => ?_)
  refine ax_aload_n B dX0_force_42 rfl hl 1 rfl ?_
  refine ax_getR B ff_X0_20_0 (fun _ _ => rfl) dX0_force_43 e (fun v3 e => ?_)
  refine ax_iload_n B dX0_force_46 rfl hl 2 rfl ?_
  refine ax_putI B ff_X0_239_1 (Or.inl rfl) rfl dX0_force_47 e (fun h4 e => ?_)
  refine ax_aload_n B dX0_force_50 rfl hl 1 rfl ?_
  refine ax_iconst B dX0_force_51 ?_
  refine ax_putI B ff_X0_88_0 (Or.inl rfl) rfl dX0_force_52 e (fun h5 e => ?_)
  refine ax_iload_n B dX0_force_55 rfl hl 0 rfl ?_
  have e8 := e
  have hp : Q = _ := hp
  subst hp
  exact ax_ireturn B Z dX0_force_56 e8
set_option maxHeartbeats 4000000 in
theorem we_X0_force {l : Launch} {G : ax_G} {X : ax_X} {Q : State → Prop} {h0 h : ax_H} {ls : Array Slot} (hSF : ax_SF G) (B : ax_BL l G X cX0_force 3 RX0 3 82) (Z : ax_Z X h0 ((some FieldType.int))) (hn : X.2.2.2.2.2.2.2.2.1.name = yX0_force.name) (x0 : Option Nat) (x1 : Int) {w : Int × ax_H} (hl : ax_hl ls 3 [(0, .inr (.inr x0)), (1, .inl x1)]) (e : f_X0_force G.2.2 x0 x1 h = some w) (hp : (fun w : Int × ax_H => Q = ax_Q G X h0 w.2 (some (.int (Int32.ofInt w.1)))) w) : ax_W G X Q h 0 ls [] := by
  unfold f_X0_force at e
  refine ax_iload_n B dX0_force_0 rfl hl 1 rfl ?_
  refine ax_iconst B dX0_force_1 ?_
  refine ax_icmp_eq (tgt := 34) B dX0_force_2 (by decide) e (fun e => ?_) (fun e => ?_)
  · exact w_X0_force_34 hSF B Z hn x0 x1 (hl.sub [0, 1] rfl) e hp
  · refine ax_iload_n B dX0_force_5 rfl hl 1 rfl ?_
    refine ax_i2l' B dX0_force_6 ?_
    refine ax_lconst (v := 0) B dX0_force_7 rfl ?_
    refine ax_aload_n B dX0_force_8 rfl hl 0 rfl ?_
    refine ax_getR B ff_X0_20_0 (fun _ _ => rfl) dX0_force_9 e (fun v1 e => ?_)
    refine ax_getR B ff_X0_215_1 (fun _ _ => rfl) dX0_force_12 e (fun v2 e => ?_)
    refine ax_ivI (y := yJ2_size) (n := 0) (As := []) B kd42 (lw_V q709 q710 q711 q129 q712) (by decide +kernel) ⟨Nat.le_of_ble_eq_true rfl, Nat.le_of_ble_eq_true rfl⟩ (fun w1 e1 => mt_J2_size l G hSF v2 _ w1 e1) rfl hl.size (by simp only [List.map_cons, List.map_nil, List.sum_cons, List.sum_nil, va_rf_cat, ax_catI, ax_catL]; decide) dX0_force_15 e (fun q3 e => ?_)
    refine ax_iconst B dX0_force_18 ?_
    refine ax_isub' B dX0_force_19 ?_
    refine ax_i2l' B dX0_force_20 ?_
    refine ax_isI (y := yX0_in) (n := 3) (As := [.long (Int64.ofInt (i2 x1)), .long (Int64.ofInt 0), .long (Int64.ofInt (i2 (q3.1 - 1)))]) B (lw_S q420 q421 q125 q422) (by decide +kernel) ⟨Nat.le_of_ble_eq_true rfl, Nat.le_of_ble_eq_true rfl⟩ (fun w1 e1 => mt_X0_in l G hSF (i2 x1) 0 (i2 (q3.1 - 1)) _ w1 e1) rfl hl.size (by decide) dX0_force_21 e (fun q4 e => ?_)
    refine ax_if_ne (tgt := 34) B dX0_force_24 (by decide) e (fun e => ?_) (fun e => ?_)
    · refine ax_aload_n B dX0_force_27 rfl hl 0 rfl ?_
      refine ax_bipush B dX0_force_28 (by decide) ?_
      refine ax_ivI (y := yX0_tell) (n := 1) (As := [.int (Int32.ofInt (-2))]) B kd0 (lw_V q436 q438 qs1 q125 q439) (by decide +kernel) ⟨Nat.le_of_ble_eq_true rfl, Nat.le_of_ble_eq_true rfl⟩ (fun w1 e1 => mt_X0_tell l G hSF x0 (-2) _ w1 e1) rfl hl.size (by decide) dX0_force_30 e (fun q5 e => ?_)
      have e8 := e
      have hp : Q = _ := hp
      subst hp
      exact ax_ireturn B Z dX0_force_33 e8
    · exact w_X0_force_34 hSF B Z hn x0 x1 (hl.sub [0, 1] rfl) e hp
theorem mt_X0_force (l : Launch) (G : ax_G) (hSF : ax_SF G) (x0 : Option Nat) (x1 : Int) (h : ax_H) (w : Int × ax_H) (e : f_X0_force G.2.2 x0 x1 h = some w) : ax_Met l G yX0_force cX0_force 3 ((some FieldType.int)) 3 82 [va_rf x0, .int (Int32.ofInt x1)] h w.2 (some (.int (Int32.ofInt w.1))) :=
  ax_enter [.inr (.inr x0), .inl x1] (y := yX0_force) hSF (plainFor_of_name (by decide +kernel)) (Nat.le_of_ble_eq_true rfl) (fun X ls B Z hn hl => we_X0_force hSF B Z hn x0 x1 hl e rfl)
def dkwX4_has_1 : List UInt8 := [42, 180, 0, 7, 29, 50, 44, 182, 0, 19, 153, 0, 5, 4, 172, 132, 3, 1, 167, 255, 216, 3, 172]
abbrev dktX4_has_1 : List UInt8 := dkwX4_has_1 ++ []
def dkwX4_has_0 : List UInt8 := [3, 62, 29, 42, 180, 0, 7, 190, 162, 0, 37, 42, 180, 0, 7, 29, 50, 180, 0, 13, 27, 160, 0, 18]
abbrev dktX4_has_0 : List UInt8 := dkwX4_has_0 ++ dktX4_has_1
theorem dksX4_has_0 : cX4_has.data.toList.drop 0 = dktX4_has_0 := by decide +kernel
theorem dksX4_has_1 : cX4_has.data.toList.drop 24 = dktX4_has_1 := dk_seg dksX4_has_0 24 rfl rfl
theorem dX4_has_0 : decode cX4_has 0 = .ok (.iconst 0, 1) := dk_3 (dk_at dksX4_has_0 0 rfl rfl)
theorem dX4_has_1 : decode cX4_has 1 = .ok (.istore_n 3, 1) := dk_62 (dk_at dksX4_has_0 1 rfl rfl)
theorem dX4_has_2 : decode cX4_has 2 = .ok (.iload_n 3, 1) := dk_29 (dk_at dksX4_has_0 2 rfl rfl)
theorem dX4_has_3 : decode cX4_has 3 = .ok (.aload_n 0, 1) := dk_42 (dk_at dksX4_has_0 3 rfl rfl)
theorem dX4_has_4 : decode cX4_has 4 = .ok (.getfield 7, 3) := dk_180 0 7 (dk_at dksX4_has_0 4 rfl rfl)
theorem dX4_has_7 : decode cX4_has 7 = .ok (.arraylength, 1) := dk_190 (dk_at dksX4_has_0 7 rfl rfl)
theorem dX4_has_8 : decode cX4_has 8 = .ok (.if_icmp .ge 37, 3) := dk_162 0 37 (dk_at dksX4_has_0 8 rfl rfl)
theorem dX4_has_11 : decode cX4_has 11 = .ok (.aload_n 0, 1) := dk_42 (dk_at dksX4_has_0 11 rfl rfl)
theorem dX4_has_12 : decode cX4_has 12 = .ok (.getfield 7, 3) := dk_180 0 7 (dk_at dksX4_has_0 12 rfl rfl)
theorem dX4_has_15 : decode cX4_has 15 = .ok (.iload_n 3, 1) := dk_29 (dk_at dksX4_has_0 15 rfl rfl)
theorem dX4_has_16 : decode cX4_has 16 = .ok (.aaload, 1) := dk_50 (dk_at dksX4_has_0 16 rfl rfl)
theorem dX4_has_17 : decode cX4_has 17 = .ok (.getfield 13, 3) := dk_180 0 13 (dk_at dksX4_has_0 17 rfl rfl)
theorem dX4_has_20 : decode cX4_has 20 = .ok (.iload_n 1, 1) := dk_27 (dk_at dksX4_has_0 20 rfl rfl)
theorem dX4_has_21 : decode cX4_has 21 = .ok (.if_icmp .ne 18, 3) := dk_160 0 18 (dk_at dksX4_has_0 21 rfl rfl)
theorem dX4_has_24 : decode cX4_has 24 = .ok (.aload_n 0, 1) := dk_42 (dk_at dksX4_has_1 0 rfl rfl)
theorem dX4_has_25 : decode cX4_has 25 = .ok (.getfield 7, 3) := dk_180 0 7 (dk_at dksX4_has_1 1 rfl rfl)
theorem dX4_has_28 : decode cX4_has 28 = .ok (.iload_n 3, 1) := dk_29 (dk_at dksX4_has_1 4 rfl rfl)
theorem dX4_has_29 : decode cX4_has 29 = .ok (.aaload, 1) := dk_50 (dk_at dksX4_has_1 5 rfl rfl)
theorem dX4_has_30 : decode cX4_has 30 = .ok (.aload_n 2, 1) := dk_44 (dk_at dksX4_has_1 6 rfl rfl)
theorem dX4_has_31 : decode cX4_has 31 = .ok (.invokevirtual 19, 3) := dk_182 0 19 (dk_at dksX4_has_1 7 rfl rfl)
theorem dX4_has_34 : decode cX4_has 34 = .ok (.ifCond .eq 5, 3) := dk_153 0 5 (dk_at dksX4_has_1 10 rfl rfl)
theorem dX4_has_37 : decode cX4_has 37 = .ok (.iconst 1, 1) := dk_4 (dk_at dksX4_has_1 13 rfl rfl)
theorem dX4_has_38 : decode cX4_has 38 = .ok (.ireturn, 1) := dk_172 (dk_at dksX4_has_1 14 rfl rfl)
theorem dX4_has_39 : decode cX4_has 39 = .ok (.iinc 3 1, 3) := dk_132 3 1 (dk_at dksX4_has_1 15 rfl rfl)
theorem dX4_has_42 : decode cX4_has 42 = .ok (.goto (-40), 3) := dk_167 255 216 (dk_at dksX4_has_1 18 rfl rfl)
theorem dX4_has_45 : decode cX4_has 45 = .ok (.iconst 0, 1) := dk_3 (dk_at dksX4_has_1 21 rfl rfl)
theorem dX4_has_46 : decode cX4_has 46 = .ok (.ireturn, 1) := dk_172 (dk_at dksX4_has_1 22 rfl rfl)
noncomputable def f_X4_has_39 (E : ax_E) (x0 : Option Nat) (x1 : Int) (x2 : Option Nat) (x3 : Int) (h : ax_H) : Option ((Int × ax_H) ⊕ (Int × ax_H)) :=
  some (.inl ((x3 + 1), h))
noncomputable def lb_X4_has_2 (E : ax_E) (x0 : Option Nat) (x1 : Int) (x2 : Option Nat) (x3 : Int) (h : ax_H) : Option ((Int × ax_H) ⊕ (Int × ax_H)) :=
  (ax_gR E h x0 4 0).bind fun v1 =>
  (ax_len E h v1 106).bind fun v2 =>
  if i2 x3 < i2 v2 then
    (ax_gR E h x0 4 0).bind fun v3 =>
    (ax_ldR E h v3 106 x3).bind fun v4 =>
    (ax_gI E h v4 15 0).bind fun v5 =>
    if i2 v5 = i2 x1 then
      (ax_gR E h x0 4 0).bind fun v6 =>
      (ax_ldR E h v6 106 x3).bind fun v7 =>
      (ax_ce E h v7 15).bind fun _ => (f_X15_holds E v7 x2 h).bind fun q8 =>
      if i2 q8.1 = 0 then
        f_X4_has_39 E x0 x1 x2 x3 q8.2
      else
        (some (1, q8.2)).map Sum.inr
    else
      f_X4_has_39 E x0 x1 x2 x3 h
  else
    (some (0, h)).map Sum.inr
noncomputable def f_X4_has_2 (E : ax_E) (x0 : Option Nat) (x1 : Int) (x2 : Option Nat) (x3 : Int) (h : ax_H) : Option (Int × ax_H) :=
  ax_iter (fun s : Int × ax_H => lb_X4_has_2 E x0 x1 x2 s.1 s.2) (x3, h)
noncomputable def f_X4_has (E : ax_E) (x0 : Option Nat) (x1 : Int) (x2 : Option Nat) (h : ax_H) : Option (Int × ax_H) :=
  f_X4_has_2 E x0 x1 x2 0 h
def pi_X4_has_2 (G : ax_G) (X : ax_X) (Q : State → Prop) (x0 : Option Nat) (x1 : Int) (x2 : Option Nat) : Int × ax_H → Prop := fun s => ∀ ls : Array Slot, ax_hl ls 4 [(0, .inr (.inr x0)), (1, .inl x1), (2, .inr (.inr x2)), (3, .inl s.1)] → ax_W G X Q s.2 2 ls []
set_option maxHeartbeats 4000000 in
theorem w_X4_has_39 {l : Launch} {G : ax_G} {X : ax_X} {Q : State → Prop} {h0 h : ax_H} {ls : Array Slot} (hSF : ax_SF G) (B : ax_BL l G X cX4_has 4 RX4 137 3490) (Z : ax_Z X h0 ((some FieldType.boolean))) (hn : X.2.2.2.2.2.2.2.2.1.name = yX4_has.name) (x0 : Option Nat) (x1 : Int) (x2 : Option Nat) (x3 : Int) {w : (Int × ax_H) ⊕ (Int × ax_H)} (hl : ax_hl ls 4 [(0, .inr (.inr x0)), (1, .inl x1), (2, .inr (.inr x2)), (3, .inl x3)]) (e : f_X4_has_39 G.2.2 x0 x1 x2 x3 h = some w) (hp : (ax_PL (pi_X4_has_2 G X Q x0 x1 x2) (fun w : Int × ax_H => Q = ax_Q G X h0 w.2 (some (.int (Int32.ofInt w.1))))) w) : ax_W G X Q h 39 ls [] := by
  unfold f_X4_has_39 at e
  refine ax_iinc (L' := [(3, .inl (x3 + 1)), (0, .inr (.inr x0)), (1, .inl x1), (2, .inr (.inr x2))]) B dX4_has_39 hl 3 rfl (by decide) rfl (fun ls hl => ?_)
  refine ax_goto (tgt := 2) B dX4_has_42 (by decide) ?_
  cases e
  exact hp _ (hl.sub [1, 2, 3, 0] rfl)
set_option maxHeartbeats 4000000 in
theorem wb_X4_has_2 {l : Launch} {G : ax_G} {X : ax_X} {Q : State → Prop} {h0 h : ax_H} {ls : Array Slot} (hSF : ax_SF G) (B : ax_BL l G X cX4_has 4 RX4 137 3490) (Z : ax_Z X h0 ((some FieldType.boolean))) (hn : X.2.2.2.2.2.2.2.2.1.name = yX4_has.name) (x0 : Option Nat) (x1 : Int) (x2 : Option Nat) (x3 : Int) {w : (Int × ax_H) ⊕ (Int × ax_H)} (hl : ax_hl ls 4 [(0, .inr (.inr x0)), (1, .inl x1), (2, .inr (.inr x2)), (3, .inl x3)]) (e : lb_X4_has_2 G.2.2 x0 x1 x2 x3 h = some w) (hp : (ax_PL (pi_X4_has_2 G X Q x0 x1 x2) (fun w : Int × ax_H => Q = ax_Q G X h0 w.2 (some (.int (Int32.ofInt w.1))))) w) : ax_W G X Q h 2 ls [] := by
  unfold lb_X4_has_2 at e
  refine ax_iload_n B dX4_has_2 rfl hl 3 rfl ?_
  refine ax_aload_n B dX4_has_3 rfl hl 0 rfl ?_
  refine ax_getR B ff_X4_7_4 (fun _ _ => rfl) dX4_has_4 e (fun v1 e => ?_)
  refine ax_alen B kd106 dX4_has_7 e (fun v2 e => ?_)
  refine ax_icmp_ge (tgt := 45) B dX4_has_8 (by decide) e (fun e => ?_) (fun e => ?_)
  · refine ax_aload_n B dX4_has_11 rfl hl 0 rfl ?_
    refine ax_getR B ff_X4_7_4 (fun _ _ => rfl) dX4_has_12 e (fun v3 e => ?_)
    refine ax_iload_n B dX4_has_15 rfl hl 3 rfl ?_
    refine ax_aald rfl B kd106 dX4_has_16 e (fun v4 e => ?_)
    refine ax_getI B ff_X4_13_15 (fun _ _ => rfl) dX4_has_17 e (fun v5 e => ?_)
    refine ax_iload_n B dX4_has_20 rfl hl 1 rfl ?_
    refine ax_icmp_ne (tgt := 39) B dX4_has_21 (by decide) e (fun e => ?_) (fun e => ?_)
    · refine ax_aload_n B dX4_has_24 rfl hl 0 rfl ?_
      refine ax_getR B ff_X4_7_4 (fun _ _ => rfl) dX4_has_25 e (fun v6 e => ?_)
      refine ax_iload_n B dX4_has_28 rfl hl 3 rfl ?_
      refine ax_aald rfl B kd106 dX4_has_29 e (fun v7 e => ?_)
      refine ax_aload_n B dX4_has_30 rfl hl 2 rfl ?_
      refine ax_ivI (y := yX15_holds) (n := 1) (As := [va_rf x2]) B kd15 (lw_V q542 q543 q544 q155 q545) (by decide +kernel) ⟨Nat.le_of_ble_eq_true rfl, Nat.le_of_ble_eq_true rfl⟩ (fun w1 e1 => mt_X15_holds l G hSF v7 x2 _ w1 e1) rfl hl.size (by decide) dX4_has_31 e (fun q8 e => ?_)
      refine ax_if_eq (tgt := 39) B dX4_has_34 (by decide) e (fun e => ?_) (fun e => ?_)
      · exact w_X4_has_39 hSF B Z hn x0 x1 x2 x3 (hl.sub [0, 1, 2, 3] rfl) e hp
      · obtain ⟨w, e9_1, rfl⟩ := Option.map_eq_some_iff.mp e
        have e := e9_1
        refine ax_iconst B dX4_has_37 ?_
        have e8 := e
        have hp : Q = _ := hp
        subst hp
        exact ax_zreturnL (by decide) B Z dX4_has_38 e8
    · exact w_X4_has_39 hSF B Z hn x0 x1 x2 x3 (hl.sub [0, 1, 2, 3] rfl) e hp
  · obtain ⟨w, e9_2, rfl⟩ := Option.map_eq_some_iff.mp e
    have e := e9_2
    refine ax_iconst B dX4_has_45 ?_
    have e8 := e
    have hp : Q = _ := hp
    subst hp
    exact ax_zreturnL (by decide) B Z dX4_has_46 e8
theorem w_X4_has_2 {l : Launch} {G : ax_G} {X : ax_X} {Q : State → Prop} {h0 h : ax_H} {ls : Array Slot} (hSF : ax_SF G) (B : ax_BL l G X cX4_has 4 RX4 137 3490) (Z : ax_Z X h0 ((some FieldType.boolean))) (hn : X.2.2.2.2.2.2.2.2.1.name = yX4_has.name) (x0 : Option Nat) (x1 : Int) (x2 : Option Nat) (x3 : Int) {w : Int × ax_H} (hl : ax_hl ls 4 [(0, .inr (.inr x0)), (1, .inl x1), (2, .inr (.inr x2)), (3, .inl x3)]) (e : f_X4_has_2 G.2.2 x0 x1 x2 x3 h = some w) (hp : (fun w : Int × ax_H => Q = ax_Q G X h0 w.2 (some (.int (Int32.ofInt w.1)))) w) : ax_W G X Q h 2 ls [] :=
  ax_iter_W (Pin := pi_X4_has_2 G X Q x0 x1 x2) (Pout := (fun w : Int × ax_H => Q = ax_Q G X h0 w.2 (some (.int (Int32.ofInt w.1))))) (fun s w e hp ls hl => wb_X4_has_2 hSF B Z hn x0 x1 x2 s.1 hl e hp) _ _ e hp ls hl
set_option maxHeartbeats 4000000 in
theorem we_X4_has {l : Launch} {G : ax_G} {X : ax_X} {Q : State → Prop} {h0 h : ax_H} {ls : Array Slot} (hSF : ax_SF G) (B : ax_BL l G X cX4_has 4 RX4 137 3490) (Z : ax_Z X h0 ((some FieldType.boolean))) (hn : X.2.2.2.2.2.2.2.2.1.name = yX4_has.name) (x0 : Option Nat) (x1 : Int) (x2 : Option Nat) {w : Int × ax_H} (hl : ax_hl ls 4 [(0, .inr (.inr x0)), (1, .inl x1), (2, .inr (.inr x2))]) (e : f_X4_has G.2.2 x0 x1 x2 h = some w) (hp : (fun w : Int × ax_H => Q = ax_Q G X h0 w.2 (some (.int (Int32.ofInt w.1)))) w) : ax_W G X Q h 0 ls [] := by
  unfold f_X4_has at e
  refine ax_iconst B dX4_has_0 ?_
  refine ax_istore_n (L' := [(3, .inl 0), (0, .inr (.inr x0)), (1, .inl x1), (2, .inr (.inr x2))]) B dX4_has_1 rfl hl (by decide) rfl (fun ls hl => ?_)
  exact w_X4_has_2 hSF B Z hn x0 x1 x2 0 (hl.sub [1, 2, 3, 0] rfl) e hp
theorem mt_X4_has (l : Launch) (G : ax_G) (hSF : ax_SF G) (x0 : Option Nat) (x1 : Int) (x2 : Option Nat) (h : ax_H) (w : Int × ax_H) (e : f_X4_has G.2.2 x0 x1 x2 h = some w) : ax_Met l G yX4_has cX4_has 4 ((some FieldType.boolean)) 137 3490 [va_rf x0, .int (Int32.ofInt x1), va_rf x2] h w.2 (some (.int (Int32.ofInt w.1))) :=
  ax_enter [.inr (.inr x0), .inl x1, .inr (.inr x2)] (y := yX4_has) hSF (plainFor_of_name (by decide +kernel)) (Nat.le_of_ble_eq_true rfl) (fun X ls B Z hn hl => we_X4_has hSF B Z hn x0 x1 x2 hl e rfl)
def dkwX0_deepBy_3 : List UInt8 := [184, 1, 11, 184, 1, 14, 136, 172]
abbrev dktX0_deepBy_3 : List UInt8 := dkwX0_deepBy_3 ++ []
def dkwX0_deepBy_2 : List UInt8 := [180, 0, 20, 180, 0, 133, 27, 46, 133, 42, 182, 1, 0, 3, 42, 180, 0, 38, 22, 6, 182, 1, 7]
abbrev dktX0_deepBy_2 : List UInt8 := dkwX0_deepBy_2 ++ dktX0_deepBy_3
def dkwX0_deepBy_1 : List UInt8 := [153, 0, 5, 3, 172, 29, 154, 0, 7, 9, 167, 0, 10, 4, 29, 16, 100, 108, 96, 133, 55, 6, 9, 42]
abbrev dktX0_deepBy_1 : List UInt8 := dkwX0_deepBy_1 ++ dktX0_deepBy_2
def dkwX0_deepBy_0 : List UInt8 := [42, 27, 28, 29, 21, 4, 21, 5, 182, 0, 252, 42, 182, 1, 0, 6, 42, 180, 0, 38, 182, 1, 3]
abbrev dktX0_deepBy_0 : List UInt8 := dkwX0_deepBy_0 ++ dktX0_deepBy_1
theorem dksX0_deepBy_0 : cX0_deepBy.data.toList.drop 0 = dktX0_deepBy_0 := by decide +kernel
theorem dksX0_deepBy_1 : cX0_deepBy.data.toList.drop 23 = dktX0_deepBy_1 := dk_seg dksX0_deepBy_0 23 rfl rfl
theorem dksX0_deepBy_2 : cX0_deepBy.data.toList.drop 47 = dktX0_deepBy_2 := dk_seg dksX0_deepBy_1 24 rfl rfl
theorem dksX0_deepBy_3 : cX0_deepBy.data.toList.drop 70 = dktX0_deepBy_3 := dk_seg dksX0_deepBy_2 23 rfl rfl
theorem dX0_deepBy_0 : decode cX0_deepBy 0 = .ok (.aload_n 0, 1) := dk_42 (dk_at dksX0_deepBy_0 0 rfl rfl)
theorem dX0_deepBy_1 : decode cX0_deepBy 1 = .ok (.iload_n 1, 1) := dk_27 (dk_at dksX0_deepBy_0 1 rfl rfl)
theorem dX0_deepBy_2 : decode cX0_deepBy 2 = .ok (.iload_n 2, 1) := dk_28 (dk_at dksX0_deepBy_0 2 rfl rfl)
theorem dX0_deepBy_3 : decode cX0_deepBy 3 = .ok (.iload_n 3, 1) := dk_29 (dk_at dksX0_deepBy_0 3 rfl rfl)
theorem dX0_deepBy_4 : decode cX0_deepBy 4 = .ok (.iload 4, 2) := dk_21 4 (dk_at dksX0_deepBy_0 4 rfl rfl)
theorem dX0_deepBy_6 : decode cX0_deepBy 6 = .ok (.iload 5, 2) := dk_21 5 (dk_at dksX0_deepBy_0 6 rfl rfl)
theorem dX0_deepBy_8 : decode cX0_deepBy 8 = .ok (.invokevirtual 252, 3) := dk_182 0 252 (dk_at dksX0_deepBy_0 8 rfl rfl)
theorem dX0_deepBy_11 : decode cX0_deepBy 11 = .ok (.aload_n 0, 1) := dk_42 (dk_at dksX0_deepBy_0 11 rfl rfl)
theorem dX0_deepBy_12 : decode cX0_deepBy 12 = .ok (.invokevirtual 256, 3) := dk_182 1 0 (dk_at dksX0_deepBy_0 12 rfl rfl)
theorem dX0_deepBy_15 : decode cX0_deepBy 15 = .ok (.iconst 3, 1) := dk_6 (dk_at dksX0_deepBy_0 15 rfl rfl)
theorem dX0_deepBy_16 : decode cX0_deepBy 16 = .ok (.aload_n 0, 1) := dk_42 (dk_at dksX0_deepBy_0 16 rfl rfl)
theorem dX0_deepBy_17 : decode cX0_deepBy 17 = .ok (.getfield 38, 3) := dk_180 0 38 (dk_at dksX0_deepBy_0 17 rfl rfl)
theorem dX0_deepBy_20 : decode cX0_deepBy 20 = .ok (.invokevirtual 259, 3) := dk_182 1 3 (dk_at dksX0_deepBy_0 20 rfl rfl)
theorem dX0_deepBy_23 : decode cX0_deepBy 23 = .ok (.ifCond .eq 5, 3) := dk_153 0 5 (dk_at dksX0_deepBy_1 0 rfl rfl)
theorem dX0_deepBy_26 : decode cX0_deepBy 26 = .ok (.iconst 0, 1) := dk_3 (dk_at dksX0_deepBy_1 3 rfl rfl)
theorem dX0_deepBy_27 : decode cX0_deepBy 27 = .ok (.ireturn, 1) := dk_172 (dk_at dksX0_deepBy_1 4 rfl rfl)
theorem dX0_deepBy_28 : decode cX0_deepBy 28 = .ok (.iload_n 3, 1) := dk_29 (dk_at dksX0_deepBy_1 5 rfl rfl)
theorem dX0_deepBy_29 : decode cX0_deepBy 29 = .ok (.ifCond .ne 7, 3) := dk_154 0 7 (dk_at dksX0_deepBy_1 6 rfl rfl)
theorem dX0_deepBy_32 : decode cX0_deepBy 32 = .ok (.lconst 0, 1) := dk_9 (dk_at dksX0_deepBy_1 9 rfl rfl)
theorem dX0_deepBy_33 : decode cX0_deepBy 33 = .ok (.goto 10, 3) := dk_167 0 10 (dk_at dksX0_deepBy_1 10 rfl rfl)
theorem dX0_deepBy_36 : decode cX0_deepBy 36 = .ok (.iconst 1, 1) := dk_4 (dk_at dksX0_deepBy_1 13 rfl rfl)
theorem dX0_deepBy_37 : decode cX0_deepBy 37 = .ok (.iload_n 3, 1) := dk_29 (dk_at dksX0_deepBy_1 14 rfl rfl)
theorem dX0_deepBy_38 : decode cX0_deepBy 38 = .ok (.bipush 100, 2) := dk_16 100 (dk_at dksX0_deepBy_1 15 rfl rfl)
theorem dX0_deepBy_40 : decode cX0_deepBy 40 = .ok (.idiv, 1) := dk_108 (dk_at dksX0_deepBy_1 17 rfl rfl)
theorem dX0_deepBy_41 : decode cX0_deepBy 41 = .ok (.iadd, 1) := dk_96 (dk_at dksX0_deepBy_1 18 rfl rfl)
theorem dX0_deepBy_42 : decode cX0_deepBy 42 = .ok (.i2l, 1) := dk_133 (dk_at dksX0_deepBy_1 19 rfl rfl)
theorem dX0_deepBy_43 : decode cX0_deepBy 43 = .ok (.lstore 6, 2) := dk_55 6 (dk_at dksX0_deepBy_1 20 rfl rfl)
theorem dX0_deepBy_45 : decode cX0_deepBy 45 = .ok (.lconst 0, 1) := dk_9 (dk_at dksX0_deepBy_1 22 rfl rfl)
theorem dX0_deepBy_46 : decode cX0_deepBy 46 = .ok (.aload_n 0, 1) := dk_42 (dk_at dksX0_deepBy_1 23 rfl rfl)
theorem dX0_deepBy_47 : decode cX0_deepBy 47 = .ok (.getfield 20, 3) := dk_180 0 20 (dk_at dksX0_deepBy_2 0 rfl rfl)
theorem dX0_deepBy_50 : decode cX0_deepBy 50 = .ok (.getfield 133, 3) := dk_180 0 133 (dk_at dksX0_deepBy_2 3 rfl rfl)
theorem dX0_deepBy_53 : decode cX0_deepBy 53 = .ok (.iload_n 1, 1) := dk_27 (dk_at dksX0_deepBy_2 6 rfl rfl)
theorem dX0_deepBy_54 : decode cX0_deepBy 54 = .ok (.iaload, 1) := dk_46 (dk_at dksX0_deepBy_2 7 rfl rfl)
theorem dX0_deepBy_55 : decode cX0_deepBy 55 = .ok (.i2l, 1) := dk_133 (dk_at dksX0_deepBy_2 8 rfl rfl)
theorem dX0_deepBy_56 : decode cX0_deepBy 56 = .ok (.aload_n 0, 1) := dk_42 (dk_at dksX0_deepBy_2 9 rfl rfl)
theorem dX0_deepBy_57 : decode cX0_deepBy 57 = .ok (.invokevirtual 256, 3) := dk_182 1 0 (dk_at dksX0_deepBy_2 10 rfl rfl)
theorem dX0_deepBy_60 : decode cX0_deepBy 60 = .ok (.iconst 0, 1) := dk_3 (dk_at dksX0_deepBy_2 13 rfl rfl)
theorem dX0_deepBy_61 : decode cX0_deepBy 61 = .ok (.aload_n 0, 1) := dk_42 (dk_at dksX0_deepBy_2 14 rfl rfl)
theorem dX0_deepBy_62 : decode cX0_deepBy 62 = .ok (.getfield 38, 3) := dk_180 0 38 (dk_at dksX0_deepBy_2 15 rfl rfl)
theorem dX0_deepBy_65 : decode cX0_deepBy 65 = .ok (.lload 6, 2) := dk_22 6 (dk_at dksX0_deepBy_2 18 rfl rfl)
theorem dX0_deepBy_67 : decode cX0_deepBy 67 = .ok (.invokevirtual 263, 3) := dk_182 1 7 (dk_at dksX0_deepBy_2 20 rfl rfl)
theorem dX0_deepBy_70 : decode cX0_deepBy 70 = .ok (.invokestatic 267, 3) := dk_184 1 11 (dk_at dksX0_deepBy_3 0 rfl rfl)
theorem dX0_deepBy_73 : decode cX0_deepBy 73 = .ok (.invokestatic 270, 3) := dk_184 1 14 (dk_at dksX0_deepBy_3 3 rfl rfl)
theorem dX0_deepBy_76 : decode cX0_deepBy 76 = .ok (.l2i, 1) := dk_136 (dk_at dksX0_deepBy_3 6 rfl rfl)
theorem dX0_deepBy_77 : decode cX0_deepBy 77 = .ok (.ireturn, 1) := dk_172 (dk_at dksX0_deepBy_3 7 rfl rfl)
noncomputable def f_X0_deepBy_43 (E : ax_E) (x0 : Option Nat) (x1 : Int) (s0 : Int) (h : ax_H) : Option (Int × ax_H) :=
  (ax_gR E h x0 0 0).bind fun v1 =>
  (ax_gR E h v1 1 4).bind fun v2 =>
  (ax_ld E h v2 100 x1).bind fun v3 =>
  (ax_ce E h x0 0).bind fun _ => (f_X0_law1 E x0 h).bind fun q4 =>
  (ax_gR E q4.2 x0 0 3).bind fun v5 =>
  (ax_ce E q4.2 q4.1 4).bind fun _ => (f_X4_tells E q4.1 0 v5 s0 q4.2).bind fun q6 =>
  (f_J3_min_2 E (i2 v3) q6.1 q6.2).bind fun q7 =>
  (f_J3_max E 0 q7.1 q7.2).bind fun q8 =>
  some (q8.1, q8.2)
noncomputable def f_X0_deepBy (E : ax_E) (x0 : Option Nat) (x1 : Int) (x2 : Int) (x3 : Int) (x4 : Int) (x5 : Int) (h : ax_H) : Option (Int × ax_H) :=
  (ax_ce E h x0 0).bind fun _ => (f_X0_ask E x0 x1 x2 x3 x4 x5 h).bind fun h1 =>
  (ax_ce E h1 x0 0).bind fun _ => (f_X0_law1 E x0 h1).bind fun q2 =>
  (ax_gR E q2.2 x0 0 3).bind fun v3 =>
  (ax_ce E q2.2 q2.1 4).bind fun _ => (f_X4_has E q2.1 3 v3 q2.2).bind fun q4 =>
  if i2 q4.1 = 0 then
    if i2 x3 = 0 then
      f_X0_deepBy_43 E x0 x1 0 q4.2
    else
      if i2 100 = 0 then none else
      f_X0_deepBy_43 E x0 x1 (i2 (1 + ((i2 x3).tdiv (i2 100)))) q4.2
  else
    some (0, q4.2)
set_option maxHeartbeats 4000000 in
theorem w_X0_deepBy_43 {l : Launch} {G : ax_G} {X : ax_X} {Q : State → Prop} {h0 h : ax_H} {ls : Array Slot} (hSF : ax_SF G) (B : ax_BL l G X cX0_deepBy 8 RX0 138 3517) (Z : ax_Z X h0 ((some FieldType.int))) (hn : X.2.2.2.2.2.2.2.2.1.name = yX0_deepBy.name) (x0 : Option Nat) (x1 : Int) (s0 : Int) {w : Int × ax_H} (hl : ax_hl ls 8 [(0, .inr (.inr x0)), (1, .inl x1)]) (e : f_X0_deepBy_43 G.2.2 x0 x1 s0 h = some w) (hp : (fun w : Int × ax_H => Q = ax_Q G X h0 w.2 (some (.int (Int32.ofInt w.1)))) w) : ax_W G X Q h 43 ls [.long (Int64.ofInt s0)] := by
  unfold f_X0_deepBy_43 at e
  refine ax_lstore (L' := [(6, .inr (.inl s0)), (0, .inr (.inr x0)), (1, .inl x1)]) B dX0_deepBy_43 hl (by decide) rfl (fun ls hl => ?_)
  refine ax_lconst (v := 0) B dX0_deepBy_45 rfl ?_
  refine ax_aload_n B dX0_deepBy_46 rfl hl 1 rfl ?_
  refine ax_getR B ff_X0_20_0 (fun _ _ => rfl) dX0_deepBy_47 e (fun v1 e => ?_)
  refine ax_getR B ff_X0_133_1 (fun _ _ => rfl) dX0_deepBy_50 e (fun v2 e => ?_)
  refine ax_iload_n B dX0_deepBy_53 rfl hl 2 rfl ?_
  refine ax_iald B kd100 dX0_deepBy_54 e (fun v3 e => ?_)
  refine ax_i2l' B dX0_deepBy_55 ?_
  refine ax_aload_n B dX0_deepBy_56 rfl hl 1 rfl ?_
  refine ax_ivR (y := yX0_law1) (n := 0) (As := []) B kd0 (lw_V q520 q522 qs12 q125 q523) (by decide +kernel) ⟨Nat.le_of_ble_eq_true rfl, Nat.le_of_ble_eq_true rfl⟩ (fun w1 e1 => mt_X0_law1 l G hSF x0 _ w1 e1) rfl hl.size (by simp only [List.map_cons, List.map_nil, List.sum_cons, List.sum_nil, va_rf_cat, ax_catI, ax_catL]; decide) dX0_deepBy_57 e (fun q4 e => ?_)
  refine ax_iconst B dX0_deepBy_60 ?_
  refine ax_aload_n B dX0_deepBy_61 rfl hl 1 rfl ?_
  refine ax_getR B ff_X0_38_0 (fun _ _ => rfl) dX0_deepBy_62 e (fun v5 e => ?_)
  refine ax_lload B dX0_deepBy_65 hl 0 rfl ?_
  refine ax_ivL (y := yX4_tells) (n := 3) (As := [.int (Int32.ofInt 0), va_rf v5, .long (Int64.ofInt s0)]) B kd4 (lw_V q538 q539 q540 q132 q541) (by decide +kernel) ⟨Nat.le_of_ble_eq_true rfl, Nat.le_of_ble_eq_true rfl⟩ (fun w1 e1 => mt_X4_tells l G hSF q4.1 0 v5 s0 _ w1 e1) rfl hl.size (by simp only [List.map_cons, List.map_nil, List.sum_cons, List.sum_nil, va_rf_cat, ax_catI, ax_catL]; decide) dX0_deepBy_67 e (fun q6 e => ?_)
  refine ax_isL (y := yJ3_min_2) (n := 2) (As := [.long (Int64.ofInt (i2 v3)), .long (Int64.ofInt q6.1)]) B (lw_S q595 q596 q134 q597) (by decide +kernel) ⟨Nat.le_of_ble_eq_true rfl, Nat.le_of_ble_eq_true rfl⟩ (fun w1 e1 => mt_J3_min_2 l G hSF (i2 v3) q6.1 _ w1 e1) rfl hl.size (by simp only [List.map_cons, List.map_nil, List.sum_cons, List.sum_nil, va_rf_cat, ax_catI, ax_catL]; decide) dX0_deepBy_70 e (fun q7 e => ?_)
  refine ax_isL (y := yJ3_max) (n := 2) (As := [.long (Int64.ofInt 0), .long (Int64.ofInt q7.1)]) B (lw_S q598 q599 q134 q600) (by decide +kernel) ⟨Nat.le_of_ble_eq_true rfl, Nat.le_of_ble_eq_true rfl⟩ (fun w1 e1 => mt_J3_max l G hSF 0 q7.1 _ w1 e1) rfl hl.size (by decide) dX0_deepBy_73 e (fun q8 e => ?_)
  refine ax_l2i' B dX0_deepBy_76 ?_
  have e8 := e
  have hp : Q = _ := hp
  subst hp
  exact ax_ireturn B Z dX0_deepBy_77 e8
set_option maxHeartbeats 4000000 in
theorem we_X0_deepBy {l : Launch} {G : ax_G} {X : ax_X} {Q : State → Prop} {h0 h : ax_H} {ls : Array Slot} (hSF : ax_SF G) (B : ax_BL l G X cX0_deepBy 8 RX0 138 3517) (Z : ax_Z X h0 ((some FieldType.int))) (hn : X.2.2.2.2.2.2.2.2.1.name = yX0_deepBy.name) (x0 : Option Nat) (x1 : Int) (x2 : Int) (x3 : Int) (x4 : Int) (x5 : Int) {w : Int × ax_H} (hl : ax_hl ls 8 [(0, .inr (.inr x0)), (1, .inl x1), (2, .inl x2), (3, .inl x3), (4, .inl x4), (5, .inl x5)]) (e : f_X0_deepBy G.2.2 x0 x1 x2 x3 x4 x5 h = some w) (hp : (fun w : Int × ax_H => Q = ax_Q G X h0 w.2 (some (.int (Int32.ofInt w.1)))) w) : ax_W G X Q h 0 ls [] := by
  unfold f_X0_deepBy at e
  refine ax_aload_n B dX0_deepBy_0 rfl hl 0 rfl ?_
  refine ax_iload_n B dX0_deepBy_1 rfl hl 1 rfl ?_
  refine ax_iload_n B dX0_deepBy_2 rfl hl 2 rfl ?_
  refine ax_iload_n B dX0_deepBy_3 rfl hl 3 rfl ?_
  refine ax_iload B dX0_deepBy_4 hl 4 rfl ?_
  refine ax_iload B dX0_deepBy_6 hl 5 rfl ?_
  refine ax_ivV (y := yX0_ask) (n := 5) (As := [.int (Int32.ofInt x1), .int (Int32.ofInt x2), .int (Int32.ofInt x3), .int (Int32.ofInt x4), .int (Int32.ofInt x5)]) B kd0 (lw_V q515 q517 qs11 q125 q518) (by decide +kernel) ⟨Nat.le_of_ble_eq_true rfl, Nat.le_of_ble_eq_true rfl⟩ (fun w1 e1 => mt_X0_ask l G hSF x0 x1 x2 x3 x4 x5 _ w1 e1) rfl hl.size (by decide) dX0_deepBy_8 e (fun h1 e => ?_)
  refine ax_aload_n B dX0_deepBy_11 rfl hl 0 rfl ?_
  refine ax_ivR (y := yX0_law1) (n := 0) (As := []) B kd0 (lw_V q520 q522 qs12 q125 q523) (by decide +kernel) ⟨Nat.le_of_ble_eq_true rfl, Nat.le_of_ble_eq_true rfl⟩ (fun w1 e1 => mt_X0_law1 l G hSF x0 _ w1 e1) rfl hl.size (by decide) dX0_deepBy_12 e (fun q2 e => ?_)
  refine ax_iconst B dX0_deepBy_15 ?_
  refine ax_aload_n B dX0_deepBy_16 rfl hl 0 rfl ?_
  refine ax_getR B ff_X0_38_0 (fun _ _ => rfl) dX0_deepBy_17 e (fun v3 e => ?_)
  refine ax_ivI (y := yX4_has) (n := 2) (As := [.int (Int32.ofInt 3), va_rf v3]) B kd4 (lw_V q1338 q1339 q1340 q132 q1341) (by decide +kernel) ⟨Nat.le_of_ble_eq_true rfl, Nat.le_of_ble_eq_true rfl⟩ (fun w1 e1 => mt_X4_has l G hSF q2.1 3 v3 _ w1 e1) rfl hl.size (by decide) dX0_deepBy_20 e (fun q4 e => ?_)
  refine ax_if_eq (tgt := 28) B dX0_deepBy_23 (by decide) e (fun e => ?_) (fun e => ?_)
  · refine ax_iload_n B dX0_deepBy_28 rfl hl 3 rfl ?_
    refine ax_if_ne (tgt := 36) B dX0_deepBy_29 (by decide) e (fun e => ?_) (fun e => ?_)
    · refine ax_lconst (v := 0) B dX0_deepBy_32 rfl ?_
      refine ax_goto (tgt := 43) B dX0_deepBy_33 (by decide) ?_
      exact w_X0_deepBy_43 hSF B Z hn x0 x1 0 (hl.sub [0, 1] rfl) e hp
    · refine ax_iconst B dX0_deepBy_36 ?_
      refine ax_iload_n B dX0_deepBy_37 rfl hl 3 rfl ?_
      refine ax_bipush B dX0_deepBy_38 (by decide) ?_
      refine ax_idiv' B dX0_deepBy_40 e (fun e => ?_)
      refine ax_iadd' B dX0_deepBy_41 ?_
      refine ax_i2l' B dX0_deepBy_42 ?_
      exact w_X0_deepBy_43 hSF B Z hn x0 x1 (i2 (1 + ((i2 x3).tdiv (i2 100)))) (hl.sub [0, 1] rfl) e hp
  · refine ax_iconst B dX0_deepBy_26 ?_
    have e8 := e
    have hp : Q = _ := hp
    subst hp
    exact ax_ireturn B Z dX0_deepBy_27 e8
theorem mt_X0_deepBy (l : Launch) (G : ax_G) (hSF : ax_SF G) (x0 : Option Nat) (x1 : Int) (x2 : Int) (x3 : Int) (x4 : Int) (x5 : Int) (h : ax_H) (w : Int × ax_H) (e : f_X0_deepBy G.2.2 x0 x1 x2 x3 x4 x5 h = some w) : ax_Met l G yX0_deepBy cX0_deepBy 8 ((some FieldType.int)) 138 3517 [va_rf x0, .int (Int32.ofInt x1), .int (Int32.ofInt x2), .int (Int32.ofInt x3), .int (Int32.ofInt x4), .int (Int32.ofInt x5)] h w.2 (some (.int (Int32.ofInt w.1))) :=
  ax_enter [.inr (.inr x0), .inl x1, .inl x2, .inl x3, .inl x4, .inl x5] (y := yX0_deepBy) hSF (plainFor_of_name (by decide +kernel)) (Nat.le_of_ble_eq_true rfl) (fun X ls B Z hn hl => we_X0_deepBy hSF B Z hn x0 x1 x2 x3 x4 x5 hl e rfl)
def dkwX0_deepIn_1 : List UInt8 := [182, 1, 17, 172]
abbrev dktX0_deepIn_1 : List UInt8 := dkwX0_deepIn_1 ++ []
def dkwX0_deepIn_0 : List UInt8 := [42, 28, 29, 43, 28, 29, 182, 0, 187, 21, 4, 96, 43, 29, 28, 182, 0, 187, 43, 180, 0, 194]
abbrev dktX0_deepIn_0 : List UInt8 := dkwX0_deepIn_0 ++ dktX0_deepIn_1
theorem dksX0_deepIn_0 : cX0_deepIn.data.toList.drop 0 = dktX0_deepIn_0 := by decide +kernel
theorem dksX0_deepIn_1 : cX0_deepIn.data.toList.drop 22 = dktX0_deepIn_1 := dk_seg dksX0_deepIn_0 22 rfl rfl
theorem dX0_deepIn_0 : decode cX0_deepIn 0 = .ok (.aload_n 0, 1) := dk_42 (dk_at dksX0_deepIn_0 0 rfl rfl)
theorem dX0_deepIn_1 : decode cX0_deepIn 1 = .ok (.iload_n 2, 1) := dk_28 (dk_at dksX0_deepIn_0 1 rfl rfl)
theorem dX0_deepIn_2 : decode cX0_deepIn 2 = .ok (.iload_n 3, 1) := dk_29 (dk_at dksX0_deepIn_0 2 rfl rfl)
theorem dX0_deepIn_3 : decode cX0_deepIn 3 = .ok (.aload_n 1, 1) := dk_43 (dk_at dksX0_deepIn_0 3 rfl rfl)
theorem dX0_deepIn_4 : decode cX0_deepIn 4 = .ok (.iload_n 2, 1) := dk_28 (dk_at dksX0_deepIn_0 4 rfl rfl)
theorem dX0_deepIn_5 : decode cX0_deepIn 5 = .ok (.iload_n 3, 1) := dk_29 (dk_at dksX0_deepIn_0 5 rfl rfl)
theorem dX0_deepIn_6 : decode cX0_deepIn 6 = .ok (.invokevirtual 187, 3) := dk_182 0 187 (dk_at dksX0_deepIn_0 6 rfl rfl)
theorem dX0_deepIn_9 : decode cX0_deepIn 9 = .ok (.iload 4, 2) := dk_21 4 (dk_at dksX0_deepIn_0 9 rfl rfl)
theorem dX0_deepIn_11 : decode cX0_deepIn 11 = .ok (.iadd, 1) := dk_96 (dk_at dksX0_deepIn_0 11 rfl rfl)
theorem dX0_deepIn_12 : decode cX0_deepIn 12 = .ok (.aload_n 1, 1) := dk_43 (dk_at dksX0_deepIn_0 12 rfl rfl)
theorem dX0_deepIn_13 : decode cX0_deepIn 13 = .ok (.iload_n 3, 1) := dk_29 (dk_at dksX0_deepIn_0 13 rfl rfl)
theorem dX0_deepIn_14 : decode cX0_deepIn 14 = .ok (.iload_n 2, 1) := dk_28 (dk_at dksX0_deepIn_0 14 rfl rfl)
theorem dX0_deepIn_15 : decode cX0_deepIn 15 = .ok (.invokevirtual 187, 3) := dk_182 0 187 (dk_at dksX0_deepIn_0 15 rfl rfl)
theorem dX0_deepIn_18 : decode cX0_deepIn 18 = .ok (.aload_n 1, 1) := dk_43 (dk_at dksX0_deepIn_0 18 rfl rfl)
theorem dX0_deepIn_19 : decode cX0_deepIn 19 = .ok (.getfield 194, 3) := dk_180 0 194 (dk_at dksX0_deepIn_0 19 rfl rfl)
theorem dX0_deepIn_22 : decode cX0_deepIn 22 = .ok (.invokevirtual 273, 3) := dk_182 1 17 (dk_at dksX0_deepIn_1 0 rfl rfl)
theorem dX0_deepIn_25 : decode cX0_deepIn 25 = .ok (.ireturn, 1) := dk_172 (dk_at dksX0_deepIn_1 3 rfl rfl)
noncomputable def f_X0_deepIn (E : ax_E) (x0 : Option Nat) (x1 : Option Nat) (x2 : Int) (x3 : Int) (x4 : Int) (h : ax_H) : Option (Int × ax_H) :=
  (ax_ce E h x1 2).bind fun _ => (f_X2_owes E x1 x2 x3 h).bind fun q1 =>
  (ax_ce E q1.2 x1 2).bind fun _ => (f_X2_owes E x1 x3 x2 q1.2).bind fun q2 =>
  (ax_gI E q2.2 x1 2 6).bind fun v3 =>
  (ax_ce E q2.2 x0 0).bind fun _ => (f_X0_deepBy E x0 x2 x3 (q1.1 + x4) q2.1 v3 q2.2).bind fun q4 =>
  some (q4.1, q4.2)
set_option maxHeartbeats 4000000 in
theorem we_X0_deepIn {l : Launch} {G : ax_G} {X : ax_X} {Q : State → Prop} {h0 h : ax_H} {ls : Array Slot} (hSF : ax_SF G) (B : ax_BL l G X cX0_deepIn 5 RX0 139 3544) (Z : ax_Z X h0 ((some FieldType.int))) (hn : X.2.2.2.2.2.2.2.2.1.name = yX0_deepIn.name) (x0 : Option Nat) (x1 : Option Nat) (x2 : Int) (x3 : Int) (x4 : Int) {w : Int × ax_H} (hl : ax_hl ls 5 [(0, .inr (.inr x0)), (1, .inr (.inr x1)), (2, .inl x2), (3, .inl x3), (4, .inl x4)]) (e : f_X0_deepIn G.2.2 x0 x1 x2 x3 x4 h = some w) (hp : (fun w : Int × ax_H => Q = ax_Q G X h0 w.2 (some (.int (Int32.ofInt w.1)))) w) : ax_W G X Q h 0 ls [] := by
  unfold f_X0_deepIn at e
  refine ax_aload_n B dX0_deepIn_0 rfl hl 0 rfl ?_
  refine ax_iload_n B dX0_deepIn_1 rfl hl 2 rfl ?_
  refine ax_iload_n B dX0_deepIn_2 rfl hl 3 rfl ?_
  refine ax_aload_n B dX0_deepIn_3 rfl hl 1 rfl ?_
  refine ax_iload_n B dX0_deepIn_4 rfl hl 2 rfl ?_
  refine ax_iload_n B dX0_deepIn_5 rfl hl 3 rfl ?_
  refine ax_ivI (y := yX2_owes) (n := 2) (As := [.int (Int32.ofInt x2), .int (Int32.ofInt x3)]) B kd2 (lw_V q507 q508 q509 q130 q510) (by decide +kernel) ⟨Nat.le_of_ble_eq_true rfl, Nat.le_of_ble_eq_true rfl⟩ (fun w1 e1 => mt_X2_owes l G hSF x1 x2 x3 _ w1 e1) rfl hl.size (by simp only [List.map_cons, List.map_nil, List.sum_cons, List.sum_nil, va_rf_cat, ax_catI, ax_catL]; decide) dX0_deepIn_6 e (fun q1 e => ?_)
  refine ax_iload B dX0_deepIn_9 hl 4 rfl ?_
  refine ax_iadd' B dX0_deepIn_11 ?_
  refine ax_aload_n B dX0_deepIn_12 rfl hl 1 rfl ?_
  refine ax_iload_n B dX0_deepIn_13 rfl hl 3 rfl ?_
  refine ax_iload_n B dX0_deepIn_14 rfl hl 2 rfl ?_
  refine ax_ivI (y := yX2_owes) (n := 2) (As := [.int (Int32.ofInt x3), .int (Int32.ofInt x2)]) B kd2 (lw_V q507 q508 q509 q130 q510) (by decide +kernel) ⟨Nat.le_of_ble_eq_true rfl, Nat.le_of_ble_eq_true rfl⟩ (fun w1 e1 => mt_X2_owes l G hSF x1 x3 x2 _ w1 e1) rfl hl.size (by simp only [List.map_cons, List.map_nil, List.sum_cons, List.sum_nil, va_rf_cat, ax_catI, ax_catL]; decide) dX0_deepIn_15 e (fun q2 e => ?_)
  refine ax_aload_n B dX0_deepIn_18 rfl hl 1 rfl ?_
  refine ax_getI B ff_X0_194_2 (fun _ _ => rfl) dX0_deepIn_19 e (fun v3 e => ?_)
  refine ax_ivI (y := yX0_deepBy) (n := 5) (As := [.int (Int32.ofInt x2), .int (Int32.ofInt x3), .int (Int32.ofInt (q1.1 + x4)), .int (Int32.ofInt q2.1), .int (Int32.ofInt v3)]) B kd0 (lw_V q1334 q1336 qs23 q125 q1337) (by decide +kernel) ⟨Nat.le_of_ble_eq_true rfl, Nat.le_of_ble_eq_true rfl⟩ (fun w1 e1 => mt_X0_deepBy l G hSF x0 x2 x3 (q1.1 + x4) q2.1 v3 _ w1 e1) rfl hl.size (by decide) dX0_deepIn_22 e (fun q4 e => ?_)
  have e8 := e
  have hp : Q = _ := hp
  subst hp
  exact ax_ireturn B Z dX0_deepIn_25 e8
theorem mt_X0_deepIn (l : Launch) (G : ax_G) (hSF : ax_SF G) (x0 : Option Nat) (x1 : Option Nat) (x2 : Int) (x3 : Int) (x4 : Int) (h : ax_H) (w : Int × ax_H) (e : f_X0_deepIn G.2.2 x0 x1 x2 x3 x4 h = some w) : ax_Met l G yX0_deepIn cX0_deepIn 5 ((some FieldType.int)) 139 3544 [va_rf x0, va_rf x1, .int (Int32.ofInt x2), .int (Int32.ofInt x3), .int (Int32.ofInt x4)] h w.2 (some (.int (Int32.ofInt w.1))) :=
  ax_enter [.inr (.inr x0), .inr (.inr x1), .inl x2, .inl x3, .inl x4] (y := yX0_deepIn) hSF (plainFor_of_name (by decide +kernel)) (Nat.le_of_ble_eq_true rfl) (fun X ls B Z hn hl => we_X0_deepIn hSF B Z hn x0 x1 x2 x3 x4 hl e rfl)
def dkwX0_deep_1 : List UInt8 := [172]
abbrev dktX0_deep_1 : List UInt8 := dkwX0_deep_1 ++ []
def dkwX0_deep_0 : List UInt8 := [42, 27, 28, 182, 0, 184, 153, 0, 17, 42, 42, 182, 0, 104, 27, 28, 3, 182, 1, 24, 167, 0, 4, 2]
abbrev dktX0_deep_0 : List UInt8 := dkwX0_deep_0 ++ dktX0_deep_1
theorem dksX0_deep_0 : cX0_deep.data.toList.drop 0 = dktX0_deep_0 := by decide +kernel
theorem dksX0_deep_1 : cX0_deep.data.toList.drop 24 = dktX0_deep_1 := dk_seg dksX0_deep_0 24 rfl rfl
theorem dX0_deep_0 : decode cX0_deep 0 = .ok (.aload_n 0, 1) := dk_42 (dk_at dksX0_deep_0 0 rfl rfl)
theorem dX0_deep_1 : decode cX0_deep 1 = .ok (.iload_n 1, 1) := dk_27 (dk_at dksX0_deep_0 1 rfl rfl)
theorem dX0_deep_2 : decode cX0_deep 2 = .ok (.iload_n 2, 1) := dk_28 (dk_at dksX0_deep_0 2 rfl rfl)
theorem dX0_deep_3 : decode cX0_deep 3 = .ok (.invokevirtual 184, 3) := dk_182 0 184 (dk_at dksX0_deep_0 3 rfl rfl)
theorem dX0_deep_6 : decode cX0_deep 6 = .ok (.ifCond .eq 17, 3) := dk_153 0 17 (dk_at dksX0_deep_0 6 rfl rfl)
theorem dX0_deep_9 : decode cX0_deep 9 = .ok (.aload_n 0, 1) := dk_42 (dk_at dksX0_deep_0 9 rfl rfl)
theorem dX0_deep_10 : decode cX0_deep 10 = .ok (.aload_n 0, 1) := dk_42 (dk_at dksX0_deep_0 10 rfl rfl)
theorem dX0_deep_11 : decode cX0_deep 11 = .ok (.invokevirtual 104, 3) := dk_182 0 104 (dk_at dksX0_deep_0 11 rfl rfl)
theorem dX0_deep_14 : decode cX0_deep 14 = .ok (.iload_n 1, 1) := dk_27 (dk_at dksX0_deep_0 14 rfl rfl)
theorem dX0_deep_15 : decode cX0_deep 15 = .ok (.iload_n 2, 1) := dk_28 (dk_at dksX0_deep_0 15 rfl rfl)
theorem dX0_deep_16 : decode cX0_deep 16 = .ok (.iconst 0, 1) := dk_3 (dk_at dksX0_deep_0 16 rfl rfl)
theorem dX0_deep_17 : decode cX0_deep 17 = .ok (.invokevirtual 280, 3) := dk_182 1 24 (dk_at dksX0_deep_0 17 rfl rfl)
theorem dX0_deep_20 : decode cX0_deep 20 = .ok (.goto 4, 3) := dk_167 0 4 (dk_at dksX0_deep_0 20 rfl rfl)
theorem dX0_deep_23 : decode cX0_deep 23 = .ok (.iconst (-1), 1) := dk_2 (dk_at dksX0_deep_0 23 rfl rfl)
theorem dX0_deep_24 : decode cX0_deep 24 = .ok (.ireturn, 1) := dk_172 (dk_at dksX0_deep_1 0 rfl rfl)
noncomputable def f_X0_deep (E : ax_E) (x0 : Option Nat) (x1 : Int) (x2 : Int) (h : ax_H) : Option (Int × ax_H) :=
  (ax_ce E h x0 0).bind fun _ => (f_X0_areTwo E x0 x1 x2 h).bind fun q1 =>
  if i2 q1.1 = 0 then
    some ((-1), q1.2)
  else
    (ax_ce E q1.2 x0 0).bind fun _ => (f_X0_books E x0 q1.2).bind fun q2 =>
    (ax_ce E q2.2 x0 0).bind fun _ => (f_X0_deepIn E x0 q2.1 x1 x2 0 q2.2).bind fun q3 =>
    some (q3.1, q3.2)
set_option maxHeartbeats 4000000 in
theorem we_X0_deep {l : Launch} {G : ax_G} {X : ax_X} {Q : State → Prop} {h0 h : ax_H} {ls : Array Slot} (hSF : ax_SF G) (B : ax_BL l G X cX0_deep 3 RX0 140 3568) (Z : ax_Z X h0 ((some FieldType.int))) (hn : X.2.2.2.2.2.2.2.2.1.name = yX0_deep.name) (x0 : Option Nat) (x1 : Int) (x2 : Int) {w : Int × ax_H} (hl : ax_hl ls 3 [(0, .inr (.inr x0)), (1, .inl x1), (2, .inl x2)]) (e : f_X0_deep G.2.2 x0 x1 x2 h = some w) (hp : (fun w : Int × ax_H => Q = ax_Q G X h0 w.2 (some (.int (Int32.ofInt w.1)))) w) : ax_W G X Q h 0 ls [] := by
  unfold f_X0_deep at e
  refine ax_aload_n B dX0_deep_0 rfl hl 0 rfl ?_
  refine ax_iload_n B dX0_deep_1 rfl hl 1 rfl ?_
  refine ax_iload_n B dX0_deep_2 rfl hl 2 rfl ?_
  refine ax_ivI (y := yX0_areTwo) (n := 2) (As := [.int (Int32.ofInt x1), .int (Int32.ofInt x2)]) B kd0 (lw_V q609 q566 qs13 q125 q567) (by decide +kernel) ⟨Nat.le_of_ble_eq_true rfl, Nat.le_of_ble_eq_true rfl⟩ (fun w1 e1 => mt_X0_areTwo l G hSF x0 x1 x2 _ w1 e1) rfl hl.size (by decide) dX0_deep_3 e (fun q1 e => ?_)
  refine ax_if_eq (tgt := 23) B dX0_deep_6 (by decide) e (fun e => ?_) (fun e => ?_)
  · refine ax_iconst B dX0_deep_23 ?_
    have e8 := e
    have hp : Q = _ := hp
    subst hp
    exact ax_ireturn B Z dX0_deep_24 e8
  · refine ax_aload_n B dX0_deep_9 rfl hl 0 rfl ?_
    refine ax_aload_n B dX0_deep_10 rfl hl 0 rfl ?_
    refine ax_ivR (y := yX0_books) (n := 0) (As := []) B kd0 (lw_V q443 q445 qs2 q125 q446) (by decide +kernel) ⟨Nat.le_of_ble_eq_true rfl, Nat.le_of_ble_eq_true rfl⟩ (fun w1 e1 => mt_X0_books l G hSF x0 _ w1 e1) rfl hl.size (by simp only [List.map_cons, List.map_nil, List.sum_cons, List.sum_nil, va_rf_cat, ax_catI, ax_catL]; decide) dX0_deep_11 e (fun q2 e => ?_)
    refine ax_iload_n B dX0_deep_14 rfl hl 1 rfl ?_
    refine ax_iload_n B dX0_deep_15 rfl hl 2 rfl ?_
    refine ax_iconst B dX0_deep_16 ?_
    refine ax_ivI (y := yX0_deepIn) (n := 4) (As := [va_rf q2.1, .int (Int32.ofInt x1), .int (Int32.ofInt x2), .int (Int32.ofInt 0)]) B kd0 (lw_V q1330 q1332 qs22 q125 q1333) (by decide +kernel) ⟨Nat.le_of_ble_eq_true rfl, Nat.le_of_ble_eq_true rfl⟩ (fun w1 e1 => mt_X0_deepIn l G hSF x0 q2.1 x1 x2 0 _ w1 e1) rfl hl.size (by decide) dX0_deep_17 e (fun q3 e => ?_)
    refine ax_goto (tgt := 24) B dX0_deep_20 (by decide) ?_
    have e8 := e
    have hp : Q = _ := hp
    subst hp
    exact ax_ireturn B Z dX0_deep_24 e8
theorem mt_X0_deep (l : Launch) (G : ax_G) (hSF : ax_SF G) (x0 : Option Nat) (x1 : Int) (x2 : Int) (h : ax_H) (w : Int × ax_H) (e : f_X0_deep G.2.2 x0 x1 x2 h = some w) : ax_Met l G yX0_deep cX0_deep 3 ((some FieldType.int)) 140 3568 [va_rf x0, .int (Int32.ofInt x1), .int (Int32.ofInt x2)] h w.2 (some (.int (Int32.ofInt w.1))) :=
  ax_enter [.inr (.inr x0), .inl x1, .inl x2] (y := yX0_deep) hSF (plainFor_of_name (by decide +kernel)) (Nat.le_of_ble_eq_true rfl) (fun X ls B Z hn hl => we_X0_deep hSF B Z hn x0 x1 x2 hl e rfl)
def dkwX0_doorsOf_2 : List UInt8 := [132, 4, 1, 167, 255, 212, 29, 172]
abbrev dktX0_doorsOf_2 : List UInt8 := dkwX0_doorsOf_2 ++ []
def dkwX0_doorsOf_1 : List UInt8 := [42, 43, 21, 4, 28, 3, 182, 1, 24, 158, 0, 10, 4, 21, 4, 120, 167, 0, 4, 3, 128, 62]
abbrev dktX0_doorsOf_1 : List UInt8 := dkwX0_doorsOf_1 ++ dktX0_doorsOf_2
def dkwX0_doorsOf_0 : List UInt8 := [3, 62, 3, 54, 4, 21, 4, 42, 180, 0, 20, 180, 0, 101, 162, 0, 38, 29, 21, 4, 28, 159, 0, 22]
abbrev dktX0_doorsOf_0 : List UInt8 := dkwX0_doorsOf_0 ++ dktX0_doorsOf_1
theorem dksX0_doorsOf_0 : cX0_doorsOf.data.toList.drop 0 = dktX0_doorsOf_0 := by decide +kernel
theorem dksX0_doorsOf_1 : cX0_doorsOf.data.toList.drop 24 = dktX0_doorsOf_1 := dk_seg dksX0_doorsOf_0 24 rfl rfl
theorem dksX0_doorsOf_2 : cX0_doorsOf.data.toList.drop 46 = dktX0_doorsOf_2 := dk_seg dksX0_doorsOf_1 22 rfl rfl
theorem dX0_doorsOf_0 : decode cX0_doorsOf 0 = .ok (.iconst 0, 1) := dk_3 (dk_at dksX0_doorsOf_0 0 rfl rfl)
theorem dX0_doorsOf_1 : decode cX0_doorsOf 1 = .ok (.istore_n 3, 1) := dk_62 (dk_at dksX0_doorsOf_0 1 rfl rfl)
theorem dX0_doorsOf_2 : decode cX0_doorsOf 2 = .ok (.iconst 0, 1) := dk_3 (dk_at dksX0_doorsOf_0 2 rfl rfl)
theorem dX0_doorsOf_3 : decode cX0_doorsOf 3 = .ok (.istore 4, 2) := dk_54 4 (dk_at dksX0_doorsOf_0 3 rfl rfl)
theorem dX0_doorsOf_5 : decode cX0_doorsOf 5 = .ok (.iload 4, 2) := dk_21 4 (dk_at dksX0_doorsOf_0 5 rfl rfl)
theorem dX0_doorsOf_7 : decode cX0_doorsOf 7 = .ok (.aload_n 0, 1) := dk_42 (dk_at dksX0_doorsOf_0 7 rfl rfl)
theorem dX0_doorsOf_8 : decode cX0_doorsOf 8 = .ok (.getfield 20, 3) := dk_180 0 20 (dk_at dksX0_doorsOf_0 8 rfl rfl)
theorem dX0_doorsOf_11 : decode cX0_doorsOf 11 = .ok (.getfield 101, 3) := dk_180 0 101 (dk_at dksX0_doorsOf_0 11 rfl rfl)
theorem dX0_doorsOf_14 : decode cX0_doorsOf 14 = .ok (.if_icmp .ge 38, 3) := dk_162 0 38 (dk_at dksX0_doorsOf_0 14 rfl rfl)
theorem dX0_doorsOf_17 : decode cX0_doorsOf 17 = .ok (.iload_n 3, 1) := dk_29 (dk_at dksX0_doorsOf_0 17 rfl rfl)
theorem dX0_doorsOf_18 : decode cX0_doorsOf 18 = .ok (.iload 4, 2) := dk_21 4 (dk_at dksX0_doorsOf_0 18 rfl rfl)
theorem dX0_doorsOf_20 : decode cX0_doorsOf 20 = .ok (.iload_n 2, 1) := dk_28 (dk_at dksX0_doorsOf_0 20 rfl rfl)
theorem dX0_doorsOf_21 : decode cX0_doorsOf 21 = .ok (.if_icmp .eq 22, 3) := dk_159 0 22 (dk_at dksX0_doorsOf_0 21 rfl rfl)
theorem dX0_doorsOf_24 : decode cX0_doorsOf 24 = .ok (.aload_n 0, 1) := dk_42 (dk_at dksX0_doorsOf_1 0 rfl rfl)
theorem dX0_doorsOf_25 : decode cX0_doorsOf 25 = .ok (.aload_n 1, 1) := dk_43 (dk_at dksX0_doorsOf_1 1 rfl rfl)
theorem dX0_doorsOf_26 : decode cX0_doorsOf 26 = .ok (.iload 4, 2) := dk_21 4 (dk_at dksX0_doorsOf_1 2 rfl rfl)
theorem dX0_doorsOf_28 : decode cX0_doorsOf 28 = .ok (.iload_n 2, 1) := dk_28 (dk_at dksX0_doorsOf_1 4 rfl rfl)
theorem dX0_doorsOf_29 : decode cX0_doorsOf 29 = .ok (.iconst 0, 1) := dk_3 (dk_at dksX0_doorsOf_1 5 rfl rfl)
theorem dX0_doorsOf_30 : decode cX0_doorsOf 30 = .ok (.invokevirtual 280, 3) := dk_182 1 24 (dk_at dksX0_doorsOf_1 6 rfl rfl)
theorem dX0_doorsOf_33 : decode cX0_doorsOf 33 = .ok (.ifCond .le 10, 3) := dk_158 0 10 (dk_at dksX0_doorsOf_1 9 rfl rfl)
theorem dX0_doorsOf_36 : decode cX0_doorsOf 36 = .ok (.iconst 1, 1) := dk_4 (dk_at dksX0_doorsOf_1 12 rfl rfl)
theorem dX0_doorsOf_37 : decode cX0_doorsOf 37 = .ok (.iload 4, 2) := dk_21 4 (dk_at dksX0_doorsOf_1 13 rfl rfl)
theorem dX0_doorsOf_39 : decode cX0_doorsOf 39 = .ok (.ishl, 1) := dk_120 (dk_at dksX0_doorsOf_1 15 rfl rfl)
theorem dX0_doorsOf_40 : decode cX0_doorsOf 40 = .ok (.goto 4, 3) := dk_167 0 4 (dk_at dksX0_doorsOf_1 16 rfl rfl)
theorem dX0_doorsOf_43 : decode cX0_doorsOf 43 = .ok (.iconst 0, 1) := dk_3 (dk_at dksX0_doorsOf_1 19 rfl rfl)
theorem dX0_doorsOf_44 : decode cX0_doorsOf 44 = .ok (.ior, 1) := dk_128 (dk_at dksX0_doorsOf_1 20 rfl rfl)
theorem dX0_doorsOf_45 : decode cX0_doorsOf 45 = .ok (.istore_n 3, 1) := dk_62 (dk_at dksX0_doorsOf_1 21 rfl rfl)
theorem dX0_doorsOf_46 : decode cX0_doorsOf 46 = .ok (.iinc 4 1, 3) := dk_132 4 1 (dk_at dksX0_doorsOf_2 0 rfl rfl)
theorem dX0_doorsOf_49 : decode cX0_doorsOf 49 = .ok (.goto (-44), 3) := dk_167 255 212 (dk_at dksX0_doorsOf_2 3 rfl rfl)
theorem dX0_doorsOf_52 : decode cX0_doorsOf 52 = .ok (.iload_n 3, 1) := dk_29 (dk_at dksX0_doorsOf_2 6 rfl rfl)
theorem dX0_doorsOf_53 : decode cX0_doorsOf 53 = .ok (.ireturn, 1) := dk_172 (dk_at dksX0_doorsOf_2 7 rfl rfl)
noncomputable def f_X0_doorsOf_44 (E : ax_E) (x0 : Option Nat) (x1 : Option Nat) (x2 : Int) (x4 : Int) (s0 : Int) (s1 : Int) (h : ax_H) : Option ((Int × Int × ax_H) ⊕ (Int × ax_H)) :=
  some (.inl ((ax_or s0 s1), (x4 + 1), h))
noncomputable def f_X0_doorsOf_43 (E : ax_E) (x0 : Option Nat) (x1 : Option Nat) (x2 : Int) (x4 : Int) (s0 : Int) (h : ax_H) : Option ((Int × Int × ax_H) ⊕ (Int × ax_H)) :=
  f_X0_doorsOf_44 E x0 x1 x2 x4 s0 0 h
noncomputable def lb_X0_doorsOf_5 (E : ax_E) (x0 : Option Nat) (x1 : Option Nat) (x2 : Int) (x3 : Int) (x4 : Int) (h : ax_H) : Option ((Int × Int × ax_H) ⊕ (Int × ax_H)) :=
  (ax_gR E h x0 0 0).bind fun v1 =>
  (ax_gI E h v1 1 6).bind fun v2 =>
  if i2 x4 < i2 v2 then
    if i2 x4 = i2 x2 then
      f_X0_doorsOf_43 E x0 x1 x2 x4 x3 h
    else
      (ax_ce E h x0 0).bind fun _ => (f_X0_deepIn E x0 x1 x4 x2 0 h).bind fun q3 =>
      if 0 < i2 q3.1 then
        f_X0_doorsOf_44 E x0 x1 x2 x4 x3 (ax_shl 1 x4) q3.2
      else
        f_X0_doorsOf_43 E x0 x1 x2 x4 x3 q3.2
  else
    (some (x3, h)).map Sum.inr
noncomputable def f_X0_doorsOf_5 (E : ax_E) (x0 : Option Nat) (x1 : Option Nat) (x2 : Int) (x3 : Int) (x4 : Int) (h : ax_H) : Option (Int × ax_H) :=
  ax_iter (fun s : Int × Int × ax_H => lb_X0_doorsOf_5 E x0 x1 x2 s.1 s.2.1 s.2.2) (x3, x4, h)
noncomputable def f_X0_doorsOf (E : ax_E) (x0 : Option Nat) (x1 : Option Nat) (x2 : Int) (h : ax_H) : Option (Int × ax_H) :=
  f_X0_doorsOf_5 E x0 x1 x2 0 0 h
def pi_X0_doorsOf_5 (G : ax_G) (X : ax_X) (Q : State → Prop) (x0 : Option Nat) (x1 : Option Nat) (x2 : Int) : Int × Int × ax_H → Prop := fun s => ∀ ls : Array Slot, ax_hl ls 5 [(0, .inr (.inr x0)), (1, .inr (.inr x1)), (2, .inl x2), (3, .inl s.1), (4, .inl s.2.1)] → ax_W G X Q s.2.2 5 ls []
set_option maxHeartbeats 4000000 in
theorem w_X0_doorsOf_44 {l : Launch} {G : ax_G} {X : ax_X} {Q : State → Prop} {h0 h : ax_H} {ls : Array Slot} (hSF : ax_SF G) (B : ax_BL l G X cX0_doorsOf 5 RX0 140 3568) (Z : ax_Z X h0 ((some FieldType.int))) (hn : X.2.2.2.2.2.2.2.2.1.name = yX0_doorsOf.name) (x0 : Option Nat) (x1 : Option Nat) (x2 : Int) (x4 : Int) (s0 : Int) (s1 : Int) {w : (Int × Int × ax_H) ⊕ (Int × ax_H)} (hl : ax_hl ls 5 [(0, .inr (.inr x0)), (1, .inr (.inr x1)), (2, .inl x2), (4, .inl x4)]) (e : f_X0_doorsOf_44 G.2.2 x0 x1 x2 x4 s0 s1 h = some w) (hp : (ax_PL (pi_X0_doorsOf_5 G X Q x0 x1 x2) (fun w : Int × ax_H => Q = ax_Q G X h0 w.2 (some (.int (Int32.ofInt w.1))))) w) : ax_W G X Q h 44 ls [.int (Int32.ofInt s1), .int (Int32.ofInt s0)] := by
  unfold f_X0_doorsOf_44 at e
  refine ax_ior' B dX0_doorsOf_44 ?_
  refine ax_istore_n (L' := [(3, .inl (ax_or s0 s1)), (0, .inr (.inr x0)), (1, .inr (.inr x1)), (2, .inl x2), (4, .inl x4)]) B dX0_doorsOf_45 rfl hl (by decide) rfl (fun ls hl => ?_)
  refine ax_iinc (L' := [(4, .inl (x4 + 1)), (3, .inl (ax_or s0 s1)), (0, .inr (.inr x0)), (1, .inr (.inr x1)), (2, .inl x2)]) B dX0_doorsOf_46 hl 4 rfl (by decide) rfl (fun ls hl => ?_)
  refine ax_goto (tgt := 5) B dX0_doorsOf_49 (by decide) ?_
  cases e
  exact hp _ (hl.sub [2, 3, 4, 1, 0] rfl)
set_option maxHeartbeats 4000000 in
theorem w_X0_doorsOf_43 {l : Launch} {G : ax_G} {X : ax_X} {Q : State → Prop} {h0 h : ax_H} {ls : Array Slot} (hSF : ax_SF G) (B : ax_BL l G X cX0_doorsOf 5 RX0 140 3568) (Z : ax_Z X h0 ((some FieldType.int))) (hn : X.2.2.2.2.2.2.2.2.1.name = yX0_doorsOf.name) (x0 : Option Nat) (x1 : Option Nat) (x2 : Int) (x4 : Int) (s0 : Int) {w : (Int × Int × ax_H) ⊕ (Int × ax_H)} (hl : ax_hl ls 5 [(0, .inr (.inr x0)), (1, .inr (.inr x1)), (2, .inl x2), (4, .inl x4)]) (e : f_X0_doorsOf_43 G.2.2 x0 x1 x2 x4 s0 h = some w) (hp : (ax_PL (pi_X0_doorsOf_5 G X Q x0 x1 x2) (fun w : Int × ax_H => Q = ax_Q G X h0 w.2 (some (.int (Int32.ofInt w.1))))) w) : ax_W G X Q h 43 ls [.int (Int32.ofInt s0)] := by
  unfold f_X0_doorsOf_43 at e
  refine ax_iconst B dX0_doorsOf_43 ?_
  exact w_X0_doorsOf_44 hSF B Z hn x0 x1 x2 x4 s0 0 (hl.sub [0, 1, 2, 3] rfl) e hp
set_option maxHeartbeats 4000000 in
theorem wb_X0_doorsOf_5 {l : Launch} {G : ax_G} {X : ax_X} {Q : State → Prop} {h0 h : ax_H} {ls : Array Slot} (hSF : ax_SF G) (B : ax_BL l G X cX0_doorsOf 5 RX0 140 3568) (Z : ax_Z X h0 ((some FieldType.int))) (hn : X.2.2.2.2.2.2.2.2.1.name = yX0_doorsOf.name) (x0 : Option Nat) (x1 : Option Nat) (x2 : Int) (x3 : Int) (x4 : Int) {w : (Int × Int × ax_H) ⊕ (Int × ax_H)} (hl : ax_hl ls 5 [(0, .inr (.inr x0)), (1, .inr (.inr x1)), (2, .inl x2), (3, .inl x3), (4, .inl x4)]) (e : lb_X0_doorsOf_5 G.2.2 x0 x1 x2 x3 x4 h = some w) (hp : (ax_PL (pi_X0_doorsOf_5 G X Q x0 x1 x2) (fun w : Int × ax_H => Q = ax_Q G X h0 w.2 (some (.int (Int32.ofInt w.1))))) w) : ax_W G X Q h 5 ls [] := by
  unfold lb_X0_doorsOf_5 at e
  refine ax_iload B dX0_doorsOf_5 hl 4 rfl ?_
  refine ax_aload_n B dX0_doorsOf_7 rfl hl 0 rfl ?_
  refine ax_getR B ff_X0_20_0 (fun _ _ => rfl) dX0_doorsOf_8 e (fun v1 e => ?_)
  refine ax_getI B ff_X0_101_1 (fun _ _ => rfl) dX0_doorsOf_11 e (fun v2 e => ?_)
  refine ax_icmp_ge (tgt := 52) B dX0_doorsOf_14 (by decide) e (fun e => ?_) (fun e => ?_)
  · refine ax_iload_n B dX0_doorsOf_17 rfl hl 3 rfl ?_
    refine ax_iload B dX0_doorsOf_18 hl 4 rfl ?_
    refine ax_iload_n B dX0_doorsOf_20 rfl hl 2 rfl ?_
    refine ax_icmp_eq (tgt := 43) B dX0_doorsOf_21 (by decide) e (fun e => ?_) (fun e => ?_)
    · exact w_X0_doorsOf_43 hSF B Z hn x0 x1 x2 x4 x3 (hl.sub [0, 1, 2, 4] rfl) e hp
    · refine ax_aload_n B dX0_doorsOf_24 rfl hl 0 rfl ?_
      refine ax_aload_n B dX0_doorsOf_25 rfl hl 1 rfl ?_
      refine ax_iload B dX0_doorsOf_26 hl 4 rfl ?_
      refine ax_iload_n B dX0_doorsOf_28 rfl hl 2 rfl ?_
      refine ax_iconst B dX0_doorsOf_29 ?_
      refine ax_ivI (y := yX0_deepIn) (n := 4) (As := [va_rf x1, .int (Int32.ofInt x4), .int (Int32.ofInt x2), .int (Int32.ofInt 0)]) B kd0 (lw_V q1330 q1332 qs22 q125 q1333) (by decide +kernel) ⟨Nat.le_of_ble_eq_true rfl, Nat.le_of_ble_eq_true rfl⟩ (fun w1 e1 => mt_X0_deepIn l G hSF x0 x1 x4 x2 0 _ w1 e1) rfl hl.size (by simp only [List.map_cons, List.map_nil, List.sum_cons, List.sum_nil, va_rf_cat, ax_catI, ax_catL]; decide) dX0_doorsOf_30 e (fun q3 e => ?_)
      refine ax_if_le (tgt := 43) B dX0_doorsOf_33 (by decide) e (fun e => ?_) (fun e => ?_)
      · refine ax_iconst B dX0_doorsOf_36 ?_
        refine ax_iload B dX0_doorsOf_37 hl 4 rfl ?_
        refine ax_ishl' B dX0_doorsOf_39 ?_
        refine ax_goto (tgt := 44) B dX0_doorsOf_40 (by decide) ?_
        exact w_X0_doorsOf_44 hSF B Z hn x0 x1 x2 x4 x3 (ax_shl 1 x4) (hl.sub [0, 1, 2, 4] rfl) e hp
      · exact w_X0_doorsOf_43 hSF B Z hn x0 x1 x2 x4 x3 (hl.sub [0, 1, 2, 4] rfl) e hp
  · obtain ⟨w, e9_1, rfl⟩ := Option.map_eq_some_iff.mp e
    have e := e9_1
    refine ax_iload_n B dX0_doorsOf_52 rfl hl 3 rfl ?_
    have e8 := e
    have hp : Q = _ := hp
    subst hp
    exact ax_ireturn B Z dX0_doorsOf_53 e8
theorem w_X0_doorsOf_5 {l : Launch} {G : ax_G} {X : ax_X} {Q : State → Prop} {h0 h : ax_H} {ls : Array Slot} (hSF : ax_SF G) (B : ax_BL l G X cX0_doorsOf 5 RX0 140 3568) (Z : ax_Z X h0 ((some FieldType.int))) (hn : X.2.2.2.2.2.2.2.2.1.name = yX0_doorsOf.name) (x0 : Option Nat) (x1 : Option Nat) (x2 : Int) (x3 : Int) (x4 : Int) {w : Int × ax_H} (hl : ax_hl ls 5 [(0, .inr (.inr x0)), (1, .inr (.inr x1)), (2, .inl x2), (3, .inl x3), (4, .inl x4)]) (e : f_X0_doorsOf_5 G.2.2 x0 x1 x2 x3 x4 h = some w) (hp : (fun w : Int × ax_H => Q = ax_Q G X h0 w.2 (some (.int (Int32.ofInt w.1)))) w) : ax_W G X Q h 5 ls [] :=
  ax_iter_W (Pin := pi_X0_doorsOf_5 G X Q x0 x1 x2) (Pout := (fun w : Int × ax_H => Q = ax_Q G X h0 w.2 (some (.int (Int32.ofInt w.1))))) (fun s w e hp ls hl => wb_X0_doorsOf_5 hSF B Z hn x0 x1 x2 s.1 s.2.1 hl e hp) _ _ e hp ls hl
set_option maxHeartbeats 4000000 in
theorem we_X0_doorsOf {l : Launch} {G : ax_G} {X : ax_X} {Q : State → Prop} {h0 h : ax_H} {ls : Array Slot} (hSF : ax_SF G) (B : ax_BL l G X cX0_doorsOf 5 RX0 140 3568) (Z : ax_Z X h0 ((some FieldType.int))) (hn : X.2.2.2.2.2.2.2.2.1.name = yX0_doorsOf.name) (x0 : Option Nat) (x1 : Option Nat) (x2 : Int) {w : Int × ax_H} (hl : ax_hl ls 5 [(0, .inr (.inr x0)), (1, .inr (.inr x1)), (2, .inl x2)]) (e : f_X0_doorsOf G.2.2 x0 x1 x2 h = some w) (hp : (fun w : Int × ax_H => Q = ax_Q G X h0 w.2 (some (.int (Int32.ofInt w.1)))) w) : ax_W G X Q h 0 ls [] := by
  unfold f_X0_doorsOf at e
  refine ax_iconst B dX0_doorsOf_0 ?_
  refine ax_istore_n (L' := [(3, .inl 0), (0, .inr (.inr x0)), (1, .inr (.inr x1)), (2, .inl x2)]) B dX0_doorsOf_1 rfl hl (by decide) rfl (fun ls hl => ?_)
  refine ax_iconst B dX0_doorsOf_2 ?_
  refine ax_istore (L' := [(4, .inl 0), (3, .inl 0), (0, .inr (.inr x0)), (1, .inr (.inr x1)), (2, .inl x2)]) B dX0_doorsOf_3 hl (by decide) rfl (fun ls hl => ?_)
  exact w_X0_doorsOf_5 hSF B Z hn x0 x1 x2 0 0 (hl.sub [2, 3, 4, 1, 0] rfl) e hp
theorem mt_X0_doorsOf (l : Launch) (G : ax_G) (hSF : ax_SF G) (x0 : Option Nat) (x1 : Option Nat) (x2 : Int) (h : ax_H) (w : Int × ax_H) (e : f_X0_doorsOf G.2.2 x0 x1 x2 h = some w) : ax_Met l G yX0_doorsOf cX0_doorsOf 5 ((some FieldType.int)) 140 3568 [va_rf x0, va_rf x1, .int (Int32.ofInt x2)] h w.2 (some (.int (Int32.ofInt w.1))) :=
  ax_enter [.inr (.inr x0), .inr (.inr x1), .inl x2] (y := yX0_doorsOf) hSF (plainFor_of_name (by decide +kernel)) (Nat.le_of_ble_eq_true rfl) (fun X ls B Z hn hl => we_X0_doorsOf hSF B Z hn x0 x1 x2 hl e rfl)
def dkwX0_doors_0 : List UInt8 := [42, 27, 182, 0, 110, 153, 0, 15, 42, 42, 182, 0, 104, 27, 182, 1, 28, 167, 0, 4, 2, 172]
abbrev dktX0_doors_0 : List UInt8 := dkwX0_doors_0 ++ []
theorem dksX0_doors_0 : cX0_doors.data.toList.drop 0 = dktX0_doors_0 := by decide +kernel
theorem dX0_doors_0 : decode cX0_doors 0 = .ok (.aload_n 0, 1) := dk_42 (dk_at dksX0_doors_0 0 rfl rfl)
theorem dX0_doors_1 : decode cX0_doors 1 = .ok (.iload_n 1, 1) := dk_27 (dk_at dksX0_doors_0 1 rfl rfl)
theorem dX0_doors_2 : decode cX0_doors 2 = .ok (.invokevirtual 110, 3) := dk_182 0 110 (dk_at dksX0_doors_0 2 rfl rfl)
theorem dX0_doors_5 : decode cX0_doors 5 = .ok (.ifCond .eq 15, 3) := dk_153 0 15 (dk_at dksX0_doors_0 5 rfl rfl)
theorem dX0_doors_8 : decode cX0_doors 8 = .ok (.aload_n 0, 1) := dk_42 (dk_at dksX0_doors_0 8 rfl rfl)
theorem dX0_doors_9 : decode cX0_doors 9 = .ok (.aload_n 0, 1) := dk_42 (dk_at dksX0_doors_0 9 rfl rfl)
theorem dX0_doors_10 : decode cX0_doors 10 = .ok (.invokevirtual 104, 3) := dk_182 0 104 (dk_at dksX0_doors_0 10 rfl rfl)
theorem dX0_doors_13 : decode cX0_doors 13 = .ok (.iload_n 1, 1) := dk_27 (dk_at dksX0_doors_0 13 rfl rfl)
theorem dX0_doors_14 : decode cX0_doors 14 = .ok (.invokevirtual 284, 3) := dk_182 1 28 (dk_at dksX0_doors_0 14 rfl rfl)
theorem dX0_doors_17 : decode cX0_doors 17 = .ok (.goto 4, 3) := dk_167 0 4 (dk_at dksX0_doors_0 17 rfl rfl)
theorem dX0_doors_20 : decode cX0_doors 20 = .ok (.iconst (-1), 1) := dk_2 (dk_at dksX0_doors_0 20 rfl rfl)
theorem dX0_doors_21 : decode cX0_doors 21 = .ok (.ireturn, 1) := dk_172 (dk_at dksX0_doors_0 21 rfl rfl)
noncomputable def f_X0_doors (E : ax_E) (x0 : Option Nat) (x1 : Int) (h : ax_H) : Option (Int × ax_H) :=
  (ax_ce E h x0 0).bind fun _ => (f_X0_isPerson E x0 x1 h).bind fun q1 =>
  if i2 q1.1 = 0 then
    some ((-1), q1.2)
  else
    (ax_ce E q1.2 x0 0).bind fun _ => (f_X0_books E x0 q1.2).bind fun q2 =>
    (ax_ce E q2.2 x0 0).bind fun _ => (f_X0_doorsOf E x0 q2.1 x1 q2.2).bind fun q3 =>
    some (q3.1, q3.2)
set_option maxHeartbeats 4000000 in
theorem we_X0_doors {l : Launch} {G : ax_G} {X : ax_X} {Q : State → Prop} {h0 h : ax_H} {ls : Array Slot} (hSF : ax_SF G) (B : ax_BL l G X cX0_doors 2 RX0 141 3592) (Z : ax_Z X h0 ((some FieldType.int))) (hn : X.2.2.2.2.2.2.2.2.1.name = yX0_doors.name) (x0 : Option Nat) (x1 : Int) {w : Int × ax_H} (hl : ax_hl ls 2 [(0, .inr (.inr x0)), (1, .inl x1)]) (e : f_X0_doors G.2.2 x0 x1 h = some w) (hp : (fun w : Int × ax_H => Q = ax_Q G X h0 w.2 (some (.int (Int32.ofInt w.1)))) w) : ax_W G X Q h 0 ls [] := by
  unfold f_X0_doors at e
  refine ax_aload_n B dX0_doors_0 rfl hl 0 rfl ?_
  refine ax_iload_n B dX0_doors_1 rfl hl 1 rfl ?_
  refine ax_ivI (y := yX0_isPerson) (n := 1) (As := [.int (Int32.ofInt x1)]) B kd0 (lw_V q459 q461 qs4 q125 q462) (by decide +kernel) ⟨Nat.le_of_ble_eq_true rfl, Nat.le_of_ble_eq_true rfl⟩ (fun w1 e1 => mt_X0_isPerson l G hSF x0 x1 _ w1 e1) rfl hl.size (by decide) dX0_doors_2 e (fun q1 e => ?_)
  refine ax_if_eq (tgt := 20) B dX0_doors_5 (by decide) e (fun e => ?_) (fun e => ?_)
  · refine ax_iconst B dX0_doors_20 ?_
    have e8 := e
    have hp : Q = _ := hp
    subst hp
    exact ax_ireturn B Z dX0_doors_21 e8
  · refine ax_aload_n B dX0_doors_8 rfl hl 0 rfl ?_
    refine ax_aload_n B dX0_doors_9 rfl hl 0 rfl ?_
    refine ax_ivR (y := yX0_books) (n := 0) (As := []) B kd0 (lw_V q443 q445 qs2 q125 q446) (by decide +kernel) ⟨Nat.le_of_ble_eq_true rfl, Nat.le_of_ble_eq_true rfl⟩ (fun w1 e1 => mt_X0_books l G hSF x0 _ w1 e1) rfl hl.size (by simp only [List.map_cons, List.map_nil, List.sum_cons, List.sum_nil, va_rf_cat, ax_catI, ax_catL]; decide) dX0_doors_10 e (fun q2 e => ?_)
    refine ax_iload_n B dX0_doors_13 rfl hl 1 rfl ?_
    refine ax_ivI (y := yX0_doorsOf) (n := 2) (As := [va_rf q2.1, .int (Int32.ofInt x1)]) B kd0 (lw_V q1346 q1348 qs24 q125 q1349) (by decide +kernel) ⟨Nat.le_of_ble_eq_true rfl, Nat.le_of_ble_eq_true rfl⟩ (fun w1 e1 => mt_X0_doorsOf l G hSF x0 q2.1 x1 _ w1 e1) rfl hl.size (by decide) dX0_doors_14 e (fun q3 e => ?_)
    refine ax_goto (tgt := 21) B dX0_doors_17 (by decide) ?_
    have e8 := e
    have hp : Q = _ := hp
    subst hp
    exact ax_ireturn B Z dX0_doors_21 e8
theorem mt_X0_doors (l : Launch) (G : ax_G) (hSF : ax_SF G) (x0 : Option Nat) (x1 : Int) (h : ax_H) (w : Int × ax_H) (e : f_X0_doors G.2.2 x0 x1 h = some w) : ax_Met l G yX0_doors cX0_doors 2 ((some FieldType.int)) 141 3592 [va_rf x0, .int (Int32.ofInt x1)] h w.2 (some (.int (Int32.ofInt w.1))) :=
  ax_enter [.inr (.inr x0), .inl x1] (y := yX0_doors) hSF (plainFor_of_name (by decide +kernel)) (Nat.le_of_ble_eq_true rfl) (fun X ls B Z hn hl => we_X0_doors hSF B Z hn x0 x1 hl e rfl)
def dkwX2_canPay_1 : List UInt8 := [4, 167, 0, 4, 3, 172]
abbrev dktX2_canPay_1 : List UInt8 := dkwX2_canPay_1 ++ []
def dkwX2_canPay_0 : List UInt8 := [42, 180, 0, 9, 27, 46, 29, 161, 0, 21, 42, 180, 0, 9, 28, 46, 29, 96, 17, 39, 15, 163, 0, 7]
abbrev dktX2_canPay_0 : List UInt8 := dkwX2_canPay_0 ++ dktX2_canPay_1
theorem dksX2_canPay_0 : cX2_canPay.data.toList.drop 0 = dktX2_canPay_0 := by decide +kernel
theorem dksX2_canPay_1 : cX2_canPay.data.toList.drop 24 = dktX2_canPay_1 := dk_seg dksX2_canPay_0 24 rfl rfl
theorem dX2_canPay_0 : decode cX2_canPay 0 = .ok (.aload_n 0, 1) := dk_42 (dk_at dksX2_canPay_0 0 rfl rfl)
theorem dX2_canPay_1 : decode cX2_canPay 1 = .ok (.getfield 9, 3) := dk_180 0 9 (dk_at dksX2_canPay_0 1 rfl rfl)
theorem dX2_canPay_4 : decode cX2_canPay 4 = .ok (.iload_n 1, 1) := dk_27 (dk_at dksX2_canPay_0 4 rfl rfl)
theorem dX2_canPay_5 : decode cX2_canPay 5 = .ok (.iaload, 1) := dk_46 (dk_at dksX2_canPay_0 5 rfl rfl)
theorem dX2_canPay_6 : decode cX2_canPay 6 = .ok (.iload_n 3, 1) := dk_29 (dk_at dksX2_canPay_0 6 rfl rfl)
theorem dX2_canPay_7 : decode cX2_canPay 7 = .ok (.if_icmp .lt 21, 3) := dk_161 0 21 (dk_at dksX2_canPay_0 7 rfl rfl)
theorem dX2_canPay_10 : decode cX2_canPay 10 = .ok (.aload_n 0, 1) := dk_42 (dk_at dksX2_canPay_0 10 rfl rfl)
theorem dX2_canPay_11 : decode cX2_canPay 11 = .ok (.getfield 9, 3) := dk_180 0 9 (dk_at dksX2_canPay_0 11 rfl rfl)
theorem dX2_canPay_14 : decode cX2_canPay 14 = .ok (.iload_n 2, 1) := dk_28 (dk_at dksX2_canPay_0 14 rfl rfl)
theorem dX2_canPay_15 : decode cX2_canPay 15 = .ok (.iaload, 1) := dk_46 (dk_at dksX2_canPay_0 15 rfl rfl)
theorem dX2_canPay_16 : decode cX2_canPay 16 = .ok (.iload_n 3, 1) := dk_29 (dk_at dksX2_canPay_0 16 rfl rfl)
theorem dX2_canPay_17 : decode cX2_canPay 17 = .ok (.iadd, 1) := dk_96 (dk_at dksX2_canPay_0 17 rfl rfl)
theorem dX2_canPay_18 : decode cX2_canPay 18 = .ok (.sipush 9999, 3) := dk_17 39 15 (dk_at dksX2_canPay_0 18 rfl rfl)
theorem dX2_canPay_21 : decode cX2_canPay 21 = .ok (.if_icmp .gt 7, 3) := dk_163 0 7 (dk_at dksX2_canPay_0 21 rfl rfl)
theorem dX2_canPay_24 : decode cX2_canPay 24 = .ok (.iconst 1, 1) := dk_4 (dk_at dksX2_canPay_1 0 rfl rfl)
theorem dX2_canPay_25 : decode cX2_canPay 25 = .ok (.goto 4, 3) := dk_167 0 4 (dk_at dksX2_canPay_1 1 rfl rfl)
theorem dX2_canPay_28 : decode cX2_canPay 28 = .ok (.iconst 0, 1) := dk_3 (dk_at dksX2_canPay_1 4 rfl rfl)
theorem dX2_canPay_29 : decode cX2_canPay 29 = .ok (.ireturn, 1) := dk_172 (dk_at dksX2_canPay_1 5 rfl rfl)
noncomputable def f_X2_canPay_28 (E : ax_E) (h : ax_H) : Option (Int × ax_H) :=
  some (0, h)
noncomputable def f_X2_canPay (E : ax_E) (x0 : Option Nat) (x1 : Int) (x2 : Int) (x3 : Int) (h : ax_H) : Option (Int × ax_H) :=
  (ax_gR E h x0 2 0).bind fun v1 =>
  (ax_ld E h v1 100 x1).bind fun v2 =>
  if i2 v2 < i2 x3 then
    f_X2_canPay_28 E h
  else
    (ax_gR E h x0 2 0).bind fun v3 =>
    (ax_ld E h v3 100 x2).bind fun v4 =>
    if i2 9999 < i2 (v4 + x3) then
      f_X2_canPay_28 E h
    else
      some (1, h)
set_option maxHeartbeats 4000000 in
theorem w_X2_canPay_28 {l : Launch} {G : ax_G} {X : ax_X} {Q : State → Prop} {h0 h : ax_H} {ls : Array Slot} (hSF : ax_SF G) (B : ax_BL l G X cX2_canPay 4 RX2 1 40) (Z : ax_Z X h0 ((some FieldType.boolean))) (hn : X.2.2.2.2.2.2.2.2.1.name = yX2_canPay.name) {w : Int × ax_H} (hl : ax_hl ls 4 []) (e : f_X2_canPay_28 G.2.2 h = some w) (hp : (fun w : Int × ax_H => Q = ax_Q G X h0 w.2 (some (.int (Int32.ofInt w.1)))) w) : ax_W G X Q h 28 ls [] := by
  unfold f_X2_canPay_28 at e
  refine ax_iconst B dX2_canPay_28 ?_
  have e8 := e
  have hp : Q = _ := hp
  subst hp
  exact ax_zreturnL (by decide) B Z dX2_canPay_29 e8
set_option maxHeartbeats 4000000 in
theorem we_X2_canPay {l : Launch} {G : ax_G} {X : ax_X} {Q : State → Prop} {h0 h : ax_H} {ls : Array Slot} (hSF : ax_SF G) (B : ax_BL l G X cX2_canPay 4 RX2 1 40) (Z : ax_Z X h0 ((some FieldType.boolean))) (hn : X.2.2.2.2.2.2.2.2.1.name = yX2_canPay.name) (x0 : Option Nat) (x1 : Int) (x2 : Int) (x3 : Int) {w : Int × ax_H} (hl : ax_hl ls 4 [(0, .inr (.inr x0)), (1, .inl x1), (2, .inl x2), (3, .inl x3)]) (e : f_X2_canPay G.2.2 x0 x1 x2 x3 h = some w) (hp : (fun w : Int × ax_H => Q = ax_Q G X h0 w.2 (some (.int (Int32.ofInt w.1)))) w) : ax_W G X Q h 0 ls [] := by
  unfold f_X2_canPay at e
  refine ax_aload_n B dX2_canPay_0 rfl hl 0 rfl ?_
  refine ax_getR B ff_X2_9_2 (fun _ _ => rfl) dX2_canPay_1 e (fun v1 e => ?_)
  refine ax_iload_n B dX2_canPay_4 rfl hl 1 rfl ?_
  refine ax_iald B kd100 dX2_canPay_5 e (fun v2 e => ?_)
  refine ax_iload_n B dX2_canPay_6 rfl hl 3 rfl ?_
  refine ax_icmp_lt (tgt := 28) B dX2_canPay_7 (by decide) e (fun e => ?_) (fun e => ?_)
  · exact w_X2_canPay_28 hSF B Z hn (hl.sub [] rfl) e hp
  · refine ax_aload_n B dX2_canPay_10 rfl hl 0 rfl ?_
    refine ax_getR B ff_X2_9_2 (fun _ _ => rfl) dX2_canPay_11 e (fun v3 e => ?_)
    refine ax_iload_n B dX2_canPay_14 rfl hl 2 rfl ?_
    refine ax_iald B kd100 dX2_canPay_15 e (fun v4 e => ?_)
    refine ax_iload_n B dX2_canPay_16 rfl hl 3 rfl ?_
    refine ax_iadd' B dX2_canPay_17 ?_
    refine ax_sipush B dX2_canPay_18 (by decide) ?_
    refine ax_icmp_gt (tgt := 28) B dX2_canPay_21 (by decide) e (fun e => ?_) (fun e => ?_)
    · exact w_X2_canPay_28 hSF B Z hn (hl.sub [] rfl) e hp
    · refine ax_iconst B dX2_canPay_24 ?_
      refine ax_goto (tgt := 29) B dX2_canPay_25 (by decide) ?_
      have e8 := e
      have hp : Q = _ := hp
      subst hp
      exact ax_zreturnL (by decide) B Z dX2_canPay_29 e8
theorem mt_X2_canPay (l : Launch) (G : ax_G) (hSF : ax_SF G) (x0 : Option Nat) (x1 : Int) (x2 : Int) (x3 : Int) (h : ax_H) (w : Int × ax_H) (e : f_X2_canPay G.2.2 x0 x1 x2 x3 h = some w) : ax_Met l G yX2_canPay cX2_canPay 4 ((some FieldType.boolean)) 1 40 [va_rf x0, .int (Int32.ofInt x1), .int (Int32.ofInt x2), .int (Int32.ofInt x3)] h w.2 (some (.int (Int32.ofInt w.1))) :=
  ax_enter [.inr (.inr x0), .inl x1, .inl x2, .inl x3] (y := yX2_canPay) hSF (plainFor_of_name (by decide +kernel)) (Nat.le_of_ble_eq_true rfl) (fun X ls B Z hn hl => we_X2_canPay hSF B Z hn x0 x1 x2 x3 hl e rfl)
def dkwJ2_fastRemove_1 : List UInt8 := [4, 96, 43, 28, 29, 28, 100, 184, 0, 112, 43, 42, 29, 90, 181, 0, 48, 1, 83, 177]
abbrev dktJ2_fastRemove_1 : List UInt8 := dkwJ2_fastRemove_1 ++ []
def dkwJ2_fastRemove_0 : List UInt8 := [42, 89, 180, 0, 63, 4, 96, 181, 0, 63, 42, 180, 0, 48, 4, 100, 89, 62, 28, 164, 0, 15, 43, 28]
abbrev dktJ2_fastRemove_0 : List UInt8 := dkwJ2_fastRemove_0 ++ dktJ2_fastRemove_1
theorem dksJ2_fastRemove_0 : cJ2_fastRemove.data.toList.drop 0 = dktJ2_fastRemove_0 := by decide +kernel
theorem dksJ2_fastRemove_1 : cJ2_fastRemove.data.toList.drop 24 = dktJ2_fastRemove_1 := dk_seg dksJ2_fastRemove_0 24 rfl rfl
theorem dJ2_fastRemove_0 : decode cJ2_fastRemove 0 = .ok (.aload_n 0, 1) := dk_42 (dk_at dksJ2_fastRemove_0 0 rfl rfl)
theorem dJ2_fastRemove_1 : decode cJ2_fastRemove 1 = .ok (.dup, 1) := dk_89 (dk_at dksJ2_fastRemove_0 1 rfl rfl)
theorem dJ2_fastRemove_2 : decode cJ2_fastRemove 2 = .ok (.getfield 63, 3) := dk_180 0 63 (dk_at dksJ2_fastRemove_0 2 rfl rfl)
theorem dJ2_fastRemove_5 : decode cJ2_fastRemove 5 = .ok (.iconst 1, 1) := dk_4 (dk_at dksJ2_fastRemove_0 5 rfl rfl)
theorem dJ2_fastRemove_6 : decode cJ2_fastRemove 6 = .ok (.iadd, 1) := dk_96 (dk_at dksJ2_fastRemove_0 6 rfl rfl)
theorem dJ2_fastRemove_7 : decode cJ2_fastRemove 7 = .ok (.putfield 63, 3) := dk_181 0 63 (dk_at dksJ2_fastRemove_0 7 rfl rfl)
theorem dJ2_fastRemove_10 : decode cJ2_fastRemove 10 = .ok (.aload_n 0, 1) := dk_42 (dk_at dksJ2_fastRemove_0 10 rfl rfl)
theorem dJ2_fastRemove_11 : decode cJ2_fastRemove 11 = .ok (.getfield 48, 3) := dk_180 0 48 (dk_at dksJ2_fastRemove_0 11 rfl rfl)
theorem dJ2_fastRemove_14 : decode cJ2_fastRemove 14 = .ok (.iconst 1, 1) := dk_4 (dk_at dksJ2_fastRemove_0 14 rfl rfl)
theorem dJ2_fastRemove_15 : decode cJ2_fastRemove 15 = .ok (.isub, 1) := dk_100 (dk_at dksJ2_fastRemove_0 15 rfl rfl)
theorem dJ2_fastRemove_16 : decode cJ2_fastRemove 16 = .ok (.dup, 1) := dk_89 (dk_at dksJ2_fastRemove_0 16 rfl rfl)
theorem dJ2_fastRemove_17 : decode cJ2_fastRemove 17 = .ok (.istore_n 3, 1) := dk_62 (dk_at dksJ2_fastRemove_0 17 rfl rfl)
theorem dJ2_fastRemove_18 : decode cJ2_fastRemove 18 = .ok (.iload_n 2, 1) := dk_28 (dk_at dksJ2_fastRemove_0 18 rfl rfl)
theorem dJ2_fastRemove_19 : decode cJ2_fastRemove 19 = .ok (.if_icmp .le 15, 3) := dk_164 0 15 (dk_at dksJ2_fastRemove_0 19 rfl rfl)
theorem dJ2_fastRemove_22 : decode cJ2_fastRemove 22 = .ok (.aload_n 1, 1) := dk_43 (dk_at dksJ2_fastRemove_0 22 rfl rfl)
theorem dJ2_fastRemove_23 : decode cJ2_fastRemove 23 = .ok (.iload_n 2, 1) := dk_28 (dk_at dksJ2_fastRemove_0 23 rfl rfl)
theorem dJ2_fastRemove_24 : decode cJ2_fastRemove 24 = .ok (.iconst 1, 1) := dk_4 (dk_at dksJ2_fastRemove_1 0 rfl rfl)
theorem dJ2_fastRemove_25 : decode cJ2_fastRemove 25 = .ok (.iadd, 1) := dk_96 (dk_at dksJ2_fastRemove_1 1 rfl rfl)
theorem dJ2_fastRemove_26 : decode cJ2_fastRemove 26 = .ok (.aload_n 1, 1) := dk_43 (dk_at dksJ2_fastRemove_1 2 rfl rfl)
theorem dJ2_fastRemove_27 : decode cJ2_fastRemove 27 = .ok (.iload_n 2, 1) := dk_28 (dk_at dksJ2_fastRemove_1 3 rfl rfl)
theorem dJ2_fastRemove_28 : decode cJ2_fastRemove 28 = .ok (.iload_n 3, 1) := dk_29 (dk_at dksJ2_fastRemove_1 4 rfl rfl)
theorem dJ2_fastRemove_29 : decode cJ2_fastRemove 29 = .ok (.iload_n 2, 1) := dk_28 (dk_at dksJ2_fastRemove_1 5 rfl rfl)
theorem dJ2_fastRemove_30 : decode cJ2_fastRemove 30 = .ok (.isub, 1) := dk_100 (dk_at dksJ2_fastRemove_1 6 rfl rfl)
theorem dJ2_fastRemove_31 : decode cJ2_fastRemove 31 = .ok (.invokestatic 112, 3) := dk_184 0 112 (dk_at dksJ2_fastRemove_1 7 rfl rfl)
theorem dJ2_fastRemove_34 : decode cJ2_fastRemove 34 = .ok (.aload_n 1, 1) := dk_43 (dk_at dksJ2_fastRemove_1 10 rfl rfl)
theorem dJ2_fastRemove_35 : decode cJ2_fastRemove 35 = .ok (.aload_n 0, 1) := dk_42 (dk_at dksJ2_fastRemove_1 11 rfl rfl)
theorem dJ2_fastRemove_36 : decode cJ2_fastRemove 36 = .ok (.iload_n 3, 1) := dk_29 (dk_at dksJ2_fastRemove_1 12 rfl rfl)
theorem dJ2_fastRemove_37 : decode cJ2_fastRemove 37 = .ok (.dup_x1, 1) := dk_90 (dk_at dksJ2_fastRemove_1 13 rfl rfl)
theorem dJ2_fastRemove_38 : decode cJ2_fastRemove 38 = .ok (.putfield 48, 3) := dk_181 0 48 (dk_at dksJ2_fastRemove_1 14 rfl rfl)
theorem dJ2_fastRemove_41 : decode cJ2_fastRemove 41 = .ok (.aconst_null, 1) := dk_1 (dk_at dksJ2_fastRemove_1 17 rfl rfl)
theorem dJ2_fastRemove_42 : decode cJ2_fastRemove 42 = .ok (.aastore, 1) := dk_83 (dk_at dksJ2_fastRemove_1 18 rfl rfl)
theorem dJ2_fastRemove_43 : decode cJ2_fastRemove 43 = .ok (.return_, 1) := dk_177 (dk_at dksJ2_fastRemove_1 19 rfl rfl)
noncomputable def f_J2_fastRemove_34 (E : ax_E) (x0 : Option Nat) (x1 : Option Nat) (x3 : Int) (h : ax_H) : Option (ax_H) :=
  (ax_pI h x0 42 2 x3).bind fun h1 =>
  (ax_stR E oj_104 h1 x1 104 x3 none).bind fun h2 =>
  some h2
noncomputable def f_J2_fastRemove (E : ax_E) (x0 : Option Nat) (x1 : Option Nat) (x2 : Int) (h : ax_H) : Option (ax_H) :=
  (ax_gI E h x0 42 0).bind fun v1 =>
  (ax_pI h x0 42 0 (v1 + 1)).bind fun h2 =>
  (ax_gI E h2 x0 42 2).bind fun v3 =>
  if i2 x2 < i2 (v3 - 1) then
    (ax_cp E h2 (ax_refP E h2 oj_104) x1 104 (x2 + 1) x1 x2 ((v3 - 1) - x2)).bind fun h4 =>
    f_J2_fastRemove_34 E x0 x1 (v3 - 1) h4
  else
    f_J2_fastRemove_34 E x0 x1 (v3 - 1) h2
set_option maxHeartbeats 4000000 in
theorem w_J2_fastRemove_34 {l : Launch} {G : ax_G} {X : ax_X} {Q : State → Prop} {h0 h : ax_H} {ls : Array Slot} (hSF : ax_SF G) (B : ax_BL l G X cJ2_fastRemove 4 RJ2 1 40) (Z : ax_Z X h0 none) (hn : X.2.2.2.2.2.2.2.2.1.name = yJ2_fastRemove.name) (x0 : Option Nat) (x1 : Option Nat) (x3 : Int) {w : ax_H} (hl : ax_hl ls 4 [(0, .inr (.inr x0)), (1, .inr (.inr x1)), (3, .inl x3)]) (e : f_J2_fastRemove_34 G.2.2 x0 x1 x3 h = some w) (hp : (fun w : ax_H => Q = ax_Q G X h0 w none) w) : ax_W G X Q h 34 ls [] := by
  unfold f_J2_fastRemove_34 at e
  refine ax_aload_n B dJ2_fastRemove_34 rfl hl 1 rfl ?_
  refine ax_aload_n B dJ2_fastRemove_35 rfl hl 0 rfl ?_
  refine ax_iload_n B dJ2_fastRemove_36 rfl hl 2 rfl ?_
  refine ax_dup_x1 B dJ2_fastRemove_37 (rfl) (va_rf_cat _) ?_
  refine ax_putI B ff_J2_48_42 (Or.inl rfl) rfl dJ2_fastRemove_38 e (fun h1 e => ?_)
  refine ax_null B dJ2_fastRemove_41 ?_
  refine ax_aast B kd104 (ok_104 B) dJ2_fastRemove_42 e (fun h2 e => ?_)
  have e8 := e
  have hp : Q = _ := hp
  subst hp
  exact ax_return B Z dJ2_fastRemove_43 e8
set_option maxHeartbeats 4000000 in
theorem we_J2_fastRemove {l : Launch} {G : ax_G} {X : ax_X} {Q : State → Prop} {h0 h : ax_H} {ls : Array Slot} (hSF : ax_SF G) (B : ax_BL l G X cJ2_fastRemove 4 RJ2 1 40) (Z : ax_Z X h0 none) (hn : X.2.2.2.2.2.2.2.2.1.name = yJ2_fastRemove.name) (x0 : Option Nat) (x1 : Option Nat) (x2 : Int) {w : ax_H} (hl : ax_hl ls 4 [(0, .inr (.inr x0)), (1, .inr (.inr x1)), (2, .inl x2)]) (e : f_J2_fastRemove G.2.2 x0 x1 x2 h = some w) (hp : (fun w : ax_H => Q = ax_Q G X h0 w none) w) : ax_W G X Q h 0 ls [] := by
  unfold f_J2_fastRemove at e
  refine ax_aload_n B dJ2_fastRemove_0 rfl hl 0 rfl ?_
  refine ax_dup B dJ2_fastRemove_1 (va_rf_cat _) ?_
  refine ax_getI B ff_J2_63_42 (fun _ _ => rfl) dJ2_fastRemove_2 e (fun v1 e => ?_)
  refine ax_iconst B dJ2_fastRemove_5 ?_
  refine ax_iadd' B dJ2_fastRemove_6 ?_
  refine ax_putI B ff_J2_63_42 (Or.inl rfl) rfl dJ2_fastRemove_7 e (fun h2 e => ?_)
  refine ax_aload_n B dJ2_fastRemove_10 rfl hl 0 rfl ?_
  refine ax_getI B ff_J2_48_42 (fun _ _ => rfl) dJ2_fastRemove_11 e (fun v3 e => ?_)
  refine ax_iconst B dJ2_fastRemove_14 ?_
  refine ax_isub' B dJ2_fastRemove_15 ?_
  refine ax_dup B dJ2_fastRemove_16 (rfl) ?_
  refine ax_istore_n (L' := [(3, .inl (v3 - 1)), (0, .inr (.inr x0)), (1, .inr (.inr x1)), (2, .inl x2)]) B dJ2_fastRemove_17 rfl hl (by decide) rfl (fun ls hl => ?_)
  refine ax_iload_n B dJ2_fastRemove_18 rfl hl 3 rfl ?_
  refine ax_icmp_le (tgt := 34) B dJ2_fastRemove_19 (by decide) e (fun e => ?_) (fun e => ?_)
  · refine ax_aload_n B dJ2_fastRemove_22 rfl hl 2 rfl ?_
    refine ax_iload_n B dJ2_fastRemove_23 rfl hl 3 rfl ?_
    refine ax_iconst B dJ2_fastRemove_24 ?_
    refine ax_iadd' B dJ2_fastRemove_25 ?_
    refine ax_aload_n B dJ2_fastRemove_26 rfl hl 2 rfl ?_
    refine ax_iload_n B dJ2_fastRemove_27 rfl hl 3 rfl ?_
    refine ax_iload_n B dJ2_fastRemove_28 rfl hl 0 rfl ?_
    refine ax_iload_n B dJ2_fastRemove_29 rfl hl 3 rfl ?_
    refine ax_isub' B dJ2_fastRemove_30 ?_
    refine ax_copyR B kd104 (ok_104 B) q1374 q696 q695 q143 hl.size (by decide) (by decide) dJ2_fastRemove_31 e (fun h4 e => ?_)
    exact w_J2_fastRemove_34 hSF B Z hn x0 x1 (v3 - 1) (hl.sub [1, 2, 0] rfl) e hp
  · exact w_J2_fastRemove_34 hSF B Z hn x0 x1 (v3 - 1) (hl.sub [1, 2, 0] rfl) e hp
theorem mt_J2_fastRemove (l : Launch) (G : ax_G) (hSF : ax_SF G) (x0 : Option Nat) (x1 : Option Nat) (x2 : Int) (h : ax_H) (w : ax_H) (e : f_J2_fastRemove G.2.2 x0 x1 x2 h = some w) : ax_Met l G yJ2_fastRemove cJ2_fastRemove 4 none 1 40 [va_rf x0, va_rf x1, .int (Int32.ofInt x2)] h w none :=
  ax_enter [.inr (.inr x0), .inr (.inr x1), .inl x2] (y := yJ2_fastRemove) hSF (plainFor_of_name (by decide +kernel)) (Nat.le_of_ble_eq_true rfl) (fun X ls B Z hn hl => we_J2_fastRemove hSF B Z hn x0 x1 x2 hl e rfl)
def dkwJ2_remove_1 : List UInt8 := [45, 176]
abbrev dktJ2_remove_1 : List UInt8 := dkwJ2_remove_1 ++ []
def dkwJ2_remove_0 : List UInt8 := [27, 42, 180, 0, 48, 184, 0, 118, 87, 42, 180, 0, 9, 77, 44, 27, 50, 78, 42, 44, 27, 182, 0, 144]
abbrev dktJ2_remove_0 : List UInt8 := dkwJ2_remove_0 ++ dktJ2_remove_1
theorem dksJ2_remove_0 : cJ2_remove.data.toList.drop 0 = dktJ2_remove_0 := by decide +kernel
theorem dksJ2_remove_1 : cJ2_remove.data.toList.drop 24 = dktJ2_remove_1 := dk_seg dksJ2_remove_0 24 rfl rfl
theorem dJ2_remove_0 : decode cJ2_remove 0 = .ok (.iload_n 1, 1) := dk_27 (dk_at dksJ2_remove_0 0 rfl rfl)
theorem dJ2_remove_1 : decode cJ2_remove 1 = .ok (.aload_n 0, 1) := dk_42 (dk_at dksJ2_remove_0 1 rfl rfl)
theorem dJ2_remove_2 : decode cJ2_remove 2 = .ok (.getfield 48, 3) := dk_180 0 48 (dk_at dksJ2_remove_0 2 rfl rfl)
theorem dJ2_remove_5 : decode cJ2_remove 5 = .ok (.invokestatic 118, 3) := dk_184 0 118 (dk_at dksJ2_remove_0 5 rfl rfl)
theorem dJ2_remove_8 : decode cJ2_remove 8 = .ok (.pop, 1) := dk_87 (dk_at dksJ2_remove_0 8 rfl rfl)
theorem dJ2_remove_9 : decode cJ2_remove 9 = .ok (.aload_n 0, 1) := dk_42 (dk_at dksJ2_remove_0 9 rfl rfl)
theorem dJ2_remove_10 : decode cJ2_remove 10 = .ok (.getfield 9, 3) := dk_180 0 9 (dk_at dksJ2_remove_0 10 rfl rfl)
theorem dJ2_remove_13 : decode cJ2_remove 13 = .ok (.astore_n 2, 1) := dk_77 (dk_at dksJ2_remove_0 13 rfl rfl)
theorem dJ2_remove_14 : decode cJ2_remove 14 = .ok (.aload_n 2, 1) := dk_44 (dk_at dksJ2_remove_0 14 rfl rfl)
theorem dJ2_remove_15 : decode cJ2_remove 15 = .ok (.iload_n 1, 1) := dk_27 (dk_at dksJ2_remove_0 15 rfl rfl)
theorem dJ2_remove_16 : decode cJ2_remove 16 = .ok (.aaload, 1) := dk_50 (dk_at dksJ2_remove_0 16 rfl rfl)
theorem dJ2_remove_17 : decode cJ2_remove 17 = .ok (.astore_n 3, 1) := dk_78 (dk_at dksJ2_remove_0 17 rfl rfl)
theorem dJ2_remove_18 : decode cJ2_remove 18 = .ok (.aload_n 0, 1) := dk_42 (dk_at dksJ2_remove_0 18 rfl rfl)
theorem dJ2_remove_19 : decode cJ2_remove 19 = .ok (.aload_n 2, 1) := dk_44 (dk_at dksJ2_remove_0 19 rfl rfl)
theorem dJ2_remove_20 : decode cJ2_remove 20 = .ok (.iload_n 1, 1) := dk_27 (dk_at dksJ2_remove_0 20 rfl rfl)
theorem dJ2_remove_21 : decode cJ2_remove 21 = .ok (.invokevirtual 144, 3) := dk_182 0 144 (dk_at dksJ2_remove_0 21 rfl rfl)
theorem dJ2_remove_24 : decode cJ2_remove 24 = .ok (.aload_n 3, 1) := dk_45 (dk_at dksJ2_remove_1 0 rfl rfl)
theorem dJ2_remove_25 : decode cJ2_remove 25 = .ok (.areturn, 1) := dk_176 (dk_at dksJ2_remove_1 1 rfl rfl)
noncomputable def f_J2_remove (E : ax_E) (x0 : Option Nat) (x1 : Int) (h : ax_H) : Option (Option Nat × ax_H) :=
  (ax_gI E h x0 42 2).bind fun v1 =>
  (f_J4_checkIndex E x1 v1 h).bind fun q2 =>
  (ax_gR E q2.2 x0 42 1).bind fun v3 =>
  (ax_ldR E q2.2 v3 104 x1).bind fun v4 =>
  (ax_ce E q2.2 x0 42).bind fun _ => (f_J2_fastRemove E x0 v3 x1 q2.2).bind fun h5 =>
  some (v4, h5)
set_option maxHeartbeats 4000000 in
theorem we_J2_remove {l : Launch} {G : ax_G} {X : ax_X} {Q : State → Prop} {h0 h : ax_H} {ls : Array Slot} (hSF : ax_SF G) (B : ax_BL l G X cJ2_remove 4 RJ2 3 83) (Z : ax_Z X h0 ((some (FieldType.object "java/lang/Object")))) (hn : X.2.2.2.2.2.2.2.2.1.name = yJ2_remove.name) (x0 : Option Nat) (x1 : Int) {w : Option Nat × ax_H} (hl : ax_hl ls 4 [(0, .inr (.inr x0)), (1, .inl x1)]) (e : f_J2_remove G.2.2 x0 x1 h = some w) (hp : (fun w : Option Nat × ax_H => Q = ax_Q G X h0 w.2 (some (va_rf w.1))) w) : ax_W G X Q h 0 ls [] := by
  unfold f_J2_remove at e
  refine ax_iload_n B dJ2_remove_0 rfl hl 1 rfl ?_
  refine ax_aload_n B dJ2_remove_1 rfl hl 0 rfl ?_
  refine ax_getI B ff_J2_48_42 (fun _ _ => rfl) dJ2_remove_2 e (fun v1 e => ?_)
  refine ax_isI (y := yJ4_checkIndex) (n := 2) (As := [.int (Int32.ofInt x1), .int (Int32.ofInt v1)]) B (lw_S q528 q529 q135 q530) (by decide +kernel) ⟨Nat.le_of_ble_eq_true rfl, Nat.le_of_ble_eq_true rfl⟩ (fun w1 e1 => mt_J4_checkIndex l G hSF x1 v1 _ w1 e1) rfl hl.size (by decide) dJ2_remove_5 e (fun q2 e => ?_)
  refine ax_pop B dJ2_remove_8 (rfl) ?_
  refine ax_aload_n B dJ2_remove_9 rfl hl 0 rfl ?_
  refine ax_getR B ff_J2_9_42 (fun _ _ => rfl) dJ2_remove_10 e (fun v3 e => ?_)
  refine ax_astore_n (L' := [(2, .inr (.inr v3)), (0, .inr (.inr x0)), (1, .inl x1)]) B dJ2_remove_13 rfl hl (by decide) rfl (fun ls hl => ?_)
  refine ax_aload_n B dJ2_remove_14 rfl hl 0 rfl ?_
  refine ax_iload_n B dJ2_remove_15 rfl hl 2 rfl ?_
  refine ax_aald rfl B kd104 dJ2_remove_16 e (fun v4 e => ?_)
  refine ax_astore_n (L' := [(3, .inr (.inr v4)), (2, .inr (.inr v3)), (0, .inr (.inr x0)), (1, .inl x1)]) B dJ2_remove_17 rfl hl (by decide) rfl (fun ls hl => ?_)
  refine ax_aload_n B dJ2_remove_18 rfl hl 2 rfl ?_
  refine ax_aload_n B dJ2_remove_19 rfl hl 1 rfl ?_
  refine ax_iload_n B dJ2_remove_20 rfl hl 3 rfl ?_
  refine ax_ivV (y := yJ2_fastRemove) (n := 2) (As := [va_rf v3, .int (Int32.ofInt x1)]) B kd42 (lw_V q1370 q1372 qs27 q129 q1373) (by decide +kernel) ⟨Nat.le_of_ble_eq_true rfl, Nat.le_of_ble_eq_true rfl⟩ (fun w1 e1 => mt_J2_fastRemove l G hSF x0 v3 x1 _ w1 e1) rfl hl.size (by decide) dJ2_remove_21 e (fun h5 e => ?_)
  refine ax_aload_n B dJ2_remove_24 rfl hl 0 rfl ?_
  have e8 := e
  have hp : Q = _ := hp
  subst hp
  exact ax_areturn B Z (Or.inl ⟨_, rfl⟩) dJ2_remove_25 e8
theorem mt_J2_remove (l : Launch) (G : ax_G) (hSF : ax_SF G) (x0 : Option Nat) (x1 : Int) (h : ax_H) (w : Option Nat × ax_H) (e : f_J2_remove G.2.2 x0 x1 h = some w) : ax_Met l G yJ2_remove cJ2_remove 4 ((some (FieldType.object "java/lang/Object"))) 3 83 [va_rf x0, .int (Int32.ofInt x1)] h w.2 (some (va_rf w.1)) :=
  ax_enter [.inr (.inr x0), .inl x1] (y := yJ2_remove) hSF (plainFor_of_name (by decide +kernel)) (Nat.le_of_ble_eq_true rfl) (fun X ls B Z hn hl => we_J2_remove hSF B Z hn x0 x1 hl e rfl)
def dkwX2_move_2 : List UInt8 := [180, 0, 24, 28, 42, 180, 0, 24, 29, 21, 4, 184, 0, 27, 177]
abbrev dktX2_move_2 : List UInt8 := dkwX2_move_2 ++ []
def dkwX2_move_1 : List UInt8 := [29, 21, 4, 184, 0, 27, 43, 180, 0, 21, 28, 42, 180, 0, 21, 29, 21, 4, 184, 0, 27, 43]
abbrev dktX2_move_1 : List UInt8 := dkwX2_move_1 ++ dktX2_move_2
def dkwX2_move_0 : List UInt8 := [43, 180, 0, 15, 28, 42, 180, 0, 15, 29, 21, 4, 184, 0, 27, 43, 180, 0, 18, 28, 42, 180, 0, 18]
abbrev dktX2_move_0 : List UInt8 := dkwX2_move_0 ++ dktX2_move_1
theorem dksX2_move_0 : cX2_move.data.toList.drop 0 = dktX2_move_0 := by decide +kernel
theorem dksX2_move_1 : cX2_move.data.toList.drop 24 = dktX2_move_1 := dk_seg dksX2_move_0 24 rfl rfl
theorem dksX2_move_2 : cX2_move.data.toList.drop 46 = dktX2_move_2 := dk_seg dksX2_move_1 22 rfl rfl
theorem dX2_move_0 : decode cX2_move 0 = .ok (.aload_n 1, 1) := dk_43 (dk_at dksX2_move_0 0 rfl rfl)
theorem dX2_move_1 : decode cX2_move 1 = .ok (.getfield 15, 3) := dk_180 0 15 (dk_at dksX2_move_0 1 rfl rfl)
theorem dX2_move_4 : decode cX2_move 4 = .ok (.iload_n 2, 1) := dk_28 (dk_at dksX2_move_0 4 rfl rfl)
theorem dX2_move_5 : decode cX2_move 5 = .ok (.aload_n 0, 1) := dk_42 (dk_at dksX2_move_0 5 rfl rfl)
theorem dX2_move_6 : decode cX2_move 6 = .ok (.getfield 15, 3) := dk_180 0 15 (dk_at dksX2_move_0 6 rfl rfl)
theorem dX2_move_9 : decode cX2_move 9 = .ok (.iload_n 3, 1) := dk_29 (dk_at dksX2_move_0 9 rfl rfl)
theorem dX2_move_10 : decode cX2_move 10 = .ok (.iload 4, 2) := dk_21 4 (dk_at dksX2_move_0 10 rfl rfl)
theorem dX2_move_12 : decode cX2_move 12 = .ok (.invokestatic 27, 3) := dk_184 0 27 (dk_at dksX2_move_0 12 rfl rfl)
theorem dX2_move_15 : decode cX2_move 15 = .ok (.aload_n 1, 1) := dk_43 (dk_at dksX2_move_0 15 rfl rfl)
theorem dX2_move_16 : decode cX2_move 16 = .ok (.getfield 18, 3) := dk_180 0 18 (dk_at dksX2_move_0 16 rfl rfl)
theorem dX2_move_19 : decode cX2_move 19 = .ok (.iload_n 2, 1) := dk_28 (dk_at dksX2_move_0 19 rfl rfl)
theorem dX2_move_20 : decode cX2_move 20 = .ok (.aload_n 0, 1) := dk_42 (dk_at dksX2_move_0 20 rfl rfl)
theorem dX2_move_21 : decode cX2_move 21 = .ok (.getfield 18, 3) := dk_180 0 18 (dk_at dksX2_move_0 21 rfl rfl)
theorem dX2_move_24 : decode cX2_move 24 = .ok (.iload_n 3, 1) := dk_29 (dk_at dksX2_move_1 0 rfl rfl)
theorem dX2_move_25 : decode cX2_move 25 = .ok (.iload 4, 2) := dk_21 4 (dk_at dksX2_move_1 1 rfl rfl)
theorem dX2_move_27 : decode cX2_move 27 = .ok (.invokestatic 27, 3) := dk_184 0 27 (dk_at dksX2_move_1 3 rfl rfl)
theorem dX2_move_30 : decode cX2_move 30 = .ok (.aload_n 1, 1) := dk_43 (dk_at dksX2_move_1 6 rfl rfl)
theorem dX2_move_31 : decode cX2_move 31 = .ok (.getfield 21, 3) := dk_180 0 21 (dk_at dksX2_move_1 7 rfl rfl)
theorem dX2_move_34 : decode cX2_move 34 = .ok (.iload_n 2, 1) := dk_28 (dk_at dksX2_move_1 10 rfl rfl)
theorem dX2_move_35 : decode cX2_move 35 = .ok (.aload_n 0, 1) := dk_42 (dk_at dksX2_move_1 11 rfl rfl)
theorem dX2_move_36 : decode cX2_move 36 = .ok (.getfield 21, 3) := dk_180 0 21 (dk_at dksX2_move_1 12 rfl rfl)
theorem dX2_move_39 : decode cX2_move 39 = .ok (.iload_n 3, 1) := dk_29 (dk_at dksX2_move_1 15 rfl rfl)
theorem dX2_move_40 : decode cX2_move 40 = .ok (.iload 4, 2) := dk_21 4 (dk_at dksX2_move_1 16 rfl rfl)
theorem dX2_move_42 : decode cX2_move 42 = .ok (.invokestatic 27, 3) := dk_184 0 27 (dk_at dksX2_move_1 18 rfl rfl)
theorem dX2_move_45 : decode cX2_move 45 = .ok (.aload_n 1, 1) := dk_43 (dk_at dksX2_move_1 21 rfl rfl)
theorem dX2_move_46 : decode cX2_move 46 = .ok (.getfield 24, 3) := dk_180 0 24 (dk_at dksX2_move_2 0 rfl rfl)
theorem dX2_move_49 : decode cX2_move 49 = .ok (.iload_n 2, 1) := dk_28 (dk_at dksX2_move_2 3 rfl rfl)
theorem dX2_move_50 : decode cX2_move 50 = .ok (.aload_n 0, 1) := dk_42 (dk_at dksX2_move_2 4 rfl rfl)
theorem dX2_move_51 : decode cX2_move 51 = .ok (.getfield 24, 3) := dk_180 0 24 (dk_at dksX2_move_2 5 rfl rfl)
theorem dX2_move_54 : decode cX2_move 54 = .ok (.iload_n 3, 1) := dk_29 (dk_at dksX2_move_2 8 rfl rfl)
theorem dX2_move_55 : decode cX2_move 55 = .ok (.iload 4, 2) := dk_21 4 (dk_at dksX2_move_2 9 rfl rfl)
theorem dX2_move_57 : decode cX2_move 57 = .ok (.invokestatic 27, 3) := dk_184 0 27 (dk_at dksX2_move_2 11 rfl rfl)
theorem dX2_move_60 : decode cX2_move 60 = .ok (.return_, 1) := dk_177 (dk_at dksX2_move_2 14 rfl rfl)
noncomputable def f_X2_move (E : ax_E) (x0 : Option Nat) (x1 : Option Nat) (x2 : Int) (x3 : Int) (x4 : Int) (h : ax_H) : Option (ax_H) :=
  (ax_gR E h x1 2 1).bind fun v1 =>
  (ax_gR E h x0 2 1).bind fun v2 =>
  (ax_cp E h ax_anyP v1 100 x2 v2 x3 x4).bind fun h3 =>
  (ax_gR E h3 x1 2 2).bind fun v4 =>
  (ax_gR E h3 x0 2 2).bind fun v5 =>
  (ax_cp E h3 ax_anyP v4 100 x2 v5 x3 x4).bind fun h6 =>
  (ax_gR E h6 x1 2 3).bind fun v7 =>
  (ax_gR E h6 x0 2 3).bind fun v8 =>
  (ax_cp E h6 ax_anyP v7 100 x2 v8 x3 x4).bind fun h9 =>
  (ax_gR E h9 x1 2 4).bind fun v10 =>
  (ax_gR E h9 x0 2 4).bind fun v11 =>
  (ax_cp E h9 ax_anyP v10 100 x2 v11 x3 x4).bind fun h12 =>
  some h12
set_option maxHeartbeats 4000000 in
theorem we_X2_move {l : Launch} {G : ax_G} {X : ax_X} {Q : State → Prop} {h0 h : ax_H} {ls : Array Slot} (hSF : ax_SF G) (B : ax_BL l G X cX2_move 5 RX2 1 40) (Z : ax_Z X h0 none) (hn : X.2.2.2.2.2.2.2.2.1.name = yX2_move.name) (x0 : Option Nat) (x1 : Option Nat) (x2 : Int) (x3 : Int) (x4 : Int) {w : ax_H} (hl : ax_hl ls 5 [(0, .inr (.inr x0)), (1, .inr (.inr x1)), (2, .inl x2), (3, .inl x3), (4, .inl x4)]) (e : f_X2_move G.2.2 x0 x1 x2 x3 x4 h = some w) (hp : (fun w : ax_H => Q = ax_Q G X h0 w none) w) : ax_W G X Q h 0 ls [] := by
  unfold f_X2_move at e
  refine ax_aload_n B dX2_move_0 rfl hl 1 rfl ?_
  refine ax_getR B ff_X2_15_2 (fun _ _ => rfl) dX2_move_1 e (fun v1 e => ?_)
  refine ax_iload_n B dX2_move_4 rfl hl 2 rfl ?_
  refine ax_aload_n B dX2_move_5 rfl hl 0 rfl ?_
  refine ax_getR B ff_X2_15_2 (fun _ _ => rfl) dX2_move_6 e (fun v2 e => ?_)
  refine ax_iload_n B dX2_move_9 rfl hl 3 rfl ?_
  refine ax_iload B dX2_move_10 hl 4 rfl ?_
  refine ax_copyI B q1381 q696 q695 q143 hl.size (by decide) (by decide) dX2_move_12 e (fun h3 e => ?_)
  refine ax_aload_n B dX2_move_15 rfl hl 1 rfl ?_
  refine ax_getR B ff_X2_18_2 (fun _ _ => rfl) dX2_move_16 e (fun v4 e => ?_)
  refine ax_iload_n B dX2_move_19 rfl hl 2 rfl ?_
  refine ax_aload_n B dX2_move_20 rfl hl 0 rfl ?_
  refine ax_getR B ff_X2_18_2 (fun _ _ => rfl) dX2_move_21 e (fun v5 e => ?_)
  refine ax_iload_n B dX2_move_24 rfl hl 3 rfl ?_
  refine ax_iload B dX2_move_25 hl 4 rfl ?_
  refine ax_copyI B q1381 q696 q695 q143 hl.size (by decide) (by decide) dX2_move_27 e (fun h6 e => ?_)
  refine ax_aload_n B dX2_move_30 rfl hl 1 rfl ?_
  refine ax_getR B ff_X2_21_2 (fun _ _ => rfl) dX2_move_31 e (fun v7 e => ?_)
  refine ax_iload_n B dX2_move_34 rfl hl 2 rfl ?_
  refine ax_aload_n B dX2_move_35 rfl hl 0 rfl ?_
  refine ax_getR B ff_X2_21_2 (fun _ _ => rfl) dX2_move_36 e (fun v8 e => ?_)
  refine ax_iload_n B dX2_move_39 rfl hl 3 rfl ?_
  refine ax_iload B dX2_move_40 hl 4 rfl ?_
  refine ax_copyI B q1381 q696 q695 q143 hl.size (by decide) (by decide) dX2_move_42 e (fun h9 e => ?_)
  refine ax_aload_n B dX2_move_45 rfl hl 1 rfl ?_
  refine ax_getR B ff_X2_24_2 (fun _ _ => rfl) dX2_move_46 e (fun v10 e => ?_)
  refine ax_iload_n B dX2_move_49 rfl hl 2 rfl ?_
  refine ax_aload_n B dX2_move_50 rfl hl 0 rfl ?_
  refine ax_getR B ff_X2_24_2 (fun _ _ => rfl) dX2_move_51 e (fun v11 e => ?_)
  refine ax_iload_n B dX2_move_54 rfl hl 3 rfl ?_
  refine ax_iload B dX2_move_55 hl 4 rfl ?_
  refine ax_copyI B q1381 q696 q695 q143 hl.size (by decide) (by decide) dX2_move_57 e (fun h12 e => ?_)
  have e8 := e
  have hp : Q = _ := hp
  subst hp
  exact ax_return B Z dX2_move_60 e8
theorem mt_X2_move (l : Launch) (G : ax_G) (hSF : ax_SF G) (x0 : Option Nat) (x1 : Option Nat) (x2 : Int) (x3 : Int) (x4 : Int) (h : ax_H) (w : ax_H) (e : f_X2_move G.2.2 x0 x1 x2 x3 x4 h = some w) : ax_Met l G yX2_move cX2_move 5 none 1 40 [va_rf x0, va_rf x1, .int (Int32.ofInt x2), .int (Int32.ofInt x3), .int (Int32.ofInt x4)] h w none :=
  ax_enter [.inr (.inr x0), .inr (.inr x1), .inl x2, .inl x3, .inl x4] (y := yX2_move) hSF (plainFor_of_name (by decide +kernel)) (Nat.le_of_ble_eq_true rfl) (fun X ls B Z hn hl => we_X2_move hSF B Z hn x0 x1 x2 x3 x4 hl e rfl)
def dkwX2_as_1 : List UInt8 := [182, 0, 37, 42, 43, 180, 0, 33, 181, 0, 33, 42, 43, 180, 0, 41, 181, 0, 41, 42, 176]
abbrev dktX2_as_1 : List UInt8 := dkwX2_as_1 ++ []
def dkwX2_as_0 : List UInt8 := [43, 180, 0, 9, 3, 42, 180, 0, 9, 3, 16, 7, 184, 0, 27, 42, 43, 3, 3, 43, 180, 0, 33]
abbrev dktX2_as_0 : List UInt8 := dkwX2_as_0 ++ dktX2_as_1
theorem dksX2_as_0 : cX2_as.data.toList.drop 0 = dktX2_as_0 := by decide +kernel
theorem dksX2_as_1 : cX2_as.data.toList.drop 23 = dktX2_as_1 := dk_seg dksX2_as_0 23 rfl rfl
theorem dX2_as_0 : decode cX2_as 0 = .ok (.aload_n 1, 1) := dk_43 (dk_at dksX2_as_0 0 rfl rfl)
theorem dX2_as_1 : decode cX2_as 1 = .ok (.getfield 9, 3) := dk_180 0 9 (dk_at dksX2_as_0 1 rfl rfl)
theorem dX2_as_4 : decode cX2_as 4 = .ok (.iconst 0, 1) := dk_3 (dk_at dksX2_as_0 4 rfl rfl)
theorem dX2_as_5 : decode cX2_as 5 = .ok (.aload_n 0, 1) := dk_42 (dk_at dksX2_as_0 5 rfl rfl)
theorem dX2_as_6 : decode cX2_as 6 = .ok (.getfield 9, 3) := dk_180 0 9 (dk_at dksX2_as_0 6 rfl rfl)
theorem dX2_as_9 : decode cX2_as 9 = .ok (.iconst 0, 1) := dk_3 (dk_at dksX2_as_0 9 rfl rfl)
theorem dX2_as_10 : decode cX2_as 10 = .ok (.bipush 7, 2) := dk_16 7 (dk_at dksX2_as_0 10 rfl rfl)
theorem dX2_as_12 : decode cX2_as 12 = .ok (.invokestatic 27, 3) := dk_184 0 27 (dk_at dksX2_as_0 12 rfl rfl)
theorem dX2_as_15 : decode cX2_as 15 = .ok (.aload_n 0, 1) := dk_42 (dk_at dksX2_as_0 15 rfl rfl)
theorem dX2_as_16 : decode cX2_as 16 = .ok (.aload_n 1, 1) := dk_43 (dk_at dksX2_as_0 16 rfl rfl)
theorem dX2_as_17 : decode cX2_as 17 = .ok (.iconst 0, 1) := dk_3 (dk_at dksX2_as_0 17 rfl rfl)
theorem dX2_as_18 : decode cX2_as 18 = .ok (.iconst 0, 1) := dk_3 (dk_at dksX2_as_0 18 rfl rfl)
theorem dX2_as_19 : decode cX2_as 19 = .ok (.aload_n 1, 1) := dk_43 (dk_at dksX2_as_0 19 rfl rfl)
theorem dX2_as_20 : decode cX2_as 20 = .ok (.getfield 33, 3) := dk_180 0 33 (dk_at dksX2_as_0 20 rfl rfl)
theorem dX2_as_23 : decode cX2_as 23 = .ok (.invokevirtual 37, 3) := dk_182 0 37 (dk_at dksX2_as_1 0 rfl rfl)
theorem dX2_as_26 : decode cX2_as 26 = .ok (.aload_n 0, 1) := dk_42 (dk_at dksX2_as_1 3 rfl rfl)
theorem dX2_as_27 : decode cX2_as 27 = .ok (.aload_n 1, 1) := dk_43 (dk_at dksX2_as_1 4 rfl rfl)
theorem dX2_as_28 : decode cX2_as 28 = .ok (.getfield 33, 3) := dk_180 0 33 (dk_at dksX2_as_1 5 rfl rfl)
theorem dX2_as_31 : decode cX2_as 31 = .ok (.putfield 33, 3) := dk_181 0 33 (dk_at dksX2_as_1 8 rfl rfl)
theorem dX2_as_34 : decode cX2_as 34 = .ok (.aload_n 0, 1) := dk_42 (dk_at dksX2_as_1 11 rfl rfl)
theorem dX2_as_35 : decode cX2_as 35 = .ok (.aload_n 1, 1) := dk_43 (dk_at dksX2_as_1 12 rfl rfl)
theorem dX2_as_36 : decode cX2_as 36 = .ok (.getfield 41, 3) := dk_180 0 41 (dk_at dksX2_as_1 13 rfl rfl)
theorem dX2_as_39 : decode cX2_as 39 = .ok (.putfield 41, 3) := dk_181 0 41 (dk_at dksX2_as_1 16 rfl rfl)
theorem dX2_as_42 : decode cX2_as 42 = .ok (.aload_n 0, 1) := dk_42 (dk_at dksX2_as_1 19 rfl rfl)
theorem dX2_as_43 : decode cX2_as 43 = .ok (.areturn, 1) := dk_176 (dk_at dksX2_as_1 20 rfl rfl)
noncomputable def f_X2_as (E : ax_E) (x0 : Option Nat) (x1 : Option Nat) (h : ax_H) : Option (Option Nat × ax_H) :=
  (ax_gR E h x1 2 0).bind fun v1 =>
  (ax_gR E h x0 2 0).bind fun v2 =>
  (ax_cp E h ax_anyP v1 100 0 v2 0 7).bind fun h3 =>
  (ax_gI E h3 x1 2 5).bind fun v4 =>
  (ax_ce E h3 x0 2).bind fun _ => (f_X2_move E x0 x1 0 0 v4 h3).bind fun h5 =>
  (ax_gI E h5 x1 2 5).bind fun v6 =>
  (ax_pI h5 x0 2 5 v6).bind fun h7 =>
  (ax_gI E h7 x1 2 6).bind fun v8 =>
  (ax_pI h7 x0 2 6 v8).bind fun h9 =>
  some (x0, h9)
set_option maxHeartbeats 4000000 in
theorem we_X2_as {l : Launch} {G : ax_G} {X : ax_X} {Q : State → Prop} {h0 h : ax_H} {ls : Array Slot} (hSF : ax_SF G) (B : ax_BL l G X cX2_as 2 RX2 2 64) (Z : ax_Z X h0 ((some (FieldType.object "DebtDoors$Books")))) (hn : X.2.2.2.2.2.2.2.2.1.name = yX2_as.name) (x0 : Option Nat) (x1 : Option Nat) {w : Option Nat × ax_H} (hl : ax_hl ls 2 [(0, .inr (.inr x0)), (1, .inr (.inr x1))]) (e : f_X2_as G.2.2 x0 x1 h = some w) (hp : (fun w : Option Nat × ax_H => Q = ax_Q G X h0 w.2 (some (va_rf w.1))) w) : ax_W G X Q h 0 ls [] := by
  unfold f_X2_as at e
  refine ax_aload_n B dX2_as_0 rfl hl 1 rfl ?_
  refine ax_getR B ff_X2_9_2 (fun _ _ => rfl) dX2_as_1 e (fun v1 e => ?_)
  refine ax_iconst B dX2_as_4 ?_
  refine ax_aload_n B dX2_as_5 rfl hl 0 rfl ?_
  refine ax_getR B ff_X2_9_2 (fun _ _ => rfl) dX2_as_6 e (fun v2 e => ?_)
  refine ax_iconst B dX2_as_9 ?_
  refine ax_bipush B dX2_as_10 (by decide) ?_
  refine ax_copyI B q1381 q696 q695 q143 hl.size (by decide) (by decide) dX2_as_12 e (fun h3 e => ?_)
  refine ax_aload_n B dX2_as_15 rfl hl 0 rfl ?_
  refine ax_aload_n B dX2_as_16 rfl hl 1 rfl ?_
  refine ax_iconst B dX2_as_17 ?_
  refine ax_iconst B dX2_as_18 ?_
  refine ax_aload_n B dX2_as_19 rfl hl 1 rfl ?_
  refine ax_getI B ff_X2_33_2 (fun _ _ => rfl) dX2_as_20 e (fun v4 e => ?_)
  refine ax_ivV (y := yX2_move) (n := 4) (As := [va_rf x1, .int (Int32.ofInt 0), .int (Int32.ofInt 0), .int (Int32.ofInt v4)]) B kd2 (lw_V q1382 q1384 qs28 q130 q1385) (by decide +kernel) ⟨Nat.le_of_ble_eq_true rfl, Nat.le_of_ble_eq_true rfl⟩ (fun w1 e1 => mt_X2_move l G hSF x0 x1 0 0 v4 _ w1 e1) rfl hl.size (by decide) dX2_as_23 e (fun h5 e => ?_)
  refine ax_aload_n B dX2_as_26 rfl hl 0 rfl ?_
  refine ax_aload_n B dX2_as_27 rfl hl 1 rfl ?_
  refine ax_getI B ff_X2_33_2 (fun _ _ => rfl) dX2_as_28 e (fun v6 e => ?_)
  refine ax_putI B ff_X2_33_2 (Or.inl rfl) rfl dX2_as_31 e (fun h7 e => ?_)
  refine ax_aload_n B dX2_as_34 rfl hl 0 rfl ?_
  refine ax_aload_n B dX2_as_35 rfl hl 1 rfl ?_
  refine ax_getI B ff_X2_41_2 (fun _ _ => rfl) dX2_as_36 e (fun v8 e => ?_)
  refine ax_putI B ff_X2_41_2 (Or.inl rfl) rfl dX2_as_39 e (fun h9 e => ?_)
  refine ax_aload_n B dX2_as_42 rfl hl 0 rfl ?_
  have e8 := e
  have hp : Q = _ := hp
  subst hp
  exact ax_areturn B Z (Or.inl ⟨_, rfl⟩) dX2_as_43 e8
theorem mt_X2_as (l : Launch) (G : ax_G) (hSF : ax_SF G) (x0 : Option Nat) (x1 : Option Nat) (h : ax_H) (w : Option Nat × ax_H) (e : f_X2_as G.2.2 x0 x1 h = some w) : ax_Met l G yX2_as cX2_as 2 ((some (FieldType.object "DebtDoors$Books"))) 2 64 [va_rf x0, va_rf x1] h w.2 (some (va_rf w.1)) :=
  ax_enter [.inr (.inr x0), .inr (.inr x1)] (y := yX2_as) hSF (plainFor_of_name (by decide +kernel)) (Nat.le_of_ble_eq_true rfl) (fun X ls B Z hn hl => we_X2_as hSF B Z hn x0 x1 hl e rfl)
def dkwX26_init_0 : List UInt8 := [42, 183, 0, 1, 42, 27, 181, 0, 7, 42, 44, 181, 0, 13, 177]
abbrev dktX26_init_0 : List UInt8 := dkwX26_init_0 ++ []
theorem dksX26_init_0 : cX26_init.data.toList.drop 0 = dktX26_init_0 := by decide +kernel
theorem dX26_init_0 : decode cX26_init 0 = .ok (.aload_n 0, 1) := dk_42 (dk_at dksX26_init_0 0 rfl rfl)
theorem dX26_init_1 : decode cX26_init 1 = .ok (.invokespecial 1, 3) := dk_183 0 1 (dk_at dksX26_init_0 1 rfl rfl)
theorem dX26_init_4 : decode cX26_init 4 = .ok (.aload_n 0, 1) := dk_42 (dk_at dksX26_init_0 4 rfl rfl)
theorem dX26_init_5 : decode cX26_init 5 = .ok (.iload_n 1, 1) := dk_27 (dk_at dksX26_init_0 5 rfl rfl)
theorem dX26_init_6 : decode cX26_init 6 = .ok (.putfield 7, 3) := dk_181 0 7 (dk_at dksX26_init_0 6 rfl rfl)
theorem dX26_init_9 : decode cX26_init 9 = .ok (.aload_n 0, 1) := dk_42 (dk_at dksX26_init_0 9 rfl rfl)
theorem dX26_init_10 : decode cX26_init 10 = .ok (.aload_n 2, 1) := dk_44 (dk_at dksX26_init_0 10 rfl rfl)
theorem dX26_init_11 : decode cX26_init 11 = .ok (.putfield 13, 3) := dk_181 0 13 (dk_at dksX26_init_0 11 rfl rfl)
theorem dX26_init_14 : decode cX26_init 14 = .ok (.return_, 1) := dk_177 (dk_at dksX26_init_0 14 rfl rfl)
noncomputable def f_X26_init (E : ax_E) (x0 : Option Nat) (x1 : Int) (x2 : Option Nat) (h : ax_H) : Option (ax_H) :=
  x0.bind fun _ =>
  (ax_pI h x0 26 0 x1).bind fun h1 =>
  (ax_pR h1 x0 26 1 x2).bind fun h2 =>
  some h2
set_option maxHeartbeats 4000000 in
theorem we_X26_init {l : Launch} {G : ax_G} {X : ax_X} {Q : State → Prop} {h0 h : ax_H} {ls : Array Slot} (hSF : ax_SF G) (B : ax_BL l G X cX26_init 3 RX26 1 40) (Z : ax_Z X h0 none) (hn : X.2.2.2.2.2.2.2.2.1.name = yX26_init.name) (x0 : Option Nat) (x1 : Int) (x2 : Option Nat) {w : ax_H} (hl : ax_hl ls 3 [(0, .inr (.inr x0)), (1, .inl x1), (2, .inr (.inr x2))]) (e : f_X26_init G.2.2 x0 x1 x2 h = some w) (hp : (fun w : ax_H => Q = ax_Q G X h0 w none) w) : ax_W G X Q h 0 ls [] := by
  unfold f_X26_init at e
  refine ax_aload_n B dX26_init_0 rfl hl 0 rfl ?_
  refine ax_oiR B q1389 q183 q184 hl.size (by decide) (by decide) dX26_init_1 e (fun e => ?_)
  refine ax_aload_n B dX26_init_4 rfl hl 0 rfl ?_
  refine ax_iload_n B dX26_init_5 rfl hl 1 rfl ?_
  refine ax_putI B ff_X26_7_26 (Or.inr ⟨rfl, rfl, hn⟩) rfl dX26_init_6 e (fun h1 e => ?_)
  refine ax_aload_n B dX26_init_9 rfl hl 0 rfl ?_
  refine ax_aload_n B dX26_init_10 rfl hl 2 rfl ?_
  refine ax_putR B ff_X26_13_26 (Or.inr ⟨rfl, rfl, hn⟩) rfl dX26_init_11 e (fun h2 e => ?_)
  have e8 := e
  have hp : Q = _ := hp
  subst hp
  exact ax_return B Z dX26_init_14 e8
theorem mt_X26_init (l : Launch) (G : ax_G) (hSF : ax_SF G) (x0 : Option Nat) (x1 : Int) (x2 : Option Nat) (h : ax_H) (w : ax_H) (e : f_X26_init G.2.2 x0 x1 x2 h = some w) : ax_Met l G yX26_init cX26_init 3 none 1 40 [va_rf x0, .int (Int32.ofInt x1), va_rf x2] h w none :=
  ax_enter [.inr (.inr x0), .inl x1, .inr (.inr x2)] (y := yX26_init) hSF (plainFor_of_name (by decide +kernel)) (Nat.le_of_ble_eq_true rfl) (fun X ls B Z hn hl => we_X26_init hSF B Z hn x0 x1 x2 hl e rfl)
def dkwX0_remember_2 : List UInt8 := [183, 1, 40, 182, 0, 231, 87, 177]
abbrev dktX0_remember_2 : List UInt8 := dkwX0_remember_2 ++ []
def dkwX0_remember_1 : List UInt8 := [180, 0, 31, 187, 1, 34, 89, 27, 187, 0, 71, 89, 183, 0, 73, 42, 182, 0, 104, 182, 1, 36]
abbrev dktX0_remember_1 : List UInt8 := dkwX0_remember_1 ++ dktX0_remember_2
def dkwX0_remember_0 : List UInt8 := [42, 180, 0, 31, 182, 0, 218, 16, 16, 160, 0, 12, 42, 180, 0, 31, 3, 182, 1, 31, 87, 42]
abbrev dktX0_remember_0 : List UInt8 := dkwX0_remember_0 ++ dktX0_remember_1
theorem dksX0_remember_0 : cX0_remember.data.toList.drop 0 = dktX0_remember_0 := by decide +kernel
theorem dksX0_remember_1 : cX0_remember.data.toList.drop 22 = dktX0_remember_1 := dk_seg dksX0_remember_0 22 rfl rfl
theorem dksX0_remember_2 : cX0_remember.data.toList.drop 44 = dktX0_remember_2 := dk_seg dksX0_remember_1 22 rfl rfl
theorem dX0_remember_0 : decode cX0_remember 0 = .ok (.aload_n 0, 1) := dk_42 (dk_at dksX0_remember_0 0 rfl rfl)
theorem dX0_remember_1 : decode cX0_remember 1 = .ok (.getfield 31, 3) := dk_180 0 31 (dk_at dksX0_remember_0 1 rfl rfl)
theorem dX0_remember_4 : decode cX0_remember 4 = .ok (.invokevirtual 218, 3) := dk_182 0 218 (dk_at dksX0_remember_0 4 rfl rfl)
theorem dX0_remember_7 : decode cX0_remember 7 = .ok (.bipush 16, 2) := dk_16 16 (dk_at dksX0_remember_0 7 rfl rfl)
theorem dX0_remember_9 : decode cX0_remember 9 = .ok (.if_icmp .ne 12, 3) := dk_160 0 12 (dk_at dksX0_remember_0 9 rfl rfl)
theorem dX0_remember_12 : decode cX0_remember 12 = .ok (.aload_n 0, 1) := dk_42 (dk_at dksX0_remember_0 12 rfl rfl)
theorem dX0_remember_13 : decode cX0_remember 13 = .ok (.getfield 31, 3) := dk_180 0 31 (dk_at dksX0_remember_0 13 rfl rfl)
theorem dX0_remember_16 : decode cX0_remember 16 = .ok (.iconst 0, 1) := dk_3 (dk_at dksX0_remember_0 16 rfl rfl)
theorem dX0_remember_17 : decode cX0_remember 17 = .ok (.invokevirtual 287, 3) := dk_182 1 31 (dk_at dksX0_remember_0 17 rfl rfl)
theorem dX0_remember_20 : decode cX0_remember 20 = .ok (.pop, 1) := dk_87 (dk_at dksX0_remember_0 20 rfl rfl)
theorem dX0_remember_21 : decode cX0_remember 21 = .ok (.aload_n 0, 1) := dk_42 (dk_at dksX0_remember_0 21 rfl rfl)
theorem dX0_remember_22 : decode cX0_remember 22 = .ok (.getfield 31, 3) := dk_180 0 31 (dk_at dksX0_remember_1 0 rfl rfl)
theorem dX0_remember_25 : decode cX0_remember 25 = .ok (.new 290, 3) := dk_187 1 34 (dk_at dksX0_remember_1 3 rfl rfl)
theorem dX0_remember_28 : decode cX0_remember 28 = .ok (.dup, 1) := dk_89 (dk_at dksX0_remember_1 6 rfl rfl)
theorem dX0_remember_29 : decode cX0_remember 29 = .ok (.iload_n 1, 1) := dk_27 (dk_at dksX0_remember_1 7 rfl rfl)
theorem dX0_remember_30 : decode cX0_remember 30 = .ok (.new 71, 3) := dk_187 0 71 (dk_at dksX0_remember_1 8 rfl rfl)
theorem dX0_remember_33 : decode cX0_remember 33 = .ok (.dup, 1) := dk_89 (dk_at dksX0_remember_1 11 rfl rfl)
theorem dX0_remember_34 : decode cX0_remember 34 = .ok (.invokespecial 73, 3) := dk_183 0 73 (dk_at dksX0_remember_1 12 rfl rfl)
theorem dX0_remember_37 : decode cX0_remember 37 = .ok (.aload_n 0, 1) := dk_42 (dk_at dksX0_remember_1 15 rfl rfl)
theorem dX0_remember_38 : decode cX0_remember 38 = .ok (.invokevirtual 104, 3) := dk_182 0 104 (dk_at dksX0_remember_1 16 rfl rfl)
theorem dX0_remember_41 : decode cX0_remember 41 = .ok (.invokevirtual 292, 3) := dk_182 1 36 (dk_at dksX0_remember_1 19 rfl rfl)
theorem dX0_remember_44 : decode cX0_remember 44 = .ok (.invokespecial 296, 3) := dk_183 1 40 (dk_at dksX0_remember_2 0 rfl rfl)
theorem dX0_remember_47 : decode cX0_remember 47 = .ok (.invokevirtual 231, 3) := dk_182 0 231 (dk_at dksX0_remember_2 3 rfl rfl)
theorem dX0_remember_50 : decode cX0_remember 50 = .ok (.pop, 1) := dk_87 (dk_at dksX0_remember_2 6 rfl rfl)
theorem dX0_remember_51 : decode cX0_remember 51 = .ok (.return_, 1) := dk_177 (dk_at dksX0_remember_2 7 rfl rfl)
noncomputable def f_X0_remember_21 (E : ax_E) (x0 : Option Nat) (x1 : Int) (h : ax_H) : Option (ax_H) :=
  (ax_gR E h x0 0 2).bind fun v1 =>
  (ax_nw E h 26 0 2).bind fun q2 =>
  (ax_nw E q2.2 2 0 7).bind fun q3 =>
  (some q3.1).bind fun _ => (f_X2_init E (some q3.1) q3.2).bind fun h4 =>
  (ax_ce E h4 x0 0).bind fun _ => (f_X0_books E x0 h4).bind fun q5 =>
  (ax_ce E q5.2 (some q3.1) 2).bind fun _ => (f_X2_as E (some q3.1) q5.1 q5.2).bind fun q6 =>
  (some q2.1).bind fun _ => (f_X26_init E (some q2.1) x1 q6.1 q6.2).bind fun h7 =>
  (ax_ce E h7 v1 42).bind fun _ => (f_J2_add E v1 (some q2.1) h7).bind fun q8 =>
  some q8.2
noncomputable def f_X0_remember (E : ax_E) (x0 : Option Nat) (x1 : Int) (h : ax_H) : Option (ax_H) :=
  (ax_gR E h x0 0 2).bind fun v1 =>
  (ax_ce E h v1 42).bind fun _ => (f_J2_size E v1 h).bind fun q2 =>
  if i2 q2.1 = i2 16 then
    (ax_gR E q2.2 x0 0 2).bind fun v3 =>
    (ax_ce E q2.2 v3 42).bind fun _ => (f_J2_remove E v3 0 q2.2).bind fun q4 =>
    f_X0_remember_21 E x0 x1 q4.2
  else
    f_X0_remember_21 E x0 x1 q2.2
set_option maxHeartbeats 4000000 in
theorem w_X0_remember_21 {l : Launch} {G : ax_G} {X : ax_X} {Q : State → Prop} {h0 h : ax_H} {ls : Array Slot} (hSF : ax_SF G) (B : ax_BL l G X cX0_remember 2 RX0 8 192) (Z : ax_Z X h0 none) (hn : X.2.2.2.2.2.2.2.2.1.name = yX0_remember.name) (x0 : Option Nat) (x1 : Int) {w : ax_H} (hl : ax_hl ls 2 [(0, .inr (.inr x0)), (1, .inl x1)]) (e : f_X0_remember_21 G.2.2 x0 x1 h = some w) (hp : (fun w : ax_H => Q = ax_Q G X h0 w none) w) : ax_W G X Q h 21 ls [] := by
  unfold f_X0_remember_21 at e
  refine ax_aload_n B dX0_remember_21 rfl hl 0 rfl ?_
  refine ax_getR B ff_X0_31_0 (fun _ _ => rfl) dX0_remember_22 e (fun v1 e => ?_)
  refine ax_new B kd26 in_X26 tyX26_ok (fun k hk => ax_dv _ (dfX26 k hk)) q1375 q1376 q168 dX0_remember_25 e (fun q2 e => ?_)
  refine ax_dup B dX0_remember_28 (va_rf_cat _) ?_
  refine ax_iload_n B dX0_remember_29 rfl hl 1 rfl ?_
  refine ax_new B kd2 in_X2 tyX2_ok (fun k hk => ax_dv _ (dfX2 k hk)) q338 q218 q130 dX0_remember_30 e (fun q3 e => ?_)
  refine ax_dup B dX0_remember_33 (va_rf_cat _) ?_
  refine ax_iiNR (y := yX2_init) (n := 0) (As := []) B q339 q220 q130 q221 rfl (by decide +kernel) ⟨Nat.le_of_ble_eq_true rfl, Nat.le_of_ble_eq_true rfl⟩ (fun w1 e1 => mt_X2_init l G hSF (some q3.1) _ w1 e1) rfl hl.size (by simp only [List.map_cons, List.map_nil, List.sum_cons, List.sum_nil, va_rf_cat, ax_catI, ax_catL]; decide) dX0_remember_34 e (fun h4 e => ?_)
  refine ax_aload_n B dX0_remember_37 rfl hl 0 rfl ?_
  refine ax_ivR (y := yX0_books) (n := 0) (As := []) B kd0 (lw_V q443 q445 qs2 q125 q446) (by decide +kernel) ⟨Nat.le_of_ble_eq_true rfl, Nat.le_of_ble_eq_true rfl⟩ (fun w1 e1 => mt_X0_books l G hSF x0 _ w1 e1) rfl hl.size (by simp only [List.map_cons, List.map_nil, List.sum_cons, List.sum_nil, va_rf_cat, ax_catI, ax_catL]; decide) dX0_remember_38 e (fun q5 e => ?_)
  refine ax_ivR (y := yX2_as) (n := 1) (As := [va_rf q5.1]) B kd2 (lw_V q1377 q1378 q1379 q130 q1380) (by decide +kernel) ⟨Nat.le_of_ble_eq_true rfl, Nat.le_of_ble_eq_true rfl⟩ (fun w1 e1 => mt_X2_as l G hSF (some q3.1) q5.1 _ w1 e1) rfl hl.size (by simp only [List.map_cons, List.map_nil, List.sum_cons, List.sum_nil, va_rf_cat, ax_catI, ax_catL]; decide) dX0_remember_41 e (fun q6 e => ?_)
  refine ax_iiR (y := yX26_init) (n := 2) (As := [.int (Int32.ofInt x1), va_rf q6.1]) B q1386 q1387 q168 q1388 rfl (by decide +kernel) ⟨Nat.le_of_ble_eq_true rfl, Nat.le_of_ble_eq_true rfl⟩ (fun w1 e1 => mt_X26_init l G hSF (some q2.1) x1 q6.1 _ w1 e1) rfl hl.size (by simp only [List.map_cons, List.map_nil, List.sum_cons, List.sum_nil, va_rf_cat, ax_catI, ax_catL]; decide) dX0_remember_44 e (fun h7 e => ?_)
  refine ax_ivI (y := yJ2_add) (n := 1) (As := [va_rf (some q2.1)]) B kd42 (lw_V q1245 q1246 q1247 q129 q1248) (by decide +kernel) ⟨Nat.le_of_ble_eq_true rfl, Nat.le_of_ble_eq_true rfl⟩ (fun w1 e1 => mt_J2_add l G hSF v1 (some q2.1) _ w1 e1) rfl hl.size (by decide) dX0_remember_47 e (fun q8 e => ?_)
  refine ax_pop B dX0_remember_50 (rfl) ?_
  have e8 := e
  have hp : Q = _ := hp
  subst hp
  exact ax_return B Z dX0_remember_51 e8
set_option maxHeartbeats 4000000 in
theorem we_X0_remember {l : Launch} {G : ax_G} {X : ax_X} {Q : State → Prop} {h0 h : ax_H} {ls : Array Slot} (hSF : ax_SF G) (B : ax_BL l G X cX0_remember 2 RX0 8 192) (Z : ax_Z X h0 none) (hn : X.2.2.2.2.2.2.2.2.1.name = yX0_remember.name) (x0 : Option Nat) (x1 : Int) {w : ax_H} (hl : ax_hl ls 2 [(0, .inr (.inr x0)), (1, .inl x1)]) (e : f_X0_remember G.2.2 x0 x1 h = some w) (hp : (fun w : ax_H => Q = ax_Q G X h0 w none) w) : ax_W G X Q h 0 ls [] := by
  unfold f_X0_remember at e
  refine ax_aload_n B dX0_remember_0 rfl hl 0 rfl ?_
  refine ax_getR B ff_X0_31_0 (fun _ _ => rfl) dX0_remember_1 e (fun v1 e => ?_)
  refine ax_ivI (y := yJ2_size) (n := 0) (As := []) B kd42 (lw_V q709 q710 q711 q129 q712) (by decide +kernel) ⟨Nat.le_of_ble_eq_true rfl, Nat.le_of_ble_eq_true rfl⟩ (fun w1 e1 => mt_J2_size l G hSF v1 _ w1 e1) rfl hl.size (by decide) dX0_remember_4 e (fun q2 e => ?_)
  refine ax_bipush B dX0_remember_7 (by decide) ?_
  refine ax_icmp_ne (tgt := 21) B dX0_remember_9 (by decide) e (fun e => ?_) (fun e => ?_)
  · refine ax_aload_n B dX0_remember_12 rfl hl 0 rfl ?_
    refine ax_getR B ff_X0_31_0 (fun _ _ => rfl) dX0_remember_13 e (fun v3 e => ?_)
    refine ax_iconst B dX0_remember_16 ?_
    refine ax_ivR (y := yJ2_remove) (n := 1) (As := [.int (Int32.ofInt 0)]) B kd42 (lw_V q1366 q1367 q1368 q129 q1369) (by decide +kernel) ⟨Nat.le_of_ble_eq_true rfl, Nat.le_of_ble_eq_true rfl⟩ (fun w1 e1 => mt_J2_remove l G hSF v3 0 _ w1 e1) rfl hl.size (by decide) dX0_remember_17 e (fun q4 e => ?_)
    refine ax_pop B dX0_remember_20 (va_rf_cat _) ?_
    exact w_X0_remember_21 hSF B Z hn x0 x1 (hl.sub [0, 1] rfl) e hp
  · exact w_X0_remember_21 hSF B Z hn x0 x1 (hl.sub [0, 1] rfl) e hp
theorem mt_X0_remember (l : Launch) (G : ax_G) (hSF : ax_SF G) (x0 : Option Nat) (x1 : Int) (h : ax_H) (w : ax_H) (e : f_X0_remember G.2.2 x0 x1 h = some w) : ax_Met l G yX0_remember cX0_remember 2 none 8 192 [va_rf x0, .int (Int32.ofInt x1)] h w none :=
  ax_enter [.inr (.inr x0), .inl x1] (y := yX0_remember) hSF (plainFor_of_name (by decide +kernel)) (Nat.le_of_ble_eq_true rfl) (fun X ls B Z hn hl => we_X0_remember hSF B Z hn x0 x1 hl e rfl)
def dkwX2_pay_0 : List UInt8 := [42, 180, 0, 9, 27, 92, 46, 29, 100, 79, 42, 180, 0, 9, 28, 92, 46, 29, 96, 79, 177]
abbrev dktX2_pay_0 : List UInt8 := dkwX2_pay_0 ++ []
theorem dksX2_pay_0 : cX2_pay.data.toList.drop 0 = dktX2_pay_0 := by decide +kernel
theorem dX2_pay_0 : decode cX2_pay 0 = .ok (.aload_n 0, 1) := dk_42 (dk_at dksX2_pay_0 0 rfl rfl)
theorem dX2_pay_1 : decode cX2_pay 1 = .ok (.getfield 9, 3) := dk_180 0 9 (dk_at dksX2_pay_0 1 rfl rfl)
theorem dX2_pay_4 : decode cX2_pay 4 = .ok (.iload_n 1, 1) := dk_27 (dk_at dksX2_pay_0 4 rfl rfl)
theorem dX2_pay_5 : decode cX2_pay 5 = .ok (.dup2, 1) := dk_92 (dk_at dksX2_pay_0 5 rfl rfl)
theorem dX2_pay_6 : decode cX2_pay 6 = .ok (.iaload, 1) := dk_46 (dk_at dksX2_pay_0 6 rfl rfl)
theorem dX2_pay_7 : decode cX2_pay 7 = .ok (.iload_n 3, 1) := dk_29 (dk_at dksX2_pay_0 7 rfl rfl)
theorem dX2_pay_8 : decode cX2_pay 8 = .ok (.isub, 1) := dk_100 (dk_at dksX2_pay_0 8 rfl rfl)
theorem dX2_pay_9 : decode cX2_pay 9 = .ok (.iastore, 1) := dk_79 (dk_at dksX2_pay_0 9 rfl rfl)
theorem dX2_pay_10 : decode cX2_pay 10 = .ok (.aload_n 0, 1) := dk_42 (dk_at dksX2_pay_0 10 rfl rfl)
theorem dX2_pay_11 : decode cX2_pay 11 = .ok (.getfield 9, 3) := dk_180 0 9 (dk_at dksX2_pay_0 11 rfl rfl)
theorem dX2_pay_14 : decode cX2_pay 14 = .ok (.iload_n 2, 1) := dk_28 (dk_at dksX2_pay_0 14 rfl rfl)
theorem dX2_pay_15 : decode cX2_pay 15 = .ok (.dup2, 1) := dk_92 (dk_at dksX2_pay_0 15 rfl rfl)
theorem dX2_pay_16 : decode cX2_pay 16 = .ok (.iaload, 1) := dk_46 (dk_at dksX2_pay_0 16 rfl rfl)
theorem dX2_pay_17 : decode cX2_pay 17 = .ok (.iload_n 3, 1) := dk_29 (dk_at dksX2_pay_0 17 rfl rfl)
theorem dX2_pay_18 : decode cX2_pay 18 = .ok (.iadd, 1) := dk_96 (dk_at dksX2_pay_0 18 rfl rfl)
theorem dX2_pay_19 : decode cX2_pay 19 = .ok (.iastore, 1) := dk_79 (dk_at dksX2_pay_0 19 rfl rfl)
theorem dX2_pay_20 : decode cX2_pay 20 = .ok (.return_, 1) := dk_177 (dk_at dksX2_pay_0 20 rfl rfl)
noncomputable def f_X2_pay (E : ax_E) (x0 : Option Nat) (x1 : Int) (x2 : Int) (x3 : Int) (h : ax_H) : Option (ax_H) :=
  (ax_gR E h x0 2 0).bind fun v1 =>
  (ax_ld E h v1 100 x1).bind fun v2 =>
  (ax_sto h v1 100 x1 (v2 - x3)).bind fun h3 =>
  (ax_gR E h3 x0 2 0).bind fun v4 =>
  (ax_ld E h3 v4 100 x2).bind fun v5 =>
  (ax_sto h3 v4 100 x2 (v5 + x3)).bind fun h6 =>
  some h6
set_option maxHeartbeats 4000000 in
theorem we_X2_pay {l : Launch} {G : ax_G} {X : ax_X} {Q : State → Prop} {h0 h : ax_H} {ls : Array Slot} (hSF : ax_SF G) (B : ax_BL l G X cX2_pay 4 RX2 1 40) (Z : ax_Z X h0 none) (hn : X.2.2.2.2.2.2.2.2.1.name = yX2_pay.name) (x0 : Option Nat) (x1 : Int) (x2 : Int) (x3 : Int) {w : ax_H} (hl : ax_hl ls 4 [(0, .inr (.inr x0)), (1, .inl x1), (2, .inl x2), (3, .inl x3)]) (e : f_X2_pay G.2.2 x0 x1 x2 x3 h = some w) (hp : (fun w : ax_H => Q = ax_Q G X h0 w none) w) : ax_W G X Q h 0 ls [] := by
  unfold f_X2_pay at e
  refine ax_aload_n B dX2_pay_0 rfl hl 0 rfl ?_
  refine ax_getR B ff_X2_9_2 (fun _ _ => rfl) dX2_pay_1 e (fun v1 e => ?_)
  refine ax_iload_n B dX2_pay_4 rfl hl 1 rfl ?_
  refine ax_dup2 B dX2_pay_5 (rfl) (va_rf_cat _) ?_
  refine ax_iald B kd100 dX2_pay_6 e (fun v2 e => ?_)
  refine ax_iload_n B dX2_pay_7 rfl hl 3 rfl ?_
  refine ax_isub' B dX2_pay_8 ?_
  refine ax_iast B kd100 dX2_pay_9 e (fun h3 e => ?_)
  refine ax_aload_n B dX2_pay_10 rfl hl 0 rfl ?_
  refine ax_getR B ff_X2_9_2 (fun _ _ => rfl) dX2_pay_11 e (fun v4 e => ?_)
  refine ax_iload_n B dX2_pay_14 rfl hl 2 rfl ?_
  refine ax_dup2 B dX2_pay_15 (rfl) (va_rf_cat _) ?_
  refine ax_iald B kd100 dX2_pay_16 e (fun v5 e => ?_)
  refine ax_iload_n B dX2_pay_17 rfl hl 3 rfl ?_
  refine ax_iadd' B dX2_pay_18 ?_
  refine ax_iast B kd100 dX2_pay_19 e (fun h6 e => ?_)
  have e8 := e
  have hp : Q = _ := hp
  subst hp
  exact ax_return B Z dX2_pay_20 e8
theorem mt_X2_pay (l : Launch) (G : ax_G) (hSF : ax_SF G) (x0 : Option Nat) (x1 : Int) (x2 : Int) (x3 : Int) (h : ax_H) (w : ax_H) (e : f_X2_pay G.2.2 x0 x1 x2 x3 h = some w) : ax_Met l G yX2_pay cX2_pay 4 none 1 40 [va_rf x0, .int (Int32.ofInt x1), .int (Int32.ofInt x2), .int (Int32.ofInt x3)] h w none :=
  ax_enter [.inr (.inr x0), .inl x1, .inl x2, .inl x3] (y := yX2_pay) hSF (plainFor_of_name (by decide +kernel)) (Nat.le_of_ble_eq_true rfl) (fun X ls B Z hn hl => we_X2_pay hSF B Z hn x0 x1 x2 x3 hl e rfl)
def dkwX0_lendIn_0 : List UInt8 := [42, 27, 28, 29, 182, 1, 54, 42, 28, 27, 29, 182, 0, 154, 177]
abbrev dktX0_lendIn_0 : List UInt8 := dkwX0_lendIn_0 ++ []
theorem dksX0_lendIn_0 : cX0_lendIn.data.toList.drop 0 = dktX0_lendIn_0 := by decide +kernel
theorem dX0_lendIn_0 : decode cX0_lendIn 0 = .ok (.aload_n 0, 1) := dk_42 (dk_at dksX0_lendIn_0 0 rfl rfl)
theorem dX0_lendIn_1 : decode cX0_lendIn 1 = .ok (.iload_n 1, 1) := dk_27 (dk_at dksX0_lendIn_0 1 rfl rfl)
theorem dX0_lendIn_2 : decode cX0_lendIn 2 = .ok (.iload_n 2, 1) := dk_28 (dk_at dksX0_lendIn_0 2 rfl rfl)
theorem dX0_lendIn_3 : decode cX0_lendIn 3 = .ok (.iload_n 3, 1) := dk_29 (dk_at dksX0_lendIn_0 3 rfl rfl)
theorem dX0_lendIn_4 : decode cX0_lendIn 4 = .ok (.invokevirtual 310, 3) := dk_182 1 54 (dk_at dksX0_lendIn_0 4 rfl rfl)
theorem dX0_lendIn_7 : decode cX0_lendIn 7 = .ok (.aload_n 0, 1) := dk_42 (dk_at dksX0_lendIn_0 7 rfl rfl)
theorem dX0_lendIn_8 : decode cX0_lendIn 8 = .ok (.iload_n 2, 1) := dk_28 (dk_at dksX0_lendIn_0 8 rfl rfl)
theorem dX0_lendIn_9 : decode cX0_lendIn 9 = .ok (.iload_n 1, 1) := dk_27 (dk_at dksX0_lendIn_0 9 rfl rfl)
theorem dX0_lendIn_10 : decode cX0_lendIn 10 = .ok (.iload_n 3, 1) := dk_29 (dk_at dksX0_lendIn_0 10 rfl rfl)
theorem dX0_lendIn_11 : decode cX0_lendIn 11 = .ok (.invokevirtual 154, 3) := dk_182 0 154 (dk_at dksX0_lendIn_0 11 rfl rfl)
theorem dX0_lendIn_14 : decode cX0_lendIn 14 = .ok (.return_, 1) := dk_177 (dk_at dksX0_lendIn_0 14 rfl rfl)
noncomputable def f_X0_lendIn (E : ax_E) (x0 : Option Nat) (x1 : Int) (x2 : Int) (x3 : Int) (h : ax_H) : Option (ax_H) :=
  (ax_ce E h x0 2).bind fun _ => (f_X2_pay E x0 x1 x2 x3 h).bind fun h1 =>
  (ax_ce E h1 x0 2).bind fun _ => (f_X2_add E x0 x2 x1 x3 h1).bind fun h2 =>
  some h2
set_option maxHeartbeats 4000000 in
theorem we_X0_lendIn {l : Launch} {G : ax_G} {X : ax_X} {Q : State → Prop} {h0 h : ax_H} {ls : Array Slot} (hSF : ax_SF G) (B : ax_BL l G X cX0_lendIn 4 RX0 2 63) (Z : ax_Z X h0 none) (hn : X.2.2.2.2.2.2.2.2.1.name = yX0_lendIn.name) (x0 : Option Nat) (x1 : Int) (x2 : Int) (x3 : Int) {w : ax_H} (hl : ax_hl ls 4 [(0, .inr (.inr x0)), (1, .inl x1), (2, .inl x2), (3, .inl x3)]) (e : f_X0_lendIn G.2.2 x0 x1 x2 x3 h = some w) (hp : (fun w : ax_H => Q = ax_Q G X h0 w none) w) : ax_W G X Q h 0 ls [] := by
  unfold f_X0_lendIn at e
  refine ax_aload_n B dX0_lendIn_0 rfl hl 0 rfl ?_
  refine ax_iload_n B dX0_lendIn_1 rfl hl 1 rfl ?_
  refine ax_iload_n B dX0_lendIn_2 rfl hl 2 rfl ?_
  refine ax_iload_n B dX0_lendIn_3 rfl hl 3 rfl ?_
  refine ax_ivV (y := yX2_pay) (n := 3) (As := [.int (Int32.ofInt x1), .int (Int32.ofInt x2), .int (Int32.ofInt x3)]) B kd2 (lw_V q1402 q1403 q1404 q130 q1405) (by decide +kernel) ⟨Nat.le_of_ble_eq_true rfl, Nat.le_of_ble_eq_true rfl⟩ (fun w1 e1 => mt_X2_pay l G hSF x0 x1 x2 x3 _ w1 e1) rfl hl.size (by decide) dX0_lendIn_4 e (fun h1 e => ?_)
  refine ax_aload_n B dX0_lendIn_7 rfl hl 0 rfl ?_
  refine ax_iload_n B dX0_lendIn_8 rfl hl 2 rfl ?_
  refine ax_iload_n B dX0_lendIn_9 rfl hl 1 rfl ?_
  refine ax_iload_n B dX0_lendIn_10 rfl hl 3 rfl ?_
  refine ax_ivV (y := yX2_add) (n := 3) (As := [.int (Int32.ofInt x2), .int (Int32.ofInt x1), .int (Int32.ofInt x3)]) B kd2 (lw_V q487 q488 q489 q130 q490) (by decide +kernel) ⟨Nat.le_of_ble_eq_true rfl, Nat.le_of_ble_eq_true rfl⟩ (fun w1 e1 => mt_X2_add l G hSF x0 x2 x1 x3 _ w1 e1) rfl hl.size (by decide) dX0_lendIn_11 e (fun h2 e => ?_)
  have e8 := e
  have hp : Q = _ := hp
  subst hp
  exact ax_return B Z dX0_lendIn_14 e8
theorem mt_X0_lendIn (l : Launch) (G : ax_G) (hSF : ax_SF G) (x0 : Option Nat) (x1 : Int) (x2 : Int) (x3 : Int) (h : ax_H) (w : ax_H) (e : f_X0_lendIn G.2.2 x0 x1 x2 x3 h = some w) : ax_Met l G yX0_lendIn cX0_lendIn 4 none 2 63 [va_rf x0, .int (Int32.ofInt x1), .int (Int32.ofInt x2), .int (Int32.ofInt x3)] h w none :=
  ax_enter [.inr (.inr x0), .inl x1, .inl x2, .inl x3] (y := yX0_lendIn) hSF (plainFor_of_name (by decide +kernel)) (Nat.le_of_ble_eq_true rfl) (fun X ls B Z hn hl => we_X0_lendIn hSF B Z hn x0 x1 x2 x3 hl e rfl)
def dkwX0_lendNow_3 : List UInt8 := [182, 0, 104, 27, 28, 29, 184, 1, 50, 29, 172]
abbrev dktX0_lendNow_3 : List UInt8 := dkwX0_lendNow_3 ++ []
def dkwX0_lendNow_2 : List UInt8 := [16, 253, 172, 42, 182, 0, 104, 180, 0, 107, 16, 16, 160, 0, 6, 16, 251, 172, 42, 3, 182, 1, 47, 42]
abbrev dktX0_lendNow_2 : List UInt8 := dkwX0_lendNow_2 ++ dktX0_lendNow_3
def dkwX0_lendNow_1 : List UInt8 := [154, 0, 6, 16, 254, 172, 27, 28, 159, 0, 16, 42, 182, 0, 104, 27, 28, 29, 182, 1, 43, 154, 0, 6]
abbrev dktX0_lendNow_1 : List UInt8 := dkwX0_lendNow_1 ++ dktX0_lendNow_2
def dkwX0_lendNow_0 : List UInt8 := [29, 184, 0, 151, 154, 0, 5, 2, 172, 42, 27, 182, 0, 110, 153, 0, 11, 42, 28, 182, 0, 110]
abbrev dktX0_lendNow_0 : List UInt8 := dkwX0_lendNow_0 ++ dktX0_lendNow_1
theorem dksX0_lendNow_0 : cX0_lendNow.data.toList.drop 0 = dktX0_lendNow_0 := by decide +kernel
theorem dksX0_lendNow_1 : cX0_lendNow.data.toList.drop 22 = dktX0_lendNow_1 := dk_seg dksX0_lendNow_0 22 rfl rfl
theorem dksX0_lendNow_2 : cX0_lendNow.data.toList.drop 46 = dktX0_lendNow_2 := dk_seg dksX0_lendNow_1 24 rfl rfl
theorem dksX0_lendNow_3 : cX0_lendNow.data.toList.drop 70 = dktX0_lendNow_3 := dk_seg dksX0_lendNow_2 24 rfl rfl
theorem dX0_lendNow_0 : decode cX0_lendNow 0 = .ok (.iload_n 3, 1) := dk_29 (dk_at dksX0_lendNow_0 0 rfl rfl)
theorem dX0_lendNow_1 : decode cX0_lendNow 1 = .ok (.invokestatic 151, 3) := dk_184 0 151 (dk_at dksX0_lendNow_0 1 rfl rfl)
theorem dX0_lendNow_4 : decode cX0_lendNow 4 = .ok (.ifCond .ne 5, 3) := dk_154 0 5 (dk_at dksX0_lendNow_0 4 rfl rfl)
theorem dX0_lendNow_7 : decode cX0_lendNow 7 = .ok (.iconst (-1), 1) := dk_2 (dk_at dksX0_lendNow_0 7 rfl rfl)
theorem dX0_lendNow_8 : decode cX0_lendNow 8 = .ok (.ireturn, 1) := dk_172 (dk_at dksX0_lendNow_0 8 rfl rfl)
theorem dX0_lendNow_9 : decode cX0_lendNow 9 = .ok (.aload_n 0, 1) := dk_42 (dk_at dksX0_lendNow_0 9 rfl rfl)
theorem dX0_lendNow_10 : decode cX0_lendNow 10 = .ok (.iload_n 1, 1) := dk_27 (dk_at dksX0_lendNow_0 10 rfl rfl)
theorem dX0_lendNow_11 : decode cX0_lendNow 11 = .ok (.invokevirtual 110, 3) := dk_182 0 110 (dk_at dksX0_lendNow_0 11 rfl rfl)
theorem dX0_lendNow_14 : decode cX0_lendNow 14 = .ok (.ifCond .eq 11, 3) := dk_153 0 11 (dk_at dksX0_lendNow_0 14 rfl rfl)
theorem dX0_lendNow_17 : decode cX0_lendNow 17 = .ok (.aload_n 0, 1) := dk_42 (dk_at dksX0_lendNow_0 17 rfl rfl)
theorem dX0_lendNow_18 : decode cX0_lendNow 18 = .ok (.iload_n 2, 1) := dk_28 (dk_at dksX0_lendNow_0 18 rfl rfl)
theorem dX0_lendNow_19 : decode cX0_lendNow 19 = .ok (.invokevirtual 110, 3) := dk_182 0 110 (dk_at dksX0_lendNow_0 19 rfl rfl)
theorem dX0_lendNow_22 : decode cX0_lendNow 22 = .ok (.ifCond .ne 6, 3) := dk_154 0 6 (dk_at dksX0_lendNow_1 0 rfl rfl)
theorem dX0_lendNow_25 : decode cX0_lendNow 25 = .ok (.bipush (-2), 2) := dk_16 254 (dk_at dksX0_lendNow_1 3 rfl rfl)
theorem dX0_lendNow_27 : decode cX0_lendNow 27 = .ok (.ireturn, 1) := dk_172 (dk_at dksX0_lendNow_1 5 rfl rfl)
theorem dX0_lendNow_28 : decode cX0_lendNow 28 = .ok (.iload_n 1, 1) := dk_27 (dk_at dksX0_lendNow_1 6 rfl rfl)
theorem dX0_lendNow_29 : decode cX0_lendNow 29 = .ok (.iload_n 2, 1) := dk_28 (dk_at dksX0_lendNow_1 7 rfl rfl)
theorem dX0_lendNow_30 : decode cX0_lendNow 30 = .ok (.if_icmp .eq 16, 3) := dk_159 0 16 (dk_at dksX0_lendNow_1 8 rfl rfl)
theorem dX0_lendNow_33 : decode cX0_lendNow 33 = .ok (.aload_n 0, 1) := dk_42 (dk_at dksX0_lendNow_1 11 rfl rfl)
theorem dX0_lendNow_34 : decode cX0_lendNow 34 = .ok (.invokevirtual 104, 3) := dk_182 0 104 (dk_at dksX0_lendNow_1 12 rfl rfl)
theorem dX0_lendNow_37 : decode cX0_lendNow 37 = .ok (.iload_n 1, 1) := dk_27 (dk_at dksX0_lendNow_1 15 rfl rfl)
theorem dX0_lendNow_38 : decode cX0_lendNow 38 = .ok (.iload_n 2, 1) := dk_28 (dk_at dksX0_lendNow_1 16 rfl rfl)
theorem dX0_lendNow_39 : decode cX0_lendNow 39 = .ok (.iload_n 3, 1) := dk_29 (dk_at dksX0_lendNow_1 17 rfl rfl)
theorem dX0_lendNow_40 : decode cX0_lendNow 40 = .ok (.invokevirtual 299, 3) := dk_182 1 43 (dk_at dksX0_lendNow_1 18 rfl rfl)
theorem dX0_lendNow_43 : decode cX0_lendNow 43 = .ok (.ifCond .ne 6, 3) := dk_154 0 6 (dk_at dksX0_lendNow_1 21 rfl rfl)
theorem dX0_lendNow_46 : decode cX0_lendNow 46 = .ok (.bipush (-3), 2) := dk_16 253 (dk_at dksX0_lendNow_2 0 rfl rfl)
theorem dX0_lendNow_48 : decode cX0_lendNow 48 = .ok (.ireturn, 1) := dk_172 (dk_at dksX0_lendNow_2 2 rfl rfl)
theorem dX0_lendNow_49 : decode cX0_lendNow 49 = .ok (.aload_n 0, 1) := dk_42 (dk_at dksX0_lendNow_2 3 rfl rfl)
theorem dX0_lendNow_50 : decode cX0_lendNow 50 = .ok (.invokevirtual 104, 3) := dk_182 0 104 (dk_at dksX0_lendNow_2 4 rfl rfl)
theorem dX0_lendNow_53 : decode cX0_lendNow 53 = .ok (.getfield 107, 3) := dk_180 0 107 (dk_at dksX0_lendNow_2 7 rfl rfl)
theorem dX0_lendNow_56 : decode cX0_lendNow 56 = .ok (.bipush 16, 2) := dk_16 16 (dk_at dksX0_lendNow_2 10 rfl rfl)
theorem dX0_lendNow_58 : decode cX0_lendNow 58 = .ok (.if_icmp .ne 6, 3) := dk_160 0 6 (dk_at dksX0_lendNow_2 12 rfl rfl)
theorem dX0_lendNow_61 : decode cX0_lendNow 61 = .ok (.bipush (-5), 2) := dk_16 251 (dk_at dksX0_lendNow_2 15 rfl rfl)
theorem dX0_lendNow_63 : decode cX0_lendNow 63 = .ok (.ireturn, 1) := dk_172 (dk_at dksX0_lendNow_2 17 rfl rfl)
theorem dX0_lendNow_64 : decode cX0_lendNow 64 = .ok (.aload_n 0, 1) := dk_42 (dk_at dksX0_lendNow_2 18 rfl rfl)
theorem dX0_lendNow_65 : decode cX0_lendNow 65 = .ok (.iconst 0, 1) := dk_3 (dk_at dksX0_lendNow_2 19 rfl rfl)
theorem dX0_lendNow_66 : decode cX0_lendNow 66 = .ok (.invokevirtual 303, 3) := dk_182 1 47 (dk_at dksX0_lendNow_2 20 rfl rfl)
theorem dX0_lendNow_69 : decode cX0_lendNow 69 = .ok (.aload_n 0, 1) := dk_42 (dk_at dksX0_lendNow_2 23 rfl rfl)
theorem dX0_lendNow_70 : decode cX0_lendNow 70 = .ok (.invokevirtual 104, 3) := dk_182 0 104 (dk_at dksX0_lendNow_3 0 rfl rfl)
theorem dX0_lendNow_73 : decode cX0_lendNow 73 = .ok (.iload_n 1, 1) := dk_27 (dk_at dksX0_lendNow_3 3 rfl rfl)
theorem dX0_lendNow_74 : decode cX0_lendNow 74 = .ok (.iload_n 2, 1) := dk_28 (dk_at dksX0_lendNow_3 4 rfl rfl)
theorem dX0_lendNow_75 : decode cX0_lendNow 75 = .ok (.iload_n 3, 1) := dk_29 (dk_at dksX0_lendNow_3 5 rfl rfl)
theorem dX0_lendNow_76 : decode cX0_lendNow 76 = .ok (.invokestatic 306, 3) := dk_184 1 50 (dk_at dksX0_lendNow_3 6 rfl rfl)
theorem dX0_lendNow_79 : decode cX0_lendNow 79 = .ok (.iload_n 3, 1) := dk_29 (dk_at dksX0_lendNow_3 9 rfl rfl)
theorem dX0_lendNow_80 : decode cX0_lendNow 80 = .ok (.ireturn, 1) := dk_172 (dk_at dksX0_lendNow_3 10 rfl rfl)
noncomputable def f_X0_lendNow_25 (E : ax_E) (h : ax_H) : Option (Int × ax_H) :=
  some ((-2), h)
noncomputable def f_X0_lendNow_46 (E : ax_E) (h : ax_H) : Option (Int × ax_H) :=
  some ((-3), h)
noncomputable def f_X0_lendNow (E : ax_E) (x0 : Option Nat) (x1 : Int) (x2 : Int) (x3 : Int) (h : ax_H) : Option (Int × ax_H) :=
  (f_X0_isAmount E x3 h).bind fun q1 =>
  if i2 q1.1 = 0 then
    some ((-1), q1.2)
  else
    (ax_ce E q1.2 x0 0).bind fun _ => (f_X0_isPerson E x0 x1 q1.2).bind fun q2 =>
    if i2 q2.1 = 0 then
      f_X0_lendNow_25 E q2.2
    else
      (ax_ce E q2.2 x0 0).bind fun _ => (f_X0_isPerson E x0 x2 q2.2).bind fun q3 =>
      if i2 q3.1 = 0 then
        f_X0_lendNow_25 E q3.2
      else
        if i2 x1 = i2 x2 then
          f_X0_lendNow_46 E q3.2
        else
          (ax_ce E q3.2 x0 0).bind fun _ => (f_X0_books E x0 q3.2).bind fun q4 =>
          (ax_ce E q4.2 q4.1 2).bind fun _ => (f_X2_canPay E q4.1 x1 x2 x3 q4.2).bind fun q5 =>
          if i2 q5.1 = 0 then
            f_X0_lendNow_46 E q5.2
          else
            (ax_ce E q5.2 x0 0).bind fun _ => (f_X0_books E x0 q5.2).bind fun q6 =>
            (ax_gI E q6.2 q6.1 2 5).bind fun v7 =>
            if i2 v7 = i2 16 then
              some ((-5), q6.2)
            else
              (ax_ce E q6.2 x0 0).bind fun _ => (f_X0_remember E x0 0 q6.2).bind fun h8 =>
              (ax_ce E h8 x0 0).bind fun _ => (f_X0_books E x0 h8).bind fun q9 =>
              (f_X0_lendIn E q9.1 x1 x2 x3 q9.2).bind fun h10 =>
              some (x3, h10)
set_option maxHeartbeats 4000000 in
theorem w_X0_lendNow_25 {l : Launch} {G : ax_G} {X : ax_X} {Q : State → Prop} {h0 h : ax_H} {ls : Array Slot} (hSF : ax_SF G) (B : ax_BL l G X cX0_lendNow 4 RX0 9 213) (Z : ax_Z X h0 ((some FieldType.int))) (hn : X.2.2.2.2.2.2.2.2.1.name = yX0_lendNow.name) {w : Int × ax_H} (hl : ax_hl ls 4 []) (e : f_X0_lendNow_25 G.2.2 h = some w) (hp : (fun w : Int × ax_H => Q = ax_Q G X h0 w.2 (some (.int (Int32.ofInt w.1)))) w) : ax_W G X Q h 25 ls [] := by
  unfold f_X0_lendNow_25 at e
  refine ax_bipush B dX0_lendNow_25 (by decide) ?_
  have e8 := e
  have hp : Q = _ := hp
  subst hp
  exact ax_ireturn B Z dX0_lendNow_27 e8
set_option maxHeartbeats 4000000 in
theorem w_X0_lendNow_46 {l : Launch} {G : ax_G} {X : ax_X} {Q : State → Prop} {h0 h : ax_H} {ls : Array Slot} (hSF : ax_SF G) (B : ax_BL l G X cX0_lendNow 4 RX0 9 213) (Z : ax_Z X h0 ((some FieldType.int))) (hn : X.2.2.2.2.2.2.2.2.1.name = yX0_lendNow.name) {w : Int × ax_H} (hl : ax_hl ls 4 []) (e : f_X0_lendNow_46 G.2.2 h = some w) (hp : (fun w : Int × ax_H => Q = ax_Q G X h0 w.2 (some (.int (Int32.ofInt w.1)))) w) : ax_W G X Q h 46 ls [] := by
  unfold f_X0_lendNow_46 at e
  refine ax_bipush B dX0_lendNow_46 (by decide) ?_
  have e8 := e
  have hp : Q = _ := hp
  subst hp
  exact ax_ireturn B Z dX0_lendNow_48 e8
set_option maxHeartbeats 4000000 in
theorem we_X0_lendNow {l : Launch} {G : ax_G} {X : ax_X} {Q : State → Prop} {h0 h : ax_H} {ls : Array Slot} (hSF : ax_SF G) (B : ax_BL l G X cX0_lendNow 4 RX0 9 213) (Z : ax_Z X h0 ((some FieldType.int))) (hn : X.2.2.2.2.2.2.2.2.1.name = yX0_lendNow.name) (x0 : Option Nat) (x1 : Int) (x2 : Int) (x3 : Int) {w : Int × ax_H} (hl : ax_hl ls 4 [(0, .inr (.inr x0)), (1, .inl x1), (2, .inl x2), (3, .inl x3)]) (e : f_X0_lendNow G.2.2 x0 x1 x2 x3 h = some w) (hp : (fun w : Int × ax_H => Q = ax_Q G X h0 w.2 (some (.int (Int32.ofInt w.1)))) w) : ax_W G X Q h 0 ls [] := by
  unfold f_X0_lendNow at e
  refine ax_iload_n B dX0_lendNow_0 rfl hl 3 rfl ?_
  refine ax_isI (y := yX0_isAmount) (n := 1) (As := [.int (Int32.ofInt x3)]) B (lw_S q484 q485 q125 q486) (by decide +kernel) ⟨Nat.le_of_ble_eq_true rfl, Nat.le_of_ble_eq_true rfl⟩ (fun w1 e1 => mt_X0_isAmount l G hSF x3 _ w1 e1) rfl hl.size (by decide) dX0_lendNow_1 e (fun q1 e => ?_)
  refine ax_if_ne (tgt := 9) B dX0_lendNow_4 (by decide) e (fun e => ?_) (fun e => ?_)
  · refine ax_iconst B dX0_lendNow_7 ?_
    have e8 := e
    have hp : Q = _ := hp
    subst hp
    exact ax_ireturn B Z dX0_lendNow_8 e8
  · refine ax_aload_n B dX0_lendNow_9 rfl hl 0 rfl ?_
    refine ax_iload_n B dX0_lendNow_10 rfl hl 1 rfl ?_
    refine ax_ivI (y := yX0_isPerson) (n := 1) (As := [.int (Int32.ofInt x1)]) B kd0 (lw_V q459 q461 qs4 q125 q462) (by decide +kernel) ⟨Nat.le_of_ble_eq_true rfl, Nat.le_of_ble_eq_true rfl⟩ (fun w1 e1 => mt_X0_isPerson l G hSF x0 x1 _ w1 e1) rfl hl.size (by decide) dX0_lendNow_11 e (fun q2 e => ?_)
    refine ax_if_eq (tgt := 25) B dX0_lendNow_14 (by decide) e (fun e => ?_) (fun e => ?_)
    · exact w_X0_lendNow_25 hSF B Z hn (hl.sub [] rfl) e hp
    · refine ax_aload_n B dX0_lendNow_17 rfl hl 0 rfl ?_
      refine ax_iload_n B dX0_lendNow_18 rfl hl 2 rfl ?_
      refine ax_ivI (y := yX0_isPerson) (n := 1) (As := [.int (Int32.ofInt x2)]) B kd0 (lw_V q459 q461 qs4 q125 q462) (by decide +kernel) ⟨Nat.le_of_ble_eq_true rfl, Nat.le_of_ble_eq_true rfl⟩ (fun w1 e1 => mt_X0_isPerson l G hSF x0 x2 _ w1 e1) rfl hl.size (by decide) dX0_lendNow_19 e (fun q3 e => ?_)
      refine ax_if_ne (tgt := 28) B dX0_lendNow_22 (by decide) e (fun e => ?_) (fun e => ?_)
      · exact w_X0_lendNow_25 hSF B Z hn (hl.sub [] rfl) e hp
      · refine ax_iload_n B dX0_lendNow_28 rfl hl 1 rfl ?_
        refine ax_iload_n B dX0_lendNow_29 rfl hl 2 rfl ?_
        refine ax_icmp_eq (tgt := 46) B dX0_lendNow_30 (by decide) e (fun e => ?_) (fun e => ?_)
        · exact w_X0_lendNow_46 hSF B Z hn (hl.sub [] rfl) e hp
        · refine ax_aload_n B dX0_lendNow_33 rfl hl 0 rfl ?_
          refine ax_ivR (y := yX0_books) (n := 0) (As := []) B kd0 (lw_V q443 q445 qs2 q125 q446) (by decide +kernel) ⟨Nat.le_of_ble_eq_true rfl, Nat.le_of_ble_eq_true rfl⟩ (fun w1 e1 => mt_X0_books l G hSF x0 _ w1 e1) rfl hl.size (by decide) dX0_lendNow_34 e (fun q4 e => ?_)
          refine ax_iload_n B dX0_lendNow_37 rfl hl 1 rfl ?_
          refine ax_iload_n B dX0_lendNow_38 rfl hl 2 rfl ?_
          refine ax_iload_n B dX0_lendNow_39 rfl hl 3 rfl ?_
          refine ax_ivI (y := yX2_canPay) (n := 3) (As := [.int (Int32.ofInt x1), .int (Int32.ofInt x2), .int (Int32.ofInt x3)]) B kd2 (lw_V q1358 q1359 q1360 q130 q1361) (by decide +kernel) ⟨Nat.le_of_ble_eq_true rfl, Nat.le_of_ble_eq_true rfl⟩ (fun w1 e1 => mt_X2_canPay l G hSF q4.1 x1 x2 x3 _ w1 e1) rfl hl.size (by decide) dX0_lendNow_40 e (fun q5 e => ?_)
          refine ax_if_ne (tgt := 49) B dX0_lendNow_43 (by decide) e (fun e => ?_) (fun e => ?_)
          · exact w_X0_lendNow_46 hSF B Z hn (hl.sub [] rfl) e hp
          · refine ax_aload_n B dX0_lendNow_49 rfl hl 0 rfl ?_
            refine ax_ivR (y := yX0_books) (n := 0) (As := []) B kd0 (lw_V q443 q445 qs2 q125 q446) (by decide +kernel) ⟨Nat.le_of_ble_eq_true rfl, Nat.le_of_ble_eq_true rfl⟩ (fun w1 e1 => mt_X0_books l G hSF x0 _ w1 e1) rfl hl.size (by decide) dX0_lendNow_50 e (fun q6 e => ?_)
            refine ax_getI B ff_X0_107_2 (fun _ _ => rfl) dX0_lendNow_53 e (fun v7 e => ?_)
            refine ax_bipush B dX0_lendNow_56 (by decide) ?_
            refine ax_icmp_ne (tgt := 64) B dX0_lendNow_58 (by decide) e (fun e => ?_) (fun e => ?_)
            · refine ax_bipush B dX0_lendNow_61 (by decide) ?_
              have e8 := e
              have hp : Q = _ := hp
              subst hp
              exact ax_ireturn B Z dX0_lendNow_63 e8
            · refine ax_aload_n B dX0_lendNow_64 rfl hl 0 rfl ?_
              refine ax_iconst B dX0_lendNow_65 ?_
              refine ax_ivV (y := yX0_remember) (n := 1) (As := [.int (Int32.ofInt 0)]) B kd0 (lw_V q1362 q1364 qs26 q125 q1365) (by decide +kernel) ⟨Nat.le_of_ble_eq_true rfl, Nat.le_of_ble_eq_true rfl⟩ (fun w1 e1 => mt_X0_remember l G hSF x0 0 _ w1 e1) rfl hl.size (by decide) dX0_lendNow_66 e (fun h8 e => ?_)
              refine ax_aload_n B dX0_lendNow_69 rfl hl 0 rfl ?_
              refine ax_ivR (y := yX0_books) (n := 0) (As := []) B kd0 (lw_V q443 q445 qs2 q125 q446) (by decide +kernel) ⟨Nat.le_of_ble_eq_true rfl, Nat.le_of_ble_eq_true rfl⟩ (fun w1 e1 => mt_X0_books l G hSF x0 _ w1 e1) rfl hl.size (by decide) dX0_lendNow_70 e (fun q9 e => ?_)
              refine ax_iload_n B dX0_lendNow_73 rfl hl 1 rfl ?_
              refine ax_iload_n B dX0_lendNow_74 rfl hl 2 rfl ?_
              refine ax_iload_n B dX0_lendNow_75 rfl hl 3 rfl ?_
              refine ax_isV (y := yX0_lendIn) (n := 4) (As := [va_rf q9.1, .int (Int32.ofInt x1), .int (Int32.ofInt x2), .int (Int32.ofInt x3)]) B (lw_S q1399 q1400 q125 q1401) (by decide +kernel) ⟨Nat.le_of_ble_eq_true rfl, Nat.le_of_ble_eq_true rfl⟩ (fun w1 e1 => mt_X0_lendIn l G hSF q9.1 x1 x2 x3 _ w1 e1) rfl hl.size (by decide) dX0_lendNow_76 e (fun h10 e => ?_)
              refine ax_iload_n B dX0_lendNow_79 rfl hl 3 rfl ?_
              have e8 := e
              have hp : Q = _ := hp
              subst hp
              exact ax_ireturn B Z dX0_lendNow_80 e8
theorem mt_X0_lendNow (l : Launch) (G : ax_G) (hSF : ax_SF G) (x0 : Option Nat) (x1 : Int) (x2 : Int) (x3 : Int) (h : ax_H) (w : Int × ax_H) (e : f_X0_lendNow G.2.2 x0 x1 x2 x3 h = some w) : ax_Met l G yX0_lendNow cX0_lendNow 4 ((some FieldType.int)) 9 213 [va_rf x0, .int (Int32.ofInt x1), .int (Int32.ofInt x2), .int (Int32.ofInt x3)] h w.2 (some (.int (Int32.ofInt w.1))) :=
  ax_enter [.inr (.inr x0), .inl x1, .inl x2, .inl x3] (y := yX0_lendNow) hSF (plainFor_of_name (by decide +kernel)) (Nat.le_of_ble_eq_true rfl) (fun X ls B Z hn hl => we_X0_lendNow hSF B Z hn x0 x1 x2 x3 hl e rfl)
def dkwX0_lend_0 : List UInt8 := [42, 42, 27, 28, 29, 182, 1, 60, 182, 0, 94, 172]
abbrev dktX0_lend_0 : List UInt8 := dkwX0_lend_0 ++ []
theorem dksX0_lend_0 : cX0_lend.data.toList.drop 0 = dktX0_lend_0 := by decide +kernel
theorem dX0_lend_0 : decode cX0_lend 0 = .ok (.aload_n 0, 1) := dk_42 (dk_at dksX0_lend_0 0 rfl rfl)
theorem dX0_lend_1 : decode cX0_lend 1 = .ok (.aload_n 0, 1) := dk_42 (dk_at dksX0_lend_0 1 rfl rfl)
theorem dX0_lend_2 : decode cX0_lend 2 = .ok (.iload_n 1, 1) := dk_27 (dk_at dksX0_lend_0 2 rfl rfl)
theorem dX0_lend_3 : decode cX0_lend 3 = .ok (.iload_n 2, 1) := dk_28 (dk_at dksX0_lend_0 3 rfl rfl)
theorem dX0_lend_4 : decode cX0_lend 4 = .ok (.iload_n 3, 1) := dk_29 (dk_at dksX0_lend_0 4 rfl rfl)
theorem dX0_lend_5 : decode cX0_lend 5 = .ok (.invokevirtual 316, 3) := dk_182 1 60 (dk_at dksX0_lend_0 5 rfl rfl)
theorem dX0_lend_8 : decode cX0_lend 8 = .ok (.invokevirtual 94, 3) := dk_182 0 94 (dk_at dksX0_lend_0 8 rfl rfl)
theorem dX0_lend_11 : decode cX0_lend 11 = .ok (.ireturn, 1) := dk_172 (dk_at dksX0_lend_0 11 rfl rfl)
noncomputable def f_X0_lend (E : ax_E) (x0 : Option Nat) (x1 : Int) (x2 : Int) (x3 : Int) (h : ax_H) : Option (Int × ax_H) :=
  (ax_ce E h x0 0).bind fun _ => (f_X0_lendNow E x0 x1 x2 x3 h).bind fun q1 =>
  (ax_ce E q1.2 x0 0).bind fun _ => (f_X0_tell E x0 q1.1 q1.2).bind fun q2 =>
  some (q2.1, q2.2)
set_option maxHeartbeats 4000000 in
theorem we_X0_lend {l : Launch} {G : ax_G} {X : ax_X} {Q : State → Prop} {h0 h : ax_H} {ls : Array Slot} (hSF : ax_SF G) (B : ax_BL l G X cX0_lend 4 RX0 10 236) (Z : ax_Z X h0 ((some FieldType.int))) (hn : X.2.2.2.2.2.2.2.2.1.name = yX0_lend.name) (x0 : Option Nat) (x1 : Int) (x2 : Int) (x3 : Int) {w : Int × ax_H} (hl : ax_hl ls 4 [(0, .inr (.inr x0)), (1, .inl x1), (2, .inl x2), (3, .inl x3)]) (e : f_X0_lend G.2.2 x0 x1 x2 x3 h = some w) (hp : (fun w : Int × ax_H => Q = ax_Q G X h0 w.2 (some (.int (Int32.ofInt w.1)))) w) : ax_W G X Q h 0 ls [] := by
  unfold f_X0_lend at e
  refine ax_aload_n B dX0_lend_0 rfl hl 0 rfl ?_
  refine ax_aload_n B dX0_lend_1 rfl hl 0 rfl ?_
  refine ax_iload_n B dX0_lend_2 rfl hl 1 rfl ?_
  refine ax_iload_n B dX0_lend_3 rfl hl 2 rfl ?_
  refine ax_iload_n B dX0_lend_4 rfl hl 3 rfl ?_
  refine ax_ivI (y := yX0_lendNow) (n := 3) (As := [.int (Int32.ofInt x1), .int (Int32.ofInt x2), .int (Int32.ofInt x3)]) B kd0 (lw_V q1354 q1356 qs25 q125 q1357) (by decide +kernel) ⟨Nat.le_of_ble_eq_true rfl, Nat.le_of_ble_eq_true rfl⟩ (fun w1 e1 => mt_X0_lendNow l G hSF x0 x1 x2 x3 _ w1 e1) rfl hl.size (by simp only [List.map_cons, List.map_nil, List.sum_cons, List.sum_nil, va_rf_cat, ax_catI, ax_catL]; decide) dX0_lend_5 e (fun q1 e => ?_)
  refine ax_ivI (y := yX0_tell) (n := 1) (As := [.int (Int32.ofInt q1.1)]) B kd0 (lw_V q436 q438 qs1 q125 q439) (by decide +kernel) ⟨Nat.le_of_ble_eq_true rfl, Nat.le_of_ble_eq_true rfl⟩ (fun w1 e1 => mt_X0_tell l G hSF x0 q1.1 _ w1 e1) rfl hl.size (by decide) dX0_lend_8 e (fun q2 e => ?_)
  have e8 := e
  have hp : Q = _ := hp
  subst hp
  exact ax_ireturn B Z dX0_lend_11 e8
theorem mt_X0_lend (l : Launch) (G : ax_G) (hSF : ax_SF G) (x0 : Option Nat) (x1 : Int) (x2 : Int) (x3 : Int) (h : ax_H) (w : Int × ax_H) (e : f_X0_lend G.2.2 x0 x1 x2 x3 h = some w) : ax_Met l G yX0_lend cX0_lend 4 ((some FieldType.int)) 10 236 [va_rf x0, .int (Int32.ofInt x1), .int (Int32.ofInt x2), .int (Int32.ofInt x3)] h w.2 (some (.int (Int32.ofInt w.1))) :=
  ax_enter [.inr (.inr x0), .inl x1, .inl x2, .inl x3] (y := yX0_lend) hSF (plainFor_of_name (by decide +kernel)) (Nat.le_of_ble_eq_true rfl) (fun X ls B Z hn hl => we_X0_lend hSF B Z hn x0 x1 x2 x3 hl e rfl)
def dkwX2_drop_1 : List UInt8 := [182, 0, 37, 177]
abbrev dktX2_drop_1 : List UInt8 := dkwX2_drop_1 ++ []
def dkwX2_drop_0 : List UInt8 := [42, 89, 180, 0, 33, 4, 100, 181, 0, 33, 42, 42, 27, 4, 96, 27, 42, 180, 0, 33, 27, 100]
abbrev dktX2_drop_0 : List UInt8 := dkwX2_drop_0 ++ dktX2_drop_1
theorem dksX2_drop_0 : cX2_drop.data.toList.drop 0 = dktX2_drop_0 := by decide +kernel
theorem dksX2_drop_1 : cX2_drop.data.toList.drop 22 = dktX2_drop_1 := dk_seg dksX2_drop_0 22 rfl rfl
theorem dX2_drop_0 : decode cX2_drop 0 = .ok (.aload_n 0, 1) := dk_42 (dk_at dksX2_drop_0 0 rfl rfl)
theorem dX2_drop_1 : decode cX2_drop 1 = .ok (.dup, 1) := dk_89 (dk_at dksX2_drop_0 1 rfl rfl)
theorem dX2_drop_2 : decode cX2_drop 2 = .ok (.getfield 33, 3) := dk_180 0 33 (dk_at dksX2_drop_0 2 rfl rfl)
theorem dX2_drop_5 : decode cX2_drop 5 = .ok (.iconst 1, 1) := dk_4 (dk_at dksX2_drop_0 5 rfl rfl)
theorem dX2_drop_6 : decode cX2_drop 6 = .ok (.isub, 1) := dk_100 (dk_at dksX2_drop_0 6 rfl rfl)
theorem dX2_drop_7 : decode cX2_drop 7 = .ok (.putfield 33, 3) := dk_181 0 33 (dk_at dksX2_drop_0 7 rfl rfl)
theorem dX2_drop_10 : decode cX2_drop 10 = .ok (.aload_n 0, 1) := dk_42 (dk_at dksX2_drop_0 10 rfl rfl)
theorem dX2_drop_11 : decode cX2_drop 11 = .ok (.aload_n 0, 1) := dk_42 (dk_at dksX2_drop_0 11 rfl rfl)
theorem dX2_drop_12 : decode cX2_drop 12 = .ok (.iload_n 1, 1) := dk_27 (dk_at dksX2_drop_0 12 rfl rfl)
theorem dX2_drop_13 : decode cX2_drop 13 = .ok (.iconst 1, 1) := dk_4 (dk_at dksX2_drop_0 13 rfl rfl)
theorem dX2_drop_14 : decode cX2_drop 14 = .ok (.iadd, 1) := dk_96 (dk_at dksX2_drop_0 14 rfl rfl)
theorem dX2_drop_15 : decode cX2_drop 15 = .ok (.iload_n 1, 1) := dk_27 (dk_at dksX2_drop_0 15 rfl rfl)
theorem dX2_drop_16 : decode cX2_drop 16 = .ok (.aload_n 0, 1) := dk_42 (dk_at dksX2_drop_0 16 rfl rfl)
theorem dX2_drop_17 : decode cX2_drop 17 = .ok (.getfield 33, 3) := dk_180 0 33 (dk_at dksX2_drop_0 17 rfl rfl)
theorem dX2_drop_20 : decode cX2_drop 20 = .ok (.iload_n 1, 1) := dk_27 (dk_at dksX2_drop_0 20 rfl rfl)
theorem dX2_drop_21 : decode cX2_drop 21 = .ok (.isub, 1) := dk_100 (dk_at dksX2_drop_0 21 rfl rfl)
theorem dX2_drop_22 : decode cX2_drop 22 = .ok (.invokevirtual 37, 3) := dk_182 0 37 (dk_at dksX2_drop_1 0 rfl rfl)
theorem dX2_drop_25 : decode cX2_drop 25 = .ok (.return_, 1) := dk_177 (dk_at dksX2_drop_1 3 rfl rfl)
noncomputable def f_X2_drop (E : ax_E) (x0 : Option Nat) (x1 : Int) (h : ax_H) : Option (ax_H) :=
  (ax_gI E h x0 2 5).bind fun v1 =>
  (ax_pI h x0 2 5 (v1 - 1)).bind fun h2 =>
  (ax_gI E h2 x0 2 5).bind fun v3 =>
  (ax_ce E h2 x0 2).bind fun _ => (f_X2_move E x0 x0 (x1 + 1) x1 (v3 - x1) h2).bind fun h4 =>
  some h4
set_option maxHeartbeats 4000000 in
theorem we_X2_drop {l : Launch} {G : ax_G} {X : ax_X} {Q : State → Prop} {h0 h : ax_H} {ls : Array Slot} (hSF : ax_SF G) (B : ax_BL l G X cX2_drop 2 RX2 2 64) (Z : ax_Z X h0 none) (hn : X.2.2.2.2.2.2.2.2.1.name = yX2_drop.name) (x0 : Option Nat) (x1 : Int) {w : ax_H} (hl : ax_hl ls 2 [(0, .inr (.inr x0)), (1, .inl x1)]) (e : f_X2_drop G.2.2 x0 x1 h = some w) (hp : (fun w : ax_H => Q = ax_Q G X h0 w none) w) : ax_W G X Q h 0 ls [] := by
  unfold f_X2_drop at e
  refine ax_aload_n B dX2_drop_0 rfl hl 0 rfl ?_
  refine ax_dup B dX2_drop_1 (va_rf_cat _) ?_
  refine ax_getI B ff_X2_33_2 (fun _ _ => rfl) dX2_drop_2 e (fun v1 e => ?_)
  refine ax_iconst B dX2_drop_5 ?_
  refine ax_isub' B dX2_drop_6 ?_
  refine ax_putI B ff_X2_33_2 (Or.inl rfl) rfl dX2_drop_7 e (fun h2 e => ?_)
  refine ax_aload_n B dX2_drop_10 rfl hl 0 rfl ?_
  refine ax_aload_n B dX2_drop_11 rfl hl 0 rfl ?_
  refine ax_iload_n B dX2_drop_12 rfl hl 1 rfl ?_
  refine ax_iconst B dX2_drop_13 ?_
  refine ax_iadd' B dX2_drop_14 ?_
  refine ax_iload_n B dX2_drop_15 rfl hl 1 rfl ?_
  refine ax_aload_n B dX2_drop_16 rfl hl 0 rfl ?_
  refine ax_getI B ff_X2_33_2 (fun _ _ => rfl) dX2_drop_17 e (fun v3 e => ?_)
  refine ax_iload_n B dX2_drop_20 rfl hl 1 rfl ?_
  refine ax_isub' B dX2_drop_21 ?_
  refine ax_ivV (y := yX2_move) (n := 4) (As := [va_rf x0, .int (Int32.ofInt (x1 + 1)), .int (Int32.ofInt x1), .int (Int32.ofInt (v3 - x1))]) B kd2 (lw_V q1382 q1384 qs28 q130 q1385) (by decide +kernel) ⟨Nat.le_of_ble_eq_true rfl, Nat.le_of_ble_eq_true rfl⟩ (fun w1 e1 => mt_X2_move l G hSF x0 x0 (x1 + 1) x1 (v3 - x1) _ w1 e1) rfl hl.size (by decide) dX2_drop_22 e (fun h4 e => ?_)
  have e8 := e
  have hp : Q = _ := hp
  subst hp
  exact ax_return B Z dX2_drop_25 e8
theorem mt_X2_drop (l : Launch) (G : ax_G) (hSF : ax_SF G) (x0 : Option Nat) (x1 : Int) (h : ax_H) (w : ax_H) (e : f_X2_drop G.2.2 x0 x1 h = some w) : ax_Met l G yX2_drop cX2_drop 2 none 2 64 [va_rf x0, .int (Int32.ofInt x1)] h w none :=
  ax_enter [.inr (.inr x0), .inl x1] (y := yX2_drop) hSF (plainFor_of_name (by decide +kernel)) (Nat.le_of_ble_eq_true rfl) (fun X ls B Z hn hl => we_X2_drop hSF B Z hn x0 x1 hl e rfl)
def dkwX2_lessen_3 : List UInt8 := [21, 5, 46, 154, 0, 12, 42, 21, 5, 132, 5, 255, 182, 0, 54, 132, 5, 1, 167, 255, 173, 177]
abbrev dktX2_lessen_3 : List UInt8 := dkwX2_lessen_3 ++ []
def dkwX2_lessen_2 : List UInt8 := [21, 4, 21, 6, 100, 54, 4, 42, 180, 0, 21, 21, 5, 92, 46, 21, 6, 100, 79, 42, 180, 0, 21]
abbrev dktX2_lessen_2 : List UInt8 := dkwX2_lessen_2 ++ dktX2_lessen_3
def dkwX2_lessen_1 : List UInt8 := [28, 182, 0, 44, 154, 0, 6, 167, 0, 55, 21, 4, 42, 180, 0, 21, 21, 5, 46, 184, 0, 48, 54, 6]
abbrev dktX2_lessen_1 : List UInt8 := dkwX2_lessen_1 ++ dktX2_lessen_2
def dkwX2_lessen_0 : List UInt8 := [29, 54, 4, 3, 54, 5, 21, 5, 42, 180, 0, 33, 162, 0, 80, 21, 4, 158, 0, 75, 42, 21, 5, 27]
abbrev dktX2_lessen_0 : List UInt8 := dkwX2_lessen_0 ++ dktX2_lessen_1
theorem dksX2_lessen_0 : cX2_lessen.data.toList.drop 0 = dktX2_lessen_0 := by decide +kernel
theorem dksX2_lessen_1 : cX2_lessen.data.toList.drop 24 = dktX2_lessen_1 := dk_seg dksX2_lessen_0 24 rfl rfl
theorem dksX2_lessen_2 : cX2_lessen.data.toList.drop 48 = dktX2_lessen_2 := dk_seg dksX2_lessen_1 24 rfl rfl
theorem dksX2_lessen_3 : cX2_lessen.data.toList.drop 71 = dktX2_lessen_3 := dk_seg dksX2_lessen_2 23 rfl rfl
theorem dX2_lessen_0 : decode cX2_lessen 0 = .ok (.iload_n 3, 1) := dk_29 (dk_at dksX2_lessen_0 0 rfl rfl)
theorem dX2_lessen_1 : decode cX2_lessen 1 = .ok (.istore 4, 2) := dk_54 4 (dk_at dksX2_lessen_0 1 rfl rfl)
theorem dX2_lessen_3 : decode cX2_lessen 3 = .ok (.iconst 0, 1) := dk_3 (dk_at dksX2_lessen_0 3 rfl rfl)
theorem dX2_lessen_4 : decode cX2_lessen 4 = .ok (.istore 5, 2) := dk_54 5 (dk_at dksX2_lessen_0 4 rfl rfl)
theorem dX2_lessen_6 : decode cX2_lessen 6 = .ok (.iload 5, 2) := dk_21 5 (dk_at dksX2_lessen_0 6 rfl rfl)
theorem dX2_lessen_8 : decode cX2_lessen 8 = .ok (.aload_n 0, 1) := dk_42 (dk_at dksX2_lessen_0 8 rfl rfl)
theorem dX2_lessen_9 : decode cX2_lessen 9 = .ok (.getfield 33, 3) := dk_180 0 33 (dk_at dksX2_lessen_0 9 rfl rfl)
theorem dX2_lessen_12 : decode cX2_lessen 12 = .ok (.if_icmp .ge 80, 3) := dk_162 0 80 (dk_at dksX2_lessen_0 12 rfl rfl)
theorem dX2_lessen_15 : decode cX2_lessen 15 = .ok (.iload 4, 2) := dk_21 4 (dk_at dksX2_lessen_0 15 rfl rfl)
theorem dX2_lessen_17 : decode cX2_lessen 17 = .ok (.ifCond .le 75, 3) := dk_158 0 75 (dk_at dksX2_lessen_0 17 rfl rfl)
theorem dX2_lessen_20 : decode cX2_lessen 20 = .ok (.aload_n 0, 1) := dk_42 (dk_at dksX2_lessen_0 20 rfl rfl)
theorem dX2_lessen_21 : decode cX2_lessen 21 = .ok (.iload 5, 2) := dk_21 5 (dk_at dksX2_lessen_0 21 rfl rfl)
theorem dX2_lessen_23 : decode cX2_lessen 23 = .ok (.iload_n 1, 1) := dk_27 (dk_at dksX2_lessen_0 23 rfl rfl)
theorem dX2_lessen_24 : decode cX2_lessen 24 = .ok (.iload_n 2, 1) := dk_28 (dk_at dksX2_lessen_1 0 rfl rfl)
theorem dX2_lessen_25 : decode cX2_lessen 25 = .ok (.invokevirtual 44, 3) := dk_182 0 44 (dk_at dksX2_lessen_1 1 rfl rfl)
theorem dX2_lessen_28 : decode cX2_lessen 28 = .ok (.ifCond .ne 6, 3) := dk_154 0 6 (dk_at dksX2_lessen_1 4 rfl rfl)
theorem dX2_lessen_31 : decode cX2_lessen 31 = .ok (.goto 55, 3) := dk_167 0 55 (dk_at dksX2_lessen_1 7 rfl rfl)
theorem dX2_lessen_34 : decode cX2_lessen 34 = .ok (.iload 4, 2) := dk_21 4 (dk_at dksX2_lessen_1 10 rfl rfl)
theorem dX2_lessen_36 : decode cX2_lessen 36 = .ok (.aload_n 0, 1) := dk_42 (dk_at dksX2_lessen_1 12 rfl rfl)
theorem dX2_lessen_37 : decode cX2_lessen 37 = .ok (.getfield 21, 3) := dk_180 0 21 (dk_at dksX2_lessen_1 13 rfl rfl)
theorem dX2_lessen_40 : decode cX2_lessen 40 = .ok (.iload 5, 2) := dk_21 5 (dk_at dksX2_lessen_1 16 rfl rfl)
theorem dX2_lessen_42 : decode cX2_lessen 42 = .ok (.iaload, 1) := dk_46 (dk_at dksX2_lessen_1 18 rfl rfl)
theorem dX2_lessen_43 : decode cX2_lessen 43 = .ok (.invokestatic 48, 3) := dk_184 0 48 (dk_at dksX2_lessen_1 19 rfl rfl)
theorem dX2_lessen_46 : decode cX2_lessen 46 = .ok (.istore 6, 2) := dk_54 6 (dk_at dksX2_lessen_1 22 rfl rfl)
theorem dX2_lessen_48 : decode cX2_lessen 48 = .ok (.iload 4, 2) := dk_21 4 (dk_at dksX2_lessen_2 0 rfl rfl)
theorem dX2_lessen_50 : decode cX2_lessen 50 = .ok (.iload 6, 2) := dk_21 6 (dk_at dksX2_lessen_2 2 rfl rfl)
theorem dX2_lessen_52 : decode cX2_lessen 52 = .ok (.isub, 1) := dk_100 (dk_at dksX2_lessen_2 4 rfl rfl)
theorem dX2_lessen_53 : decode cX2_lessen 53 = .ok (.istore 4, 2) := dk_54 4 (dk_at dksX2_lessen_2 5 rfl rfl)
theorem dX2_lessen_55 : decode cX2_lessen 55 = .ok (.aload_n 0, 1) := dk_42 (dk_at dksX2_lessen_2 7 rfl rfl)
theorem dX2_lessen_56 : decode cX2_lessen 56 = .ok (.getfield 21, 3) := dk_180 0 21 (dk_at dksX2_lessen_2 8 rfl rfl)
theorem dX2_lessen_59 : decode cX2_lessen 59 = .ok (.iload 5, 2) := dk_21 5 (dk_at dksX2_lessen_2 11 rfl rfl)
theorem dX2_lessen_61 : decode cX2_lessen 61 = .ok (.dup2, 1) := dk_92 (dk_at dksX2_lessen_2 13 rfl rfl)
theorem dX2_lessen_62 : decode cX2_lessen 62 = .ok (.iaload, 1) := dk_46 (dk_at dksX2_lessen_2 14 rfl rfl)
theorem dX2_lessen_63 : decode cX2_lessen 63 = .ok (.iload 6, 2) := dk_21 6 (dk_at dksX2_lessen_2 15 rfl rfl)
theorem dX2_lessen_65 : decode cX2_lessen 65 = .ok (.isub, 1) := dk_100 (dk_at dksX2_lessen_2 17 rfl rfl)
theorem dX2_lessen_66 : decode cX2_lessen 66 = .ok (.iastore, 1) := dk_79 (dk_at dksX2_lessen_2 18 rfl rfl)
theorem dX2_lessen_67 : decode cX2_lessen 67 = .ok (.aload_n 0, 1) := dk_42 (dk_at dksX2_lessen_2 19 rfl rfl)
theorem dX2_lessen_68 : decode cX2_lessen 68 = .ok (.getfield 21, 3) := dk_180 0 21 (dk_at dksX2_lessen_2 20 rfl rfl)
theorem dX2_lessen_71 : decode cX2_lessen 71 = .ok (.iload 5, 2) := dk_21 5 (dk_at dksX2_lessen_3 0 rfl rfl)
theorem dX2_lessen_73 : decode cX2_lessen 73 = .ok (.iaload, 1) := dk_46 (dk_at dksX2_lessen_3 2 rfl rfl)
theorem dX2_lessen_74 : decode cX2_lessen 74 = .ok (.ifCond .ne 12, 3) := dk_154 0 12 (dk_at dksX2_lessen_3 3 rfl rfl)
theorem dX2_lessen_77 : decode cX2_lessen 77 = .ok (.aload_n 0, 1) := dk_42 (dk_at dksX2_lessen_3 6 rfl rfl)
theorem dX2_lessen_78 : decode cX2_lessen 78 = .ok (.iload 5, 2) := dk_21 5 (dk_at dksX2_lessen_3 7 rfl rfl)
theorem dX2_lessen_80 : decode cX2_lessen 80 = .ok (.iinc 5 (-1), 3) := dk_132 5 255 (dk_at dksX2_lessen_3 9 rfl rfl)
theorem dX2_lessen_83 : decode cX2_lessen 83 = .ok (.invokevirtual 54, 3) := dk_182 0 54 (dk_at dksX2_lessen_3 12 rfl rfl)
theorem dX2_lessen_86 : decode cX2_lessen 86 = .ok (.iinc 5 1, 3) := dk_132 5 1 (dk_at dksX2_lessen_3 15 rfl rfl)
theorem dX2_lessen_89 : decode cX2_lessen 89 = .ok (.goto (-83), 3) := dk_167 255 173 (dk_at dksX2_lessen_3 18 rfl rfl)
theorem dX2_lessen_92 : decode cX2_lessen 92 = .ok (.return_, 1) := dk_177 (dk_at dksX2_lessen_3 21 rfl rfl)
noncomputable def f_X2_lessen_86 (E : ax_E) (x0 : Option Nat) (x1 : Int) (x2 : Int) (x4 : Int) (x5 : Int) (h : ax_H) : Option ((Int × Int × ax_H) ⊕ (ax_H)) :=
  some (.inl (x4, (x5 + 1), h))
noncomputable def lb_X2_lessen_6 (E : ax_E) (x0 : Option Nat) (x1 : Int) (x2 : Int) (x4 : Int) (x5 : Int) (h : ax_H) : Option ((Int × Int × ax_H) ⊕ (ax_H)) :=
  (ax_gI E h x0 2 5).bind fun v1 =>
  if i2 x5 < i2 v1 then
    if 0 < i2 x4 then
      (ax_ce E h x0 2).bind fun _ => (f_X2_is E x0 x5 x1 x2 h).bind fun q2 =>
      if i2 q2.1 = 0 then
        f_X2_lessen_86 E x0 x1 x2 x4 x5 q2.2
      else
        (ax_gR E q2.2 x0 2 3).bind fun v3 =>
        (ax_ld E q2.2 v3 100 x5).bind fun v4 =>
        (f_J3_min E x4 v4 q2.2).bind fun q5 =>
        (ax_gR E q5.2 x0 2 3).bind fun v6 =>
        (ax_ld E q5.2 v6 100 x5).bind fun v7 =>
        (ax_sto q5.2 v6 100 x5 (v7 - q5.1)).bind fun h8 =>
        (ax_gR E h8 x0 2 3).bind fun v9 =>
        (ax_ld E h8 v9 100 x5).bind fun v10 =>
        if i2 v10 = 0 then
          (ax_ce E h8 x0 2).bind fun _ => (f_X2_drop E x0 x5 h8).bind fun h11 =>
          f_X2_lessen_86 E x0 x1 x2 (x4 - q5.1) (x5 + (-1)) h11
        else
          f_X2_lessen_86 E x0 x1 x2 (x4 - q5.1) x5 h8
    else
      (some h).map Sum.inr
  else
    (some h).map Sum.inr
noncomputable def f_X2_lessen_6 (E : ax_E) (x0 : Option Nat) (x1 : Int) (x2 : Int) (x4 : Int) (x5 : Int) (h : ax_H) : Option (ax_H) :=
  ax_iter (fun s : Int × Int × ax_H => lb_X2_lessen_6 E x0 x1 x2 s.1 s.2.1 s.2.2) (x4, x5, h)
noncomputable def f_X2_lessen (E : ax_E) (x0 : Option Nat) (x1 : Int) (x2 : Int) (x3 : Int) (h : ax_H) : Option (ax_H) :=
  f_X2_lessen_6 E x0 x1 x2 x3 0 h
def pi_X2_lessen_6 (G : ax_G) (X : ax_X) (Q : State → Prop) (x0 : Option Nat) (x1 : Int) (x2 : Int) : Int × Int × ax_H → Prop := fun s => ∀ ls : Array Slot, ax_hl ls 7 [(0, .inr (.inr x0)), (1, .inl x1), (2, .inl x2), (4, .inl s.1), (5, .inl s.2.1)] → ax_W G X Q s.2.2 6 ls []
set_option maxHeartbeats 4000000 in
theorem w_X2_lessen_86 {l : Launch} {G : ax_G} {X : ax_X} {Q : State → Prop} {h0 h : ax_H} {ls : Array Slot} (hSF : ax_SF G) (B : ax_BL l G X cX2_lessen 7 RX2 3 85) (Z : ax_Z X h0 none) (hn : X.2.2.2.2.2.2.2.2.1.name = yX2_lessen.name) (x0 : Option Nat) (x1 : Int) (x2 : Int) (x4 : Int) (x5 : Int) {w : (Int × Int × ax_H) ⊕ (ax_H)} (hl : ax_hl ls 7 [(0, .inr (.inr x0)), (1, .inl x1), (2, .inl x2), (4, .inl x4), (5, .inl x5)]) (e : f_X2_lessen_86 G.2.2 x0 x1 x2 x4 x5 h = some w) (hp : (ax_PL (pi_X2_lessen_6 G X Q x0 x1 x2) (fun w : ax_H => Q = ax_Q G X h0 w none)) w) : ax_W G X Q h 86 ls [] := by
  unfold f_X2_lessen_86 at e
  refine ax_iinc (L' := [(5, .inl (x5 + 1)), (0, .inr (.inr x0)), (1, .inl x1), (2, .inl x2), (4, .inl x4)]) B dX2_lessen_86 hl 4 rfl (by decide) rfl (fun ls hl => ?_)
  refine ax_goto (tgt := 6) B dX2_lessen_89 (by decide) ?_
  cases e
  exact hp _ (hl.sub [1, 2, 3, 4, 0] rfl)
set_option maxHeartbeats 4000000 in
theorem wb_X2_lessen_6 {l : Launch} {G : ax_G} {X : ax_X} {Q : State → Prop} {h0 h : ax_H} {ls : Array Slot} (hSF : ax_SF G) (B : ax_BL l G X cX2_lessen 7 RX2 3 85) (Z : ax_Z X h0 none) (hn : X.2.2.2.2.2.2.2.2.1.name = yX2_lessen.name) (x0 : Option Nat) (x1 : Int) (x2 : Int) (x4 : Int) (x5 : Int) {w : (Int × Int × ax_H) ⊕ (ax_H)} (hl : ax_hl ls 7 [(0, .inr (.inr x0)), (1, .inl x1), (2, .inl x2), (4, .inl x4), (5, .inl x5)]) (e : lb_X2_lessen_6 G.2.2 x0 x1 x2 x4 x5 h = some w) (hp : (ax_PL (pi_X2_lessen_6 G X Q x0 x1 x2) (fun w : ax_H => Q = ax_Q G X h0 w none)) w) : ax_W G X Q h 6 ls [] := by
  unfold lb_X2_lessen_6 at e
  refine ax_iload B dX2_lessen_6 hl 4 rfl ?_
  refine ax_aload_n B dX2_lessen_8 rfl hl 0 rfl ?_
  refine ax_getI B ff_X2_33_2 (fun _ _ => rfl) dX2_lessen_9 e (fun v1 e => ?_)
  refine ax_icmp_ge (tgt := 92) B dX2_lessen_12 (by decide) e (fun e => ?_) (fun e => ?_)
  · refine ax_iload B dX2_lessen_15 hl 3 rfl ?_
    refine ax_if_le (tgt := 92) B dX2_lessen_17 (by decide) e (fun e => ?_) (fun e => ?_)
    · refine ax_aload_n B dX2_lessen_20 rfl hl 0 rfl ?_
      refine ax_iload B dX2_lessen_21 hl 4 rfl ?_
      refine ax_iload_n B dX2_lessen_23 rfl hl 1 rfl ?_
      refine ax_iload_n B dX2_lessen_24 rfl hl 2 rfl ?_
      refine ax_ivI (y := yX2_is) (n := 3) (As := [.int (Int32.ofInt x5), .int (Int32.ofInt x1), .int (Int32.ofInt x2)]) B kd2 (lw_V q511 q512 q513 q130 q514) (by decide +kernel) ⟨Nat.le_of_ble_eq_true rfl, Nat.le_of_ble_eq_true rfl⟩ (fun w1 e1 => mt_X2_is l G hSF x0 x5 x1 x2 _ w1 e1) rfl hl.size (by decide) dX2_lessen_25 e (fun q2 e => ?_)
      refine ax_if_ne (tgt := 34) B dX2_lessen_28 (by decide) e (fun e => ?_) (fun e => ?_)
      · refine ax_goto (tgt := 86) B dX2_lessen_31 (by decide) ?_
        exact w_X2_lessen_86 hSF B Z hn x0 x1 x2 x4 x5 (hl.sub [0, 1, 2, 3, 4] rfl) e hp
      · refine ax_iload B dX2_lessen_34 hl 3 rfl ?_
        refine ax_aload_n B dX2_lessen_36 rfl hl 0 rfl ?_
        refine ax_getR B ff_X2_21_2 (fun _ _ => rfl) dX2_lessen_37 e (fun v3 e => ?_)
        refine ax_iload B dX2_lessen_40 hl 4 rfl ?_
        refine ax_iald B kd100 dX2_lessen_42 e (fun v4 e => ?_)
        refine ax_isI (y := yJ3_min) (n := 2) (As := [.int (Int32.ofInt x4), .int (Int32.ofInt v4)]) B (lw_S q1419 q441 q134 q442) (by decide +kernel) ⟨Nat.le_of_ble_eq_true rfl, Nat.le_of_ble_eq_true rfl⟩ (fun w1 e1 => mt_J3_min l G hSF x4 v4 _ w1 e1) rfl hl.size (by decide) dX2_lessen_43 e (fun q5 e => ?_)
        refine ax_istore (L' := [(6, .inl q5.1), (0, .inr (.inr x0)), (1, .inl x1), (2, .inl x2), (4, .inl x4), (5, .inl x5)]) B dX2_lessen_46 hl (by decide) rfl (fun ls hl => ?_)
        refine ax_iload B dX2_lessen_48 hl 4 rfl ?_
        refine ax_iload B dX2_lessen_50 hl 0 rfl ?_
        refine ax_isub' B dX2_lessen_52 ?_
        refine ax_istore (L' := [(4, .inl (x4 - q5.1)), (6, .inl q5.1), (0, .inr (.inr x0)), (1, .inl x1), (2, .inl x2), (5, .inl x5)]) B dX2_lessen_53 hl (by decide) rfl (fun ls hl => ?_)
        refine ax_aload_n B dX2_lessen_55 rfl hl 2 rfl ?_
        refine ax_getR B ff_X2_21_2 (fun _ _ => rfl) dX2_lessen_56 e (fun v6 e => ?_)
        refine ax_iload B dX2_lessen_59 hl 5 rfl ?_
        refine ax_dup2 B dX2_lessen_61 (rfl) (va_rf_cat _) ?_
        refine ax_iald B kd100 dX2_lessen_62 e (fun v7 e => ?_)
        refine ax_iload B dX2_lessen_63 hl 1 rfl ?_
        refine ax_isub' B dX2_lessen_65 ?_
        refine ax_iast B kd100 dX2_lessen_66 e (fun h8 e => ?_)
        refine ax_aload_n B dX2_lessen_67 rfl hl 2 rfl ?_
        refine ax_getR B ff_X2_21_2 (fun _ _ => rfl) dX2_lessen_68 e (fun v9 e => ?_)
        refine ax_iload B dX2_lessen_71 hl 5 rfl ?_
        refine ax_iald B kd100 dX2_lessen_73 e (fun v10 e => ?_)
        refine ax_if_ne (tgt := 86) B dX2_lessen_74 (by decide) e (fun e => ?_) (fun e => ?_)
        · refine ax_aload_n B dX2_lessen_77 rfl hl 2 rfl ?_
          refine ax_iload B dX2_lessen_78 hl 5 rfl ?_
          refine ax_iinc (L' := [(5, .inl (x5 + (-1))), (4, .inl (x4 - q5.1)), (6, .inl q5.1), (0, .inr (.inr x0)), (1, .inl x1), (2, .inl x2)]) B dX2_lessen_80 hl 5 rfl (by decide) rfl (fun ls hl => ?_)
          refine ax_ivV (y := yX2_drop) (n := 1) (As := [.int (Int32.ofInt x5)]) B kd2 (lw_V q1425 q1426 q1427 q130 q1428) (by decide +kernel) ⟨Nat.le_of_ble_eq_true rfl, Nat.le_of_ble_eq_true rfl⟩ (fun w1 e1 => mt_X2_drop l G hSF x0 x5 _ w1 e1) rfl hl.size (by decide) dX2_lessen_83 e (fun h11 e => ?_)
          exact w_X2_lessen_86 hSF B Z hn x0 x1 x2 (x4 - q5.1) (x5 + (-1)) (hl.sub [3, 4, 5, 1, 0] rfl) e hp
        · exact w_X2_lessen_86 hSF B Z hn x0 x1 x2 (x4 - q5.1) x5 (hl.sub [2, 3, 4, 0, 5] rfl) e hp
    · obtain ⟨w, e9_1, rfl⟩ := Option.map_eq_some_iff.mp e
      have e := e9_1
      have e8 := e
      have hp : Q = _ := hp
      subst hp
      exact ax_return B Z dX2_lessen_92 e8
  · obtain ⟨w, e9_2, rfl⟩ := Option.map_eq_some_iff.mp e
    have e := e9_2
    have e8 := e
    have hp : Q = _ := hp
    subst hp
    exact ax_return B Z dX2_lessen_92 e8
theorem w_X2_lessen_6 {l : Launch} {G : ax_G} {X : ax_X} {Q : State → Prop} {h0 h : ax_H} {ls : Array Slot} (hSF : ax_SF G) (B : ax_BL l G X cX2_lessen 7 RX2 3 85) (Z : ax_Z X h0 none) (hn : X.2.2.2.2.2.2.2.2.1.name = yX2_lessen.name) (x0 : Option Nat) (x1 : Int) (x2 : Int) (x4 : Int) (x5 : Int) {w : ax_H} (hl : ax_hl ls 7 [(0, .inr (.inr x0)), (1, .inl x1), (2, .inl x2), (4, .inl x4), (5, .inl x5)]) (e : f_X2_lessen_6 G.2.2 x0 x1 x2 x4 x5 h = some w) (hp : (fun w : ax_H => Q = ax_Q G X h0 w none) w) : ax_W G X Q h 6 ls [] :=
  ax_iter_W (Pin := pi_X2_lessen_6 G X Q x0 x1 x2) (Pout := (fun w : ax_H => Q = ax_Q G X h0 w none)) (fun s w e hp ls hl => wb_X2_lessen_6 hSF B Z hn x0 x1 x2 s.1 s.2.1 hl e hp) _ _ e hp ls hl
set_option maxHeartbeats 4000000 in
theorem we_X2_lessen {l : Launch} {G : ax_G} {X : ax_X} {Q : State → Prop} {h0 h : ax_H} {ls : Array Slot} (hSF : ax_SF G) (B : ax_BL l G X cX2_lessen 7 RX2 3 85) (Z : ax_Z X h0 none) (hn : X.2.2.2.2.2.2.2.2.1.name = yX2_lessen.name) (x0 : Option Nat) (x1 : Int) (x2 : Int) (x3 : Int) {w : ax_H} (hl : ax_hl ls 7 [(0, .inr (.inr x0)), (1, .inl x1), (2, .inl x2), (3, .inl x3)]) (e : f_X2_lessen G.2.2 x0 x1 x2 x3 h = some w) (hp : (fun w : ax_H => Q = ax_Q G X h0 w none) w) : ax_W G X Q h 0 ls [] := by
  unfold f_X2_lessen at e
  refine ax_iload_n B dX2_lessen_0 rfl hl 3 rfl ?_
  refine ax_istore (L' := [(4, .inl x3), (0, .inr (.inr x0)), (1, .inl x1), (2, .inl x2), (3, .inl x3)]) B dX2_lessen_1 hl (by decide) rfl (fun ls hl => ?_)
  refine ax_iconst B dX2_lessen_3 ?_
  refine ax_istore (L' := [(5, .inl 0), (4, .inl x3), (0, .inr (.inr x0)), (1, .inl x1), (2, .inl x2), (3, .inl x3)]) B dX2_lessen_4 hl (by decide) rfl (fun ls hl => ?_)
  exact w_X2_lessen_6 hSF B Z hn x0 x1 x2 x3 0 (hl.sub [2, 3, 4, 1, 0] rfl) e hp
theorem mt_X2_lessen (l : Launch) (G : ax_G) (hSF : ax_SF G) (x0 : Option Nat) (x1 : Int) (x2 : Int) (x3 : Int) (h : ax_H) (w : ax_H) (e : f_X2_lessen G.2.2 x0 x1 x2 x3 h = some w) : ax_Met l G yX2_lessen cX2_lessen 7 none 3 85 [va_rf x0, .int (Int32.ofInt x1), .int (Int32.ofInt x2), .int (Int32.ofInt x3)] h w none :=
  ax_enter [.inr (.inr x0), .inl x1, .inl x2, .inl x3] (y := yX2_lessen) hSF (plainFor_of_name (by decide +kernel)) (Nat.le_of_ble_eq_true rfl) (fun X ls B Z hn hl => we_X2_lessen hSF B Z hn x0 x1 x2 x3 hl e rfl)
def dkwX2_repay_2 : List UInt8 := [28, 21, 4, 182, 0, 61, 42, 27, 28, 21, 4, 182, 0, 65, 21, 4, 172]
abbrev dktX2_repay_2 : List UInt8 := dkwX2_repay_2 ++ []
def dkwX2_repay_1 : List UInt8 := [46, 100, 184, 0, 48, 184, 0, 48, 54, 4, 27, 28, 159, 0, 8, 21, 4, 157, 0, 5, 3, 172, 42, 27]
abbrev dktX2_repay_1 : List UInt8 := dkwX2_repay_1 ++ dktX2_repay_2
def dkwX2_repay_0 : List UInt8 := [29, 42, 27, 28, 182, 0, 58, 184, 0, 48, 42, 180, 0, 9, 27, 46, 17, 39, 15, 42, 180, 0, 9, 28]
abbrev dktX2_repay_0 : List UInt8 := dkwX2_repay_0 ++ dktX2_repay_1
theorem dksX2_repay_0 : cX2_repay.data.toList.drop 0 = dktX2_repay_0 := by decide +kernel
theorem dksX2_repay_1 : cX2_repay.data.toList.drop 24 = dktX2_repay_1 := dk_seg dksX2_repay_0 24 rfl rfl
theorem dksX2_repay_2 : cX2_repay.data.toList.drop 48 = dktX2_repay_2 := dk_seg dksX2_repay_1 24 rfl rfl
theorem dX2_repay_0 : decode cX2_repay 0 = .ok (.iload_n 3, 1) := dk_29 (dk_at dksX2_repay_0 0 rfl rfl)
theorem dX2_repay_1 : decode cX2_repay 1 = .ok (.aload_n 0, 1) := dk_42 (dk_at dksX2_repay_0 1 rfl rfl)
theorem dX2_repay_2 : decode cX2_repay 2 = .ok (.iload_n 1, 1) := dk_27 (dk_at dksX2_repay_0 2 rfl rfl)
theorem dX2_repay_3 : decode cX2_repay 3 = .ok (.iload_n 2, 1) := dk_28 (dk_at dksX2_repay_0 3 rfl rfl)
theorem dX2_repay_4 : decode cX2_repay 4 = .ok (.invokevirtual 58, 3) := dk_182 0 58 (dk_at dksX2_repay_0 4 rfl rfl)
theorem dX2_repay_7 : decode cX2_repay 7 = .ok (.invokestatic 48, 3) := dk_184 0 48 (dk_at dksX2_repay_0 7 rfl rfl)
theorem dX2_repay_10 : decode cX2_repay 10 = .ok (.aload_n 0, 1) := dk_42 (dk_at dksX2_repay_0 10 rfl rfl)
theorem dX2_repay_11 : decode cX2_repay 11 = .ok (.getfield 9, 3) := dk_180 0 9 (dk_at dksX2_repay_0 11 rfl rfl)
theorem dX2_repay_14 : decode cX2_repay 14 = .ok (.iload_n 1, 1) := dk_27 (dk_at dksX2_repay_0 14 rfl rfl)
theorem dX2_repay_15 : decode cX2_repay 15 = .ok (.iaload, 1) := dk_46 (dk_at dksX2_repay_0 15 rfl rfl)
theorem dX2_repay_16 : decode cX2_repay 16 = .ok (.sipush 9999, 3) := dk_17 39 15 (dk_at dksX2_repay_0 16 rfl rfl)
theorem dX2_repay_19 : decode cX2_repay 19 = .ok (.aload_n 0, 1) := dk_42 (dk_at dksX2_repay_0 19 rfl rfl)
theorem dX2_repay_20 : decode cX2_repay 20 = .ok (.getfield 9, 3) := dk_180 0 9 (dk_at dksX2_repay_0 20 rfl rfl)
theorem dX2_repay_23 : decode cX2_repay 23 = .ok (.iload_n 2, 1) := dk_28 (dk_at dksX2_repay_0 23 rfl rfl)
theorem dX2_repay_24 : decode cX2_repay 24 = .ok (.iaload, 1) := dk_46 (dk_at dksX2_repay_1 0 rfl rfl)
theorem dX2_repay_25 : decode cX2_repay 25 = .ok (.isub, 1) := dk_100 (dk_at dksX2_repay_1 1 rfl rfl)
theorem dX2_repay_26 : decode cX2_repay 26 = .ok (.invokestatic 48, 3) := dk_184 0 48 (dk_at dksX2_repay_1 2 rfl rfl)
theorem dX2_repay_29 : decode cX2_repay 29 = .ok (.invokestatic 48, 3) := dk_184 0 48 (dk_at dksX2_repay_1 5 rfl rfl)
theorem dX2_repay_32 : decode cX2_repay 32 = .ok (.istore 4, 2) := dk_54 4 (dk_at dksX2_repay_1 8 rfl rfl)
theorem dX2_repay_34 : decode cX2_repay 34 = .ok (.iload_n 1, 1) := dk_27 (dk_at dksX2_repay_1 10 rfl rfl)
theorem dX2_repay_35 : decode cX2_repay 35 = .ok (.iload_n 2, 1) := dk_28 (dk_at dksX2_repay_1 11 rfl rfl)
theorem dX2_repay_36 : decode cX2_repay 36 = .ok (.if_icmp .eq 8, 3) := dk_159 0 8 (dk_at dksX2_repay_1 12 rfl rfl)
theorem dX2_repay_39 : decode cX2_repay 39 = .ok (.iload 4, 2) := dk_21 4 (dk_at dksX2_repay_1 15 rfl rfl)
theorem dX2_repay_41 : decode cX2_repay 41 = .ok (.ifCond .gt 5, 3) := dk_157 0 5 (dk_at dksX2_repay_1 17 rfl rfl)
theorem dX2_repay_44 : decode cX2_repay 44 = .ok (.iconst 0, 1) := dk_3 (dk_at dksX2_repay_1 20 rfl rfl)
theorem dX2_repay_45 : decode cX2_repay 45 = .ok (.ireturn, 1) := dk_172 (dk_at dksX2_repay_1 21 rfl rfl)
theorem dX2_repay_46 : decode cX2_repay 46 = .ok (.aload_n 0, 1) := dk_42 (dk_at dksX2_repay_1 22 rfl rfl)
theorem dX2_repay_47 : decode cX2_repay 47 = .ok (.iload_n 1, 1) := dk_27 (dk_at dksX2_repay_1 23 rfl rfl)
theorem dX2_repay_48 : decode cX2_repay 48 = .ok (.iload_n 2, 1) := dk_28 (dk_at dksX2_repay_2 0 rfl rfl)
theorem dX2_repay_49 : decode cX2_repay 49 = .ok (.iload 4, 2) := dk_21 4 (dk_at dksX2_repay_2 1 rfl rfl)
theorem dX2_repay_51 : decode cX2_repay 51 = .ok (.invokevirtual 61, 3) := dk_182 0 61 (dk_at dksX2_repay_2 3 rfl rfl)
theorem dX2_repay_54 : decode cX2_repay 54 = .ok (.aload_n 0, 1) := dk_42 (dk_at dksX2_repay_2 6 rfl rfl)
theorem dX2_repay_55 : decode cX2_repay 55 = .ok (.iload_n 1, 1) := dk_27 (dk_at dksX2_repay_2 7 rfl rfl)
theorem dX2_repay_56 : decode cX2_repay 56 = .ok (.iload_n 2, 1) := dk_28 (dk_at dksX2_repay_2 8 rfl rfl)
theorem dX2_repay_57 : decode cX2_repay 57 = .ok (.iload 4, 2) := dk_21 4 (dk_at dksX2_repay_2 9 rfl rfl)
theorem dX2_repay_59 : decode cX2_repay 59 = .ok (.invokevirtual 65, 3) := dk_182 0 65 (dk_at dksX2_repay_2 11 rfl rfl)
theorem dX2_repay_62 : decode cX2_repay 62 = .ok (.iload 4, 2) := dk_21 4 (dk_at dksX2_repay_2 14 rfl rfl)
theorem dX2_repay_64 : decode cX2_repay 64 = .ok (.ireturn, 1) := dk_172 (dk_at dksX2_repay_2 16 rfl rfl)
noncomputable def f_X2_repay_44 (E : ax_E) (h : ax_H) : Option (Int × ax_H) :=
  some (0, h)
noncomputable def f_X2_repay (E : ax_E) (x0 : Option Nat) (x1 : Int) (x2 : Int) (x3 : Int) (h : ax_H) : Option (Int × ax_H) :=
  (ax_ce E h x0 2).bind fun _ => (f_X2_owes E x0 x1 x2 h).bind fun q1 =>
  (f_J3_min E x3 q1.1 q1.2).bind fun q2 =>
  (ax_gR E q2.2 x0 2 0).bind fun v3 =>
  (ax_ld E q2.2 v3 100 x1).bind fun v4 =>
  (ax_gR E q2.2 x0 2 0).bind fun v5 =>
  (ax_ld E q2.2 v5 100 x2).bind fun v6 =>
  (f_J3_min E v4 (9999 - v6) q2.2).bind fun q7 =>
  (f_J3_min E q2.1 q7.1 q7.2).bind fun q8 =>
  if i2 x1 = i2 x2 then
    f_X2_repay_44 E q8.2
  else
    if 0 < i2 q8.1 then
      (ax_ce E q8.2 x0 2).bind fun _ => (f_X2_pay E x0 x1 x2 q8.1 q8.2).bind fun h9 =>
      (ax_ce E h9 x0 2).bind fun _ => (f_X2_lessen E x0 x1 x2 q8.1 h9).bind fun h10 =>
      some (q8.1, h10)
    else
      f_X2_repay_44 E q8.2
set_option maxHeartbeats 4000000 in
theorem w_X2_repay_44 {l : Launch} {G : ax_G} {X : ax_X} {Q : State → Prop} {h0 h : ax_H} {ls : Array Slot} (hSF : ax_SF G) (B : ax_BL l G X cX2_repay 5 RX2 4 111) (Z : ax_Z X h0 ((some FieldType.int))) (hn : X.2.2.2.2.2.2.2.2.1.name = yX2_repay.name) {w : Int × ax_H} (hl : ax_hl ls 5 []) (e : f_X2_repay_44 G.2.2 h = some w) (hp : (fun w : Int × ax_H => Q = ax_Q G X h0 w.2 (some (.int (Int32.ofInt w.1)))) w) : ax_W G X Q h 44 ls [] := by
  unfold f_X2_repay_44 at e
  refine ax_iconst B dX2_repay_44 ?_
  have e8 := e
  have hp : Q = _ := hp
  subst hp
  exact ax_ireturn B Z dX2_repay_45 e8
set_option maxHeartbeats 4000000 in
theorem we_X2_repay {l : Launch} {G : ax_G} {X : ax_X} {Q : State → Prop} {h0 h : ax_H} {ls : Array Slot} (hSF : ax_SF G) (B : ax_BL l G X cX2_repay 5 RX2 4 111) (Z : ax_Z X h0 ((some FieldType.int))) (hn : X.2.2.2.2.2.2.2.2.1.name = yX2_repay.name) (x0 : Option Nat) (x1 : Int) (x2 : Int) (x3 : Int) {w : Int × ax_H} (hl : ax_hl ls 5 [(0, .inr (.inr x0)), (1, .inl x1), (2, .inl x2), (3, .inl x3)]) (e : f_X2_repay G.2.2 x0 x1 x2 x3 h = some w) (hp : (fun w : Int × ax_H => Q = ax_Q G X h0 w.2 (some (.int (Int32.ofInt w.1)))) w) : ax_W G X Q h 0 ls [] := by
  unfold f_X2_repay at e
  refine ax_iload_n B dX2_repay_0 rfl hl 3 rfl ?_
  refine ax_aload_n B dX2_repay_1 rfl hl 0 rfl ?_
  refine ax_iload_n B dX2_repay_2 rfl hl 1 rfl ?_
  refine ax_iload_n B dX2_repay_3 rfl hl 2 rfl ?_
  refine ax_ivI (y := yX2_owes) (n := 2) (As := [.int (Int32.ofInt x1), .int (Int32.ofInt x2)]) B kd2 (lw_V q1418 q508 q509 q130 q510) (by decide +kernel) ⟨Nat.le_of_ble_eq_true rfl, Nat.le_of_ble_eq_true rfl⟩ (fun w1 e1 => mt_X2_owes l G hSF x0 x1 x2 _ w1 e1) rfl hl.size (by simp only [List.map_cons, List.map_nil, List.sum_cons, List.sum_nil, va_rf_cat, ax_catI, ax_catL]; decide) dX2_repay_4 e (fun q1 e => ?_)
  refine ax_isI (y := yJ3_min) (n := 2) (As := [.int (Int32.ofInt x3), .int (Int32.ofInt q1.1)]) B (lw_S q1419 q441 q134 q442) (by decide +kernel) ⟨Nat.le_of_ble_eq_true rfl, Nat.le_of_ble_eq_true rfl⟩ (fun w1 e1 => mt_J3_min l G hSF x3 q1.1 _ w1 e1) rfl hl.size (by decide) dX2_repay_7 e (fun q2 e => ?_)
  refine ax_aload_n B dX2_repay_10 rfl hl 0 rfl ?_
  refine ax_getR B ff_X2_9_2 (fun _ _ => rfl) dX2_repay_11 e (fun v3 e => ?_)
  refine ax_iload_n B dX2_repay_14 rfl hl 1 rfl ?_
  refine ax_iald B kd100 dX2_repay_15 e (fun v4 e => ?_)
  refine ax_sipush B dX2_repay_16 (by decide) ?_
  refine ax_aload_n B dX2_repay_19 rfl hl 0 rfl ?_
  refine ax_getR B ff_X2_9_2 (fun _ _ => rfl) dX2_repay_20 e (fun v5 e => ?_)
  refine ax_iload_n B dX2_repay_23 rfl hl 2 rfl ?_
  refine ax_iald B kd100 dX2_repay_24 e (fun v6 e => ?_)
  refine ax_isub' B dX2_repay_25 ?_
  refine ax_isI (y := yJ3_min) (n := 2) (As := [.int (Int32.ofInt v4), .int (Int32.ofInt (9999 - v6))]) B (lw_S q1419 q441 q134 q442) (by decide +kernel) ⟨Nat.le_of_ble_eq_true rfl, Nat.le_of_ble_eq_true rfl⟩ (fun w1 e1 => mt_J3_min l G hSF v4 (9999 - v6) _ w1 e1) rfl hl.size (by simp only [List.map_cons, List.map_nil, List.sum_cons, List.sum_nil, va_rf_cat, ax_catI, ax_catL]; decide) dX2_repay_26 e (fun q7 e => ?_)
  refine ax_isI (y := yJ3_min) (n := 2) (As := [.int (Int32.ofInt q2.1), .int (Int32.ofInt q7.1)]) B (lw_S q1419 q441 q134 q442) (by decide +kernel) ⟨Nat.le_of_ble_eq_true rfl, Nat.le_of_ble_eq_true rfl⟩ (fun w1 e1 => mt_J3_min l G hSF q2.1 q7.1 _ w1 e1) rfl hl.size (by decide) dX2_repay_29 e (fun q8 e => ?_)
  refine ax_istore (L' := [(4, .inl q8.1), (0, .inr (.inr x0)), (1, .inl x1), (2, .inl x2), (3, .inl x3)]) B dX2_repay_32 hl (by decide) rfl (fun ls hl => ?_)
  refine ax_iload_n B dX2_repay_34 rfl hl 2 rfl ?_
  refine ax_iload_n B dX2_repay_35 rfl hl 3 rfl ?_
  refine ax_icmp_eq (tgt := 44) B dX2_repay_36 (by decide) e (fun e => ?_) (fun e => ?_)
  · exact w_X2_repay_44 hSF B Z hn (hl.sub [] rfl) e hp
  · refine ax_iload B dX2_repay_39 hl 0 rfl ?_
    refine ax_if_gt (tgt := 46) B dX2_repay_41 (by decide) e (fun e => ?_) (fun e => ?_)
    · refine ax_aload_n B dX2_repay_46 rfl hl 1 rfl ?_
      refine ax_iload_n B dX2_repay_47 rfl hl 2 rfl ?_
      refine ax_iload_n B dX2_repay_48 rfl hl 3 rfl ?_
      refine ax_iload B dX2_repay_49 hl 0 rfl ?_
      refine ax_ivV (y := yX2_pay) (n := 3) (As := [.int (Int32.ofInt x1), .int (Int32.ofInt x2), .int (Int32.ofInt q8.1)]) B kd2 (lw_V q1420 q1403 q1404 q130 q1405) (by decide +kernel) ⟨Nat.le_of_ble_eq_true rfl, Nat.le_of_ble_eq_true rfl⟩ (fun w1 e1 => mt_X2_pay l G hSF x0 x1 x2 q8.1 _ w1 e1) rfl hl.size (by decide) dX2_repay_51 e (fun h9 e => ?_)
      refine ax_aload_n B dX2_repay_54 rfl hl 1 rfl ?_
      refine ax_iload_n B dX2_repay_55 rfl hl 2 rfl ?_
      refine ax_iload_n B dX2_repay_56 rfl hl 3 rfl ?_
      refine ax_iload B dX2_repay_57 hl 0 rfl ?_
      refine ax_ivV (y := yX2_lessen) (n := 3) (As := [.int (Int32.ofInt x1), .int (Int32.ofInt x2), .int (Int32.ofInt q8.1)]) B kd2 (lw_V q1421 q1422 q1423 q130 q1424) (by decide +kernel) ⟨Nat.le_of_ble_eq_true rfl, Nat.le_of_ble_eq_true rfl⟩ (fun w1 e1 => mt_X2_lessen l G hSF x0 x1 x2 q8.1 _ w1 e1) rfl hl.size (by decide) dX2_repay_59 e (fun h10 e => ?_)
      refine ax_iload B dX2_repay_62 hl 0 rfl ?_
      have e8 := e
      have hp : Q = _ := hp
      subst hp
      exact ax_ireturn B Z dX2_repay_64 e8
    · exact w_X2_repay_44 hSF B Z hn (hl.sub [] rfl) e hp
theorem mt_X2_repay (l : Launch) (G : ax_G) (hSF : ax_SF G) (x0 : Option Nat) (x1 : Int) (x2 : Int) (x3 : Int) (h : ax_H) (w : Int × ax_H) (e : f_X2_repay G.2.2 x0 x1 x2 x3 h = some w) : ax_Met l G yX2_repay cX2_repay 5 ((some FieldType.int)) 4 111 [va_rf x0, .int (Int32.ofInt x1), .int (Int32.ofInt x2), .int (Int32.ofInt x3)] h w.2 (some (.int (Int32.ofInt w.1))) :=
  ax_enter [.inr (.inr x0), .inl x1, .inl x2, .inl x3] (y := yX2_repay) hSF (plainFor_of_name (by decide +kernel)) (Nat.le_of_ble_eq_true rfl) (fun X ls B Z hn hl => we_X2_repay hSF B Z hn x0 x1 x2 x3 hl e rfl)
def dkwX0_repayNow_2 : List UInt8 := [154, 0, 6, 16, 253, 172, 42, 4, 182, 1, 47, 42, 182, 0, 104, 27, 28, 29, 182, 1, 57, 172]
abbrev dktX0_repayNow_2 : List UInt8 := dkwX0_repayNow_2 ++ []
def dkwX0_repayNow_1 : List UInt8 := [154, 0, 6, 16, 254, 172, 42, 180, 0, 74, 42, 182, 0, 104, 182, 1, 36, 27, 28, 29, 182, 1, 57]
abbrev dktX0_repayNow_1 : List UInt8 := dkwX0_repayNow_1 ++ dktX0_repayNow_2
def dkwX0_repayNow_0 : List UInt8 := [29, 184, 0, 151, 154, 0, 5, 2, 172, 42, 27, 182, 0, 110, 153, 0, 11, 42, 28, 182, 0, 110]
abbrev dktX0_repayNow_0 : List UInt8 := dkwX0_repayNow_0 ++ dktX0_repayNow_1
theorem dksX0_repayNow_0 : cX0_repayNow.data.toList.drop 0 = dktX0_repayNow_0 := by decide +kernel
theorem dksX0_repayNow_1 : cX0_repayNow.data.toList.drop 22 = dktX0_repayNow_1 := dk_seg dksX0_repayNow_0 22 rfl rfl
theorem dksX0_repayNow_2 : cX0_repayNow.data.toList.drop 45 = dktX0_repayNow_2 := dk_seg dksX0_repayNow_1 23 rfl rfl
theorem dX0_repayNow_0 : decode cX0_repayNow 0 = .ok (.iload_n 3, 1) := dk_29 (dk_at dksX0_repayNow_0 0 rfl rfl)
theorem dX0_repayNow_1 : decode cX0_repayNow 1 = .ok (.invokestatic 151, 3) := dk_184 0 151 (dk_at dksX0_repayNow_0 1 rfl rfl)
theorem dX0_repayNow_4 : decode cX0_repayNow 4 = .ok (.ifCond .ne 5, 3) := dk_154 0 5 (dk_at dksX0_repayNow_0 4 rfl rfl)
theorem dX0_repayNow_7 : decode cX0_repayNow 7 = .ok (.iconst (-1), 1) := dk_2 (dk_at dksX0_repayNow_0 7 rfl rfl)
theorem dX0_repayNow_8 : decode cX0_repayNow 8 = .ok (.ireturn, 1) := dk_172 (dk_at dksX0_repayNow_0 8 rfl rfl)
theorem dX0_repayNow_9 : decode cX0_repayNow 9 = .ok (.aload_n 0, 1) := dk_42 (dk_at dksX0_repayNow_0 9 rfl rfl)
theorem dX0_repayNow_10 : decode cX0_repayNow 10 = .ok (.iload_n 1, 1) := dk_27 (dk_at dksX0_repayNow_0 10 rfl rfl)
theorem dX0_repayNow_11 : decode cX0_repayNow 11 = .ok (.invokevirtual 110, 3) := dk_182 0 110 (dk_at dksX0_repayNow_0 11 rfl rfl)
theorem dX0_repayNow_14 : decode cX0_repayNow 14 = .ok (.ifCond .eq 11, 3) := dk_153 0 11 (dk_at dksX0_repayNow_0 14 rfl rfl)
theorem dX0_repayNow_17 : decode cX0_repayNow 17 = .ok (.aload_n 0, 1) := dk_42 (dk_at dksX0_repayNow_0 17 rfl rfl)
theorem dX0_repayNow_18 : decode cX0_repayNow 18 = .ok (.iload_n 2, 1) := dk_28 (dk_at dksX0_repayNow_0 18 rfl rfl)
theorem dX0_repayNow_19 : decode cX0_repayNow 19 = .ok (.invokevirtual 110, 3) := dk_182 0 110 (dk_at dksX0_repayNow_0 19 rfl rfl)
theorem dX0_repayNow_22 : decode cX0_repayNow 22 = .ok (.ifCond .ne 6, 3) := dk_154 0 6 (dk_at dksX0_repayNow_1 0 rfl rfl)
theorem dX0_repayNow_25 : decode cX0_repayNow 25 = .ok (.bipush (-2), 2) := dk_16 254 (dk_at dksX0_repayNow_1 3 rfl rfl)
theorem dX0_repayNow_27 : decode cX0_repayNow 27 = .ok (.ireturn, 1) := dk_172 (dk_at dksX0_repayNow_1 5 rfl rfl)
theorem dX0_repayNow_28 : decode cX0_repayNow 28 = .ok (.aload_n 0, 1) := dk_42 (dk_at dksX0_repayNow_1 6 rfl rfl)
theorem dX0_repayNow_29 : decode cX0_repayNow 29 = .ok (.getfield 74, 3) := dk_180 0 74 (dk_at dksX0_repayNow_1 7 rfl rfl)
theorem dX0_repayNow_32 : decode cX0_repayNow 32 = .ok (.aload_n 0, 1) := dk_42 (dk_at dksX0_repayNow_1 10 rfl rfl)
theorem dX0_repayNow_33 : decode cX0_repayNow 33 = .ok (.invokevirtual 104, 3) := dk_182 0 104 (dk_at dksX0_repayNow_1 11 rfl rfl)
theorem dX0_repayNow_36 : decode cX0_repayNow 36 = .ok (.invokevirtual 292, 3) := dk_182 1 36 (dk_at dksX0_repayNow_1 14 rfl rfl)
theorem dX0_repayNow_39 : decode cX0_repayNow 39 = .ok (.iload_n 1, 1) := dk_27 (dk_at dksX0_repayNow_1 17 rfl rfl)
theorem dX0_repayNow_40 : decode cX0_repayNow 40 = .ok (.iload_n 2, 1) := dk_28 (dk_at dksX0_repayNow_1 18 rfl rfl)
theorem dX0_repayNow_41 : decode cX0_repayNow 41 = .ok (.iload_n 3, 1) := dk_29 (dk_at dksX0_repayNow_1 19 rfl rfl)
theorem dX0_repayNow_42 : decode cX0_repayNow 42 = .ok (.invokevirtual 313, 3) := dk_182 1 57 (dk_at dksX0_repayNow_1 20 rfl rfl)
theorem dX0_repayNow_45 : decode cX0_repayNow 45 = .ok (.ifCond .ne 6, 3) := dk_154 0 6 (dk_at dksX0_repayNow_2 0 rfl rfl)
theorem dX0_repayNow_48 : decode cX0_repayNow 48 = .ok (.bipush (-3), 2) := dk_16 253 (dk_at dksX0_repayNow_2 3 rfl rfl)
theorem dX0_repayNow_50 : decode cX0_repayNow 50 = .ok (.ireturn, 1) := dk_172 (dk_at dksX0_repayNow_2 5 rfl rfl)
theorem dX0_repayNow_51 : decode cX0_repayNow 51 = .ok (.aload_n 0, 1) := dk_42 (dk_at dksX0_repayNow_2 6 rfl rfl)
theorem dX0_repayNow_52 : decode cX0_repayNow 52 = .ok (.iconst 1, 1) := dk_4 (dk_at dksX0_repayNow_2 7 rfl rfl)
theorem dX0_repayNow_53 : decode cX0_repayNow 53 = .ok (.invokevirtual 303, 3) := dk_182 1 47 (dk_at dksX0_repayNow_2 8 rfl rfl)
theorem dX0_repayNow_56 : decode cX0_repayNow 56 = .ok (.aload_n 0, 1) := dk_42 (dk_at dksX0_repayNow_2 11 rfl rfl)
theorem dX0_repayNow_57 : decode cX0_repayNow 57 = .ok (.invokevirtual 104, 3) := dk_182 0 104 (dk_at dksX0_repayNow_2 12 rfl rfl)
theorem dX0_repayNow_60 : decode cX0_repayNow 60 = .ok (.iload_n 1, 1) := dk_27 (dk_at dksX0_repayNow_2 15 rfl rfl)
theorem dX0_repayNow_61 : decode cX0_repayNow 61 = .ok (.iload_n 2, 1) := dk_28 (dk_at dksX0_repayNow_2 16 rfl rfl)
theorem dX0_repayNow_62 : decode cX0_repayNow 62 = .ok (.iload_n 3, 1) := dk_29 (dk_at dksX0_repayNow_2 17 rfl rfl)
theorem dX0_repayNow_63 : decode cX0_repayNow 63 = .ok (.invokevirtual 313, 3) := dk_182 1 57 (dk_at dksX0_repayNow_2 18 rfl rfl)
theorem dX0_repayNow_66 : decode cX0_repayNow 66 = .ok (.ireturn, 1) := dk_172 (dk_at dksX0_repayNow_2 21 rfl rfl)
noncomputable def f_X0_repayNow_25 (E : ax_E) (h : ax_H) : Option (Int × ax_H) :=
  some ((-2), h)
noncomputable def f_X0_repayNow (E : ax_E) (x0 : Option Nat) (x1 : Int) (x2 : Int) (x3 : Int) (h : ax_H) : Option (Int × ax_H) :=
  (f_X0_isAmount E x3 h).bind fun q1 =>
  if i2 q1.1 = 0 then
    some ((-1), q1.2)
  else
    (ax_ce E q1.2 x0 0).bind fun _ => (f_X0_isPerson E x0 x1 q1.2).bind fun q2 =>
    if i2 q2.1 = 0 then
      f_X0_repayNow_25 E q2.2
    else
      (ax_ce E q2.2 x0 0).bind fun _ => (f_X0_isPerson E x0 x2 q2.2).bind fun q3 =>
      if i2 q3.1 = 0 then
        f_X0_repayNow_25 E q3.2
      else
        (ax_gR E q3.2 x0 0 13).bind fun v4 =>
        (ax_ce E q3.2 x0 0).bind fun _ => (f_X0_books E x0 q3.2).bind fun q5 =>
        (ax_ce E q5.2 v4 2).bind fun _ => (f_X2_as E v4 q5.1 q5.2).bind fun q6 =>
        (ax_ce E q6.2 q6.1 2).bind fun _ => (f_X2_repay E q6.1 x1 x2 x3 q6.2).bind fun q7 =>
        if i2 q7.1 = 0 then
          some ((-3), q7.2)
        else
          (ax_ce E q7.2 x0 0).bind fun _ => (f_X0_remember E x0 1 q7.2).bind fun h8 =>
          (ax_ce E h8 x0 0).bind fun _ => (f_X0_books E x0 h8).bind fun q9 =>
          (ax_ce E q9.2 q9.1 2).bind fun _ => (f_X2_repay E q9.1 x1 x2 x3 q9.2).bind fun q10 =>
          some (q10.1, q10.2)
set_option maxHeartbeats 4000000 in
theorem w_X0_repayNow_25 {l : Launch} {G : ax_G} {X : ax_X} {Q : State → Prop} {h0 h : ax_H} {ls : Array Slot} (hSF : ax_SF G) (B : ax_BL l G X cX0_repayNow 4 RX0 9 213) (Z : ax_Z X h0 ((some FieldType.int))) (hn : X.2.2.2.2.2.2.2.2.1.name = yX0_repayNow.name) {w : Int × ax_H} (hl : ax_hl ls 4 []) (e : f_X0_repayNow_25 G.2.2 h = some w) (hp : (fun w : Int × ax_H => Q = ax_Q G X h0 w.2 (some (.int (Int32.ofInt w.1)))) w) : ax_W G X Q h 25 ls [] := by
  unfold f_X0_repayNow_25 at e
  refine ax_bipush B dX0_repayNow_25 (by decide) ?_
  have e8 := e
  have hp : Q = _ := hp
  subst hp
  exact ax_ireturn B Z dX0_repayNow_27 e8
set_option maxHeartbeats 4000000 in
theorem we_X0_repayNow {l : Launch} {G : ax_G} {X : ax_X} {Q : State → Prop} {h0 h : ax_H} {ls : Array Slot} (hSF : ax_SF G) (B : ax_BL l G X cX0_repayNow 4 RX0 9 213) (Z : ax_Z X h0 ((some FieldType.int))) (hn : X.2.2.2.2.2.2.2.2.1.name = yX0_repayNow.name) (x0 : Option Nat) (x1 : Int) (x2 : Int) (x3 : Int) {w : Int × ax_H} (hl : ax_hl ls 4 [(0, .inr (.inr x0)), (1, .inl x1), (2, .inl x2), (3, .inl x3)]) (e : f_X0_repayNow G.2.2 x0 x1 x2 x3 h = some w) (hp : (fun w : Int × ax_H => Q = ax_Q G X h0 w.2 (some (.int (Int32.ofInt w.1)))) w) : ax_W G X Q h 0 ls [] := by
  unfold f_X0_repayNow at e
  refine ax_iload_n B dX0_repayNow_0 rfl hl 3 rfl ?_
  refine ax_isI (y := yX0_isAmount) (n := 1) (As := [.int (Int32.ofInt x3)]) B (lw_S q484 q485 q125 q486) (by decide +kernel) ⟨Nat.le_of_ble_eq_true rfl, Nat.le_of_ble_eq_true rfl⟩ (fun w1 e1 => mt_X0_isAmount l G hSF x3 _ w1 e1) rfl hl.size (by decide) dX0_repayNow_1 e (fun q1 e => ?_)
  refine ax_if_ne (tgt := 9) B dX0_repayNow_4 (by decide) e (fun e => ?_) (fun e => ?_)
  · refine ax_iconst B dX0_repayNow_7 ?_
    have e8 := e
    have hp : Q = _ := hp
    subst hp
    exact ax_ireturn B Z dX0_repayNow_8 e8
  · refine ax_aload_n B dX0_repayNow_9 rfl hl 0 rfl ?_
    refine ax_iload_n B dX0_repayNow_10 rfl hl 1 rfl ?_
    refine ax_ivI (y := yX0_isPerson) (n := 1) (As := [.int (Int32.ofInt x1)]) B kd0 (lw_V q459 q461 qs4 q125 q462) (by decide +kernel) ⟨Nat.le_of_ble_eq_true rfl, Nat.le_of_ble_eq_true rfl⟩ (fun w1 e1 => mt_X0_isPerson l G hSF x0 x1 _ w1 e1) rfl hl.size (by decide) dX0_repayNow_11 e (fun q2 e => ?_)
    refine ax_if_eq (tgt := 25) B dX0_repayNow_14 (by decide) e (fun e => ?_) (fun e => ?_)
    · exact w_X0_repayNow_25 hSF B Z hn (hl.sub [] rfl) e hp
    · refine ax_aload_n B dX0_repayNow_17 rfl hl 0 rfl ?_
      refine ax_iload_n B dX0_repayNow_18 rfl hl 2 rfl ?_
      refine ax_ivI (y := yX0_isPerson) (n := 1) (As := [.int (Int32.ofInt x2)]) B kd0 (lw_V q459 q461 qs4 q125 q462) (by decide +kernel) ⟨Nat.le_of_ble_eq_true rfl, Nat.le_of_ble_eq_true rfl⟩ (fun w1 e1 => mt_X0_isPerson l G hSF x0 x2 _ w1 e1) rfl hl.size (by decide) dX0_repayNow_19 e (fun q3 e => ?_)
      refine ax_if_ne (tgt := 28) B dX0_repayNow_22 (by decide) e (fun e => ?_) (fun e => ?_)
      · exact w_X0_repayNow_25 hSF B Z hn (hl.sub [] rfl) e hp
      · refine ax_aload_n B dX0_repayNow_28 rfl hl 0 rfl ?_
        refine ax_getR B ff_X0_74_0 (fun _ _ => rfl) dX0_repayNow_29 e (fun v4 e => ?_)
        refine ax_aload_n B dX0_repayNow_32 rfl hl 0 rfl ?_
        refine ax_ivR (y := yX0_books) (n := 0) (As := []) B kd0 (lw_V q443 q445 qs2 q125 q446) (by decide +kernel) ⟨Nat.le_of_ble_eq_true rfl, Nat.le_of_ble_eq_true rfl⟩ (fun w1 e1 => mt_X0_books l G hSF x0 _ w1 e1) rfl hl.size (by simp only [List.map_cons, List.map_nil, List.sum_cons, List.sum_nil, va_rf_cat, ax_catI, ax_catL]; decide) dX0_repayNow_33 e (fun q5 e => ?_)
        refine ax_ivR (y := yX2_as) (n := 1) (As := [va_rf q5.1]) B kd2 (lw_V q1377 q1378 q1379 q130 q1380) (by decide +kernel) ⟨Nat.le_of_ble_eq_true rfl, Nat.le_of_ble_eq_true rfl⟩ (fun w1 e1 => mt_X2_as l G hSF v4 q5.1 _ w1 e1) rfl hl.size (by decide) dX0_repayNow_36 e (fun q6 e => ?_)
        refine ax_iload_n B dX0_repayNow_39 rfl hl 1 rfl ?_
        refine ax_iload_n B dX0_repayNow_40 rfl hl 2 rfl ?_
        refine ax_iload_n B dX0_repayNow_41 rfl hl 3 rfl ?_
        refine ax_ivI (y := yX2_repay) (n := 3) (As := [.int (Int32.ofInt x1), .int (Int32.ofInt x2), .int (Int32.ofInt x3)]) B kd2 (lw_V q1414 q1415 q1416 q130 q1417) (by decide +kernel) ⟨Nat.le_of_ble_eq_true rfl, Nat.le_of_ble_eq_true rfl⟩ (fun w1 e1 => mt_X2_repay l G hSF q6.1 x1 x2 x3 _ w1 e1) rfl hl.size (by decide) dX0_repayNow_42 e (fun q7 e => ?_)
        refine ax_if_ne (tgt := 51) B dX0_repayNow_45 (by decide) e (fun e => ?_) (fun e => ?_)
        · refine ax_bipush B dX0_repayNow_48 (by decide) ?_
          have e8 := e
          have hp : Q = _ := hp
          subst hp
          exact ax_ireturn B Z dX0_repayNow_50 e8
        · refine ax_aload_n B dX0_repayNow_51 rfl hl 0 rfl ?_
          refine ax_iconst B dX0_repayNow_52 ?_
          refine ax_ivV (y := yX0_remember) (n := 1) (As := [.int (Int32.ofInt 1)]) B kd0 (lw_V q1362 q1364 qs26 q125 q1365) (by decide +kernel) ⟨Nat.le_of_ble_eq_true rfl, Nat.le_of_ble_eq_true rfl⟩ (fun w1 e1 => mt_X0_remember l G hSF x0 1 _ w1 e1) rfl hl.size (by decide) dX0_repayNow_53 e (fun h8 e => ?_)
          refine ax_aload_n B dX0_repayNow_56 rfl hl 0 rfl ?_
          refine ax_ivR (y := yX0_books) (n := 0) (As := []) B kd0 (lw_V q443 q445 qs2 q125 q446) (by decide +kernel) ⟨Nat.le_of_ble_eq_true rfl, Nat.le_of_ble_eq_true rfl⟩ (fun w1 e1 => mt_X0_books l G hSF x0 _ w1 e1) rfl hl.size (by decide) dX0_repayNow_57 e (fun q9 e => ?_)
          refine ax_iload_n B dX0_repayNow_60 rfl hl 1 rfl ?_
          refine ax_iload_n B dX0_repayNow_61 rfl hl 2 rfl ?_
          refine ax_iload_n B dX0_repayNow_62 rfl hl 3 rfl ?_
          refine ax_ivI (y := yX2_repay) (n := 3) (As := [.int (Int32.ofInt x1), .int (Int32.ofInt x2), .int (Int32.ofInt x3)]) B kd2 (lw_V q1414 q1415 q1416 q130 q1417) (by decide +kernel) ⟨Nat.le_of_ble_eq_true rfl, Nat.le_of_ble_eq_true rfl⟩ (fun w1 e1 => mt_X2_repay l G hSF q9.1 x1 x2 x3 _ w1 e1) rfl hl.size (by decide) dX0_repayNow_63 e (fun q10 e => ?_)
          have e8 := e
          have hp : Q = _ := hp
          subst hp
          exact ax_ireturn B Z dX0_repayNow_66 e8
theorem mt_X0_repayNow (l : Launch) (G : ax_G) (hSF : ax_SF G) (x0 : Option Nat) (x1 : Int) (x2 : Int) (x3 : Int) (h : ax_H) (w : Int × ax_H) (e : f_X0_repayNow G.2.2 x0 x1 x2 x3 h = some w) : ax_Met l G yX0_repayNow cX0_repayNow 4 ((some FieldType.int)) 9 213 [va_rf x0, .int (Int32.ofInt x1), .int (Int32.ofInt x2), .int (Int32.ofInt x3)] h w.2 (some (.int (Int32.ofInt w.1))) :=
  ax_enter [.inr (.inr x0), .inl x1, .inl x2, .inl x3] (y := yX0_repayNow) hSF (plainFor_of_name (by decide +kernel)) (Nat.le_of_ble_eq_true rfl) (fun X ls B Z hn hl => we_X0_repayNow hSF B Z hn x0 x1 x2 x3 hl e rfl)
def dkwX0_repay_0 : List UInt8 := [42, 42, 27, 28, 29, 182, 1, 63, 182, 0, 94, 172]
abbrev dktX0_repay_0 : List UInt8 := dkwX0_repay_0 ++ []
theorem dksX0_repay_0 : cX0_repay.data.toList.drop 0 = dktX0_repay_0 := by decide +kernel
theorem dX0_repay_0 : decode cX0_repay 0 = .ok (.aload_n 0, 1) := dk_42 (dk_at dksX0_repay_0 0 rfl rfl)
theorem dX0_repay_1 : decode cX0_repay 1 = .ok (.aload_n 0, 1) := dk_42 (dk_at dksX0_repay_0 1 rfl rfl)
theorem dX0_repay_2 : decode cX0_repay 2 = .ok (.iload_n 1, 1) := dk_27 (dk_at dksX0_repay_0 2 rfl rfl)
theorem dX0_repay_3 : decode cX0_repay 3 = .ok (.iload_n 2, 1) := dk_28 (dk_at dksX0_repay_0 3 rfl rfl)
theorem dX0_repay_4 : decode cX0_repay 4 = .ok (.iload_n 3, 1) := dk_29 (dk_at dksX0_repay_0 4 rfl rfl)
theorem dX0_repay_5 : decode cX0_repay 5 = .ok (.invokevirtual 319, 3) := dk_182 1 63 (dk_at dksX0_repay_0 5 rfl rfl)
theorem dX0_repay_8 : decode cX0_repay 8 = .ok (.invokevirtual 94, 3) := dk_182 0 94 (dk_at dksX0_repay_0 8 rfl rfl)
theorem dX0_repay_11 : decode cX0_repay 11 = .ok (.ireturn, 1) := dk_172 (dk_at dksX0_repay_0 11 rfl rfl)
noncomputable def f_X0_repay (E : ax_E) (x0 : Option Nat) (x1 : Int) (x2 : Int) (x3 : Int) (h : ax_H) : Option (Int × ax_H) :=
  (ax_ce E h x0 0).bind fun _ => (f_X0_repayNow E x0 x1 x2 x3 h).bind fun q1 =>
  (ax_ce E q1.2 x0 0).bind fun _ => (f_X0_tell E x0 q1.1 q1.2).bind fun q2 =>
  some (q2.1, q2.2)
set_option maxHeartbeats 4000000 in
theorem we_X0_repay {l : Launch} {G : ax_G} {X : ax_X} {Q : State → Prop} {h0 h : ax_H} {ls : Array Slot} (hSF : ax_SF G) (B : ax_BL l G X cX0_repay 4 RX0 10 236) (Z : ax_Z X h0 ((some FieldType.int))) (hn : X.2.2.2.2.2.2.2.2.1.name = yX0_repay.name) (x0 : Option Nat) (x1 : Int) (x2 : Int) (x3 : Int) {w : Int × ax_H} (hl : ax_hl ls 4 [(0, .inr (.inr x0)), (1, .inl x1), (2, .inl x2), (3, .inl x3)]) (e : f_X0_repay G.2.2 x0 x1 x2 x3 h = some w) (hp : (fun w : Int × ax_H => Q = ax_Q G X h0 w.2 (some (.int (Int32.ofInt w.1)))) w) : ax_W G X Q h 0 ls [] := by
  unfold f_X0_repay at e
  refine ax_aload_n B dX0_repay_0 rfl hl 0 rfl ?_
  refine ax_aload_n B dX0_repay_1 rfl hl 0 rfl ?_
  refine ax_iload_n B dX0_repay_2 rfl hl 1 rfl ?_
  refine ax_iload_n B dX0_repay_3 rfl hl 2 rfl ?_
  refine ax_iload_n B dX0_repay_4 rfl hl 3 rfl ?_
  refine ax_ivI (y := yX0_repayNow) (n := 3) (As := [.int (Int32.ofInt x1), .int (Int32.ofInt x2), .int (Int32.ofInt x3)]) B kd0 (lw_V q1410 q1412 qs29 q125 q1413) (by decide +kernel) ⟨Nat.le_of_ble_eq_true rfl, Nat.le_of_ble_eq_true rfl⟩ (fun w1 e1 => mt_X0_repayNow l G hSF x0 x1 x2 x3 _ w1 e1) rfl hl.size (by simp only [List.map_cons, List.map_nil, List.sum_cons, List.sum_nil, va_rf_cat, ax_catI, ax_catL]; decide) dX0_repay_5 e (fun q1 e => ?_)
  refine ax_ivI (y := yX0_tell) (n := 1) (As := [.int (Int32.ofInt q1.1)]) B kd0 (lw_V q436 q438 qs1 q125 q439) (by decide +kernel) ⟨Nat.le_of_ble_eq_true rfl, Nat.le_of_ble_eq_true rfl⟩ (fun w1 e1 => mt_X0_tell l G hSF x0 q1.1 _ w1 e1) rfl hl.size (by decide) dX0_repay_8 e (fun q2 e => ?_)
  have e8 := e
  have hp : Q = _ := hp
  subst hp
  exact ax_ireturn B Z dX0_repay_11 e8
theorem mt_X0_repay (l : Launch) (G : ax_G) (hSF : ax_SF G) (x0 : Option Nat) (x1 : Int) (x2 : Int) (x3 : Int) (h : ax_H) (w : Int × ax_H) (e : f_X0_repay G.2.2 x0 x1 x2 x3 h = some w) : ax_Met l G yX0_repay cX0_repay 4 ((some FieldType.int)) 10 236 [va_rf x0, .int (Int32.ofInt x1), .int (Int32.ofInt x2), .int (Int32.ofInt x3)] h w.2 (some (.int (Int32.ofInt w.1))) :=
  ax_enter [.inr (.inr x0), .inl x1, .inl x2, .inl x3] (y := yX0_repay) hSF (plainFor_of_name (by decide +kernel)) (Nat.le_of_ble_eq_true rfl) (fun X ls B Z hn hl => we_X0_repay hSF B Z hn x0 x1 x2 x3 hl e rfl)
def dkwX0_forgive_1 : List UInt8 := [180, 0, 171, 27, 46, 61, 42, 182, 0, 104, 27, 182, 1, 66, 42, 28, 182, 0, 94, 172]
abbrev dktX0_forgive_1 : List UInt8 := dkwX0_forgive_1 ++ []
def dkwX0_forgive_0 : List UInt8 := [42, 27, 182, 0, 162, 154, 0, 10, 42, 16, 254, 182, 0, 94, 172, 42, 5, 182, 1, 47, 42, 182, 0, 104]
abbrev dktX0_forgive_0 : List UInt8 := dkwX0_forgive_0 ++ dktX0_forgive_1
theorem dksX0_forgive_0 : cX0_forgive.data.toList.drop 0 = dktX0_forgive_0 := by decide +kernel
theorem dksX0_forgive_1 : cX0_forgive.data.toList.drop 24 = dktX0_forgive_1 := dk_seg dksX0_forgive_0 24 rfl rfl
theorem dX0_forgive_0 : decode cX0_forgive 0 = .ok (.aload_n 0, 1) := dk_42 (dk_at dksX0_forgive_0 0 rfl rfl)
theorem dX0_forgive_1 : decode cX0_forgive 1 = .ok (.iload_n 1, 1) := dk_27 (dk_at dksX0_forgive_0 1 rfl rfl)
theorem dX0_forgive_2 : decode cX0_forgive 2 = .ok (.invokevirtual 162, 3) := dk_182 0 162 (dk_at dksX0_forgive_0 2 rfl rfl)
theorem dX0_forgive_5 : decode cX0_forgive 5 = .ok (.ifCond .ne 10, 3) := dk_154 0 10 (dk_at dksX0_forgive_0 5 rfl rfl)
theorem dX0_forgive_8 : decode cX0_forgive 8 = .ok (.aload_n 0, 1) := dk_42 (dk_at dksX0_forgive_0 8 rfl rfl)
theorem dX0_forgive_9 : decode cX0_forgive 9 = .ok (.bipush (-2), 2) := dk_16 254 (dk_at dksX0_forgive_0 9 rfl rfl)
theorem dX0_forgive_11 : decode cX0_forgive 11 = .ok (.invokevirtual 94, 3) := dk_182 0 94 (dk_at dksX0_forgive_0 11 rfl rfl)
theorem dX0_forgive_14 : decode cX0_forgive 14 = .ok (.ireturn, 1) := dk_172 (dk_at dksX0_forgive_0 14 rfl rfl)
theorem dX0_forgive_15 : decode cX0_forgive 15 = .ok (.aload_n 0, 1) := dk_42 (dk_at dksX0_forgive_0 15 rfl rfl)
theorem dX0_forgive_16 : decode cX0_forgive 16 = .ok (.iconst 2, 1) := dk_5 (dk_at dksX0_forgive_0 16 rfl rfl)
theorem dX0_forgive_17 : decode cX0_forgive 17 = .ok (.invokevirtual 303, 3) := dk_182 1 47 (dk_at dksX0_forgive_0 17 rfl rfl)
theorem dX0_forgive_20 : decode cX0_forgive 20 = .ok (.aload_n 0, 1) := dk_42 (dk_at dksX0_forgive_0 20 rfl rfl)
theorem dX0_forgive_21 : decode cX0_forgive 21 = .ok (.invokevirtual 104, 3) := dk_182 0 104 (dk_at dksX0_forgive_0 21 rfl rfl)
theorem dX0_forgive_24 : decode cX0_forgive 24 = .ok (.getfield 171, 3) := dk_180 0 171 (dk_at dksX0_forgive_1 0 rfl rfl)
theorem dX0_forgive_27 : decode cX0_forgive 27 = .ok (.iload_n 1, 1) := dk_27 (dk_at dksX0_forgive_1 3 rfl rfl)
theorem dX0_forgive_28 : decode cX0_forgive 28 = .ok (.iaload, 1) := dk_46 (dk_at dksX0_forgive_1 4 rfl rfl)
theorem dX0_forgive_29 : decode cX0_forgive 29 = .ok (.istore_n 2, 1) := dk_61 (dk_at dksX0_forgive_1 5 rfl rfl)
theorem dX0_forgive_30 : decode cX0_forgive 30 = .ok (.aload_n 0, 1) := dk_42 (dk_at dksX0_forgive_1 6 rfl rfl)
theorem dX0_forgive_31 : decode cX0_forgive 31 = .ok (.invokevirtual 104, 3) := dk_182 0 104 (dk_at dksX0_forgive_1 7 rfl rfl)
theorem dX0_forgive_34 : decode cX0_forgive 34 = .ok (.iload_n 1, 1) := dk_27 (dk_at dksX0_forgive_1 10 rfl rfl)
theorem dX0_forgive_35 : decode cX0_forgive 35 = .ok (.invokevirtual 322, 3) := dk_182 1 66 (dk_at dksX0_forgive_1 11 rfl rfl)
theorem dX0_forgive_38 : decode cX0_forgive 38 = .ok (.aload_n 0, 1) := dk_42 (dk_at dksX0_forgive_1 14 rfl rfl)
theorem dX0_forgive_39 : decode cX0_forgive 39 = .ok (.iload_n 2, 1) := dk_28 (dk_at dksX0_forgive_1 15 rfl rfl)
theorem dX0_forgive_40 : decode cX0_forgive 40 = .ok (.invokevirtual 94, 3) := dk_182 0 94 (dk_at dksX0_forgive_1 16 rfl rfl)
theorem dX0_forgive_43 : decode cX0_forgive 43 = .ok (.ireturn, 1) := dk_172 (dk_at dksX0_forgive_1 19 rfl rfl)
noncomputable def f_X0_forgive (E : ax_E) (x0 : Option Nat) (x1 : Int) (h : ax_H) : Option (Int × ax_H) :=
  (ax_ce E h x0 0).bind fun _ => (f_X0_isDebt E x0 x1 h).bind fun q1 =>
  if i2 q1.1 = 0 then
    (ax_ce E q1.2 x0 0).bind fun _ => (f_X0_tell E x0 (-2) q1.2).bind fun q2 =>
    some (q2.1, q2.2)
  else
    (ax_ce E q1.2 x0 0).bind fun _ => (f_X0_remember E x0 2 q1.2).bind fun h3 =>
    (ax_ce E h3 x0 0).bind fun _ => (f_X0_books E x0 h3).bind fun q4 =>
    (ax_gR E q4.2 q4.1 2 3).bind fun v5 =>
    (ax_ld E q4.2 v5 100 x1).bind fun v6 =>
    (ax_ce E q4.2 x0 0).bind fun _ => (f_X0_books E x0 q4.2).bind fun q7 =>
    (ax_ce E q7.2 q7.1 2).bind fun _ => (f_X2_drop E q7.1 x1 q7.2).bind fun h8 =>
    (ax_ce E h8 x0 0).bind fun _ => (f_X0_tell E x0 v6 h8).bind fun q9 =>
    some (q9.1, q9.2)
set_option maxHeartbeats 4000000 in
theorem we_X0_forgive {l : Launch} {G : ax_G} {X : ax_X} {Q : State → Prop} {h0 h : ax_H} {ls : Array Slot} (hSF : ax_SF G) (B : ax_BL l G X cX0_forgive 3 RX0 9 213) (Z : ax_Z X h0 ((some FieldType.int))) (hn : X.2.2.2.2.2.2.2.2.1.name = yX0_forgive.name) (x0 : Option Nat) (x1 : Int) {w : Int × ax_H} (hl : ax_hl ls 3 [(0, .inr (.inr x0)), (1, .inl x1)]) (e : f_X0_forgive G.2.2 x0 x1 h = some w) (hp : (fun w : Int × ax_H => Q = ax_Q G X h0 w.2 (some (.int (Int32.ofInt w.1)))) w) : ax_W G X Q h 0 ls [] := by
  unfold f_X0_forgive at e
  refine ax_aload_n B dX0_forgive_0 rfl hl 0 rfl ?_
  refine ax_iload_n B dX0_forgive_1 rfl hl 1 rfl ?_
  refine ax_ivI (y := yX0_isDebt) (n := 1) (As := [.int (Int32.ofInt x1)]) B kd0 (lw_V q495 q497 qs8 q125 q498) (by decide +kernel) ⟨Nat.le_of_ble_eq_true rfl, Nat.le_of_ble_eq_true rfl⟩ (fun w1 e1 => mt_X0_isDebt l G hSF x0 x1 _ w1 e1) rfl hl.size (by decide) dX0_forgive_2 e (fun q1 e => ?_)
  refine ax_if_ne (tgt := 15) B dX0_forgive_5 (by decide) e (fun e => ?_) (fun e => ?_)
  · refine ax_aload_n B dX0_forgive_8 rfl hl 0 rfl ?_
    refine ax_bipush B dX0_forgive_9 (by decide) ?_
    refine ax_ivI (y := yX0_tell) (n := 1) (As := [.int (Int32.ofInt (-2))]) B kd0 (lw_V q436 q438 qs1 q125 q439) (by decide +kernel) ⟨Nat.le_of_ble_eq_true rfl, Nat.le_of_ble_eq_true rfl⟩ (fun w1 e1 => mt_X0_tell l G hSF x0 (-2) _ w1 e1) rfl hl.size (by decide) dX0_forgive_11 e (fun q2 e => ?_)
    have e8 := e
    have hp : Q = _ := hp
    subst hp
    exact ax_ireturn B Z dX0_forgive_14 e8
  · refine ax_aload_n B dX0_forgive_15 rfl hl 0 rfl ?_
    refine ax_iconst B dX0_forgive_16 ?_
    refine ax_ivV (y := yX0_remember) (n := 1) (As := [.int (Int32.ofInt 2)]) B kd0 (lw_V q1362 q1364 qs26 q125 q1365) (by decide +kernel) ⟨Nat.le_of_ble_eq_true rfl, Nat.le_of_ble_eq_true rfl⟩ (fun w1 e1 => mt_X0_remember l G hSF x0 2 _ w1 e1) rfl hl.size (by decide) dX0_forgive_17 e (fun h3 e => ?_)
    refine ax_aload_n B dX0_forgive_20 rfl hl 0 rfl ?_
    refine ax_ivR (y := yX0_books) (n := 0) (As := []) B kd0 (lw_V q443 q445 qs2 q125 q446) (by decide +kernel) ⟨Nat.le_of_ble_eq_true rfl, Nat.le_of_ble_eq_true rfl⟩ (fun w1 e1 => mt_X0_books l G hSF x0 _ w1 e1) rfl hl.size (by decide) dX0_forgive_21 e (fun q4 e => ?_)
    refine ax_getR B ff_X0_171_2 (fun _ _ => rfl) dX0_forgive_24 e (fun v5 e => ?_)
    refine ax_iload_n B dX0_forgive_27 rfl hl 1 rfl ?_
    refine ax_iald B kd100 dX0_forgive_28 e (fun v6 e => ?_)
    refine ax_istore_n (L' := [(2, .inl v6), (0, .inr (.inr x0)), (1, .inl x1)]) B dX0_forgive_29 rfl hl (by decide) rfl (fun ls hl => ?_)
    refine ax_aload_n B dX0_forgive_30 rfl hl 1 rfl ?_
    refine ax_ivR (y := yX0_books) (n := 0) (As := []) B kd0 (lw_V q443 q445 qs2 q125 q446) (by decide +kernel) ⟨Nat.le_of_ble_eq_true rfl, Nat.le_of_ble_eq_true rfl⟩ (fun w1 e1 => mt_X0_books l G hSF x0 _ w1 e1) rfl hl.size (by decide) dX0_forgive_31 e (fun q7 e => ?_)
    refine ax_iload_n B dX0_forgive_34 rfl hl 2 rfl ?_
    refine ax_ivV (y := yX2_drop) (n := 1) (As := [.int (Int32.ofInt x1)]) B kd2 (lw_V q1433 q1426 q1427 q130 q1428) (by decide +kernel) ⟨Nat.le_of_ble_eq_true rfl, Nat.le_of_ble_eq_true rfl⟩ (fun w1 e1 => mt_X2_drop l G hSF q7.1 x1 _ w1 e1) rfl hl.size (by decide) dX0_forgive_35 e (fun h8 e => ?_)
    refine ax_aload_n B dX0_forgive_38 rfl hl 1 rfl ?_
    refine ax_iload_n B dX0_forgive_39 rfl hl 0 rfl ?_
    refine ax_ivI (y := yX0_tell) (n := 1) (As := [.int (Int32.ofInt v6)]) B kd0 (lw_V q436 q438 qs1 q125 q439) (by decide +kernel) ⟨Nat.le_of_ble_eq_true rfl, Nat.le_of_ble_eq_true rfl⟩ (fun w1 e1 => mt_X0_tell l G hSF x0 v6 _ w1 e1) rfl hl.size (by decide) dX0_forgive_40 e (fun q9 e => ?_)
    have e8 := e
    have hp : Q = _ := hp
    subst hp
    exact ax_ireturn B Z dX0_forgive_43 e8
theorem mt_X0_forgive (l : Launch) (G : ax_G) (hSF : ax_SF G) (x0 : Option Nat) (x1 : Int) (h : ax_H) (w : Int × ax_H) (e : f_X0_forgive G.2.2 x0 x1 h = some w) : ax_Met l G yX0_forgive cX0_forgive 3 ((some FieldType.int)) 9 213 [va_rf x0, .int (Int32.ofInt x1)] h w.2 (some (.int (Int32.ofInt w.1))) :=
  ax_enter [.inr (.inr x0), .inl x1] (y := yX0_forgive) hSF (plainFor_of_name (by decide +kernel)) (Nat.le_of_ble_eq_true rfl) (fun X ls B Z hn hl => we_X0_forgive hSF B Z hn x0 x1 hl e rfl)
def dkwX0_sell_4 : List UInt8 := [21, 4, 29, 182, 1, 54, 42, 182, 0, 104, 180, 0, 168, 27, 28, 79, 42, 29, 182, 0, 94, 172]
abbrev dktX0_sell_4 : List UInt8 := dkwX0_sell_4 ++ []
def dkwX0_sell_3 : List UInt8 := [182, 1, 43, 154, 0, 10, 42, 16, 253, 182, 0, 94, 172, 42, 6, 182, 1, 47, 42, 182, 0, 104, 28]
abbrev dktX0_sell_3 : List UInt8 := dkwX0_sell_3 ++ dktX0_sell_4
def dkwX0_sell_2 : List UInt8 := [180, 0, 165, 27, 46, 28, 159, 0, 23, 21, 4, 28, 159, 0, 17, 42, 182, 0, 104, 28, 21, 4, 29]
abbrev dktX0_sell_2 : List UInt8 := dkwX0_sell_2 ++ dktX0_sell_3
def dkwX0_sell_1 : List UInt8 := [42, 182, 0, 104, 27, 182, 0, 177, 62, 42, 182, 0, 104, 180, 0, 168, 27, 46, 54, 4, 42, 182, 0, 104]
abbrev dktX0_sell_1 : List UInt8 := dkwX0_sell_1 ++ dktX0_sell_2
def dkwX0_sell_0 : List UInt8 := [42, 27, 182, 0, 162, 153, 0, 11, 42, 28, 182, 0, 110, 154, 0, 10, 42, 16, 254, 182, 0, 94, 172, 42]
abbrev dktX0_sell_0 : List UInt8 := dkwX0_sell_0 ++ dktX0_sell_1
theorem dksX0_sell_0 : cX0_sell.data.toList.drop 0 = dktX0_sell_0 := by decide +kernel
theorem dksX0_sell_1 : cX0_sell.data.toList.drop 24 = dktX0_sell_1 := dk_seg dksX0_sell_0 24 rfl rfl
theorem dksX0_sell_2 : cX0_sell.data.toList.drop 48 = dktX0_sell_2 := dk_seg dksX0_sell_1 24 rfl rfl
theorem dksX0_sell_3 : cX0_sell.data.toList.drop 71 = dktX0_sell_3 := dk_seg dksX0_sell_2 23 rfl rfl
theorem dksX0_sell_4 : cX0_sell.data.toList.drop 94 = dktX0_sell_4 := dk_seg dksX0_sell_3 23 rfl rfl
theorem dX0_sell_0 : decode cX0_sell 0 = .ok (.aload_n 0, 1) := dk_42 (dk_at dksX0_sell_0 0 rfl rfl)
theorem dX0_sell_1 : decode cX0_sell 1 = .ok (.iload_n 1, 1) := dk_27 (dk_at dksX0_sell_0 1 rfl rfl)
theorem dX0_sell_2 : decode cX0_sell 2 = .ok (.invokevirtual 162, 3) := dk_182 0 162 (dk_at dksX0_sell_0 2 rfl rfl)
theorem dX0_sell_5 : decode cX0_sell 5 = .ok (.ifCond .eq 11, 3) := dk_153 0 11 (dk_at dksX0_sell_0 5 rfl rfl)
theorem dX0_sell_8 : decode cX0_sell 8 = .ok (.aload_n 0, 1) := dk_42 (dk_at dksX0_sell_0 8 rfl rfl)
theorem dX0_sell_9 : decode cX0_sell 9 = .ok (.iload_n 2, 1) := dk_28 (dk_at dksX0_sell_0 9 rfl rfl)
theorem dX0_sell_10 : decode cX0_sell 10 = .ok (.invokevirtual 110, 3) := dk_182 0 110 (dk_at dksX0_sell_0 10 rfl rfl)
theorem dX0_sell_13 : decode cX0_sell 13 = .ok (.ifCond .ne 10, 3) := dk_154 0 10 (dk_at dksX0_sell_0 13 rfl rfl)
theorem dX0_sell_16 : decode cX0_sell 16 = .ok (.aload_n 0, 1) := dk_42 (dk_at dksX0_sell_0 16 rfl rfl)
theorem dX0_sell_17 : decode cX0_sell 17 = .ok (.bipush (-2), 2) := dk_16 254 (dk_at dksX0_sell_0 17 rfl rfl)
theorem dX0_sell_19 : decode cX0_sell 19 = .ok (.invokevirtual 94, 3) := dk_182 0 94 (dk_at dksX0_sell_0 19 rfl rfl)
theorem dX0_sell_22 : decode cX0_sell 22 = .ok (.ireturn, 1) := dk_172 (dk_at dksX0_sell_0 22 rfl rfl)
theorem dX0_sell_23 : decode cX0_sell 23 = .ok (.aload_n 0, 1) := dk_42 (dk_at dksX0_sell_0 23 rfl rfl)
theorem dX0_sell_24 : decode cX0_sell 24 = .ok (.aload_n 0, 1) := dk_42 (dk_at dksX0_sell_1 0 rfl rfl)
theorem dX0_sell_25 : decode cX0_sell 25 = .ok (.invokevirtual 104, 3) := dk_182 0 104 (dk_at dksX0_sell_1 1 rfl rfl)
theorem dX0_sell_28 : decode cX0_sell 28 = .ok (.iload_n 1, 1) := dk_27 (dk_at dksX0_sell_1 4 rfl rfl)
theorem dX0_sell_29 : decode cX0_sell 29 = .ok (.invokevirtual 177, 3) := dk_182 0 177 (dk_at dksX0_sell_1 5 rfl rfl)
theorem dX0_sell_32 : decode cX0_sell 32 = .ok (.istore_n 3, 1) := dk_62 (dk_at dksX0_sell_1 8 rfl rfl)
theorem dX0_sell_33 : decode cX0_sell 33 = .ok (.aload_n 0, 1) := dk_42 (dk_at dksX0_sell_1 9 rfl rfl)
theorem dX0_sell_34 : decode cX0_sell 34 = .ok (.invokevirtual 104, 3) := dk_182 0 104 (dk_at dksX0_sell_1 10 rfl rfl)
theorem dX0_sell_37 : decode cX0_sell 37 = .ok (.getfield 168, 3) := dk_180 0 168 (dk_at dksX0_sell_1 13 rfl rfl)
theorem dX0_sell_40 : decode cX0_sell 40 = .ok (.iload_n 1, 1) := dk_27 (dk_at dksX0_sell_1 16 rfl rfl)
theorem dX0_sell_41 : decode cX0_sell 41 = .ok (.iaload, 1) := dk_46 (dk_at dksX0_sell_1 17 rfl rfl)
theorem dX0_sell_42 : decode cX0_sell 42 = .ok (.istore 4, 2) := dk_54 4 (dk_at dksX0_sell_1 18 rfl rfl)
theorem dX0_sell_44 : decode cX0_sell 44 = .ok (.aload_n 0, 1) := dk_42 (dk_at dksX0_sell_1 20 rfl rfl)
theorem dX0_sell_45 : decode cX0_sell 45 = .ok (.invokevirtual 104, 3) := dk_182 0 104 (dk_at dksX0_sell_1 21 rfl rfl)
theorem dX0_sell_48 : decode cX0_sell 48 = .ok (.getfield 165, 3) := dk_180 0 165 (dk_at dksX0_sell_2 0 rfl rfl)
theorem dX0_sell_51 : decode cX0_sell 51 = .ok (.iload_n 1, 1) := dk_27 (dk_at dksX0_sell_2 3 rfl rfl)
theorem dX0_sell_52 : decode cX0_sell 52 = .ok (.iaload, 1) := dk_46 (dk_at dksX0_sell_2 4 rfl rfl)
theorem dX0_sell_53 : decode cX0_sell 53 = .ok (.iload_n 2, 1) := dk_28 (dk_at dksX0_sell_2 5 rfl rfl)
theorem dX0_sell_54 : decode cX0_sell 54 = .ok (.if_icmp .eq 23, 3) := dk_159 0 23 (dk_at dksX0_sell_2 6 rfl rfl)
theorem dX0_sell_57 : decode cX0_sell 57 = .ok (.iload 4, 2) := dk_21 4 (dk_at dksX0_sell_2 9 rfl rfl)
theorem dX0_sell_59 : decode cX0_sell 59 = .ok (.iload_n 2, 1) := dk_28 (dk_at dksX0_sell_2 11 rfl rfl)
theorem dX0_sell_60 : decode cX0_sell 60 = .ok (.if_icmp .eq 17, 3) := dk_159 0 17 (dk_at dksX0_sell_2 12 rfl rfl)
theorem dX0_sell_63 : decode cX0_sell 63 = .ok (.aload_n 0, 1) := dk_42 (dk_at dksX0_sell_2 15 rfl rfl)
theorem dX0_sell_64 : decode cX0_sell 64 = .ok (.invokevirtual 104, 3) := dk_182 0 104 (dk_at dksX0_sell_2 16 rfl rfl)
theorem dX0_sell_67 : decode cX0_sell 67 = .ok (.iload_n 2, 1) := dk_28 (dk_at dksX0_sell_2 19 rfl rfl)
theorem dX0_sell_68 : decode cX0_sell 68 = .ok (.iload 4, 2) := dk_21 4 (dk_at dksX0_sell_2 20 rfl rfl)
theorem dX0_sell_70 : decode cX0_sell 70 = .ok (.iload_n 3, 1) := dk_29 (dk_at dksX0_sell_2 22 rfl rfl)
theorem dX0_sell_71 : decode cX0_sell 71 = .ok (.invokevirtual 299, 3) := dk_182 1 43 (dk_at dksX0_sell_3 0 rfl rfl)
theorem dX0_sell_74 : decode cX0_sell 74 = .ok (.ifCond .ne 10, 3) := dk_154 0 10 (dk_at dksX0_sell_3 3 rfl rfl)
theorem dX0_sell_77 : decode cX0_sell 77 = .ok (.aload_n 0, 1) := dk_42 (dk_at dksX0_sell_3 6 rfl rfl)
theorem dX0_sell_78 : decode cX0_sell 78 = .ok (.bipush (-3), 2) := dk_16 253 (dk_at dksX0_sell_3 7 rfl rfl)
theorem dX0_sell_80 : decode cX0_sell 80 = .ok (.invokevirtual 94, 3) := dk_182 0 94 (dk_at dksX0_sell_3 9 rfl rfl)
theorem dX0_sell_83 : decode cX0_sell 83 = .ok (.ireturn, 1) := dk_172 (dk_at dksX0_sell_3 12 rfl rfl)
theorem dX0_sell_84 : decode cX0_sell 84 = .ok (.aload_n 0, 1) := dk_42 (dk_at dksX0_sell_3 13 rfl rfl)
theorem dX0_sell_85 : decode cX0_sell 85 = .ok (.iconst 3, 1) := dk_6 (dk_at dksX0_sell_3 14 rfl rfl)
theorem dX0_sell_86 : decode cX0_sell 86 = .ok (.invokevirtual 303, 3) := dk_182 1 47 (dk_at dksX0_sell_3 15 rfl rfl)
theorem dX0_sell_89 : decode cX0_sell 89 = .ok (.aload_n 0, 1) := dk_42 (dk_at dksX0_sell_3 18 rfl rfl)
theorem dX0_sell_90 : decode cX0_sell 90 = .ok (.invokevirtual 104, 3) := dk_182 0 104 (dk_at dksX0_sell_3 19 rfl rfl)
theorem dX0_sell_93 : decode cX0_sell 93 = .ok (.iload_n 2, 1) := dk_28 (dk_at dksX0_sell_3 22 rfl rfl)
theorem dX0_sell_94 : decode cX0_sell 94 = .ok (.iload 4, 2) := dk_21 4 (dk_at dksX0_sell_4 0 rfl rfl)
theorem dX0_sell_96 : decode cX0_sell 96 = .ok (.iload_n 3, 1) := dk_29 (dk_at dksX0_sell_4 2 rfl rfl)
theorem dX0_sell_97 : decode cX0_sell 97 = .ok (.invokevirtual 310, 3) := dk_182 1 54 (dk_at dksX0_sell_4 3 rfl rfl)
theorem dX0_sell_100 : decode cX0_sell 100 = .ok (.aload_n 0, 1) := dk_42 (dk_at dksX0_sell_4 6 rfl rfl)
theorem dX0_sell_101 : decode cX0_sell 101 = .ok (.invokevirtual 104, 3) := dk_182 0 104 (dk_at dksX0_sell_4 7 rfl rfl)
theorem dX0_sell_104 : decode cX0_sell 104 = .ok (.getfield 168, 3) := dk_180 0 168 (dk_at dksX0_sell_4 10 rfl rfl)
theorem dX0_sell_107 : decode cX0_sell 107 = .ok (.iload_n 1, 1) := dk_27 (dk_at dksX0_sell_4 13 rfl rfl)
theorem dX0_sell_108 : decode cX0_sell 108 = .ok (.iload_n 2, 1) := dk_28 (dk_at dksX0_sell_4 14 rfl rfl)
theorem dX0_sell_109 : decode cX0_sell 109 = .ok (.iastore, 1) := dk_79 (dk_at dksX0_sell_4 15 rfl rfl)
theorem dX0_sell_110 : decode cX0_sell 110 = .ok (.aload_n 0, 1) := dk_42 (dk_at dksX0_sell_4 16 rfl rfl)
theorem dX0_sell_111 : decode cX0_sell 111 = .ok (.iload_n 3, 1) := dk_29 (dk_at dksX0_sell_4 17 rfl rfl)
theorem dX0_sell_112 : decode cX0_sell 112 = .ok (.invokevirtual 94, 3) := dk_182 0 94 (dk_at dksX0_sell_4 18 rfl rfl)
theorem dX0_sell_115 : decode cX0_sell 115 = .ok (.ireturn, 1) := dk_172 (dk_at dksX0_sell_4 21 rfl rfl)
noncomputable def f_X0_sell_16 (E : ax_E) (x0 : Option Nat) (h : ax_H) : Option (Int × ax_H) :=
  (ax_ce E h x0 0).bind fun _ => (f_X0_tell E x0 (-2) h).bind fun q1 =>
  some (q1.1, q1.2)
noncomputable def f_X0_sell_77 (E : ax_E) (x0 : Option Nat) (h : ax_H) : Option (Int × ax_H) :=
  (ax_ce E h x0 0).bind fun _ => (f_X0_tell E x0 (-3) h).bind fun q1 =>
  some (q1.1, q1.2)
noncomputable def f_X0_sell (E : ax_E) (x0 : Option Nat) (x1 : Int) (x2 : Int) (h : ax_H) : Option (Int × ax_H) :=
  (ax_ce E h x0 0).bind fun _ => (f_X0_isDebt E x0 x1 h).bind fun q1 =>
  if i2 q1.1 = 0 then
    f_X0_sell_16 E x0 q1.2
  else
    (ax_ce E q1.2 x0 0).bind fun _ => (f_X0_isPerson E x0 x2 q1.2).bind fun q2 =>
    if i2 q2.1 = 0 then
      f_X0_sell_16 E x0 q2.2
    else
      (ax_ce E q2.2 x0 0).bind fun _ => (f_X0_books E x0 q2.2).bind fun q3 =>
      (ax_ce E q3.2 x0 0).bind fun _ => (f_X0_soldFor E x0 q3.1 x1 q3.2).bind fun q4 =>
      (ax_ce E q4.2 x0 0).bind fun _ => (f_X0_books E x0 q4.2).bind fun q5 =>
      (ax_gR E q5.2 q5.1 2 2).bind fun v6 =>
      (ax_ld E q5.2 v6 100 x1).bind fun v7 =>
      (ax_ce E q5.2 x0 0).bind fun _ => (f_X0_books E x0 q5.2).bind fun q8 =>
      (ax_gR E q8.2 q8.1 2 1).bind fun v9 =>
      (ax_ld E q8.2 v9 100 x1).bind fun v10 =>
      if i2 v10 = i2 x2 then
        f_X0_sell_77 E x0 q8.2
      else
        if i2 v7 = i2 x2 then
          f_X0_sell_77 E x0 q8.2
        else
          (ax_ce E q8.2 x0 0).bind fun _ => (f_X0_books E x0 q8.2).bind fun q11 =>
          (ax_ce E q11.2 q11.1 2).bind fun _ => (f_X2_canPay E q11.1 x2 v7 q4.1 q11.2).bind fun q12 =>
          if i2 q12.1 = 0 then
            f_X0_sell_77 E x0 q12.2
          else
            (ax_ce E q12.2 x0 0).bind fun _ => (f_X0_remember E x0 3 q12.2).bind fun h13 =>
            (ax_ce E h13 x0 0).bind fun _ => (f_X0_books E x0 h13).bind fun q14 =>
            (ax_ce E q14.2 q14.1 2).bind fun _ => (f_X2_pay E q14.1 x2 v7 q4.1 q14.2).bind fun h15 =>
            (ax_ce E h15 x0 0).bind fun _ => (f_X0_books E x0 h15).bind fun q16 =>
            (ax_gR E q16.2 q16.1 2 2).bind fun v17 =>
            (ax_sto q16.2 v17 100 x1 x2).bind fun h18 =>
            (ax_ce E h18 x0 0).bind fun _ => (f_X0_tell E x0 q4.1 h18).bind fun q19 =>
            some (q19.1, q19.2)
set_option maxHeartbeats 4000000 in
theorem w_X0_sell_16 {l : Launch} {G : ax_G} {X : ax_X} {Q : State → Prop} {h0 h : ax_H} {ls : Array Slot} (hSF : ax_SF G) (B : ax_BL l G X cX0_sell 5 RX0 140 3567) (Z : ax_Z X h0 ((some FieldType.int))) (hn : X.2.2.2.2.2.2.2.2.1.name = yX0_sell.name) (x0 : Option Nat) {w : Int × ax_H} (hl : ax_hl ls 5 [(0, .inr (.inr x0))]) (e : f_X0_sell_16 G.2.2 x0 h = some w) (hp : (fun w : Int × ax_H => Q = ax_Q G X h0 w.2 (some (.int (Int32.ofInt w.1)))) w) : ax_W G X Q h 16 ls [] := by
  unfold f_X0_sell_16 at e
  refine ax_aload_n B dX0_sell_16 rfl hl 0 rfl ?_
  refine ax_bipush B dX0_sell_17 (by decide) ?_
  refine ax_ivI (y := yX0_tell) (n := 1) (As := [.int (Int32.ofInt (-2))]) B kd0 (lw_V q436 q438 qs1 q125 q439) (by decide +kernel) ⟨Nat.le_of_ble_eq_true rfl, Nat.le_of_ble_eq_true rfl⟩ (fun w1 e1 => mt_X0_tell l G hSF x0 (-2) _ w1 e1) rfl hl.size (by decide) dX0_sell_19 e (fun q1 e => ?_)
  have e8 := e
  have hp : Q = _ := hp
  subst hp
  exact ax_ireturn B Z dX0_sell_22 e8
set_option maxHeartbeats 4000000 in
theorem w_X0_sell_77 {l : Launch} {G : ax_G} {X : ax_X} {Q : State → Prop} {h0 h : ax_H} {ls : Array Slot} (hSF : ax_SF G) (B : ax_BL l G X cX0_sell 5 RX0 140 3567) (Z : ax_Z X h0 ((some FieldType.int))) (hn : X.2.2.2.2.2.2.2.2.1.name = yX0_sell.name) (x0 : Option Nat) {w : Int × ax_H} (hl : ax_hl ls 5 [(0, .inr (.inr x0))]) (e : f_X0_sell_77 G.2.2 x0 h = some w) (hp : (fun w : Int × ax_H => Q = ax_Q G X h0 w.2 (some (.int (Int32.ofInt w.1)))) w) : ax_W G X Q h 77 ls [] := by
  unfold f_X0_sell_77 at e
  refine ax_aload_n B dX0_sell_77 rfl hl 0 rfl ?_
  refine ax_bipush B dX0_sell_78 (by decide) ?_
  refine ax_ivI (y := yX0_tell) (n := 1) (As := [.int (Int32.ofInt (-3))]) B kd0 (lw_V q436 q438 qs1 q125 q439) (by decide +kernel) ⟨Nat.le_of_ble_eq_true rfl, Nat.le_of_ble_eq_true rfl⟩ (fun w1 e1 => mt_X0_tell l G hSF x0 (-3) _ w1 e1) rfl hl.size (by decide) dX0_sell_80 e (fun q1 e => ?_)
  have e8 := e
  have hp : Q = _ := hp
  subst hp
  exact ax_ireturn B Z dX0_sell_83 e8
set_option maxHeartbeats 4000000 in
theorem we_X0_sell {l : Launch} {G : ax_G} {X : ax_X} {Q : State → Prop} {h0 h : ax_H} {ls : Array Slot} (hSF : ax_SF G) (B : ax_BL l G X cX0_sell 5 RX0 140 3567) (Z : ax_Z X h0 ((some FieldType.int))) (hn : X.2.2.2.2.2.2.2.2.1.name = yX0_sell.name) (x0 : Option Nat) (x1 : Int) (x2 : Int) {w : Int × ax_H} (hl : ax_hl ls 5 [(0, .inr (.inr x0)), (1, .inl x1), (2, .inl x2)]) (e : f_X0_sell G.2.2 x0 x1 x2 h = some w) (hp : (fun w : Int × ax_H => Q = ax_Q G X h0 w.2 (some (.int (Int32.ofInt w.1)))) w) : ax_W G X Q h 0 ls [] := by
  unfold f_X0_sell at e
  refine ax_aload_n B dX0_sell_0 rfl hl 0 rfl ?_
  refine ax_iload_n B dX0_sell_1 rfl hl 1 rfl ?_
  refine ax_ivI (y := yX0_isDebt) (n := 1) (As := [.int (Int32.ofInt x1)]) B kd0 (lw_V q495 q497 qs8 q125 q498) (by decide +kernel) ⟨Nat.le_of_ble_eq_true rfl, Nat.le_of_ble_eq_true rfl⟩ (fun w1 e1 => mt_X0_isDebt l G hSF x0 x1 _ w1 e1) rfl hl.size (by decide) dX0_sell_2 e (fun q1 e => ?_)
  refine ax_if_eq (tgt := 16) B dX0_sell_5 (by decide) e (fun e => ?_) (fun e => ?_)
  · exact w_X0_sell_16 hSF B Z hn x0 (hl.sub [0] rfl) e hp
  · refine ax_aload_n B dX0_sell_8 rfl hl 0 rfl ?_
    refine ax_iload_n B dX0_sell_9 rfl hl 2 rfl ?_
    refine ax_ivI (y := yX0_isPerson) (n := 1) (As := [.int (Int32.ofInt x2)]) B kd0 (lw_V q459 q461 qs4 q125 q462) (by decide +kernel) ⟨Nat.le_of_ble_eq_true rfl, Nat.le_of_ble_eq_true rfl⟩ (fun w1 e1 => mt_X0_isPerson l G hSF x0 x2 _ w1 e1) rfl hl.size (by decide) dX0_sell_10 e (fun q2 e => ?_)
    refine ax_if_ne (tgt := 23) B dX0_sell_13 (by decide) e (fun e => ?_) (fun e => ?_)
    · exact w_X0_sell_16 hSF B Z hn x0 (hl.sub [0] rfl) e hp
    · refine ax_aload_n B dX0_sell_23 rfl hl 0 rfl ?_
      refine ax_aload_n B dX0_sell_24 rfl hl 0 rfl ?_
      refine ax_ivR (y := yX0_books) (n := 0) (As := []) B kd0 (lw_V q443 q445 qs2 q125 q446) (by decide +kernel) ⟨Nat.le_of_ble_eq_true rfl, Nat.le_of_ble_eq_true rfl⟩ (fun w1 e1 => mt_X0_books l G hSF x0 _ w1 e1) rfl hl.size (by simp only [List.map_cons, List.map_nil, List.sum_cons, List.sum_nil, va_rf_cat, ax_catI, ax_catL]; decide) dX0_sell_25 e (fun q3 e => ?_)
      refine ax_iload_n B dX0_sell_28 rfl hl 1 rfl ?_
      refine ax_ivI (y := yX0_soldFor) (n := 2) (As := [va_rf q3.1, .int (Int32.ofInt x1)]) B kd0 (lw_V q499 q501 qs9 q125 q502) (by decide +kernel) ⟨Nat.le_of_ble_eq_true rfl, Nat.le_of_ble_eq_true rfl⟩ (fun w1 e1 => mt_X0_soldFor l G hSF x0 q3.1 x1 _ w1 e1) rfl hl.size (by decide) dX0_sell_29 e (fun q4 e => ?_)
      refine ax_istore_n (L' := [(3, .inl q4.1), (0, .inr (.inr x0)), (1, .inl x1), (2, .inl x2)]) B dX0_sell_32 rfl hl (by decide) rfl (fun ls hl => ?_)
      refine ax_aload_n B dX0_sell_33 rfl hl 1 rfl ?_
      refine ax_ivR (y := yX0_books) (n := 0) (As := []) B kd0 (lw_V q443 q445 qs2 q125 q446) (by decide +kernel) ⟨Nat.le_of_ble_eq_true rfl, Nat.le_of_ble_eq_true rfl⟩ (fun w1 e1 => mt_X0_books l G hSF x0 _ w1 e1) rfl hl.size (by decide) dX0_sell_34 e (fun q5 e => ?_)
      refine ax_getR B ff_X0_168_2 (fun _ _ => rfl) dX0_sell_37 e (fun v6 e => ?_)
      refine ax_iload_n B dX0_sell_40 rfl hl 2 rfl ?_
      refine ax_iald B kd100 dX0_sell_41 e (fun v7 e => ?_)
      refine ax_istore (L' := [(4, .inl v7), (3, .inl q4.1), (0, .inr (.inr x0)), (1, .inl x1), (2, .inl x2)]) B dX0_sell_42 hl (by decide) rfl (fun ls hl => ?_)
      refine ax_aload_n B dX0_sell_44 rfl hl 2 rfl ?_
      refine ax_ivR (y := yX0_books) (n := 0) (As := []) B kd0 (lw_V q443 q445 qs2 q125 q446) (by decide +kernel) ⟨Nat.le_of_ble_eq_true rfl, Nat.le_of_ble_eq_true rfl⟩ (fun w1 e1 => mt_X0_books l G hSF x0 _ w1 e1) rfl hl.size (by decide) dX0_sell_45 e (fun q8 e => ?_)
      refine ax_getR B ff_X0_165_2 (fun _ _ => rfl) dX0_sell_48 e (fun v9 e => ?_)
      refine ax_iload_n B dX0_sell_51 rfl hl 3 rfl ?_
      refine ax_iald B kd100 dX0_sell_52 e (fun v10 e => ?_)
      refine ax_iload_n B dX0_sell_53 rfl hl 4 rfl ?_
      refine ax_icmp_eq (tgt := 77) B dX0_sell_54 (by decide) e (fun e => ?_) (fun e => ?_)
      · exact w_X0_sell_77 hSF B Z hn x0 (hl.sub [2] rfl) e hp
      · refine ax_iload B dX0_sell_57 hl 0 rfl ?_
        refine ax_iload_n B dX0_sell_59 rfl hl 4 rfl ?_
        refine ax_icmp_eq (tgt := 77) B dX0_sell_60 (by decide) e (fun e => ?_) (fun e => ?_)
        · exact w_X0_sell_77 hSF B Z hn x0 (hl.sub [2] rfl) e hp
        · refine ax_aload_n B dX0_sell_63 rfl hl 2 rfl ?_
          refine ax_ivR (y := yX0_books) (n := 0) (As := []) B kd0 (lw_V q443 q445 qs2 q125 q446) (by decide +kernel) ⟨Nat.le_of_ble_eq_true rfl, Nat.le_of_ble_eq_true rfl⟩ (fun w1 e1 => mt_X0_books l G hSF x0 _ w1 e1) rfl hl.size (by decide) dX0_sell_64 e (fun q11 e => ?_)
          refine ax_iload_n B dX0_sell_67 rfl hl 4 rfl ?_
          refine ax_iload B dX0_sell_68 hl 0 rfl ?_
          refine ax_iload_n B dX0_sell_70 rfl hl 1 rfl ?_
          refine ax_ivI (y := yX2_canPay) (n := 3) (As := [.int (Int32.ofInt x2), .int (Int32.ofInt v7), .int (Int32.ofInt q4.1)]) B kd2 (lw_V q1358 q1359 q1360 q130 q1361) (by decide +kernel) ⟨Nat.le_of_ble_eq_true rfl, Nat.le_of_ble_eq_true rfl⟩ (fun w1 e1 => mt_X2_canPay l G hSF q11.1 x2 v7 q4.1 _ w1 e1) rfl hl.size (by decide) dX0_sell_71 e (fun q12 e => ?_)
          refine ax_if_ne (tgt := 84) B dX0_sell_74 (by decide) e (fun e => ?_) (fun e => ?_)
          · exact w_X0_sell_77 hSF B Z hn x0 (hl.sub [2] rfl) e hp
          · refine ax_aload_n B dX0_sell_84 rfl hl 2 rfl ?_
            refine ax_iconst B dX0_sell_85 ?_
            refine ax_ivV (y := yX0_remember) (n := 1) (As := [.int (Int32.ofInt 3)]) B kd0 (lw_V q1362 q1364 qs26 q125 q1365) (by decide +kernel) ⟨Nat.le_of_ble_eq_true rfl, Nat.le_of_ble_eq_true rfl⟩ (fun w1 e1 => mt_X0_remember l G hSF x0 3 _ w1 e1) rfl hl.size (by decide) dX0_sell_86 e (fun h13 e => ?_)
            refine ax_aload_n B dX0_sell_89 rfl hl 2 rfl ?_
            refine ax_ivR (y := yX0_books) (n := 0) (As := []) B kd0 (lw_V q443 q445 qs2 q125 q446) (by decide +kernel) ⟨Nat.le_of_ble_eq_true rfl, Nat.le_of_ble_eq_true rfl⟩ (fun w1 e1 => mt_X0_books l G hSF x0 _ w1 e1) rfl hl.size (by decide) dX0_sell_90 e (fun q14 e => ?_)
            refine ax_iload_n B dX0_sell_93 rfl hl 4 rfl ?_
            refine ax_iload B dX0_sell_94 hl 0 rfl ?_
            refine ax_iload_n B dX0_sell_96 rfl hl 1 rfl ?_
            refine ax_ivV (y := yX2_pay) (n := 3) (As := [.int (Int32.ofInt x2), .int (Int32.ofInt v7), .int (Int32.ofInt q4.1)]) B kd2 (lw_V q1402 q1403 q1404 q130 q1405) (by decide +kernel) ⟨Nat.le_of_ble_eq_true rfl, Nat.le_of_ble_eq_true rfl⟩ (fun w1 e1 => mt_X2_pay l G hSF q14.1 x2 v7 q4.1 _ w1 e1) rfl hl.size (by decide) dX0_sell_97 e (fun h15 e => ?_)
            refine ax_aload_n B dX0_sell_100 rfl hl 2 rfl ?_
            refine ax_ivR (y := yX0_books) (n := 0) (As := []) B kd0 (lw_V q443 q445 qs2 q125 q446) (by decide +kernel) ⟨Nat.le_of_ble_eq_true rfl, Nat.le_of_ble_eq_true rfl⟩ (fun w1 e1 => mt_X0_books l G hSF x0 _ w1 e1) rfl hl.size (by decide) dX0_sell_101 e (fun q16 e => ?_)
            refine ax_getR B ff_X0_168_2 (fun _ _ => rfl) dX0_sell_104 e (fun v17 e => ?_)
            refine ax_iload_n B dX0_sell_107 rfl hl 3 rfl ?_
            refine ax_iload_n B dX0_sell_108 rfl hl 4 rfl ?_
            refine ax_iast B kd100 dX0_sell_109 e (fun h18 e => ?_)
            refine ax_aload_n B dX0_sell_110 rfl hl 2 rfl ?_
            refine ax_iload_n B dX0_sell_111 rfl hl 1 rfl ?_
            refine ax_ivI (y := yX0_tell) (n := 1) (As := [.int (Int32.ofInt q4.1)]) B kd0 (lw_V q436 q438 qs1 q125 q439) (by decide +kernel) ⟨Nat.le_of_ble_eq_true rfl, Nat.le_of_ble_eq_true rfl⟩ (fun w1 e1 => mt_X0_tell l G hSF x0 q4.1 _ w1 e1) rfl hl.size (by decide) dX0_sell_112 e (fun q19 e => ?_)
            have e8 := e
            have hp : Q = _ := hp
            subst hp
            exact ax_ireturn B Z dX0_sell_115 e8
theorem mt_X0_sell (l : Launch) (G : ax_G) (hSF : ax_SF G) (x0 : Option Nat) (x1 : Int) (x2 : Int) (h : ax_H) (w : Int × ax_H) (e : f_X0_sell G.2.2 x0 x1 x2 h = some w) : ax_Met l G yX0_sell cX0_sell 5 ((some FieldType.int)) 140 3567 [va_rf x0, .int (Int32.ofInt x1), .int (Int32.ofInt x2)] h w.2 (some (.int (Int32.ofInt w.1))) :=
  ax_enter [.inr (.inr x0), .inl x1, .inl x2] (y := yX0_sell) hSF (plainFor_of_name (by decide +kernel)) (Nat.le_of_ble_eq_true rfl) (fun X ls B Z hn hl => we_X0_sell hSF B Z hn x0 x1 x2 hl e rfl)
