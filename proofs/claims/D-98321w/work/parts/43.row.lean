set_option maxRecDepth 100000
theorem mx_X0_byteAt (l : Launch) (G : ax_G) (hSF : ax_SF G) (hlt : l.stackTraces = false) (x0 : Option Nat) (x1 : Int) (h : ax_H) (w : (Nat × ax_H) ⊕ (Int × ax_H)) (e : fx_X0_byteAt G.2.2 x0 x1 h = some w) : ax_MetX l G ay_X yX0_byteAt cX0_byteAt 2 (some .int) 8 10290 [va_rf x0, .int (Int32.ofInt x1)] h (ax_zI w) :=
  ax_enterX [.inr (.inr x0), .inl x1] (y := yX0_byteAt) hSF (plainFor_of_name (by decide +kernel)) (Nat.le_of_ble_eq_true rfl) (fun X ls B Z hn hT hl => by
    unfold fx_X0_byteAt at e
    refine ax_aload_n B dX0_byteAt_0 rfl hl 0 rfl ?_
    refine ax_iload_n B dX0_byteAt_1 rfl hl 1 rfl ?_
    refine ax_baldX B hlt hl.size (by decide) (by decide) dX0_byteAt_2 e (fun x e => ?_) (fun v e => ?_)
    · cases e
      exact ax_outX B Z (fun z hz => (hT z hz).elim)
    · refine ax_sipush B dX0_byteAt_3 (by decide) ?_
      refine ax_iand' B dX0_byteAt_6 ?_
      cases e
      exact ax_retX (ax_ireturn B Z dX0_byteAt_7 rfl))
def dkwX0_row_13 : List UInt8 := [167, 0, 4, 4, 96, 181, 0, 206, 25, 6, 191, 132, 3, 4, 167, 254, 241, 42, 28, 182, 0, 139, 172]
abbrev dktX0_row_13 : List UInt8 := dkwX0_row_13 ++ []
def dkwX0_row_12 : List UInt8 := [28, 21, 7, 153, 0, 7, 4, 167, 0, 4, 3, 96, 61, 42, 89, 180, 0, 206, 21, 7, 153, 0, 7, 3]
abbrev dktX0_row_12 : List UInt8 := dkwX0_row_12 ++ dktX0_row_13
def dkwX0_row_11 : List UInt8 := [43, 29, 5, 96, 184, 0, 209, 104, 21, 4, 96, 182, 0, 158, 155, 0, 7, 4, 167, 0, 4, 3, 54, 7]
abbrev dktX0_row_11 : List UInt8 := dkwX0_row_11 ++ dktX0_row_12
def dkwX0_row_10 : List UInt8 := [58, 6, 21, 4, 2, 159, 0, 40, 42, 43, 29, 184, 0, 209, 43, 29, 4, 96, 184, 0, 209, 17, 1, 0]
abbrev dktX0_row_10 : List UInt8 := dkwX0_row_10 ++ dktX0_row_11
def dkwX0_row_9 : List UInt8 := [96, 61, 42, 89, 180, 0, 206, 21, 5, 153, 0, 7, 3, 167, 0, 4, 4, 96, 181, 0, 206, 167, 0, 86]
abbrev dktX0_row_9 : List UInt8 := dkwX0_row_9 ++ dktX0_row_10
def dkwX0_row_8 : List UInt8 := [182, 0, 158, 155, 0, 7, 4, 167, 0, 4, 3, 54, 5, 28, 21, 5, 153, 0, 7, 4, 167, 0, 4, 3]
abbrev dktX0_row_8 : List UInt8 := dkwX0_row_8 ++ dktX0_row_9
def dkwX0_row_7 : List UInt8 := [184, 0, 209, 43, 29, 4, 96, 184, 0, 209, 17, 1, 0, 43, 29, 5, 96, 184, 0, 209, 104, 21, 4, 96]
abbrev dktX0_row_7 : List UInt8 := dkwX0_row_7 ++ dktX0_row_8
def dkwX0_row_6 : List UInt8 := [4, 96, 181, 0, 206, 167, 0, 172, 58, 5, 2, 54, 4, 21, 4, 2, 159, 0, 40, 42, 43, 29]
abbrev dktX0_row_6 : List UInt8 := dkwX0_row_6 ++ dktX0_row_7
def dkwX0_row_5 : List UInt8 := [153, 0, 7, 4, 167, 0, 4, 3, 96, 61, 42, 89, 180, 0, 206, 21, 5, 153, 0, 7, 3, 167, 0, 4]
abbrev dktX0_row_5 : List UInt8 := dkwX0_row_5 ++ dktX0_row_6
def dkwX0_row_4 : List UInt8 := [184, 0, 209, 104, 21, 4, 96, 182, 0, 158, 155, 0, 7, 4, 167, 0, 4, 3, 54, 5, 28, 21, 5]
abbrev dktX0_row_4 : List UInt8 := dkwX0_row_4 ++ dktX0_row_5
def dkwX0_row_3 : List UInt8 := [159, 0, 40, 42, 43, 29, 184, 0, 209, 43, 29, 4, 96, 184, 0, 209, 17, 1, 0, 43, 29, 5, 96]
abbrev dktX0_row_3 : List UInt8 := dkwX0_row_3 ++ dktX0_row_4
def dkwX0_row_2 : List UInt8 := [61, 3, 62, 29, 43, 190, 162, 1, 15, 2, 54, 4, 43, 29, 6, 96, 184, 0, 209, 54, 4, 21, 4, 2]
abbrev dktX0_row_2 : List UInt8 := dkwX0_row_2 ++ dktX0_row_3
def dkwX0_row_1 : List UInt8 := [180, 0, 67, 3, 43, 3, 42, 180, 0, 114, 184, 0, 200, 42, 3, 181, 0, 114, 42, 3, 181, 0, 206, 3]
abbrev dktX0_row_1 : List UInt8 := dkwX0_row_1 ++ dktX0_row_2
def dkwX0_row_0 : List UInt8 := [42, 180, 0, 114, 154, 0, 10, 42, 16, 250, 182, 0, 94, 172, 42, 180, 0, 114, 188, 8, 76, 42]
abbrev dktX0_row_0 : List UInt8 := dkwX0_row_0 ++ dktX0_row_1
theorem dksX0_row_0 : cX0_row.data.toList.drop 0 = dktX0_row_0 := by decide +kernel
theorem dksX0_row_1 : cX0_row.data.toList.drop 22 = dktX0_row_1 := dk_seg dksX0_row_0 22 rfl rfl
theorem dksX0_row_2 : cX0_row.data.toList.drop 46 = dktX0_row_2 := dk_seg dksX0_row_1 24 rfl rfl
theorem dksX0_row_3 : cX0_row.data.toList.drop 70 = dktX0_row_3 := dk_seg dksX0_row_2 24 rfl rfl
theorem dksX0_row_4 : cX0_row.data.toList.drop 93 = dktX0_row_4 := dk_seg dksX0_row_3 23 rfl rfl
theorem dksX0_row_5 : cX0_row.data.toList.drop 116 = dktX0_row_5 := dk_seg dksX0_row_4 23 rfl rfl
theorem dksX0_row_6 : cX0_row.data.toList.drop 140 = dktX0_row_6 := dk_seg dksX0_row_5 24 rfl rfl
theorem dksX0_row_7 : cX0_row.data.toList.drop 162 = dktX0_row_7 := dk_seg dksX0_row_6 22 rfl rfl
theorem dksX0_row_8 : cX0_row.data.toList.drop 186 = dktX0_row_8 := dk_seg dksX0_row_7 24 rfl rfl
theorem dksX0_row_9 : cX0_row.data.toList.drop 210 = dktX0_row_9 := dk_seg dksX0_row_8 24 rfl rfl
theorem dksX0_row_10 : cX0_row.data.toList.drop 234 = dktX0_row_10 := dk_seg dksX0_row_9 24 rfl rfl
theorem dksX0_row_11 : cX0_row.data.toList.drop 258 = dktX0_row_11 := dk_seg dksX0_row_10 24 rfl rfl
theorem dksX0_row_12 : cX0_row.data.toList.drop 282 = dktX0_row_12 := dk_seg dksX0_row_11 24 rfl rfl
theorem dksX0_row_13 : cX0_row.data.toList.drop 306 = dktX0_row_13 := dk_seg dksX0_row_12 24 rfl rfl
theorem dX0_row_0 : decode cX0_row 0 = .ok (.aload_n 0, 1) := dk_42 (dk_at dksX0_row_0 0 rfl rfl)
theorem dX0_row_1 : decode cX0_row 1 = .ok (.getfield 114, 3) := dk_180 0 114 (dk_at dksX0_row_0 1 rfl rfl)
theorem dX0_row_4 : decode cX0_row 4 = .ok (.ifCond .ne 10, 3) := dk_154 0 10 (dk_at dksX0_row_0 4 rfl rfl)
theorem dX0_row_7 : decode cX0_row 7 = .ok (.aload_n 0, 1) := dk_42 (dk_at dksX0_row_0 7 rfl rfl)
theorem dX0_row_8 : decode cX0_row 8 = .ok (.bipush (-6), 2) := dk_16 250 (dk_at dksX0_row_0 8 rfl rfl)
theorem dX0_row_10 : decode cX0_row 10 = .ok (.invokevirtual 94, 3) := dk_182 0 94 (dk_at dksX0_row_0 10 rfl rfl)
theorem dX0_row_13 : decode cX0_row 13 = .ok (.ireturn, 1) := dk_172 (dk_at dksX0_row_0 13 rfl rfl)
theorem dX0_row_14 : decode cX0_row 14 = .ok (.aload_n 0, 1) := dk_42 (dk_at dksX0_row_0 14 rfl rfl)
theorem dX0_row_15 : decode cX0_row 15 = .ok (.getfield 114, 3) := dk_180 0 114 (dk_at dksX0_row_0 15 rfl rfl)
theorem dX0_row_18 : decode cX0_row 18 = .ok (.newarray .byte, 2) := dk_188_8 (dk_at dksX0_row_0 18 rfl rfl)
theorem dX0_row_20 : decode cX0_row 20 = .ok (.astore_n 1, 1) := dk_76 (dk_at dksX0_row_0 20 rfl rfl)
theorem dX0_row_21 : decode cX0_row 21 = .ok (.aload_n 0, 1) := dk_42 (dk_at dksX0_row_0 21 rfl rfl)
theorem dX0_row_22 : decode cX0_row 22 = .ok (.getfield 67, 3) := dk_180 0 67 (dk_at dksX0_row_1 0 rfl rfl)
theorem dX0_row_25 : decode cX0_row 25 = .ok (.iconst 0, 1) := dk_3 (dk_at dksX0_row_1 3 rfl rfl)
theorem dX0_row_26 : decode cX0_row 26 = .ok (.aload_n 1, 1) := dk_43 (dk_at dksX0_row_1 4 rfl rfl)
theorem dX0_row_27 : decode cX0_row 27 = .ok (.iconst 0, 1) := dk_3 (dk_at dksX0_row_1 5 rfl rfl)
theorem dX0_row_28 : decode cX0_row 28 = .ok (.aload_n 0, 1) := dk_42 (dk_at dksX0_row_1 6 rfl rfl)
theorem dX0_row_29 : decode cX0_row 29 = .ok (.getfield 114, 3) := dk_180 0 114 (dk_at dksX0_row_1 7 rfl rfl)
theorem dX0_row_32 : decode cX0_row 32 = .ok (.invokestatic 200, 3) := dk_184 0 200 (dk_at dksX0_row_1 10 rfl rfl)
theorem dX0_row_35 : decode cX0_row 35 = .ok (.aload_n 0, 1) := dk_42 (dk_at dksX0_row_1 13 rfl rfl)
theorem dX0_row_36 : decode cX0_row 36 = .ok (.iconst 0, 1) := dk_3 (dk_at dksX0_row_1 14 rfl rfl)
theorem dX0_row_37 : decode cX0_row 37 = .ok (.putfield 114, 3) := dk_181 0 114 (dk_at dksX0_row_1 15 rfl rfl)
theorem dX0_row_40 : decode cX0_row 40 = .ok (.aload_n 0, 1) := dk_42 (dk_at dksX0_row_1 18 rfl rfl)
theorem dX0_row_41 : decode cX0_row 41 = .ok (.iconst 0, 1) := dk_3 (dk_at dksX0_row_1 19 rfl rfl)
theorem dX0_row_42 : decode cX0_row 42 = .ok (.putfield 206, 3) := dk_181 0 206 (dk_at dksX0_row_1 20 rfl rfl)
theorem dX0_row_45 : decode cX0_row 45 = .ok (.iconst 0, 1) := dk_3 (dk_at dksX0_row_1 23 rfl rfl)
theorem dX0_row_46 : decode cX0_row 46 = .ok (.istore_n 2, 1) := dk_61 (dk_at dksX0_row_2 0 rfl rfl)
theorem dX0_row_47 : decode cX0_row 47 = .ok (.iconst 0, 1) := dk_3 (dk_at dksX0_row_2 1 rfl rfl)
theorem dX0_row_48 : decode cX0_row 48 = .ok (.istore_n 3, 1) := dk_62 (dk_at dksX0_row_2 2 rfl rfl)
theorem dX0_row_49 : decode cX0_row 49 = .ok (.iload_n 3, 1) := dk_29 (dk_at dksX0_row_2 3 rfl rfl)
theorem dX0_row_50 : decode cX0_row 50 = .ok (.aload_n 1, 1) := dk_43 (dk_at dksX0_row_2 4 rfl rfl)
theorem dX0_row_51 : decode cX0_row 51 = .ok (.arraylength, 1) := dk_190 (dk_at dksX0_row_2 5 rfl rfl)
theorem dX0_row_52 : decode cX0_row 52 = .ok (.if_icmp .ge 271, 3) := dk_162 1 15 (dk_at dksX0_row_2 6 rfl rfl)
theorem dX0_row_55 : decode cX0_row 55 = .ok (.iconst (-1), 1) := dk_2 (dk_at dksX0_row_2 9 rfl rfl)
theorem dX0_row_56 : decode cX0_row 56 = .ok (.istore 4, 2) := dk_54 4 (dk_at dksX0_row_2 10 rfl rfl)
theorem dX0_row_58 : decode cX0_row 58 = .ok (.aload_n 1, 1) := dk_43 (dk_at dksX0_row_2 12 rfl rfl)
theorem dX0_row_59 : decode cX0_row 59 = .ok (.iload_n 3, 1) := dk_29 (dk_at dksX0_row_2 13 rfl rfl)
theorem dX0_row_60 : decode cX0_row 60 = .ok (.iconst 3, 1) := dk_6 (dk_at dksX0_row_2 14 rfl rfl)
theorem dX0_row_61 : decode cX0_row 61 = .ok (.iadd, 1) := dk_96 (dk_at dksX0_row_2 15 rfl rfl)
theorem dX0_row_62 : decode cX0_row 62 = .ok (.invokestatic 209, 3) := dk_184 0 209 (dk_at dksX0_row_2 16 rfl rfl)
theorem dX0_row_65 : decode cX0_row 65 = .ok (.istore 4, 2) := dk_54 4 (dk_at dksX0_row_2 19 rfl rfl)
theorem dX0_row_67 : decode cX0_row 67 = .ok (.iload 4, 2) := dk_21 4 (dk_at dksX0_row_2 21 rfl rfl)
theorem dX0_row_69 : decode cX0_row 69 = .ok (.iconst (-1), 1) := dk_2 (dk_at dksX0_row_2 23 rfl rfl)
theorem dX0_row_70 : decode cX0_row 70 = .ok (.if_icmp .eq 40, 3) := dk_159 0 40 (dk_at dksX0_row_3 0 rfl rfl)
theorem dX0_row_73 : decode cX0_row 73 = .ok (.aload_n 0, 1) := dk_42 (dk_at dksX0_row_3 3 rfl rfl)
theorem dX0_row_74 : decode cX0_row 74 = .ok (.aload_n 1, 1) := dk_43 (dk_at dksX0_row_3 4 rfl rfl)
theorem dX0_row_75 : decode cX0_row 75 = .ok (.iload_n 3, 1) := dk_29 (dk_at dksX0_row_3 5 rfl rfl)
theorem dX0_row_76 : decode cX0_row 76 = .ok (.invokestatic 209, 3) := dk_184 0 209 (dk_at dksX0_row_3 6 rfl rfl)
theorem dX0_row_79 : decode cX0_row 79 = .ok (.aload_n 1, 1) := dk_43 (dk_at dksX0_row_3 9 rfl rfl)
theorem dX0_row_80 : decode cX0_row 80 = .ok (.iload_n 3, 1) := dk_29 (dk_at dksX0_row_3 10 rfl rfl)
theorem dX0_row_81 : decode cX0_row 81 = .ok (.iconst 1, 1) := dk_4 (dk_at dksX0_row_3 11 rfl rfl)
theorem dX0_row_82 : decode cX0_row 82 = .ok (.iadd, 1) := dk_96 (dk_at dksX0_row_3 12 rfl rfl)
theorem dX0_row_83 : decode cX0_row 83 = .ok (.invokestatic 209, 3) := dk_184 0 209 (dk_at dksX0_row_3 13 rfl rfl)
theorem dX0_row_86 : decode cX0_row 86 = .ok (.sipush 256, 3) := dk_17 1 0 (dk_at dksX0_row_3 16 rfl rfl)
theorem dX0_row_89 : decode cX0_row 89 = .ok (.aload_n 1, 1) := dk_43 (dk_at dksX0_row_3 19 rfl rfl)
theorem dX0_row_90 : decode cX0_row 90 = .ok (.iload_n 3, 1) := dk_29 (dk_at dksX0_row_3 20 rfl rfl)
theorem dX0_row_91 : decode cX0_row 91 = .ok (.iconst 2, 1) := dk_5 (dk_at dksX0_row_3 21 rfl rfl)
theorem dX0_row_92 : decode cX0_row 92 = .ok (.iadd, 1) := dk_96 (dk_at dksX0_row_3 22 rfl rfl)
theorem dX0_row_93 : decode cX0_row 93 = .ok (.invokestatic 209, 3) := dk_184 0 209 (dk_at dksX0_row_4 0 rfl rfl)
theorem dX0_row_96 : decode cX0_row 96 = .ok (.imul, 1) := dk_104 (dk_at dksX0_row_4 3 rfl rfl)
theorem dX0_row_97 : decode cX0_row 97 = .ok (.iload 4, 2) := dk_21 4 (dk_at dksX0_row_4 4 rfl rfl)
theorem dX0_row_99 : decode cX0_row 99 = .ok (.iadd, 1) := dk_96 (dk_at dksX0_row_4 6 rfl rfl)
theorem dX0_row_100 : decode cX0_row 100 = .ok (.invokevirtual 158, 3) := dk_182 0 158 (dk_at dksX0_row_4 7 rfl rfl)
theorem dX0_row_103 : decode cX0_row 103 = .ok (.ifCond .lt 7, 3) := dk_155 0 7 (dk_at dksX0_row_4 10 rfl rfl)
theorem dX0_row_106 : decode cX0_row 106 = .ok (.iconst 1, 1) := dk_4 (dk_at dksX0_row_4 13 rfl rfl)
theorem dX0_row_107 : decode cX0_row 107 = .ok (.goto 4, 3) := dk_167 0 4 (dk_at dksX0_row_4 14 rfl rfl)
theorem dX0_row_110 : decode cX0_row 110 = .ok (.iconst 0, 1) := dk_3 (dk_at dksX0_row_4 17 rfl rfl)
theorem dX0_row_111 : decode cX0_row 111 = .ok (.istore 5, 2) := dk_54 5 (dk_at dksX0_row_4 18 rfl rfl)
theorem dX0_row_113 : decode cX0_row 113 = .ok (.iload_n 2, 1) := dk_28 (dk_at dksX0_row_4 20 rfl rfl)
theorem dX0_row_114 : decode cX0_row 114 = .ok (.iload 5, 2) := dk_21 5 (dk_at dksX0_row_4 21 rfl rfl)
theorem dX0_row_116 : decode cX0_row 116 = .ok (.ifCond .eq 7, 3) := dk_153 0 7 (dk_at dksX0_row_5 0 rfl rfl)
theorem dX0_row_119 : decode cX0_row 119 = .ok (.iconst 1, 1) := dk_4 (dk_at dksX0_row_5 3 rfl rfl)
theorem dX0_row_120 : decode cX0_row 120 = .ok (.goto 4, 3) := dk_167 0 4 (dk_at dksX0_row_5 4 rfl rfl)
theorem dX0_row_123 : decode cX0_row 123 = .ok (.iconst 0, 1) := dk_3 (dk_at dksX0_row_5 7 rfl rfl)
theorem dX0_row_124 : decode cX0_row 124 = .ok (.iadd, 1) := dk_96 (dk_at dksX0_row_5 8 rfl rfl)
theorem dX0_row_125 : decode cX0_row 125 = .ok (.istore_n 2, 1) := dk_61 (dk_at dksX0_row_5 9 rfl rfl)
theorem dX0_row_126 : decode cX0_row 126 = .ok (.aload_n 0, 1) := dk_42 (dk_at dksX0_row_5 10 rfl rfl)
theorem dX0_row_127 : decode cX0_row 127 = .ok (.dup, 1) := dk_89 (dk_at dksX0_row_5 11 rfl rfl)
theorem dX0_row_128 : decode cX0_row 128 = .ok (.getfield 206, 3) := dk_180 0 206 (dk_at dksX0_row_5 12 rfl rfl)
theorem dX0_row_131 : decode cX0_row 131 = .ok (.iload 5, 2) := dk_21 5 (dk_at dksX0_row_5 15 rfl rfl)
theorem dX0_row_133 : decode cX0_row 133 = .ok (.ifCond .eq 7, 3) := dk_153 0 7 (dk_at dksX0_row_5 17 rfl rfl)
theorem dX0_row_136 : decode cX0_row 136 = .ok (.iconst 0, 1) := dk_3 (dk_at dksX0_row_5 20 rfl rfl)
theorem dX0_row_137 : decode cX0_row 137 = .ok (.goto 4, 3) := dk_167 0 4 (dk_at dksX0_row_5 21 rfl rfl)
theorem dX0_row_140 : decode cX0_row 140 = .ok (.iconst 1, 1) := dk_4 (dk_at dksX0_row_6 0 rfl rfl)
theorem dX0_row_141 : decode cX0_row 141 = .ok (.iadd, 1) := dk_96 (dk_at dksX0_row_6 1 rfl rfl)
theorem dX0_row_142 : decode cX0_row 142 = .ok (.putfield 206, 3) := dk_181 0 206 (dk_at dksX0_row_6 2 rfl rfl)
theorem dX0_row_145 : decode cX0_row 145 = .ok (.goto 172, 3) := dk_167 0 172 (dk_at dksX0_row_6 5 rfl rfl)
theorem dX0_row_148 : decode cX0_row 148 = .ok (.astore 5, 2) := dk_58 5 (dk_at dksX0_row_6 8 rfl rfl)
theorem dX0_row_150 : decode cX0_row 150 = .ok (.iconst (-1), 1) := dk_2 (dk_at dksX0_row_6 10 rfl rfl)
theorem dX0_row_151 : decode cX0_row 151 = .ok (.istore 4, 2) := dk_54 4 (dk_at dksX0_row_6 11 rfl rfl)
theorem dX0_row_153 : decode cX0_row 153 = .ok (.iload 4, 2) := dk_21 4 (dk_at dksX0_row_6 13 rfl rfl)
theorem dX0_row_155 : decode cX0_row 155 = .ok (.iconst (-1), 1) := dk_2 (dk_at dksX0_row_6 15 rfl rfl)
theorem dX0_row_156 : decode cX0_row 156 = .ok (.if_icmp .eq 40, 3) := dk_159 0 40 (dk_at dksX0_row_6 16 rfl rfl)
theorem dX0_row_159 : decode cX0_row 159 = .ok (.aload_n 0, 1) := dk_42 (dk_at dksX0_row_6 19 rfl rfl)
theorem dX0_row_160 : decode cX0_row 160 = .ok (.aload_n 1, 1) := dk_43 (dk_at dksX0_row_6 20 rfl rfl)
theorem dX0_row_161 : decode cX0_row 161 = .ok (.iload_n 3, 1) := dk_29 (dk_at dksX0_row_6 21 rfl rfl)
theorem dX0_row_162 : decode cX0_row 162 = .ok (.invokestatic 209, 3) := dk_184 0 209 (dk_at dksX0_row_7 0 rfl rfl)
theorem dX0_row_165 : decode cX0_row 165 = .ok (.aload_n 1, 1) := dk_43 (dk_at dksX0_row_7 3 rfl rfl)
theorem dX0_row_166 : decode cX0_row 166 = .ok (.iload_n 3, 1) := dk_29 (dk_at dksX0_row_7 4 rfl rfl)
theorem dX0_row_167 : decode cX0_row 167 = .ok (.iconst 1, 1) := dk_4 (dk_at dksX0_row_7 5 rfl rfl)
theorem dX0_row_168 : decode cX0_row 168 = .ok (.iadd, 1) := dk_96 (dk_at dksX0_row_7 6 rfl rfl)
theorem dX0_row_169 : decode cX0_row 169 = .ok (.invokestatic 209, 3) := dk_184 0 209 (dk_at dksX0_row_7 7 rfl rfl)
theorem dX0_row_172 : decode cX0_row 172 = .ok (.sipush 256, 3) := dk_17 1 0 (dk_at dksX0_row_7 10 rfl rfl)
theorem dX0_row_175 : decode cX0_row 175 = .ok (.aload_n 1, 1) := dk_43 (dk_at dksX0_row_7 13 rfl rfl)
theorem dX0_row_176 : decode cX0_row 176 = .ok (.iload_n 3, 1) := dk_29 (dk_at dksX0_row_7 14 rfl rfl)
theorem dX0_row_177 : decode cX0_row 177 = .ok (.iconst 2, 1) := dk_5 (dk_at dksX0_row_7 15 rfl rfl)
theorem dX0_row_178 : decode cX0_row 178 = .ok (.iadd, 1) := dk_96 (dk_at dksX0_row_7 16 rfl rfl)
theorem dX0_row_179 : decode cX0_row 179 = .ok (.invokestatic 209, 3) := dk_184 0 209 (dk_at dksX0_row_7 17 rfl rfl)
theorem dX0_row_182 : decode cX0_row 182 = .ok (.imul, 1) := dk_104 (dk_at dksX0_row_7 20 rfl rfl)
theorem dX0_row_183 : decode cX0_row 183 = .ok (.iload 4, 2) := dk_21 4 (dk_at dksX0_row_7 21 rfl rfl)
theorem dX0_row_185 : decode cX0_row 185 = .ok (.iadd, 1) := dk_96 (dk_at dksX0_row_7 23 rfl rfl)
theorem dX0_row_186 : decode cX0_row 186 = .ok (.invokevirtual 158, 3) := dk_182 0 158 (dk_at dksX0_row_8 0 rfl rfl)
theorem dX0_row_189 : decode cX0_row 189 = .ok (.ifCond .lt 7, 3) := dk_155 0 7 (dk_at dksX0_row_8 3 rfl rfl)
theorem dX0_row_192 : decode cX0_row 192 = .ok (.iconst 1, 1) := dk_4 (dk_at dksX0_row_8 6 rfl rfl)
theorem dX0_row_193 : decode cX0_row 193 = .ok (.goto 4, 3) := dk_167 0 4 (dk_at dksX0_row_8 7 rfl rfl)
theorem dX0_row_196 : decode cX0_row 196 = .ok (.iconst 0, 1) := dk_3 (dk_at dksX0_row_8 10 rfl rfl)
theorem dX0_row_197 : decode cX0_row 197 = .ok (.istore 5, 2) := dk_54 5 (dk_at dksX0_row_8 11 rfl rfl)
theorem dX0_row_199 : decode cX0_row 199 = .ok (.iload_n 2, 1) := dk_28 (dk_at dksX0_row_8 13 rfl rfl)
theorem dX0_row_200 : decode cX0_row 200 = .ok (.iload 5, 2) := dk_21 5 (dk_at dksX0_row_8 14 rfl rfl)
theorem dX0_row_202 : decode cX0_row 202 = .ok (.ifCond .eq 7, 3) := dk_153 0 7 (dk_at dksX0_row_8 16 rfl rfl)
theorem dX0_row_205 : decode cX0_row 205 = .ok (.iconst 1, 1) := dk_4 (dk_at dksX0_row_8 19 rfl rfl)
theorem dX0_row_206 : decode cX0_row 206 = .ok (.goto 4, 3) := dk_167 0 4 (dk_at dksX0_row_8 20 rfl rfl)
theorem dX0_row_209 : decode cX0_row 209 = .ok (.iconst 0, 1) := dk_3 (dk_at dksX0_row_8 23 rfl rfl)
theorem dX0_row_210 : decode cX0_row 210 = .ok (.iadd, 1) := dk_96 (dk_at dksX0_row_9 0 rfl rfl)
theorem dX0_row_211 : decode cX0_row 211 = .ok (.istore_n 2, 1) := dk_61 (dk_at dksX0_row_9 1 rfl rfl)
theorem dX0_row_212 : decode cX0_row 212 = .ok (.aload_n 0, 1) := dk_42 (dk_at dksX0_row_9 2 rfl rfl)
theorem dX0_row_213 : decode cX0_row 213 = .ok (.dup, 1) := dk_89 (dk_at dksX0_row_9 3 rfl rfl)
theorem dX0_row_214 : decode cX0_row 214 = .ok (.getfield 206, 3) := dk_180 0 206 (dk_at dksX0_row_9 4 rfl rfl)
theorem dX0_row_217 : decode cX0_row 217 = .ok (.iload 5, 2) := dk_21 5 (dk_at dksX0_row_9 7 rfl rfl)
theorem dX0_row_219 : decode cX0_row 219 = .ok (.ifCond .eq 7, 3) := dk_153 0 7 (dk_at dksX0_row_9 9 rfl rfl)
theorem dX0_row_222 : decode cX0_row 222 = .ok (.iconst 0, 1) := dk_3 (dk_at dksX0_row_9 12 rfl rfl)
theorem dX0_row_223 : decode cX0_row 223 = .ok (.goto 4, 3) := dk_167 0 4 (dk_at dksX0_row_9 13 rfl rfl)
theorem dX0_row_226 : decode cX0_row 226 = .ok (.iconst 1, 1) := dk_4 (dk_at dksX0_row_9 16 rfl rfl)
theorem dX0_row_227 : decode cX0_row 227 = .ok (.iadd, 1) := dk_96 (dk_at dksX0_row_9 17 rfl rfl)
theorem dX0_row_228 : decode cX0_row 228 = .ok (.putfield 206, 3) := dk_181 0 206 (dk_at dksX0_row_9 18 rfl rfl)
theorem dX0_row_231 : decode cX0_row 231 = .ok (.goto 86, 3) := dk_167 0 86 (dk_at dksX0_row_9 21 rfl rfl)
theorem dX0_row_234 : decode cX0_row 234 = .ok (.astore 6, 2) := dk_58 6 (dk_at dksX0_row_10 0 rfl rfl)
theorem dX0_row_236 : decode cX0_row 236 = .ok (.iload 4, 2) := dk_21 4 (dk_at dksX0_row_10 2 rfl rfl)
theorem dX0_row_238 : decode cX0_row 238 = .ok (.iconst (-1), 1) := dk_2 (dk_at dksX0_row_10 4 rfl rfl)
theorem dX0_row_239 : decode cX0_row 239 = .ok (.if_icmp .eq 40, 3) := dk_159 0 40 (dk_at dksX0_row_10 5 rfl rfl)
theorem dX0_row_242 : decode cX0_row 242 = .ok (.aload_n 0, 1) := dk_42 (dk_at dksX0_row_10 8 rfl rfl)
theorem dX0_row_243 : decode cX0_row 243 = .ok (.aload_n 1, 1) := dk_43 (dk_at dksX0_row_10 9 rfl rfl)
theorem dX0_row_244 : decode cX0_row 244 = .ok (.iload_n 3, 1) := dk_29 (dk_at dksX0_row_10 10 rfl rfl)
theorem dX0_row_245 : decode cX0_row 245 = .ok (.invokestatic 209, 3) := dk_184 0 209 (dk_at dksX0_row_10 11 rfl rfl)
theorem dX0_row_248 : decode cX0_row 248 = .ok (.aload_n 1, 1) := dk_43 (dk_at dksX0_row_10 14 rfl rfl)
theorem dX0_row_249 : decode cX0_row 249 = .ok (.iload_n 3, 1) := dk_29 (dk_at dksX0_row_10 15 rfl rfl)
theorem dX0_row_250 : decode cX0_row 250 = .ok (.iconst 1, 1) := dk_4 (dk_at dksX0_row_10 16 rfl rfl)
theorem dX0_row_251 : decode cX0_row 251 = .ok (.iadd, 1) := dk_96 (dk_at dksX0_row_10 17 rfl rfl)
theorem dX0_row_252 : decode cX0_row 252 = .ok (.invokestatic 209, 3) := dk_184 0 209 (dk_at dksX0_row_10 18 rfl rfl)
theorem dX0_row_255 : decode cX0_row 255 = .ok (.sipush 256, 3) := dk_17 1 0 (dk_at dksX0_row_10 21 rfl rfl)
theorem dX0_row_258 : decode cX0_row 258 = .ok (.aload_n 1, 1) := dk_43 (dk_at dksX0_row_11 0 rfl rfl)
theorem dX0_row_259 : decode cX0_row 259 = .ok (.iload_n 3, 1) := dk_29 (dk_at dksX0_row_11 1 rfl rfl)
theorem dX0_row_260 : decode cX0_row 260 = .ok (.iconst 2, 1) := dk_5 (dk_at dksX0_row_11 2 rfl rfl)
theorem dX0_row_261 : decode cX0_row 261 = .ok (.iadd, 1) := dk_96 (dk_at dksX0_row_11 3 rfl rfl)
theorem dX0_row_262 : decode cX0_row 262 = .ok (.invokestatic 209, 3) := dk_184 0 209 (dk_at dksX0_row_11 4 rfl rfl)
theorem dX0_row_265 : decode cX0_row 265 = .ok (.imul, 1) := dk_104 (dk_at dksX0_row_11 7 rfl rfl)
theorem dX0_row_266 : decode cX0_row 266 = .ok (.iload 4, 2) := dk_21 4 (dk_at dksX0_row_11 8 rfl rfl)
theorem dX0_row_268 : decode cX0_row 268 = .ok (.iadd, 1) := dk_96 (dk_at dksX0_row_11 10 rfl rfl)
theorem dX0_row_269 : decode cX0_row 269 = .ok (.invokevirtual 158, 3) := dk_182 0 158 (dk_at dksX0_row_11 11 rfl rfl)
theorem dX0_row_272 : decode cX0_row 272 = .ok (.ifCond .lt 7, 3) := dk_155 0 7 (dk_at dksX0_row_11 14 rfl rfl)
theorem dX0_row_275 : decode cX0_row 275 = .ok (.iconst 1, 1) := dk_4 (dk_at dksX0_row_11 17 rfl rfl)
theorem dX0_row_276 : decode cX0_row 276 = .ok (.goto 4, 3) := dk_167 0 4 (dk_at dksX0_row_11 18 rfl rfl)
theorem dX0_row_279 : decode cX0_row 279 = .ok (.iconst 0, 1) := dk_3 (dk_at dksX0_row_11 21 rfl rfl)
theorem dX0_row_280 : decode cX0_row 280 = .ok (.istore 7, 2) := dk_54 7 (dk_at dksX0_row_11 22 rfl rfl)
theorem dX0_row_282 : decode cX0_row 282 = .ok (.iload_n 2, 1) := dk_28 (dk_at dksX0_row_12 0 rfl rfl)
theorem dX0_row_283 : decode cX0_row 283 = .ok (.iload 7, 2) := dk_21 7 (dk_at dksX0_row_12 1 rfl rfl)
theorem dX0_row_285 : decode cX0_row 285 = .ok (.ifCond .eq 7, 3) := dk_153 0 7 (dk_at dksX0_row_12 3 rfl rfl)
theorem dX0_row_288 : decode cX0_row 288 = .ok (.iconst 1, 1) := dk_4 (dk_at dksX0_row_12 6 rfl rfl)
theorem dX0_row_289 : decode cX0_row 289 = .ok (.goto 4, 3) := dk_167 0 4 (dk_at dksX0_row_12 7 rfl rfl)
theorem dX0_row_292 : decode cX0_row 292 = .ok (.iconst 0, 1) := dk_3 (dk_at dksX0_row_12 10 rfl rfl)
theorem dX0_row_293 : decode cX0_row 293 = .ok (.iadd, 1) := dk_96 (dk_at dksX0_row_12 11 rfl rfl)
theorem dX0_row_294 : decode cX0_row 294 = .ok (.istore_n 2, 1) := dk_61 (dk_at dksX0_row_12 12 rfl rfl)
theorem dX0_row_295 : decode cX0_row 295 = .ok (.aload_n 0, 1) := dk_42 (dk_at dksX0_row_12 13 rfl rfl)
theorem dX0_row_296 : decode cX0_row 296 = .ok (.dup, 1) := dk_89 (dk_at dksX0_row_12 14 rfl rfl)
theorem dX0_row_297 : decode cX0_row 297 = .ok (.getfield 206, 3) := dk_180 0 206 (dk_at dksX0_row_12 15 rfl rfl)
theorem dX0_row_300 : decode cX0_row 300 = .ok (.iload 7, 2) := dk_21 7 (dk_at dksX0_row_12 18 rfl rfl)
theorem dX0_row_302 : decode cX0_row 302 = .ok (.ifCond .eq 7, 3) := dk_153 0 7 (dk_at dksX0_row_12 20 rfl rfl)
theorem dX0_row_305 : decode cX0_row 305 = .ok (.iconst 0, 1) := dk_3 (dk_at dksX0_row_12 23 rfl rfl)
theorem dX0_row_306 : decode cX0_row 306 = .ok (.goto 4, 3) := dk_167 0 4 (dk_at dksX0_row_13 0 rfl rfl)
theorem dX0_row_309 : decode cX0_row 309 = .ok (.iconst 1, 1) := dk_4 (dk_at dksX0_row_13 3 rfl rfl)
theorem dX0_row_310 : decode cX0_row 310 = .ok (.iadd, 1) := dk_96 (dk_at dksX0_row_13 4 rfl rfl)
theorem dX0_row_311 : decode cX0_row 311 = .ok (.putfield 206, 3) := dk_181 0 206 (dk_at dksX0_row_13 5 rfl rfl)
theorem dX0_row_314 : decode cX0_row 314 = .ok (.aload 6, 2) := dk_25 6 (dk_at dksX0_row_13 8 rfl rfl)
theorem dX0_row_316 : decode cX0_row 316 = .ok (.athrow, 1) := dk_191 (dk_at dksX0_row_13 10 rfl rfl)
theorem dX0_row_317 : decode cX0_row 317 = .ok (.iinc 3 4, 3) := dk_132 3 4 (dk_at dksX0_row_13 11 rfl rfl)
theorem dX0_row_320 : decode cX0_row 320 = .ok (.goto (-271), 3) := dk_167 254 241 (dk_at dksX0_row_13 14 rfl rfl)
theorem dX0_row_323 : decode cX0_row 323 = .ok (.aload_n 0, 1) := dk_42 (dk_at dksX0_row_13 17 rfl rfl)
theorem dX0_row_324 : decode cX0_row 324 = .ok (.iload_n 2, 1) := dk_28 (dk_at dksX0_row_13 18 rfl rfl)
theorem dX0_row_325 : decode cX0_row 325 = .ok (.invokevirtual 139, 3) := dk_182 0 139 (dk_at dksX0_row_13 19 rfl rfl)
theorem dX0_row_328 : decode cX0_row 328 = .ok (.ireturn, 1) := dk_172 (dk_at dksX0_row_13 22 rfl rfl)
noncomputable def f_X0_row_317 (E : ax_E) (x0 : Option Nat) (x1 : Option Nat) (x2 : Int) (x3 : Int) (h : ax_H) : Option ((Int × Int × ax_H) ⊕ (Int × ax_H)) :=
  some (.inl (x2, (x3 + 4), h))
noncomputable def f_X0_row_141 (E : ax_E) (x0 : Option Nat) (x1 : Option Nat) (x2 : Int) (x3 : Int) (s0 : Option Nat) (s1 : Int) (s2 : Int) (h : ax_H) : Option ((Int × Int × ax_H) ⊕ (Int × ax_H)) :=
  (ax_pI h s0 0 9 (s1 + s2)).bind fun h1 =>
  f_X0_row_317 E x0 x1 x2 x3 h1
noncomputable def f_X0_row_124 (E : ax_E) (x0 : Option Nat) (x1 : Option Nat) (x3 : Int) (x5 : Int) (s0 : Int) (s1 : Int) (h : ax_H) : Option ((Int × Int × ax_H) ⊕ (Int × ax_H)) :=
  (ax_gI E h x0 0 9).bind fun v1 =>
  if i2 x5 = 0 then
    f_X0_row_141 E x0 x1 (s0 + s1) x3 x0 v1 1 h
  else
    f_X0_row_141 E x0 x1 (s0 + s1) x3 x0 v1 0 h
noncomputable def f_X0_row_111 (E : ax_E) (x0 : Option Nat) (x1 : Option Nat) (x2 : Int) (x3 : Int) (s0 : Int) (h : ax_H) : Option ((Int × Int × ax_H) ⊕ (Int × ax_H)) :=
  if i2 s0 = 0 then
    f_X0_row_124 E x0 x1 x3 s0 x2 0 h
  else
    f_X0_row_124 E x0 x1 x3 s0 x2 1 h
noncomputable def f_X0_row_110 (E : ax_E) (x0 : Option Nat) (x1 : Option Nat) (x2 : Int) (x3 : Int) (h : ax_H) : Option ((Int × Int × ax_H) ⊕ (Int × ax_H)) :=
  f_X0_row_111 E x0 x1 x2 x3 0 h
noncomputable def f_X0_row_227 (E : ax_E) (x0 : Option Nat) (x1 : Option Nat) (x2 : Int) (x3 : Int) (s0 : Option Nat) (s1 : Int) (s2 : Int) (h : ax_H) : Option ((Int × Int × ax_H) ⊕ (Int × ax_H)) :=
  (ax_pI h s0 0 9 (s1 + s2)).bind fun h1 =>
  f_X0_row_317 E x0 x1 x2 x3 h1
noncomputable def f_X0_row_210 (E : ax_E) (x0 : Option Nat) (x1 : Option Nat) (x3 : Int) (x5 : Int) (s0 : Int) (s1 : Int) (h : ax_H) : Option ((Int × Int × ax_H) ⊕ (Int × ax_H)) :=
  (ax_gI E h x0 0 9).bind fun v1 =>
  if i2 x5 = 0 then
    f_X0_row_227 E x0 x1 (s0 + s1) x3 x0 v1 1 h
  else
    f_X0_row_227 E x0 x1 (s0 + s1) x3 x0 v1 0 h
noncomputable def f_X0_row_197 (E : ax_E) (x0 : Option Nat) (x1 : Option Nat) (x2 : Int) (x3 : Int) (s0 : Int) (h : ax_H) : Option ((Int × Int × ax_H) ⊕ (Int × ax_H)) :=
  if i2 s0 = 0 then
    f_X0_row_210 E x0 x1 x3 s0 x2 0 h
  else
    f_X0_row_210 E x0 x1 x3 s0 x2 1 h
noncomputable def f_X0_row_196 (E : ax_E) (x0 : Option Nat) (x1 : Option Nat) (x2 : Int) (x3 : Int) (h : ax_H) : Option ((Int × Int × ax_H) ⊕ (Int × ax_H)) :=
  f_X0_row_197 E x0 x1 x2 x3 0 h
noncomputable def lb_X0_row_49 (E : ax_E) (x0 : Option Nat) (x1 : Option Nat) (x2 : Int) (x3 : Int) (h : ax_H) : Option ((Int × Int × ax_H) ⊕ (Int × ax_H)) :=
  (ax_len E h x1 101).bind fun v1 =>
  if i2 x3 < i2 v1 then
    ax_tc (fun z3 =>
        if i2 (-1) = i2 (-1) then
          f_X0_row_196 E x0 x1 x2 x3 z3.2
        else
          (f_X0_byteAt E x1 x3 z3.2).bind fun q4 =>
          (f_X0_byteAt E x1 (x3 + 1) q4.2).bind fun q5 =>
          (f_X0_byteAt E x1 (x3 + 2) q5.2).bind fun q6 =>
          (ax_ce E q6.2 x0 0).bind fun _ => (f_X0_debtNow E x0 q4.1 q5.1 ((256 * q6.1) + (-1)) q6.2).bind fun q7 =>
          if i2 q7.1 < 0 then
            f_X0_row_196 E x0 x1 x2 x3 q7.2
          else
            f_X0_row_197 E x0 x1 x2 x3 1 q7.2) (fx_X0_byteAt E x1 (x3 + 3) h) fun q2 =>
    if i2 q2.1 = i2 (-1) then
      f_X0_row_110 E x0 x1 x2 x3 q2.2
    else
      (f_X0_byteAt E x1 x3 q2.2).bind fun q8 =>
      (f_X0_byteAt E x1 (x3 + 1) q8.2).bind fun q9 =>
      (f_X0_byteAt E x1 (x3 + 2) q9.2).bind fun q10 =>
      (ax_ce E q10.2 x0 0).bind fun _ => (f_X0_debtNow E x0 q8.1 q9.1 ((256 * q10.1) + q2.1) q10.2).bind fun q11 =>
      if i2 q11.1 < 0 then
        f_X0_row_110 E x0 x1 x2 x3 q11.2
      else
        f_X0_row_111 E x0 x1 x2 x3 1 q11.2
  else
    ((ax_ce E h x0 0).bind fun _ => (f_X0_settled E x0 x2 h).bind fun q12 =>
    some (q12.1, q12.2)).map Sum.inr
noncomputable def f_X0_row_49 (E : ax_E) (x0 : Option Nat) (x1 : Option Nat) (x2 : Int) (x3 : Int) (h : ax_H) : Option (Int × ax_H) :=
  ax_iter (fun s : Int × Int × ax_H => lb_X0_row_49 E x0 x1 s.1 s.2.1 s.2.2) (x2, x3, h)
noncomputable def f_X0_row (E : ax_E) (x0 : Option Nat) (h : ax_H) : Option (Int × ax_H) :=
  (ax_gI E h x0 0 12).bind fun v1 =>
  if i2 v1 = 0 then
    (ax_ce E h x0 0).bind fun _ => (f_X0_tell E x0 (-6) h).bind fun q2 =>
    some (q2.1, q2.2)
  else
    (ax_gI E h x0 0 12).bind fun v3 =>
    (ax_na E h 101 v3).bind fun q4 =>
    (ax_gR E q4.2 x0 0 11).bind fun v5 =>
    (ax_gI E q4.2 x0 0 12).bind fun v6 =>
    (ax_cp E q4.2 ax_bytP v5 101 0 (some q4.1) 0 v6).bind fun h7 =>
    (ax_pI h7 x0 0 12 0).bind fun h8 =>
    (ax_pI h8 x0 0 9 0).bind fun h9 =>
    f_X0_row_49 E x0 (some q4.1) 0 0 h9
def pi_X0_row_49 (G : ax_G) (X : ax_X) (Q : State → Prop) (x0 : Option Nat) (x1 : Option Nat) : Int × Int × ax_H → Prop := fun s => ∀ ls : Array Slot, ax_hl ls 8 [(0, .inr (.inr x0)), (1, .inr (.inr x1)), (2, .inl s.1), (3, .inl s.2.1)] → ax_W G X Q s.2.2 49 ls []
set_option maxHeartbeats 4000000 in
theorem w_X0_row_317 {l : Launch} {G : ax_G} {X : ax_X} {Q : State → Prop} {h0 h : ax_H} {ls : Array Slot} (hSF : ax_SF G) (B : ax_BL l G X cX0_row 8 RX0 9 10311) (Z : ax_Z X h0 ((some FieldType.int))) (hn : X.2.2.2.2.2.2.2.2.1.name = yX0_row.name) (hlt : l.stackTraces = false) (hT : ax_tb X = tableOf [(58, 67, 148, 213), (58, 67, 234, 0), (148, 153, 234, 0), (234, 236, 234, 0)]) (x0 : Option Nat) (x1 : Option Nat) (x2 : Int) (x3 : Int) {w : (Int × Int × ax_H) ⊕ (Int × ax_H)} (hl : ax_hl ls 8 [(0, .inr (.inr x0)), (1, .inr (.inr x1)), (2, .inl x2), (3, .inl x3)]) (e : f_X0_row_317 G.2.2 x0 x1 x2 x3 h = some w) (hp : (ax_PL (pi_X0_row_49 G X Q x0 x1) (fun w : Int × ax_H => Q = ax_Q G X h0 w.2 (some (.int (Int32.ofInt w.1))))) w) : ax_W G X Q h 317 ls [] := by
  unfold f_X0_row_317 at e
  refine ax_iinc (L' := [(3, .inl (x3 + 4)), (0, .inr (.inr x0)), (1, .inr (.inr x1)), (2, .inl x2)]) B dX0_row_317 hl 3 rfl (by decide) rfl (fun ls hl => ?_)
  refine ax_goto (tgt := 49) B dX0_row_320 (by decide) ?_
  cases e
  exact hp _ (hl.sub [1, 2, 3, 0] rfl)
set_option maxHeartbeats 4000000 in
theorem w_X0_row_141 {l : Launch} {G : ax_G} {X : ax_X} {Q : State → Prop} {h0 h : ax_H} {ls : Array Slot} (hSF : ax_SF G) (B : ax_BL l G X cX0_row 8 RX0 9 10311) (Z : ax_Z X h0 ((some FieldType.int))) (hn : X.2.2.2.2.2.2.2.2.1.name = yX0_row.name) (hlt : l.stackTraces = false) (hT : ax_tb X = tableOf [(58, 67, 148, 213), (58, 67, 234, 0), (148, 153, 234, 0), (234, 236, 234, 0)]) (x0 : Option Nat) (x1 : Option Nat) (x2 : Int) (x3 : Int) (s0 : Option Nat) (s1 : Int) (s2 : Int) {w : (Int × Int × ax_H) ⊕ (Int × ax_H)} (hl : ax_hl ls 8 [(0, .inr (.inr x0)), (1, .inr (.inr x1)), (2, .inl x2), (3, .inl x3)]) (e : f_X0_row_141 G.2.2 x0 x1 x2 x3 s0 s1 s2 h = some w) (hp : (ax_PL (pi_X0_row_49 G X Q x0 x1) (fun w : Int × ax_H => Q = ax_Q G X h0 w.2 (some (.int (Int32.ofInt w.1))))) w) : ax_W G X Q h 141 ls [.int (Int32.ofInt s2), .int (Int32.ofInt s1), va_rf s0] := by
  unfold f_X0_row_141 at e
  refine ax_iadd' B dX0_row_141 ?_
  refine ax_putI B ff_X0_206_0 (Or.inl rfl) rfl dX0_row_142 e (fun h1 e => ?_)
  refine ax_goto (tgt := 317) B dX0_row_145 (by decide) ?_
  exact w_X0_row_317 hSF B Z hn hlt hT x0 x1 x2 x3 (hl.sub [0, 1, 2, 3] rfl) e hp
set_option maxHeartbeats 4000000 in
theorem w_X0_row_124 {l : Launch} {G : ax_G} {X : ax_X} {Q : State → Prop} {h0 h : ax_H} {ls : Array Slot} (hSF : ax_SF G) (B : ax_BL l G X cX0_row 8 RX0 9 10311) (Z : ax_Z X h0 ((some FieldType.int))) (hn : X.2.2.2.2.2.2.2.2.1.name = yX0_row.name) (hlt : l.stackTraces = false) (hT : ax_tb X = tableOf [(58, 67, 148, 213), (58, 67, 234, 0), (148, 153, 234, 0), (234, 236, 234, 0)]) (x0 : Option Nat) (x1 : Option Nat) (x3 : Int) (x5 : Int) (s0 : Int) (s1 : Int) {w : (Int × Int × ax_H) ⊕ (Int × ax_H)} (hl : ax_hl ls 8 [(0, .inr (.inr x0)), (1, .inr (.inr x1)), (3, .inl x3), (5, .inl x5)]) (e : f_X0_row_124 G.2.2 x0 x1 x3 x5 s0 s1 h = some w) (hp : (ax_PL (pi_X0_row_49 G X Q x0 x1) (fun w : Int × ax_H => Q = ax_Q G X h0 w.2 (some (.int (Int32.ofInt w.1))))) w) : ax_W G X Q h 124 ls [.int (Int32.ofInt s1), .int (Int32.ofInt s0)] := by
  unfold f_X0_row_124 at e
  refine ax_iadd' B dX0_row_124 ?_
  refine ax_istore_n (L' := [(2, .inl (s0 + s1)), (0, .inr (.inr x0)), (1, .inr (.inr x1)), (3, .inl x3), (5, .inl x5)]) B dX0_row_125 rfl hl (by decide) rfl (fun ls hl => ?_)
  refine ax_aload_n B dX0_row_126 rfl hl 1 rfl ?_
  refine ax_dup B dX0_row_127 (va_rf_cat _) ?_
  refine ax_getI B ff_X0_206_0 (fun _ _ => rfl) dX0_row_128 e (fun v1 e => ?_)
  refine ax_iload B dX0_row_131 hl 4 rfl ?_
  refine ax_if_eq (tgt := 140) B dX0_row_133 (by decide) e (fun e => ?_) (fun e => ?_)
  · refine ax_iconst B dX0_row_140 ?_
    exact w_X0_row_141 hSF B Z hn hlt hT x0 x1 (s0 + s1) x3 x0 v1 1 (hl.sub [1, 2, 0, 3] rfl) e hp
  · refine ax_iconst B dX0_row_136 ?_
    refine ax_goto (tgt := 141) B dX0_row_137 (by decide) ?_
    exact w_X0_row_141 hSF B Z hn hlt hT x0 x1 (s0 + s1) x3 x0 v1 0 (hl.sub [1, 2, 0, 3] rfl) e hp
set_option maxHeartbeats 4000000 in
theorem w_X0_row_111 {l : Launch} {G : ax_G} {X : ax_X} {Q : State → Prop} {h0 h : ax_H} {ls : Array Slot} (hSF : ax_SF G) (B : ax_BL l G X cX0_row 8 RX0 9 10311) (Z : ax_Z X h0 ((some FieldType.int))) (hn : X.2.2.2.2.2.2.2.2.1.name = yX0_row.name) (hlt : l.stackTraces = false) (hT : ax_tb X = tableOf [(58, 67, 148, 213), (58, 67, 234, 0), (148, 153, 234, 0), (234, 236, 234, 0)]) (x0 : Option Nat) (x1 : Option Nat) (x2 : Int) (x3 : Int) (s0 : Int) {w : (Int × Int × ax_H) ⊕ (Int × ax_H)} (hl : ax_hl ls 8 [(0, .inr (.inr x0)), (1, .inr (.inr x1)), (2, .inl x2), (3, .inl x3)]) (e : f_X0_row_111 G.2.2 x0 x1 x2 x3 s0 h = some w) (hp : (ax_PL (pi_X0_row_49 G X Q x0 x1) (fun w : Int × ax_H => Q = ax_Q G X h0 w.2 (some (.int (Int32.ofInt w.1))))) w) : ax_W G X Q h 111 ls [.int (Int32.ofInt s0)] := by
  unfold f_X0_row_111 at e
  refine ax_istore (L' := [(5, .inl s0), (0, .inr (.inr x0)), (1, .inr (.inr x1)), (2, .inl x2), (3, .inl x3)]) B dX0_row_111 hl (by decide) rfl (fun ls hl => ?_)
  refine ax_iload_n B dX0_row_113 rfl hl 3 rfl ?_
  refine ax_iload B dX0_row_114 hl 0 rfl ?_
  refine ax_if_eq (tgt := 123) B dX0_row_116 (by decide) e (fun e => ?_) (fun e => ?_)
  · refine ax_iconst B dX0_row_123 ?_
    exact w_X0_row_124 hSF B Z hn hlt hT x0 x1 x3 s0 x2 0 (hl.sub [1, 2, 4, 0] rfl) e hp
  · refine ax_iconst B dX0_row_119 ?_
    refine ax_goto (tgt := 124) B dX0_row_120 (by decide) ?_
    exact w_X0_row_124 hSF B Z hn hlt hT x0 x1 x3 s0 x2 1 (hl.sub [1, 2, 4, 0] rfl) e hp
set_option maxHeartbeats 4000000 in
theorem w_X0_row_110 {l : Launch} {G : ax_G} {X : ax_X} {Q : State → Prop} {h0 h : ax_H} {ls : Array Slot} (hSF : ax_SF G) (B : ax_BL l G X cX0_row 8 RX0 9 10311) (Z : ax_Z X h0 ((some FieldType.int))) (hn : X.2.2.2.2.2.2.2.2.1.name = yX0_row.name) (hlt : l.stackTraces = false) (hT : ax_tb X = tableOf [(58, 67, 148, 213), (58, 67, 234, 0), (148, 153, 234, 0), (234, 236, 234, 0)]) (x0 : Option Nat) (x1 : Option Nat) (x2 : Int) (x3 : Int) {w : (Int × Int × ax_H) ⊕ (Int × ax_H)} (hl : ax_hl ls 8 [(0, .inr (.inr x0)), (1, .inr (.inr x1)), (2, .inl x2), (3, .inl x3)]) (e : f_X0_row_110 G.2.2 x0 x1 x2 x3 h = some w) (hp : (ax_PL (pi_X0_row_49 G X Q x0 x1) (fun w : Int × ax_H => Q = ax_Q G X h0 w.2 (some (.int (Int32.ofInt w.1))))) w) : ax_W G X Q h 110 ls [] := by
  unfold f_X0_row_110 at e
  refine ax_iconst B dX0_row_110 ?_
  exact w_X0_row_111 hSF B Z hn hlt hT x0 x1 x2 x3 0 (hl.sub [0, 1, 2, 3] rfl) e hp
set_option maxHeartbeats 4000000 in
theorem w_X0_row_227 {l : Launch} {G : ax_G} {X : ax_X} {Q : State → Prop} {h0 h : ax_H} {ls : Array Slot} (hSF : ax_SF G) (B : ax_BL l G X cX0_row 8 RX0 9 10311) (Z : ax_Z X h0 ((some FieldType.int))) (hn : X.2.2.2.2.2.2.2.2.1.name = yX0_row.name) (hlt : l.stackTraces = false) (hT : ax_tb X = tableOf [(58, 67, 148, 213), (58, 67, 234, 0), (148, 153, 234, 0), (234, 236, 234, 0)]) (x0 : Option Nat) (x1 : Option Nat) (x2 : Int) (x3 : Int) (s0 : Option Nat) (s1 : Int) (s2 : Int) {w : (Int × Int × ax_H) ⊕ (Int × ax_H)} (hl : ax_hl ls 8 [(0, .inr (.inr x0)), (1, .inr (.inr x1)), (2, .inl x2), (3, .inl x3)]) (e : f_X0_row_227 G.2.2 x0 x1 x2 x3 s0 s1 s2 h = some w) (hp : (ax_PL (pi_X0_row_49 G X Q x0 x1) (fun w : Int × ax_H => Q = ax_Q G X h0 w.2 (some (.int (Int32.ofInt w.1))))) w) : ax_W G X Q h 227 ls [.int (Int32.ofInt s2), .int (Int32.ofInt s1), va_rf s0] := by
  unfold f_X0_row_227 at e
  refine ax_iadd' B dX0_row_227 ?_
  refine ax_putI B ff_X0_206_0 (Or.inl rfl) rfl dX0_row_228 e (fun h1 e => ?_)
  refine ax_goto (tgt := 317) B dX0_row_231 (by decide) ?_
  exact w_X0_row_317 hSF B Z hn hlt hT x0 x1 x2 x3 (hl.sub [0, 1, 2, 3] rfl) e hp
set_option maxHeartbeats 4000000 in
theorem w_X0_row_210 {l : Launch} {G : ax_G} {X : ax_X} {Q : State → Prop} {h0 h : ax_H} {ls : Array Slot} (hSF : ax_SF G) (B : ax_BL l G X cX0_row 8 RX0 9 10311) (Z : ax_Z X h0 ((some FieldType.int))) (hn : X.2.2.2.2.2.2.2.2.1.name = yX0_row.name) (hlt : l.stackTraces = false) (hT : ax_tb X = tableOf [(58, 67, 148, 213), (58, 67, 234, 0), (148, 153, 234, 0), (234, 236, 234, 0)]) (x0 : Option Nat) (x1 : Option Nat) (x3 : Int) (x5 : Int) (s0 : Int) (s1 : Int) {w : (Int × Int × ax_H) ⊕ (Int × ax_H)} (hl : ax_hl ls 8 [(0, .inr (.inr x0)), (1, .inr (.inr x1)), (3, .inl x3), (5, .inl x5)]) (e : f_X0_row_210 G.2.2 x0 x1 x3 x5 s0 s1 h = some w) (hp : (ax_PL (pi_X0_row_49 G X Q x0 x1) (fun w : Int × ax_H => Q = ax_Q G X h0 w.2 (some (.int (Int32.ofInt w.1))))) w) : ax_W G X Q h 210 ls [.int (Int32.ofInt s1), .int (Int32.ofInt s0)] := by
  unfold f_X0_row_210 at e
  refine ax_iadd' B dX0_row_210 ?_
  refine ax_istore_n (L' := [(2, .inl (s0 + s1)), (0, .inr (.inr x0)), (1, .inr (.inr x1)), (3, .inl x3), (5, .inl x5)]) B dX0_row_211 rfl hl (by decide) rfl (fun ls hl => ?_)
  refine ax_aload_n B dX0_row_212 rfl hl 1 rfl ?_
  refine ax_dup B dX0_row_213 (va_rf_cat _) ?_
  refine ax_getI B ff_X0_206_0 (fun _ _ => rfl) dX0_row_214 e (fun v1 e => ?_)
  refine ax_iload B dX0_row_217 hl 4 rfl ?_
  refine ax_if_eq (tgt := 226) B dX0_row_219 (by decide) e (fun e => ?_) (fun e => ?_)
  · refine ax_iconst B dX0_row_226 ?_
    exact w_X0_row_227 hSF B Z hn hlt hT x0 x1 (s0 + s1) x3 x0 v1 1 (hl.sub [1, 2, 0, 3] rfl) e hp
  · refine ax_iconst B dX0_row_222 ?_
    refine ax_goto (tgt := 227) B dX0_row_223 (by decide) ?_
    exact w_X0_row_227 hSF B Z hn hlt hT x0 x1 (s0 + s1) x3 x0 v1 0 (hl.sub [1, 2, 0, 3] rfl) e hp
set_option maxHeartbeats 4000000 in
theorem w_X0_row_197 {l : Launch} {G : ax_G} {X : ax_X} {Q : State → Prop} {h0 h : ax_H} {ls : Array Slot} (hSF : ax_SF G) (B : ax_BL l G X cX0_row 8 RX0 9 10311) (Z : ax_Z X h0 ((some FieldType.int))) (hn : X.2.2.2.2.2.2.2.2.1.name = yX0_row.name) (hlt : l.stackTraces = false) (hT : ax_tb X = tableOf [(58, 67, 148, 213), (58, 67, 234, 0), (148, 153, 234, 0), (234, 236, 234, 0)]) (x0 : Option Nat) (x1 : Option Nat) (x2 : Int) (x3 : Int) (s0 : Int) {w : (Int × Int × ax_H) ⊕ (Int × ax_H)} (hl : ax_hl ls 8 [(0, .inr (.inr x0)), (1, .inr (.inr x1)), (2, .inl x2), (3, .inl x3)]) (e : f_X0_row_197 G.2.2 x0 x1 x2 x3 s0 h = some w) (hp : (ax_PL (pi_X0_row_49 G X Q x0 x1) (fun w : Int × ax_H => Q = ax_Q G X h0 w.2 (some (.int (Int32.ofInt w.1))))) w) : ax_W G X Q h 197 ls [.int (Int32.ofInt s0)] := by
  unfold f_X0_row_197 at e
  refine ax_istore (L' := [(5, .inl s0), (0, .inr (.inr x0)), (1, .inr (.inr x1)), (2, .inl x2), (3, .inl x3)]) B dX0_row_197 hl (by decide) rfl (fun ls hl => ?_)
  refine ax_iload_n B dX0_row_199 rfl hl 3 rfl ?_
  refine ax_iload B dX0_row_200 hl 0 rfl ?_
  refine ax_if_eq (tgt := 209) B dX0_row_202 (by decide) e (fun e => ?_) (fun e => ?_)
  · refine ax_iconst B dX0_row_209 ?_
    exact w_X0_row_210 hSF B Z hn hlt hT x0 x1 x3 s0 x2 0 (hl.sub [1, 2, 4, 0] rfl) e hp
  · refine ax_iconst B dX0_row_205 ?_
    refine ax_goto (tgt := 210) B dX0_row_206 (by decide) ?_
    exact w_X0_row_210 hSF B Z hn hlt hT x0 x1 x3 s0 x2 1 (hl.sub [1, 2, 4, 0] rfl) e hp
set_option maxHeartbeats 4000000 in
theorem w_X0_row_196 {l : Launch} {G : ax_G} {X : ax_X} {Q : State → Prop} {h0 h : ax_H} {ls : Array Slot} (hSF : ax_SF G) (B : ax_BL l G X cX0_row 8 RX0 9 10311) (Z : ax_Z X h0 ((some FieldType.int))) (hn : X.2.2.2.2.2.2.2.2.1.name = yX0_row.name) (hlt : l.stackTraces = false) (hT : ax_tb X = tableOf [(58, 67, 148, 213), (58, 67, 234, 0), (148, 153, 234, 0), (234, 236, 234, 0)]) (x0 : Option Nat) (x1 : Option Nat) (x2 : Int) (x3 : Int) {w : (Int × Int × ax_H) ⊕ (Int × ax_H)} (hl : ax_hl ls 8 [(0, .inr (.inr x0)), (1, .inr (.inr x1)), (2, .inl x2), (3, .inl x3)]) (e : f_X0_row_196 G.2.2 x0 x1 x2 x3 h = some w) (hp : (ax_PL (pi_X0_row_49 G X Q x0 x1) (fun w : Int × ax_H => Q = ax_Q G X h0 w.2 (some (.int (Int32.ofInt w.1))))) w) : ax_W G X Q h 196 ls [] := by
  unfold f_X0_row_196 at e
  refine ax_iconst B dX0_row_196 ?_
  exact w_X0_row_197 hSF B Z hn hlt hT x0 x1 x2 x3 0 (hl.sub [0, 1, 2, 3] rfl) e hp
set_option maxHeartbeats 4000000 in
theorem wb_X0_row_49 {l : Launch} {G : ax_G} {X : ax_X} {Q : State → Prop} {h0 h : ax_H} {ls : Array Slot} (hSF : ax_SF G) (B : ax_BL l G X cX0_row 8 RX0 9 10311) (Z : ax_Z X h0 ((some FieldType.int))) (hn : X.2.2.2.2.2.2.2.2.1.name = yX0_row.name) (hlt : l.stackTraces = false) (hT : ax_tb X = tableOf [(58, 67, 148, 213), (58, 67, 234, 0), (148, 153, 234, 0), (234, 236, 234, 0)]) (x0 : Option Nat) (x1 : Option Nat) (x2 : Int) (x3 : Int) {w : (Int × Int × ax_H) ⊕ (Int × ax_H)} (hl : ax_hl ls 8 [(0, .inr (.inr x0)), (1, .inr (.inr x1)), (2, .inl x2), (3, .inl x3)]) (e : lb_X0_row_49 G.2.2 x0 x1 x2 x3 h = some w) (hp : (ax_PL (pi_X0_row_49 G X Q x0 x1) (fun w : Int × ax_H => Q = ax_Q G X h0 w.2 (some (.int (Int32.ofInt w.1))))) w) : ax_W G X Q h 49 ls [] := by
  unfold lb_X0_row_49 at e
  refine ax_iload_n B dX0_row_49 rfl hl 3 rfl ?_
  refine ax_aload_n B dX0_row_50 rfl hl 1 rfl ?_
  refine ax_alen B kd101 dX0_row_51 e (fun v1 e => ?_)
  refine ax_icmp_ge (tgt := 323) B dX0_row_52 (by decide) e (fun e => ?_) (fun e => ?_)
  · refine ax_iconst B dX0_row_55 ?_
    refine ax_istore (L' := [(4, .inl (-1)), (0, .inr (.inr x0)), (1, .inr (.inr x1)), (2, .inl x2), (3, .inl x3)]) B dX0_row_56 hl (by decide) rfl (fun ls hl => ?_)
    refine ax_aload_n B dX0_row_58 rfl hl 2 rfl ?_
    refine ax_iload_n B dX0_row_59 rfl hl 4 rfl ?_
    refine ax_iconst B dX0_row_60 ?_
    refine ax_iadd' B dX0_row_61 ?_
    refine ax_xsI (Ex := ay_X) (y := yX0_byteAt) (n := 2) (As := [va_rf x1, .int (Int32.ofInt (x3 + 3))]) B (lw_S q697 q698 q125 q699) (by decide +kernel) ⟨Nat.le_of_ble_eq_true rfl, Nat.le_of_ble_eq_true rfl⟩ (fun w1 e1 => mx_X0_byteAt l G hSF hlt x1 (x3 + 3) _ w1 e1) rfl hl.size (by decide) dX0_row_62 e (fun z3 e => ?_) (fun q2 e => ?_)
    · refine ax_caught (nm := ay_X) (handler := 148) B hT (by decide) (by decide) q620 q670 rfl ?_
      refine ax_astore (L' := [(5, .inr (.inr (some z3.1))), (4, .inl (-1)), (0, .inr (.inr x0)), (1, .inr (.inr x1)), (2, .inl x2), (3, .inl x3)]) B dX0_row_148 hl (by decide) rfl (fun ls hl => ?_)
      refine ax_iconst B dX0_row_150 ?_
      refine ax_istore (L' := [(4, .inl (-1)), (5, .inr (.inr (some z3.1))), (0, .inr (.inr x0)), (1, .inr (.inr x1)), (2, .inl x2), (3, .inl x3)]) B dX0_row_151 hl (by decide) rfl (fun ls hl => ?_)
      refine ax_iload B dX0_row_153 hl 0 rfl ?_
      refine ax_iconst B dX0_row_155 ?_
      refine ax_icmp_eq (tgt := 196) B dX0_row_156 (by decide) e (fun e => ?_) (fun e => ?_)
      · exact w_X0_row_196 hSF B Z hn hlt hT x0 x1 x2 x3 (hl.sub [2, 3, 4, 5] rfl) e hp
      · refine ax_aload_n B dX0_row_159 rfl hl 2 rfl ?_
        refine ax_aload_n B dX0_row_160 rfl hl 3 rfl ?_
        refine ax_iload_n B dX0_row_161 rfl hl 5 rfl ?_
        refine ax_isI (y := yX0_byteAt) (n := 2) (As := [va_rf x1, .int (Int32.ofInt x3)]) B (lw_S q697 q698 q125 q699) (by decide +kernel) ⟨Nat.le_of_ble_eq_true rfl, Nat.le_of_ble_eq_true rfl⟩ (fun w1 e1 => mt_X0_byteAt l G hSF x1 x3 _ w1 e1) rfl hl.size (by simp only [List.map_cons, List.map_nil, List.sum_cons, List.sum_nil, va_rf_cat, ax_catI, ax_catL]; decide) dX0_row_162 e (fun q4 e => ?_)
        refine ax_aload_n B dX0_row_165 rfl hl 3 rfl ?_
        refine ax_iload_n B dX0_row_166 rfl hl 5 rfl ?_
        refine ax_iconst B dX0_row_167 ?_
        refine ax_iadd' B dX0_row_168 ?_
        refine ax_isI (y := yX0_byteAt) (n := 2) (As := [va_rf x1, .int (Int32.ofInt (x3 + 1))]) B (lw_S q697 q698 q125 q699) (by decide +kernel) ⟨Nat.le_of_ble_eq_true rfl, Nat.le_of_ble_eq_true rfl⟩ (fun w1 e1 => mt_X0_byteAt l G hSF x1 (x3 + 1) _ w1 e1) rfl hl.size (by simp only [List.map_cons, List.map_nil, List.sum_cons, List.sum_nil, va_rf_cat, ax_catI, ax_catL]; decide) dX0_row_169 e (fun q5 e => ?_)
        refine ax_sipush B dX0_row_172 (by decide) ?_
        refine ax_aload_n B dX0_row_175 rfl hl 3 rfl ?_
        refine ax_iload_n B dX0_row_176 rfl hl 5 rfl ?_
        refine ax_iconst B dX0_row_177 ?_
        refine ax_iadd' B dX0_row_178 ?_
        refine ax_isI (y := yX0_byteAt) (n := 2) (As := [va_rf x1, .int (Int32.ofInt (x3 + 2))]) B (lw_S q697 q698 q125 q699) (by decide +kernel) ⟨Nat.le_of_ble_eq_true rfl, Nat.le_of_ble_eq_true rfl⟩ (fun w1 e1 => mt_X0_byteAt l G hSF x1 (x3 + 2) _ w1 e1) rfl hl.size (by simp only [List.map_cons, List.map_nil, List.sum_cons, List.sum_nil, va_rf_cat, ax_catI, ax_catL]; decide) dX0_row_179 e (fun q6 e => ?_)
        refine ax_imul' B dX0_row_182 ?_
        refine ax_iload B dX0_row_183 hl 0 rfl ?_
        refine ax_iadd' B dX0_row_185 ?_
        refine ax_ivI (y := yX0_debtNow) (n := 3) (As := [.int (Int32.ofInt q4.1), .int (Int32.ofInt q5.1), .int (Int32.ofInt ((256 * q6.1) + (-1)))]) B kd0 (lw_V q480 q482 qs7 q125 q483) (by decide +kernel) ⟨Nat.le_of_ble_eq_true rfl, Nat.le_of_ble_eq_true rfl⟩ (fun w1 e1 => mt_X0_debtNow l G hSF x0 q4.1 q5.1 ((256 * q6.1) + (-1)) _ w1 e1) rfl hl.size (by decide) dX0_row_186 e (fun q7 e => ?_)
        refine ax_if_lt (tgt := 196) B dX0_row_189 (by decide) e (fun e => ?_) (fun e => ?_)
        · exact w_X0_row_196 hSF B Z hn hlt hT x0 x1 x2 x3 (hl.sub [2, 3, 4, 5] rfl) e hp
        · refine ax_iconst B dX0_row_192 ?_
          refine ax_goto (tgt := 197) B dX0_row_193 (by decide) ?_
          exact w_X0_row_197 hSF B Z hn hlt hT x0 x1 x2 x3 1 (hl.sub [2, 3, 4, 5] rfl) e hp
    refine ax_istore (L' := [(4, .inl q2.1), (0, .inr (.inr x0)), (1, .inr (.inr x1)), (2, .inl x2), (3, .inl x3)]) B dX0_row_65 hl (by decide) rfl (fun ls hl => ?_)
    refine ax_iload B dX0_row_67 hl 0 rfl ?_
    refine ax_iconst B dX0_row_69 ?_
    refine ax_icmp_eq (tgt := 110) B dX0_row_70 (by decide) e (fun e => ?_) (fun e => ?_)
    · exact w_X0_row_110 hSF B Z hn hlt hT x0 x1 x2 x3 (hl.sub [1, 2, 3, 4] rfl) e hp
    · refine ax_aload_n B dX0_row_73 rfl hl 1 rfl ?_
      refine ax_aload_n B dX0_row_74 rfl hl 2 rfl ?_
      refine ax_iload_n B dX0_row_75 rfl hl 4 rfl ?_
      refine ax_isI (y := yX0_byteAt) (n := 2) (As := [va_rf x1, .int (Int32.ofInt x3)]) B (lw_S q697 q698 q125 q699) (by decide +kernel) ⟨Nat.le_of_ble_eq_true rfl, Nat.le_of_ble_eq_true rfl⟩ (fun w1 e1 => mt_X0_byteAt l G hSF x1 x3 _ w1 e1) rfl hl.size (by simp only [List.map_cons, List.map_nil, List.sum_cons, List.sum_nil, va_rf_cat, ax_catI, ax_catL]; decide) dX0_row_76 e (fun q8 e => ?_)
      refine ax_aload_n B dX0_row_79 rfl hl 2 rfl ?_
      refine ax_iload_n B dX0_row_80 rfl hl 4 rfl ?_
      refine ax_iconst B dX0_row_81 ?_
      refine ax_iadd' B dX0_row_82 ?_
      refine ax_isI (y := yX0_byteAt) (n := 2) (As := [va_rf x1, .int (Int32.ofInt (x3 + 1))]) B (lw_S q697 q698 q125 q699) (by decide +kernel) ⟨Nat.le_of_ble_eq_true rfl, Nat.le_of_ble_eq_true rfl⟩ (fun w1 e1 => mt_X0_byteAt l G hSF x1 (x3 + 1) _ w1 e1) rfl hl.size (by simp only [List.map_cons, List.map_nil, List.sum_cons, List.sum_nil, va_rf_cat, ax_catI, ax_catL]; decide) dX0_row_83 e (fun q9 e => ?_)
      refine ax_sipush B dX0_row_86 (by decide) ?_
      refine ax_aload_n B dX0_row_89 rfl hl 2 rfl ?_
      refine ax_iload_n B dX0_row_90 rfl hl 4 rfl ?_
      refine ax_iconst B dX0_row_91 ?_
      refine ax_iadd' B dX0_row_92 ?_
      refine ax_isI (y := yX0_byteAt) (n := 2) (As := [va_rf x1, .int (Int32.ofInt (x3 + 2))]) B (lw_S q697 q698 q125 q699) (by decide +kernel) ⟨Nat.le_of_ble_eq_true rfl, Nat.le_of_ble_eq_true rfl⟩ (fun w1 e1 => mt_X0_byteAt l G hSF x1 (x3 + 2) _ w1 e1) rfl hl.size (by simp only [List.map_cons, List.map_nil, List.sum_cons, List.sum_nil, va_rf_cat, ax_catI, ax_catL]; decide) dX0_row_93 e (fun q10 e => ?_)
      refine ax_imul' B dX0_row_96 ?_
      refine ax_iload B dX0_row_97 hl 0 rfl ?_
      refine ax_iadd' B dX0_row_99 ?_
      refine ax_ivI (y := yX0_debtNow) (n := 3) (As := [.int (Int32.ofInt q8.1), .int (Int32.ofInt q9.1), .int (Int32.ofInt ((256 * q10.1) + q2.1))]) B kd0 (lw_V q480 q482 qs7 q125 q483) (by decide +kernel) ⟨Nat.le_of_ble_eq_true rfl, Nat.le_of_ble_eq_true rfl⟩ (fun w1 e1 => mt_X0_debtNow l G hSF x0 q8.1 q9.1 ((256 * q10.1) + q2.1) _ w1 e1) rfl hl.size (by decide) dX0_row_100 e (fun q11 e => ?_)
      refine ax_if_lt (tgt := 110) B dX0_row_103 (by decide) e (fun e => ?_) (fun e => ?_)
      · exact w_X0_row_110 hSF B Z hn hlt hT x0 x1 x2 x3 (hl.sub [1, 2, 3, 4] rfl) e hp
      · refine ax_iconst B dX0_row_106 ?_
        refine ax_goto (tgt := 111) B dX0_row_107 (by decide) ?_
        exact w_X0_row_111 hSF B Z hn hlt hT x0 x1 x2 x3 1 (hl.sub [1, 2, 3, 4] rfl) e hp
  · obtain ⟨w, e9_1, rfl⟩ := Option.map_eq_some_iff.mp e
    have e := e9_1
    refine ax_aload_n B dX0_row_323 rfl hl 0 rfl ?_
    refine ax_iload_n B dX0_row_324 rfl hl 2 rfl ?_
    refine ax_ivI (y := yX0_settled) (n := 1) (As := [.int (Int32.ofInt x2)]) B kd0 (lw_V q447 q449 qs3 q125 q450) (by decide +kernel) ⟨Nat.le_of_ble_eq_true rfl, Nat.le_of_ble_eq_true rfl⟩ (fun w1 e1 => mt_X0_settled l G hSF x0 x2 _ w1 e1) rfl hl.size (by decide) dX0_row_325 e (fun q12 e => ?_)
    have e8 := e
    have hp : Q = _ := hp
    subst hp
    exact ax_ireturn B Z dX0_row_328 e8
theorem w_X0_row_49 {l : Launch} {G : ax_G} {X : ax_X} {Q : State → Prop} {h0 h : ax_H} {ls : Array Slot} (hSF : ax_SF G) (B : ax_BL l G X cX0_row 8 RX0 9 10311) (Z : ax_Z X h0 ((some FieldType.int))) (hn : X.2.2.2.2.2.2.2.2.1.name = yX0_row.name) (hlt : l.stackTraces = false) (hT : ax_tb X = tableOf [(58, 67, 148, 213), (58, 67, 234, 0), (148, 153, 234, 0), (234, 236, 234, 0)]) (x0 : Option Nat) (x1 : Option Nat) (x2 : Int) (x3 : Int) {w : Int × ax_H} (hl : ax_hl ls 8 [(0, .inr (.inr x0)), (1, .inr (.inr x1)), (2, .inl x2), (3, .inl x3)]) (e : f_X0_row_49 G.2.2 x0 x1 x2 x3 h = some w) (hp : (fun w : Int × ax_H => Q = ax_Q G X h0 w.2 (some (.int (Int32.ofInt w.1)))) w) : ax_W G X Q h 49 ls [] :=
  ax_iter_W (Pin := pi_X0_row_49 G X Q x0 x1) (Pout := (fun w : Int × ax_H => Q = ax_Q G X h0 w.2 (some (.int (Int32.ofInt w.1))))) (fun s w e hp ls hl => wb_X0_row_49 hSF B Z hn hlt hT x0 x1 s.1 s.2.1 hl e hp) _ _ e hp ls hl
set_option maxHeartbeats 4000000 in
theorem we_X0_row {l : Launch} {G : ax_G} {X : ax_X} {Q : State → Prop} {h0 h : ax_H} {ls : Array Slot} (hSF : ax_SF G) (B : ax_BL l G X cX0_row 8 RX0 9 10311) (Z : ax_Z X h0 ((some FieldType.int))) (hn : X.2.2.2.2.2.2.2.2.1.name = yX0_row.name) (hlt : l.stackTraces = false) (hT : ax_tb X = tableOf [(58, 67, 148, 213), (58, 67, 234, 0), (148, 153, 234, 0), (234, 236, 234, 0)]) (x0 : Option Nat) {w : Int × ax_H} (hl : ax_hl ls 8 [(0, .inr (.inr x0))]) (e : f_X0_row G.2.2 x0 h = some w) (hp : (fun w : Int × ax_H => Q = ax_Q G X h0 w.2 (some (.int (Int32.ofInt w.1)))) w) : ax_W G X Q h 0 ls [] := by
  unfold f_X0_row at e
  refine ax_aload_n B dX0_row_0 rfl hl 0 rfl ?_
  refine ax_getI B ff_X0_114_0 (fun _ _ => rfl) dX0_row_1 e (fun v1 e => ?_)
  refine ax_if_ne (tgt := 14) B dX0_row_4 (by decide) e (fun e => ?_) (fun e => ?_)
  · refine ax_aload_n B dX0_row_7 rfl hl 0 rfl ?_
    refine ax_bipush B dX0_row_8 (by decide) ?_
    refine ax_ivI (y := yX0_tell) (n := 1) (As := [.int (Int32.ofInt (-6))]) B kd0 (lw_V q436 q438 qs1 q125 q439) (by decide +kernel) ⟨Nat.le_of_ble_eq_true rfl, Nat.le_of_ble_eq_true rfl⟩ (fun w1 e1 => mt_X0_tell l G hSF x0 (-6) _ w1 e1) rfl hl.size (by decide) dX0_row_10 e (fun q2 e => ?_)
    have e8 := e
    have hp : Q = _ := hp
    subst hp
    exact ax_ireturn B Z dX0_row_13 e8
  · refine ax_aload_n B dX0_row_14 rfl hl 0 rfl ?_
    refine ax_getI B ff_X0_114_0 (fun _ _ => rfl) dX0_row_15 e (fun v3 e => ?_)
    refine ax_newa (atype := .byte) B kd101 q407 rfl (by decide) dX0_row_18 e (fun q4 e => ?_)
    refine ax_astore_n (L' := [(1, .inr (.inr (some q4.1))), (0, .inr (.inr x0))]) B dX0_row_20 rfl hl (by decide) rfl (fun ls hl => ?_)
    refine ax_aload_n B dX0_row_21 rfl hl 1 rfl ?_
    refine ax_getR B ff_X0_67_0 (fun _ _ => rfl) dX0_row_22 e (fun v5 e => ?_)
    refine ax_iconst B dX0_row_25 ?_
    refine ax_aload_n B dX0_row_26 rfl hl 0 rfl ?_
    refine ax_iconst B dX0_row_27 ?_
    refine ax_aload_n B dX0_row_28 rfl hl 1 rfl ?_
    refine ax_getI B ff_X0_114_0 (fun _ _ => rfl) dX0_row_29 e (fun v6 e => ?_)
    refine ax_copyB B q694 q696 q695 q143 hl.size (by decide) (by decide) dX0_row_32 e (fun h7 e => ?_)
    refine ax_aload_n B dX0_row_35 rfl hl 1 rfl ?_
    refine ax_iconst B dX0_row_36 ?_
    refine ax_putI B ff_X0_114_0 (Or.inl rfl) rfl dX0_row_37 e (fun h8 e => ?_)
    refine ax_aload_n B dX0_row_40 rfl hl 1 rfl ?_
    refine ax_iconst B dX0_row_41 ?_
    refine ax_putI B ff_X0_206_0 (Or.inl rfl) rfl dX0_row_42 e (fun h9 e => ?_)
    refine ax_iconst B dX0_row_45 ?_
    refine ax_istore_n (L' := [(2, .inl 0), (1, .inr (.inr (some q4.1))), (0, .inr (.inr x0))]) B dX0_row_46 rfl hl (by decide) rfl (fun ls hl => ?_)
    refine ax_iconst B dX0_row_47 ?_
    refine ax_istore_n (L' := [(3, .inl 0), (2, .inl 0), (1, .inr (.inr (some q4.1))), (0, .inr (.inr x0))]) B dX0_row_48 rfl hl (by decide) rfl (fun ls hl => ?_)
    exact w_X0_row_49 hSF B Z hn hlt hT x0 (some q4.1) 0 0 (hl.sub [3, 2, 1, 0] rfl) e hp
theorem mt_X0_row (l : Launch) (G : ax_G) (hSF : ax_SF G) (hlt : l.stackTraces = false) (x0 : Option Nat) (h : ax_H) (w : Int × ax_H) (e : f_X0_row G.2.2 x0 h = some w) : ax_MetW l G yX0_row cX0_row 8 ((some FieldType.int)) [(58, 67, 148, 213), (58, 67, 234, 0), (148, 153, 234, 0), (234, 236, 234, 0)] 9 10311 [va_rf x0] h w.2 (some (.int (Int32.ofInt w.1))) :=
  ax_enterW [.inr (.inr x0)] (y := yX0_row) hSF (by decide +kernel) (Nat.le_of_ble_eq_true rfl) (fun X ls B Z hn hT hl => we_X0_row hSF B Z hn hlt hT x0 hl e rfl)
