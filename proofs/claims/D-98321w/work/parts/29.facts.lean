set_option maxRecDepth 100000
theorem ff_J1_7_42 : ax_FF RJ1 7 42 0 (tyJ2 0) 0 false := ⟨RJ2, TJ2, 3, tyJ2, "java/util/AbstractList", kd42, in_J2, tyJ2_ok, apJ2, by decide, rfl, ⟨fun _ => rfl, fun h => absurd h (by decide)⟩, q207, Or.inl rfl, fun h => absurd h (by decide)⟩
theorem ff_J2_9_42 : ax_FF RJ2 9 42 1 (tyJ2 1) 0 false := ⟨RJ2, TJ2, 3, tyJ2, "java/util/ArrayList", kd42, in_J2, tyJ2_ok, apJ2, by decide, rfl, ⟨fun _ => rfl, fun h => absurd h (by decide)⟩, q205, Or.inl rfl, fun h => absurd h (by decide)⟩
theorem ff_X2_9_2 : ax_FF RX2 9 2 0 (tyX2 0) 1 false := ⟨RX2, TX2, 7, tyX2, "DebtDoors$Books", kd2, in_X2, tyX2_ok, apX2, by decide, rfl, ⟨fun h => absurd h (by decide), fun _ => rfl⟩, q223, Or.inl rfl, fun _ => rfl⟩
theorem ff_X2_15_2 : ax_FF RX2 15 2 1 (tyX2 1) 1 false := ⟨RX2, TX2, 7, tyX2, "DebtDoors$Books", kd2, in_X2, tyX2_ok, apX2, by decide, rfl, ⟨fun h => absurd h (by decide), fun _ => rfl⟩, q226, Or.inl rfl, fun _ => rfl⟩
theorem ff_X2_18_2 : ax_FF RX2 18 2 2 (tyX2 2) 1 false := ⟨RX2, TX2, 7, tyX2, "DebtDoors$Books", kd2, in_X2, tyX2_ok, apX2, by decide, rfl, ⟨fun h => absurd h (by decide), fun _ => rfl⟩, q229, Or.inl rfl, fun _ => rfl⟩
theorem ff_X2_21_2 : ax_FF RX2 21 2 3 (tyX2 3) 1 false := ⟨RX2, TX2, 7, tyX2, "DebtDoors$Books", kd2, in_X2, tyX2_ok, apX2, by decide, rfl, ⟨fun h => absurd h (by decide), fun _ => rfl⟩, q232, Or.inl rfl, fun _ => rfl⟩
theorem ff_X2_24_2 : ax_FF RX2 24 2 4 (tyX2 4) 1 false := ⟨RX2, TX2, 7, tyX2, "DebtDoors$Books", kd2, in_X2, tyX2_ok, apX2, by decide, rfl, ⟨fun h => absurd h (by decide), fun _ => rfl⟩, q235, Or.inl rfl, fun _ => rfl⟩
theorem ff_X1_12_1 : ax_FF RX1 12 1 0 (tyX1 0) 1 false := ⟨RX1, TX1, 9, tyX1, "DebtDoors$Street", kd1, in_X1, tyX1_ok, apX1, by decide, rfl, ⟨fun h => absurd h (by decide), fun _ => rfl⟩, q260, Or.inl rfl, fun _ => rfl⟩
theorem ff_X1_18_1 : ax_FF RX1 18 1 1 (tyX1 1) 1 false := ⟨RX1, TX1, 9, tyX1, "DebtDoors$Street", kd1, in_X1, tyX1_ok, apX1, by decide, rfl, ⟨fun h => absurd h (by decide), fun _ => rfl⟩, q263, Or.inl rfl, fun _ => rfl⟩
theorem ff_X1_21_1 : ax_FF RX1 21 1 2 (tyX1 2) 1 false := ⟨RX1, TX1, 9, tyX1, "DebtDoors$Street", kd1, in_X1, tyX1_ok, apX1, by decide, rfl, ⟨fun h => absurd h (by decide), fun _ => rfl⟩, q266, Or.inl rfl, fun _ => rfl⟩
theorem ff_X1_27_1 : ax_FF RX1 27 1 3 (tyX1 3) 1 false := ⟨RX1, TX1, 9, tyX1, "DebtDoors$Street", kd1, in_X1, tyX1_ok, apX1, by decide, rfl, ⟨fun h => absurd h (by decide), fun _ => rfl⟩, q268, Or.inl rfl, fun _ => rfl⟩
theorem ff_X1_31_1 : ax_FF RX1 31 1 4 (tyX1 4) 1 false := ⟨RX1, TX1, 9, tyX1, "DebtDoors$Street", kd1, in_X1, tyX1_ok, apX1, by decide, rfl, ⟨fun h => absurd h (by decide), fun _ => rfl⟩, q270, Or.inl rfl, fun _ => rfl⟩
theorem ff_X1_35_1 : ax_FF RX1 35 1 5 (tyX1 5) 1 false := ⟨RX1, TX1, 9, tyX1, "DebtDoors$Street", kd1, in_X1, tyX1_ok, apX1, by decide, rfl, ⟨fun h => absurd h (by decide), fun _ => rfl⟩, q272, Or.inl rfl, fun _ => rfl⟩
theorem ff_X1_38_1 : ax_FF RX1 38 1 8 (tyX1 8) 0 false := ⟨RX1, TX1, 9, tyX1, "DebtDoors$Street", kd1, in_X1, tyX1_ok, apX1, by decide, rfl, ⟨fun _ => rfl, fun h => absurd h (by decide)⟩, q279, Or.inl rfl, fun h => absurd h (by decide)⟩
theorem ff_X3_7_3 : ax_FF RX3 7 3 0 (tyX3 0) 1 false := ⟨RX3, TX3, 2, tyX3, "DebtDoors$Asked", kd3, in_X3, tyX3_ok, apX3, by decide, rfl, ⟨fun h => absurd h (by decide), fun _ => rfl⟩, q309, Or.inl rfl, fun _ => rfl⟩
theorem ff_X4_7_4 : ax_FF RX4 7 4 0 (tyX4 0) 1 false := ⟨RX4, TX4, 1, tyX4, "DebtDoors$Text", kd4, in_X4, tyX4_ok, apX4, by decide, rfl, ⟨fun h => absurd h (by decide), fun _ => rfl⟩, q334, Or.inl rfl, fun _ => rfl⟩
theorem ff_X0_78_0 : ax_FF RX0 78 0 14 (tyX0 14) 1 false := ⟨RX0, TX0, 18, tyX0, "DebtDoors", kd0, in_X0, tyX0_ok, apX0, by decide, rfl, ⟨fun h => absurd h (by decide), fun _ => rfl⟩, q363, Or.inl rfl, fun _ => rfl⟩
def oj_107 : Nat → Bool := fun t => decide (t ∈ [2])
theorem ok_107 {l : Launch} {G : ax_G} {X : ax_X} {cc : ByteArray} {nL fr lo : Nat} {own : String} (B : ax_BL l G X cc nL own fr lo) : ∀ t : Nat, oj_107 t = true → ax_asg G.1 X.2.2.2.2.1 "DebtDoors$Books" t := by
  intro t ht
  have ht := of_decide_eq_true ht
  simp only [List.mem_cons, List.not_mem_nil, or_false] at ht
  rcases ht with rfl
  · exact ax_same B kd2
theorem ff_X0_20_0 : ax_FF RX0 20 0 0 (tyX0 0) 0 false := ⟨RX0, TX0, 18, tyX0, "DebtDoors", kd0, in_X0, tyX0_ok, apX0, by decide, rfl, ⟨fun _ => rfl, fun h => absurd h (by decide)⟩, q344, Or.inl rfl, fun h => absurd h (by decide)⟩
theorem ff_X0_24_0 : ax_FF RX0 24 0 1 (tyX0 1) 1 false := ⟨RX0, TX0, 18, tyX0, "DebtDoors", kd0, in_X0, tyX0_ok, apX0, by decide, rfl, ⟨fun h => absurd h (by decide), fun _ => rfl⟩, q345, Or.inl rfl, fun _ => rfl⟩
theorem ff_X0_31_0 : ax_FF RX0 31 0 2 (tyX0 2) 1 false := ⟨RX0, TX0, 18, tyX0, "DebtDoors", kd0, in_X0, tyX0_ok, apX0, by decide, rfl, ⟨fun h => absurd h (by decide), fun _ => rfl⟩, q346, Or.inl rfl, fun _ => rfl⟩
theorem ff_X0_38_0 : ax_FF RX0 38 0 3 (tyX0 3) 1 false := ⟨RX0, TX0, 18, tyX0, "DebtDoors", kd0, in_X0, tyX0_ok, apX0, by decide, rfl, ⟨fun h => absurd h (by decide), fun _ => rfl⟩, q347, Or.inl rfl, fun _ => rfl⟩
theorem ff_X0_42_0 : ax_FF RX0 42 0 4 (tyX0 4) 1 false := ⟨RX0, TX0, 18, tyX0, "DebtDoors", kd0, in_X0, tyX0_ok, apX0, by decide, rfl, ⟨fun h => absurd h (by decide), fun _ => rfl⟩, q349, Or.inl rfl, fun _ => rfl⟩
theorem ff_X0_52_0 : ax_FF RX0 52 0 5 (tyX0 5) 1 false := ⟨RX0, TX0, 18, tyX0, "DebtDoors", kd0, in_X0, tyX0_ok, apX0, by decide, rfl, ⟨fun h => absurd h (by decide), fun _ => rfl⟩, q350, Or.inl rfl, fun _ => rfl⟩
theorem ff_X0_56_0 : ax_FF RX0 56 0 6 (tyX0 6) 1 false := ⟨RX0, TX0, 18, tyX0, "DebtDoors", kd0, in_X0, tyX0_ok, apX0, by decide, rfl, ⟨fun h => absurd h (by decide), fun _ => rfl⟩, q351, Or.inl rfl, fun _ => rfl⟩
theorem ff_X0_60_0 : ax_FF RX0 60 0 8 (tyX0 8) 0 false := ⟨RX0, TX0, 18, tyX0, "DebtDoors", kd0, in_X0, tyX0_ok, apX0, by decide, rfl, ⟨fun _ => rfl, fun h => absurd h (by decide)⟩, q353, Or.inl rfl, fun h => absurd h (by decide)⟩
theorem ff_X0_64_0 : ax_FF RX0 64 0 10 (tyX0 10) 0 false := ⟨RX0, TX0, 18, tyX0, "DebtDoors", kd0, in_X0, tyX0_ok, apX0, by decide, rfl, ⟨fun _ => rfl, fun h => absurd h (by decide)⟩, q355, Or.inl rfl, fun h => absurd h (by decide)⟩
theorem ff_X0_67_0 : ax_FF RX0 67 0 11 (tyX0 11) 1 false := ⟨RX0, TX0, 18, tyX0, "DebtDoors", kd0, in_X0, tyX0_ok, apX0, by decide, rfl, ⟨fun h => absurd h (by decide), fun _ => rfl⟩, q358, Or.inl rfl, fun _ => rfl⟩
theorem ff_X0_74_0 : ax_FF RX0 74 0 13 (tyX0 13) 1 false := ⟨RX0, TX0, 18, tyX0, "DebtDoors", kd0, in_X0, tyX0_ok, apX0, by decide, rfl, ⟨fun h => absurd h (by decide), fun _ => rfl⟩, q361, Or.inl rfl, fun _ => rfl⟩
theorem ff_X0_114_0 : ax_FF RX0 114 0 12 (tyX0 12) 0 false := ⟨RX0, TX0, 18, tyX0, "DebtDoors", kd0, in_X0, tyX0_ok, apX0, by decide, rfl, ⟨fun _ => rfl, fun h => absurd h (by decide)⟩, q360, Or.inl rfl, fun h => absurd h (by decide)⟩
theorem cn_X0_9 : Jvm.Cond.constantLong RX0 9 (Int64.ofInt 3) ∈ lw_all := by rw [show Int64.ofInt 3 = (3 : Int64) by decide]; exact q434
theorem cn_X0_3 : Jvm.Cond.constantLong RX0 3 (Int64.ofInt 9999) ∈ lw_all := by rw [show Int64.ofInt 9999 = (9999 : Int64) by decide]; exact q430
theorem cn_X0_124 : Jvm.Cond.constantLong RX0 124 (Int64.ofInt 99) ∈ lw_all := by rw [show Int64.ofInt 99 = (99 : Int64) by decide]; exact q435
theorem ff_X0_88_0 : ax_FF RX0 88 0 7 (tyX0 7) 0 false := ⟨RX0, TX0, 18, tyX0, "DebtDoors", kd0, in_X0, tyX0_ok, apX0, by decide, rfl, ⟨fun _ => rfl, fun h => absurd h (by decide)⟩, q352, Or.inl rfl, fun h => absurd h (by decide)⟩
theorem ff_X0_98_1 : ax_FF RX0 98 1 3 (tyX1 3) 2 true := ⟨RX1, TX1, 9, tyX1, "DebtDoors$Street", kd1, in_X1, tyX1_ok, apX1, by decide, rfl, ⟨fun h => absurd h (by decide), fun h => absurd h (by decide)⟩, ⟨_, q269⟩, Or.inl rfl, fun h => absurd h (by decide)⟩
def oj_104 : Nat → Bool := fun t => decide (t ∈ [0, 1, 10, 11, 12, 13, 14, 15, 17, 18, 19, 2, 21, 23, 24, 25, 26, 27, 28, 3, 30, 31, 32, 33, 4, 5, 7, 8])
theorem ok_104 {l : Launch} {G : ax_G} {X : ax_X} {cc : ByteArray} {nL fr lo : Nat} {own : String} (B : ax_BL l G X cc nL own fr lo) : ∀ t : Nat, oj_104 t = true → ax_asg G.1 X.2.2.2.2.1 "java/lang/Object" t := by
  intro t ht
  have ht := of_decide_eq_true ht
  simp only [List.mem_cons, List.not_mem_nil, or_false] at ht
  rcases ht with rfl | rfl | rfl | rfl | rfl | rfl | rfl | rfl | rfl | rfl | rfl | rfl | rfl | rfl | rfl | rfl | rfl | rfl | rfl | rfl | rfl | rfl | rfl | rfl | rfl | rfl | rfl | rfl
  · exact ax_cast B kd0 q2747
  · exact ax_cast B kd1 q2741
  · exact ax_cast B kd10 q2755
  · exact ax_cast B kd11 q2756
  · exact ax_cast B kd12 q2762
  · exact ax_cast B kd13 q2763
  · exact ax_cast B kd14 q2757
  · exact ax_cast B kd15 q2742
  · exact ax_cast B kd17 q2758
  · exact ax_cast B kd18 q2759
  · exact ax_cast B kd19 q2760
  · exact ax_cast B kd2 q2743
  · exact ax_cast B kd21 q2764
  · exact ax_cast B kd23 q2765
  · exact ax_cast B kd24 q2766
  · exact ax_cast B kd25 q2761
  · exact ax_cast B kd26 q2767
  · exact ax_cast B kd27 q2768
  · exact ax_cast B kd28 q2769
  · exact ax_cast B kd3 q2749
  · exact ax_cast B kd30 q2770
  · exact ax_cast B kd31 q2771
  · exact ax_cast B kd32 q2772
  · exact ax_cast B kd33 q2773
  · exact ax_cast B kd4 q2750
  · exact ax_cast B kd5 q2751
  · exact ax_cast B kd7 q2753
  · exact ax_cast B kd8 q2754
theorem ff_J2_63_42 : ax_FF RJ2 63 42 0 (tyJ2 0) 0 false := ⟨RJ2, TJ2, 3, tyJ2, "java/util/ArrayList", kd42, in_J2, tyJ2_ok, apJ2, by decide, rfl, ⟨fun _ => rfl, fun h => absurd h (by decide)⟩, q208, Or.inr q209, fun h => absurd h (by decide)⟩
theorem ff_J2_48_42 : ax_FF RJ2 48 42 2 (tyJ2 2) 0 false := ⟨RJ2, TJ2, 3, tyJ2, "java/util/ArrayList", kd42, in_J2, tyJ2_ok, apJ2, by decide, rfl, ⟨fun _ => rfl, fun h => absurd h (by decide)⟩, q206, Or.inl rfl, fun h => absurd h (by decide)⟩
theorem ff_X0_101_1 : ax_FF RX0 101 1 6 (tyX1 6) 0 true := ⟨RX1, TX1, 9, tyX1, "DebtDoors$Street", kd1, in_X1, tyX1_ok, apX1, by decide, rfl, ⟨fun _ => rfl, fun h => absurd h (by decide)⟩, ⟨_, q276⟩, Or.inl rfl, fun h => absurd h (by decide)⟩
theorem ff_X0_130_2 : ax_FF RX0 130 2 0 (tyX2 0) 2 true := ⟨RX2, TX2, 7, tyX2, "DebtDoors$Books", kd2, in_X2, tyX2_ok, apX2, by decide, rfl, ⟨fun h => absurd h (by decide), fun h => absurd h (by decide)⟩, ⟨_, q225⟩, Or.inl rfl, fun h => absurd h (by decide)⟩
theorem ff_X0_133_1 : ax_FF RX0 133 1 4 (tyX1 4) 2 true := ⟨RX1, TX1, 9, tyX1, "DebtDoors$Street", kd1, in_X1, tyX1_ok, apX1, by decide, rfl, ⟨fun h => absurd h (by decide), fun h => absurd h (by decide)⟩, ⟨_, q271⟩, Or.inl rfl, fun h => absurd h (by decide)⟩
theorem ff_X0_136_1 : ax_FF RX0 136 1 5 (tyX1 5) 2 true := ⟨RX1, TX1, 9, tyX1, "DebtDoors$Street", kd1, in_X1, tyX1_ok, apX1, by decide, rfl, ⟨fun h => absurd h (by decide), fun h => absurd h (by decide)⟩, ⟨_, q273⟩, Or.inl rfl, fun h => absurd h (by decide)⟩
theorem cn_X0_149 : Jvm.Cond.constantLong RX0 149 (Int64.ofInt 2) ∈ lw_all := by rw [show Int64.ofInt 2 = (2 : Int64) by decide]; exact q475
theorem ff_X2_33_2 : ax_FF RX2 33 2 5 (tyX2 5) 0 false := ⟨RX2, TX2, 7, tyX2, "DebtDoors$Books", kd2, in_X2, tyX2_ok, apX2, by decide, rfl, ⟨fun _ => rfl, fun h => absurd h (by decide)⟩, q238, Or.inl rfl, fun h => absurd h (by decide)⟩
theorem ff_X2_41_2 : ax_FF RX2 41 2 6 (tyX2 6) 0 false := ⟨RX2, TX2, 7, tyX2, "DebtDoors$Books", kd2, in_X2, tyX2_ok, apX2, by decide, rfl, ⟨fun _ => rfl, fun h => absurd h (by decide)⟩, q241, Or.inl rfl, fun h => absurd h (by decide)⟩
theorem ff_X0_107_2 : ax_FF RX0 107 2 5 (tyX2 5) 0 true := ⟨RX2, TX2, 7, tyX2, "DebtDoors$Books", kd2, in_X2, tyX2_ok, apX2, by decide, rfl, ⟨fun _ => rfl, fun h => absurd h (by decide)⟩, ⟨_, q240⟩, Or.inl rfl, fun h => absurd h (by decide)⟩
theorem ff_X0_246_3 : ax_FF RX0 246 3 0 (tyX3 0) 2 true := ⟨RX3, TX3, 2, tyX3, "DebtDoors$Asked", kd3, in_X3, tyX3_ok, apX3, by decide, rfl, ⟨fun h => absurd h (by decide), fun h => absurd h (by decide)⟩, ⟨_, q312⟩, Or.inl rfl, fun h => absurd h (by decide)⟩
theorem cn_X0_250 : Jvm.Cond.constantLong RX0 250 (Int64.ofInt (-1)) ∈ lw_all := by rw [show Int64.ofInt (-1) = (-1 : Int64) by decide]; exact q519
theorem ff_X0_197_1 : ax_FF RX0 197 1 7 (tyX1 7) 0 true := ⟨RX1, TX1, 9, tyX1, "DebtDoors$Street", kd1, in_X1, tyX1_ok, apX1, by decide, rfl, ⟨fun _ => rfl, fun h => absurd h (by decide)⟩, ⟨_, q278⟩, Or.inl rfl, fun h => absurd h (by decide)⟩
theorem ff_X0_239_1 : ax_FF RX0 239 1 8 (tyX1 8) 0 true := ⟨RX1, TX1, 9, tyX1, "DebtDoors$Street", kd1, in_X1, tyX1_ok, apX1, by decide, rfl, ⟨fun _ => rfl, fun h => absurd h (by decide)⟩, ⟨_, q280⟩, Or.inl rfl, fun h => absurd h (by decide)⟩
theorem ff_X0_215_1 : ax_FF RX0 215 1 0 (tyX1 0) 2 true := ⟨RX1, TX1, 9, tyX1, "DebtDoors$Street", kd1, in_X1, tyX1_ok, apX1, by decide, rfl, ⟨fun h => absurd h (by decide), fun h => absurd h (by decide)⟩, ⟨_, q261⟩, Or.inl rfl, fun h => absurd h (by decide)⟩
theorem ff_X10_7_10 : ax_FF RX10 7 10 0 (tyX10 0) 1 false := ⟨RX10, TX10, 1, tyX10, "DebtDoors$Amount", kd10, in_X10, tyX10_ok, apX10, by decide, rfl, ⟨fun h => absurd h (by decide), fun _ => rfl⟩, q954, Or.inl rfl, fun _ => rfl⟩
theorem ff_X11_13_3 : ax_FF RX11 13 3 0 (tyX3 0) 2 true := ⟨RX3, TX3, 2, tyX3, "DebtDoors$Asked", kd3, in_X3, tyX3_ok, apX3, by decide, rfl, ⟨fun h => absurd h (by decide), fun h => absurd h (by decide)⟩, ⟨_, q310⟩, Or.inl rfl, fun h => absurd h (by decide)⟩
theorem ff_X11_7_11 : ax_FF RX11 7 11 0 (tyX11 0) 1 false := ⟨RX11, TX11, 1, tyX11, "DebtDoors$Part", kd11, in_X11, tyX11_ok, apX11, by decide, rfl, ⟨fun h => absurd h (by decide), fun _ => rfl⟩, q988, Or.inl rfl, fun _ => rfl⟩
theorem ff_X12_3_12 : ax_FF RX12 3 12 1 (tyX12 1) 1 false := ⟨RX12, TX12, 2, tyX12, "DebtDoors$Purse", kd12, in_X12, tyX12_ok, apX12, by decide, rfl, ⟨fun h => absurd h (by decide), fun _ => rfl⟩, q976, Or.inl rfl, fun _ => rfl⟩
theorem ff_X12_15_12 : ax_FF RX12 15 12 0 (tyX12 0) 1 false := ⟨RX12, TX12, 2, tyX12, "DebtDoors$Purse", kd12, in_X12, tyX12_ok, apX12, by decide, rfl, ⟨fun h => absurd h (by decide), fun _ => rfl⟩, q975, Or.inl rfl, fun _ => rfl⟩
theorem cn_X12_33 : Jvm.Cond.constantLong RX12 33 (Int64.ofInt (-1)) ∈ lw_all := by rw [show Int64.ofInt (-1) = (-1 : Int64) by decide]; exact q576
theorem ff_X12_27_2 : ax_FF RX12 27 2 0 (tyX2 0) 2 true := ⟨RX2, TX2, 7, tyX2, "DebtDoors$Books", kd2, in_X2, tyX2_ok, apX2, by decide, rfl, ⟨fun h => absurd h (by decide), fun h => absurd h (by decide)⟩, ⟨_, q224⟩, Or.inl rfl, fun h => absurd h (by decide)⟩
theorem ff_X13_1_13 : ax_FF RX13 1 13 2 (tyX13 2) 1 false := ⟨RX13, TX13, 3, tyX13, "DebtDoors$Owed", kd13, in_X13, tyX13_ok, apX13, by decide, rfl, ⟨fun h => absurd h (by decide), fun _ => rfl⟩, q1000, Or.inl rfl, fun _ => rfl⟩
theorem ff_X13_13_13 : ax_FF RX13 13 13 0 (tyX13 0) 1 false := ⟨RX13, TX13, 3, tyX13, "DebtDoors$Owed", kd13, in_X13, tyX13_ok, apX13, by decide, rfl, ⟨fun h => absurd h (by decide), fun _ => rfl⟩, q998, Or.inl rfl, fun _ => rfl⟩
theorem ff_X13_17_13 : ax_FF RX13 17 13 1 (tyX13 1) 1 false := ⟨RX13, TX13, 3, tyX13, "DebtDoors$Owed", kd13, in_X13, tyX13_ok, apX13, by decide, rfl, ⟨fun h => absurd h (by decide), fun _ => rfl⟩, q999, Or.inl rfl, fun _ => rfl⟩
theorem ff_X3_13_3 : ax_FF RX3 13 3 1 (tyX3 1) 0 false := ⟨RX3, TX3, 2, tyX3, "DebtDoors$Asked", kd3, in_X3, tyX3_ok, apX3, by decide, rfl, ⟨fun _ => rfl, fun h => absurd h (by decide)⟩, q314, Or.inl rfl, fun h => absurd h (by decide)⟩
theorem cn_X3_17 : Jvm.Cond.constantLong RX3 17 (Int64.ofInt 1000000000) ∈ lw_all := by rw [show Int64.ofInt 1000000000 = (1000000000 : Int64) by decide]; exact q581
theorem cn_X3_19 : Jvm.Cond.constantLong RX3 19 (Int64.ofInt (-1000000000)) ∈ lw_all := by rw [show Int64.ofInt (-1000000000) = (-1000000000 : Int64) by decide]; exact q582
theorem ff_X14_24_3 : ax_FF RX14 24 3 1 (tyX3 1) 0 true := ⟨RX3, TX3, 2, tyX3, "DebtDoors$Asked", kd3, in_X3, tyX3_ok, apX3, by decide, rfl, ⟨fun _ => rfl, fun h => absurd h (by decide)⟩, ⟨_, q315⟩, Or.inl rfl, fun h => absurd h (by decide)⟩
theorem ff_X14_13_14 : ax_FF RX14 13 14 2 (tyX14 2) 1 false := ⟨RX14, TX14, 3, tyX14, "DebtDoors$Joined", kd14, in_X14, tyX14_ok, apX14, by decide, rfl, ⟨fun h => absurd h (by decide), fun _ => rfl⟩, q1022, Or.inl rfl, fun _ => rfl⟩
theorem ff_X14_7_14 : ax_FF RX14 7 14 0 (tyX14 0) 1 false := ⟨RX14, TX14, 3, tyX14, "DebtDoors$Joined", kd14, in_X14, tyX14_ok, apX14, by decide, rfl, ⟨fun h => absurd h (by decide), fun _ => rfl⟩, q1020, Or.inl rfl, fun _ => rfl⟩
theorem ff_X14_17_14 : ax_FF RX14 17 14 1 (tyX14 1) 1 false := ⟨RX14, TX14, 3, tyX14, "DebtDoors$Joined", kd14, in_X14, tyX14_ok, apX14, by decide, rfl, ⟨fun h => absurd h (by decide), fun _ => rfl⟩, q1021, Or.inl rfl, fun _ => rfl⟩
theorem ff_X17_26_3 : ax_FF RX17 26 3 1 (tyX3 1) 0 true := ⟨RX3, TX3, 2, tyX3, "DebtDoors$Asked", kd3, in_X3, tyX3_ok, apX3, by decide, rfl, ⟨fun _ => rfl, fun h => absurd h (by decide)⟩, ⟨_, q316⟩, Or.inl rfl, fun h => absurd h (by decide)⟩
theorem ff_X17_13_17 : ax_FF RX17 13 17 2 (tyX17 2) 1 false := ⟨RX17, TX17, 3, tyX17, "DebtDoors$Compared", kd17, in_X17, tyX17_ok, apX17, by decide, rfl, ⟨fun h => absurd h (by decide), fun _ => rfl⟩, q1070, Or.inl rfl, fun _ => rfl⟩
theorem ff_X17_7_17 : ax_FF RX17 7 17 0 (tyX17 0) 1 false := ⟨RX17, TX17, 3, tyX17, "DebtDoors$Compared", kd17, in_X17, tyX17_ok, apX17, by decide, rfl, ⟨fun h => absurd h (by decide), fun _ => rfl⟩, q1068, Or.inl rfl, fun _ => rfl⟩
theorem ff_X17_17_17 : ax_FF RX17 17 17 1 (tyX17 1) 1 false := ⟨RX17, TX17, 3, tyX17, "DebtDoors$Compared", kd17, in_X17, tyX17_ok, apX17, by decide, rfl, ⟨fun h => absurd h (by decide), fun _ => rfl⟩, q1069, Or.inl rfl, fun _ => rfl⟩
theorem ff_X19_21_3 : ax_FF RX19 21 3 1 (tyX3 1) 0 true := ⟨RX3, TX3, 2, tyX3, "DebtDoors$Asked", kd3, in_X3, tyX3_ok, apX3, by decide, rfl, ⟨fun _ => rfl, fun h => absurd h (by decide)⟩, ⟨_, q318⟩, Or.inl rfl, fun h => absurd h (by decide)⟩
theorem ff_X19_7_19 : ax_FF RX19 7 19 0 (tyX19 0) 1 false := ⟨RX19, TX19, 2, tyX19, "DebtDoors$Row", kd19, in_X19, tyX19_ok, apX19, by decide, rfl, ⟨fun h => absurd h (by decide), fun _ => rfl⟩, q1104, Or.inl rfl, fun _ => rfl⟩
theorem ff_X19_13_19 : ax_FF RX19 13 19 1 (tyX19 1) 1 false := ⟨RX19, TX19, 2, tyX19, "DebtDoors$Row", kd19, in_X19, tyX19_ok, apX19, by decide, rfl, ⟨fun h => absurd h (by decide), fun _ => rfl⟩, q1105, Or.inl rfl, fun _ => rfl⟩
theorem ff_X18_7_18 : ax_FF RX18 7 18 0 (tyX18 0) 1 false := ⟨RX18, TX18, 1, tyX18, "DebtDoors$Not", kd18, in_X18, tyX18_ok, apX18, by decide, rfl, ⟨fun h => absurd h (by decide), fun _ => rfl⟩, q1084, Or.inl rfl, fun _ => rfl⟩
theorem ff_X18_17_3 : ax_FF RX18 17 3 1 (tyX3 1) 0 true := ⟨RX3, TX3, 2, tyX3, "DebtDoors$Asked", kd3, in_X3, tyX3_ok, apX3, by decide, rfl, ⟨fun _ => rfl, fun h => absurd h (by decide)⟩, ⟨_, q317⟩, Or.inl rfl, fun h => absurd h (by decide)⟩
theorem ff_X15_38_15 : ax_FF RX15 38 15 3 (tyX15 3) 0 false := ⟨RX15, TX15, 4, tyX15, "DebtDoors$Clause", kd15, in_X15, tyX15_ok, apX15, by decide, rfl, ⟨fun _ => rfl, fun h => absurd h (by decide)⟩, q1120, Or.inl rfl, fun h => absurd h (by decide)⟩
theorem ff_X15_21_3 : ax_FF RX15 21 3 1 (tyX3 1) 0 true := ⟨RX3, TX3, 2, tyX3, "DebtDoors$Asked", kd3, in_X3, tyX3_ok, apX3, by decide, rfl, ⟨fun _ => rfl, fun h => absurd h (by decide)⟩, ⟨_, q313⟩, Or.inl rfl, fun h => absurd h (by decide)⟩
theorem ff_X15_13_15 : ax_FF RX15 13 15 1 (tyX15 1) 1 false := ⟨RX15, TX15, 4, tyX15, "DebtDoors$Clause", kd15, in_X15, tyX15_ok, apX15, by decide, rfl, ⟨fun h => absurd h (by decide), fun _ => rfl⟩, q1118, Or.inl rfl, fun _ => rfl⟩
theorem ff_X15_17_15 : ax_FF RX15 17 15 2 (tyX15 2) 1 false := ⟨RX15, TX15, 4, tyX15, "DebtDoors$Clause", kd15, in_X15, tyX15_ok, apX15, by decide, rfl, ⟨fun h => absurd h (by decide), fun _ => rfl⟩, q1119, Or.inl rfl, fun _ => rfl⟩
theorem ff_X4_13_15 : ax_FF RX4 13 15 0 (tyX15 0) 2 true := ⟨RX15, TX15, 4, tyX15, "DebtDoors$Clause", kd15, in_X15, tyX15_ok, apX15, by decide, rfl, ⟨fun h => absurd h (by decide), fun h => absurd h (by decide)⟩, ⟨_, q1117⟩, Or.inl rfl, fun h => absurd h (by decide)⟩
theorem ff_X4_23_15 : ax_FF RX4 23 15 3 (tyX15 3) 0 true := ⟨RX15, TX15, 4, tyX15, "DebtDoors$Clause", kd15, in_X15, tyX15_ok, apX15, by decide, rfl, ⟨fun _ => rfl, fun h => absurd h (by decide)⟩, ⟨_, q1121⟩, Or.inl rfl, fun h => absurd h (by decide)⟩
theorem ff_X0_165_2 : ax_FF RX0 165 2 1 (tyX2 1) 2 true := ⟨RX2, TX2, 7, tyX2, "DebtDoors$Books", kd2, in_X2, tyX2_ok, apX2, by decide, rfl, ⟨fun h => absurd h (by decide), fun h => absurd h (by decide)⟩, ⟨_, q228⟩, Or.inl rfl, fun h => absurd h (by decide)⟩
theorem ff_X0_168_2 : ax_FF RX0 168 2 2 (tyX2 2) 2 true := ⟨RX2, TX2, 7, tyX2, "DebtDoors$Books", kd2, in_X2, tyX2_ok, apX2, by decide, rfl, ⟨fun h => absurd h (by decide), fun h => absurd h (by decide)⟩, ⟨_, q231⟩, Or.inl rfl, fun h => absurd h (by decide)⟩
theorem ff_X0_194_2 : ax_FF RX0 194 2 6 (tyX2 6) 0 true := ⟨RX2, TX2, 7, tyX2, "DebtDoors$Books", kd2, in_X2, tyX2_ok, apX2, by decide, rfl, ⟨fun _ => rfl, fun h => absurd h (by decide)⟩, ⟨_, q243⟩, Or.inl rfl, fun h => absurd h (by decide)⟩
theorem ff_X0_171_2 : ax_FF RX0 171 2 3 (tyX2 3) 2 true := ⟨RX2, TX2, 7, tyX2, "DebtDoors$Books", kd2, in_X2, tyX2_ok, apX2, by decide, rfl, ⟨fun h => absurd h (by decide), fun h => absurd h (by decide)⟩, ⟨_, q234⟩, Or.inl rfl, fun h => absurd h (by decide)⟩
theorem ff_X0_174_2 : ax_FF RX0 174 2 4 (tyX2 4) 2 true := ⟨RX2, TX2, 7, tyX2, "DebtDoors$Books", kd2, in_X2, tyX2_ok, apX2, by decide, rfl, ⟨fun h => absurd h (by decide), fun h => absurd h (by decide)⟩, ⟨_, q236⟩, Or.inl rfl, fun h => absurd h (by decide)⟩
theorem cn_X0_190 : Jvm.Cond.constantLong RX0 190 (Int64.ofInt 999) ∈ lw_all := by rw [show Int64.ofInt 999 = (999 : Int64) by decide]; exact q614
theorem cn_X0_192 : Jvm.Cond.constantLong RX0 192 (Int64.ofInt 9) ∈ lw_all := by rw [show Int64.ofInt 9 = (9 : Int64) by decide]; exact q615
theorem ff_X0_206_0 : ax_FF RX0 206 0 9 (tyX0 9) 0 false := ⟨RX0, TX0, 18, tyX0, "DebtDoors", kd0, in_X0, tyX0_ok, apX0, by decide, rfl, ⟨fun _ => rfl, fun h => absurd h (by decide)⟩, q354, Or.inl rfl, fun h => absurd h (by decide)⟩
theorem ff_X6_3_25 : ax_FF RX6 3 25 7 (tyX25 7) 1 false := ⟨RX25, TX25, 10, tyX25, "DebtDoors$Reader", kd25, in_X25, tyX25_ok, apX25, by decide, rfl, ⟨fun h => absurd h (by decide), fun _ => rfl⟩, q755, Or.inl rfl, fun _ => rfl⟩
theorem ff_X6_3_7 : ax_FF RX6 3 7 7 (tyX7 7) 1 false := ⟨RX7, TX7, 11, tyX7, "DebtDoors$Reader", kd7, in_X7, tyX7_ok, apX7, by decide, rfl, ⟨fun h => absurd h (by decide), fun _ => rfl⟩, q755, Or.inl rfl, fun _ => rfl⟩
theorem fs_X6_3 : ∀ p ∈ [(25, 7), (7, 7)], ax_FF RX6 3 p.1 p.2 (tyX25 7) 1 false := by
  intro p hp
  simp only [List.mem_cons, List.not_mem_nil, or_false] at hp
  rcases hp with rfl | rfl
  · exact ff_X6_3_25
  · exact ff_X6_3_7
theorem ff_X6_17_25 : ax_FF RX6 17 25 5 (tyX25 5) 1 false := ⟨RX25, TX25, 10, tyX25, "DebtDoors$Reader", kd25, in_X25, tyX25_ok, apX25, by decide, rfl, ⟨fun h => absurd h (by decide), fun _ => rfl⟩, q753, Or.inl rfl, fun _ => rfl⟩
theorem ff_X6_17_7 : ax_FF RX6 17 7 5 (tyX7 5) 1 false := ⟨RX7, TX7, 11, tyX7, "DebtDoors$Reader", kd7, in_X7, tyX7_ok, apX7, by decide, rfl, ⟨fun h => absurd h (by decide), fun _ => rfl⟩, q753, Or.inl rfl, fun _ => rfl⟩
theorem fs_X6_17 : ∀ p ∈ [(25, 5), (7, 5)], ax_FF RX6 17 p.1 p.2 (tyX25 5) 1 false := by
  intro p hp
  simp only [List.mem_cons, List.not_mem_nil, or_false] at hp
  rcases hp with rfl | rfl
  · exact ff_X6_17_25
  · exact ff_X6_17_7
theorem ff_X6_21_25 : ax_FF RX6 21 25 6 (tyX25 6) 1 false := ⟨RX25, TX25, 10, tyX25, "DebtDoors$Reader", kd25, in_X25, tyX25_ok, apX25, by decide, rfl, ⟨fun h => absurd h (by decide), fun _ => rfl⟩, q754, Or.inl rfl, fun _ => rfl⟩
theorem ff_X6_21_7 : ax_FF RX6 21 7 6 (tyX7 6) 1 false := ⟨RX7, TX7, 11, tyX7, "DebtDoors$Reader", kd7, in_X7, tyX7_ok, apX7, by decide, rfl, ⟨fun h => absurd h (by decide), fun _ => rfl⟩, q754, Or.inl rfl, fun _ => rfl⟩
theorem fs_X6_21 : ∀ p ∈ [(25, 6), (7, 6)], ax_FF RX6 21 p.1 p.2 (tyX25 6) 1 false := by
  intro p hp
  simp only [List.mem_cons, List.not_mem_nil, or_false] at hp
  rcases hp with rfl | rfl
  · exact ff_X6_21_25
  · exact ff_X6_21_7
theorem ff_X7_3_7 : ax_FF RX7 3 7 10 (tyX7 10) 1 false := ⟨RX7, TX7, 11, tyX7, "DebtDoors$LawReader", kd7, in_X7, tyX7_ok, apX7, by decide, rfl, ⟨fun h => absurd h (by decide), fun _ => rfl⟩, q743, Or.inl rfl, fun _ => rfl⟩
def oj_108 : Nat → Bool := fun t => decide (t ∈ [51])
theorem ok_108 {l : Launch} {G : ax_G} {X : ax_X} {cc : ByteArray} {nL fr lo : Nat} {own : String} (B : ax_BL l G X cc nL own fr lo) : ∀ t : Nat, oj_108 t = true → ax_asg G.1 X.2.2.2.2.1 "java/lang/String" t := by
  intro t ht
  have ht := of_decide_eq_true ht
  simp only [List.mem_cons, List.not_mem_nil, or_false] at ht
  rcases ht with rfl
  · exact ax_same B kd51
theorem ff_X7_39_7 : ax_FF RX7 39 7 8 (tyX7 8) 1 false := ⟨RX7, TX7, 11, tyX7, "DebtDoors$LawReader", kd7, in_X7, tyX7_ok, apX7, by decide, rfl, ⟨fun h => absurd h (by decide), fun _ => rfl⟩, q741, Or.inl rfl, fun _ => rfl⟩
theorem ff_X7_51_7 : ax_FF RX7 51 7 9 (tyX7 9) 1 false := ⟨RX7, TX7, 11, tyX7, "DebtDoors$LawReader", kd7, in_X7, tyX7_ok, apX7, by decide, rfl, ⟨fun h => absurd h (by decide), fun _ => rfl⟩, q742, Or.inl rfl, fun _ => rfl⟩
theorem ff_X6_49_25 : ax_FF RX6 49 25 1 (tyX25 1) 0 false := ⟨RX25, TX25, 10, tyX25, "DebtDoors$Reader", kd25, in_X25, tyX25_ok, apX25, by decide, rfl, ⟨fun _ => rfl, fun h => absurd h (by decide)⟩, q747, Or.inl rfl, fun h => absurd h (by decide)⟩
theorem ff_X6_49_7 : ax_FF RX6 49 7 1 (tyX7 1) 0 false := ⟨RX7, TX7, 11, tyX7, "DebtDoors$Reader", kd7, in_X7, tyX7_ok, apX7, by decide, rfl, ⟨fun _ => rfl, fun h => absurd h (by decide)⟩, q747, Or.inl rfl, fun h => absurd h (by decide)⟩
theorem fs_X6_49 : ∀ p ∈ [(25, 1), (7, 1)], ax_FF RX6 49 p.1 p.2 (tyX25 1) 0 false := by
  intro p hp
  simp only [List.mem_cons, List.not_mem_nil, or_false] at hp
  rcases hp with rfl | rfl
  · exact ff_X6_49_25
  · exact ff_X6_49_7
theorem ff_X6_52_0 : ax_FF RX6 52 0 11 (tyX0 11) 2 true := ⟨RX0, TX0, 18, tyX0, "DebtDoors", kd0, in_X0, tyX0_ok, apX0, by decide, rfl, ⟨fun h => absurd h (by decide), fun h => absurd h (by decide)⟩, ⟨_, q356⟩, Or.inl rfl, fun h => absurd h (by decide)⟩
theorem ff_X6_46_0 : ax_FF RX6 46 0 12 (tyX0 12) 0 true := ⟨RX0, TX0, 18, tyX0, "DebtDoors", kd0, in_X0, tyX0_ok, apX0, by decide, rfl, ⟨fun _ => rfl, fun h => absurd h (by decide)⟩, ⟨_, q359⟩, Or.inl rfl, fun h => absurd h (by decide)⟩
theorem ff_X6_42_25 : ax_FF RX6 42 25 0 (tyX25 0) 0 false := ⟨RX25, TX25, 10, tyX25, "DebtDoors$Reader", kd25, in_X25, tyX25_ok, apX25, by decide, rfl, ⟨fun _ => rfl, fun h => absurd h (by decide)⟩, q744, Or.inl rfl, fun h => absurd h (by decide)⟩
theorem ff_X6_42_7 : ax_FF RX6 42 7 0 (tyX7 0) 0 false := ⟨RX7, TX7, 11, tyX7, "DebtDoors$Reader", kd7, in_X7, tyX7_ok, apX7, by decide, rfl, ⟨fun _ => rfl, fun h => absurd h (by decide)⟩, q744, Or.inl rfl, fun h => absurd h (by decide)⟩
theorem fs_X6_42 : ∀ p ∈ [(25, 0), (7, 0)], ax_FF RX6 42 p.1 p.2 (tyX25 0) 0 false := by
  intro p hp
  simp only [List.mem_cons, List.not_mem_nil, or_false] at hp
  rcases hp with rfl | rfl
  · exact ff_X6_42_25
  · exact ff_X6_42_7
theorem ff_J6_7_46 : ax_FF RJ6 7 46 0 (tyJ6 0) 0 false := ⟨RJ6, TJ6, 5, tyJ6, "java/lang/Throwable", kd46, in_J6, tyJ6_ok, apJ6, by decide, rfl, ⟨fun _ => rfl, fun h => absurd h (by decide)⟩, q654, Or.inl rfl, fun h => absurd h (by decide)⟩
theorem ff_J6_7_8 : ax_FF RJ6 7 8 0 (tyX8 0) 0 false := ⟨RX8, TX8, 7, tyX8, "java/lang/Throwable", kd8, in_X8, tyX8_ok, apX8, by decide, rfl, ⟨fun _ => rfl, fun h => absurd h (by decide)⟩, q654, Or.inl rfl, fun h => absurd h (by decide)⟩
theorem fs_J6_7 : ∀ p ∈ [(46, 0), (8, 0)], ax_FF RJ6 7 p.1 p.2 (tyJ6 0) 0 false := by
  intro p hp
  simp only [List.mem_cons, List.not_mem_nil, or_false] at hp
  rcases hp with rfl | rfl
  · exact ff_J6_7_46
  · exact ff_J6_7_8
theorem ff_J6_17_46 : ax_FF RJ6 17 46 1 (tyJ6 1) 0 false := ⟨RJ6, TJ6, 5, tyJ6, "java/lang/Throwable", kd46, in_J6, tyJ6_ok, apJ6, by decide, rfl, ⟨fun _ => rfl, fun h => absurd h (by decide)⟩, q655, Or.inl rfl, fun h => absurd h (by decide)⟩
theorem ff_J6_17_8 : ax_FF RJ6 17 8 1 (tyX8 1) 0 false := ⟨RX8, TX8, 7, tyX8, "java/lang/Throwable", kd8, in_X8, tyX8_ok, apX8, by decide, rfl, ⟨fun _ => rfl, fun h => absurd h (by decide)⟩, q655, Or.inl rfl, fun h => absurd h (by decide)⟩
theorem fs_J6_17 : ∀ p ∈ [(46, 1), (8, 1)], ax_FF RJ6 17 p.1 p.2 (tyJ6 1) 0 false := by
  intro p hp
  simp only [List.mem_cons, List.not_mem_nil, or_false] at hp
  rcases hp with rfl | rfl
  · exact ff_J6_17_46
  · exact ff_J6_17_8
theorem ff_J6_24_46 : ax_FF RJ6 24 46 2 (tyJ6 2) 0 false := ⟨RJ6, TJ6, 5, tyJ6, "java/lang/Throwable", kd46, in_J6, tyJ6_ok, apJ6, by decide, rfl, ⟨fun _ => rfl, fun h => absurd h (by decide)⟩, q656, Or.inl rfl, fun h => absurd h (by decide)⟩
theorem ff_J6_24_8 : ax_FF RJ6 24 8 2 (tyX8 2) 0 false := ⟨RX8, TX8, 7, tyX8, "java/lang/Throwable", kd8, in_X8, tyX8_ok, apX8, by decide, rfl, ⟨fun _ => rfl, fun h => absurd h (by decide)⟩, q656, Or.inl rfl, fun h => absurd h (by decide)⟩
theorem fs_J6_24 : ∀ p ∈ [(46, 2), (8, 2)], ax_FF RJ6 24 p.1 p.2 (tyJ6 2) 0 false := by
  intro p hp
  simp only [List.mem_cons, List.not_mem_nil, or_false] at hp
  rcases hp with rfl | rfl
  · exact ff_J6_24_46
  · exact ff_J6_24_8
theorem ff_J6_31_46 : ax_FF RJ6 31 46 3 (tyJ6 3) 0 false := ⟨RJ6, TJ6, 5, tyJ6, "java/lang/Throwable", kd46, in_J6, tyJ6_ok, apJ6, by decide, rfl, ⟨fun _ => rfl, fun h => absurd h (by decide)⟩, q653, Or.inl rfl, fun h => absurd h (by decide)⟩
theorem ff_J6_31_8 : ax_FF RJ6 31 8 3 (tyX8 3) 0 false := ⟨RX8, TX8, 7, tyX8, "java/lang/Throwable", kd8, in_X8, tyX8_ok, apX8, by decide, rfl, ⟨fun _ => rfl, fun h => absurd h (by decide)⟩, q653, Or.inl rfl, fun h => absurd h (by decide)⟩
theorem fs_J6_31 : ∀ p ∈ [(46, 3), (8, 3)], ax_FF RJ6 31 p.1 p.2 (tyJ6 3) 0 false := by
  intro p hp
  simp only [List.mem_cons, List.not_mem_nil, or_false] at hp
  rcases hp with rfl | rfl
  · exact ff_J6_31_46
  · exact ff_J6_31_8
theorem ff_X8_7_8 : ax_FF RX8 7 8 6 (tyX8 6) 1 false := ⟨RX8, TX8, 7, tyX8, "DebtDoors$Wrong", kd8, in_X8, tyX8_ok, apX8, by decide, rfl, ⟨fun h => absurd h (by decide), fun _ => rfl⟩, q825, Or.inl rfl, fun _ => rfl⟩
theorem ff_J11_15_51 : ax_FF RJ11 15 51 1 (tyJ11 1) 1 false := ⟨RJ11, TJ11, 2, tyJ11, "java/lang/String", kd51, in_J11, tyJ11_ok, apJ11, by decide, rfl, ⟨fun h => absurd h (by decide), fun _ => rfl⟩, q2796, Or.inl rfl, fun _ => rfl⟩
theorem ff_J11_9_51 : ax_FF RJ11 9 51 0 (tyJ11 0) 1 false := ⟨RJ11, TJ11, 2, tyJ11, "java/lang/String", kd51, in_J11, tyJ11_ok, apJ11, by decide, rfl, ⟨fun h => absurd h (by decide), fun _ => rfl⟩, q2795, Or.inl rfl, fun _ => rfl⟩
theorem ff_X20_3_21 : ax_FF RX20 3 21 3 (tyX21 3) 1 false := ⟨RX21, TX21, 5, tyX21, "DebtDoors$Order", kd21, in_X21, tyX21_ok, apX21, by decide, rfl, ⟨fun h => absurd h (by decide), fun _ => rfl⟩, q1159, Or.inl rfl, fun _ => rfl⟩
theorem ff_X20_3_23 : ax_FF RX20 3 23 7 (tyX23 7) 1 false := ⟨RX23, TX23, 9, tyX23, "DebtDoors$Order", kd23, in_X23, tyX23_ok, apX23, by decide, rfl, ⟨fun h => absurd h (by decide), fun _ => rfl⟩, q1159, Or.inl rfl, fun _ => rfl⟩
theorem ff_X20_3_24 : ax_FF RX20 3 24 7 (tyX24 7) 1 false := ⟨RX24, TX24, 9, tyX24, "DebtDoors$Order", kd24, in_X24, tyX24_ok, apX24, by decide, rfl, ⟨fun h => absurd h (by decide), fun _ => rfl⟩, q1159, Or.inl rfl, fun _ => rfl⟩
theorem fs_X20_3 : ∀ p ∈ [(21, 3), (23, 7), (24, 7)], ax_FF RX20 3 p.1 p.2 (tyX21 3) 1 false := by
  intro p hp
  simp only [List.mem_cons, List.not_mem_nil, or_false] at hp
  rcases hp with rfl | rfl | rfl
  · exact ff_X20_3_21
  · exact ff_X20_3_23
  · exact ff_X20_3_24
theorem ff_X20_15_21 : ax_FF RX20 15 21 1 (tyX21 1) 0 false := ⟨RX21, TX21, 5, tyX21, "DebtDoors$Order", kd21, in_X21, tyX21_ok, apX21, by decide, rfl, ⟨fun _ => rfl, fun h => absurd h (by decide)⟩, q1155, Or.inl rfl, fun h => absurd h (by decide)⟩
theorem ff_X20_15_23 : ax_FF RX20 15 23 5 (tyX23 5) 0 false := ⟨RX23, TX23, 9, tyX23, "DebtDoors$Order", kd23, in_X23, tyX23_ok, apX23, by decide, rfl, ⟨fun _ => rfl, fun h => absurd h (by decide)⟩, q1155, Or.inl rfl, fun h => absurd h (by decide)⟩
theorem ff_X20_15_24 : ax_FF RX20 15 24 5 (tyX24 5) 0 false := ⟨RX24, TX24, 9, tyX24, "DebtDoors$Order", kd24, in_X24, tyX24_ok, apX24, by decide, rfl, ⟨fun _ => rfl, fun h => absurd h (by decide)⟩, q1155, Or.inl rfl, fun h => absurd h (by decide)⟩
theorem fs_X20_15 : ∀ p ∈ [(21, 1), (23, 5), (24, 5)], ax_FF RX20 15 p.1 p.2 (tyX21 1) 0 false := by
  intro p hp
  simp only [List.mem_cons, List.not_mem_nil, or_false] at hp
  rcases hp with rfl | rfl | rfl
  · exact ff_X20_15_21
  · exact ff_X20_15_23
  · exact ff_X20_15_24
theorem ff_X21_1_21 : ax_FF RX21 1 21 4 (tyX21 4) 1 false := ⟨RX21, TX21, 5, tyX21, "DebtDoors$Wait", kd21, in_X21, tyX21_ok, apX21, by decide, rfl, ⟨fun h => absurd h (by decide), fun _ => rfl⟩, q1152, Or.inl rfl, fun _ => rfl⟩
theorem ff_X6_113_25 : ax_FF RX6 113 25 3 (tyX25 3) 0 false := ⟨RX25, TX25, 10, tyX25, "DebtDoors$Reader", kd25, in_X25, tyX25_ok, apX25, by decide, rfl, ⟨fun _ => rfl, fun h => absurd h (by decide)⟩, q751, Or.inl rfl, fun h => absurd h (by decide)⟩
theorem ff_X6_113_7 : ax_FF RX6 113 7 3 (tyX7 3) 0 false := ⟨RX7, TX7, 11, tyX7, "DebtDoors$Reader", kd7, in_X7, tyX7_ok, apX7, by decide, rfl, ⟨fun _ => rfl, fun h => absurd h (by decide)⟩, q751, Or.inl rfl, fun h => absurd h (by decide)⟩
theorem fs_X6_113 : ∀ p ∈ [(25, 3), (7, 3)], ax_FF RX6 113 p.1 p.2 (tyX25 3) 0 false := by
  intro p hp
  simp only [List.mem_cons, List.not_mem_nil, or_false] at hp
  rcases hp with rfl | rfl
  · exact ff_X6_113_25
  · exact ff_X6_113_7
theorem ff_X6_116_25 : ax_FF RX6 116 25 2 (tyX25 2) 0 false := ⟨RX25, TX25, 10, tyX25, "DebtDoors$Reader", kd25, in_X25, tyX25_ok, apX25, by decide, rfl, ⟨fun _ => rfl, fun h => absurd h (by decide)⟩, q750, Or.inl rfl, fun h => absurd h (by decide)⟩
theorem ff_X6_116_7 : ax_FF RX6 116 7 2 (tyX7 2) 0 false := ⟨RX7, TX7, 11, tyX7, "DebtDoors$Reader", kd7, in_X7, tyX7_ok, apX7, by decide, rfl, ⟨fun _ => rfl, fun h => absurd h (by decide)⟩, q750, Or.inl rfl, fun h => absurd h (by decide)⟩
theorem fs_X6_116 : ∀ p ∈ [(25, 2), (7, 2)], ax_FF RX6 116 p.1 p.2 (tyX25 2) 0 false := by
  intro p hp
  simp only [List.mem_cons, List.not_mem_nil, or_false] at hp
  rcases hp with rfl | rfl
  · exact ff_X6_116_25
  · exact ff_X6_116_7
theorem ff_X25_3_25 : ax_FF RX25 3 25 9 (tyX25 9) 1 false := ⟨RX25, TX25, 10, tyX25, "DebtDoors$OrderReader", kd25, in_X25, tyX25_ok, apX25, by decide, rfl, ⟨fun h => absurd h (by decide), fun _ => rfl⟩, q1795, Or.inl rfl, fun _ => rfl⟩
theorem ff_X22_1_23 : ax_FF RX22 1 23 3 (tyX23 3) 1 false := ⟨RX23, TX23, 9, tyX23, "DebtDoors$Payment", kd23, in_X23, tyX23_ok, apX23, by decide, rfl, ⟨fun h => absurd h (by decide), fun _ => rfl⟩, q1198, Or.inl rfl, fun _ => rfl⟩
theorem ff_X22_1_24 : ax_FF RX22 1 24 3 (tyX24 3) 1 false := ⟨RX24, TX24, 9, tyX24, "DebtDoors$Payment", kd24, in_X24, tyX24_ok, apX24, by decide, rfl, ⟨fun h => absurd h (by decide), fun _ => rfl⟩, q1198, Or.inl rfl, fun _ => rfl⟩
theorem fs_X22_1 : ∀ p ∈ [(23, 3), (24, 3)], ax_FF RX22 1 p.1 p.2 (tyX23 3) 1 false := by
  intro p hp
  simp only [List.mem_cons, List.not_mem_nil, or_false] at hp
  rcases hp with rfl | rfl
  · exact ff_X22_1_23
  · exact ff_X22_1_24
theorem ff_X22_13_23 : ax_FF RX22 13 23 0 (tyX23 0) 1 false := ⟨RX23, TX23, 9, tyX23, "DebtDoors$Payment", kd23, in_X23, tyX23_ok, apX23, by decide, rfl, ⟨fun h => absurd h (by decide), fun _ => rfl⟩, q1195, Or.inl rfl, fun _ => rfl⟩
theorem ff_X22_13_24 : ax_FF RX22 13 24 0 (tyX24 0) 1 false := ⟨RX24, TX24, 9, tyX24, "DebtDoors$Payment", kd24, in_X24, tyX24_ok, apX24, by decide, rfl, ⟨fun h => absurd h (by decide), fun _ => rfl⟩, q1195, Or.inl rfl, fun _ => rfl⟩
theorem fs_X22_13 : ∀ p ∈ [(23, 0), (24, 0)], ax_FF RX22 13 p.1 p.2 (tyX23 0) 1 false := by
  intro p hp
  simp only [List.mem_cons, List.not_mem_nil, or_false] at hp
  rcases hp with rfl | rfl
  · exact ff_X22_13_23
  · exact ff_X22_13_24
theorem ff_X22_17_23 : ax_FF RX22 17 23 1 (tyX23 1) 1 false := ⟨RX23, TX23, 9, tyX23, "DebtDoors$Payment", kd23, in_X23, tyX23_ok, apX23, by decide, rfl, ⟨fun h => absurd h (by decide), fun _ => rfl⟩, q1196, Or.inl rfl, fun _ => rfl⟩
theorem ff_X22_17_24 : ax_FF RX22 17 24 1 (tyX24 1) 1 false := ⟨RX24, TX24, 9, tyX24, "DebtDoors$Payment", kd24, in_X24, tyX24_ok, apX24, by decide, rfl, ⟨fun h => absurd h (by decide), fun _ => rfl⟩, q1196, Or.inl rfl, fun _ => rfl⟩
theorem fs_X22_17 : ∀ p ∈ [(23, 1), (24, 1)], ax_FF RX22 17 p.1 p.2 (tyX23 1) 1 false := by
  intro p hp
  simp only [List.mem_cons, List.not_mem_nil, or_false] at hp
  rcases hp with rfl | rfl
  · exact ff_X22_17_23
  · exact ff_X22_17_24
theorem ff_X22_20_23 : ax_FF RX22 20 23 2 (tyX23 2) 1 false := ⟨RX23, TX23, 9, tyX23, "DebtDoors$Payment", kd23, in_X23, tyX23_ok, apX23, by decide, rfl, ⟨fun h => absurd h (by decide), fun _ => rfl⟩, q1197, Or.inl rfl, fun _ => rfl⟩
theorem ff_X22_20_24 : ax_FF RX22 20 24 2 (tyX24 2) 1 false := ⟨RX24, TX24, 9, tyX24, "DebtDoors$Payment", kd24, in_X24, tyX24_ok, apX24, by decide, rfl, ⟨fun h => absurd h (by decide), fun _ => rfl⟩, q1197, Or.inl rfl, fun _ => rfl⟩
theorem fs_X22_20 : ∀ p ∈ [(23, 2), (24, 2)], ax_FF RX22 20 p.1 p.2 (tyX23 2) 1 false := by
  intro p hp
  simp only [List.mem_cons, List.not_mem_nil, or_false] at hp
  rcases hp with rfl | rfl
  · exact ff_X22_20_23
  · exact ff_X22_20_24
theorem ff_X23_1_23 : ax_FF RX23 1 23 8 (tyX23 8) 1 false := ⟨RX23, TX23, 9, tyX23, "DebtDoors$Lend", kd23, in_X23, tyX23_ok, apX23, by decide, rfl, ⟨fun h => absurd h (by decide), fun _ => rfl⟩, q1194, Or.inl rfl, fun _ => rfl⟩
theorem ff_X24_1_24 : ax_FF RX24 1 24 8 (tyX24 8) 1 false := ⟨RX24, TX24, 9, tyX24, "DebtDoors$Repay", kd24, in_X24, tyX24_ok, apX24, by decide, rfl, ⟨fun h => absurd h (by decide), fun _ => rfl⟩, q1220, Or.inl rfl, fun _ => rfl⟩
theorem ff_X25_61_25 : ax_FF RX25 61 25 1 (tyX25 1) 0 false := ⟨RX25, TX25, 10, tyX25, "DebtDoors$OrderReader", kd25, in_X25, tyX25_ok, apX25, by decide, rfl, ⟨fun _ => rfl, fun h => absurd h (by decide)⟩, q748, Or.inr q749, fun h => absurd h (by decide)⟩
theorem ff_X25_64_0 : ax_FF RX25 64 0 11 (tyX0 11) 2 true := ⟨RX0, TX0, 18, tyX0, "DebtDoors", kd0, in_X0, tyX0_ok, apX0, by decide, rfl, ⟨fun h => absurd h (by decide), fun h => absurd h (by decide)⟩, ⟨_, q357⟩, Or.inl rfl, fun h => absurd h (by decide)⟩
theorem ff_X25_57_25 : ax_FF RX25 57 25 0 (tyX25 0) 0 false := ⟨RX25, TX25, 10, tyX25, "DebtDoors$OrderReader", kd25, in_X25, tyX25_ok, apX25, by decide, rfl, ⟨fun _ => rfl, fun h => absurd h (by decide)⟩, q745, Or.inr q746, fun h => absurd h (by decide)⟩
theorem ff_X6_80_25 : ax_FF RX6 80 25 4 (tyX25 4) 0 false := ⟨RX25, TX25, 10, tyX25, "DebtDoors$Reader", kd25, in_X25, tyX25_ok, apX25, by decide, rfl, ⟨fun _ => rfl, fun h => absurd h (by decide)⟩, q752, Or.inl rfl, fun h => absurd h (by decide)⟩
theorem ff_X6_80_7 : ax_FF RX6 80 7 4 (tyX7 4) 0 false := ⟨RX7, TX7, 11, tyX7, "DebtDoors$Reader", kd7, in_X7, tyX7_ok, apX7, by decide, rfl, ⟨fun _ => rfl, fun h => absurd h (by decide)⟩, q752, Or.inl rfl, fun h => absurd h (by decide)⟩
theorem fs_X6_80 : ∀ p ∈ [(25, 4), (7, 4)], ax_FF RX6 80 p.1 p.2 (tyX25 4) 0 false := by
  intro p hp
  simp only [List.mem_cons, List.not_mem_nil, or_false] at hp
  rcases hp with rfl | rfl
  · exact ff_X6_80_25
  · exact ff_X6_80_7
def oj_109 : Nat → Bool := fun t => decide (t ∈ [17, 18, 19])
theorem ok_109 {l : Launch} {G : ax_G} {X : ax_X} {cc : ByteArray} {nL fr lo : Nat} {own : String} (B : ax_BL l G X cc nL own fr lo) : ∀ t : Nat, oj_109 t = true → ax_asg G.1 X.2.2.2.2.1 "DebtDoors$Test" t := by
  intro t ht
  have ht := of_decide_eq_true ht
  simp only [List.mem_cons, List.not_mem_nil, or_false] at ht
  rcases ht with rfl | rfl | rfl
  · exact ax_cast B kd17 q2775
  · exact ax_cast B kd18 q2776
  · exact ax_cast B kd19 q2777
theorem ff_X25_133_21 : ax_FF RX25 133 21 0 (tyX21 0) 0 false := ⟨RX21, TX21, 5, tyX21, "DebtDoors$Order", kd21, in_X21, tyX21_ok, apX21, by decide, rfl, ⟨fun _ => rfl, fun h => absurd h (by decide)⟩, q1154, Or.inl rfl, fun h => absurd h (by decide)⟩
theorem ff_X25_133_23 : ax_FF RX25 133 23 4 (tyX23 4) 0 false := ⟨RX23, TX23, 9, tyX23, "DebtDoors$Order", kd23, in_X23, tyX23_ok, apX23, by decide, rfl, ⟨fun _ => rfl, fun h => absurd h (by decide)⟩, q1154, Or.inl rfl, fun h => absurd h (by decide)⟩
theorem ff_X25_133_24 : ax_FF RX25 133 24 4 (tyX24 4) 0 false := ⟨RX24, TX24, 9, tyX24, "DebtDoors$Order", kd24, in_X24, tyX24_ok, apX24, by decide, rfl, ⟨fun _ => rfl, fun h => absurd h (by decide)⟩, q1154, Or.inl rfl, fun h => absurd h (by decide)⟩
theorem fs_X25_133 : ∀ p ∈ [(21, 0), (23, 4), (24, 4)], ax_FF RX25 133 p.1 p.2 (tyX21 0) 0 false := by
  intro p hp
  simp only [List.mem_cons, List.not_mem_nil, or_false] at hp
  rcases hp with rfl | rfl | rfl
  · exact ff_X25_133_21
  · exact ff_X25_133_23
  · exact ff_X25_133_24
theorem ff_X25_31_25 : ax_FF RX25 31 25 8 (tyX25 8) 1 false := ⟨RX25, TX25, 10, tyX25, "DebtDoors$OrderReader", kd25, in_X25, tyX25_ok, apX25, by decide, rfl, ⟨fun h => absurd h (by decide), fun _ => rfl⟩, q1794, Or.inl rfl, fun _ => rfl⟩
def oj_110 : Nat → Bool := fun t => decide (t ∈ [21, 23, 24])
theorem ok_110 {l : Launch} {G : ax_G} {X : ax_X} {cc : ByteArray} {nL fr lo : Nat} {own : String} (B : ax_BL l G X cc nL own fr lo) : ∀ t : Nat, oj_110 t = true → ax_asg G.1 X.2.2.2.2.1 "DebtDoors$Order" t := by
  intro t ht
  have ht := of_decide_eq_true ht
  simp only [List.mem_cons, List.not_mem_nil, or_false] at ht
  rcases ht with rfl | rfl | rfl
  · exact ax_cast B kd21 q2778
  · exact ax_cast B kd23 q2779
  · exact ax_cast B kd24 q2780
theorem ff_X25_125_21 : ax_FF RX25 125 21 1 (tyX21 1) 0 false := ⟨RX21, TX21, 5, tyX21, "DebtDoors$Order", kd21, in_X21, tyX21_ok, apX21, by decide, rfl, ⟨fun _ => rfl, fun h => absurd h (by decide)⟩, q1156, Or.inl rfl, fun h => absurd h (by decide)⟩
theorem ff_X25_125_23 : ax_FF RX25 125 23 5 (tyX23 5) 0 false := ⟨RX23, TX23, 9, tyX23, "DebtDoors$Order", kd23, in_X23, tyX23_ok, apX23, by decide, rfl, ⟨fun _ => rfl, fun h => absurd h (by decide)⟩, q1156, Or.inl rfl, fun h => absurd h (by decide)⟩
theorem ff_X25_125_24 : ax_FF RX25 125 24 5 (tyX24 5) 0 false := ⟨RX24, TX24, 9, tyX24, "DebtDoors$Order", kd24, in_X24, tyX24_ok, apX24, by decide, rfl, ⟨fun _ => rfl, fun h => absurd h (by decide)⟩, q1156, Or.inl rfl, fun h => absurd h (by decide)⟩
theorem fs_X25_125 : ∀ p ∈ [(21, 1), (23, 5), (24, 5)], ax_FF RX25 125 p.1 p.2 (tyX21 1) 0 false := by
  intro p hp
  simp only [List.mem_cons, List.not_mem_nil, or_false] at hp
  rcases hp with rfl | rfl | rfl
  · exact ff_X25_125_21
  · exact ff_X25_125_23
  · exact ff_X25_125_24
theorem ff_X15_7_15 : ax_FF RX15 7 15 0 (tyX15 0) 1 false := ⟨RX15, TX15, 4, tyX15, "DebtDoors$Clause", kd15, in_X15, tyX15_ok, apX15, by decide, rfl, ⟨fun h => absurd h (by decide), fun _ => rfl⟩, q1116, Or.inl rfl, fun _ => rfl⟩
def oj_106 : Nat → Bool := fun t => decide (t ∈ [15])
theorem ok_106 {l : Launch} {G : ax_G} {X : ax_X} {cc : ByteArray} {nL fr lo : Nat} {own : String} (B : ax_BL l G X cc nL own fr lo) : ∀ t : Nat, oj_106 t = true → ax_asg G.1 X.2.2.2.2.1 "DebtDoors$Clause" t := by
  intro t ht
  have ht := of_decide_eq_true ht
  simp only [List.mem_cons, List.not_mem_nil, or_false] at ht
  rcases ht with rfl
  · exact ax_same B kd15
theorem cn_J14_200 : Jvm.Cond.constant RJ14 200 (Int32.ofInt 2147483639) ∈ lw_all := by rw [show Int32.ofInt 2147483639 = (2147483639 : Int32) by decide]; exact q1267
theorem ff_X0_236_8 : ax_FF RX0 236 8 6 (tyX8 6) 2 true := ⟨RX8, TX8, 7, tyX8, "DebtDoors$Wrong", kd8, in_X8, tyX8_ok, apX8, by decide, rfl, ⟨fun h => absurd h (by decide), fun h => absurd h (by decide)⟩, ⟨_, q826⟩, Or.inl rfl, fun h => absurd h (by decide)⟩
theorem ff_X26_7_26 : ax_FF RX26 7 26 0 (tyX26 0) 1 false := ⟨RX26, TX26, 2, tyX26, "DebtDoors$Done", kd26, in_X26, tyX26_ok, apX26, by decide, rfl, ⟨fun h => absurd h (by decide), fun _ => rfl⟩, q1390, Or.inl rfl, fun _ => rfl⟩
theorem ff_X26_13_26 : ax_FF RX26 13 26 1 (tyX26 1) 1 false := ⟨RX26, TX26, 2, tyX26, "DebtDoors$Done", kd26, in_X26, tyX26_ok, apX26, by decide, rfl, ⟨fun h => absurd h (by decide), fun _ => rfl⟩, q1392, Or.inl rfl, fun _ => rfl⟩
theorem ff_X0_336_26 : ax_FF RX0 336 26 1 (tyX26 1) 2 true := ⟨RX26, TX26, 2, tyX26, "DebtDoors$Done", kd26, in_X26, tyX26_ok, apX26, by decide, rfl, ⟨fun h => absurd h (by decide), fun h => absurd h (by decide)⟩, ⟨_, q1393⟩, Or.inl rfl, fun h => absurd h (by decide)⟩
theorem ff_X0_337_26 : ax_FF RX0 337 26 0 (tyX26 0) 2 true := ⟨RX26, TX26, 2, tyX26, "DebtDoors$Done", kd26, in_X26, tyX26_ok, apX26, by decide, rfl, ⟨fun h => absurd h (by decide), fun h => absurd h (by decide)⟩, ⟨_, q1391⟩, Or.inl rfl, fun h => absurd h (by decide)⟩
theorem ff_X28_7_28 : ax_FF RX28 7 28 0 (tyX28 0) 1 false := ⟨RX28, TX28, 4, tyX28, "DebtDoors$Visit", kd28, in_X28, tyX28_ok, apX28, by decide, rfl, ⟨fun h => absurd h (by decide), fun _ => rfl⟩, q1476, Or.inl rfl, fun _ => rfl⟩
theorem ff_X28_13_28 : ax_FF RX28 13 28 1 (tyX28 1) 1 false := ⟨RX28, TX28, 4, tyX28, "DebtDoors$Visit", kd28, in_X28, tyX28_ok, apX28, by decide, rfl, ⟨fun h => absurd h (by decide), fun _ => rfl⟩, q1480, Or.inl rfl, fun _ => rfl⟩
theorem ff_X28_16_28 : ax_FF RX28 16 28 2 (tyX28 2) 1 false := ⟨RX28, TX28, 4, tyX28, "DebtDoors$Visit", kd28, in_X28, tyX28_ok, apX28, by decide, rfl, ⟨fun h => absurd h (by decide), fun _ => rfl⟩, q1484, Or.inl rfl, fun _ => rfl⟩
theorem ff_X28_19_28 : ax_FF RX28 19 28 3 (tyX28 3) 1 false := ⟨RX28, TX28, 4, tyX28, "DebtDoors$Visit", kd28, in_X28, tyX28_ok, apX28, by decide, rfl, ⟨fun h => absurd h (by decide), fun _ => rfl⟩, q1487, Or.inl rfl, fun _ => rfl⟩
theorem ff_X0_343_1 : ax_FF RX0 343 1 1 (tyX1 1) 2 true := ⟨RX1, TX1, 9, tyX1, "DebtDoors$Street", kd1, in_X1, tyX1_ok, apX1, by decide, rfl, ⟨fun h => absurd h (by decide), fun h => absurd h (by decide)⟩, ⟨_, q265⟩, Or.inl rfl, fun h => absurd h (by decide)⟩
theorem ff_X0_354_28 : ax_FF RX0 354 28 0 (tyX28 0) 2 true := ⟨RX28, TX28, 4, tyX28, "DebtDoors$Visit", kd28, in_X28, tyX28_ok, apX28, by decide, rfl, ⟨fun h => absurd h (by decide), fun h => absurd h (by decide)⟩, ⟨_, q1479⟩, Or.inl rfl, fun h => absurd h (by decide)⟩
theorem ff_X0_357_28 : ax_FF RX0 357 28 1 (tyX28 1) 2 true := ⟨RX28, TX28, 4, tyX28, "DebtDoors$Visit", kd28, in_X28, tyX28_ok, apX28, by decide, rfl, ⟨fun h => absurd h (by decide), fun h => absurd h (by decide)⟩, ⟨_, q1483⟩, Or.inl rfl, fun h => absurd h (by decide)⟩
theorem ff_X0_351_28 : ax_FF RX0 351 28 2 (tyX28 2) 2 true := ⟨RX28, TX28, 4, tyX28, "DebtDoors$Visit", kd28, in_X28, tyX28_ok, apX28, by decide, rfl, ⟨fun h => absurd h (by decide), fun h => absurd h (by decide)⟩, ⟨_, q1486⟩, Or.inl rfl, fun h => absurd h (by decide)⟩
theorem ff_X29_1_30 : ax_FF RX29 1 30 4 (tyX30 4) 1 false := ⟨RX30, TX30, 9, tyX30, "DebtDoors$Rows", kd30, in_X30, tyX30_ok, apX30, by decide, rfl, ⟨fun h => absurd h (by decide), fun _ => rfl⟩, q1546, Or.inl rfl, fun _ => rfl⟩
theorem ff_X29_1_31 : ax_FF RX29 1 31 4 (tyX31 4) 1 false := ⟨RX31, TX31, 6, tyX31, "DebtDoors$Rows", kd31, in_X31, tyX31_ok, apX31, by decide, rfl, ⟨fun h => absurd h (by decide), fun _ => rfl⟩, q1546, Or.inl rfl, fun _ => rfl⟩
theorem fs_X29_1 : ∀ p ∈ [(30, 4), (31, 4)], ax_FF RX29 1 p.1 p.2 (tyX30 4) 1 false := by
  intro p hp
  simp only [List.mem_cons, List.not_mem_nil, or_false] at hp
  rcases hp with rfl | rfl
  · exact ff_X29_1_30
  · exact ff_X29_1_31
theorem ff_X29_13_30 : ax_FF RX29 13 30 0 (tyX30 0) 1 false := ⟨RX30, TX30, 9, tyX30, "DebtDoors$Rows", kd30, in_X30, tyX30_ok, apX30, by decide, rfl, ⟨fun h => absurd h (by decide), fun _ => rfl⟩, q1532, Or.inl rfl, fun _ => rfl⟩
theorem ff_X29_13_31 : ax_FF RX29 13 31 0 (tyX31 0) 1 false := ⟨RX31, TX31, 6, tyX31, "DebtDoors$Rows", kd31, in_X31, tyX31_ok, apX31, by decide, rfl, ⟨fun h => absurd h (by decide), fun _ => rfl⟩, q1532, Or.inl rfl, fun _ => rfl⟩
theorem fs_X29_13 : ∀ p ∈ [(30, 0), (31, 0)], ax_FF RX29 13 p.1 p.2 (tyX30 0) 1 false := by
  intro p hp
  simp only [List.mem_cons, List.not_mem_nil, or_false] at hp
  rcases hp with rfl | rfl
  · exact ff_X29_13_30
  · exact ff_X29_13_31
theorem ff_X29_17_30 : ax_FF RX29 17 30 2 (tyX30 2) 1 false := ⟨RX30, TX30, 9, tyX30, "DebtDoors$Rows", kd30, in_X30, tyX30_ok, apX30, by decide, rfl, ⟨fun h => absurd h (by decide), fun _ => rfl⟩, q1540, Or.inl rfl, fun _ => rfl⟩
theorem ff_X29_17_31 : ax_FF RX29 17 31 2 (tyX31 2) 1 false := ⟨RX31, TX31, 6, tyX31, "DebtDoors$Rows", kd31, in_X31, tyX31_ok, apX31, by decide, rfl, ⟨fun h => absurd h (by decide), fun _ => rfl⟩, q1540, Or.inl rfl, fun _ => rfl⟩
theorem fs_X29_17 : ∀ p ∈ [(30, 2), (31, 2)], ax_FF RX29 17 p.1 p.2 (tyX30 2) 1 false := by
  intro p hp
  simp only [List.mem_cons, List.not_mem_nil, or_false] at hp
  rcases hp with rfl | rfl
  · exact ff_X29_17_30
  · exact ff_X29_17_31
theorem ff_X29_21_30 : ax_FF RX29 21 30 1 (tyX30 1) 1 false := ⟨RX30, TX30, 9, tyX30, "DebtDoors$Rows", kd30, in_X30, tyX30_ok, apX30, by decide, rfl, ⟨fun h => absurd h (by decide), fun _ => rfl⟩, q1535, Or.inl rfl, fun _ => rfl⟩
theorem ff_X29_21_31 : ax_FF RX29 21 31 1 (tyX31 1) 1 false := ⟨RX31, TX31, 6, tyX31, "DebtDoors$Rows", kd31, in_X31, tyX31_ok, apX31, by decide, rfl, ⟨fun h => absurd h (by decide), fun _ => rfl⟩, q1535, Or.inl rfl, fun _ => rfl⟩
theorem fs_X29_21 : ∀ p ∈ [(30, 1), (31, 1)], ax_FF RX29 21 p.1 p.2 (tyX30 1) 1 false := by
  intro p hp
  simp only [List.mem_cons, List.not_mem_nil, or_false] at hp
  rcases hp with rfl | rfl
  · exact ff_X29_21_30
  · exact ff_X29_21_31
theorem ff_X29_24_0 : ax_FF RX29 24 0 14 (tyX0 14) 2 true := ⟨RX0, TX0, 18, tyX0, "DebtDoors", kd0, in_X0, tyX0_ok, apX0, by decide, rfl, ⟨fun h => absurd h (by decide), fun h => absurd h (by decide)⟩, ⟨_, q362⟩, Or.inl rfl, fun h => absurd h (by decide)⟩
theorem ff_X30_20_30 : ax_FF RX30 20 30 7 (tyX30 7) 1 false := ⟨RX30, TX30, 9, tyX30, "DebtDoors$Lendings", kd30, in_X30, tyX30_ok, apX30, by decide, rfl, ⟨fun h => absurd h (by decide), fun _ => rfl⟩, q1529, Or.inl rfl, fun _ => rfl⟩
theorem ff_X30_1_30 : ax_FF RX30 1 30 8 (tyX30 8) 1 false := ⟨RX30, TX30, 9, tyX30, "DebtDoors$Lendings", kd30, in_X30, tyX30_ok, apX30, by decide, rfl, ⟨fun h => absurd h (by decide), fun _ => rfl⟩, q1531, Or.inl rfl, fun _ => rfl⟩
theorem ff_X30_13_30 : ax_FF RX30 13 30 5 (tyX30 5) 1 false := ⟨RX30, TX30, 9, tyX30, "DebtDoors$Lendings", kd30, in_X30, tyX30_ok, apX30, by decide, rfl, ⟨fun h => absurd h (by decide), fun _ => rfl⟩, q1526, Or.inl rfl, fun _ => rfl⟩
theorem ff_X30_17_30 : ax_FF RX30 17 30 6 (tyX30 6) 1 false := ⟨RX30, TX30, 9, tyX30, "DebtDoors$Lendings", kd30, in_X30, tyX30_ok, apX30, by decide, rfl, ⟨fun h => absurd h (by decide), fun _ => rfl⟩, q1527, Or.inl rfl, fun _ => rfl⟩
theorem ff_X30_24_0 : ax_FF RX30 24 0 0 (tyX0 0) 0 true := ⟨RX0, TX0, 18, tyX0, "DebtDoors", kd0, in_X0, tyX0_ok, apX0, by decide, rfl, ⟨fun _ => rfl, fun h => absurd h (by decide)⟩, ⟨_, q343⟩, Or.inl rfl, fun h => absurd h (by decide)⟩
theorem ff_X30_30_1 : ax_FF RX30 30 1 1 (tyX1 1) 2 true := ⟨RX1, TX1, 9, tyX1, "DebtDoors$Street", kd1, in_X1, tyX1_ok, apX1, by decide, rfl, ⟨fun h => absurd h (by decide), fun h => absurd h (by decide)⟩, ⟨_, q264⟩, Or.inl rfl, fun h => absurd h (by decide)⟩
theorem ff_X30_43_28 : ax_FF RX30 43 28 0 (tyX28 0) 2 true := ⟨RX28, TX28, 4, tyX28, "DebtDoors$Visit", kd28, in_X28, tyX28_ok, apX28, by decide, rfl, ⟨fun h => absurd h (by decide), fun h => absurd h (by decide)⟩, ⟨_, q1477⟩, Or.inl rfl, fun h => absurd h (by decide)⟩
theorem ff_X30_46_28 : ax_FF RX30 46 28 1 (tyX28 1) 2 true := ⟨RX28, TX28, 4, tyX28, "DebtDoors$Visit", kd28, in_X28, tyX28_ok, apX28, by decide, rfl, ⟨fun h => absurd h (by decide), fun h => absurd h (by decide)⟩, ⟨_, q1482⟩, Or.inl rfl, fun h => absurd h (by decide)⟩
theorem ff_X31_1_31 : ax_FF RX31 1 31 5 (tyX31 5) 1 false := ⟨RX31, TX31, 6, tyX31, "DebtDoors$Plan", kd31, in_X31, tyX31_ok, apX31, by decide, rfl, ⟨fun h => absurd h (by decide), fun _ => rfl⟩, q1605, Or.inl rfl, fun _ => rfl⟩
theorem ff_X31_7_0 : ax_FF RX31 7 0 0 (tyX0 0) 0 true := ⟨RX0, TX0, 18, tyX0, "DebtDoors", kd0, in_X0, tyX0_ok, apX0, by decide, rfl, ⟨fun _ => rfl, fun h => absurd h (by decide)⟩, ⟨_, q341⟩, Or.inl rfl, fun h => absurd h (by decide)⟩
theorem ff_X31_13_1 : ax_FF RX31 13 1 1 (tyX1 1) 2 true := ⟨RX1, TX1, 9, tyX1, "DebtDoors$Street", kd1, in_X1, tyX1_ok, apX1, by decide, rfl, ⟨fun h => absurd h (by decide), fun h => absurd h (by decide)⟩, ⟨_, q262⟩, Or.inl rfl, fun h => absurd h (by decide)⟩
theorem ff_X31_37_28 : ax_FF RX31 37 28 1 (tyX28 1) 2 true := ⟨RX28, TX28, 4, tyX28, "DebtDoors$Visit", kd28, in_X28, tyX28_ok, apX28, by decide, rfl, ⟨fun h => absurd h (by decide), fun h => absurd h (by decide)⟩, ⟨_, q1481⟩, Or.inl rfl, fun h => absurd h (by decide)⟩
theorem ff_X31_41_28 : ax_FF RX31 41 28 0 (tyX28 0) 2 true := ⟨RX28, TX28, 4, tyX28, "DebtDoors$Visit", kd28, in_X28, tyX28_ok, apX28, by decide, rfl, ⟨fun h => absurd h (by decide), fun h => absurd h (by decide)⟩, ⟨_, q1478⟩, Or.inl rfl, fun h => absurd h (by decide)⟩
theorem ff_X31_48_28 : ax_FF RX31 48 28 2 (tyX28 2) 2 true := ⟨RX28, TX28, 4, tyX28, "DebtDoors$Visit", kd28, in_X28, tyX28_ok, apX28, by decide, rfl, ⟨fun h => absurd h (by decide), fun h => absurd h (by decide)⟩, ⟨_, q1485⟩, Or.inl rfl, fun h => absurd h (by decide)⟩
theorem ff_X31_51_28 : ax_FF RX31 51 28 3 (tyX28 3) 2 true := ⟨RX28, TX28, 4, tyX28, "DebtDoors$Visit", kd28, in_X28, tyX28_ok, apX28, by decide, rfl, ⟨fun h => absurd h (by decide), fun h => absurd h (by decide)⟩, ⟨_, q1488⟩, Or.inl rfl, fun h => absurd h (by decide)⟩
theorem ff_X29_40_30 : ax_FF RX29 40 30 3 (tyX30 3) 0 false := ⟨RX30, TX30, 9, tyX30, "DebtDoors$Rows", kd30, in_X30, tyX30_ok, apX30, by decide, rfl, ⟨fun _ => rfl, fun h => absurd h (by decide)⟩, q1541, Or.inl rfl, fun h => absurd h (by decide)⟩
theorem ff_X29_40_31 : ax_FF RX29 40 31 3 (tyX31 3) 0 false := ⟨RX31, TX31, 6, tyX31, "DebtDoors$Rows", kd31, in_X31, tyX31_ok, apX31, by decide, rfl, ⟨fun _ => rfl, fun h => absurd h (by decide)⟩, q1541, Or.inl rfl, fun h => absurd h (by decide)⟩
theorem fs_X29_40 : ∀ p ∈ [(30, 3), (31, 3)], ax_FF RX29 40 p.1 p.2 (tyX30 3) 0 false := by
  intro p hp
  simp only [List.mem_cons, List.not_mem_nil, or_false] at hp
  rcases hp with rfl | rfl
  · exact ff_X29_40_30
  · exact ff_X29_40_31
theorem ff_X0_378_30 : ax_FF RX0 378 30 0 (tyX30 0) 2 false := ⟨RX30, TX30, 9, tyX30, "DebtDoors$Lendings", kd30, in_X30, tyX30_ok, apX30, by decide, rfl, ⟨fun h => absurd h (by decide), fun h => absurd h (by decide)⟩, q1533, Or.inr q1534, fun h => absurd h (by decide)⟩
theorem ff_X0_381_30 : ax_FF RX0 381 30 7 (tyX30 7) 2 true := ⟨RX30, TX30, 9, tyX30, "DebtDoors$Lendings", kd30, in_X30, tyX30_ok, apX30, by decide, rfl, ⟨fun h => absurd h (by decide), fun h => absurd h (by decide)⟩, ⟨_, q1530⟩, Or.inl rfl, fun h => absurd h (by decide)⟩
theorem ff_X0_384_30 : ax_FF RX0 384 30 3 (tyX30 3) 0 false := ⟨RX30, TX30, 9, tyX30, "DebtDoors$Lendings", kd30, in_X30, tyX30_ok, apX30, by decide, rfl, ⟨fun _ => rfl, fun h => absurd h (by decide)⟩, q1542, Or.inr q1543, fun h => absurd h (by decide)⟩
theorem ff_X0_387_30 : ax_FF RX0 387 30 6 (tyX30 6) 2 true := ⟨RX30, TX30, 9, tyX30, "DebtDoors$Lendings", kd30, in_X30, tyX30_ok, apX30, by decide, rfl, ⟨fun h => absurd h (by decide), fun h => absurd h (by decide)⟩, ⟨_, q1528⟩, Or.inl rfl, fun h => absurd h (by decide)⟩
theorem ff_X0_389_30 : ax_FF RX0 389 30 1 (tyX30 1) 2 false := ⟨RX30, TX30, 9, tyX30, "DebtDoors$Lendings", kd30, in_X30, tyX30_ok, apX30, by decide, rfl, ⟨fun h => absurd h (by decide), fun h => absurd h (by decide)⟩, q1536, Or.inr q1537, fun h => absurd h (by decide)⟩
theorem ff_X0_396_31 : ax_FF RX0 396 31 3 (tyX31 3) 0 false := ⟨RX31, TX31, 6, tyX31, "DebtDoors$Plan", kd31, in_X31, tyX31_ok, apX31, by decide, rfl, ⟨fun _ => rfl, fun h => absurd h (by decide)⟩, q1544, Or.inr q1545, fun h => absurd h (by decide)⟩
theorem ff_X0_397_31 : ax_FF RX0 397 31 1 (tyX31 1) 2 false := ⟨RX31, TX31, 6, tyX31, "DebtDoors$Plan", kd31, in_X31, tyX31_ok, apX31, by decide, rfl, ⟨fun h => absurd h (by decide), fun h => absurd h (by decide)⟩, q1538, Or.inr q1539, fun h => absurd h (by decide)⟩
theorem cn_J16_265 : Jvm.Cond.constant RJ16 265 (Int32.ofInt 1431655765) ∈ lw_all := by rw [show Int32.ofInt 1431655765 = (1431655765 : Int32) by decide]; exact q1626
theorem cn_J16_266 : Jvm.Cond.constant RJ16 266 (Int32.ofInt 858993459) ∈ lw_all := by rw [show Int32.ofInt 858993459 = (858993459 : Int32) by decide]; exact q1627
theorem cn_J16_267 : Jvm.Cond.constant RJ16 267 (Int32.ofInt 252645135) ∈ lw_all := by rw [show Int32.ofInt 252645135 = (252645135 : Int32) by decide]; exact q1628
theorem cn_X0_398 : Jvm.Cond.constant RX0 398 (Int32.ofInt 100000000) ∈ lw_all := by rw [show Int32.ofInt 100000000 = (100000000 : Int32) by decide]; exact q1621
theorem ff_X27_3_27 : ax_FF RX27 3 27 5 (tyX27 5) 1 false := ⟨RX27, TX27, 6, tyX27, "DebtDoors$Ring", kd27, in_X27, tyX27_ok, apX27, by decide, rfl, ⟨fun h => absurd h (by decide), fun _ => rfl⟩, q1675, Or.inl rfl, fun _ => rfl⟩
theorem ff_X27_44_0 : ax_FF RX27 44 0 0 (tyX0 0) 0 true := ⟨RX0, TX0, 18, tyX0, "DebtDoors", kd0, in_X0, tyX0_ok, apX0, by decide, rfl, ⟨fun _ => rfl, fun h => absurd h (by decide)⟩, ⟨_, q342⟩, Or.inl rfl, fun h => absurd h (by decide)⟩
theorem ff_X27_48_1 : ax_FF RX27 48 1 6 (tyX1 6) 0 true := ⟨RX1, TX1, 9, tyX1, "DebtDoors$Street", kd1, in_X1, tyX1_ok, apX1, by decide, rfl, ⟨fun _ => rfl, fun h => absurd h (by decide)⟩, ⟨_, q274⟩, Or.inl rfl, fun h => absurd h (by decide)⟩
theorem ff_X27_28_27 : ax_FF RX27 28 27 3 (tyX27 3) 0 false := ⟨RX27, TX27, 6, tyX27, "DebtDoors$Ring", kd27, in_X27, tyX27_ok, apX27, by decide, rfl, ⟨fun _ => rfl, fun h => absurd h (by decide)⟩, q1672, Or.inl rfl, fun h => absurd h (by decide)⟩
theorem ff_X27_17_27 : ax_FF RX27 17 27 0 (tyX27 0) 1 false := ⟨RX27, TX27, 6, tyX27, "DebtDoors$Ring", kd27, in_X27, tyX27_ok, apX27, by decide, rfl, ⟨fun h => absurd h (by decide), fun _ => rfl⟩, q1668, Or.inl rfl, fun _ => rfl⟩
theorem ff_X27_20_27 : ax_FF RX27 20 27 1 (tyX27 1) 1 false := ⟨RX27, TX27, 6, tyX27, "DebtDoors$Ring", kd27, in_X27, tyX27_ok, apX27, by decide, rfl, ⟨fun h => absurd h (by decide), fun _ => rfl⟩, q1669, Or.inl rfl, fun _ => rfl⟩
theorem ff_X27_57_27 : ax_FF RX27 57 27 4 (tyX27 4) 0 false := ⟨RX27, TX27, 6, tyX27, "DebtDoors$Ring", kd27, in_X27, tyX27_ok, apX27, by decide, rfl, ⟨fun _ => rfl, fun h => absurd h (by decide)⟩, q1674, Or.inl rfl, fun h => absurd h (by decide)⟩
theorem ff_X27_24_27 : ax_FF RX27 24 27 2 (tyX27 2) 1 false := ⟨RX27, TX27, 6, tyX27, "DebtDoors$Ring", kd27, in_X27, tyX27_ok, apX27, by decide, rfl, ⟨fun h => absurd h (by decide), fun _ => rfl⟩, q1670, Or.inl rfl, fun _ => rfl⟩
theorem ff_X27_32_2 : ax_FF RX27 32 2 5 (tyX2 5) 0 true := ⟨RX2, TX2, 7, tyX2, "DebtDoors$Books", kd2, in_X2, tyX2_ok, apX2, by decide, rfl, ⟨fun _ => rfl, fun h => absurd h (by decide)⟩, ⟨_, q237⟩, Or.inl rfl, fun h => absurd h (by decide)⟩
theorem ff_X27_35_2 : ax_FF RX27 35 2 1 (tyX2 1) 2 true := ⟨RX2, TX2, 7, tyX2, "DebtDoors$Books", kd2, in_X2, tyX2_ok, apX2, by decide, rfl, ⟨fun h => absurd h (by decide), fun h => absurd h (by decide)⟩, ⟨_, q227⟩, Or.inl rfl, fun h => absurd h (by decide)⟩
theorem ff_X27_38_2 : ax_FF RX27 38 2 2 (tyX2 2) 2 true := ⟨RX2, TX2, 7, tyX2, "DebtDoors$Books", kd2, in_X2, tyX2_ok, apX2, by decide, rfl, ⟨fun h => absurd h (by decide), fun h => absurd h (by decide)⟩, ⟨_, q230⟩, Or.inl rfl, fun h => absurd h (by decide)⟩
theorem ff_X27_41_2 : ax_FF RX27 41 2 3 (tyX2 3) 2 true := ⟨RX2, TX2, 7, tyX2, "DebtDoors$Books", kd2, in_X2, tyX2_ok, apX2, by decide, rfl, ⟨fun h => absurd h (by decide), fun h => absurd h (by decide)⟩, ⟨_, q233⟩, Or.inl rfl, fun h => absurd h (by decide)⟩
theorem cn_X27_27 : Jvm.Cond.constant RX27 27 (Int32.ofInt 100000000) ∈ lw_all := by rw [show Int32.ofInt 100000000 = (100000000 : Int32) by decide]; exact q1661
theorem ff_X0_420_27 : ax_FF RX0 420 27 3 (tyX27 3) 0 true := ⟨RX27, TX27, 6, tyX27, "DebtDoors$Ring", kd27, in_X27, tyX27_ok, apX27, by decide, rfl, ⟨fun _ => rfl, fun h => absurd h (by decide)⟩, ⟨_, q1673⟩, Or.inl rfl, fun h => absurd h (by decide)⟩
theorem ff_X0_421_27 : ax_FF RX0 421 27 2 (tyX27 2) 2 true := ⟨RX27, TX27, 6, tyX27, "DebtDoors$Ring", kd27, in_X27, tyX27_ok, apX27, by decide, rfl, ⟨fun h => absurd h (by decide), fun h => absurd h (by decide)⟩, ⟨_, q1671⟩, Or.inl rfl, fun h => absurd h (by decide)⟩
theorem cn_X0_433 : Jvm.Cond.constant RX0 433 (Int32.ofInt (-1000000)) ∈ lw_all := by rw [show Int32.ofInt (-1000000) = (-1000000 : Int32) by decide]; exact q1724
theorem cn_J16_264 : Jvm.Cond.constant RJ16 264 (Int32.ofInt 65536) ∈ lw_all := by rw [show Int32.ofInt 65536 = (65536 : Int32) by decide]; exact q1732
theorem ff_X32_7_32 : ax_FF RX32 7 32 0 (tyX32 0) 1 false := ⟨RX32, TX32, 4, tyX32, "DebtDoors$Scuff", kd32, in_X32, tyX32_ok, apX32, by decide, rfl, ⟨fun h => absurd h (by decide), fun _ => rfl⟩, q1743, Or.inl rfl, fun _ => rfl⟩
theorem ff_X32_13_32 : ax_FF RX32 13 32 1 (tyX32 1) 1 false := ⟨RX32, TX32, 4, tyX32, "DebtDoors$Scuff", kd32, in_X32, tyX32_ok, apX32, by decide, rfl, ⟨fun h => absurd h (by decide), fun _ => rfl⟩, q1745, Or.inl rfl, fun _ => rfl⟩
theorem ff_X32_16_32 : ax_FF RX32 16 32 2 (tyX32 2) 1 false := ⟨RX32, TX32, 4, tyX32, "DebtDoors$Scuff", kd32, in_X32, tyX32_ok, apX32, by decide, rfl, ⟨fun h => absurd h (by decide), fun _ => rfl⟩, q1747, Or.inl rfl, fun _ => rfl⟩
theorem ff_X32_19_32 : ax_FF RX32 19 32 3 (tyX32 3) 1 false := ⟨RX32, TX32, 4, tyX32, "DebtDoors$Scuff", kd32, in_X32, tyX32_ok, apX32, by decide, rfl, ⟨fun h => absurd h (by decide), fun _ => rfl⟩, q1749, Or.inl rfl, fun _ => rfl⟩
theorem ff_X0_437_1 : ax_FF RX0 437 1 2 (tyX1 2) 2 true := ⟨RX1, TX1, 9, tyX1, "DebtDoors$Street", kd1, in_X1, tyX1_ok, apX1, by decide, rfl, ⟨fun h => absurd h (by decide), fun h => absurd h (by decide)⟩, ⟨_, q267⟩, Or.inl rfl, fun h => absurd h (by decide)⟩
theorem ff_X0_448_32 : ax_FF RX0 448 32 3 (tyX32 3) 2 true := ⟨RX32, TX32, 4, tyX32, "DebtDoors$Scuff", kd32, in_X32, tyX32_ok, apX32, by decide, rfl, ⟨fun h => absurd h (by decide), fun h => absurd h (by decide)⟩, ⟨_, q1750⟩, Or.inl rfl, fun h => absurd h (by decide)⟩
theorem ff_X0_445_32 : ax_FF RX0 445 32 1 (tyX32 1) 2 true := ⟨RX32, TX32, 4, tyX32, "DebtDoors$Scuff", kd32, in_X32, tyX32_ok, apX32, by decide, rfl, ⟨fun h => absurd h (by decide), fun h => absurd h (by decide)⟩, ⟨_, q1746⟩, Or.inl rfl, fun h => absurd h (by decide)⟩
theorem ff_X0_446_32 : ax_FF RX0 446 32 0 (tyX32 0) 2 true := ⟨RX32, TX32, 4, tyX32, "DebtDoors$Scuff", kd32, in_X32, tyX32_ok, apX32, by decide, rfl, ⟨fun h => absurd h (by decide), fun h => absurd h (by decide)⟩, ⟨_, q1744⟩, Or.inl rfl, fun h => absurd h (by decide)⟩
theorem ff_X0_447_32 : ax_FF RX0 447 32 2 (tyX32 2) 2 true := ⟨RX32, TX32, 4, tyX32, "DebtDoors$Scuff", kd32, in_X32, tyX32_ok, apX32, by decide, rfl, ⟨fun h => absurd h (by decide), fun h => absurd h (by decide)⟩, ⟨_, q1748⟩, Or.inl rfl, fun h => absurd h (by decide)⟩
theorem ff_X20_19_0 : ax_FF RX20 19 0 4 (tyX0 4) 2 true := ⟨RX0, TX0, 18, tyX0, "DebtDoors", kd0, in_X0, tyX0_ok, apX0, by decide, rfl, ⟨fun h => absurd h (by decide), fun h => absurd h (by decide)⟩, ⟨_, q348⟩, Or.inl rfl, fun h => absurd h (by decide)⟩
theorem ff_X20_23_3 : ax_FF RX20 23 3 0 (tyX3 0) 2 true := ⟨RX3, TX3, 2, tyX3, "DebtDoors$Asked", kd3, in_X3, tyX3_ok, apX3, by decide, rfl, ⟨fun h => absurd h (by decide), fun h => absurd h (by decide)⟩, ⟨_, q311⟩, Or.inl rfl, fun h => absurd h (by decide)⟩
theorem ff_X20_33_2 : ax_FF RX20 33 2 6 (tyX2 6) 0 true := ⟨RX2, TX2, 7, tyX2, "DebtDoors$Books", kd2, in_X2, tyX2_ok, apX2, by decide, rfl, ⟨fun _ => rfl, fun h => absurd h (by decide)⟩, ⟨_, q242⟩, Or.inl rfl, fun h => absurd h (by decide)⟩
theorem ff_X20_38_2 : ax_FF RX20 38 2 5 (tyX2 5) 0 true := ⟨RX2, TX2, 7, tyX2, "DebtDoors$Books", kd2, in_X2, tyX2_ok, apX2, by decide, rfl, ⟨fun _ => rfl, fun h => absurd h (by decide)⟩, ⟨_, q239⟩, Or.inl rfl, fun h => absurd h (by decide)⟩
theorem ff_X20_41_0 : ax_FF RX20 41 0 15 (tyX0 15) 0 true := ⟨RX0, TX0, 18, tyX0, "DebtDoors", kd0, in_X0, tyX0_ok, apX0, by decide, rfl, ⟨fun _ => rfl, fun h => absurd h (by decide)⟩, ⟨_, q364⟩, Or.inl rfl, fun h => absurd h (by decide)⟩
theorem ff_X20_44_0 : ax_FF RX20 44 0 16 (tyX0 16) 0 true := ⟨RX0, TX0, 18, tyX0, "DebtDoors", kd0, in_X0, tyX0_ok, apX0, by decide, rfl, ⟨fun _ => rfl, fun h => absurd h (by decide)⟩, ⟨_, q367⟩, Or.inl rfl, fun h => absurd h (by decide)⟩
theorem ff_X20_47_3 : ax_FF RX20 47 3 1 (tyX3 1) 0 true := ⟨RX3, TX3, 2, tyX3, "DebtDoors$Asked", kd3, in_X3, tyX3_ok, apX3, by decide, rfl, ⟨fun _ => rfl, fun h => absurd h (by decide)⟩, ⟨_, q319⟩, Or.inl rfl, fun h => absurd h (by decide)⟩
theorem ff_X20_51_21 : ax_FF RX20 51 21 2 (tyX21 2) 0 false := ⟨RX21, TX21, 5, tyX21, "DebtDoors$Order", kd21, in_X21, tyX21_ok, apX21, by decide, rfl, ⟨fun _ => rfl, fun h => absurd h (by decide)⟩, q1158, Or.inl rfl, fun h => absurd h (by decide)⟩
theorem ff_X20_51_23 : ax_FF RX20 51 23 6 (tyX23 6) 0 false := ⟨RX23, TX23, 9, tyX23, "DebtDoors$Order", kd23, in_X23, tyX23_ok, apX23, by decide, rfl, ⟨fun _ => rfl, fun h => absurd h (by decide)⟩, q1158, Or.inl rfl, fun h => absurd h (by decide)⟩
theorem ff_X20_51_24 : ax_FF RX20 51 24 6 (tyX24 6) 0 false := ⟨RX24, TX24, 9, tyX24, "DebtDoors$Order", kd24, in_X24, tyX24_ok, apX24, by decide, rfl, ⟨fun _ => rfl, fun h => absurd h (by decide)⟩, q1158, Or.inl rfl, fun h => absurd h (by decide)⟩
theorem fs_X20_51 : ∀ p ∈ [(21, 2), (23, 6), (24, 6)], ax_FF RX20 51 p.1 p.2 (tyX21 2) 0 false := by
  intro p hp
  simp only [List.mem_cons, List.not_mem_nil, or_false] at hp
  rcases hp with rfl | rfl | rfl
  · exact ff_X20_51_21
  · exact ff_X20_51_23
  · exact ff_X20_51_24
theorem ff_X22_35_0 : ax_FF RX22 35 0 16 (tyX0 16) 0 true := ⟨RX0, TX0, 18, tyX0, "DebtDoors", kd0, in_X0, tyX0_ok, apX0, by decide, rfl, ⟨fun _ => rfl, fun h => absurd h (by decide)⟩, ⟨_, q366⟩, Or.inl rfl, fun h => absurd h (by decide)⟩
theorem ff_X20_63_21 : ax_FF RX20 63 21 0 (tyX21 0) 0 false := ⟨RX21, TX21, 5, tyX21, "DebtDoors$Order", kd21, in_X21, tyX21_ok, apX21, by decide, rfl, ⟨fun _ => rfl, fun h => absurd h (by decide)⟩, q1153, Or.inl rfl, fun h => absurd h (by decide)⟩
theorem ff_X20_63_23 : ax_FF RX20 63 23 4 (tyX23 4) 0 false := ⟨RX23, TX23, 9, tyX23, "DebtDoors$Order", kd23, in_X23, tyX23_ok, apX23, by decide, rfl, ⟨fun _ => rfl, fun h => absurd h (by decide)⟩, q1153, Or.inl rfl, fun h => absurd h (by decide)⟩
theorem ff_X20_63_24 : ax_FF RX20 63 24 4 (tyX24 4) 0 false := ⟨RX24, TX24, 9, tyX24, "DebtDoors$Order", kd24, in_X24, tyX24_ok, apX24, by decide, rfl, ⟨fun _ => rfl, fun h => absurd h (by decide)⟩, q1153, Or.inl rfl, fun h => absurd h (by decide)⟩
theorem fs_X20_63 : ∀ p ∈ [(21, 0), (23, 4), (24, 4)], ax_FF RX20 63 p.1 p.2 (tyX21 0) 0 false := by
  intro p hp
  simp only [List.mem_cons, List.not_mem_nil, or_false] at hp
  rcases hp with rfl | rfl | rfl
  · exact ff_X20_63_21
  · exact ff_X20_63_23
  · exact ff_X20_63_24
theorem ff_X0_455_21 : ax_FF RX0 455 21 1 (tyX21 1) 0 false := ⟨RX21, TX21, 5, tyX21, "DebtDoors$Order", kd21, in_X21, tyX21_ok, apX21, by decide, rfl, ⟨fun _ => rfl, fun h => absurd h (by decide)⟩, q1157, Or.inl rfl, fun h => absurd h (by decide)⟩
theorem ff_X0_455_23 : ax_FF RX0 455 23 5 (tyX23 5) 0 false := ⟨RX23, TX23, 9, tyX23, "DebtDoors$Order", kd23, in_X23, tyX23_ok, apX23, by decide, rfl, ⟨fun _ => rfl, fun h => absurd h (by decide)⟩, q1157, Or.inl rfl, fun h => absurd h (by decide)⟩
theorem ff_X0_455_24 : ax_FF RX0 455 24 5 (tyX24 5) 0 false := ⟨RX24, TX24, 9, tyX24, "DebtDoors$Order", kd24, in_X24, tyX24_ok, apX24, by decide, rfl, ⟨fun _ => rfl, fun h => absurd h (by decide)⟩, q1157, Or.inl rfl, fun h => absurd h (by decide)⟩
theorem fs_X0_455 : ∀ p ∈ [(21, 1), (23, 5), (24, 5)], ax_FF RX0 455 p.1 p.2 (tyX21 1) 0 false := by
  intro p hp
  simp only [List.mem_cons, List.not_mem_nil, or_false] at hp
  rcases hp with rfl | rfl | rfl
  · exact ff_X0_455_21
  · exact ff_X0_455_23
  · exact ff_X0_455_24
theorem ff_X0_463_0 : ax_FF RX0 463 0 15 (tyX0 15) 0 false := ⟨RX0, TX0, 18, tyX0, "DebtDoors", kd0, in_X0, tyX0_ok, apX0, by decide, rfl, ⟨fun _ => rfl, fun h => absurd h (by decide)⟩, q365, Or.inl rfl, fun h => absurd h (by decide)⟩
theorem ff_X0_475_0 : ax_FF RX0 475 0 16 (tyX0 16) 0 false := ⟨RX0, TX0, 18, tyX0, "DebtDoors", kd0, in_X0, tyX0_ok, apX0, by decide, rfl, ⟨fun _ => rfl, fun h => absurd h (by decide)⟩, q368, Or.inl rfl, fun h => absurd h (by decide)⟩
theorem ff_X33_7_33 : ax_FF RX33 7 33 0 (tyX33 0) 0 false := ⟨RX33, TX33, 1, tyX33, "DebtDoors$Draws", kd33, in_X33, tyX33_ok, apX33, by decide, rfl, ⟨fun _ => rfl, fun h => absurd h (by decide)⟩, q1915, Or.inl rfl, fun h => absurd h (by decide)⟩
theorem cn_X33_13 : Jvm.Cond.constantLong RX33 13 (Int64.ofInt 1103) ∈ lw_all := by rw [show Int64.ofInt 1103 = (1103 : Int64) by decide]; exact q1923
theorem cn_X33_15 : Jvm.Cond.constantLong RX33 15 (Int64.ofInt 12345) ∈ lw_all := by rw [show Int64.ofInt 12345 = (12345 : Int64) by decide]; exact q1924
theorem cn_X33_17 : Jvm.Cond.constantLong RX33 17 (Int64.ofInt 1000003) ∈ lw_all := by rw [show Int64.ofInt 1000003 = (1000003 : Int64) by decide]; exact q1925
theorem ff_X0_498_0 : ax_FF RX0 498 0 17 (tyX0 17) 0 false := ⟨RX0, TX0, 18, tyX0, "DebtDoors", kd0, in_X0, tyX0_ok, apX0, by decide, rfl, ⟨fun _ => rfl, fun h => absurd h (by decide)⟩, q369, Or.inl rfl, fun h => absurd h (by decide)⟩
theorem cn_X0_486 : Jvm.Cond.constantLong RX0 486 (Int64.ofInt 1000000) ∈ lw_all := by rw [show Int64.ofInt 1000000 = (1000000 : Int64) by decide]; exact q1907
theorem cn_X0_488 : Jvm.Cond.constantLong RX0 488 (Int64.ofInt 30) ∈ lw_all := by rw [show Int64.ofInt 30 = (30 : Int64) by decide]; exact q1908
theorem ff_X1_57_1 : ax_FF RX1 57 1 6 (tyX1 6) 0 false := ⟨RX1, TX1, 9, tyX1, "DebtDoors$Street", kd1, in_X1, tyX1_ok, apX1, by decide, rfl, ⟨fun _ => rfl, fun h => absurd h (by decide)⟩, q275, Or.inl rfl, fun h => absurd h (by decide)⟩
theorem ff_X1_60_1 : ax_FF RX1 60 1 7 (tyX1 7) 0 false := ⟨RX1, TX1, 9, tyX1, "DebtDoors$Street", kd1, in_X1, tyX1_ok, apX1, by decide, rfl, ⟨fun _ => rfl, fun h => absurd h (by decide)⟩, q277, Or.inl rfl, fun h => absurd h (by decide)⟩
def oj_105 : Nat → Bool := fun t => decide (t ∈ [1])
theorem ok_105 {l : Launch} {G : ax_G} {X : ax_X} {cc : ByteArray} {nL fr lo : Nat} {own : String} (B : ax_BL l G X cc nL own fr lo) : ∀ t : Nat, oj_105 t = true → ax_asg G.1 X.2.2.2.2.1 "DebtDoors$Street" t := by
  intro t ht
  have ht := of_decide_eq_true ht
  simp only [List.mem_cons, List.not_mem_nil, or_false] at ht
  rcases ht with rfl
  · exact ax_same B kd1
