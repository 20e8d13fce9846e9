/-! The model is born -/
set_option maxRecDepth 100000
def S7 : Sg := sw (fun _ _ => 0) 6 (wd 147)
def S12 : Sg := sw S7 0 (u1 (S7 0) ((12 : Nat) : Int) (-1))
def S47 : Sg := sw S12 0 (u1 (S12 0) ((47 : Nat) : Int) (-1))
/-- the rows at first -/
def sF : Sg := sw S47 2 (u1 (S47 2) ((156 : Nat) : Int) (-1))
set_option maxHeartbeats 4000000 in
theorem c_minit {E : ax_E} {m : Nat} {h : ax_H} (hm : h.1 = m) (r1 : m + 32 ≤ E.1.1) (r2 : h.2.1 + 23000 ≤ E.1.2) : f_X5_init E (some m) (nwH h 5 0 61) = some (cm m 32 32 sF (h.2.1 + 22965) h) := by
  rw [cm_0 hm (s := S0) (fun _ => rfl)]
  unfold f_X5_init S0
  refine b_st rfl ?_
  refine b_st (cm_na (n := 1) (d := 61) (d' := 68) (L := 7) (by decide) rfl rfl rfl (by decide) (fun _ => rfl) r1 (by decide) r2 rfl (by decide)) ?_
  dsimp only
  refine b_st (cm_pR (r := 1) (by decide) (by decide) rfl) ?_
  refine b_st (cm_na (n := 2) (d := 68) (d' := 5832) (L := 5764) (by decide) rfl rfl rfl (by decide) (fun _ => rfl) r1 (by decide) r2 rfl (by decide)) ?_
  dsimp only
  refine b_st (cm_pR (r := 2) (by decide) (by decide) rfl) ?_
  refine b_st (cm_na (n := 3) (d := 5832) (d' := 17360) (L := 11528) (by decide) rfl rfl rfl (by decide) (fun _ => rfl) r1 (by decide) r2 rfl (by decide)) ?_
  dsimp only
  refine b_st (cm_pR (r := 3) (by decide) (by decide) rfl) ?_
  refine b_st (cm_na (n := 4) (d := 17360) (d' := 17362) (L := 2) (by decide) rfl rfl rfl (by decide) (fun _ => rfl) r1 (by decide) r2 rfl (by decide)) ?_
  dsimp only
  refine b_st (cm_pR (r := 4) (by decide) (by decide) rfl) ?_
  refine b_st (cm_na (n := 5) (d := 17362) (d' := 18165) (L := 803) (by decide) rfl rfl rfl (by decide) (fun _ => rfl) r1 (by decide) r2 rfl (by decide)) ?_
  dsimp only
  refine b_st (cm_pR (r := 5) (by decide) (by decide) rfl) ?_
  refine b_st (cm_na (n := 6) (d := 18165) (d' := 18312) (L := 147) (by decide) rfl rfl rfl (by decide) (fun k => by show wd 0 (k : Int) = 0; exact if_neg (by omega)) r1 (by decide) r2 rfl (by decide)) ?_
  dsimp only
  refine b_st (cm_wd (j := 0) rfl (by decide) (by decide)) ?_
  refine b_st (cm_wd (j := 1) rfl (by decide) (by decide)) ?_
  refine b_st (cm_wd (j := 2) rfl (by decide) (by decide)) ?_
  refine b_st (cm_wd (j := 3) rfl (by decide) (by decide)) ?_
  refine b_st (cm_wd (j := 4) rfl (by decide) (by decide)) ?_
  refine b_st (cm_wd (j := 5) rfl (by decide) (by decide)) ?_
  refine b_st (cm_wd (j := 6) rfl (by decide) (by decide)) ?_
  refine b_st (cm_wd (j := 7) rfl (by decide) (by decide)) ?_
  refine b_st (cm_wd (j := 8) rfl (by decide) (by decide)) ?_
  refine b_st (cm_wd (j := 9) rfl (by decide) (by decide)) ?_
  refine b_st (cm_wd (j := 10) rfl (by decide) (by decide)) ?_
  refine b_st (cm_wd (j := 11) rfl (by decide) (by decide)) ?_
  refine b_st (cm_wd (j := 12) rfl (by decide) (by decide)) ?_
  refine b_st (cm_wd (j := 13) rfl (by decide) (by decide)) ?_
  refine b_st (cm_wd (j := 14) rfl (by decide) (by decide)) ?_
  refine b_st (cm_wd (j := 15) rfl (by decide) (by decide)) ?_
  refine b_st (cm_wd (j := 16) rfl (by decide) (by decide)) ?_
  refine b_st (cm_wd (j := 17) rfl (by decide) (by decide)) ?_
  refine b_st (cm_wd (j := 18) rfl (by decide) (by decide)) ?_
  refine b_st (cm_wd (j := 19) rfl (by decide) (by decide)) ?_
  refine b_st (cm_wd (j := 20) rfl (by decide) (by decide)) ?_
  refine b_st (cm_wd (j := 21) rfl (by decide) (by decide)) ?_
  refine b_st (cm_wd (j := 22) rfl (by decide) (by decide)) ?_
  refine b_st (cm_wd (j := 23) rfl (by decide) (by decide)) ?_
  refine b_st (cm_wd (j := 24) rfl (by decide) (by decide)) ?_
  refine b_st (cm_wd (j := 25) rfl (by decide) (by decide)) ?_
  refine b_st (cm_wd (j := 26) rfl (by decide) (by decide)) ?_
  refine b_st (cm_wd (j := 27) rfl (by decide) (by decide)) ?_
  refine b_st (cm_wd (j := 28) rfl (by decide) (by decide)) ?_
  refine b_st (cm_wd (j := 29) rfl (by decide) (by decide)) ?_
  refine b_st (cm_wd (j := 30) rfl (by decide) (by decide)) ?_
  refine b_st (cm_wd (j := 31) rfl (by decide) (by decide)) ?_
  refine b_st (cm_wd (j := 32) rfl (by decide) (by decide)) ?_
  refine b_st (cm_wd (j := 33) rfl (by decide) (by decide)) ?_
  refine b_st (cm_wd (j := 34) rfl (by decide) (by decide)) ?_
  refine b_st (cm_wd (j := 35) rfl (by decide) (by decide)) ?_
  refine b_st (cm_wd (j := 36) rfl (by decide) (by decide)) ?_
  refine b_st (cm_wd (j := 37) rfl (by decide) (by decide)) ?_
  refine b_st (cm_wd (j := 38) rfl (by decide) (by decide)) ?_
  refine b_st (cm_wd (j := 39) rfl (by decide) (by decide)) ?_
  refine b_st (cm_wd (j := 40) rfl (by decide) (by decide)) ?_
  refine b_st (cm_wd (j := 41) rfl (by decide) (by decide)) ?_
  refine b_st (cm_wd (j := 42) rfl (by decide) (by decide)) ?_
  refine b_st (cm_wd (j := 43) rfl (by decide) (by decide)) ?_
  refine b_st (cm_wd (j := 44) rfl (by decide) (by decide)) ?_
  refine b_st (cm_wd (j := 45) rfl (by decide) (by decide)) ?_
  refine b_st (cm_wd (j := 46) rfl (by decide) (by decide)) ?_
  refine b_st (cm_wd (j := 47) rfl (by decide) (by decide)) ?_
  refine b_st (cm_wd (j := 48) rfl (by decide) (by decide)) ?_
  refine b_st (cm_wd (j := 49) rfl (by decide) (by decide)) ?_
  refine b_st (cm_wd (j := 50) rfl (by decide) (by decide)) ?_
  refine b_st (cm_wd (j := 51) rfl (by decide) (by decide)) ?_
  refine b_st (cm_wd (j := 52) rfl (by decide) (by decide)) ?_
  refine b_st (cm_wd (j := 53) rfl (by decide) (by decide)) ?_
  refine b_st (cm_wd (j := 54) rfl (by decide) (by decide)) ?_
  refine b_st (cm_wd (j := 55) rfl (by decide) (by decide)) ?_
  refine b_st (cm_wd (j := 56) rfl (by decide) (by decide)) ?_
  refine b_st (cm_wd (j := 57) rfl (by decide) (by decide)) ?_
  refine b_st (cm_wd (j := 58) rfl (by decide) (by decide)) ?_
  refine b_st (cm_wd (j := 59) rfl (by decide) (by decide)) ?_
  refine b_st (cm_wd (j := 60) rfl (by decide) (by decide)) ?_
  refine b_st (cm_wd (j := 61) rfl (by decide) (by decide)) ?_
  refine b_st (cm_wd (j := 62) rfl (by decide) (by decide)) ?_
  refine b_st (cm_wd (j := 63) rfl (by decide) (by decide)) ?_
  refine b_st (cm_wd (j := 64) rfl (by decide) (by decide)) ?_
  refine b_st (cm_wd (j := 65) rfl (by decide) (by decide)) ?_
  refine b_st (cm_wd (j := 66) rfl (by decide) (by decide)) ?_
  refine b_st (cm_wd (j := 67) rfl (by decide) (by decide)) ?_
  refine b_st (cm_wd (j := 68) rfl (by decide) (by decide)) ?_
  refine b_st (cm_wd (j := 69) rfl (by decide) (by decide)) ?_
  refine b_st (cm_wd (j := 70) rfl (by decide) (by decide)) ?_
  refine b_st (cm_wd (j := 71) rfl (by decide) (by decide)) ?_
  refine b_st (cm_wd (j := 72) rfl (by decide) (by decide)) ?_
  refine b_st (cm_wd (j := 73) rfl (by decide) (by decide)) ?_
  refine b_st (cm_wd (j := 74) rfl (by decide) (by decide)) ?_
  refine b_st (cm_wd (j := 75) rfl (by decide) (by decide)) ?_
  refine b_st (cm_wd (j := 76) rfl (by decide) (by decide)) ?_
  refine b_st (cm_wd (j := 77) rfl (by decide) (by decide)) ?_
  refine b_st (cm_wd (j := 78) rfl (by decide) (by decide)) ?_
  refine b_st (cm_wd (j := 79) rfl (by decide) (by decide)) ?_
  refine b_st (cm_wd (j := 80) rfl (by decide) (by decide)) ?_
  refine b_st (cm_wd (j := 81) rfl (by decide) (by decide)) ?_
  refine b_st (cm_wd (j := 82) rfl (by decide) (by decide)) ?_
  refine b_st (cm_wd (j := 83) rfl (by decide) (by decide)) ?_
  refine b_st (cm_wd (j := 84) rfl (by decide) (by decide)) ?_
  refine b_st (cm_wd (j := 85) rfl (by decide) (by decide)) ?_
  refine b_st (cm_wd (j := 86) rfl (by decide) (by decide)) ?_
  refine b_st (cm_wd (j := 87) rfl (by decide) (by decide)) ?_
  refine b_st (cm_wd (j := 88) rfl (by decide) (by decide)) ?_
  refine b_st (cm_wd (j := 89) rfl (by decide) (by decide)) ?_
  refine b_st (cm_wd (j := 90) rfl (by decide) (by decide)) ?_
  refine b_st (cm_wd (j := 91) rfl (by decide) (by decide)) ?_
  refine b_st (cm_wd (j := 92) rfl (by decide) (by decide)) ?_
  refine b_st (cm_wd (j := 93) rfl (by decide) (by decide)) ?_
  refine b_st (cm_wd (j := 94) rfl (by decide) (by decide)) ?_
  refine b_st (cm_wd (j := 95) rfl (by decide) (by decide)) ?_
  refine b_st (cm_wd (j := 96) rfl (by decide) (by decide)) ?_
  refine b_st (cm_wd (j := 97) rfl (by decide) (by decide)) ?_
  refine b_st (cm_wd (j := 98) rfl (by decide) (by decide)) ?_
  refine b_st (cm_wd (j := 99) rfl (by decide) (by decide)) ?_
  refine b_st (cm_wd (j := 100) rfl (by decide) (by decide)) ?_
  refine b_st (cm_wd (j := 101) rfl (by decide) (by decide)) ?_
  refine b_st (cm_wd (j := 102) rfl (by decide) (by decide)) ?_
  refine b_st (cm_wd (j := 103) rfl (by decide) (by decide)) ?_
  refine b_st (cm_wd (j := 104) rfl (by decide) (by decide)) ?_
  refine b_st (cm_wd (j := 105) rfl (by decide) (by decide)) ?_
  refine b_st (cm_wd (j := 106) rfl (by decide) (by decide)) ?_
  refine b_st (cm_wd (j := 107) rfl (by decide) (by decide)) ?_
  refine b_st (cm_wd (j := 108) rfl (by decide) (by decide)) ?_
  refine b_st (cm_wd (j := 109) rfl (by decide) (by decide)) ?_
  refine b_st (cm_wd (j := 110) rfl (by decide) (by decide)) ?_
  refine b_st (cm_wd (j := 111) rfl (by decide) (by decide)) ?_
  refine b_st (cm_wd (j := 112) rfl (by decide) (by decide)) ?_
  refine b_st (cm_wd (j := 113) rfl (by decide) (by decide)) ?_
  refine b_st (cm_wd (j := 114) rfl (by decide) (by decide)) ?_
  refine b_st (cm_wd (j := 115) rfl (by decide) (by decide)) ?_
  refine b_st (cm_wd (j := 116) rfl (by decide) (by decide)) ?_
  refine b_st (cm_wd (j := 117) rfl (by decide) (by decide)) ?_
  refine b_st (cm_wd (j := 118) rfl (by decide) (by decide)) ?_
  refine b_st (cm_wd (j := 119) rfl (by decide) (by decide)) ?_
  refine b_st (cm_wd (j := 120) rfl (by decide) (by decide)) ?_
  refine b_st (cm_wd (j := 121) rfl (by decide) (by decide)) ?_
  refine b_st (cm_wd (j := 122) rfl (by decide) (by decide)) ?_
  refine b_st (cm_wd (j := 123) rfl (by decide) (by decide)) ?_
  refine b_st (cm_wd (j := 124) rfl (by decide) (by decide)) ?_
  refine b_st (cm_wd (j := 125) rfl (by decide) (by decide)) ?_
  refine b_st (cm_wd (j := 126) rfl (by decide) (by decide)) ?_
  refine b_st (cm_wd (j := 127) rfl (by decide) (by decide)) ?_
  refine b_st (cm_wd (j := 128) rfl (by decide) (by decide)) ?_
  refine b_st (cm_wd (j := 129) rfl (by decide) (by decide)) ?_
  refine b_st (cm_wd (j := 130) rfl (by decide) (by decide)) ?_
  refine b_st (cm_wd (j := 131) rfl (by decide) (by decide)) ?_
  refine b_st (cm_wd (j := 132) rfl (by decide) (by decide)) ?_
  refine b_st (cm_wd (j := 133) rfl (by decide) (by decide)) ?_
  refine b_st (cm_wd (j := 134) rfl (by decide) (by decide)) ?_
  refine b_st (cm_wd (j := 135) rfl (by decide) (by decide)) ?_
  refine b_st (cm_wd (j := 136) rfl (by decide) (by decide)) ?_
  refine b_st (cm_wd (j := 137) rfl (by decide) (by decide)) ?_
  refine b_st (cm_wd (j := 138) rfl (by decide) (by decide)) ?_
  refine b_st (cm_wd (j := 139) rfl (by decide) (by decide)) ?_
  refine b_st (cm_wd (j := 140) rfl (by decide) (by decide)) ?_
  refine b_st (cm_wd (j := 141) rfl (by decide) (by decide)) ?_
  refine b_st (cm_wd (j := 142) rfl (by decide) (by decide)) ?_
  refine b_st (cm_wd (j := 143) rfl (by decide) (by decide)) ?_
  refine b_st (cm_wd (j := 144) rfl (by decide) (by decide)) ?_
  refine b_st (cm_wd (j := 145) rfl (by decide) (by decide)) ?_
  refine b_st (cm_wd (j := 146) rfl (by decide) (by decide)) ?_
  refine b_st (cm_pR (r := 6) (by decide) (by decide) rfl) ?_
  refine b_st (cm_na (n := 7) (d := 18312) (d' := 18712) (L := 400) (by decide) rfl rfl rfl (by decide) (fun _ => rfl) r1 (by decide) r2 rfl (by decide)) ?_
  dsimp only
  refine b_st (cm_pR (r := 7) (by decide) (by decide) rfl) ?_
  refine b_st (cm_na (n := 8) (d := 18712) (d' := 18717) (L := 5) (by decide) rfl rfl rfl (by decide) (fun _ => rfl) r1 (by decide) r2 rfl (by decide)) ?_
  dsimp only
  refine b_st (cm_pR (r := 8) (by decide) (by decide) rfl) ?_
  refine b_st (cm_pI (k := 12) (by decide)) ?_
  refine b_st (cm_na (n := 9) (d := 18717) (d' := 19118) (L := 401) (by decide) rfl rfl rfl (by decide) (fun _ => rfl) r1 (by decide) r2 rfl (by decide)) ?_
  dsimp only
  refine b_st (cm_pR (r := 9) (by decide) (by decide) rfl) ?_
  refine b_st (cm_na (n := 10) (d := 19118) (d' := 19519) (L := 401) (by decide) rfl rfl rfl (by decide) (fun _ => rfl) r1 (by decide) r2 rfl (by decide)) ?_
  dsimp only
  refine b_st (cm_pR (r := 10) (by decide) (by decide) rfl) ?_
  refine b_st (cm_na (n := 11) (d := 19519) (d' := 19920) (L := 401) (by decide) rfl rfl rfl (by decide) (fun _ => rfl) r1 (by decide) r2 rfl (by decide)) ?_
  dsimp only
  refine b_st (cm_pR (r := 11) (by decide) (by decide) rfl) ?_
  refine b_st (cm_na (n := 12) (d := 19920) (d' := 19930) (L := 10) (by decide) rfl rfl rfl (by decide) (fun _ => rfl) r1 (by decide) r2 rfl (by decide)) ?_
  dsimp only
  refine b_st (cm_pR (r := 12) (by decide) (by decide) rfl) ?_
  refine b_st (cm_na (n := 13) (d := 19930) (d' := 19934) (L := 4) (by decide) rfl rfl rfl (by decide) (fun _ => rfl) r1 (by decide) r2 rfl (by decide)) ?_
  dsimp only
  refine b_st (cm_pR (r := 13) (by decide) (by decide) rfl) ?_
  refine b_st (cm_na (n := 14) (d := 19934) (d' := 21118) (L := 1184) (by decide) rfl rfl rfl (by decide) (fun _ => rfl) r1 (by decide) r2 rfl (by decide)) ?_
  dsimp only
  refine b_st (cm_pR (r := 14) (by decide) (by decide) rfl) ?_
  refine b_st (cm_na (n := 15) (d := 21118) (d' := 22302) (L := 1184) (by decide) rfl rfl rfl (by decide) (fun _ => rfl) r1 (by decide) r2 rfl (by decide)) ?_
  dsimp only
  refine b_st (cm_pR (r := 15) (by decide) (by decide) rfl) ?_
  refine b_st (cm_na (n := 16) (d := 22302) (d' := 22310) (L := 8) (by decide) rfl rfl rfl (by decide) (fun _ => rfl) r1 (by decide) r2 rfl (by decide)) ?_
  dsimp only
  refine b_st (cm_pR (r := 16) (by decide) (by decide) rfl) ?_
  refine b_st (cm_na (n := 17) (d := 22310) (d' := 22318) (L := 8) (by decide) rfl rfl rfl (by decide) (fun _ => rfl) r1 (by decide) r2 rfl (by decide)) ?_
  dsimp only
  refine b_st (cm_pR (r := 17) (by decide) (by decide) rfl) ?_
  refine b_st (cm_na (n := 18) (d := 22318) (d' := 22326) (L := 8) (by decide) rfl rfl rfl (by decide) (fun _ => rfl) r1 (by decide) r2 rfl (by decide)) ?_
  dsimp only
  refine b_st (cm_pR (r := 18) (by decide) (by decide) rfl) ?_
  refine b_st (cm_na (n := 19) (d := 22326) (d' := 22334) (L := 8) (by decide) rfl rfl rfl (by decide) (fun _ => rfl) r1 (by decide) r2 rfl (by decide)) ?_
  dsimp only
  refine b_st (cm_pR (r := 19) (by decide) (by decide) rfl) ?_
  refine b_st (cm_na (n := 20) (d := 22334) (d' := 22590) (L := 256) (by decide) rfl rfl rfl (by decide) (fun _ => rfl) r1 (by decide) r2 rfl (by decide)) ?_
  dsimp only
  refine b_st (cm_pR (r := 20) (by decide) (by decide) rfl) ?_
  refine b_st (cm_na (n := 21) (d := 22590) (d' := 22598) (L := 8) (by decide) rfl rfl rfl (by decide) (fun _ => rfl) r1 (by decide) r2 rfl (by decide)) ?_
  dsimp only
  refine b_st (cm_pR (r := 21) (by decide) (by decide) rfl) ?_
  refine b_st (cm_na (n := 22) (d := 22598) (d' := 22606) (L := 8) (by decide) rfl rfl rfl (by decide) (fun _ => rfl) r1 (by decide) r2 rfl (by decide)) ?_
  dsimp only
  refine b_st (cm_pR (r := 22) (by decide) (by decide) rfl) ?_
  refine b_st (cm_na (n := 23) (d := 22606) (d' := 22622) (L := 16) (by decide) rfl rfl rfl (by decide) (fun _ => rfl) r1 (by decide) r2 rfl (by decide)) ?_
  dsimp only
  refine b_st (cm_pR (r := 23) (by decide) (by decide) rfl) ?_
  refine b_st (cm_na (n := 24) (d := 22622) (d' := 22629) (L := 7) (by decide) rfl rfl rfl (by decide) (fun _ => rfl) r1 (by decide) r2 rfl (by decide)) ?_
  dsimp only
  refine b_st (cm_pR (r := 24) (by decide) (by decide) rfl) ?_
  refine b_st (cm_na (n := 25) (d := 22629) (d' := 22636) (L := 7) (by decide) rfl rfl rfl (by decide) (fun _ => rfl) r1 (by decide) r2 rfl (by decide)) ?_
  dsimp only
  refine b_st (cm_pR (r := 25) (by decide) (by decide) rfl) ?_
  refine b_st (cm_na (n := 26) (d := 22636) (d' := 22685) (L := 49) (by decide) rfl rfl rfl (by decide) (fun _ => rfl) r1 (by decide) r2 rfl (by decide)) ?_
  dsimp only
  refine b_st (cm_pR (r := 26) (by decide) (by decide) rfl) ?_
  refine b_st (cm_na (n := 27) (d := 22685) (d' := 22941) (L := 256) (by decide) rfl rfl rfl (by decide) (fun _ => rfl) r1 (by decide) r2 rfl (by decide)) ?_
  dsimp only
  refine b_st (cm_pR (r := 27) (by decide) (by decide) rfl) ?_
  refine b_st (cm_pI (k := 47) (by decide)) ?_
  refine b_st (cm_na (n := 28) (d := 22941) (d' := 22944) (L := 3) (by decide) rfl rfl rfl (by decide) (fun _ => rfl) r1 (by decide) r2 rfl (by decide)) ?_
  dsimp only
  refine b_st (cm_pR (r := 28) (by decide) (by decide) rfl) ?_
  refine b_st (cm_na (n := 29) (d := 22944) (d' := 22951) (L := 7) (by decide) rfl rfl rfl (by decide) (fun _ => rfl) r1 (by decide) r2 rfl (by decide)) ?_
  dsimp only
  refine b_st (cm_pR (r := 29) (by decide) (by decide) rfl) ?_
  refine b_st (cm_na (n := 30) (d := 22951) (d' := 22958) (L := 7) (by decide) rfl rfl rfl (by decide) (fun _ => rfl) r1 (by decide) r2 rfl (by decide)) ?_
  dsimp only
  refine b_st (cm_pR (r := 30) (by decide) (by decide) rfl) ?_
  refine b_st (cm_na (n := 31) (d := 22958) (d' := 22965) (L := 7) (by decide) rfl rfl rfl (by decide) (fun _ => rfl) r1 (by decide) r2 rfl (by decide)) ?_
  dsimp only
  refine b_st (cm_pR (r := 31) (by decide) (by decide) rfl) ?_
  refine b_st (cm_gR (q := 2) (by decide) rfl (by decide) (by decide)) ?_
  refine b_st (cm_sto (o := 2) (j := 156) (by decide) rfl rfl (by decide) (by decide)) ?_
  rfl
