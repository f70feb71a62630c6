set_option maxRecDepth 100000
theorem o_237_0 : okL gmt mt_237 0 b_237_0 := by
  refine oc (y := mt_237) (pc := 0) (ok_aload_n dX7_boardTold_0) 1 rfl ?_
  refine oc (y := mt_237) (pc := 1) (ok_aload_n dX7_boardTold_1) 2 rfl ?_
  refine oc (y := mt_237) (pc := 2) (ok_getfield dX7_boardTold_2 (fg (own := "GardenChessModel") (idx := 20) (g := 9) (k := 11) (r := (RX7, TX7, 122)) rfl ⟨⟨by decide, by decide⟩, by decide⟩ (Or.inl q1823) (Or.inl rfl) rfl (fg_nil))) 5 rfl ?_
  refine oc_V (y := mt_237) (pc := 5) (vcons (y := mt_237) (pc := 5) (len := 3) (n := 2) (M := mt_238) (by decide) rfl (Or.inr rfl) rfl (ck_V dX7_boardTold_5 ⟨by decide, by decide, by decide, by decide +kernel⟩ q2195 q2197 qs57 q177 q2198) vnil) (hok0 rfl) (by decide) 8 rfl ?_
  refine oc (y := mt_237) (pc := 8) (ok_aload_n dX7_boardTold_8) 9 rfl ?_
  refine oc (y := mt_237) (pc := 9) (ok_getfield dX7_boardTold_9 (fg (own := "GardenChessModel") (idx := 127) (g := 9) (k := 47) (r := (RX7, TX7, 122)) rfl ⟨⟨by decide, by decide⟩, by decide⟩ (Or.inl q1859) (Or.inl rfl) rfl (fg_nil))) 12 rfl ?_
  refine oc (y := mt_237) (pc := 12) (ok_iconst dX7_boardTold_12 rfl ⟨by decide, by decide⟩) 13 rfl ?_
  refine oc (y := mt_237) (pc := 13) (ok_aload_n dX7_boardTold_13) 14 rfl ?_
  refine oc (y := mt_237) (pc := 14) (ok_iconst dX7_boardTold_14 rfl ⟨by decide, by decide⟩) 15 rfl ?_
  refine oc (y := mt_237) (pc := 15) (ok_iconst dX7_boardTold_15 rfl ⟨by decide, by decide⟩) 16 rfl ?_
  refine oc_V (y := mt_237) (pc := 16) (vcons (y := mt_237) (pc := 16) (len := 3) (n := 3) (M := mt_244) (by decide) rfl (Or.inr rfl) rfl (ck_V dX7_boardTold_16 ⟨by decide, by decide, by decide, by decide +kernel⟩ q2218 q2220 qs62 q177 q2221) vnil) (hok0 rfl) (by decide) 19 rfl ?_
  refine oc (y := mt_237) (pc := 19) (ok_iastore dX7_boardTold_19) 20 rfl ?_
  refine oc (y := mt_237) (pc := 20) (ok_aload_n dX7_boardTold_20) 21 rfl ?_
  refine oc (y := mt_237) (pc := 21) (ok_aload_n dX7_boardTold_21) 22 rfl ?_
  refine oc (y := mt_237) (pc := 22) (ok_getfield dX7_boardTold_22 (fg (own := "GardenChessModel") (idx := 24) (g := 9) (k := 12) (r := (RX7, TX7, 122)) rfl ⟨⟨by decide, by decide⟩, by decide⟩ (Or.inl q1824) (Or.inl rfl) rfl (fg_nil))) 25 rfl ?_
  refine oc_V (y := mt_237) (pc := 25) (vcons (y := mt_237) (pc := 25) (len := 3) (n := 2) (M := mt_238) (by decide) rfl (Or.inr rfl) rfl (ck_V dX7_boardTold_25 ⟨by decide, by decide, by decide, by decide +kernel⟩ q2195 q2197 qs57 q177 q2198) vnil) (hok0 rfl) (by decide) 28 rfl ?_
  refine oc (y := mt_237) (pc := 28) (ok_aload_n dX7_boardTold_28) 29 rfl ?_
  refine oc (y := mt_237) (pc := 29) (ok_getfield dX7_boardTold_29 (fg (own := "GardenChessModel") (idx := 127) (g := 9) (k := 47) (r := (RX7, TX7, 122)) rfl ⟨⟨by decide, by decide⟩, by decide⟩ (Or.inl q1859) (Or.inl rfl) rfl (fg_nil))) 32 rfl ?_
  refine oc (y := mt_237) (pc := 32) (ok_iconst dX7_boardTold_32 rfl ⟨by decide, by decide⟩) 33 rfl ?_
  refine oc (y := mt_237) (pc := 33) (ok_aload_n dX7_boardTold_33) 34 rfl ?_
  refine oc (y := mt_237) (pc := 34) (ok_iconst dX7_boardTold_34 rfl ⟨by decide, by decide⟩) 35 rfl ?_
  refine oc (y := mt_237) (pc := 35) (ok_iconst dX7_boardTold_35 rfl ⟨by decide, by decide⟩) 36 rfl ?_
  refine oc_V (y := mt_237) (pc := 36) (vcons (y := mt_237) (pc := 36) (len := 3) (n := 3) (M := mt_244) (by decide) rfl (Or.inr rfl) rfl (ck_V dX7_boardTold_36 ⟨by decide, by decide, by decide, by decide +kernel⟩ q2218 q2220 qs62 q177 q2221) vnil) (hok0 rfl) (by decide) 39 rfl ?_
  refine oc (y := mt_237) (pc := 39) (ok_iastore dX7_boardTold_39) 40 rfl ?_
  refine oc (y := mt_237) (pc := 40) (ok_aload_n dX7_boardTold_40) 41 rfl ?_
  refine oc (y := mt_237) (pc := 41) (ok_aload_n dX7_boardTold_41) 42 rfl ?_
  refine oc (y := mt_237) (pc := 42) (ok_getfield dX7_boardTold_42 (fg (own := "GardenChessModel") (idx := 27) (g := 9) (k := 13) (r := (RX7, TX7, 122)) rfl ⟨⟨by decide, by decide⟩, by decide⟩ (Or.inl q1825) (Or.inl rfl) rfl (fg_nil))) 45 rfl ?_
  refine oc_V (y := mt_237) (pc := 45) (vcons (y := mt_237) (pc := 45) (len := 3) (n := 2) (M := mt_238) (by decide) rfl (Or.inr rfl) rfl (ck_V dX7_boardTold_45 ⟨by decide, by decide, by decide, by decide +kernel⟩ q2195 q2197 qs57 q177 q2198) vnil) (hok0 rfl) (by decide) 48 rfl ?_
  refine oc (y := mt_237) (pc := 48) (ok_aload_n dX7_boardTold_48) 49 rfl ?_
  refine oc (y := mt_237) (pc := 49) (ok_getfield dX7_boardTold_49 (fg (own := "GardenChessModel") (idx := 127) (g := 9) (k := 47) (r := (RX7, TX7, 122)) rfl ⟨⟨by decide, by decide⟩, by decide⟩ (Or.inl q1859) (Or.inl rfl) rfl (fg_nil))) 52 rfl ?_
  refine oc (y := mt_237) (pc := 52) (ok_iconst dX7_boardTold_52 rfl ⟨by decide, by decide⟩) 53 rfl ?_
  refine oc (y := mt_237) (pc := 53) (ok_aload_n dX7_boardTold_53) 54 rfl ?_
  refine oc (y := mt_237) (pc := 54) (ok_iconst dX7_boardTold_54 rfl ⟨by decide, by decide⟩) 55 rfl ?_
  refine oc (y := mt_237) (pc := 55) (ok_iconst dX7_boardTold_55 rfl ⟨by decide, by decide⟩) 56 rfl ?_
  refine oc_V (y := mt_237) (pc := 56) (vcons (y := mt_237) (pc := 56) (len := 3) (n := 3) (M := mt_244) (by decide) rfl (Or.inr rfl) rfl (ck_V dX7_boardTold_56 ⟨by decide, by decide, by decide, by decide +kernel⟩ q2218 q2220 qs62 q177 q2221) vnil) (hok0 rfl) (by decide) 59 rfl ?_
  refine oc (y := mt_237) (pc := 59) (ok_iastore dX7_boardTold_59) 60 rfl ?_
  refine oc (y := mt_237) (pc := 60) (ok_aload_n dX7_boardTold_60) 61 rfl ?_
  refine oc (y := mt_237) (pc := 61) (ok_aload_n dX7_boardTold_61) 62 rfl ?_
  refine oc (y := mt_237) (pc := 62) (ok_getfield dX7_boardTold_62 (fg (own := "GardenChessModel") (idx := 30) (g := 9) (k := 14) (r := (RX7, TX7, 122)) rfl ⟨⟨by decide, by decide⟩, by decide⟩ (Or.inl q1826) (Or.inl rfl) rfl (fg_nil))) 65 rfl ?_
  refine oc_V (y := mt_237) (pc := 65) (vcons (y := mt_237) (pc := 65) (len := 3) (n := 2) (M := mt_238) (by decide) rfl (Or.inr rfl) rfl (ck_V dX7_boardTold_65 ⟨by decide, by decide, by decide, by decide +kernel⟩ q2195 q2197 qs57 q177 q2198) vnil) (hok0 rfl) (by decide) 68 rfl ?_
  refine oc (y := mt_237) (pc := 68) (ok_aload_n dX7_boardTold_68) 69 rfl ?_
  refine oc (y := mt_237) (pc := 69) (ok_getfield dX7_boardTold_69 (fg (own := "GardenChessModel") (idx := 127) (g := 9) (k := 47) (r := (RX7, TX7, 122)) rfl ⟨⟨by decide, by decide⟩, by decide⟩ (Or.inl q1859) (Or.inl rfl) rfl (fg_nil))) 72 rfl ?_
  refine oc (y := mt_237) (pc := 72) (ok_iconst dX7_boardTold_72 rfl ⟨by decide, by decide⟩) 73 rfl ?_
  refine oc (y := mt_237) (pc := 73) (ok_aload_n dX7_boardTold_73) 74 rfl ?_
  refine oc (y := mt_237) (pc := 74) (ok_iconst dX7_boardTold_74 rfl ⟨by decide, by decide⟩) 75 rfl ?_
  refine oc (y := mt_237) (pc := 75) (ok_iconst dX7_boardTold_75 rfl ⟨by decide, by decide⟩) 76 rfl ?_
  refine oc_V (y := mt_237) (pc := 76) (vcons (y := mt_237) (pc := 76) (len := 3) (n := 3) (M := mt_244) (by decide) rfl (Or.inr rfl) rfl (ck_V dX7_boardTold_76 ⟨by decide, by decide, by decide, by decide +kernel⟩ q2218 q2220 qs62 q177 q2221) vnil) (hok0 rfl) (by decide) 79 rfl ?_
  refine oc (y := mt_237) (pc := 79) (ok_iastore dX7_boardTold_79) 80 rfl ?_
  exact oc_fall rfl
theorem o_237_80 : okL gmt mt_237 80 b_237_80 := by
  refine oc (y := mt_237) (pc := 80) (ok_aload_n dX7_boardTold_80) 81 rfl ?_
  refine oc (y := mt_237) (pc := 81) (ok_bipush dX7_boardTold_81 (by decide) ⟨by decide, by decide⟩) 83 rfl ?_
  refine oc_V (y := mt_237) (pc := 83) (vcons (y := mt_237) (pc := 83) (len := 3) (n := 2) (M := mt_247) (by decide) rfl (Or.inr rfl) rfl (ck_V dX7_boardTold_83 ⟨by decide, by decide, by decide, by decide +kernel⟩ q2228 q2230 qs63 q177 q2231) vnil) (hok0 rfl) (by decide) 86 rfl ?_
  exact oc_ret dX7_boardTold_86 rfl
theorem ok_237 : ∀ q ∈ pr_237, okL gmt mt_237 q.1 q.2 := pk_c o_237_0 (pk_c o_237_80 (pk_n))
theorem o_238_0 : okL gmt mt_238 0 b_238_0 := by
  refine oc (y := mt_238) (pc := 0) (ok_aload_n dX7_asks_0) 1 rfl ?_
  refine oc (y := mt_238) (pc := 1) (ok_getfield dX7_asks_1 (fg (own := "GardenChessModel") (idx := 278) (g := 9) (k := 5) (r := (RX7, TX7, 122)) rfl ⟨⟨by decide, by decide⟩, by decide⟩ (Or.inl q1817) (Or.inl rfl) rfl (fg_nil))) 4 rfl ?_
  refine oc_if dX7_asks_4 ⟨by decide, by decide⟩ 7 rfl ?_
  refine oc (y := mt_238) (pc := 7) (ok_aload_n dX7_asks_7) 8 rfl ?_
  refine oc (y := mt_238) (pc := 8) (ok_aload_n dX7_asks_8) 9 rfl ?_
  refine oc_V (y := mt_238) (pc := 9) (vcons (y := mt_238) (pc := 9) (len := 3) (n := 2) (M := mt_239) (by decide) rfl (Or.inr rfl) rfl (ck_V dX7_asks_9 ⟨by decide, by decide, by decide, by decide +kernel⟩ q2199 q2201 qs58 q177 q2202) vnil) (hok0 rfl) (by decide) 12 rfl ?_
  refine oc_if dX7_asks_12 ⟨by decide, by decide⟩ 15 rfl ?_
  refine oc (y := mt_238) (pc := 15) (ok_aload_n dX7_asks_15) 16 rfl ?_
  refine oc (y := mt_238) (pc := 16) (ok_iconst dX7_asks_16 rfl ⟨by decide, by decide⟩) 17 rfl ?_
  refine oc (y := mt_238) (pc := 17) (ok_aload_n dX7_asks_17) 18 rfl ?_
  refine oc (y := mt_238) (pc := 18) (ok_getfield dX7_asks_18 (fg (own := "GardenChessModel") (idx := 284) (g := 9) (k := 2) (r := (RX7, TX7, 122)) rfl ⟨⟨by decide, by decide⟩, by decide⟩ (Or.inl q1814) (Or.inl rfl) rfl (fg_nil))) 21 rfl ?_
  refine oc_V (y := mt_238) (pc := 21) (vcons (y := mt_238) (pc := 21) (len := 3) (n := 3) (M := mt_243) (by decide) rfl (Or.inr rfl) rfl (ck_V dX7_asks_21 ⟨by decide, by decide, by decide, by decide +kernel⟩ q2214 q2216 qs61 q177 q2217) vnil) (hok0 rfl) (by decide) 24 rfl ?_
  exact oc_fall rfl
theorem o_238_24 : okL gmt mt_238 24 b_238_24 := by
  exact oc_ret dX7_asks_24 rfl
theorem ok_238 : ∀ q ∈ pr_238, okL gmt mt_238 q.1 q.2 := pk_c o_238_0 (pk_c o_238_24 (pk_n))
theorem o_239_0 : okL gmt mt_239 0 b_239_0 := by
  refine oc (y := mt_239) (pc := 0) (ok_aload_n dX7_takes_0) 1 rfl ?_
  refine oc (y := mt_239) (pc := 1) (ok_aload_n dX7_takes_1) 2 rfl ?_
  refine oc_V (y := mt_239) (pc := 2) (vcons (y := mt_239) (pc := 2) (len := 3) (n := 2) (M := mt_240) (by decide) rfl (Or.inr rfl) rfl (ck_V dX7_takes_2 ⟨by decide, by decide, by decide, by decide +kernel⟩ q2203 q2205 qs59 q177 q2206) vnil) (hok0 rfl) (by decide) 5 rfl ?_
  refine oc_if dX7_takes_5 ⟨by decide, by decide⟩ 8 rfl ?_
  refine oc (y := mt_239) (pc := 8) (ok_iconst dX7_takes_8 rfl ⟨by decide, by decide⟩) 9 rfl ?_
  exact oc_zret dX7_takes_9 rfl
theorem o_239_10 : okL gmt mt_239 10 b_239_10 := by
  refine oc (y := mt_239) (pc := 10) (ok_aload_n dX7_takes_10) 11 rfl ?_
  refine oc (y := mt_239) (pc := 11) (ok_dup dX7_takes_11) 12 rfl ?_
  refine oc (y := mt_239) (pc := 12) (ok_getfield dX7_takes_12 (fg (own := "GardenChessModel") (idx := 284) (g := 9) (k := 2) (r := (RX7, TX7, 122)) rfl ⟨⟨by decide, by decide⟩, by decide⟩ (Or.inl q1814) (Or.inl rfl) rfl (fg_nil))) 15 rfl ?_
  refine oc (y := mt_239) (pc := 15) (ok_aload_n dX7_takes_15) 16 rfl ?_
  refine oc (y := mt_239) (pc := 16) (ok_alen dX7_takes_16) 17 rfl ?_
  refine oc (y := mt_239) (pc := 17) (ok_iadd dX7_takes_17) 18 rfl ?_
  refine oc (y := mt_239) (pc := 18) (ok_putfield dX7_takes_18 (fp (own := "GardenChessModel") (idx := 284) (g := 9) (k := 2) (r := (RX7, TX7, 122)) rfl ⟨⟨by decide, by decide⟩, by decide⟩ (Or.inl q1814) (Or.inl rfl) rfl (Or.inl rfl) (fp_nil))) 21 rfl ?_
  refine oc (y := mt_239) (pc := 21) (ok_aload_n dX7_takes_21) 22 rfl ?_
  refine oc (y := mt_239) (pc := 22) (ok_aload_n dX7_takes_22) 23 rfl ?_
  refine oc (y := mt_239) (pc := 23) (ok_getfield dX7_takes_23 (fg (own := "GardenChessModel") (idx := 284) (g := 9) (k := 2) (r := (RX7, TX7, 122)) rfl ⟨⟨by decide, by decide⟩, by decide⟩ (Or.inl q1814) (Or.inl rfl) rfl (fg_nil))) 26 rfl ?_
  refine oc (y := mt_239) (pc := 26) (ok_putfield dX7_takes_26 (fp (own := "GardenChessModel") (idx := 298) (g := 9) (k := 4) (r := (RX7, TX7, 122)) rfl ⟨⟨by decide, by decide⟩, by decide⟩ (Or.inl q1816) (Or.inl rfl) rfl (Or.inl rfl) (fp_nil))) 29 rfl ?_
  refine oc (y := mt_239) (pc := 29) (ok_iconst dX7_takes_29 rfl ⟨by decide, by decide⟩) 30 rfl ?_
  exact oc_zret dX7_takes_30 rfl
theorem ok_239 : ∀ q ∈ pr_239, okL gmt mt_239 q.1 q.2 := pk_c o_239_0 (pk_c o_239_10 (pk_n))
theorem o_240_0 : okL gmt mt_240 0 b_240_0 := by
  refine oc (y := mt_240) (pc := 0) (ok_aload_n dX7_isHere_0) 1 rfl ?_
  refine oc (y := mt_240) (pc := 1) (ok_getfield dX7_isHere_1 (fg (own := "GardenChessModel") (idx := 278) (g := 9) (k := 5) (r := (RX7, TX7, 122)) rfl ⟨⟨by decide, by decide⟩, by decide⟩ (Or.inl q1817) (Or.inl rfl) rfl (fg_nil))) 4 rfl ?_
  refine oc_if dX7_isHere_4 ⟨by decide, by decide⟩ 7 rfl ?_
  refine oc (y := mt_240) (pc := 7) (ok_aload_n dX7_isHere_7) 8 rfl ?_
  refine oc_V (y := mt_240) (pc := 8) (vcons (y := mt_240) (pc := 8) (len := 3) (n := 1) (M := mt_241) (by decide) rfl (Or.inr rfl) rfl (ck_V dX7_isHere_8 ⟨by decide, by decide, by decide, by decide +kernel⟩ q2207 q2209 qs60 q177 q2210) vnil) (hok0 rfl) (by decide) 11 rfl ?_
  refine oc_S (y := mt_240) (pc := 11) (M := mt_242) rfl (ck_S dX7_isHere_11 ⟨by decide, by decide, by decide, by decide +kernel⟩ q2211 q2212 q177 q2213) (hok0 rfl) (by decide) 14 rfl ?_
  refine oc_if dX7_isHere_14 ⟨by decide, by decide⟩ 17 rfl ?_
  refine oc (y := mt_240) (pc := 17) (ok_aload_n dX7_isHere_17) 18 rfl ?_
  refine oc (y := mt_240) (pc := 18) (ok_getfield dX7_isHere_18 (fg (own := "GardenChessModel") (idx := 284) (g := 9) (k := 2) (r := (RX7, TX7, 122)) rfl ⟨⟨by decide, by decide⟩, by decide⟩ (Or.inl q1814) (Or.inl rfl) rfl (fg_nil))) 21 rfl ?_
  refine oc (y := mt_240) (pc := 21) (ok_aload_n dX7_isHere_21) 22 rfl ?_
  refine oc (y := mt_240) (pc := 22) (ok_getfield dX7_isHere_22 (fg (own := "GardenChessModel") (idx := 298) (g := 9) (k := 4) (r := (RX7, TX7, 122)) rfl ⟨⟨by decide, by decide⟩, by decide⟩ (Or.inl q1816) (Or.inl rfl) rfl (fg_nil))) 25 rfl ?_
  refine oc_icmp dX7_isHere_25 ⟨by decide, by decide⟩ 28 rfl ?_
  exact oc_fall rfl
theorem o_240_28 : okL gmt mt_240 28 b_240_28 := by
  refine oc (y := mt_240) (pc := 28) (ok_iconst dX7_isHere_28 rfl ⟨by decide, by decide⟩) 29 rfl ?_
  exact oc_zret dX7_isHere_29 rfl
theorem o_240_30 : okL gmt mt_240 30 b_240_30 := by
  refine oc (y := mt_240) (pc := 30) (ok_aload_n dX7_isHere_30) 31 rfl ?_
  refine oc (y := mt_240) (pc := 31) (ok_getfield dX7_isHere_31 (fg (own := "GardenChessModel") (idx := 284) (g := 9) (k := 2) (r := (RX7, TX7, 122)) rfl ⟨⟨by decide, by decide⟩, by decide⟩ (Or.inl q1814) (Or.inl rfl) rfl (fg_nil))) 34 rfl ?_
  refine oc (y := mt_240) (pc := 34) (ok_istore_n dX7_isHere_34 (by decide)) 35 rfl ?_
  exact oc_fall rfl
theorem o_240_35 : okL gmt mt_240 35 b_240_35 := by
  refine oc (y := mt_240) (pc := 35) (ok_iload_n dX7_isHere_35) 36 rfl ?_
  refine oc (y := mt_240) (pc := 36) (ok_aload_n dX7_isHere_36) 37 rfl ?_
  refine oc (y := mt_240) (pc := 37) (ok_getfield dX7_isHere_37 (fg (own := "GardenChessModel") (idx := 287) (g := 9) (k := 3) (r := (RX7, TX7, 122)) rfl ⟨⟨by decide, by decide⟩, by decide⟩ (Or.inl q1815) (Or.inl rfl) rfl (fg_nil))) 40 rfl ?_
  refine oc_icmp dX7_isHere_40 ⟨by decide, by decide⟩ 43 rfl ?_
  refine oc (y := mt_240) (pc := 43) (ok_aload_n dX7_isHere_43) 44 rfl ?_
  refine oc (y := mt_240) (pc := 44) (ok_getfield dX7_isHere_44 (fg (own := "GardenChessModel") (idx := 7) (g := 9) (k := 0) (r := (RX7, TX7, 122)) rfl ⟨⟨by decide, by decide⟩, by decide⟩ (Or.inl q1812) (Or.inl rfl) rfl (fg_nil))) 47 rfl ?_
  refine oc (y := mt_240) (pc := 47) (ok_iload_n dX7_isHere_47) 48 rfl ?_
  refine oc (y := mt_240) (pc := 48) (ok_iaload dX7_isHere_48) 49 rfl ?_
  refine oc_S (y := mt_240) (pc := 49) (M := mt_242) rfl (ck_S dX7_isHere_49 ⟨by decide, by decide, by decide, by decide +kernel⟩ q2211 q2212 q177 q2213) (hok0 rfl) (by decide) 52 rfl ?_
  refine oc_if dX7_isHere_52 ⟨by decide, by decide⟩ 55 rfl ?_
  refine oc (y := mt_240) (pc := 55) (ok_iinc dX7_isHere_55 (by decide)) 58 rfl ?_
  exact oc_goto dX7_isHere_58 ⟨by decide, by decide⟩
theorem o_240_61 : okL gmt mt_240 61 b_240_61 := by
  refine oc (y := mt_240) (pc := 61) (ok_iload_n dX7_isHere_61) 62 rfl ?_
  refine oc (y := mt_240) (pc := 62) (ok_aload_n dX7_isHere_62) 63 rfl ?_
  refine oc (y := mt_240) (pc := 63) (ok_getfield dX7_isHere_63 (fg (own := "GardenChessModel") (idx := 284) (g := 9) (k := 2) (r := (RX7, TX7, 122)) rfl ⟨⟨by decide, by decide⟩, by decide⟩ (Or.inl q1814) (Or.inl rfl) rfl (fg_nil))) 66 rfl ?_
  refine oc (y := mt_240) (pc := 66) (ok_isub dX7_isHere_66) 67 rfl ?_
  refine oc (y := mt_240) (pc := 67) (ok_aload_n dX7_isHere_67) 68 rfl ?_
  refine oc (y := mt_240) (pc := 68) (ok_alen dX7_isHere_68) 69 rfl ?_
  refine oc_icmp dX7_isHere_69 ⟨by decide, by decide⟩ 72 rfl ?_
  refine oc (y := mt_240) (pc := 72) (ok_iconst dX7_isHere_72 rfl ⟨by decide, by decide⟩) 73 rfl ?_
  exact oc_zret dX7_isHere_73 rfl
theorem o_240_74 : okL gmt mt_240 74 b_240_74 := by
  refine oc (y := mt_240) (pc := 74) (ok_iconst dX7_isHere_74 rfl ⟨by decide, by decide⟩) 75 rfl ?_
  refine oc (y := mt_240) (pc := 75) (ok_istore_n dX7_isHere_75 (by decide)) 76 rfl ?_
  exact oc_fall rfl
theorem o_240_76 : okL gmt mt_240 76 b_240_76 := by
  refine oc (y := mt_240) (pc := 76) (ok_iload_n dX7_isHere_76) 77 rfl ?_
  refine oc (y := mt_240) (pc := 77) (ok_aload_n dX7_isHere_77) 78 rfl ?_
  refine oc (y := mt_240) (pc := 78) (ok_alen dX7_isHere_78) 79 rfl ?_
  refine oc_icmp dX7_isHere_79 ⟨by decide, by decide⟩ 82 rfl ?_
  refine oc (y := mt_240) (pc := 82) (ok_aload_n dX7_isHere_82) 83 rfl ?_
  refine oc (y := mt_240) (pc := 83) (ok_getfield dX7_isHere_83 (fg (own := "GardenChessModel") (idx := 7) (g := 9) (k := 0) (r := (RX7, TX7, 122)) rfl ⟨⟨by decide, by decide⟩, by decide⟩ (Or.inl q1812) (Or.inl rfl) rfl (fg_nil))) 86 rfl ?_
  refine oc (y := mt_240) (pc := 86) (ok_aload_n dX7_isHere_86) 87 rfl ?_
  refine oc (y := mt_240) (pc := 87) (ok_getfield dX7_isHere_87 (fg (own := "GardenChessModel") (idx := 284) (g := 9) (k := 2) (r := (RX7, TX7, 122)) rfl ⟨⟨by decide, by decide⟩, by decide⟩ (Or.inl q1814) (Or.inl rfl) rfl (fg_nil))) 90 rfl ?_
  refine oc (y := mt_240) (pc := 90) (ok_iload_n dX7_isHere_90) 91 rfl ?_
  refine oc (y := mt_240) (pc := 91) (ok_iadd dX7_isHere_91) 92 rfl ?_
  refine oc (y := mt_240) (pc := 92) (ok_iaload dX7_isHere_92) 93 rfl ?_
  refine oc (y := mt_240) (pc := 93) (ok_aload_n dX7_isHere_93) 94 rfl ?_
  refine oc (y := mt_240) (pc := 94) (ok_iload_n dX7_isHere_94) 95 rfl ?_
  refine oc (y := mt_240) (pc := 95) (ok_caload dX7_isHere_95) 96 rfl ?_
  refine oc_icmp dX7_isHere_96 ⟨by decide, by decide⟩ 99 rfl ?_
  refine oc (y := mt_240) (pc := 99) (ok_iconst dX7_isHere_99 rfl ⟨by decide, by decide⟩) 100 rfl ?_
  exact oc_zret dX7_isHere_100 rfl
theorem o_240_101 : okL gmt mt_240 101 b_240_101 := by
  refine oc (y := mt_240) (pc := 101) (ok_iinc dX7_isHere_101 (by decide)) 104 rfl ?_
  exact oc_goto dX7_isHere_104 ⟨by decide, by decide⟩
theorem o_240_107 : okL gmt mt_240 107 b_240_107 := by
  refine oc (y := mt_240) (pc := 107) (ok_iconst dX7_isHere_107 rfl ⟨by decide, by decide⟩) 108 rfl ?_
  exact oc_zret dX7_isHere_108 rfl
theorem ok_240 : ∀ q ∈ pr_240, okL gmt mt_240 q.1 q.2 := pk_c o_240_0 (pk_c o_240_28 (pk_c o_240_30 (pk_c o_240_35 (pk_c o_240_61 (pk_c o_240_74 (pk_c o_240_76 (pk_c o_240_101 (pk_c o_240_107 (pk_n)))))))))
theorem o_241_0 : okL gmt mt_241 0 b_241_0 := by
  refine oc (y := mt_241) (pc := 0) (ok_aload_n dX7_look_0) 1 rfl ?_
  refine oc (y := mt_241) (pc := 1) (ok_getfield dX7_look_1 (fg (own := "GardenChessModel") (idx := 284) (g := 9) (k := 2) (r := (RX7, TX7, 122)) rfl ⟨⟨by decide, by decide⟩, by decide⟩ (Or.inl q1814) (Or.inl rfl) rfl (fg_nil))) 4 rfl ?_
  refine oc (y := mt_241) (pc := 4) (ok_aload_n dX7_look_4) 5 rfl ?_
  refine oc (y := mt_241) (pc := 5) (ok_getfield dX7_look_5 (fg (own := "GardenChessModel") (idx := 287) (g := 9) (k := 3) (r := (RX7, TX7, 122)) rfl ⟨⟨by decide, by decide⟩, by decide⟩ (Or.inl q1815) (Or.inl rfl) rfl (fg_nil))) 8 rfl ?_
  refine oc_icmp dX7_look_8 ⟨by decide, by decide⟩ 11 rfl ?_
  refine oc (y := mt_241) (pc := 11) (ok_aload_n dX7_look_11) 12 rfl ?_
  refine oc (y := mt_241) (pc := 12) (ok_getfield dX7_look_12 (fg (own := "GardenChessModel") (idx := 7) (g := 9) (k := 0) (r := (RX7, TX7, 122)) rfl ⟨⟨by decide, by decide⟩, by decide⟩ (Or.inl q1812) (Or.inl rfl) rfl (fg_nil))) 15 rfl ?_
  refine oc (y := mt_241) (pc := 15) (ok_aload_n dX7_look_15) 16 rfl ?_
  refine oc (y := mt_241) (pc := 16) (ok_getfield dX7_look_16 (fg (own := "GardenChessModel") (idx := 284) (g := 9) (k := 2) (r := (RX7, TX7, 122)) rfl ⟨⟨by decide, by decide⟩, by decide⟩ (Or.inl q1814) (Or.inl rfl) rfl (fg_nil))) 19 rfl ?_
  refine oc (y := mt_241) (pc := 19) (ok_iaload dX7_look_19) 20 rfl ?_
  refine oc (y := mt_241) (pc := 20) (ok_bipush dX7_look_20 (by decide) ⟨by decide, by decide⟩) 22 rfl ?_
  refine oc_icmp dX7_look_22 ⟨by decide, by decide⟩ 25 rfl ?_
  refine oc (y := mt_241) (pc := 25) (ok_aload_n dX7_look_25) 26 rfl ?_
  refine oc (y := mt_241) (pc := 26) (ok_getfield dX7_look_26 (fg (own := "GardenChessModel") (idx := 7) (g := 9) (k := 0) (r := (RX7, TX7, 122)) rfl ⟨⟨by decide, by decide⟩, by decide⟩ (Or.inl q1812) (Or.inl rfl) rfl (fg_nil))) 29 rfl ?_
  refine oc (y := mt_241) (pc := 29) (ok_aload_n dX7_look_29) 30 rfl ?_
  refine oc (y := mt_241) (pc := 30) (ok_getfield dX7_look_30 (fg (own := "GardenChessModel") (idx := 284) (g := 9) (k := 2) (r := (RX7, TX7, 122)) rfl ⟨⟨by decide, by decide⟩, by decide⟩ (Or.inl q1814) (Or.inl rfl) rfl (fg_nil))) 33 rfl ?_
  refine oc (y := mt_241) (pc := 33) (ok_iaload dX7_look_33) 34 rfl ?_
  refine oc (y := mt_241) (pc := 34) (ok_bipush dX7_look_34 (by decide) ⟨by decide, by decide⟩) 36 rfl ?_
  refine oc_icmp dX7_look_36 ⟨by decide, by decide⟩ 39 rfl ?_
  exact oc_fall rfl
theorem o_241_39 : okL gmt mt_241 39 b_241_39 := by
  refine oc (y := mt_241) (pc := 39) (ok_aload_n dX7_look_39) 40 rfl ?_
  refine oc (y := mt_241) (pc := 40) (ok_dup dX7_look_40) 41 rfl ?_
  refine oc (y := mt_241) (pc := 41) (ok_getfield dX7_look_41 (fg (own := "GardenChessModel") (idx := 284) (g := 9) (k := 2) (r := (RX7, TX7, 122)) rfl ⟨⟨by decide, by decide⟩, by decide⟩ (Or.inl q1814) (Or.inl rfl) rfl (fg_nil))) 44 rfl ?_
  refine oc (y := mt_241) (pc := 44) (ok_iconst dX7_look_44 rfl ⟨by decide, by decide⟩) 45 rfl ?_
  refine oc (y := mt_241) (pc := 45) (ok_iadd dX7_look_45) 46 rfl ?_
  refine oc (y := mt_241) (pc := 46) (ok_putfield dX7_look_46 (fp (own := "GardenChessModel") (idx := 284) (g := 9) (k := 2) (r := (RX7, TX7, 122)) rfl ⟨⟨by decide, by decide⟩, by decide⟩ (Or.inl q1814) (Or.inl rfl) rfl (Or.inl rfl) (fp_nil))) 49 rfl ?_
  exact oc_goto dX7_look_49 ⟨by decide, by decide⟩
theorem o_241_52 : okL gmt mt_241 52 b_241_52 := by
  refine oc (y := mt_241) (pc := 52) (ok_aload_n dX7_look_52) 53 rfl ?_
  refine oc (y := mt_241) (pc := 53) (ok_getfield dX7_look_53 (fg (own := "GardenChessModel") (idx := 284) (g := 9) (k := 2) (r := (RX7, TX7, 122)) rfl ⟨⟨by decide, by decide⟩, by decide⟩ (Or.inl q1814) (Or.inl rfl) rfl (fg_nil))) 56 rfl ?_
  refine oc (y := mt_241) (pc := 56) (ok_aload_n dX7_look_56) 57 rfl ?_
  refine oc (y := mt_241) (pc := 57) (ok_getfield dX7_look_57 (fg (own := "GardenChessModel") (idx := 287) (g := 9) (k := 3) (r := (RX7, TX7, 122)) rfl ⟨⟨by decide, by decide⟩, by decide⟩ (Or.inl q1815) (Or.inl rfl) rfl (fg_nil))) 60 rfl ?_
  refine oc_icmp dX7_look_60 ⟨by decide, by decide⟩ 63 rfl ?_
  refine oc (y := mt_241) (pc := 63) (ok_aload_n dX7_look_63) 64 rfl ?_
  refine oc (y := mt_241) (pc := 64) (ok_getfield dX7_look_64 (fg (own := "GardenChessModel") (idx := 7) (g := 9) (k := 0) (r := (RX7, TX7, 122)) rfl ⟨⟨by decide, by decide⟩, by decide⟩ (Or.inl q1812) (Or.inl rfl) rfl (fg_nil))) 67 rfl ?_
  refine oc (y := mt_241) (pc := 67) (ok_aload_n dX7_look_67) 68 rfl ?_
  refine oc (y := mt_241) (pc := 68) (ok_getfield dX7_look_68 (fg (own := "GardenChessModel") (idx := 284) (g := 9) (k := 2) (r := (RX7, TX7, 122)) rfl ⟨⟨by decide, by decide⟩, by decide⟩ (Or.inl q1814) (Or.inl rfl) rfl (fg_nil))) 71 rfl ?_
  refine oc (y := mt_241) (pc := 71) (ok_iaload dX7_look_71) 72 rfl ?_
  exact oc_goto dX7_look_72 ⟨by decide, by decide⟩
theorem o_241_75 : okL gmt mt_241 75 b_241_75 := by
  refine oc (y := mt_241) (pc := 75) (ok_iconst dX7_look_75 rfl ⟨by decide, by decide⟩) 76 rfl ?_
  exact oc_fall rfl
theorem o_241_76 : okL gmt mt_241 76 b_241_76 := by
  exact oc_iret dX7_look_76 rfl
theorem ok_241 : ∀ q ∈ pr_241, okL gmt mt_241 q.1 q.2 := pk_c o_241_0 (pk_c o_241_39 (pk_c o_241_52 (pk_c o_241_75 (pk_c o_241_76 (pk_n)))))
theorem o_242_0 : okL gmt mt_242 0 b_242_0 := by
  refine oc (y := mt_242) (pc := 0) (ok_iload_n dX7_isLetter_0) 1 rfl ?_
  refine oc (y := mt_242) (pc := 1) (ok_bipush dX7_isLetter_1 (by decide) ⟨by decide, by decide⟩) 3 rfl ?_
  refine oc_icmp dX7_isLetter_3 ⟨by decide, by decide⟩ 6 rfl ?_
  refine oc (y := mt_242) (pc := 6) (ok_iload_n dX7_isLetter_6) 7 rfl ?_
  refine oc (y := mt_242) (pc := 7) (ok_bipush dX7_isLetter_7 (by decide) ⟨by decide, by decide⟩) 9 rfl ?_
  refine oc_icmp dX7_isLetter_9 ⟨by decide, by decide⟩ 12 rfl ?_
  refine oc (y := mt_242) (pc := 12) (ok_iconst dX7_isLetter_12 rfl ⟨by decide, by decide⟩) 13 rfl ?_
  exact oc_goto dX7_isLetter_13 ⟨by decide, by decide⟩
theorem o_242_16 : okL gmt mt_242 16 b_242_16 := by
  refine oc (y := mt_242) (pc := 16) (ok_iconst dX7_isLetter_16 rfl ⟨by decide, by decide⟩) 17 rfl ?_
  exact oc_fall rfl
theorem o_242_17 : okL gmt mt_242 17 b_242_17 := by
  exact oc_zret dX7_isLetter_17 rfl
theorem ok_242 : ∀ q ∈ pr_242, okL gmt mt_242 q.1 q.2 := pk_c o_242_0 (pk_c o_242_16 (pk_c o_242_17 (pk_n)))
theorem o_243_0 : okL gmt mt_243 0 b_243_0 := by
  refine oc (y := mt_243) (pc := 0) (ok_aload_n dX7_fail_0) 1 rfl ?_
  refine oc (y := mt_243) (pc := 1) (ok_getfield dX7_fail_1 (fg (own := "GardenChessModel") (idx := 278) (g := 9) (k := 5) (r := (RX7, TX7, 122)) rfl ⟨⟨by decide, by decide⟩, by decide⟩ (Or.inl q1817) (Or.inl rfl) rfl (fg_nil))) 4 rfl ?_
  refine oc_if dX7_fail_4 ⟨by decide, by decide⟩ 7 rfl ?_
  exact oc_ret dX7_fail_7 rfl
theorem o_243_8 : okL gmt mt_243 8 b_243_8 := by
  refine oc (y := mt_243) (pc := 8) (ok_aload_n dX7_fail_8) 9 rfl ?_
  refine oc (y := mt_243) (pc := 9) (ok_iload_n dX7_fail_9) 10 rfl ?_
  refine oc (y := mt_243) (pc := 10) (ok_putfield dX7_fail_10 (fp (own := "GardenChessModel") (idx := 278) (g := 9) (k := 5) (r := (RX7, TX7, 122)) rfl ⟨⟨by decide, by decide⟩, by decide⟩ (Or.inl q1817) (Or.inl rfl) rfl (Or.inl rfl) (fp_nil))) 13 rfl ?_
  refine oc (y := mt_243) (pc := 13) (ok_aload_n dX7_fail_13) 14 rfl ?_
  refine oc (y := mt_243) (pc := 14) (ok_iload_n dX7_fail_14) 15 rfl ?_
  refine oc (y := mt_243) (pc := 15) (ok_putfield dX7_fail_15 (fp (own := "GardenChessModel") (idx := 281) (g := 9) (k := 6) (r := (RX7, TX7, 122)) rfl ⟨⟨by decide, by decide⟩, by decide⟩ (Or.inl q1818) (Or.inl rfl) rfl (Or.inl rfl) (fp_nil))) 18 rfl ?_
  exact oc_ret dX7_fail_18 rfl
theorem ok_243 : ∀ q ∈ pr_243, okL gmt mt_243 q.1 q.2 := pk_c o_243_0 (pk_c o_243_8 (pk_n))
theorem o_244_0 : okL gmt mt_244 0 b_244_0 := by
  refine oc (y := mt_244) (pc := 0) (ok_aload_n dX7_number_0) 1 rfl ?_
  refine oc (y := mt_244) (pc := 1) (ok_getfield dX7_number_1 (fg (own := "GardenChessModel") (idx := 278) (g := 9) (k := 5) (r := (RX7, TX7, 122)) rfl ⟨⟨by decide, by decide⟩, by decide⟩ (Or.inl q1817) (Or.inl rfl) rfl (fg_nil))) 4 rfl ?_
  refine oc_if dX7_number_4 ⟨by decide, by decide⟩ 7 rfl ?_
  refine oc (y := mt_244) (pc := 7) (ok_iconst dX7_number_7 rfl ⟨by decide, by decide⟩) 8 rfl ?_
  exact oc_iret dX7_number_8 rfl
theorem o_244_9 : okL gmt mt_244 9 b_244_9 := by
  refine oc (y := mt_244) (pc := 9) (ok_aload_n dX7_number_9) 10 rfl ?_
  refine oc_V (y := mt_244) (pc := 10) (vcons (y := mt_244) (pc := 10) (len := 3) (n := 1) (M := mt_241) (by decide) rfl (Or.inr rfl) rfl (ck_V dX7_number_10 ⟨by decide, by decide, by decide, by decide +kernel⟩ q2207 q2209 qs60 q177 q2210) vnil) (hok0 rfl) (by decide) 13 rfl ?_
  refine oc_S (y := mt_244) (pc := 13) (M := mt_245) rfl (ck_S dX7_number_13 ⟨by decide, by decide, by decide, by decide +kernel⟩ q2222 q2223 q177 q2224) (hok0 rfl) (by decide) 16 rfl ?_
  refine oc_if dX7_number_16 ⟨by decide, by decide⟩ 19 rfl ?_
  refine oc (y := mt_244) (pc := 19) (ok_aload_n dX7_number_19) 20 rfl ?_
  refine oc (y := mt_244) (pc := 20) (ok_getfield dX7_number_20 (fg (own := "GardenChessModel") (idx := 284) (g := 9) (k := 2) (r := (RX7, TX7, 122)) rfl ⟨⟨by decide, by decide⟩, by decide⟩ (Or.inl q1814) (Or.inl rfl) rfl (fg_nil))) 23 rfl ?_
  refine oc (y := mt_244) (pc := 23) (ok_aload_n dX7_number_23) 24 rfl ?_
  refine oc (y := mt_244) (pc := 24) (ok_getfield dX7_number_24 (fg (own := "GardenChessModel") (idx := 298) (g := 9) (k := 4) (r := (RX7, TX7, 122)) rfl ⟨⟨by decide, by decide⟩, by decide⟩ (Or.inl q1816) (Or.inl rfl) rfl (fg_nil))) 27 rfl ?_
  refine oc_icmp dX7_number_27 ⟨by decide, by decide⟩ 30 rfl ?_
  exact oc_fall rfl
theorem o_244_30 : okL gmt mt_244 30 b_244_30 := by
  refine oc (y := mt_244) (pc := 30) (ok_aload_n dX7_number_30) 31 rfl ?_
  refine oc (y := mt_244) (pc := 31) (ok_iconst dX7_number_31 rfl ⟨by decide, by decide⟩) 32 rfl ?_
  refine oc (y := mt_244) (pc := 32) (ok_aload_n dX7_number_32) 33 rfl ?_
  refine oc (y := mt_244) (pc := 33) (ok_getfield dX7_number_33 (fg (own := "GardenChessModel") (idx := 284) (g := 9) (k := 2) (r := (RX7, TX7, 122)) rfl ⟨⟨by decide, by decide⟩, by decide⟩ (Or.inl q1814) (Or.inl rfl) rfl (fg_nil))) 36 rfl ?_
  refine oc_V (y := mt_244) (pc := 36) (vcons (y := mt_244) (pc := 36) (len := 3) (n := 3) (M := mt_243) (by decide) rfl (Or.inr rfl) rfl (ck_V dX7_number_36 ⟨by decide, by decide, by decide, by decide +kernel⟩ q2214 q2216 qs61 q177 q2217) vnil) (hok0 rfl) (by decide) 39 rfl ?_
  refine oc (y := mt_244) (pc := 39) (ok_iconst dX7_number_39 rfl ⟨by decide, by decide⟩) 40 rfl ?_
  exact oc_iret dX7_number_40 rfl
theorem o_244_41 : okL gmt mt_244 41 b_244_41 := by
  refine oc (y := mt_244) (pc := 41) (ok_aload_n dX7_number_41) 42 rfl ?_
  refine oc (y := mt_244) (pc := 42) (ok_getfield dX7_number_42 (fg (own := "GardenChessModel") (idx := 284) (g := 9) (k := 2) (r := (RX7, TX7, 122)) rfl ⟨⟨by decide, by decide⟩, by decide⟩ (Or.inl q1814) (Or.inl rfl) rfl (fg_nil))) 45 rfl ?_
  refine oc (y := mt_244) (pc := 45) (ok_istore_n dX7_number_45 (by decide)) 46 rfl ?_
  refine oc (y := mt_244) (pc := 46) (ok_iconst dX7_number_46 rfl ⟨by decide, by decide⟩) 47 rfl ?_
  refine oc (y := mt_244) (pc := 47) (ok_istore dX7_number_47 (by decide)) 49 rfl ?_
  exact oc_fall rfl
theorem o_244_49 : okL gmt mt_244 49 b_244_49 := by
  refine oc (y := mt_244) (pc := 49) (ok_aload_n dX7_number_49) 50 rfl ?_
  refine oc (y := mt_244) (pc := 50) (ok_getfield dX7_number_50 (fg (own := "GardenChessModel") (idx := 284) (g := 9) (k := 2) (r := (RX7, TX7, 122)) rfl ⟨⟨by decide, by decide⟩, by decide⟩ (Or.inl q1814) (Or.inl rfl) rfl (fg_nil))) 53 rfl ?_
  refine oc (y := mt_244) (pc := 53) (ok_aload_n dX7_number_53) 54 rfl ?_
  refine oc (y := mt_244) (pc := 54) (ok_getfield dX7_number_54 (fg (own := "GardenChessModel") (idx := 287) (g := 9) (k := 3) (r := (RX7, TX7, 122)) rfl ⟨⟨by decide, by decide⟩, by decide⟩ (Or.inl q1815) (Or.inl rfl) rfl (fg_nil))) 57 rfl ?_
  refine oc_icmp dX7_number_57 ⟨by decide, by decide⟩ 60 rfl ?_
  refine oc (y := mt_244) (pc := 60) (ok_aload_n dX7_number_60) 61 rfl ?_
  refine oc (y := mt_244) (pc := 61) (ok_getfield dX7_number_61 (fg (own := "GardenChessModel") (idx := 7) (g := 9) (k := 0) (r := (RX7, TX7, 122)) rfl ⟨⟨by decide, by decide⟩, by decide⟩ (Or.inl q1812) (Or.inl rfl) rfl (fg_nil))) 64 rfl ?_
  refine oc (y := mt_244) (pc := 64) (ok_aload_n dX7_number_64) 65 rfl ?_
  refine oc (y := mt_244) (pc := 65) (ok_getfield dX7_number_65 (fg (own := "GardenChessModel") (idx := 284) (g := 9) (k := 2) (r := (RX7, TX7, 122)) rfl ⟨⟨by decide, by decide⟩, by decide⟩ (Or.inl q1814) (Or.inl rfl) rfl (fg_nil))) 68 rfl ?_
  refine oc (y := mt_244) (pc := 68) (ok_iaload dX7_number_68) 69 rfl ?_
  refine oc_S (y := mt_244) (pc := 69) (M := mt_245) rfl (ck_S dX7_number_69 ⟨by decide, by decide, by decide, by decide +kernel⟩ q2222 q2223 q177 q2224) (hok0 rfl) (by decide) 72 rfl ?_
  refine oc_if dX7_number_72 ⟨by decide, by decide⟩ 75 rfl ?_
  refine oc (y := mt_244) (pc := 75) (ok_aload_n dX7_number_75) 76 rfl ?_
  refine oc (y := mt_244) (pc := 76) (ok_getfield dX7_number_76 (fg (own := "GardenChessModel") (idx := 284) (g := 9) (k := 2) (r := (RX7, TX7, 122)) rfl ⟨⟨by decide, by decide⟩, by decide⟩ (Or.inl q1814) (Or.inl rfl) rfl (fg_nil))) 79 rfl ?_
  refine oc (y := mt_244) (pc := 79) (ok_iload_n dX7_number_79) 80 rfl ?_
  refine oc (y := mt_244) (pc := 80) (ok_isub dX7_number_80) 81 rfl ?_
  refine oc (y := mt_244) (pc := 81) (ok_iconst dX7_number_81 rfl ⟨by decide, by decide⟩) 82 rfl ?_
  refine oc_icmp dX7_number_82 ⟨by decide, by decide⟩ 85 rfl ?_
  refine oc (y := mt_244) (pc := 85) (ok_aload_n dX7_number_85) 86 rfl ?_
  refine oc (y := mt_244) (pc := 86) (ok_iconst dX7_number_86 rfl ⟨by decide, by decide⟩) 87 rfl ?_
  refine oc (y := mt_244) (pc := 87) (ok_aload_n dX7_number_87) 88 rfl ?_
  refine oc (y := mt_244) (pc := 88) (ok_getfield dX7_number_88 (fg (own := "GardenChessModel") (idx := 284) (g := 9) (k := 2) (r := (RX7, TX7, 122)) rfl ⟨⟨by decide, by decide⟩, by decide⟩ (Or.inl q1814) (Or.inl rfl) rfl (fg_nil))) 91 rfl ?_
  refine oc_V (y := mt_244) (pc := 91) (vcons (y := mt_244) (pc := 91) (len := 3) (n := 3) (M := mt_243) (by decide) rfl (Or.inr rfl) rfl (ck_V dX7_number_91 ⟨by decide, by decide, by decide, by decide +kernel⟩ q2214 q2216 qs61 q177 q2217) vnil) (hok0 rfl) (by decide) 94 rfl ?_
  refine oc (y := mt_244) (pc := 94) (ok_iconst dX7_number_94 rfl ⟨by decide, by decide⟩) 95 rfl ?_
  exact oc_iret dX7_number_95 rfl
theorem o_244_96 : okL gmt mt_244 96 b_244_96 := by
  refine oc (y := mt_244) (pc := 96) (ok_bipush dX7_number_96 (by decide) ⟨by decide, by decide⟩) 98 rfl ?_
  refine oc (y := mt_244) (pc := 98) (ok_iload dX7_number_98) 100 rfl ?_
  refine oc (y := mt_244) (pc := 100) (ok_imul dX7_number_100) 101 rfl ?_
  refine oc (y := mt_244) (pc := 101) (ok_aload_n dX7_number_101) 102 rfl ?_
  refine oc (y := mt_244) (pc := 102) (ok_getfield dX7_number_102 (fg (own := "GardenChessModel") (idx := 7) (g := 9) (k := 0) (r := (RX7, TX7, 122)) rfl ⟨⟨by decide, by decide⟩, by decide⟩ (Or.inl q1812) (Or.inl rfl) rfl (fg_nil))) 105 rfl ?_
  refine oc (y := mt_244) (pc := 105) (ok_aload_n dX7_number_105) 106 rfl ?_
  refine oc (y := mt_244) (pc := 106) (ok_getfield dX7_number_106 (fg (own := "GardenChessModel") (idx := 284) (g := 9) (k := 2) (r := (RX7, TX7, 122)) rfl ⟨⟨by decide, by decide⟩, by decide⟩ (Or.inl q1814) (Or.inl rfl) rfl (fg_nil))) 109 rfl ?_
  refine oc (y := mt_244) (pc := 109) (ok_iaload dX7_number_109) 110 rfl ?_
  refine oc (y := mt_244) (pc := 110) (ok_iadd dX7_number_110) 111 rfl ?_
  refine oc (y := mt_244) (pc := 111) (ok_bipush dX7_number_111 (by decide) ⟨by decide, by decide⟩) 113 rfl ?_
  refine oc (y := mt_244) (pc := 113) (ok_isub dX7_number_113) 114 rfl ?_
  refine oc (y := mt_244) (pc := 114) (ok_istore dX7_number_114 (by decide)) 116 rfl ?_
  refine oc (y := mt_244) (pc := 116) (ok_aload_n dX7_number_116) 117 rfl ?_
  refine oc (y := mt_244) (pc := 117) (ok_dup dX7_number_117) 118 rfl ?_
  refine oc (y := mt_244) (pc := 118) (ok_getfield dX7_number_118 (fg (own := "GardenChessModel") (idx := 284) (g := 9) (k := 2) (r := (RX7, TX7, 122)) rfl ⟨⟨by decide, by decide⟩, by decide⟩ (Or.inl q1814) (Or.inl rfl) rfl (fg_nil))) 121 rfl ?_
  refine oc (y := mt_244) (pc := 121) (ok_iconst dX7_number_121 rfl ⟨by decide, by decide⟩) 122 rfl ?_
  refine oc (y := mt_244) (pc := 122) (ok_iadd dX7_number_122) 123 rfl ?_
  refine oc (y := mt_244) (pc := 123) (ok_putfield dX7_number_123 (fp (own := "GardenChessModel") (idx := 284) (g := 9) (k := 2) (r := (RX7, TX7, 122)) rfl ⟨⟨by decide, by decide⟩, by decide⟩ (Or.inl q1814) (Or.inl rfl) rfl (Or.inl rfl) (fp_nil))) 126 rfl ?_
  exact oc_goto dX7_number_126 ⟨by decide, by decide⟩
theorem o_244_129 : okL gmt mt_244 129 b_244_129 := by
  refine oc (y := mt_244) (pc := 129) (ok_aload_n dX7_number_129) 130 rfl ?_
  refine oc (y := mt_244) (pc := 130) (ok_aload_n dX7_number_130) 131 rfl ?_
  refine oc (y := mt_244) (pc := 131) (ok_getfield dX7_number_131 (fg (own := "GardenChessModel") (idx := 284) (g := 9) (k := 2) (r := (RX7, TX7, 122)) rfl ⟨⟨by decide, by decide⟩, by decide⟩ (Or.inl q1814) (Or.inl rfl) rfl (fg_nil))) 134 rfl ?_
  refine oc (y := mt_244) (pc := 134) (ok_putfield dX7_number_134 (fp (own := "GardenChessModel") (idx := 298) (g := 9) (k := 4) (r := (RX7, TX7, 122)) rfl ⟨⟨by decide, by decide⟩, by decide⟩ (Or.inl q1816) (Or.inl rfl) rfl (Or.inl rfl) (fp_nil))) 137 rfl ?_
  refine oc (y := mt_244) (pc := 137) (ok_aload_n dX7_number_137) 138 rfl ?_
  refine oc (y := mt_244) (pc := 138) (ok_iload_n dX7_number_138) 139 rfl ?_
  refine oc (y := mt_244) (pc := 139) (ok_putfield dX7_number_139 (fp (own := "GardenChessModel") (idx := 318) (g := 9) (k := 10) (r := (RX7, TX7, 122)) rfl ⟨⟨by decide, by decide⟩, by decide⟩ (Or.inl q1822) (Or.inl rfl) rfl (Or.inl rfl) (fp_nil))) 142 rfl ?_
  refine oc (y := mt_244) (pc := 142) (ok_iload dX7_number_142) 144 rfl ?_
  refine oc (y := mt_244) (pc := 144) (ok_i2l dX7_number_144) 145 rfl ?_
  refine oc (y := mt_244) (pc := 145) (ok_iload_n dX7_number_145) 146 rfl ?_
  refine oc (y := mt_244) (pc := 146) (ok_i2l dX7_number_146) 147 rfl ?_
  refine oc (y := mt_244) (pc := 147) (ok_iload_n dX7_number_147) 148 rfl ?_
  refine oc (y := mt_244) (pc := 148) (ok_i2l dX7_number_148) 149 rfl ?_
  refine oc_S (y := mt_244) (pc := 149) (M := mt_246) rfl (ck_S dX7_number_149 ⟨by decide, by decide, by decide, by decide +kernel⟩ q2225 q2226 q177 q2227) (hok0 rfl) (by decide) 152 rfl ?_
  refine oc_if dX7_number_152 ⟨by decide, by decide⟩ 155 rfl ?_
  refine oc (y := mt_244) (pc := 155) (ok_aload_n dX7_number_155) 156 rfl ?_
  refine oc (y := mt_244) (pc := 156) (ok_iconst dX7_number_156 rfl ⟨by decide, by decide⟩) 157 rfl ?_
  refine oc (y := mt_244) (pc := 157) (ok_iload_n dX7_number_157) 158 rfl ?_
  refine oc_V (y := mt_244) (pc := 158) (vcons (y := mt_244) (pc := 158) (len := 3) (n := 3) (M := mt_243) (by decide) rfl (Or.inr rfl) rfl (ck_V dX7_number_158 ⟨by decide, by decide, by decide, by decide +kernel⟩ q2214 q2216 qs61 q177 q2217) vnil) (hok0 rfl) (by decide) 161 rfl ?_
  exact oc_fall rfl
theorem o_244_161 : okL gmt mt_244 161 b_244_161 := by
  refine oc (y := mt_244) (pc := 161) (ok_iload dX7_number_161) 163 rfl ?_
  exact oc_iret dX7_number_163 rfl
theorem ok_244 : ∀ q ∈ pr_244, okL gmt mt_244 q.1 q.2 := pk_c o_244_0 (pk_c o_244_9 (pk_c o_244_30 (pk_c o_244_41 (pk_c o_244_49 (pk_c o_244_96 (pk_c o_244_129 (pk_c o_244_161 (pk_n))))))))
theorem o_245_0 : okL gmt mt_245 0 b_245_0 := by
  refine oc (y := mt_245) (pc := 0) (ok_iload_n dX7_isDigit_0) 1 rfl ?_
  refine oc (y := mt_245) (pc := 1) (ok_bipush dX7_isDigit_1 (by decide) ⟨by decide, by decide⟩) 3 rfl ?_
  refine oc_icmp dX7_isDigit_3 ⟨by decide, by decide⟩ 6 rfl ?_
  refine oc (y := mt_245) (pc := 6) (ok_iload_n dX7_isDigit_6) 7 rfl ?_
  refine oc (y := mt_245) (pc := 7) (ok_bipush dX7_isDigit_7 (by decide) ⟨by decide, by decide⟩) 9 rfl ?_
  refine oc_icmp dX7_isDigit_9 ⟨by decide, by decide⟩ 12 rfl ?_
  refine oc (y := mt_245) (pc := 12) (ok_iconst dX7_isDigit_12 rfl ⟨by decide, by decide⟩) 13 rfl ?_
  exact oc_goto dX7_isDigit_13 ⟨by decide, by decide⟩
theorem o_245_16 : okL gmt mt_245 16 b_245_16 := by
  refine oc (y := mt_245) (pc := 16) (ok_iconst dX7_isDigit_16 rfl ⟨by decide, by decide⟩) 17 rfl ?_
  exact oc_fall rfl
theorem o_245_17 : okL gmt mt_245 17 b_245_17 := by
  exact oc_zret dX7_isDigit_17 rfl
theorem ok_245 : ∀ q ∈ pr_245, okL gmt mt_245 q.1 q.2 := pk_c o_245_0 (pk_c o_245_16 (pk_c o_245_17 (pk_n)))
theorem o_246_0 : okL gmt mt_246 0 b_246_0 := by
  refine oc (y := mt_246) (pc := 0) (ok_lload_n dX7_isIn_0) 1 rfl ?_
  refine oc (y := mt_246) (pc := 1) (ok_lload_n dX7_isIn_1) 2 rfl ?_
  refine oc (y := mt_246) (pc := 2) (ok_lcmp dX7_isIn_2) 3 rfl ?_
  refine oc_if dX7_isIn_3 ⟨by decide, by decide⟩ 6 rfl ?_
  refine oc (y := mt_246) (pc := 6) (ok_lload_n dX7_isIn_6) 7 rfl ?_
  refine oc (y := mt_246) (pc := 7) (ok_lload dX7_isIn_7) 9 rfl ?_
  refine oc (y := mt_246) (pc := 9) (ok_lcmp dX7_isIn_9) 10 rfl ?_
  refine oc_if dX7_isIn_10 ⟨by decide, by decide⟩ 13 rfl ?_
  refine oc (y := mt_246) (pc := 13) (ok_iconst dX7_isIn_13 rfl ⟨by decide, by decide⟩) 14 rfl ?_
  exact oc_goto dX7_isIn_14 ⟨by decide, by decide⟩
theorem o_246_17 : okL gmt mt_246 17 b_246_17 := by
  refine oc (y := mt_246) (pc := 17) (ok_iconst dX7_isIn_17 rfl ⟨by decide, by decide⟩) 18 rfl ?_
  exact oc_fall rfl
theorem o_246_18 : okL gmt mt_246 18 b_246_18 := by
  exact oc_zret dX7_isIn_18 rfl
theorem ok_246 : ∀ q ∈ pr_246, okL gmt mt_246 q.1 q.2 := pk_c o_246_0 (pk_c o_246_17 (pk_c o_246_18 (pk_n)))
theorem o_247_0 : okL gmt mt_247 0 b_247_0 := by
  refine oc (y := mt_247) (pc := 0) (ok_aload_n dX7_asksSign_0) 1 rfl ?_
  refine oc (y := mt_247) (pc := 1) (ok_getfield dX7_asksSign_1 (fg (own := "GardenChessModel") (idx := 278) (g := 9) (k := 5) (r := (RX7, TX7, 122)) rfl ⟨⟨by decide, by decide⟩, by decide⟩ (Or.inl q1817) (Or.inl rfl) rfl (fg_nil))) 4 rfl ?_
  refine oc_if dX7_asksSign_4 ⟨by decide, by decide⟩ 7 rfl ?_
  refine oc (y := mt_247) (pc := 7) (ok_aload_n dX7_asksSign_7) 8 rfl ?_
  refine oc (y := mt_247) (pc := 8) (ok_iload_n dX7_asksSign_8) 9 rfl ?_
  refine oc_V (y := mt_247) (pc := 9) (vcons (y := mt_247) (pc := 9) (len := 3) (n := 2) (M := mt_248) (by decide) rfl (Or.inr rfl) rfl (ck_V dX7_asksSign_9 ⟨by decide, by decide, by decide, by decide +kernel⟩ q2232 q2234 qs64 q177 q2235) vnil) (hok0 rfl) (by decide) 12 rfl ?_
  refine oc_if dX7_asksSign_12 ⟨by decide, by decide⟩ 15 rfl ?_
  refine oc (y := mt_247) (pc := 15) (ok_aload_n dX7_asksSign_15) 16 rfl ?_
  refine oc (y := mt_247) (pc := 16) (ok_iconst dX7_asksSign_16 rfl ⟨by decide, by decide⟩) 17 rfl ?_
  refine oc (y := mt_247) (pc := 17) (ok_aload_n dX7_asksSign_17) 18 rfl ?_
  refine oc (y := mt_247) (pc := 18) (ok_getfield dX7_asksSign_18 (fg (own := "GardenChessModel") (idx := 284) (g := 9) (k := 2) (r := (RX7, TX7, 122)) rfl ⟨⟨by decide, by decide⟩, by decide⟩ (Or.inl q1814) (Or.inl rfl) rfl (fg_nil))) 21 rfl ?_
  refine oc_V (y := mt_247) (pc := 21) (vcons (y := mt_247) (pc := 21) (len := 3) (n := 3) (M := mt_243) (by decide) rfl (Or.inr rfl) rfl (ck_V dX7_asksSign_21 ⟨by decide, by decide, by decide, by decide +kernel⟩ q2214 q2216 qs61 q177 q2217) vnil) (hok0 rfl) (by decide) 24 rfl ?_
  exact oc_fall rfl
theorem o_247_24 : okL gmt mt_247 24 b_247_24 := by
  exact oc_ret dX7_asksSign_24 rfl
theorem ok_247 : ∀ q ∈ pr_247, okL gmt mt_247 q.1 q.2 := pk_c o_247_0 (pk_c o_247_24 (pk_n))
theorem o_248_0 : okL gmt mt_248 0 b_248_0 := by
  refine oc (y := mt_248) (pc := 0) (ok_aload_n dX7_takesSign_0) 1 rfl ?_
  refine oc (y := mt_248) (pc := 1) (ok_getfield dX7_takesSign_1 (fg (own := "GardenChessModel") (idx := 278) (g := 9) (k := 5) (r := (RX7, TX7, 122)) rfl ⟨⟨by decide, by decide⟩, by decide⟩ (Or.inl q1817) (Or.inl rfl) rfl (fg_nil))) 4 rfl ?_
  refine oc_if dX7_takesSign_4 ⟨by decide, by decide⟩ 7 rfl ?_
  refine oc (y := mt_248) (pc := 7) (ok_aload_n dX7_takesSign_7) 8 rfl ?_
  refine oc_V (y := mt_248) (pc := 8) (vcons (y := mt_248) (pc := 8) (len := 3) (n := 1) (M := mt_241) (by decide) rfl (Or.inr rfl) rfl (ck_V dX7_takesSign_8 ⟨by decide, by decide, by decide, by decide +kernel⟩ q2207 q2209 qs60 q177 q2210) vnil) (hok0 rfl) (by decide) 11 rfl ?_
  refine oc (y := mt_248) (pc := 11) (ok_iload_n dX7_takesSign_11) 12 rfl ?_
  refine oc_icmp dX7_takesSign_12 ⟨by decide, by decide⟩ 15 rfl ?_
  exact oc_fall rfl
theorem o_248_15 : okL gmt mt_248 15 b_248_15 := by
  refine oc (y := mt_248) (pc := 15) (ok_iconst dX7_takesSign_15 rfl ⟨by decide, by decide⟩) 16 rfl ?_
  exact oc_zret dX7_takesSign_16 rfl
theorem o_248_17 : okL gmt mt_248 17 b_248_17 := by
  refine oc (y := mt_248) (pc := 17) (ok_aload_n dX7_takesSign_17) 18 rfl ?_
  refine oc (y := mt_248) (pc := 18) (ok_dup dX7_takesSign_18) 19 rfl ?_
  refine oc (y := mt_248) (pc := 19) (ok_getfield dX7_takesSign_19 (fg (own := "GardenChessModel") (idx := 284) (g := 9) (k := 2) (r := (RX7, TX7, 122)) rfl ⟨⟨by decide, by decide⟩, by decide⟩ (Or.inl q1814) (Or.inl rfl) rfl (fg_nil))) 22 rfl ?_
  refine oc (y := mt_248) (pc := 22) (ok_iconst dX7_takesSign_22 rfl ⟨by decide, by decide⟩) 23 rfl ?_
  refine oc (y := mt_248) (pc := 23) (ok_iadd dX7_takesSign_23) 24 rfl ?_
  refine oc (y := mt_248) (pc := 24) (ok_putfield dX7_takesSign_24 (fp (own := "GardenChessModel") (idx := 284) (g := 9) (k := 2) (r := (RX7, TX7, 122)) rfl ⟨⟨by decide, by decide⟩, by decide⟩ (Or.inl q1814) (Or.inl rfl) rfl (Or.inl rfl) (fp_nil))) 27 rfl ?_
  refine oc (y := mt_248) (pc := 27) (ok_iconst dX7_takesSign_27 rfl ⟨by decide, by decide⟩) 28 rfl ?_
  exact oc_zret dX7_takesSign_28 rfl
theorem ok_248 : ∀ q ∈ pr_248, okL gmt mt_248 q.1 q.2 := pk_c o_248_0 (pk_c o_248_15 (pk_c o_248_17 (pk_n)))
theorem o_249_0 : okL gmt mt_249 0 b_249_0 := by
  refine oc (y := mt_249) (pc := 0) (ok_aload_n dX7_statementTold_0) 1 rfl ?_
  refine oc (y := mt_249) (pc := 1) (ok_getfield dX7_statementTold_1 (fg (own := "GardenChessModel") (idx := 284) (g := 9) (k := 2) (r := (RX7, TX7, 122)) rfl ⟨⟨by decide, by decide⟩, by decide⟩ (Or.inl q1814) (Or.inl rfl) rfl (fg_nil))) 4 rfl ?_
  refine oc (y := mt_249) (pc := 4) (ok_istore_n dX7_statementTold_4 (by decide)) 5 rfl ?_
  refine oc (y := mt_249) (pc := 5) (ok_aload_n dX7_statementTold_5) 6 rfl ?_
  refine oc (y := mt_249) (pc := 6) (ok_getfield dX7_statementTold_6 (fg (own := "GardenChessModel") (idx := 397) (g := 9) (k := 57) (r := (RX7, TX7, 122)) rfl ⟨⟨by decide, by decide⟩, by decide⟩ (Or.inl q1869) (Or.inl rfl) rfl (fg_nil))) 9 rfl ?_
  refine oc (y := mt_249) (pc := 9) (ok_bipush dX7_statementTold_9 (by decide) ⟨by decide, by decide⟩) 11 rfl ?_
  refine oc_icmp dX7_statementTold_11 ⟨by decide, by decide⟩ 14 rfl ?_
  refine oc (y := mt_249) (pc := 14) (ok_aload_n dX7_statementTold_14) 15 rfl ?_
  refine oc (y := mt_249) (pc := 15) (ok_iconst dX7_statementTold_15 rfl ⟨by decide, by decide⟩) 16 rfl ?_
  refine oc (y := mt_249) (pc := 16) (ok_iload_n dX7_statementTold_16) 17 rfl ?_
  refine oc_V (y := mt_249) (pc := 17) (vcons (y := mt_249) (pc := 17) (len := 3) (n := 3) (M := mt_243) (by decide) rfl (Or.inr rfl) rfl (ck_V dX7_statementTold_17 ⟨by decide, by decide, by decide, by decide +kernel⟩ q2214 q2216 qs61 q177 q2217) vnil) (hok0 rfl) (by decide) 20 rfl ?_
  exact oc_ret dX7_statementTold_20 rfl
theorem o_249_21 : okL gmt mt_249 21 b_249_21 := by
  refine oc (y := mt_249) (pc := 21) (ok_aload_n dX7_statementTold_21) 22 rfl ?_
  refine oc (y := mt_249) (pc := 22) (ok_aload_n dX7_statementTold_22) 23 rfl ?_
  refine oc (y := mt_249) (pc := 23) (ok_getfield dX7_statementTold_23 (fg (own := "GardenChessModel") (idx := 33) (g := 9) (k := 15) (r := (RX7, TX7, 122)) rfl ⟨⟨by decide, by decide⟩, by decide⟩ (Or.inl q1827) (Or.inl rfl) rfl (fg_nil))) 26 rfl ?_
  refine oc_V (y := mt_249) (pc := 26) (vcons (y := mt_249) (pc := 26) (len := 3) (n := 2) (M := mt_239) (by decide) rfl (Or.inr rfl) rfl (ck_V dX7_statementTold_26 ⟨by decide, by decide, by decide, by decide +kernel⟩ q2199 q2201 qs58 q177 q2202) vnil) (hok0 rfl) (by decide) 29 rfl ?_
  refine oc_if dX7_statementTold_29 ⟨by decide, by decide⟩ 32 rfl ?_
  refine oc (y := mt_249) (pc := 32) (ok_aload_n dX7_statementTold_32) 33 rfl ?_
  refine oc (y := mt_249) (pc := 33) (ok_iload_n dX7_statementTold_33) 34 rfl ?_
  refine oc_V (y := mt_249) (pc := 34) (vcons (y := mt_249) (pc := 34) (len := 3) (n := 2) (M := mt_250) (by decide) rfl (Or.inr rfl) rfl (ck_V dX7_statementTold_34 ⟨by decide, by decide, by decide, by decide +kernel⟩ q2240 q2242 qs66 q177 q2243) vnil) (hok0 rfl) (by decide) 37 rfl ?_
  exact oc_goto dX7_statementTold_37 ⟨by decide, by decide⟩
theorem o_249_40 : okL gmt mt_249 40 b_249_40 := by
  refine oc (y := mt_249) (pc := 40) (ok_aload_n dX7_statementTold_40) 41 rfl ?_
  refine oc (y := mt_249) (pc := 41) (ok_aload_n dX7_statementTold_41) 42 rfl ?_
  refine oc (y := mt_249) (pc := 42) (ok_getfield dX7_statementTold_42 (fg (own := "GardenChessModel") (idx := 48) (g := 9) (k := 20) (r := (RX7, TX7, 122)) rfl ⟨⟨by decide, by decide⟩, by decide⟩ (Or.inl q1832) (Or.inl rfl) rfl (fg_nil))) 45 rfl ?_
  refine oc_V (y := mt_249) (pc := 45) (vcons (y := mt_249) (pc := 45) (len := 3) (n := 2) (M := mt_239) (by decide) rfl (Or.inr rfl) rfl (ck_V dX7_statementTold_45 ⟨by decide, by decide, by decide, by decide +kernel⟩ q2199 q2201 qs58 q177 q2202) vnil) (hok0 rfl) (by decide) 48 rfl ?_
  refine oc_if dX7_statementTold_48 ⟨by decide, by decide⟩ 51 rfl ?_
  refine oc (y := mt_249) (pc := 51) (ok_aload_n dX7_statementTold_51) 52 rfl ?_
  refine oc (y := mt_249) (pc := 52) (ok_iload_n dX7_statementTold_52) 53 rfl ?_
  refine oc_V (y := mt_249) (pc := 53) (vcons (y := mt_249) (pc := 53) (len := 3) (n := 2) (M := mt_257) (by decide) rfl (Or.inr rfl) rfl (ck_V dX7_statementTold_53 ⟨by decide, by decide, by decide, by decide +kernel⟩ q2270 q2272 qs73 q177 q2273) vnil) (hok0 rfl) (by decide) 56 rfl ?_
  exact oc_goto dX7_statementTold_56 ⟨by decide, by decide⟩
theorem o_249_59 : okL gmt mt_249 59 b_249_59 := by
  refine oc (y := mt_249) (pc := 59) (ok_aload_n dX7_statementTold_59) 60 rfl ?_
  refine oc (y := mt_249) (pc := 60) (ok_aload_n dX7_statementTold_60) 61 rfl ?_
  refine oc (y := mt_249) (pc := 61) (ok_getfield dX7_statementTold_61 (fg (own := "GardenChessModel") (idx := 60) (g := 9) (k := 24) (r := (RX7, TX7, 122)) rfl ⟨⟨by decide, by decide⟩, by decide⟩ (Or.inl q1836) (Or.inl rfl) rfl (fg_nil))) 64 rfl ?_
  refine oc_V (y := mt_249) (pc := 64) (vcons (y := mt_249) (pc := 64) (len := 3) (n := 2) (M := mt_239) (by decide) rfl (Or.inr rfl) rfl (ck_V dX7_statementTold_64 ⟨by decide, by decide, by decide, by decide +kernel⟩ q2199 q2201 qs58 q177 q2202) vnil) (hok0 rfl) (by decide) 67 rfl ?_
  refine oc_if dX7_statementTold_67 ⟨by decide, by decide⟩ 70 rfl ?_
  refine oc (y := mt_249) (pc := 70) (ok_aload_n dX7_statementTold_70) 71 rfl ?_
  refine oc (y := mt_249) (pc := 71) (ok_iload_n dX7_statementTold_71) 72 rfl ?_
  refine oc_V (y := mt_249) (pc := 72) (vcons (y := mt_249) (pc := 72) (len := 3) (n := 2) (M := mt_259) (by decide) rfl (Or.inr rfl) rfl (ck_V dX7_statementTold_72 ⟨by decide, by decide, by decide, by decide +kernel⟩ q2278 q2280 qs75 q177 q2281) vnil) (hok0 rfl) (by decide) 75 rfl ?_
  exact oc_goto dX7_statementTold_75 ⟨by decide, by decide⟩
theorem o_249_78 : okL gmt mt_249 78 b_249_78 := by
  refine oc (y := mt_249) (pc := 78) (ok_aload_n dX7_statementTold_78) 79 rfl ?_
  refine oc (y := mt_249) (pc := 79) (ok_aload_n dX7_statementTold_79) 80 rfl ?_
  refine oc (y := mt_249) (pc := 80) (ok_getfield dX7_statementTold_80 (fg (own := "GardenChessModel") (idx := 66) (g := 9) (k := 26) (r := (RX7, TX7, 122)) rfl ⟨⟨by decide, by decide⟩, by decide⟩ (Or.inl q1838) (Or.inl rfl) rfl (fg_nil))) 83 rfl ?_
  refine oc_V (y := mt_249) (pc := 83) (vcons (y := mt_249) (pc := 83) (len := 3) (n := 2) (M := mt_239) (by decide) rfl (Or.inr rfl) rfl (ck_V dX7_statementTold_83 ⟨by decide, by decide, by decide, by decide +kernel⟩ q2199 q2201 qs58 q177 q2202) vnil) (hok0 rfl) (by decide) 86 rfl ?_
  refine oc_if dX7_statementTold_86 ⟨by decide, by decide⟩ 89 rfl ?_
  refine oc (y := mt_249) (pc := 89) (ok_aload_n dX7_statementTold_89) 90 rfl ?_
  refine oc (y := mt_249) (pc := 90) (ok_iload_n dX7_statementTold_90) 91 rfl ?_
  refine oc_V (y := mt_249) (pc := 91) (vcons (y := mt_249) (pc := 91) (len := 3) (n := 2) (M := mt_260) (by decide) rfl (Or.inr rfl) rfl (ck_V dX7_statementTold_91 ⟨by decide, by decide, by decide, by decide +kernel⟩ q2282 q2284 qs76 q177 q2285) vnil) (hok0 rfl) (by decide) 94 rfl ?_
  exact oc_goto dX7_statementTold_94 ⟨by decide, by decide⟩
theorem o_249_97 : okL gmt mt_249 97 b_249_97 := by
  refine oc (y := mt_249) (pc := 97) (ok_aload_n dX7_statementTold_97) 98 rfl ?_
  refine oc (y := mt_249) (pc := 98) (ok_aload_n dX7_statementTold_98) 99 rfl ?_
  refine oc (y := mt_249) (pc := 99) (ok_getfield dX7_statementTold_99 (fg (own := "GardenChessModel") (idx := 69) (g := 9) (k := 27) (r := (RX7, TX7, 122)) rfl ⟨⟨by decide, by decide⟩, by decide⟩ (Or.inl q1839) (Or.inl rfl) rfl (fg_nil))) 102 rfl ?_
  refine oc_V (y := mt_249) (pc := 102) (vcons (y := mt_249) (pc := 102) (len := 3) (n := 2) (M := mt_239) (by decide) rfl (Or.inr rfl) rfl (ck_V dX7_statementTold_102 ⟨by decide, by decide, by decide, by decide +kernel⟩ q2199 q2201 qs58 q177 q2202) vnil) (hok0 rfl) (by decide) 105 rfl ?_
  refine oc_if dX7_statementTold_105 ⟨by decide, by decide⟩ 108 rfl ?_
  refine oc (y := mt_249) (pc := 108) (ok_aload_n dX7_statementTold_108) 109 rfl ?_
  refine oc (y := mt_249) (pc := 109) (ok_getfield dX7_statementTold_109 (fg (own := "GardenChessModel") (idx := 142) (g := 9) (k := 52) (r := (RX7, TX7, 122)) rfl ⟨⟨by decide, by decide⟩, by decide⟩ (Or.inl q1864) (Or.inl rfl) rfl (fg_nil))) 112 rfl ?_
  refine oc (y := mt_249) (pc := 112) (ok_iconst dX7_statementTold_112 rfl ⟨by decide, by decide⟩) 113 rfl ?_
  refine oc (y := mt_249) (pc := 113) (ok_aload_n dX7_statementTold_113) 114 rfl ?_
  refine oc (y := mt_249) (pc := 114) (ok_iconst dX7_statementTold_114 rfl ⟨by decide, by decide⟩) 115 rfl ?_
  refine oc (y := mt_249) (pc := 115) (ok_bipush dX7_statementTold_115 (by decide) ⟨by decide, by decide⟩) 117 rfl ?_
  refine oc_V (y := mt_249) (pc := 117) (vcons (y := mt_249) (pc := 117) (len := 3) (n := 3) (M := mt_244) (by decide) rfl (Or.inr rfl) rfl (ck_V dX7_statementTold_117 ⟨by decide, by decide, by decide, by decide +kernel⟩ q2218 q2220 qs62 q177 q2221) vnil) (hok0 rfl) (by decide) 120 rfl ?_
  refine oc (y := mt_249) (pc := 120) (ok_iastore dX7_statementTold_120) 121 rfl ?_
  exact oc_goto dX7_statementTold_121 ⟨by decide, by decide⟩
theorem o_249_124 : okL gmt mt_249 124 b_249_124 := by
  refine oc (y := mt_249) (pc := 124) (ok_aload_n dX7_statementTold_124) 125 rfl ?_
  refine oc (y := mt_249) (pc := 125) (ok_aload_n dX7_statementTold_125) 126 rfl ?_
  refine oc (y := mt_249) (pc := 126) (ok_getfield dX7_statementTold_126 (fg (own := "GardenChessModel") (idx := 72) (g := 9) (k := 28) (r := (RX7, TX7, 122)) rfl ⟨⟨by decide, by decide⟩, by decide⟩ (Or.inl q1840) (Or.inl rfl) rfl (fg_nil))) 129 rfl ?_
  refine oc_V (y := mt_249) (pc := 129) (vcons (y := mt_249) (pc := 129) (len := 3) (n := 2) (M := mt_238) (by decide) rfl (Or.inr rfl) rfl (ck_V dX7_statementTold_129 ⟨by decide, by decide, by decide, by decide +kernel⟩ q2195 q2197 qs57 q177 q2198) vnil) (hok0 rfl) (by decide) 132 rfl ?_
  refine oc (y := mt_249) (pc := 132) (ok_aload_n dX7_statementTold_132) 133 rfl ?_
  refine oc (y := mt_249) (pc := 133) (ok_getfield dX7_statementTold_133 (fg (own := "GardenChessModel") (idx := 142) (g := 9) (k := 52) (r := (RX7, TX7, 122)) rfl ⟨⟨by decide, by decide⟩, by decide⟩ (Or.inl q1864) (Or.inl rfl) rfl (fg_nil))) 136 rfl ?_
  refine oc (y := mt_249) (pc := 136) (ok_iconst dX7_statementTold_136 rfl ⟨by decide, by decide⟩) 137 rfl ?_
  refine oc (y := mt_249) (pc := 137) (ok_aload_n dX7_statementTold_137) 138 rfl ?_
  refine oc (y := mt_249) (pc := 138) (ok_iconst dX7_statementTold_138 rfl ⟨by decide, by decide⟩) 139 rfl ?_
  refine oc (y := mt_249) (pc := 139) (ok_bipush dX7_statementTold_139 (by decide) ⟨by decide, by decide⟩) 141 rfl ?_
  refine oc_V (y := mt_249) (pc := 141) (vcons (y := mt_249) (pc := 141) (len := 3) (n := 3) (M := mt_244) (by decide) rfl (Or.inr rfl) rfl (ck_V dX7_statementTold_141 ⟨by decide, by decide, by decide, by decide +kernel⟩ q2218 q2220 qs62 q177 q2221) vnil) (hok0 rfl) (by decide) 144 rfl ?_
  refine oc (y := mt_249) (pc := 144) (ok_iastore dX7_statementTold_144) 145 rfl ?_
  exact oc_fall rfl
theorem o_249_145 : okL gmt mt_249 145 b_249_145 := by
  refine oc (y := mt_249) (pc := 145) (ok_aload_n dX7_statementTold_145) 146 rfl ?_
  refine oc (y := mt_249) (pc := 146) (ok_bipush dX7_statementTold_146 (by decide) ⟨by decide, by decide⟩) 148 rfl ?_
  refine oc_V (y := mt_249) (pc := 148) (vcons (y := mt_249) (pc := 148) (len := 3) (n := 2) (M := mt_247) (by decide) rfl (Or.inr rfl) rfl (ck_V dX7_statementTold_148 ⟨by decide, by decide, by decide, by decide +kernel⟩ q2228 q2230 qs63 q177 q2231) vnil) (hok0 rfl) (by decide) 151 rfl ?_
  refine oc (y := mt_249) (pc := 151) (ok_aload_n dX7_statementTold_151) 152 rfl ?_
  refine oc (y := mt_249) (pc := 152) (ok_dup dX7_statementTold_152) 153 rfl ?_
  refine oc (y := mt_249) (pc := 153) (ok_getfield dX7_statementTold_153 (fg (own := "GardenChessModel") (idx := 397) (g := 9) (k := 57) (r := (RX7, TX7, 122)) rfl ⟨⟨by decide, by decide⟩, by decide⟩ (Or.inl q1869) (Or.inl rfl) rfl (fg_nil))) 156 rfl ?_
  refine oc (y := mt_249) (pc := 156) (ok_iconst dX7_statementTold_156 rfl ⟨by decide, by decide⟩) 157 rfl ?_
  refine oc (y := mt_249) (pc := 157) (ok_iadd dX7_statementTold_157) 158 rfl ?_
  refine oc (y := mt_249) (pc := 158) (ok_putfield dX7_statementTold_158 (fp (own := "GardenChessModel") (idx := 397) (g := 9) (k := 57) (r := (RX7, TX7, 122)) rfl ⟨⟨by decide, by decide⟩, by decide⟩ (Or.inl q1869) (Or.inl rfl) rfl (Or.inl rfl) (fp_nil))) 161 rfl ?_
  exact oc_ret dX7_statementTold_161 rfl
theorem ok_249 : ∀ q ∈ pr_249, okL gmt mt_249 q.1 q.2 := pk_c o_249_0 (pk_c o_249_21 (pk_c o_249_40 (pk_c o_249_59 (pk_c o_249_78 (pk_c o_249_97 (pk_c o_249_124 (pk_c o_249_145 (pk_n))))))))
theorem o_250_0 : okL gmt mt_250 0 b_250_0 := by
  refine oc (y := mt_250) (pc := 0) (ok_aload_n dX7_kindTold_0) 1 rfl ?_
  refine oc (y := mt_250) (pc := 1) (ok_iconst dX7_kindTold_1 rfl ⟨by decide, by decide⟩) 2 rfl ?_
  refine oc (y := mt_250) (pc := 2) (ok_iconst dX7_kindTold_2 rfl ⟨by decide, by decide⟩) 3 rfl ?_
  refine oc (y := mt_250) (pc := 3) (ok_iload_n dX7_kindTold_3) 4 rfl ?_
  refine oc_V (y := mt_250) (pc := 4) (vcons (y := mt_250) (pc := 4) (len := 3) (n := 4) (M := mt_251) (by decide) rfl (Or.inr rfl) rfl (ck_V dX7_kindTold_4 ⟨by decide, by decide, by decide, by decide +kernel⟩ q2244 q2246 qs67 q177 q2247) vnil) (hok0 rfl) (by decide) 7 rfl ?_
  refine oc_if dX7_kindTold_7 ⟨by decide, by decide⟩ 10 rfl ?_
  exact oc_ret dX7_kindTold_10 rfl
theorem o_250_11 : okL gmt mt_250 11 b_250_11 := by
  refine oc (y := mt_250) (pc := 11) (ok_aload_n dX7_kindTold_11) 12 rfl ?_
  refine oc_V (y := mt_250) (pc := 12) (vcons (y := mt_250) (pc := 12) (len := 3) (n := 1) (M := mt_252) (by decide) rfl (Or.inr rfl) rfl (ck_V dX7_kindTold_12 ⟨by decide, by decide, by decide, by decide +kernel⟩ q2248 q2250 qs68 q177 q2251) vnil) (hok0 rfl) (by decide) 15 rfl ?_
  refine oc (y := mt_250) (pc := 15) (ok_lstore_n dX7_kindTold_15 (by decide)) 16 rfl ?_
  refine oc (y := mt_250) (pc := 16) (ok_aload_n dX7_kindTold_16) 17 rfl ?_
  refine oc (y := mt_250) (pc := 17) (ok_aload_n dX7_kindTold_17) 18 rfl ?_
  refine oc (y := mt_250) (pc := 18) (ok_getfield dX7_kindTold_18 (fg (own := "GardenChessModel") (idx := 36) (g := 9) (k := 16) (r := (RX7, TX7, 122)) rfl ⟨⟨by decide, by decide⟩, by decide⟩ (Or.inl q1828) (Or.inl rfl) rfl (fg_nil))) 21 rfl ?_
  refine oc_V (y := mt_250) (pc := 21) (vcons (y := mt_250) (pc := 21) (len := 3) (n := 2) (M := mt_238) (by decide) rfl (Or.inr rfl) rfl (ck_V dX7_kindTold_21 ⟨by decide, by decide, by decide, by decide +kernel⟩ q2195 q2197 qs57 q177 q2198) vnil) (hok0 rfl) (by decide) 24 rfl ?_
  refine oc (y := mt_250) (pc := 24) (ok_aload_n dX7_kindTold_24) 25 rfl ?_
  refine oc (y := mt_250) (pc := 25) (ok_iconst dX7_kindTold_25 rfl ⟨by decide, by decide⟩) 26 rfl ?_
  refine oc (y := mt_250) (pc := 26) (ok_iconst dX7_kindTold_26 rfl ⟨by decide, by decide⟩) 27 rfl ?_
  refine oc_V (y := mt_250) (pc := 27) (vcons (y := mt_250) (pc := 27) (len := 3) (n := 3) (M := mt_244) (by decide) rfl (Or.inr rfl) rfl (ck_V dX7_kindTold_27 ⟨by decide, by decide, by decide, by decide +kernel⟩ q2218 q2220 qs62 q177 q2221) vnil) (hok0 rfl) (by decide) 30 rfl ?_
  refine oc (y := mt_250) (pc := 30) (ok_istore dX7_kindTold_30 (by decide)) 32 rfl ?_
  refine oc (y := mt_250) (pc := 32) (ok_aload_n dX7_kindTold_32) 33 rfl ?_
  refine oc (y := mt_250) (pc := 33) (ok_aload_n dX7_kindTold_33) 34 rfl ?_
  refine oc (y := mt_250) (pc := 34) (ok_getfield dX7_kindTold_34 (fg (own := "GardenChessModel") (idx := 39) (g := 9) (k := 17) (r := (RX7, TX7, 122)) rfl ⟨⟨by decide, by decide⟩, by decide⟩ (Or.inl q1829) (Or.inl rfl) rfl (fg_nil))) 37 rfl ?_
  refine oc_V (y := mt_250) (pc := 37) (vcons (y := mt_250) (pc := 37) (len := 3) (n := 2) (M := mt_238) (by decide) rfl (Or.inr rfl) rfl (ck_V dX7_kindTold_37 ⟨by decide, by decide, by decide, by decide +kernel⟩ q2195 q2197 qs57 q177 q2198) vnil) (hok0 rfl) (by decide) 40 rfl ?_
  refine oc (y := mt_250) (pc := 40) (ok_aload_n dX7_kindTold_40) 41 rfl ?_
  refine oc (y := mt_250) (pc := 41) (ok_iconst dX7_kindTold_41 rfl ⟨by decide, by decide⟩) 42 rfl ?_
  refine oc (y := mt_250) (pc := 42) (ok_iconst dX7_kindTold_42 rfl ⟨by decide, by decide⟩) 43 rfl ?_
  refine oc_V (y := mt_250) (pc := 43) (vcons (y := mt_250) (pc := 43) (len := 3) (n := 3) (M := mt_244) (by decide) rfl (Or.inr rfl) rfl (ck_V dX7_kindTold_43 ⟨by decide, by decide, by decide, by decide +kernel⟩ q2218 q2220 qs62 q177 q2221) vnil) (hok0 rfl) (by decide) 46 rfl ?_
  refine oc (y := mt_250) (pc := 46) (ok_istore dX7_kindTold_46 (by decide)) 48 rfl ?_
  refine oc (y := mt_250) (pc := 48) (ok_aload_n dX7_kindTold_48) 49 rfl ?_
  refine oc (y := mt_250) (pc := 49) (ok_aload_n dX7_kindTold_49) 50 rfl ?_
  refine oc (y := mt_250) (pc := 50) (ok_getfield dX7_kindTold_50 (fg (own := "GardenChessModel") (idx := 42) (g := 9) (k := 18) (r := (RX7, TX7, 122)) rfl ⟨⟨by decide, by decide⟩, by decide⟩ (Or.inl q1830) (Or.inl rfl) rfl (fg_nil))) 53 rfl ?_
  refine oc_V (y := mt_250) (pc := 53) (vcons (y := mt_250) (pc := 53) (len := 3) (n := 2) (M := mt_238) (by decide) rfl (Or.inr rfl) rfl (ck_V dX7_kindTold_53 ⟨by decide, by decide, by decide, by decide +kernel⟩ q2195 q2197 qs57 q177 q2198) vnil) (hok0 rfl) (by decide) 56 rfl ?_
  refine oc (y := mt_250) (pc := 56) (ok_aload_n dX7_kindTold_56) 57 rfl ?_
  refine oc (y := mt_250) (pc := 57) (ok_iconst dX7_kindTold_57 rfl ⟨by decide, by decide⟩) 58 rfl ?_
  refine oc (y := mt_250) (pc := 58) (ok_bipush dX7_kindTold_58 (by decide) ⟨by decide, by decide⟩) 60 rfl ?_
  refine oc_V (y := mt_250) (pc := 60) (vcons (y := mt_250) (pc := 60) (len := 3) (n := 3) (M := mt_244) (by decide) rfl (Or.inr rfl) rfl (ck_V dX7_kindTold_60 ⟨by decide, by decide, by decide, by decide +kernel⟩ q2218 q2220 qs62 q177 q2221) vnil) (hok0 rfl) (by decide) 63 rfl ?_
  refine oc (y := mt_250) (pc := 63) (ok_istore dX7_kindTold_63 (by decide)) 65 rfl ?_
  refine oc (y := mt_250) (pc := 65) (ok_aload_n dX7_kindTold_65) 66 rfl ?_
  refine oc (y := mt_250) (pc := 66) (ok_aload_n dX7_kindTold_66) 67 rfl ?_
  refine oc (y := mt_250) (pc := 67) (ok_getfield dX7_kindTold_67 (fg (own := "GardenChessModel") (idx := 45) (g := 9) (k := 19) (r := (RX7, TX7, 122)) rfl ⟨⟨by decide, by decide⟩, by decide⟩ (Or.inl q1831) (Or.inl rfl) rfl (fg_nil))) 70 rfl ?_
  refine oc_V (y := mt_250) (pc := 70) (vcons (y := mt_250) (pc := 70) (len := 3) (n := 2) (M := mt_239) (by decide) rfl (Or.inr rfl) rfl (ck_V dX7_kindTold_70 ⟨by decide, by decide, by decide, by decide +kernel⟩ q2199 q2201 qs58 q177 q2202) vnil) (hok0 rfl) (by decide) 73 rfl ?_
  refine oc_if dX7_kindTold_73 ⟨by decide, by decide⟩ 76 rfl ?_
  refine oc (y := mt_250) (pc := 76) (ok_iconst dX7_kindTold_76 rfl ⟨by decide, by decide⟩) 77 rfl ?_
  exact oc_goto dX7_kindTold_77 ⟨by decide, by decide⟩
theorem o_250_80 : okL gmt mt_250 80 b_250_80 := by
  refine oc (y := mt_250) (pc := 80) (ok_iconst dX7_kindTold_80 rfl ⟨by decide, by decide⟩) 81 rfl ?_
  exact oc_fall rfl
theorem o_250_81 : okL gmt mt_250 81 b_250_81 := by
  refine oc (y := mt_250) (pc := 81) (ok_istore dX7_kindTold_81 (by decide)) 83 rfl ?_
  refine oc (y := mt_250) (pc := 83) (ok_aload_n dX7_kindTold_83) 84 rfl ?_
  refine oc (y := mt_250) (pc := 84) (ok_getfield dX7_kindTold_84 (fg (own := "GardenChessModel") (idx := 278) (g := 9) (k := 5) (r := (RX7, TX7, 122)) rfl ⟨⟨by decide, by decide⟩, by decide⟩ (Or.inl q1817) (Or.inl rfl) rfl (fg_nil))) 87 rfl ?_
  refine oc_if dX7_kindTold_87 ⟨by decide, by decide⟩ 90 rfl ?_
  exact oc_ret dX7_kindTold_90 rfl
theorem o_250_91 : okL gmt mt_250 91 b_250_91 := by
  refine oc (y := mt_250) (pc := 91) (ok_iconst dX7_kindTold_91 rfl ⟨by decide, by decide⟩) 92 rfl ?_
  refine oc (y := mt_250) (pc := 92) (ok_aload_n dX7_kindTold_92) 93 rfl ?_
  refine oc (y := mt_250) (pc := 93) (ok_iconst dX7_kindTold_93 rfl ⟨by decide, by decide⟩) 94 rfl ?_
  refine oc (y := mt_250) (pc := 94) (ok_lload_n dX7_kindTold_94) 95 rfl ?_
  refine oc_V (y := mt_250) (pc := 95) (vcons (y := mt_250) (pc := 95) (len := 3) (n := 3) (M := mt_256) (by decide) rfl (Or.inr rfl) rfl (ck_V dX7_kindTold_95 ⟨by decide, by decide, by decide, by decide +kernel⟩ q2266 q2268 qs72 q177 q2269) vnil) (hok0 rfl) (by decide) 98 rfl ?_
  refine oc (y := mt_250) (pc := 98) (ok_imul dX7_kindTold_98) 99 rfl ?_
  refine oc (y := mt_250) (pc := 99) (ok_istore dX7_kindTold_99 (by decide)) 101 rfl ?_
  refine oc (y := mt_250) (pc := 101) (ok_aload_n dX7_kindTold_101) 102 rfl ?_
  refine oc (y := mt_250) (pc := 102) (ok_getfield dX7_kindTold_102 (fg (own := "GardenChessModel") (idx := 130) (g := 9) (k := 48) (r := (RX7, TX7, 122)) rfl ⟨⟨by decide, by decide⟩, by decide⟩ (Or.inl q1860) (Or.inl rfl) rfl (fg_nil))) 105 rfl ?_
  refine oc (y := mt_250) (pc := 105) (ok_iload dX7_kindTold_105) 107 rfl ?_
  refine oc (y := mt_250) (pc := 107) (ok_iload dX7_kindTold_107) 109 rfl ?_
  refine oc (y := mt_250) (pc := 109) (ok_iastore dX7_kindTold_109) 110 rfl ?_
  refine oc (y := mt_250) (pc := 110) (ok_aload_n dX7_kindTold_110) 111 rfl ?_
  refine oc (y := mt_250) (pc := 111) (ok_getfield dX7_kindTold_111 (fg (own := "GardenChessModel") (idx := 130) (g := 9) (k := 48) (r := (RX7, TX7, 122)) rfl ⟨⟨by decide, by decide⟩, by decide⟩ (Or.inl q1860) (Or.inl rfl) rfl (fg_nil))) 114 rfl ?_
  refine oc (y := mt_250) (pc := 114) (ok_iload dX7_kindTold_114) 116 rfl ?_
  refine oc (y := mt_250) (pc := 116) (ok_iconst dX7_kindTold_116 rfl ⟨by decide, by decide⟩) 117 rfl ?_
  refine oc (y := mt_250) (pc := 117) (ok_iadd dX7_kindTold_117) 118 rfl ?_
  refine oc (y := mt_250) (pc := 118) (ok_iload dX7_kindTold_118) 120 rfl ?_
  refine oc (y := mt_250) (pc := 120) (ok_iastore dX7_kindTold_120) 121 rfl ?_
  refine oc (y := mt_250) (pc := 121) (ok_aload_n dX7_kindTold_121) 122 rfl ?_
  refine oc (y := mt_250) (pc := 122) (ok_getfield dX7_kindTold_122 (fg (own := "GardenChessModel") (idx := 130) (g := 9) (k := 48) (r := (RX7, TX7, 122)) rfl ⟨⟨by decide, by decide⟩, by decide⟩ (Or.inl q1860) (Or.inl rfl) rfl (fg_nil))) 125 rfl ?_
  refine oc (y := mt_250) (pc := 125) (ok_iload dX7_kindTold_125) 127 rfl ?_
  refine oc (y := mt_250) (pc := 127) (ok_iconst dX7_kindTold_127 rfl ⟨by decide, by decide⟩) 128 rfl ?_
  refine oc (y := mt_250) (pc := 128) (ok_iadd dX7_kindTold_128) 129 rfl ?_
  refine oc (y := mt_250) (pc := 129) (ok_iload dX7_kindTold_129) 131 rfl ?_
  refine oc (y := mt_250) (pc := 131) (ok_iastore dX7_kindTold_131) 132 rfl ?_
  refine oc (y := mt_250) (pc := 132) (ok_aload_n dX7_kindTold_132) 133 rfl ?_
  refine oc (y := mt_250) (pc := 133) (ok_getfield dX7_kindTold_133 (fg (own := "GardenChessModel") (idx := 130) (g := 9) (k := 48) (r := (RX7, TX7, 122)) rfl ⟨⟨by decide, by decide⟩, by decide⟩ (Or.inl q1860) (Or.inl rfl) rfl (fg_nil))) 136 rfl ?_
  refine oc (y := mt_250) (pc := 136) (ok_iload dX7_kindTold_136) 138 rfl ?_
  refine oc (y := mt_250) (pc := 138) (ok_iconst dX7_kindTold_138 rfl ⟨by decide, by decide⟩) 139 rfl ?_
  refine oc (y := mt_250) (pc := 139) (ok_iadd dX7_kindTold_139) 140 rfl ?_
  refine oc (y := mt_250) (pc := 140) (ok_iload dX7_kindTold_140) 142 rfl ?_
  refine oc (y := mt_250) (pc := 142) (ok_iastore dX7_kindTold_142) 143 rfl ?_
  exact oc_ret dX7_kindTold_143 rfl
theorem ok_250 : ∀ q ∈ pr_250, okL gmt mt_250 q.1 q.2 := pk_c o_250_0 (pk_c o_250_11 (pk_c o_250_80 (pk_c o_250_81 (pk_c o_250_91 (pk_n)))))
theorem o_251_0 : okL gmt mt_251 0 b_251_0 := by
  refine oc (y := mt_251) (pc := 0) (ok_aload_n dX7_isFull_0) 1 rfl ?_
  refine oc (y := mt_251) (pc := 1) (ok_getfield dX7_isFull_1 (fg (own := "GardenChessModel") (idx := 278) (g := 9) (k := 5) (r := (RX7, TX7, 122)) rfl ⟨⟨by decide, by decide⟩, by decide⟩ (Or.inl q1817) (Or.inl rfl) rfl (fg_nil))) 4 rfl ?_
  refine oc_if dX7_isFull_4 ⟨by decide, by decide⟩ 7 rfl ?_
  refine oc (y := mt_251) (pc := 7) (ok_aload_n dX7_isFull_7) 8 rfl ?_
  refine oc (y := mt_251) (pc := 8) (ok_getfield dX7_isFull_8 (fg (own := "GardenChessModel") (idx := 120) (g := 9) (k := 45) (r := (RX7, TX7, 122)) rfl ⟨⟨by decide, by decide⟩, by decide⟩ (Or.inl q1857) (Or.inl rfl) rfl (fg_nil))) 11 rfl ?_
  refine oc (y := mt_251) (pc := 11) (ok_iload_n dX7_isFull_11) 12 rfl ?_
  refine oc (y := mt_251) (pc := 12) (ok_iaload dX7_isFull_12) 13 rfl ?_
  refine oc (y := mt_251) (pc := 13) (ok_iload_n dX7_isFull_13) 14 rfl ?_
  refine oc_icmp dX7_isFull_14 ⟨by decide, by decide⟩ 17 rfl ?_
  refine oc (y := mt_251) (pc := 17) (ok_aload_n dX7_isFull_17) 18 rfl ?_
  refine oc (y := mt_251) (pc := 18) (ok_iconst dX7_isFull_18 rfl ⟨by decide, by decide⟩) 19 rfl ?_
  refine oc (y := mt_251) (pc := 19) (ok_iload_n dX7_isFull_19) 20 rfl ?_
  refine oc_V (y := mt_251) (pc := 20) (vcons (y := mt_251) (pc := 20) (len := 3) (n := 3) (M := mt_243) (by decide) rfl (Or.inr rfl) rfl (ck_V dX7_isFull_20 ⟨by decide, by decide, by decide, by decide +kernel⟩ q2214 q2216 qs61 q177 q2217) vnil) (hok0 rfl) (by decide) 23 rfl ?_
  exact oc_fall rfl
theorem o_251_23 : okL gmt mt_251 23 b_251_23 := by
  refine oc (y := mt_251) (pc := 23) (ok_aload_n dX7_isFull_23) 24 rfl ?_
  refine oc (y := mt_251) (pc := 24) (ok_getfield dX7_isFull_24 (fg (own := "GardenChessModel") (idx := 278) (g := 9) (k := 5) (r := (RX7, TX7, 122)) rfl ⟨⟨by decide, by decide⟩, by decide⟩ (Or.inl q1817) (Or.inl rfl) rfl (fg_nil))) 27 rfl ?_
  refine oc_if dX7_isFull_27 ⟨by decide, by decide⟩ 30 rfl ?_
  refine oc (y := mt_251) (pc := 30) (ok_iconst dX7_isFull_30 rfl ⟨by decide, by decide⟩) 31 rfl ?_
  exact oc_goto dX7_isFull_31 ⟨by decide, by decide⟩
theorem o_251_34 : okL gmt mt_251 34 b_251_34 := by
  refine oc (y := mt_251) (pc := 34) (ok_iconst dX7_isFull_34 rfl ⟨by decide, by decide⟩) 35 rfl ?_
  exact oc_fall rfl
theorem o_251_35 : okL gmt mt_251 35 b_251_35 := by
  exact oc_zret dX7_isFull_35 rfl
theorem ok_251 : ∀ q ∈ pr_251, okL gmt mt_251 q.1 q.2 := pk_c o_251_0 (pk_c o_251_23 (pk_c o_251_34 (pk_c o_251_35 (pk_n))))
theorem o_252_0 : okL gmt mt_252 0 b_252_0 := by
  refine oc (y := mt_252) (pc := 0) (ok_aload_n dX7_newName_0) 1 rfl ?_
  refine oc_V (y := mt_252) (pc := 1) (vcons (y := mt_252) (pc := 1) (len := 3) (n := 1) (M := mt_253) (by decide) rfl (Or.inr rfl) rfl (ck_V dX7_newName_1 ⟨by decide, by decide, by decide, by decide +kernel⟩ q2252 q2254 qs69 q177 q2255) vnil) (hok0 rfl) (by decide) 4 rfl ?_
  refine oc (y := mt_252) (pc := 4) (ok_lstore_n dX7_newName_4 (by decide)) 5 rfl ?_
  refine oc (y := mt_252) (pc := 5) (ok_iconst dX7_newName_5 rfl ⟨by decide, by decide⟩) 6 rfl ?_
  refine oc (y := mt_252) (pc := 6) (ok_istore_n dX7_newName_6 (by decide)) 7 rfl ?_
  exact oc_fall rfl
theorem o_252_7 : okL gmt mt_252 7 b_252_7 := by
  refine oc (y := mt_252) (pc := 7) (ok_iload_n dX7_newName_7) 8 rfl ?_
  refine oc (y := mt_252) (pc := 8) (ok_iconst dX7_newName_8 rfl ⟨by decide, by decide⟩) 9 rfl ?_
  refine oc_icmp dX7_newName_9 ⟨by decide, by decide⟩ 12 rfl ?_
  refine oc (y := mt_252) (pc := 12) (ok_aload_n dX7_newName_12) 13 rfl ?_
  refine oc (y := mt_252) (pc := 13) (ok_getfield dX7_newName_13 (fg (own := "GardenChessModel") (idx := 278) (g := 9) (k := 5) (r := (RX7, TX7, 122)) rfl ⟨⟨by decide, by decide⟩, by decide⟩ (Or.inl q1817) (Or.inl rfl) rfl (fg_nil))) 16 rfl ?_
  refine oc_if dX7_newName_16 ⟨by decide, by decide⟩ 19 rfl ?_
  refine oc (y := mt_252) (pc := 19) (ok_aload_n dX7_newName_19) 20 rfl ?_
  refine oc (y := mt_252) (pc := 20) (ok_iload_n dX7_newName_20) 21 rfl ?_
  refine oc (y := mt_252) (pc := 21) (ok_lload_n dX7_newName_21) 22 rfl ?_
  refine oc_V (y := mt_252) (pc := 22) (vcons (y := mt_252) (pc := 22) (len := 3) (n := 3) (M := mt_255) (by decide) rfl (Or.inr rfl) rfl (ck_V dX7_newName_22 ⟨by decide, by decide, by decide, by decide +kernel⟩ q2262 q2264 qs71 q177 q2265) vnil) (hok0 rfl) (by decide) 25 rfl ?_
  refine oc (y := mt_252) (pc := 25) (ok_iconst dX7_newName_25 rfl ⟨by decide, by decide⟩) 26 rfl ?_
  refine oc_icmp dX7_newName_26 ⟨by decide, by decide⟩ 29 rfl ?_
  refine oc (y := mt_252) (pc := 29) (ok_aload_n dX7_newName_29) 30 rfl ?_
  refine oc (y := mt_252) (pc := 30) (ok_iconst dX7_newName_30 rfl ⟨by decide, by decide⟩) 31 rfl ?_
  refine oc (y := mt_252) (pc := 31) (ok_aload_n dX7_newName_31) 32 rfl ?_
  refine oc (y := mt_252) (pc := 32) (ok_getfield dX7_newName_32 (fg (own := "GardenChessModel") (idx := 329) (g := 9) (k := 44) (r := (RX7, TX7, 122)) rfl ⟨⟨by decide, by decide⟩, by decide⟩ (Or.inl q1856) (Or.inl rfl) rfl (fg_nil))) 35 rfl ?_
  refine oc_V (y := mt_252) (pc := 35) (vcons (y := mt_252) (pc := 35) (len := 3) (n := 3) (M := mt_243) (by decide) rfl (Or.inr rfl) rfl (ck_V dX7_newName_35 ⟨by decide, by decide, by decide, by decide +kernel⟩ q2214 q2216 qs61 q177 q2217) vnil) (hok0 rfl) (by decide) 38 rfl ?_
  exact oc_fall rfl
theorem o_252_38 : okL gmt mt_252 38 b_252_38 := by
  refine oc (y := mt_252) (pc := 38) (ok_iinc dX7_newName_38 (by decide)) 41 rfl ?_
  exact oc_goto dX7_newName_41 ⟨by decide, by decide⟩
theorem o_252_44 : okL gmt mt_252 44 b_252_44 := by
  refine oc (y := mt_252) (pc := 44) (ok_lload_n dX7_newName_44) 45 rfl ?_
  exact oc_lret dX7_newName_45 rfl
theorem ok_252 : ∀ q ∈ pr_252, okL gmt mt_252 q.1 q.2 := pk_c o_252_0 (pk_c o_252_7 (pk_c o_252_38 (pk_c o_252_44 (pk_n))))
theorem o_253_0 : okL gmt mt_253 0 b_253_0 := by
  refine oc (y := mt_253) (pc := 0) (ok_aload_n dX7_name_0) 1 rfl ?_
  refine oc (y := mt_253) (pc := 1) (ok_getfield dX7_name_1 (fg (own := "GardenChessModel") (idx := 278) (g := 9) (k := 5) (r := (RX7, TX7, 122)) rfl ⟨⟨by decide, by decide⟩, by decide⟩ (Or.inl q1817) (Or.inl rfl) rfl (fg_nil))) 4 rfl ?_
  refine oc_if dX7_name_4 ⟨by decide, by decide⟩ 7 rfl ?_
  refine oc (y := mt_253) (pc := 7) (ok_lconst dX7_name_7 (by decide) ⟨by decide, by decide⟩) 8 rfl ?_
  exact oc_lret dX7_name_8 rfl
theorem o_253_9 : okL gmt mt_253 9 b_253_9 := by
  refine oc (y := mt_253) (pc := 9) (ok_aload_n dX7_name_9) 10 rfl ?_
  refine oc_V (y := mt_253) (pc := 10) (vcons (y := mt_253) (pc := 10) (len := 3) (n := 1) (M := mt_241) (by decide) rfl (Or.inr rfl) rfl (ck_V dX7_name_10 ⟨by decide, by decide, by decide, by decide +kernel⟩ q2207 q2209 qs60 q177 q2210) vnil) (hok0 rfl) (by decide) 13 rfl ?_
  refine oc_S (y := mt_253) (pc := 13) (M := mt_242) rfl (ck_S dX7_name_13 ⟨by decide, by decide, by decide, by decide +kernel⟩ q2211 q2212 q177 q2213) (hok0 rfl) (by decide) 16 rfl ?_
  refine oc_if dX7_name_16 ⟨by decide, by decide⟩ 19 rfl ?_
  refine oc (y := mt_253) (pc := 19) (ok_aload_n dX7_name_19) 20 rfl ?_
  refine oc (y := mt_253) (pc := 20) (ok_getfield dX7_name_20 (fg (own := "GardenChessModel") (idx := 284) (g := 9) (k := 2) (r := (RX7, TX7, 122)) rfl ⟨⟨by decide, by decide⟩, by decide⟩ (Or.inl q1814) (Or.inl rfl) rfl (fg_nil))) 23 rfl ?_
  refine oc (y := mt_253) (pc := 23) (ok_aload_n dX7_name_23) 24 rfl ?_
  refine oc (y := mt_253) (pc := 24) (ok_getfield dX7_name_24 (fg (own := "GardenChessModel") (idx := 298) (g := 9) (k := 4) (r := (RX7, TX7, 122)) rfl ⟨⟨by decide, by decide⟩, by decide⟩ (Or.inl q1816) (Or.inl rfl) rfl (fg_nil))) 27 rfl ?_
  refine oc_icmp dX7_name_27 ⟨by decide, by decide⟩ 30 rfl ?_
  refine oc (y := mt_253) (pc := 30) (ok_aload_n dX7_name_30) 31 rfl ?_
  refine oc_V (y := mt_253) (pc := 31) (vcons (y := mt_253) (pc := 31) (len := 3) (n := 1) (M := mt_254) (by decide) rfl (Or.inr rfl) rfl (ck_V dX7_name_31 ⟨by decide, by decide, by decide, by decide +kernel⟩ q2256 q2258 qs70 q177 q2259) vnil) (hok0 rfl) (by decide) 34 rfl ?_
  refine oc_if dX7_name_34 ⟨by decide, by decide⟩ 37 rfl ?_
  exact oc_fall rfl
theorem o_253_37 : okL gmt mt_253 37 b_253_37 := by
  refine oc (y := mt_253) (pc := 37) (ok_aload_n dX7_name_37) 38 rfl ?_
  refine oc (y := mt_253) (pc := 38) (ok_iconst dX7_name_38 rfl ⟨by decide, by decide⟩) 39 rfl ?_
  refine oc (y := mt_253) (pc := 39) (ok_aload_n dX7_name_39) 40 rfl ?_
  refine oc (y := mt_253) (pc := 40) (ok_getfield dX7_name_40 (fg (own := "GardenChessModel") (idx := 284) (g := 9) (k := 2) (r := (RX7, TX7, 122)) rfl ⟨⟨by decide, by decide⟩, by decide⟩ (Or.inl q1814) (Or.inl rfl) rfl (fg_nil))) 43 rfl ?_
  refine oc_V (y := mt_253) (pc := 43) (vcons (y := mt_253) (pc := 43) (len := 3) (n := 3) (M := mt_243) (by decide) rfl (Or.inr rfl) rfl (ck_V dX7_name_43 ⟨by decide, by decide, by decide, by decide +kernel⟩ q2214 q2216 qs61 q177 q2217) vnil) (hok0 rfl) (by decide) 46 rfl ?_
  refine oc (y := mt_253) (pc := 46) (ok_lconst dX7_name_46 (by decide) ⟨by decide, by decide⟩) 47 rfl ?_
  exact oc_lret dX7_name_47 rfl
theorem o_253_48 : okL gmt mt_253 48 b_253_48 := by
  refine oc (y := mt_253) (pc := 48) (ok_aload_n dX7_name_48) 49 rfl ?_
  refine oc (y := mt_253) (pc := 49) (ok_aload_n dX7_name_49) 50 rfl ?_
  refine oc (y := mt_253) (pc := 50) (ok_getfield dX7_name_50 (fg (own := "GardenChessModel") (idx := 284) (g := 9) (k := 2) (r := (RX7, TX7, 122)) rfl ⟨⟨by decide, by decide⟩, by decide⟩ (Or.inl q1814) (Or.inl rfl) rfl (fg_nil))) 53 rfl ?_
  refine oc (y := mt_253) (pc := 53) (ok_putfield dX7_name_53 (fp (own := "GardenChessModel") (idx := 329) (g := 9) (k := 44) (r := (RX7, TX7, 122)) rfl ⟨⟨by decide, by decide⟩, by decide⟩ (Or.inl q1856) (Or.inl rfl) rfl (Or.inl rfl) (fp_nil))) 56 rfl ?_
  refine oc (y := mt_253) (pc := 56) (ok_lconst dX7_name_56 (by decide) ⟨by decide, by decide⟩) 57 rfl ?_
  refine oc (y := mt_253) (pc := 57) (ok_lstore_n dX7_name_57 (by decide)) 58 rfl ?_
  exact oc_fall rfl
theorem o_253_58 : okL gmt mt_253 58 b_253_58 := by
  refine oc (y := mt_253) (pc := 58) (ok_aload_n dX7_name_58) 59 rfl ?_
  refine oc (y := mt_253) (pc := 59) (ok_getfield dX7_name_59 (fg (own := "GardenChessModel") (idx := 284) (g := 9) (k := 2) (r := (RX7, TX7, 122)) rfl ⟨⟨by decide, by decide⟩, by decide⟩ (Or.inl q1814) (Or.inl rfl) rfl (fg_nil))) 62 rfl ?_
  refine oc (y := mt_253) (pc := 62) (ok_aload_n dX7_name_62) 63 rfl ?_
  refine oc (y := mt_253) (pc := 63) (ok_getfield dX7_name_63 (fg (own := "GardenChessModel") (idx := 287) (g := 9) (k := 3) (r := (RX7, TX7, 122)) rfl ⟨⟨by decide, by decide⟩, by decide⟩ (Or.inl q1815) (Or.inl rfl) rfl (fg_nil))) 66 rfl ?_
  refine oc_icmp dX7_name_66 ⟨by decide, by decide⟩ 69 rfl ?_
  refine oc (y := mt_253) (pc := 69) (ok_aload_n dX7_name_69) 70 rfl ?_
  refine oc (y := mt_253) (pc := 70) (ok_getfield dX7_name_70 (fg (own := "GardenChessModel") (idx := 7) (g := 9) (k := 0) (r := (RX7, TX7, 122)) rfl ⟨⟨by decide, by decide⟩, by decide⟩ (Or.inl q1812) (Or.inl rfl) rfl (fg_nil))) 73 rfl ?_
  refine oc (y := mt_253) (pc := 73) (ok_aload_n dX7_name_73) 74 rfl ?_
  refine oc (y := mt_253) (pc := 74) (ok_getfield dX7_name_74 (fg (own := "GardenChessModel") (idx := 284) (g := 9) (k := 2) (r := (RX7, TX7, 122)) rfl ⟨⟨by decide, by decide⟩, by decide⟩ (Or.inl q1814) (Or.inl rfl) rfl (fg_nil))) 77 rfl ?_
  refine oc (y := mt_253) (pc := 77) (ok_iaload dX7_name_77) 78 rfl ?_
  refine oc_S (y := mt_253) (pc := 78) (M := mt_242) rfl (ck_S dX7_name_78 ⟨by decide, by decide, by decide, by decide +kernel⟩ q2211 q2212 q177 q2213) (hok0 rfl) (by decide) 81 rfl ?_
  refine oc_if dX7_name_81 ⟨by decide, by decide⟩ 84 rfl ?_
  refine oc (y := mt_253) (pc := 84) (ok_aload_n dX7_name_84) 85 rfl ?_
  refine oc (y := mt_253) (pc := 85) (ok_getfield dX7_name_85 (fg (own := "GardenChessModel") (idx := 284) (g := 9) (k := 2) (r := (RX7, TX7, 122)) rfl ⟨⟨by decide, by decide⟩, by decide⟩ (Or.inl q1814) (Or.inl rfl) rfl (fg_nil))) 88 rfl ?_
  refine oc (y := mt_253) (pc := 88) (ok_aload_n dX7_name_88) 89 rfl ?_
  refine oc (y := mt_253) (pc := 89) (ok_getfield dX7_name_89 (fg (own := "GardenChessModel") (idx := 329) (g := 9) (k := 44) (r := (RX7, TX7, 122)) rfl ⟨⟨by decide, by decide⟩, by decide⟩ (Or.inl q1856) (Or.inl rfl) rfl (fg_nil))) 92 rfl ?_
  refine oc (y := mt_253) (pc := 92) (ok_isub dX7_name_92) 93 rfl ?_
  refine oc (y := mt_253) (pc := 93) (ok_bipush dX7_name_93 (by decide) ⟨by decide, by decide⟩) 95 rfl ?_
  refine oc_icmp dX7_name_95 ⟨by decide, by decide⟩ 98 rfl ?_
  refine oc (y := mt_253) (pc := 98) (ok_aload_n dX7_name_98) 99 rfl ?_
  refine oc (y := mt_253) (pc := 99) (ok_iconst dX7_name_99 rfl ⟨by decide, by decide⟩) 100 rfl ?_
  refine oc (y := mt_253) (pc := 100) (ok_aload_n dX7_name_100) 101 rfl ?_
  refine oc (y := mt_253) (pc := 101) (ok_getfield dX7_name_101 (fg (own := "GardenChessModel") (idx := 284) (g := 9) (k := 2) (r := (RX7, TX7, 122)) rfl ⟨⟨by decide, by decide⟩, by decide⟩ (Or.inl q1814) (Or.inl rfl) rfl (fg_nil))) 104 rfl ?_
  refine oc_V (y := mt_253) (pc := 104) (vcons (y := mt_253) (pc := 104) (len := 3) (n := 3) (M := mt_243) (by decide) rfl (Or.inr rfl) rfl (ck_V dX7_name_104 ⟨by decide, by decide, by decide, by decide +kernel⟩ q2214 q2216 qs61 q177 q2217) vnil) (hok0 rfl) (by decide) 107 rfl ?_
  refine oc (y := mt_253) (pc := 107) (ok_lconst dX7_name_107 (by decide) ⟨by decide, by decide⟩) 108 rfl ?_
  exact oc_lret dX7_name_108 rfl
theorem o_253_109 : okL gmt mt_253 109 b_253_109 := by
  refine oc (y := mt_253) (pc := 109) (ok_ldc2 dX7_name_109 ⟨by decide, by decide⟩ (show Cond.constantLong _ _ (Int64.ofInt 27) ∈ lw_all from q2260)) 112 rfl ?_
  refine oc (y := mt_253) (pc := 112) (ok_lload_n dX7_name_112) 113 rfl ?_
  refine oc (y := mt_253) (pc := 113) (ok_lmul dX7_name_113) 114 rfl ?_
  refine oc (y := mt_253) (pc := 114) (ok_aload_n dX7_name_114) 115 rfl ?_
  refine oc (y := mt_253) (pc := 115) (ok_getfield dX7_name_115 (fg (own := "GardenChessModel") (idx := 7) (g := 9) (k := 0) (r := (RX7, TX7, 122)) rfl ⟨⟨by decide, by decide⟩, by decide⟩ (Or.inl q1812) (Or.inl rfl) rfl (fg_nil))) 118 rfl ?_
  refine oc (y := mt_253) (pc := 118) (ok_aload_n dX7_name_118) 119 rfl ?_
  refine oc (y := mt_253) (pc := 119) (ok_getfield dX7_name_119 (fg (own := "GardenChessModel") (idx := 284) (g := 9) (k := 2) (r := (RX7, TX7, 122)) rfl ⟨⟨by decide, by decide⟩, by decide⟩ (Or.inl q1814) (Or.inl rfl) rfl (fg_nil))) 122 rfl ?_
  refine oc (y := mt_253) (pc := 122) (ok_iaload dX7_name_122) 123 rfl ?_
  refine oc (y := mt_253) (pc := 123) (ok_i2l dX7_name_123) 124 rfl ?_
  refine oc (y := mt_253) (pc := 124) (ok_ladd dX7_name_124) 125 rfl ?_
  refine oc (y := mt_253) (pc := 125) (ok_ldc2 dX7_name_125 ⟨by decide, by decide⟩ (show Cond.constantLong _ _ (Int64.ofInt 97) ∈ lw_all from q2261)) 128 rfl ?_
  refine oc (y := mt_253) (pc := 128) (ok_lsub dX7_name_128) 129 rfl ?_
  refine oc (y := mt_253) (pc := 129) (ok_lconst dX7_name_129 (by decide) ⟨by decide, by decide⟩) 130 rfl ?_
  refine oc (y := mt_253) (pc := 130) (ok_ladd dX7_name_130) 131 rfl ?_
  refine oc (y := mt_253) (pc := 131) (ok_lstore_n dX7_name_131 (by decide)) 132 rfl ?_
  refine oc (y := mt_253) (pc := 132) (ok_aload_n dX7_name_132) 133 rfl ?_
  refine oc (y := mt_253) (pc := 133) (ok_dup dX7_name_133) 134 rfl ?_
  refine oc (y := mt_253) (pc := 134) (ok_getfield dX7_name_134 (fg (own := "GardenChessModel") (idx := 284) (g := 9) (k := 2) (r := (RX7, TX7, 122)) rfl ⟨⟨by decide, by decide⟩, by decide⟩ (Or.inl q1814) (Or.inl rfl) rfl (fg_nil))) 137 rfl ?_
  refine oc (y := mt_253) (pc := 137) (ok_iconst dX7_name_137 rfl ⟨by decide, by decide⟩) 138 rfl ?_
  refine oc (y := mt_253) (pc := 138) (ok_iadd dX7_name_138) 139 rfl ?_
  refine oc (y := mt_253) (pc := 139) (ok_putfield dX7_name_139 (fp (own := "GardenChessModel") (idx := 284) (g := 9) (k := 2) (r := (RX7, TX7, 122)) rfl ⟨⟨by decide, by decide⟩, by decide⟩ (Or.inl q1814) (Or.inl rfl) rfl (Or.inl rfl) (fp_nil))) 142 rfl ?_
  exact oc_goto dX7_name_142 ⟨by decide, by decide⟩
theorem o_253_145 : okL gmt mt_253 145 b_253_145 := by
  refine oc (y := mt_253) (pc := 145) (ok_aload_n dX7_name_145) 146 rfl ?_
  refine oc (y := mt_253) (pc := 146) (ok_aload_n dX7_name_146) 147 rfl ?_
  refine oc (y := mt_253) (pc := 147) (ok_getfield dX7_name_147 (fg (own := "GardenChessModel") (idx := 284) (g := 9) (k := 2) (r := (RX7, TX7, 122)) rfl ⟨⟨by decide, by decide⟩, by decide⟩ (Or.inl q1814) (Or.inl rfl) rfl (fg_nil))) 150 rfl ?_
  refine oc (y := mt_253) (pc := 150) (ok_putfield dX7_name_150 (fp (own := "GardenChessModel") (idx := 298) (g := 9) (k := 4) (r := (RX7, TX7, 122)) rfl ⟨⟨by decide, by decide⟩, by decide⟩ (Or.inl q1816) (Or.inl rfl) rfl (Or.inl rfl) (fp_nil))) 153 rfl ?_
  refine oc (y := mt_253) (pc := 153) (ok_lload_n dX7_name_153) 154 rfl ?_
  exact oc_lret dX7_name_154 rfl
theorem ok_253 : ∀ q ∈ pr_253, okL gmt mt_253 q.1 q.2 := pk_c o_253_0 (pk_c o_253_9 (pk_c o_253_37 (pk_c o_253_48 (pk_c o_253_58 (pk_c o_253_109 (pk_c o_253_145 (pk_n)))))))
theorem o_254_0 : okL gmt mt_254 0 b_254_0 := by
  refine oc (y := mt_254) (pc := 0) (ok_aload_n dX7_isOwnHere_0) 1 rfl ?_
  refine oc (y := mt_254) (pc := 1) (ok_aload_n dX7_isOwnHere_1) 2 rfl ?_
  refine oc (y := mt_254) (pc := 2) (ok_getfield dX7_isOwnHere_2 (fg (own := "GardenChessModel") (idx := 20) (g := 9) (k := 11) (r := (RX7, TX7, 122)) rfl ⟨⟨by decide, by decide⟩, by decide⟩ (Or.inl q1823) (Or.inl rfl) rfl (fg_nil))) 5 rfl ?_
  refine oc_V (y := mt_254) (pc := 5) (vcons (y := mt_254) (pc := 5) (len := 3) (n := 2) (M := mt_240) (by decide) rfl (Or.inr rfl) rfl (ck_V dX7_isOwnHere_5 ⟨by decide, by decide, by decide, by decide +kernel⟩ q2203 q2205 qs59 q177 q2206) vnil) (hok0 rfl) (by decide) 8 rfl ?_
  refine oc_if dX7_isOwnHere_8 ⟨by decide, by decide⟩ 11 rfl ?_
  refine oc (y := mt_254) (pc := 11) (ok_aload_n dX7_isOwnHere_11) 12 rfl ?_
  refine oc (y := mt_254) (pc := 12) (ok_aload_n dX7_isOwnHere_12) 13 rfl ?_
  refine oc (y := mt_254) (pc := 13) (ok_getfield dX7_isOwnHere_13 (fg (own := "GardenChessModel") (idx := 24) (g := 9) (k := 12) (r := (RX7, TX7, 122)) rfl ⟨⟨by decide, by decide⟩, by decide⟩ (Or.inl q1824) (Or.inl rfl) rfl (fg_nil))) 16 rfl ?_
  refine oc_V (y := mt_254) (pc := 16) (vcons (y := mt_254) (pc := 16) (len := 3) (n := 2) (M := mt_240) (by decide) rfl (Or.inr rfl) rfl (ck_V dX7_isOwnHere_16 ⟨by decide, by decide, by decide, by decide +kernel⟩ q2203 q2205 qs59 q177 q2206) vnil) (hok0 rfl) (by decide) 19 rfl ?_
  refine oc_if dX7_isOwnHere_19 ⟨by decide, by decide⟩ 22 rfl ?_
  refine oc (y := mt_254) (pc := 22) (ok_aload_n dX7_isOwnHere_22) 23 rfl ?_
  refine oc (y := mt_254) (pc := 23) (ok_aload_n dX7_isOwnHere_23) 24 rfl ?_
  refine oc (y := mt_254) (pc := 24) (ok_getfield dX7_isOwnHere_24 (fg (own := "GardenChessModel") (idx := 27) (g := 9) (k := 13) (r := (RX7, TX7, 122)) rfl ⟨⟨by decide, by decide⟩, by decide⟩ (Or.inl q1825) (Or.inl rfl) rfl (fg_nil))) 27 rfl ?_
  refine oc_V (y := mt_254) (pc := 27) (vcons (y := mt_254) (pc := 27) (len := 3) (n := 2) (M := mt_240) (by decide) rfl (Or.inr rfl) rfl (ck_V dX7_isOwnHere_27 ⟨by decide, by decide, by decide, by decide +kernel⟩ q2203 q2205 qs59 q177 q2206) vnil) (hok0 rfl) (by decide) 30 rfl ?_
  refine oc_if dX7_isOwnHere_30 ⟨by decide, by decide⟩ 33 rfl ?_
  refine oc (y := mt_254) (pc := 33) (ok_aload_n dX7_isOwnHere_33) 34 rfl ?_
  refine oc (y := mt_254) (pc := 34) (ok_aload_n dX7_isOwnHere_34) 35 rfl ?_
  refine oc (y := mt_254) (pc := 35) (ok_getfield dX7_isOwnHere_35 (fg (own := "GardenChessModel") (idx := 30) (g := 9) (k := 14) (r := (RX7, TX7, 122)) rfl ⟨⟨by decide, by decide⟩, by decide⟩ (Or.inl q1826) (Or.inl rfl) rfl (fg_nil))) 38 rfl ?_
  refine oc_V (y := mt_254) (pc := 38) (vcons (y := mt_254) (pc := 38) (len := 3) (n := 2) (M := mt_240) (by decide) rfl (Or.inr rfl) rfl (ck_V dX7_isOwnHere_38 ⟨by decide, by decide, by decide, by decide +kernel⟩ q2203 q2205 qs59 q177 q2206) vnil) (hok0 rfl) (by decide) 41 rfl ?_
  refine oc_if dX7_isOwnHere_41 ⟨by decide, by decide⟩ 44 rfl ?_
  refine oc (y := mt_254) (pc := 44) (ok_aload_n dX7_isOwnHere_44) 45 rfl ?_
  refine oc (y := mt_254) (pc := 45) (ok_aload_n dX7_isOwnHere_45) 46 rfl ?_
  refine oc (y := mt_254) (pc := 46) (ok_getfield dX7_isOwnHere_46 (fg (own := "GardenChessModel") (idx := 33) (g := 9) (k := 15) (r := (RX7, TX7, 122)) rfl ⟨⟨by decide, by decide⟩, by decide⟩ (Or.inl q1827) (Or.inl rfl) rfl (fg_nil))) 49 rfl ?_
  refine oc_V (y := mt_254) (pc := 49) (vcons (y := mt_254) (pc := 49) (len := 3) (n := 2) (M := mt_240) (by decide) rfl (Or.inr rfl) rfl (ck_V dX7_isOwnHere_49 ⟨by decide, by decide, by decide, by decide +kernel⟩ q2203 q2205 qs59 q177 q2206) vnil) (hok0 rfl) (by decide) 52 rfl ?_
  refine oc_if dX7_isOwnHere_52 ⟨by decide, by decide⟩ 55 rfl ?_
  refine oc (y := mt_254) (pc := 55) (ok_aload_n dX7_isOwnHere_55) 56 rfl ?_
  refine oc (y := mt_254) (pc := 56) (ok_aload_n dX7_isOwnHere_56) 57 rfl ?_
  refine oc (y := mt_254) (pc := 57) (ok_getfield dX7_isOwnHere_57 (fg (own := "GardenChessModel") (idx := 36) (g := 9) (k := 16) (r := (RX7, TX7, 122)) rfl ⟨⟨by decide, by decide⟩, by decide⟩ (Or.inl q1828) (Or.inl rfl) rfl (fg_nil))) 60 rfl ?_
  refine oc_V (y := mt_254) (pc := 60) (vcons (y := mt_254) (pc := 60) (len := 3) (n := 2) (M := mt_240) (by decide) rfl (Or.inr rfl) rfl (ck_V dX7_isOwnHere_60 ⟨by decide, by decide, by decide, by decide +kernel⟩ q2203 q2205 qs59 q177 q2206) vnil) (hok0 rfl) (by decide) 63 rfl ?_
  refine oc_if dX7_isOwnHere_63 ⟨by decide, by decide⟩ 66 rfl ?_
  exact oc_fall rfl
theorem o_254_66 : okL gmt mt_254 66 b_254_66 := by
  refine oc (y := mt_254) (pc := 66) (ok_iconst dX7_isOwnHere_66 rfl ⟨by decide, by decide⟩) 67 rfl ?_
  exact oc_goto dX7_isOwnHere_67 ⟨by decide, by decide⟩
theorem o_254_70 : okL gmt mt_254 70 b_254_70 := by
  refine oc (y := mt_254) (pc := 70) (ok_iconst dX7_isOwnHere_70 rfl ⟨by decide, by decide⟩) 71 rfl ?_
  exact oc_fall rfl
theorem o_254_71 : okL gmt mt_254 71 b_254_71 := by
  refine oc (y := mt_254) (pc := 71) (ok_istore_n dX7_isOwnHere_71 (by decide)) 72 rfl ?_
  refine oc (y := mt_254) (pc := 72) (ok_iload_n dX7_isOwnHere_72) 73 rfl ?_
  refine oc_if dX7_isOwnHere_73 ⟨by decide, by decide⟩ 76 rfl ?_
  refine oc (y := mt_254) (pc := 76) (ok_aload_n dX7_isOwnHere_76) 77 rfl ?_
  refine oc (y := mt_254) (pc := 77) (ok_aload_n dX7_isOwnHere_77) 78 rfl ?_
  refine oc (y := mt_254) (pc := 78) (ok_getfield dX7_isOwnHere_78 (fg (own := "GardenChessModel") (idx := 39) (g := 9) (k := 17) (r := (RX7, TX7, 122)) rfl ⟨⟨by decide, by decide⟩, by decide⟩ (Or.inl q1829) (Or.inl rfl) rfl (fg_nil))) 81 rfl ?_
  refine oc_V (y := mt_254) (pc := 81) (vcons (y := mt_254) (pc := 81) (len := 3) (n := 2) (M := mt_240) (by decide) rfl (Or.inr rfl) rfl (ck_V dX7_isOwnHere_81 ⟨by decide, by decide, by decide, by decide +kernel⟩ q2203 q2205 qs59 q177 q2206) vnil) (hok0 rfl) (by decide) 84 rfl ?_
  refine oc_if dX7_isOwnHere_84 ⟨by decide, by decide⟩ 87 rfl ?_
  refine oc (y := mt_254) (pc := 87) (ok_aload_n dX7_isOwnHere_87) 88 rfl ?_
  refine oc (y := mt_254) (pc := 88) (ok_aload_n dX7_isOwnHere_88) 89 rfl ?_
  refine oc (y := mt_254) (pc := 89) (ok_getfield dX7_isOwnHere_89 (fg (own := "GardenChessModel") (idx := 42) (g := 9) (k := 18) (r := (RX7, TX7, 122)) rfl ⟨⟨by decide, by decide⟩, by decide⟩ (Or.inl q1830) (Or.inl rfl) rfl (fg_nil))) 92 rfl ?_
  refine oc_V (y := mt_254) (pc := 92) (vcons (y := mt_254) (pc := 92) (len := 3) (n := 2) (M := mt_240) (by decide) rfl (Or.inr rfl) rfl (ck_V dX7_isOwnHere_92 ⟨by decide, by decide, by decide, by decide +kernel⟩ q2203 q2205 qs59 q177 q2206) vnil) (hok0 rfl) (by decide) 95 rfl ?_
  refine oc_if dX7_isOwnHere_95 ⟨by decide, by decide⟩ 98 rfl ?_
  refine oc (y := mt_254) (pc := 98) (ok_aload_n dX7_isOwnHere_98) 99 rfl ?_
  refine oc (y := mt_254) (pc := 99) (ok_aload_n dX7_isOwnHere_99) 100 rfl ?_
  refine oc (y := mt_254) (pc := 100) (ok_getfield dX7_isOwnHere_100 (fg (own := "GardenChessModel") (idx := 45) (g := 9) (k := 19) (r := (RX7, TX7, 122)) rfl ⟨⟨by decide, by decide⟩, by decide⟩ (Or.inl q1831) (Or.inl rfl) rfl (fg_nil))) 103 rfl ?_
  refine oc_V (y := mt_254) (pc := 103) (vcons (y := mt_254) (pc := 103) (len := 3) (n := 2) (M := mt_240) (by decide) rfl (Or.inr rfl) rfl (ck_V dX7_isOwnHere_103 ⟨by decide, by decide, by decide, by decide +kernel⟩ q2203 q2205 qs59 q177 q2206) vnil) (hok0 rfl) (by decide) 106 rfl ?_
  refine oc_if dX7_isOwnHere_106 ⟨by decide, by decide⟩ 109 rfl ?_
  refine oc (y := mt_254) (pc := 109) (ok_aload_n dX7_isOwnHere_109) 110 rfl ?_
  refine oc (y := mt_254) (pc := 110) (ok_aload_n dX7_isOwnHere_110) 111 rfl ?_
  refine oc (y := mt_254) (pc := 111) (ok_getfield dX7_isOwnHere_111 (fg (own := "GardenChessModel") (idx := 48) (g := 9) (k := 20) (r := (RX7, TX7, 122)) rfl ⟨⟨by decide, by decide⟩, by decide⟩ (Or.inl q1832) (Or.inl rfl) rfl (fg_nil))) 114 rfl ?_
  refine oc_V (y := mt_254) (pc := 114) (vcons (y := mt_254) (pc := 114) (len := 3) (n := 2) (M := mt_240) (by decide) rfl (Or.inr rfl) rfl (ck_V dX7_isOwnHere_114 ⟨by decide, by decide, by decide, by decide +kernel⟩ q2203 q2205 qs59 q177 q2206) vnil) (hok0 rfl) (by decide) 117 rfl ?_
  refine oc_if dX7_isOwnHere_117 ⟨by decide, by decide⟩ 120 rfl ?_
  refine oc (y := mt_254) (pc := 120) (ok_aload_n dX7_isOwnHere_120) 121 rfl ?_
  refine oc (y := mt_254) (pc := 121) (ok_aload_n dX7_isOwnHere_121) 122 rfl ?_
  refine oc (y := mt_254) (pc := 122) (ok_getfield dX7_isOwnHere_122 (fg (own := "GardenChessModel") (idx := 51) (g := 9) (k := 21) (r := (RX7, TX7, 122)) rfl ⟨⟨by decide, by decide⟩, by decide⟩ (Or.inl q1833) (Or.inl rfl) rfl (fg_nil))) 125 rfl ?_
  refine oc_V (y := mt_254) (pc := 125) (vcons (y := mt_254) (pc := 125) (len := 3) (n := 2) (M := mt_240) (by decide) rfl (Or.inr rfl) rfl (ck_V dX7_isOwnHere_125 ⟨by decide, by decide, by decide, by decide +kernel⟩ q2203 q2205 qs59 q177 q2206) vnil) (hok0 rfl) (by decide) 128 rfl ?_
  refine oc_if dX7_isOwnHere_128 ⟨by decide, by decide⟩ 131 rfl ?_
  refine oc (y := mt_254) (pc := 131) (ok_aload_n dX7_isOwnHere_131) 132 rfl ?_
  refine oc (y := mt_254) (pc := 132) (ok_aload_n dX7_isOwnHere_132) 133 rfl ?_
  refine oc (y := mt_254) (pc := 133) (ok_getfield dX7_isOwnHere_133 (fg (own := "GardenChessModel") (idx := 54) (g := 9) (k := 22) (r := (RX7, TX7, 122)) rfl ⟨⟨by decide, by decide⟩, by decide⟩ (Or.inl q1834) (Or.inl rfl) rfl (fg_nil))) 136 rfl ?_
  refine oc_V (y := mt_254) (pc := 136) (vcons (y := mt_254) (pc := 136) (len := 3) (n := 2) (M := mt_240) (by decide) rfl (Or.inr rfl) rfl (ck_V dX7_isOwnHere_136 ⟨by decide, by decide, by decide, by decide +kernel⟩ q2203 q2205 qs59 q177 q2206) vnil) (hok0 rfl) (by decide) 139 rfl ?_
  refine oc_if dX7_isOwnHere_139 ⟨by decide, by decide⟩ 142 rfl ?_
  exact oc_fall rfl
theorem o_254_142 : okL gmt mt_254 142 b_254_142 := by
  refine oc (y := mt_254) (pc := 142) (ok_iconst dX7_isOwnHere_142 rfl ⟨by decide, by decide⟩) 143 rfl ?_
  exact oc_goto dX7_isOwnHere_143 ⟨by decide, by decide⟩
theorem o_254_146 : okL gmt mt_254 146 b_254_146 := by
  refine oc (y := mt_254) (pc := 146) (ok_iconst dX7_isOwnHere_146 rfl ⟨by decide, by decide⟩) 147 rfl ?_
  exact oc_fall rfl
theorem o_254_147 : okL gmt mt_254 147 b_254_147 := by
  refine oc (y := mt_254) (pc := 147) (ok_istore_n dX7_isOwnHere_147 (by decide)) 148 rfl ?_
  refine oc (y := mt_254) (pc := 148) (ok_iload_n dX7_isOwnHere_148) 149 rfl ?_
  refine oc_if dX7_isOwnHere_149 ⟨by decide, by decide⟩ 152 rfl ?_
  refine oc (y := mt_254) (pc := 152) (ok_aload_n dX7_isOwnHere_152) 153 rfl ?_
  refine oc (y := mt_254) (pc := 153) (ok_aload_n dX7_isOwnHere_153) 154 rfl ?_
  refine oc (y := mt_254) (pc := 154) (ok_getfield dX7_isOwnHere_154 (fg (own := "GardenChessModel") (idx := 57) (g := 9) (k := 23) (r := (RX7, TX7, 122)) rfl ⟨⟨by decide, by decide⟩, by decide⟩ (Or.inl q1835) (Or.inl rfl) rfl (fg_nil))) 157 rfl ?_
  refine oc_V (y := mt_254) (pc := 157) (vcons (y := mt_254) (pc := 157) (len := 3) (n := 2) (M := mt_240) (by decide) rfl (Or.inr rfl) rfl (ck_V dX7_isOwnHere_157 ⟨by decide, by decide, by decide, by decide +kernel⟩ q2203 q2205 qs59 q177 q2206) vnil) (hok0 rfl) (by decide) 160 rfl ?_
  refine oc_if dX7_isOwnHere_160 ⟨by decide, by decide⟩ 163 rfl ?_
  refine oc (y := mt_254) (pc := 163) (ok_aload_n dX7_isOwnHere_163) 164 rfl ?_
  refine oc (y := mt_254) (pc := 164) (ok_aload_n dX7_isOwnHere_164) 165 rfl ?_
  refine oc (y := mt_254) (pc := 165) (ok_getfield dX7_isOwnHere_165 (fg (own := "GardenChessModel") (idx := 60) (g := 9) (k := 24) (r := (RX7, TX7, 122)) rfl ⟨⟨by decide, by decide⟩, by decide⟩ (Or.inl q1836) (Or.inl rfl) rfl (fg_nil))) 168 rfl ?_
  refine oc_V (y := mt_254) (pc := 168) (vcons (y := mt_254) (pc := 168) (len := 3) (n := 2) (M := mt_240) (by decide) rfl (Or.inr rfl) rfl (ck_V dX7_isOwnHere_168 ⟨by decide, by decide, by decide, by decide +kernel⟩ q2203 q2205 qs59 q177 q2206) vnil) (hok0 rfl) (by decide) 171 rfl ?_
  refine oc_if dX7_isOwnHere_171 ⟨by decide, by decide⟩ 174 rfl ?_
  refine oc (y := mt_254) (pc := 174) (ok_aload_n dX7_isOwnHere_174) 175 rfl ?_
  refine oc (y := mt_254) (pc := 175) (ok_aload_n dX7_isOwnHere_175) 176 rfl ?_
  refine oc (y := mt_254) (pc := 176) (ok_getfield dX7_isOwnHere_176 (fg (own := "GardenChessModel") (idx := 63) (g := 9) (k := 25) (r := (RX7, TX7, 122)) rfl ⟨⟨by decide, by decide⟩, by decide⟩ (Or.inl q1837) (Or.inl rfl) rfl (fg_nil))) 179 rfl ?_
  refine oc_V (y := mt_254) (pc := 179) (vcons (y := mt_254) (pc := 179) (len := 3) (n := 2) (M := mt_240) (by decide) rfl (Or.inr rfl) rfl (ck_V dX7_isOwnHere_179 ⟨by decide, by decide, by decide, by decide +kernel⟩ q2203 q2205 qs59 q177 q2206) vnil) (hok0 rfl) (by decide) 182 rfl ?_
  refine oc_if dX7_isOwnHere_182 ⟨by decide, by decide⟩ 185 rfl ?_
  refine oc (y := mt_254) (pc := 185) (ok_aload_n dX7_isOwnHere_185) 186 rfl ?_
  refine oc (y := mt_254) (pc := 186) (ok_aload_n dX7_isOwnHere_186) 187 rfl ?_
  refine oc (y := mt_254) (pc := 187) (ok_getfield dX7_isOwnHere_187 (fg (own := "GardenChessModel") (idx := 66) (g := 9) (k := 26) (r := (RX7, TX7, 122)) rfl ⟨⟨by decide, by decide⟩, by decide⟩ (Or.inl q1838) (Or.inl rfl) rfl (fg_nil))) 190 rfl ?_
  refine oc_V (y := mt_254) (pc := 190) (vcons (y := mt_254) (pc := 190) (len := 3) (n := 2) (M := mt_240) (by decide) rfl (Or.inr rfl) rfl (ck_V dX7_isOwnHere_190 ⟨by decide, by decide, by decide, by decide +kernel⟩ q2203 q2205 qs59 q177 q2206) vnil) (hok0 rfl) (by decide) 193 rfl ?_
  refine oc_if dX7_isOwnHere_193 ⟨by decide, by decide⟩ 196 rfl ?_
  refine oc (y := mt_254) (pc := 196) (ok_aload_n dX7_isOwnHere_196) 197 rfl ?_
  refine oc (y := mt_254) (pc := 197) (ok_aload_n dX7_isOwnHere_197) 198 rfl ?_
  refine oc (y := mt_254) (pc := 198) (ok_getfield dX7_isOwnHere_198 (fg (own := "GardenChessModel") (idx := 69) (g := 9) (k := 27) (r := (RX7, TX7, 122)) rfl ⟨⟨by decide, by decide⟩, by decide⟩ (Or.inl q1839) (Or.inl rfl) rfl (fg_nil))) 201 rfl ?_
  refine oc_V (y := mt_254) (pc := 201) (vcons (y := mt_254) (pc := 201) (len := 3) (n := 2) (M := mt_240) (by decide) rfl (Or.inr rfl) rfl (ck_V dX7_isOwnHere_201 ⟨by decide, by decide, by decide, by decide +kernel⟩ q2203 q2205 qs59 q177 q2206) vnil) (hok0 rfl) (by decide) 204 rfl ?_
  refine oc_if dX7_isOwnHere_204 ⟨by decide, by decide⟩ 207 rfl ?_
  refine oc (y := mt_254) (pc := 207) (ok_aload_n dX7_isOwnHere_207) 208 rfl ?_
  refine oc (y := mt_254) (pc := 208) (ok_aload_n dX7_isOwnHere_208) 209 rfl ?_
  refine oc (y := mt_254) (pc := 209) (ok_getfield dX7_isOwnHere_209 (fg (own := "GardenChessModel") (idx := 72) (g := 9) (k := 28) (r := (RX7, TX7, 122)) rfl ⟨⟨by decide, by decide⟩, by decide⟩ (Or.inl q1840) (Or.inl rfl) rfl (fg_nil))) 212 rfl ?_
  refine oc_V (y := mt_254) (pc := 212) (vcons (y := mt_254) (pc := 212) (len := 3) (n := 2) (M := mt_240) (by decide) rfl (Or.inr rfl) rfl (ck_V dX7_isOwnHere_212 ⟨by decide, by decide, by decide, by decide +kernel⟩ q2203 q2205 qs59 q177 q2206) vnil) (hok0 rfl) (by decide) 215 rfl ?_
  refine oc_if dX7_isOwnHere_215 ⟨by decide, by decide⟩ 218 rfl ?_
  exact oc_fall rfl
theorem o_254_218 : okL gmt mt_254 218 b_254_218 := by
  refine oc (y := mt_254) (pc := 218) (ok_iconst dX7_isOwnHere_218 rfl ⟨by decide, by decide⟩) 219 rfl ?_
  exact oc_goto dX7_isOwnHere_219 ⟨by decide, by decide⟩
theorem o_254_222 : okL gmt mt_254 222 b_254_222 := by
  refine oc (y := mt_254) (pc := 222) (ok_iconst dX7_isOwnHere_222 rfl ⟨by decide, by decide⟩) 223 rfl ?_
  exact oc_fall rfl
theorem o_254_223 : okL gmt mt_254 223 b_254_223 := by
  refine oc (y := mt_254) (pc := 223) (ok_istore_n dX7_isOwnHere_223 (by decide)) 224 rfl ?_
  refine oc (y := mt_254) (pc := 224) (ok_iload_n dX7_isOwnHere_224) 225 rfl ?_
  refine oc_if dX7_isOwnHere_225 ⟨by decide, by decide⟩ 228 rfl ?_
  refine oc (y := mt_254) (pc := 228) (ok_aload_n dX7_isOwnHere_228) 229 rfl ?_
  refine oc (y := mt_254) (pc := 229) (ok_aload_n dX7_isOwnHere_229) 230 rfl ?_
  refine oc (y := mt_254) (pc := 230) (ok_getfield dX7_isOwnHere_230 (fg (own := "GardenChessModel") (idx := 75) (g := 9) (k := 29) (r := (RX7, TX7, 122)) rfl ⟨⟨by decide, by decide⟩, by decide⟩ (Or.inl q1841) (Or.inl rfl) rfl (fg_nil))) 233 rfl ?_
  refine oc_V (y := mt_254) (pc := 233) (vcons (y := mt_254) (pc := 233) (len := 3) (n := 2) (M := mt_240) (by decide) rfl (Or.inr rfl) rfl (ck_V dX7_isOwnHere_233 ⟨by decide, by decide, by decide, by decide +kernel⟩ q2203 q2205 qs59 q177 q2206) vnil) (hok0 rfl) (by decide) 236 rfl ?_
  refine oc_if dX7_isOwnHere_236 ⟨by decide, by decide⟩ 239 rfl ?_
  refine oc (y := mt_254) (pc := 239) (ok_aload_n dX7_isOwnHere_239) 240 rfl ?_
  refine oc (y := mt_254) (pc := 240) (ok_aload_n dX7_isOwnHere_240) 241 rfl ?_
  refine oc (y := mt_254) (pc := 241) (ok_getfield dX7_isOwnHere_241 (fg (own := "GardenChessModel") (idx := 78) (g := 9) (k := 30) (r := (RX7, TX7, 122)) rfl ⟨⟨by decide, by decide⟩, by decide⟩ (Or.inl q1842) (Or.inl rfl) rfl (fg_nil))) 244 rfl ?_
  refine oc_V (y := mt_254) (pc := 244) (vcons (y := mt_254) (pc := 244) (len := 3) (n := 2) (M := mt_240) (by decide) rfl (Or.inr rfl) rfl (ck_V dX7_isOwnHere_244 ⟨by decide, by decide, by decide, by decide +kernel⟩ q2203 q2205 qs59 q177 q2206) vnil) (hok0 rfl) (by decide) 247 rfl ?_
  refine oc_if dX7_isOwnHere_247 ⟨by decide, by decide⟩ 250 rfl ?_
  refine oc (y := mt_254) (pc := 250) (ok_aload_n dX7_isOwnHere_250) 251 rfl ?_
  refine oc (y := mt_254) (pc := 251) (ok_aload_n dX7_isOwnHere_251) 252 rfl ?_
  refine oc (y := mt_254) (pc := 252) (ok_getfield dX7_isOwnHere_252 (fg (own := "GardenChessModel") (idx := 81) (g := 9) (k := 31) (r := (RX7, TX7, 122)) rfl ⟨⟨by decide, by decide⟩, by decide⟩ (Or.inl q1843) (Or.inl rfl) rfl (fg_nil))) 255 rfl ?_
  refine oc_V (y := mt_254) (pc := 255) (vcons (y := mt_254) (pc := 255) (len := 3) (n := 2) (M := mt_240) (by decide) rfl (Or.inr rfl) rfl (ck_V dX7_isOwnHere_255 ⟨by decide, by decide, by decide, by decide +kernel⟩ q2203 q2205 qs59 q177 q2206) vnil) (hok0 rfl) (by decide) 258 rfl ?_
  refine oc_if dX7_isOwnHere_258 ⟨by decide, by decide⟩ 261 rfl ?_
  refine oc (y := mt_254) (pc := 261) (ok_aload_n dX7_isOwnHere_261) 262 rfl ?_
  refine oc (y := mt_254) (pc := 262) (ok_aload_n dX7_isOwnHere_262) 263 rfl ?_
  refine oc (y := mt_254) (pc := 263) (ok_getfield dX7_isOwnHere_263 (fg (own := "GardenChessModel") (idx := 84) (g := 9) (k := 32) (r := (RX7, TX7, 122)) rfl ⟨⟨by decide, by decide⟩, by decide⟩ (Or.inl q1844) (Or.inl rfl) rfl (fg_nil))) 266 rfl ?_
  refine oc_V (y := mt_254) (pc := 266) (vcons (y := mt_254) (pc := 266) (len := 3) (n := 2) (M := mt_240) (by decide) rfl (Or.inr rfl) rfl (ck_V dX7_isOwnHere_266 ⟨by decide, by decide, by decide, by decide +kernel⟩ q2203 q2205 qs59 q177 q2206) vnil) (hok0 rfl) (by decide) 269 rfl ?_
  refine oc_if dX7_isOwnHere_269 ⟨by decide, by decide⟩ 272 rfl ?_
  refine oc (y := mt_254) (pc := 272) (ok_aload_n dX7_isOwnHere_272) 273 rfl ?_
  refine oc (y := mt_254) (pc := 273) (ok_aload_n dX7_isOwnHere_273) 274 rfl ?_
  refine oc (y := mt_254) (pc := 274) (ok_getfield dX7_isOwnHere_274 (fg (own := "GardenChessModel") (idx := 87) (g := 9) (k := 33) (r := (RX7, TX7, 122)) rfl ⟨⟨by decide, by decide⟩, by decide⟩ (Or.inl q1845) (Or.inl rfl) rfl (fg_nil))) 277 rfl ?_
  refine oc_V (y := mt_254) (pc := 277) (vcons (y := mt_254) (pc := 277) (len := 3) (n := 2) (M := mt_240) (by decide) rfl (Or.inr rfl) rfl (ck_V dX7_isOwnHere_277 ⟨by decide, by decide, by decide, by decide +kernel⟩ q2203 q2205 qs59 q177 q2206) vnil) (hok0 rfl) (by decide) 280 rfl ?_
  refine oc_if dX7_isOwnHere_280 ⟨by decide, by decide⟩ 283 rfl ?_
  refine oc (y := mt_254) (pc := 283) (ok_aload_n dX7_isOwnHere_283) 284 rfl ?_
  refine oc (y := mt_254) (pc := 284) (ok_aload_n dX7_isOwnHere_284) 285 rfl ?_
  refine oc (y := mt_254) (pc := 285) (ok_getfield dX7_isOwnHere_285 (fg (own := "GardenChessModel") (idx := 90) (g := 9) (k := 34) (r := (RX7, TX7, 122)) rfl ⟨⟨by decide, by decide⟩, by decide⟩ (Or.inl q1846) (Or.inl rfl) rfl (fg_nil))) 288 rfl ?_
  refine oc_V (y := mt_254) (pc := 288) (vcons (y := mt_254) (pc := 288) (len := 3) (n := 2) (M := mt_240) (by decide) rfl (Or.inr rfl) rfl (ck_V dX7_isOwnHere_288 ⟨by decide, by decide, by decide, by decide +kernel⟩ q2203 q2205 qs59 q177 q2206) vnil) (hok0 rfl) (by decide) 291 rfl ?_
  refine oc_if dX7_isOwnHere_291 ⟨by decide, by decide⟩ 294 rfl ?_
  exact oc_fall rfl
theorem o_254_294 : okL gmt mt_254 294 b_254_294 := by
  refine oc (y := mt_254) (pc := 294) (ok_iconst dX7_isOwnHere_294 rfl ⟨by decide, by decide⟩) 295 rfl ?_
  exact oc_goto dX7_isOwnHere_295 ⟨by decide, by decide⟩
theorem o_254_298 : okL gmt mt_254 298 b_254_298 := by
  refine oc (y := mt_254) (pc := 298) (ok_iconst dX7_isOwnHere_298 rfl ⟨by decide, by decide⟩) 299 rfl ?_
  exact oc_fall rfl
theorem o_254_299 : okL gmt mt_254 299 b_254_299 := by
  refine oc (y := mt_254) (pc := 299) (ok_istore_n dX7_isOwnHere_299 (by decide)) 300 rfl ?_
  refine oc (y := mt_254) (pc := 300) (ok_iload_n dX7_isOwnHere_300) 301 rfl ?_
  refine oc_if dX7_isOwnHere_301 ⟨by decide, by decide⟩ 304 rfl ?_
  refine oc (y := mt_254) (pc := 304) (ok_aload_n dX7_isOwnHere_304) 305 rfl ?_
  refine oc (y := mt_254) (pc := 305) (ok_aload_n dX7_isOwnHere_305) 306 rfl ?_
  refine oc (y := mt_254) (pc := 306) (ok_getfield dX7_isOwnHere_306 (fg (own := "GardenChessModel") (idx := 93) (g := 9) (k := 35) (r := (RX7, TX7, 122)) rfl ⟨⟨by decide, by decide⟩, by decide⟩ (Or.inl q1847) (Or.inl rfl) rfl (fg_nil))) 309 rfl ?_
  refine oc_V (y := mt_254) (pc := 309) (vcons (y := mt_254) (pc := 309) (len := 3) (n := 2) (M := mt_240) (by decide) rfl (Or.inr rfl) rfl (ck_V dX7_isOwnHere_309 ⟨by decide, by decide, by decide, by decide +kernel⟩ q2203 q2205 qs59 q177 q2206) vnil) (hok0 rfl) (by decide) 312 rfl ?_
  refine oc_if dX7_isOwnHere_312 ⟨by decide, by decide⟩ 315 rfl ?_
  refine oc (y := mt_254) (pc := 315) (ok_aload_n dX7_isOwnHere_315) 316 rfl ?_
  refine oc (y := mt_254) (pc := 316) (ok_aload_n dX7_isOwnHere_316) 317 rfl ?_
  refine oc (y := mt_254) (pc := 317) (ok_getfield dX7_isOwnHere_317 (fg (own := "GardenChessModel") (idx := 96) (g := 9) (k := 36) (r := (RX7, TX7, 122)) rfl ⟨⟨by decide, by decide⟩, by decide⟩ (Or.inl q1848) (Or.inl rfl) rfl (fg_nil))) 320 rfl ?_
  refine oc_V (y := mt_254) (pc := 320) (vcons (y := mt_254) (pc := 320) (len := 3) (n := 2) (M := mt_240) (by decide) rfl (Or.inr rfl) rfl (ck_V dX7_isOwnHere_320 ⟨by decide, by decide, by decide, by decide +kernel⟩ q2203 q2205 qs59 q177 q2206) vnil) (hok0 rfl) (by decide) 323 rfl ?_
  refine oc_if dX7_isOwnHere_323 ⟨by decide, by decide⟩ 326 rfl ?_
  refine oc (y := mt_254) (pc := 326) (ok_aload_n dX7_isOwnHere_326) 327 rfl ?_
  refine oc (y := mt_254) (pc := 327) (ok_aload_n dX7_isOwnHere_327) 328 rfl ?_
  refine oc (y := mt_254) (pc := 328) (ok_getfield dX7_isOwnHere_328 (fg (own := "GardenChessModel") (idx := 99) (g := 9) (k := 37) (r := (RX7, TX7, 122)) rfl ⟨⟨by decide, by decide⟩, by decide⟩ (Or.inl q1849) (Or.inl rfl) rfl (fg_nil))) 331 rfl ?_
  refine oc_V (y := mt_254) (pc := 331) (vcons (y := mt_254) (pc := 331) (len := 3) (n := 2) (M := mt_240) (by decide) rfl (Or.inr rfl) rfl (ck_V dX7_isOwnHere_331 ⟨by decide, by decide, by decide, by decide +kernel⟩ q2203 q2205 qs59 q177 q2206) vnil) (hok0 rfl) (by decide) 334 rfl ?_
  refine oc_if dX7_isOwnHere_334 ⟨by decide, by decide⟩ 337 rfl ?_
  refine oc (y := mt_254) (pc := 337) (ok_aload_n dX7_isOwnHere_337) 338 rfl ?_
  refine oc (y := mt_254) (pc := 338) (ok_aload_n dX7_isOwnHere_338) 339 rfl ?_
  refine oc (y := mt_254) (pc := 339) (ok_getfield dX7_isOwnHere_339 (fg (own := "GardenChessModel") (idx := 102) (g := 9) (k := 38) (r := (RX7, TX7, 122)) rfl ⟨⟨by decide, by decide⟩, by decide⟩ (Or.inl q1850) (Or.inl rfl) rfl (fg_nil))) 342 rfl ?_
  refine oc_V (y := mt_254) (pc := 342) (vcons (y := mt_254) (pc := 342) (len := 3) (n := 2) (M := mt_240) (by decide) rfl (Or.inr rfl) rfl (ck_V dX7_isOwnHere_342 ⟨by decide, by decide, by decide, by decide +kernel⟩ q2203 q2205 qs59 q177 q2206) vnil) (hok0 rfl) (by decide) 345 rfl ?_
  refine oc_if dX7_isOwnHere_345 ⟨by decide, by decide⟩ 348 rfl ?_
  refine oc (y := mt_254) (pc := 348) (ok_aload_n dX7_isOwnHere_348) 349 rfl ?_
  refine oc (y := mt_254) (pc := 349) (ok_aload_n dX7_isOwnHere_349) 350 rfl ?_
  refine oc (y := mt_254) (pc := 350) (ok_getfield dX7_isOwnHere_350 (fg (own := "GardenChessModel") (idx := 105) (g := 9) (k := 39) (r := (RX7, TX7, 122)) rfl ⟨⟨by decide, by decide⟩, by decide⟩ (Or.inl q1851) (Or.inl rfl) rfl (fg_nil))) 353 rfl ?_
  refine oc_V (y := mt_254) (pc := 353) (vcons (y := mt_254) (pc := 353) (len := 3) (n := 2) (M := mt_240) (by decide) rfl (Or.inr rfl) rfl (ck_V dX7_isOwnHere_353 ⟨by decide, by decide, by decide, by decide +kernel⟩ q2203 q2205 qs59 q177 q2206) vnil) (hok0 rfl) (by decide) 356 rfl ?_
  refine oc_if dX7_isOwnHere_356 ⟨by decide, by decide⟩ 359 rfl ?_
  refine oc (y := mt_254) (pc := 359) (ok_aload_n dX7_isOwnHere_359) 360 rfl ?_
  refine oc (y := mt_254) (pc := 360) (ok_aload_n dX7_isOwnHere_360) 361 rfl ?_
  refine oc (y := mt_254) (pc := 361) (ok_getfield dX7_isOwnHere_361 (fg (own := "GardenChessModel") (idx := 108) (g := 9) (k := 40) (r := (RX7, TX7, 122)) rfl ⟨⟨by decide, by decide⟩, by decide⟩ (Or.inl q1852) (Or.inl rfl) rfl (fg_nil))) 364 rfl ?_
  refine oc_V (y := mt_254) (pc := 364) (vcons (y := mt_254) (pc := 364) (len := 3) (n := 2) (M := mt_240) (by decide) rfl (Or.inr rfl) rfl (ck_V dX7_isOwnHere_364 ⟨by decide, by decide, by decide, by decide +kernel⟩ q2203 q2205 qs59 q177 q2206) vnil) (hok0 rfl) (by decide) 367 rfl ?_
  refine oc_if dX7_isOwnHere_367 ⟨by decide, by decide⟩ 370 rfl ?_
  exact oc_fall rfl
theorem o_254_370 : okL gmt mt_254 370 b_254_370 := by
  refine oc (y := mt_254) (pc := 370) (ok_iconst dX7_isOwnHere_370 rfl ⟨by decide, by decide⟩) 371 rfl ?_
  exact oc_goto dX7_isOwnHere_371 ⟨by decide, by decide⟩
theorem o_254_374 : okL gmt mt_254 374 b_254_374 := by
  refine oc (y := mt_254) (pc := 374) (ok_iconst dX7_isOwnHere_374 rfl ⟨by decide, by decide⟩) 375 rfl ?_
  exact oc_fall rfl
theorem o_254_375 : okL gmt mt_254 375 b_254_375 := by
  refine oc (y := mt_254) (pc := 375) (ok_istore_n dX7_isOwnHere_375 (by decide)) 376 rfl ?_
  refine oc (y := mt_254) (pc := 376) (ok_iload_n dX7_isOwnHere_376) 377 rfl ?_
  refine oc_if dX7_isOwnHere_377 ⟨by decide, by decide⟩ 380 rfl ?_
  refine oc (y := mt_254) (pc := 380) (ok_aload_n dX7_isOwnHere_380) 381 rfl ?_
  refine oc (y := mt_254) (pc := 381) (ok_aload_n dX7_isOwnHere_381) 382 rfl ?_
  refine oc (y := mt_254) (pc := 382) (ok_getfield dX7_isOwnHere_382 (fg (own := "GardenChessModel") (idx := 111) (g := 9) (k := 41) (r := (RX7, TX7, 122)) rfl ⟨⟨by decide, by decide⟩, by decide⟩ (Or.inl q1853) (Or.inl rfl) rfl (fg_nil))) 385 rfl ?_
  refine oc_V (y := mt_254) (pc := 385) (vcons (y := mt_254) (pc := 385) (len := 3) (n := 2) (M := mt_240) (by decide) rfl (Or.inr rfl) rfl (ck_V dX7_isOwnHere_385 ⟨by decide, by decide, by decide, by decide +kernel⟩ q2203 q2205 qs59 q177 q2206) vnil) (hok0 rfl) (by decide) 388 rfl ?_
  refine oc_if dX7_isOwnHere_388 ⟨by decide, by decide⟩ 391 rfl ?_
  refine oc (y := mt_254) (pc := 391) (ok_aload_n dX7_isOwnHere_391) 392 rfl ?_
  refine oc (y := mt_254) (pc := 392) (ok_aload_n dX7_isOwnHere_392) 393 rfl ?_
  refine oc (y := mt_254) (pc := 393) (ok_getfield dX7_isOwnHere_393 (fg (own := "GardenChessModel") (idx := 114) (g := 9) (k := 42) (r := (RX7, TX7, 122)) rfl ⟨⟨by decide, by decide⟩, by decide⟩ (Or.inl q1854) (Or.inl rfl) rfl (fg_nil))) 396 rfl ?_
  refine oc_V (y := mt_254) (pc := 396) (vcons (y := mt_254) (pc := 396) (len := 3) (n := 2) (M := mt_240) (by decide) rfl (Or.inr rfl) rfl (ck_V dX7_isOwnHere_396 ⟨by decide, by decide, by decide, by decide +kernel⟩ q2203 q2205 qs59 q177 q2206) vnil) (hok0 rfl) (by decide) 399 rfl ?_
  refine oc_if dX7_isOwnHere_399 ⟨by decide, by decide⟩ 402 rfl ?_
  refine oc (y := mt_254) (pc := 402) (ok_aload_n dX7_isOwnHere_402) 403 rfl ?_
  refine oc (y := mt_254) (pc := 403) (ok_aload_n dX7_isOwnHere_403) 404 rfl ?_
  refine oc (y := mt_254) (pc := 404) (ok_getfield dX7_isOwnHere_404 (fg (own := "GardenChessModel") (idx := 117) (g := 9) (k := 43) (r := (RX7, TX7, 122)) rfl ⟨⟨by decide, by decide⟩, by decide⟩ (Or.inl q1855) (Or.inl rfl) rfl (fg_nil))) 407 rfl ?_
  refine oc_V (y := mt_254) (pc := 407) (vcons (y := mt_254) (pc := 407) (len := 3) (n := 2) (M := mt_240) (by decide) rfl (Or.inr rfl) rfl (ck_V dX7_isOwnHere_407 ⟨by decide, by decide, by decide, by decide +kernel⟩ q2203 q2205 qs59 q177 q2206) vnil) (hok0 rfl) (by decide) 410 rfl ?_
  refine oc_if dX7_isOwnHere_410 ⟨by decide, by decide⟩ 413 rfl ?_
  exact oc_fall rfl
theorem o_254_413 : okL gmt mt_254 413 b_254_413 := by
  refine oc (y := mt_254) (pc := 413) (ok_iconst dX7_isOwnHere_413 rfl ⟨by decide, by decide⟩) 414 rfl ?_
  exact oc_goto dX7_isOwnHere_414 ⟨by decide, by decide⟩
theorem o_254_417 : okL gmt mt_254 417 b_254_417 := by
  refine oc (y := mt_254) (pc := 417) (ok_iconst dX7_isOwnHere_417 rfl ⟨by decide, by decide⟩) 418 rfl ?_
  exact oc_fall rfl
theorem o_254_418 : okL gmt mt_254 418 b_254_418 := by
  refine oc (y := mt_254) (pc := 418) (ok_istore_n dX7_isOwnHere_418 (by decide)) 419 rfl ?_
  refine oc (y := mt_254) (pc := 419) (ok_iload_n dX7_isOwnHere_419) 420 rfl ?_
  exact oc_zret dX7_isOwnHere_420 rfl
theorem ok_254 : ∀ q ∈ pr_254, okL gmt mt_254 q.1 q.2 := pk_c o_254_0 (pk_c o_254_66 (pk_c o_254_70 (pk_c o_254_71 (pk_c o_254_142 (pk_c o_254_146 (pk_c o_254_147 (pk_c o_254_218 (pk_c o_254_222 (pk_c o_254_223 (pk_c o_254_294 (pk_c o_254_298 (pk_c o_254_299 (pk_c o_254_370 (pk_c o_254_374 (pk_c o_254_375 (pk_c o_254_413 (pk_c o_254_417 (pk_c o_254_418 (pk_n)))))))))))))))))))
theorem o_255_0 : okL gmt mt_255 0 b_255_0 := by
  refine oc (y := mt_255) (pc := 0) (ok_iconst dX7_nameOf_0 rfl ⟨by decide, by decide⟩) 1 rfl ?_
  refine oc (y := mt_255) (pc := 1) (ok_istore dX7_nameOf_1 (by decide)) 3 rfl ?_
  exact oc_fall rfl
theorem o_255_3 : okL gmt mt_255 3 b_255_3 := by
  refine oc (y := mt_255) (pc := 3) (ok_iload dX7_nameOf_3) 5 rfl ?_
  refine oc (y := mt_255) (pc := 5) (ok_aload_n dX7_nameOf_5) 6 rfl ?_
  refine oc (y := mt_255) (pc := 6) (ok_getfield dX7_nameOf_6 (fg (own := "GardenChessModel") (idx := 120) (g := 9) (k := 45) (r := (RX7, TX7, 122)) rfl ⟨⟨by decide, by decide⟩, by decide⟩ (Or.inl q1857) (Or.inl rfl) rfl (fg_nil))) 9 rfl ?_
  refine oc (y := mt_255) (pc := 9) (ok_iload_n dX7_nameOf_9) 10 rfl ?_
  refine oc (y := mt_255) (pc := 10) (ok_iaload dX7_nameOf_10) 11 rfl ?_
  refine oc_icmp dX7_nameOf_11 ⟨by decide, by decide⟩ 14 rfl ?_
  refine oc (y := mt_255) (pc := 14) (ok_aload_n dX7_nameOf_14) 15 rfl ?_
  refine oc (y := mt_255) (pc := 15) (ok_getfield dX7_nameOf_15 (fg (own := "GardenChessModel") (idx := 123) (g := 9) (k := 46) (r := (RX7, TX7, 122)) rfl ⟨⟨by decide, by decide⟩, by decide⟩ (Or.inl q1858) (Or.inl rfl) rfl (fg_nil))) 18 rfl ?_
  refine oc (y := mt_255) (pc := 18) (ok_bipush dX7_nameOf_18 (by decide) ⟨by decide, by decide⟩) 20 rfl ?_
  refine oc (y := mt_255) (pc := 20) (ok_iload_n dX7_nameOf_20) 21 rfl ?_
  refine oc (y := mt_255) (pc := 21) (ok_imul dX7_nameOf_21) 22 rfl ?_
  refine oc (y := mt_255) (pc := 22) (ok_iload dX7_nameOf_22) 24 rfl ?_
  refine oc (y := mt_255) (pc := 24) (ok_iadd dX7_nameOf_24) 25 rfl ?_
  refine oc (y := mt_255) (pc := 25) (ok_laload dX7_nameOf_25) 26 rfl ?_
  refine oc (y := mt_255) (pc := 26) (ok_lload_n dX7_nameOf_26) 27 rfl ?_
  refine oc (y := mt_255) (pc := 27) (ok_lcmp dX7_nameOf_27) 28 rfl ?_
  refine oc_if dX7_nameOf_28 ⟨by decide, by decide⟩ 31 rfl ?_
  refine oc (y := mt_255) (pc := 31) (ok_iload dX7_nameOf_31) 33 rfl ?_
  exact oc_iret dX7_nameOf_33 rfl
theorem o_255_34 : okL gmt mt_255 34 b_255_34 := by
  refine oc (y := mt_255) (pc := 34) (ok_iinc dX7_nameOf_34 (by decide)) 37 rfl ?_
  exact oc_goto dX7_nameOf_37 ⟨by decide, by decide⟩
theorem o_255_40 : okL gmt mt_255 40 b_255_40 := by
  refine oc (y := mt_255) (pc := 40) (ok_iconst dX7_nameOf_40 rfl ⟨by decide, by decide⟩) 41 rfl ?_
  exact oc_iret dX7_nameOf_41 rfl
theorem ok_255 : ∀ q ∈ pr_255, okL gmt mt_255 q.1 q.2 := pk_c o_255_0 (pk_c o_255_3 (pk_c o_255_34 (pk_c o_255_40 (pk_n))))
theorem o_256_0 : okL gmt mt_256 0 b_256_0 := by
  refine oc (y := mt_256) (pc := 0) (ok_aload_n dX7_adds_0) 1 rfl ?_
  refine oc (y := mt_256) (pc := 1) (ok_getfield dX7_adds_1 (fg (own := "GardenChessModel") (idx := 123) (g := 9) (k := 46) (r := (RX7, TX7, 122)) rfl ⟨⟨by decide, by decide⟩, by decide⟩ (Or.inl q1858) (Or.inl rfl) rfl (fg_nil))) 4 rfl ?_
  refine oc (y := mt_256) (pc := 4) (ok_bipush dX7_adds_4 (by decide) ⟨by decide, by decide⟩) 6 rfl ?_
  refine oc (y := mt_256) (pc := 6) (ok_iload_n dX7_adds_6) 7 rfl ?_
  refine oc (y := mt_256) (pc := 7) (ok_imul dX7_adds_7) 8 rfl ?_
  refine oc (y := mt_256) (pc := 8) (ok_aload_n dX7_adds_8) 9 rfl ?_
  refine oc (y := mt_256) (pc := 9) (ok_getfield dX7_adds_9 (fg (own := "GardenChessModel") (idx := 120) (g := 9) (k := 45) (r := (RX7, TX7, 122)) rfl ⟨⟨by decide, by decide⟩, by decide⟩ (Or.inl q1857) (Or.inl rfl) rfl (fg_nil))) 12 rfl ?_
  refine oc (y := mt_256) (pc := 12) (ok_iload_n dX7_adds_12) 13 rfl ?_
  refine oc (y := mt_256) (pc := 13) (ok_iaload dX7_adds_13) 14 rfl ?_
  refine oc (y := mt_256) (pc := 14) (ok_iadd dX7_adds_14) 15 rfl ?_
  refine oc (y := mt_256) (pc := 15) (ok_lload_n dX7_adds_15) 16 rfl ?_
  refine oc (y := mt_256) (pc := 16) (ok_lastore dX7_adds_16) 17 rfl ?_
  refine oc (y := mt_256) (pc := 17) (ok_aload_n dX7_adds_17) 18 rfl ?_
  refine oc (y := mt_256) (pc := 18) (ok_getfield dX7_adds_18 (fg (own := "GardenChessModel") (idx := 120) (g := 9) (k := 45) (r := (RX7, TX7, 122)) rfl ⟨⟨by decide, by decide⟩, by decide⟩ (Or.inl q1857) (Or.inl rfl) rfl (fg_nil))) 21 rfl ?_
  refine oc (y := mt_256) (pc := 21) (ok_iload_n dX7_adds_21) 22 rfl ?_
  refine oc (y := mt_256) (pc := 22) (ok_dup2 dX7_adds_22) 23 rfl ?_
  refine oc (y := mt_256) (pc := 23) (ok_iaload dX7_adds_23) 24 rfl ?_
  refine oc (y := mt_256) (pc := 24) (ok_iconst dX7_adds_24 rfl ⟨by decide, by decide⟩) 25 rfl ?_
  refine oc (y := mt_256) (pc := 25) (ok_iadd dX7_adds_25) 26 rfl ?_
  refine oc (y := mt_256) (pc := 26) (ok_iastore dX7_adds_26) 27 rfl ?_
  refine oc (y := mt_256) (pc := 27) (ok_aload_n dX7_adds_27) 28 rfl ?_
  refine oc (y := mt_256) (pc := 28) (ok_getfield dX7_adds_28 (fg (own := "GardenChessModel") (idx := 120) (g := 9) (k := 45) (r := (RX7, TX7, 122)) rfl ⟨⟨by decide, by decide⟩, by decide⟩ (Or.inl q1857) (Or.inl rfl) rfl (fg_nil))) 31 rfl ?_
  refine oc (y := mt_256) (pc := 31) (ok_iload_n dX7_adds_31) 32 rfl ?_
  refine oc (y := mt_256) (pc := 32) (ok_iaload dX7_adds_32) 33 rfl ?_
  refine oc (y := mt_256) (pc := 33) (ok_iconst dX7_adds_33 rfl ⟨by decide, by decide⟩) 34 rfl ?_
  refine oc (y := mt_256) (pc := 34) (ok_isub dX7_adds_34) 35 rfl ?_
  exact oc_iret dX7_adds_35 rfl
theorem ok_256 : ∀ q ∈ pr_256, okL gmt mt_256 q.1 q.2 := pk_c o_256_0 (pk_n)
theorem o_257_0 : okL gmt mt_257 0 b_257_0 := by
  refine oc (y := mt_257) (pc := 0) (ok_aload_n dX7_manTold_0) 1 rfl ?_
  refine oc (y := mt_257) (pc := 1) (ok_iconst dX7_manTold_1 rfl ⟨by decide, by decide⟩) 2 rfl ?_
  refine oc (y := mt_257) (pc := 2) (ok_bipush dX7_manTold_2 (by decide) ⟨by decide, by decide⟩) 4 rfl ?_
  refine oc (y := mt_257) (pc := 4) (ok_iload_n dX7_manTold_4) 5 rfl ?_
  refine oc_V (y := mt_257) (pc := 5) (vcons (y := mt_257) (pc := 5) (len := 3) (n := 4) (M := mt_251) (by decide) rfl (Or.inr rfl) rfl (ck_V dX7_manTold_5 ⟨by decide, by decide, by decide, by decide +kernel⟩ q2244 q2246 qs67 q177 q2247) vnil) (hok0 rfl) (by decide) 8 rfl ?_
  refine oc_if dX7_manTold_8 ⟨by decide, by decide⟩ 11 rfl ?_
  exact oc_ret dX7_manTold_11 rfl
theorem o_257_12 : okL gmt mt_257 12 b_257_12 := by
  refine oc (y := mt_257) (pc := 12) (ok_aload_n dX7_manTold_12) 13 rfl ?_
  refine oc_V (y := mt_257) (pc := 13) (vcons (y := mt_257) (pc := 13) (len := 3) (n := 1) (M := mt_252) (by decide) rfl (Or.inr rfl) rfl (ck_V dX7_manTold_13 ⟨by decide, by decide, by decide, by decide +kernel⟩ q2248 q2250 qs68 q177 q2251) vnil) (hok0 rfl) (by decide) 16 rfl ?_
  refine oc (y := mt_257) (pc := 16) (ok_lstore_n dX7_manTold_16 (by decide)) 17 rfl ?_
  refine oc (y := mt_257) (pc := 17) (ok_aload_n dX7_manTold_17) 18 rfl ?_
  refine oc (y := mt_257) (pc := 18) (ok_aload_n dX7_manTold_18) 19 rfl ?_
  refine oc (y := mt_257) (pc := 19) (ok_getfield dX7_manTold_19 (fg (own := "GardenChessModel") (idx := 51) (g := 9) (k := 21) (r := (RX7, TX7, 122)) rfl ⟨⟨by decide, by decide⟩, by decide⟩ (Or.inl q1833) (Or.inl rfl) rfl (fg_nil))) 22 rfl ?_
  refine oc_V (y := mt_257) (pc := 22) (vcons (y := mt_257) (pc := 22) (len := 3) (n := 2) (M := mt_238) (by decide) rfl (Or.inr rfl) rfl (ck_V dX7_manTold_22 ⟨by decide, by decide, by decide, by decide +kernel⟩ q2195 q2197 qs57 q177 q2198) vnil) (hok0 rfl) (by decide) 25 rfl ?_
  refine oc (y := mt_257) (pc := 25) (ok_aload_n dX7_manTold_25) 26 rfl ?_
  refine oc_V (y := mt_257) (pc := 26) (vcons (y := mt_257) (pc := 26) (len := 3) (n := 1) (M := mt_253) (by decide) rfl (Or.inr rfl) rfl (ck_V dX7_manTold_26 ⟨by decide, by decide, by decide, by decide +kernel⟩ q2252 q2254 qs69 q177 q2255) vnil) (hok0 rfl) (by decide) 29 rfl ?_
  refine oc (y := mt_257) (pc := 29) (ok_lstore dX7_manTold_29 (by decide)) 31 rfl ?_
  refine oc (y := mt_257) (pc := 31) (ok_aload_n dX7_manTold_31) 32 rfl ?_
  refine oc (y := mt_257) (pc := 32) (ok_iconst dX7_manTold_32 rfl ⟨by decide, by decide⟩) 33 rfl ?_
  refine oc (y := mt_257) (pc := 33) (ok_lload dX7_manTold_33) 35 rfl ?_
  refine oc_V (y := mt_257) (pc := 35) (vcons (y := mt_257) (pc := 35) (len := 3) (n := 3) (M := mt_255) (by decide) rfl (Or.inr rfl) rfl (ck_V dX7_manTold_35 ⟨by decide, by decide, by decide, by decide +kernel⟩ q2262 q2264 qs71 q177 q2265) vnil) (hok0 rfl) (by decide) 38 rfl ?_
  refine oc (y := mt_257) (pc := 38) (ok_istore dX7_manTold_38 (by decide)) 40 rfl ?_
  refine oc (y := mt_257) (pc := 40) (ok_aload_n dX7_manTold_40) 41 rfl ?_
  refine oc (y := mt_257) (pc := 41) (ok_getfield dX7_manTold_41 (fg (own := "GardenChessModel") (idx := 278) (g := 9) (k := 5) (r := (RX7, TX7, 122)) rfl ⟨⟨by decide, by decide⟩, by decide⟩ (Or.inl q1817) (Or.inl rfl) rfl (fg_nil))) 44 rfl ?_
  refine oc_if dX7_manTold_44 ⟨by decide, by decide⟩ 47 rfl ?_
  refine oc (y := mt_257) (pc := 47) (ok_iload dX7_manTold_47) 49 rfl ?_
  refine oc (y := mt_257) (pc := 49) (ok_iconst dX7_manTold_49 rfl ⟨by decide, by decide⟩) 50 rfl ?_
  refine oc_icmp dX7_manTold_50 ⟨by decide, by decide⟩ 53 rfl ?_
  refine oc (y := mt_257) (pc := 53) (ok_aload_n dX7_manTold_53) 54 rfl ?_
  refine oc (y := mt_257) (pc := 54) (ok_iconst dX7_manTold_54 rfl ⟨by decide, by decide⟩) 55 rfl ?_
  refine oc (y := mt_257) (pc := 55) (ok_aload_n dX7_manTold_55) 56 rfl ?_
  refine oc (y := mt_257) (pc := 56) (ok_getfield dX7_manTold_56 (fg (own := "GardenChessModel") (idx := 329) (g := 9) (k := 44) (r := (RX7, TX7, 122)) rfl ⟨⟨by decide, by decide⟩, by decide⟩ (Or.inl q1856) (Or.inl rfl) rfl (fg_nil))) 59 rfl ?_
  refine oc_V (y := mt_257) (pc := 59) (vcons (y := mt_257) (pc := 59) (len := 3) (n := 3) (M := mt_243) (by decide) rfl (Or.inr rfl) rfl (ck_V dX7_manTold_59 ⟨by decide, by decide, by decide, by decide +kernel⟩ q2214 q2216 qs61 q177 q2217) vnil) (hok0 rfl) (by decide) 62 rfl ?_
  exact oc_fall rfl
theorem o_257_62 : okL gmt mt_257 62 b_257_62 := by
  refine oc (y := mt_257) (pc := 62) (ok_aload_n dX7_manTold_62) 63 rfl ?_
  refine oc (y := mt_257) (pc := 63) (ok_aload_n dX7_manTold_63) 64 rfl ?_
  refine oc (y := mt_257) (pc := 64) (ok_getfield dX7_manTold_64 (fg (own := "GardenChessModel") (idx := 54) (g := 9) (k := 22) (r := (RX7, TX7, 122)) rfl ⟨⟨by decide, by decide⟩, by decide⟩ (Or.inl q1834) (Or.inl rfl) rfl (fg_nil))) 67 rfl ?_
  refine oc_V (y := mt_257) (pc := 67) (vcons (y := mt_257) (pc := 67) (len := 3) (n := 2) (M := mt_238) (by decide) rfl (Or.inr rfl) rfl (ck_V dX7_manTold_67 ⟨by decide, by decide, by decide, by decide +kernel⟩ q2195 q2197 qs57 q177 q2198) vnil) (hok0 rfl) (by decide) 70 rfl ?_
  refine oc (y := mt_257) (pc := 70) (ok_aload_n dX7_manTold_70) 71 rfl ?_
  refine oc (y := mt_257) (pc := 71) (ok_iconst dX7_manTold_71 rfl ⟨by decide, by decide⟩) 72 rfl ?_
  refine oc (y := mt_257) (pc := 72) (ok_iconst dX7_manTold_72 rfl ⟨by decide, by decide⟩) 73 rfl ?_
  refine oc_V (y := mt_257) (pc := 73) (vcons (y := mt_257) (pc := 73) (len := 3) (n := 3) (M := mt_244) (by decide) rfl (Or.inr rfl) rfl (ck_V dX7_manTold_73 ⟨by decide, by decide, by decide, by decide +kernel⟩ q2218 q2220 qs62 q177 q2221) vnil) (hok0 rfl) (by decide) 76 rfl ?_
  refine oc (y := mt_257) (pc := 76) (ok_istore dX7_manTold_76 (by decide)) 78 rfl ?_
  refine oc (y := mt_257) (pc := 78) (ok_aload_n dX7_manTold_78) 79 rfl ?_
  refine oc (y := mt_257) (pc := 79) (ok_aload_n dX7_manTold_79) 80 rfl ?_
  refine oc (y := mt_257) (pc := 80) (ok_getfield dX7_manTold_80 (fg (own := "GardenChessModel") (idx := 57) (g := 9) (k := 23) (r := (RX7, TX7, 122)) rfl ⟨⟨by decide, by decide⟩, by decide⟩ (Or.inl q1835) (Or.inl rfl) rfl (fg_nil))) 83 rfl ?_
  refine oc_V (y := mt_257) (pc := 83) (vcons (y := mt_257) (pc := 83) (len := 3) (n := 2) (M := mt_238) (by decide) rfl (Or.inr rfl) rfl (ck_V dX7_manTold_83 ⟨by decide, by decide, by decide, by decide +kernel⟩ q2195 q2197 qs57 q177 q2198) vnil) (hok0 rfl) (by decide) 86 rfl ?_
  refine oc (y := mt_257) (pc := 86) (ok_aload_n dX7_manTold_86) 87 rfl ?_
  refine oc_V (y := mt_257) (pc := 87) (vcons (y := mt_257) (pc := 87) (len := 3) (n := 1) (M := mt_258) (by decide) rfl (Or.inr rfl) rfl (ck_V dX7_manTold_87 ⟨by decide, by decide, by decide, by decide +kernel⟩ q2274 q2276 qs74 q177 q2277) vnil) (hok0 rfl) (by decide) 90 rfl ?_
  refine oc (y := mt_257) (pc := 90) (ok_iconst dX7_manTold_90 rfl ⟨by decide, by decide⟩) 91 rfl ?_
  refine oc (y := mt_257) (pc := 91) (ok_istore dX7_manTold_91 (by decide)) 93 rfl ?_
  exact oc_fall rfl
theorem o_257_93 : okL gmt mt_257 93 b_257_93 := by
  refine oc (y := mt_257) (pc := 93) (ok_iload dX7_manTold_93) 95 rfl ?_
  refine oc (y := mt_257) (pc := 95) (ok_aload_n dX7_manTold_95) 96 rfl ?_
  refine oc (y := mt_257) (pc := 96) (ok_getfield dX7_manTold_96 (fg (own := "GardenChessModel") (idx := 120) (g := 9) (k := 45) (r := (RX7, TX7, 122)) rfl ⟨⟨by decide, by decide⟩, by decide⟩ (Or.inl q1857) (Or.inl rfl) rfl (fg_nil))) 99 rfl ?_
  refine oc (y := mt_257) (pc := 99) (ok_iconst dX7_manTold_99 rfl ⟨by decide, by decide⟩) 100 rfl ?_
  refine oc (y := mt_257) (pc := 100) (ok_iaload dX7_manTold_100) 101 rfl ?_
  refine oc_icmp dX7_manTold_101 ⟨by decide, by decide⟩ 104 rfl ?_
  refine oc (y := mt_257) (pc := 104) (ok_aload_n dX7_manTold_104) 105 rfl ?_
  refine oc (y := mt_257) (pc := 105) (ok_getfield dX7_manTold_105 (fg (own := "GardenChessModel") (idx := 278) (g := 9) (k := 5) (r := (RX7, TX7, 122)) rfl ⟨⟨by decide, by decide⟩, by decide⟩ (Or.inl q1817) (Or.inl rfl) rfl (fg_nil))) 108 rfl ?_
  refine oc_if dX7_manTold_108 ⟨by decide, by decide⟩ 111 rfl ?_
  refine oc (y := mt_257) (pc := 111) (ok_aload_n dX7_manTold_111) 112 rfl ?_
  refine oc (y := mt_257) (pc := 112) (ok_getfield dX7_manTold_112 (fg (own := "GardenChessModel") (idx := 136) (g := 9) (k := 50) (r := (RX7, TX7, 122)) rfl ⟨⟨by decide, by decide⟩, by decide⟩ (Or.inl q1862) (Or.inl rfl) rfl (fg_nil))) 115 rfl ?_
  refine oc (y := mt_257) (pc := 115) (ok_iconst dX7_manTold_115 rfl ⟨by decide, by decide⟩) 116 rfl ?_
  refine oc (y := mt_257) (pc := 116) (ok_iload dX7_manTold_116) 118 rfl ?_
  refine oc (y := mt_257) (pc := 118) (ok_imul dX7_manTold_118) 119 rfl ?_
  refine oc (y := mt_257) (pc := 119) (ok_iaload dX7_manTold_119) 120 rfl ?_
  refine oc (y := mt_257) (pc := 120) (ok_aload_n dX7_manTold_120) 121 rfl ?_
  refine oc (y := mt_257) (pc := 121) (ok_getfield dX7_manTold_121 (fg (own := "GardenChessModel") (idx := 370) (g := 9) (k := 60) (r := (RX7, TX7, 122)) rfl ⟨⟨by decide, by decide⟩, by decide⟩ (Or.inl q1872) (Or.inl rfl) rfl (fg_nil))) 124 rfl ?_
  refine oc_icmp dX7_manTold_124 ⟨by decide, by decide⟩ 127 rfl ?_
  refine oc (y := mt_257) (pc := 127) (ok_aload_n dX7_manTold_127) 128 rfl ?_
  refine oc (y := mt_257) (pc := 128) (ok_getfield dX7_manTold_128 (fg (own := "GardenChessModel") (idx := 136) (g := 9) (k := 50) (r := (RX7, TX7, 122)) rfl ⟨⟨by decide, by decide⟩, by decide⟩ (Or.inl q1862) (Or.inl rfl) rfl (fg_nil))) 131 rfl ?_
  refine oc (y := mt_257) (pc := 131) (ok_iconst dX7_manTold_131 rfl ⟨by decide, by decide⟩) 132 rfl ?_
  refine oc (y := mt_257) (pc := 132) (ok_iload dX7_manTold_132) 134 rfl ?_
  refine oc (y := mt_257) (pc := 134) (ok_imul dX7_manTold_134) 135 rfl ?_
  refine oc (y := mt_257) (pc := 135) (ok_iconst dX7_manTold_135 rfl ⟨by decide, by decide⟩) 136 rfl ?_
  refine oc (y := mt_257) (pc := 136) (ok_iadd dX7_manTold_136) 137 rfl ?_
  refine oc (y := mt_257) (pc := 137) (ok_iaload dX7_manTold_137) 138 rfl ?_
  refine oc (y := mt_257) (pc := 138) (ok_aload_n dX7_manTold_138) 139 rfl ?_
  refine oc (y := mt_257) (pc := 139) (ok_getfield dX7_manTold_139 (fg (own := "GardenChessModel") (idx := 373) (g := 9) (k := 61) (r := (RX7, TX7, 122)) rfl ⟨⟨by decide, by decide⟩, by decide⟩ (Or.inl q1873) (Or.inl rfl) rfl (fg_nil))) 142 rfl ?_
  refine oc_icmp dX7_manTold_142 ⟨by decide, by decide⟩ 145 rfl ?_
  refine oc (y := mt_257) (pc := 145) (ok_aload_n dX7_manTold_145) 146 rfl ?_
  refine oc (y := mt_257) (pc := 146) (ok_iconst dX7_manTold_146 rfl ⟨by decide, by decide⟩) 147 rfl ?_
  refine oc (y := mt_257) (pc := 147) (ok_aload_n dX7_manTold_147) 148 rfl ?_
  refine oc (y := mt_257) (pc := 148) (ok_getfield dX7_manTold_148 (fg (own := "GardenChessModel") (idx := 318) (g := 9) (k := 10) (r := (RX7, TX7, 122)) rfl ⟨⟨by decide, by decide⟩, by decide⟩ (Or.inl q1822) (Or.inl rfl) rfl (fg_nil))) 151 rfl ?_
  refine oc_V (y := mt_257) (pc := 151) (vcons (y := mt_257) (pc := 151) (len := 3) (n := 3) (M := mt_243) (by decide) rfl (Or.inr rfl) rfl (ck_V dX7_manTold_151 ⟨by decide, by decide, by decide, by decide +kernel⟩ q2214 q2216 qs61 q177 q2217) vnil) (hok0 rfl) (by decide) 154 rfl ?_
  exact oc_fall rfl
theorem o_257_154 : okL gmt mt_257 154 b_257_154 := by
  refine oc (y := mt_257) (pc := 154) (ok_iinc dX7_manTold_154 (by decide)) 157 rfl ?_
  exact oc_goto dX7_manTold_157 ⟨by decide, by decide⟩
theorem o_257_160 : okL gmt mt_257 160 b_257_160 := by
  refine oc (y := mt_257) (pc := 160) (ok_aload_n dX7_manTold_160) 161 rfl ?_
  refine oc (y := mt_257) (pc := 161) (ok_getfield dX7_manTold_161 (fg (own := "GardenChessModel") (idx := 278) (g := 9) (k := 5) (r := (RX7, TX7, 122)) rfl ⟨⟨by decide, by decide⟩, by decide⟩ (Or.inl q1817) (Or.inl rfl) rfl (fg_nil))) 164 rfl ?_
  refine oc_if dX7_manTold_164 ⟨by decide, by decide⟩ 167 rfl ?_
  exact oc_ret dX7_manTold_167 rfl
theorem o_257_168 : okL gmt mt_257 168 b_257_168 := by
  refine oc (y := mt_257) (pc := 168) (ok_iconst dX7_manTold_168 rfl ⟨by decide, by decide⟩) 169 rfl ?_
  refine oc (y := mt_257) (pc := 169) (ok_aload_n dX7_manTold_169) 170 rfl ?_
  refine oc (y := mt_257) (pc := 170) (ok_iconst dX7_manTold_170 rfl ⟨by decide, by decide⟩) 171 rfl ?_
  refine oc (y := mt_257) (pc := 171) (ok_lload_n dX7_manTold_171) 172 rfl ?_
  refine oc_V (y := mt_257) (pc := 172) (vcons (y := mt_257) (pc := 172) (len := 3) (n := 3) (M := mt_256) (by decide) rfl (Or.inr rfl) rfl (ck_V dX7_manTold_172 ⟨by decide, by decide, by decide, by decide +kernel⟩ q2266 q2268 qs72 q177 q2269) vnil) (hok0 rfl) (by decide) 175 rfl ?_
  refine oc (y := mt_257) (pc := 175) (ok_imul dX7_manTold_175) 176 rfl ?_
  refine oc (y := mt_257) (pc := 176) (ok_istore dX7_manTold_176 (by decide)) 178 rfl ?_
  refine oc (y := mt_257) (pc := 178) (ok_aload_n dX7_manTold_178) 179 rfl ?_
  refine oc (y := mt_257) (pc := 179) (ok_getfield dX7_manTold_179 (fg (own := "GardenChessModel") (idx := 133) (g := 9) (k := 49) (r := (RX7, TX7, 122)) rfl ⟨⟨by decide, by decide⟩, by decide⟩ (Or.inl q1861) (Or.inl rfl) rfl (fg_nil))) 182 rfl ?_
  refine oc (y := mt_257) (pc := 182) (ok_iload dX7_manTold_182) 184 rfl ?_
  refine oc (y := mt_257) (pc := 184) (ok_iload dX7_manTold_184) 186 rfl ?_
  refine oc (y := mt_257) (pc := 186) (ok_iastore dX7_manTold_186) 187 rfl ?_
  refine oc (y := mt_257) (pc := 187) (ok_aload_n dX7_manTold_187) 188 rfl ?_
  refine oc (y := mt_257) (pc := 188) (ok_getfield dX7_manTold_188 (fg (own := "GardenChessModel") (idx := 133) (g := 9) (k := 49) (r := (RX7, TX7, 122)) rfl ⟨⟨by decide, by decide⟩, by decide⟩ (Or.inl q1861) (Or.inl rfl) rfl (fg_nil))) 191 rfl ?_
  refine oc (y := mt_257) (pc := 191) (ok_iload dX7_manTold_191) 193 rfl ?_
  refine oc (y := mt_257) (pc := 193) (ok_iconst dX7_manTold_193 rfl ⟨by decide, by decide⟩) 194 rfl ?_
  refine oc (y := mt_257) (pc := 194) (ok_iadd dX7_manTold_194) 195 rfl ?_
  refine oc (y := mt_257) (pc := 195) (ok_iload dX7_manTold_195) 197 rfl ?_
  refine oc (y := mt_257) (pc := 197) (ok_iastore dX7_manTold_197) 198 rfl ?_
  refine oc (y := mt_257) (pc := 198) (ok_aload_n dX7_manTold_198) 199 rfl ?_
  refine oc (y := mt_257) (pc := 199) (ok_getfield dX7_manTold_199 (fg (own := "GardenChessModel") (idx := 136) (g := 9) (k := 50) (r := (RX7, TX7, 122)) rfl ⟨⟨by decide, by decide⟩, by decide⟩ (Or.inl q1862) (Or.inl rfl) rfl (fg_nil))) 202 rfl ?_
  refine oc (y := mt_257) (pc := 202) (ok_iload dX7_manTold_202) 204 rfl ?_
  refine oc (y := mt_257) (pc := 204) (ok_aload_n dX7_manTold_204) 205 rfl ?_
  refine oc (y := mt_257) (pc := 205) (ok_getfield dX7_manTold_205 (fg (own := "GardenChessModel") (idx := 370) (g := 9) (k := 60) (r := (RX7, TX7, 122)) rfl ⟨⟨by decide, by decide⟩, by decide⟩ (Or.inl q1872) (Or.inl rfl) rfl (fg_nil))) 208 rfl ?_
  refine oc (y := mt_257) (pc := 208) (ok_iastore dX7_manTold_208) 209 rfl ?_
  refine oc (y := mt_257) (pc := 209) (ok_aload_n dX7_manTold_209) 210 rfl ?_
  refine oc (y := mt_257) (pc := 210) (ok_getfield dX7_manTold_210 (fg (own := "GardenChessModel") (idx := 136) (g := 9) (k := 50) (r := (RX7, TX7, 122)) rfl ⟨⟨by decide, by decide⟩, by decide⟩ (Or.inl q1862) (Or.inl rfl) rfl (fg_nil))) 213 rfl ?_
  refine oc (y := mt_257) (pc := 213) (ok_iload dX7_manTold_213) 215 rfl ?_
  refine oc (y := mt_257) (pc := 215) (ok_iconst dX7_manTold_215 rfl ⟨by decide, by decide⟩) 216 rfl ?_
  refine oc (y := mt_257) (pc := 216) (ok_iadd dX7_manTold_216) 217 rfl ?_
  refine oc (y := mt_257) (pc := 217) (ok_aload_n dX7_manTold_217) 218 rfl ?_
  refine oc (y := mt_257) (pc := 218) (ok_getfield dX7_manTold_218 (fg (own := "GardenChessModel") (idx := 373) (g := 9) (k := 61) (r := (RX7, TX7, 122)) rfl ⟨⟨by decide, by decide⟩, by decide⟩ (Or.inl q1873) (Or.inl rfl) rfl (fg_nil))) 221 rfl ?_
  refine oc (y := mt_257) (pc := 221) (ok_iastore dX7_manTold_221) 222 rfl ?_
  exact oc_ret dX7_manTold_222 rfl
theorem ok_257 : ∀ q ∈ pr_257, okL gmt mt_257 q.1 q.2 := pk_c o_257_0 (pk_c o_257_12 (pk_c o_257_62 (pk_c o_257_93 (pk_c o_257_154 (pk_c o_257_160 (pk_c o_257_168 (pk_n)))))))
theorem o_258_0 : okL gmt mt_258 0 b_258_0 := by
  refine oc (y := mt_258) (pc := 0) (ok_aload_n dX7_placeTold_0) 1 rfl ?_
  refine oc (y := mt_258) (pc := 1) (ok_aload_n dX7_placeTold_1) 2 rfl ?_
  refine oc (y := mt_258) (pc := 2) (ok_iconst dX7_placeTold_2 rfl ⟨by decide, by decide⟩) 3 rfl ?_
  refine oc (y := mt_258) (pc := 3) (ok_aload_n dX7_placeTold_3) 4 rfl ?_
  refine oc (y := mt_258) (pc := 4) (ok_getfield dX7_placeTold_4 (fg (own := "GardenChessModel") (idx := 127) (g := 9) (k := 47) (r := (RX7, TX7, 122)) rfl ⟨⟨by decide, by decide⟩, by decide⟩ (Or.inl q1859) (Or.inl rfl) rfl (fg_nil))) 7 rfl ?_
  refine oc (y := mt_258) (pc := 7) (ok_iconst dX7_placeTold_7 rfl ⟨by decide, by decide⟩) 8 rfl ?_
  refine oc (y := mt_258) (pc := 8) (ok_iaload dX7_placeTold_8) 9 rfl ?_
  refine oc (y := mt_258) (pc := 9) (ok_iconst dX7_placeTold_9 rfl ⟨by decide, by decide⟩) 10 rfl ?_
  refine oc (y := mt_258) (pc := 10) (ok_isub dX7_placeTold_10) 11 rfl ?_
  refine oc_V (y := mt_258) (pc := 11) (vcons (y := mt_258) (pc := 11) (len := 3) (n := 3) (M := mt_244) (by decide) rfl (Or.inr rfl) rfl (ck_V dX7_placeTold_11 ⟨by decide, by decide, by decide, by decide +kernel⟩ q2218 q2220 qs62 q177 q2221) vnil) (hok0 rfl) (by decide) 14 rfl ?_
  refine oc (y := mt_258) (pc := 14) (ok_putfield dX7_placeTold_14 (fp (own := "GardenChessModel") (idx := 370) (g := 9) (k := 60) (r := (RX7, TX7, 122)) rfl ⟨⟨by decide, by decide⟩, by decide⟩ (Or.inl q1872) (Or.inl rfl) rfl (Or.inl rfl) (fp_nil))) 17 rfl ?_
  refine oc (y := mt_258) (pc := 17) (ok_aload_n dX7_placeTold_17) 18 rfl ?_
  refine oc (y := mt_258) (pc := 18) (ok_aload_n dX7_placeTold_18) 19 rfl ?_
  refine oc (y := mt_258) (pc := 19) (ok_iconst dX7_placeTold_19 rfl ⟨by decide, by decide⟩) 20 rfl ?_
  refine oc (y := mt_258) (pc := 20) (ok_aload_n dX7_placeTold_20) 21 rfl ?_
  refine oc (y := mt_258) (pc := 21) (ok_getfield dX7_placeTold_21 (fg (own := "GardenChessModel") (idx := 127) (g := 9) (k := 47) (r := (RX7, TX7, 122)) rfl ⟨⟨by decide, by decide⟩, by decide⟩ (Or.inl q1859) (Or.inl rfl) rfl (fg_nil))) 24 rfl ?_
  refine oc (y := mt_258) (pc := 24) (ok_iconst dX7_placeTold_24 rfl ⟨by decide, by decide⟩) 25 rfl ?_
  refine oc (y := mt_258) (pc := 25) (ok_iaload dX7_placeTold_25) 26 rfl ?_
  refine oc (y := mt_258) (pc := 26) (ok_iconst dX7_placeTold_26 rfl ⟨by decide, by decide⟩) 27 rfl ?_
  refine oc (y := mt_258) (pc := 27) (ok_isub dX7_placeTold_27) 28 rfl ?_
  refine oc_V (y := mt_258) (pc := 28) (vcons (y := mt_258) (pc := 28) (len := 3) (n := 3) (M := mt_244) (by decide) rfl (Or.inr rfl) rfl (ck_V dX7_placeTold_28 ⟨by decide, by decide, by decide, by decide +kernel⟩ q2218 q2220 qs62 q177 q2221) vnil) (hok0 rfl) (by decide) 31 rfl ?_
  refine oc (y := mt_258) (pc := 31) (ok_putfield dX7_placeTold_31 (fp (own := "GardenChessModel") (idx := 373) (g := 9) (k := 61) (r := (RX7, TX7, 122)) rfl ⟨⟨by decide, by decide⟩, by decide⟩ (Or.inl q1873) (Or.inl rfl) rfl (Or.inl rfl) (fp_nil))) 34 rfl ?_
  exact oc_ret dX7_placeTold_34 rfl
theorem ok_258 : ∀ q ∈ pr_258, okL gmt mt_258 q.1 q.2 := pk_c o_258_0 (pk_n)
theorem o_259_0 : okL gmt mt_259 0 b_259_0 := by
  refine oc (y := mt_259) (pc := 0) (ok_aload_n dX7_fieldTold_0) 1 rfl ?_
  refine oc (y := mt_259) (pc := 1) (ok_iconst dX7_fieldTold_1 rfl ⟨by decide, by decide⟩) 2 rfl ?_
  refine oc (y := mt_259) (pc := 2) (ok_bipush dX7_fieldTold_2 (by decide) ⟨by decide, by decide⟩) 4 rfl ?_
  refine oc (y := mt_259) (pc := 4) (ok_iload_n dX7_fieldTold_4) 5 rfl ?_
  refine oc_V (y := mt_259) (pc := 5) (vcons (y := mt_259) (pc := 5) (len := 3) (n := 4) (M := mt_251) (by decide) rfl (Or.inr rfl) rfl (ck_V dX7_fieldTold_5 ⟨by decide, by decide, by decide, by decide +kernel⟩ q2244 q2246 qs67 q177 q2247) vnil) (hok0 rfl) (by decide) 8 rfl ?_
  refine oc_if dX7_fieldTold_8 ⟨by decide, by decide⟩ 11 rfl ?_
  exact oc_ret dX7_fieldTold_11 rfl
theorem o_259_12 : okL gmt mt_259 12 b_259_12 := by
  refine oc (y := mt_259) (pc := 12) (ok_aload_n dX7_fieldTold_12) 13 rfl ?_
  refine oc_V (y := mt_259) (pc := 13) (vcons (y := mt_259) (pc := 13) (len := 3) (n := 1) (M := mt_252) (by decide) rfl (Or.inr rfl) rfl (ck_V dX7_fieldTold_13 ⟨by decide, by decide, by decide, by decide +kernel⟩ q2248 q2250 qs68 q177 q2251) vnil) (hok0 rfl) (by decide) 16 rfl ?_
  refine oc (y := mt_259) (pc := 16) (ok_lstore_n dX7_fieldTold_16 (by decide)) 17 rfl ?_
  refine oc (y := mt_259) (pc := 17) (ok_aload_n dX7_fieldTold_17) 18 rfl ?_
  refine oc (y := mt_259) (pc := 18) (ok_aload_n dX7_fieldTold_18) 19 rfl ?_
  refine oc (y := mt_259) (pc := 19) (ok_getfield dX7_fieldTold_19 (fg (own := "GardenChessModel") (idx := 57) (g := 9) (k := 23) (r := (RX7, TX7, 122)) rfl ⟨⟨by decide, by decide⟩, by decide⟩ (Or.inl q1835) (Or.inl rfl) rfl (fg_nil))) 22 rfl ?_
  refine oc_V (y := mt_259) (pc := 22) (vcons (y := mt_259) (pc := 22) (len := 3) (n := 2) (M := mt_238) (by decide) rfl (Or.inr rfl) rfl (ck_V dX7_fieldTold_22 ⟨by decide, by decide, by decide, by decide +kernel⟩ q2195 q2197 qs57 q177 q2198) vnil) (hok0 rfl) (by decide) 25 rfl ?_
  refine oc (y := mt_259) (pc := 25) (ok_aload_n dX7_fieldTold_25) 26 rfl ?_
  refine oc_V (y := mt_259) (pc := 26) (vcons (y := mt_259) (pc := 26) (len := 3) (n := 1) (M := mt_258) (by decide) rfl (Or.inr rfl) rfl (ck_V dX7_fieldTold_26 ⟨by decide, by decide, by decide, by decide +kernel⟩ q2274 q2276 qs74 q177 q2277) vnil) (hok0 rfl) (by decide) 29 rfl ?_
  refine oc (y := mt_259) (pc := 29) (ok_aload_n dX7_fieldTold_29) 30 rfl ?_
  refine oc (y := mt_259) (pc := 30) (ok_aload_n dX7_fieldTold_30) 31 rfl ?_
  refine oc (y := mt_259) (pc := 31) (ok_getfield dX7_fieldTold_31 (fg (own := "GardenChessModel") (idx := 63) (g := 9) (k := 25) (r := (RX7, TX7, 122)) rfl ⟨⟨by decide, by decide⟩, by decide⟩ (Or.inl q1837) (Or.inl rfl) rfl (fg_nil))) 34 rfl ?_
  refine oc_V (y := mt_259) (pc := 34) (vcons (y := mt_259) (pc := 34) (len := 3) (n := 2) (M := mt_238) (by decide) rfl (Or.inr rfl) rfl (ck_V dX7_fieldTold_34 ⟨by decide, by decide, by decide, by decide +kernel⟩ q2195 q2197 qs57 q177 q2198) vnil) (hok0 rfl) (by decide) 37 rfl ?_
  refine oc (y := mt_259) (pc := 37) (ok_aload_n dX7_fieldTold_37) 38 rfl ?_
  refine oc (y := mt_259) (pc := 38) (ok_iconst dX7_fieldTold_38 rfl ⟨by decide, by decide⟩) 39 rfl ?_
  refine oc (y := mt_259) (pc := 39) (ok_sipush dX7_fieldTold_39 (by decide) ⟨by decide, by decide⟩) 42 rfl ?_
  refine oc_V (y := mt_259) (pc := 42) (vcons (y := mt_259) (pc := 42) (len := 3) (n := 3) (M := mt_244) (by decide) rfl (Or.inr rfl) rfl (ck_V dX7_fieldTold_42 ⟨by decide, by decide, by decide, by decide +kernel⟩ q2218 q2220 qs62 q177 q2221) vnil) (hok0 rfl) (by decide) 45 rfl ?_
  refine oc (y := mt_259) (pc := 45) (ok_istore dX7_fieldTold_45 (by decide)) 47 rfl ?_
  refine oc (y := mt_259) (pc := 47) (ok_aload_n dX7_fieldTold_47) 48 rfl ?_
  refine oc (y := mt_259) (pc := 48) (ok_getfield dX7_fieldTold_48 (fg (own := "GardenChessModel") (idx := 278) (g := 9) (k := 5) (r := (RX7, TX7, 122)) rfl ⟨⟨by decide, by decide⟩, by decide⟩ (Or.inl q1817) (Or.inl rfl) rfl (fg_nil))) 51 rfl ?_
  refine oc_if dX7_fieldTold_51 ⟨by decide, by decide⟩ 54 rfl ?_
  exact oc_ret dX7_fieldTold_54 rfl
theorem o_259_55 : okL gmt mt_259 55 b_259_55 := by
  refine oc (y := mt_259) (pc := 55) (ok_iconst dX7_fieldTold_55 rfl ⟨by decide, by decide⟩) 56 rfl ?_
  refine oc (y := mt_259) (pc := 56) (ok_aload_n dX7_fieldTold_56) 57 rfl ?_
  refine oc (y := mt_259) (pc := 57) (ok_iconst dX7_fieldTold_57 rfl ⟨by decide, by decide⟩) 58 rfl ?_
  refine oc (y := mt_259) (pc := 58) (ok_lload_n dX7_fieldTold_58) 59 rfl ?_
  refine oc_V (y := mt_259) (pc := 59) (vcons (y := mt_259) (pc := 59) (len := 3) (n := 3) (M := mt_256) (by decide) rfl (Or.inr rfl) rfl (ck_V dX7_fieldTold_59 ⟨by decide, by decide, by decide, by decide +kernel⟩ q2266 q2268 qs72 q177 q2269) vnil) (hok0 rfl) (by decide) 62 rfl ?_
  refine oc (y := mt_259) (pc := 62) (ok_imul dX7_fieldTold_62) 63 rfl ?_
  refine oc (y := mt_259) (pc := 63) (ok_istore dX7_fieldTold_63 (by decide)) 65 rfl ?_
  refine oc (y := mt_259) (pc := 65) (ok_aload_n dX7_fieldTold_65) 66 rfl ?_
  refine oc (y := mt_259) (pc := 66) (ok_getfield dX7_fieldTold_66 (fg (own := "GardenChessModel") (idx := 139) (g := 9) (k := 51) (r := (RX7, TX7, 122)) rfl ⟨⟨by decide, by decide⟩, by decide⟩ (Or.inl q1863) (Or.inl rfl) rfl (fg_nil))) 69 rfl ?_
  refine oc (y := mt_259) (pc := 69) (ok_iload dX7_fieldTold_69) 71 rfl ?_
  refine oc (y := mt_259) (pc := 71) (ok_aload_n dX7_fieldTold_71) 72 rfl ?_
  refine oc (y := mt_259) (pc := 72) (ok_getfield dX7_fieldTold_72 (fg (own := "GardenChessModel") (idx := 370) (g := 9) (k := 60) (r := (RX7, TX7, 122)) rfl ⟨⟨by decide, by decide⟩, by decide⟩ (Or.inl q1872) (Or.inl rfl) rfl (fg_nil))) 75 rfl ?_
  refine oc (y := mt_259) (pc := 75) (ok_iastore dX7_fieldTold_75) 76 rfl ?_
  refine oc (y := mt_259) (pc := 76) (ok_aload_n dX7_fieldTold_76) 77 rfl ?_
  refine oc (y := mt_259) (pc := 77) (ok_getfield dX7_fieldTold_77 (fg (own := "GardenChessModel") (idx := 139) (g := 9) (k := 51) (r := (RX7, TX7, 122)) rfl ⟨⟨by decide, by decide⟩, by decide⟩ (Or.inl q1863) (Or.inl rfl) rfl (fg_nil))) 80 rfl ?_
  refine oc (y := mt_259) (pc := 80) (ok_iload dX7_fieldTold_80) 82 rfl ?_
  refine oc (y := mt_259) (pc := 82) (ok_iconst dX7_fieldTold_82 rfl ⟨by decide, by decide⟩) 83 rfl ?_
  refine oc (y := mt_259) (pc := 83) (ok_iadd dX7_fieldTold_83) 84 rfl ?_
  refine oc (y := mt_259) (pc := 84) (ok_aload_n dX7_fieldTold_84) 85 rfl ?_
  refine oc (y := mt_259) (pc := 85) (ok_getfield dX7_fieldTold_85 (fg (own := "GardenChessModel") (idx := 373) (g := 9) (k := 61) (r := (RX7, TX7, 122)) rfl ⟨⟨by decide, by decide⟩, by decide⟩ (Or.inl q1873) (Or.inl rfl) rfl (fg_nil))) 88 rfl ?_
  refine oc (y := mt_259) (pc := 88) (ok_iastore dX7_fieldTold_88) 89 rfl ?_
  refine oc (y := mt_259) (pc := 89) (ok_aload_n dX7_fieldTold_89) 90 rfl ?_
  refine oc (y := mt_259) (pc := 90) (ok_getfield dX7_fieldTold_90 (fg (own := "GardenChessModel") (idx := 139) (g := 9) (k := 51) (r := (RX7, TX7, 122)) rfl ⟨⟨by decide, by decide⟩, by decide⟩ (Or.inl q1863) (Or.inl rfl) rfl (fg_nil))) 93 rfl ?_
  refine oc (y := mt_259) (pc := 93) (ok_iload dX7_fieldTold_93) 95 rfl ?_
  refine oc (y := mt_259) (pc := 95) (ok_iconst dX7_fieldTold_95 rfl ⟨by decide, by decide⟩) 96 rfl ?_
  refine oc (y := mt_259) (pc := 96) (ok_iadd dX7_fieldTold_96) 97 rfl ?_
  refine oc (y := mt_259) (pc := 97) (ok_iload dX7_fieldTold_97) 99 rfl ?_
  refine oc (y := mt_259) (pc := 99) (ok_iastore dX7_fieldTold_99) 100 rfl ?_
  exact oc_ret dX7_fieldTold_100 rfl
theorem ok_259 : ∀ q ∈ pr_259, okL gmt mt_259 q.1 q.2 := pk_c o_259_0 (pk_c o_259_12 (pk_c o_259_55 (pk_n)))
theorem o_260_0 : okL gmt mt_260 0 b_260_0 := by
  refine oc (y := mt_260) (pc := 0) (ok_aload_n dX7_harmTold_0) 1 rfl ?_
  refine oc (y := mt_260) (pc := 1) (ok_getfield dX7_harmTold_1 (fg (own := "GardenChessModel") (idx := 278) (g := 9) (k := 5) (r := (RX7, TX7, 122)) rfl ⟨⟨by decide, by decide⟩, by decide⟩ (Or.inl q1817) (Or.inl rfl) rfl (fg_nil))) 4 rfl ?_
  refine oc_if dX7_harmTold_4 ⟨by decide, by decide⟩ 7 rfl ?_
  refine oc (y := mt_260) (pc := 7) (ok_aload_n dX7_harmTold_7) 8 rfl ?_
  refine oc (y := mt_260) (pc := 8) (ok_getfield dX7_harmTold_8 (fg (own := "GardenChessModel") (idx := 145) (g := 9) (k := 53) (r := (RX7, TX7, 122)) rfl ⟨⟨by decide, by decide⟩, by decide⟩ (Or.inl q1865) (Or.inl rfl) rfl (fg_nil))) 11 rfl ?_
  refine oc (y := mt_260) (pc := 11) (ok_iconst dX7_harmTold_11 rfl ⟨by decide, by decide⟩) 12 rfl ?_
  refine oc (y := mt_260) (pc := 12) (ok_iaload dX7_harmTold_12) 13 rfl ?_
  refine oc (y := mt_260) (pc := 13) (ok_iconst dX7_harmTold_13 rfl ⟨by decide, by decide⟩) 14 rfl ?_
  refine oc_icmp dX7_harmTold_14 ⟨by decide, by decide⟩ 17 rfl ?_
  refine oc (y := mt_260) (pc := 17) (ok_aload_n dX7_harmTold_17) 18 rfl ?_
  refine oc (y := mt_260) (pc := 18) (ok_iconst dX7_harmTold_18 rfl ⟨by decide, by decide⟩) 19 rfl ?_
  refine oc (y := mt_260) (pc := 19) (ok_iload_n dX7_harmTold_19) 20 rfl ?_
  refine oc_V (y := mt_260) (pc := 20) (vcons (y := mt_260) (pc := 20) (len := 3) (n := 3) (M := mt_243) (by decide) rfl (Or.inr rfl) rfl (ck_V dX7_harmTold_20 ⟨by decide, by decide, by decide, by decide +kernel⟩ q2214 q2216 qs61 q177 q2217) vnil) (hok0 rfl) (by decide) 23 rfl ?_
  exact oc_fall rfl
theorem o_260_23 : okL gmt mt_260 23 b_260_23 := by
  refine oc (y := mt_260) (pc := 23) (ok_aload_n dX7_harmTold_23) 24 rfl ?_
  refine oc (y := mt_260) (pc := 24) (ok_getfield dX7_harmTold_24 (fg (own := "GardenChessModel") (idx := 278) (g := 9) (k := 5) (r := (RX7, TX7, 122)) rfl ⟨⟨by decide, by decide⟩, by decide⟩ (Or.inl q1817) (Or.inl rfl) rfl (fg_nil))) 27 rfl ?_
  refine oc_if dX7_harmTold_27 ⟨by decide, by decide⟩ 30 rfl ?_
  exact oc_ret dX7_harmTold_30 rfl
theorem o_260_31 : okL gmt mt_260 31 b_260_31 := by
  refine oc (y := mt_260) (pc := 31) (ok_aload_n dX7_harmTold_31) 32 rfl ?_
  refine oc (y := mt_260) (pc := 32) (ok_iconst dX7_harmTold_32 rfl ⟨by decide, by decide⟩) 33 rfl ?_
  refine oc (y := mt_260) (pc := 33) (ok_putfield dX7_harmTold_33 (fp (own := "GardenChessModel") (idx := 336) (g := 9) (k := 59) (r := (RX7, TX7, 122)) rfl ⟨⟨by decide, by decide⟩, by decide⟩ (Or.inl q1871) (Or.inl rfl) rfl (Or.inl rfl) (fp_nil))) 36 rfl ?_
  refine oc (y := mt_260) (pc := 36) (ok_aload_n dX7_harmTold_36) 37 rfl ?_
  refine oc (y := mt_260) (pc := 37) (ok_iconst dX7_harmTold_37 rfl ⟨by decide, by decide⟩) 38 rfl ?_
  refine oc (y := mt_260) (pc := 38) (ok_putfield dX7_harmTold_38 (fp (own := "GardenChessModel") (idx := 379) (g := 9) (k := 111) (r := (RX7, TX7, 122)) rfl ⟨⟨by decide, by decide⟩, by decide⟩ (Or.inl q1923) (Or.inl rfl) rfl (Or.inl rfl) (fp_nil))) 41 rfl ?_
  refine oc (y := mt_260) (pc := 41) (ok_aload_n dX7_harmTold_41) 42 rfl ?_
  refine oc (y := mt_260) (pc := 42) (ok_iconst dX7_harmTold_42 rfl ⟨by decide, by decide⟩) 43 rfl ?_
  refine oc (y := mt_260) (pc := 43) (ok_putfield dX7_harmTold_43 (fp (own := "GardenChessModel") (idx := 382) (g := 9) (k := 113) (r := (RX7, TX7, 122)) rfl ⟨⟨by decide, by decide⟩, by decide⟩ (Or.inl q1925) (Or.inl rfl) rfl (Or.inl rfl) (fp_nil))) 46 rfl ?_
  refine oc (y := mt_260) (pc := 46) (ok_aload_n dX7_harmTold_46) 47 rfl ?_
  refine oc (y := mt_260) (pc := 47) (ok_iconst dX7_harmTold_47 rfl ⟨by decide, by decide⟩) 48 rfl ?_
  refine oc (y := mt_260) (pc := 48) (ok_putfield dX7_harmTold_48 (fp (own := "GardenChessModel") (idx := 385) (g := 9) (k := 114) (r := (RX7, TX7, 122)) rfl ⟨⟨by decide, by decide⟩, by decide⟩ (Or.inl q1926) (Or.inl rfl) rfl (Or.inl rfl) (fp_nil))) 51 rfl ?_
  refine oc (y := mt_260) (pc := 51) (ok_aload_n dX7_harmTold_51) 52 rfl ?_
  refine oc (y := mt_260) (pc := 52) (ok_iconst dX7_harmTold_52 rfl ⟨by decide, by decide⟩) 53 rfl ?_
  refine oc (y := mt_260) (pc := 53) (ok_putfield dX7_harmTold_53 (fp (own := "GardenChessModel") (idx := 388) (g := 9) (k := 115) (r := (RX7, TX7, 122)) rfl ⟨⟨by decide, by decide⟩, by decide⟩ (Or.inl q1927) (Or.inl rfl) rfl (Or.inl rfl) (fp_nil))) 56 rfl ?_
  refine oc (y := mt_260) (pc := 56) (ok_aload_n dX7_harmTold_56) 57 rfl ?_
  refine oc_V (y := mt_260) (pc := 57) (vcons (y := mt_260) (pc := 57) (len := 3) (n := 1) (M := mt_261) (by decide) rfl (Or.inr rfl) rfl (ck_V dX7_harmTold_57 ⟨by decide, by decide, by decide, by decide +kernel⟩ q2286 q2288 qs77 q177 q2289) vnil) (hok0 rfl) (by decide) 60 rfl ?_
  refine oc (y := mt_260) (pc := 60) (ok_aload_n dX7_harmTold_60) 61 rfl ?_
  refine oc (y := mt_260) (pc := 61) (ok_getfield dX7_harmTold_61 (fg (own := "GardenChessModel") (idx := 278) (g := 9) (k := 5) (r := (RX7, TX7, 122)) rfl ⟨⟨by decide, by decide⟩, by decide⟩ (Or.inl q1817) (Or.inl rfl) rfl (fg_nil))) 64 rfl ?_
  refine oc_if dX7_harmTold_64 ⟨by decide, by decide⟩ 67 rfl ?_
  exact oc_ret dX7_harmTold_67 rfl
theorem o_260_68 : okL gmt mt_260 68 b_260_68 := by
  refine oc (y := mt_260) (pc := 68) (ok_aload_n dX7_harmTold_68) 69 rfl ?_
  refine oc (y := mt_260) (pc := 69) (ok_getfield dX7_harmTold_69 (fg (own := "GardenChessModel") (idx := 145) (g := 9) (k := 53) (r := (RX7, TX7, 122)) rfl ⟨⟨by decide, by decide⟩, by decide⟩ (Or.inl q1865) (Or.inl rfl) rfl (fg_nil))) 72 rfl ?_
  refine oc (y := mt_260) (pc := 72) (ok_iconst dX7_harmTold_72 rfl ⟨by decide, by decide⟩) 73 rfl ?_
  refine oc (y := mt_260) (pc := 73) (ok_aload_n dX7_harmTold_73) 74 rfl ?_
  refine oc (y := mt_260) (pc := 74) (ok_getfield dX7_harmTold_74 (fg (own := "GardenChessModel") (idx := 394) (g := 9) (k := 56) (r := (RX7, TX7, 122)) rfl ⟨⟨by decide, by decide⟩, by decide⟩ (Or.inl q1868) (Or.inl rfl) rfl (fg_nil))) 77 rfl ?_
  refine oc (y := mt_260) (pc := 77) (ok_iastore dX7_harmTold_77) 78 rfl ?_
  refine oc (y := mt_260) (pc := 78) (ok_iconst dX7_harmTold_78 rfl ⟨by decide, by decide⟩) 79 rfl ?_
  refine oc (y := mt_260) (pc := 79) (ok_istore_n dX7_harmTold_79 (by decide)) 80 rfl ?_
  exact oc_fall rfl
theorem o_260_80 : okL gmt mt_260 80 b_260_80 := by
  refine oc (y := mt_260) (pc := 80) (ok_iload_n dX7_harmTold_80) 81 rfl ?_
  refine oc (y := mt_260) (pc := 81) (ok_aload_n dX7_harmTold_81) 82 rfl ?_
  refine oc (y := mt_260) (pc := 82) (ok_getfield dX7_harmTold_82 (fg (own := "GardenChessModel") (idx := 379) (g := 9) (k := 111) (r := (RX7, TX7, 122)) rfl ⟨⟨by decide, by decide⟩, by decide⟩ (Or.inl q1923) (Or.inl rfl) rfl (fg_nil))) 85 rfl ?_
  refine oc_icmp dX7_harmTold_85 ⟨by decide, by decide⟩ 88 rfl ?_
  refine oc (y := mt_260) (pc := 88) (ok_aload_n dX7_harmTold_88) 89 rfl ?_
  refine oc (y := mt_260) (pc := 89) (ok_getfield dX7_harmTold_89 (fg (own := "GardenChessModel") (idx := 151) (g := 9) (k := 55) (r := (RX7, TX7, 122)) rfl ⟨⟨by decide, by decide⟩, by decide⟩ (Or.inl q1867) (Or.inl rfl) rfl (fg_nil))) 92 rfl ?_
  refine oc (y := mt_260) (pc := 92) (ok_aload_n dX7_harmTold_92) 93 rfl ?_
  refine oc (y := mt_260) (pc := 93) (ok_getfield dX7_harmTold_93 (fg (own := "GardenChessModel") (idx := 394) (g := 9) (k := 56) (r := (RX7, TX7, 122)) rfl ⟨⟨by decide, by decide⟩, by decide⟩ (Or.inl q1868) (Or.inl rfl) rfl (fg_nil))) 96 rfl ?_
  refine oc (y := mt_260) (pc := 96) (ok_aload_n dX7_harmTold_96) 97 rfl ?_
  refine oc (y := mt_260) (pc := 97) (ok_getfield dX7_harmTold_97 (fg (own := "GardenChessModel") (idx := 263) (g := 9) (k := 110) (r := (RX7, TX7, 122)) rfl ⟨⟨by decide, by decide⟩, by decide⟩ (Or.inl q1922) (Or.inl rfl) rfl (fg_nil))) 100 rfl ?_
  refine oc (y := mt_260) (pc := 100) (ok_iload_n dX7_harmTold_100) 101 rfl ?_
  refine oc (y := mt_260) (pc := 101) (ok_iaload dX7_harmTold_101) 102 rfl ?_
  refine oc (y := mt_260) (pc := 102) (ok_iastore dX7_harmTold_102) 103 rfl ?_
  refine oc (y := mt_260) (pc := 103) (ok_aload_n dX7_harmTold_103) 104 rfl ?_
  refine oc (y := mt_260) (pc := 104) (ok_dup dX7_harmTold_104) 105 rfl ?_
  refine oc (y := mt_260) (pc := 105) (ok_getfield dX7_harmTold_105 (fg (own := "GardenChessModel") (idx := 394) (g := 9) (k := 56) (r := (RX7, TX7, 122)) rfl ⟨⟨by decide, by decide⟩, by decide⟩ (Or.inl q1868) (Or.inl rfl) rfl (fg_nil))) 108 rfl ?_
  refine oc (y := mt_260) (pc := 108) (ok_iconst dX7_harmTold_108 rfl ⟨by decide, by decide⟩) 109 rfl ?_
  refine oc (y := mt_260) (pc := 109) (ok_iadd dX7_harmTold_109) 110 rfl ?_
  refine oc (y := mt_260) (pc := 110) (ok_putfield dX7_harmTold_110 (fp (own := "GardenChessModel") (idx := 394) (g := 9) (k := 56) (r := (RX7, TX7, 122)) rfl ⟨⟨by decide, by decide⟩, by decide⟩ (Or.inl q1868) (Or.inl rfl) rfl (Or.inl rfl) (fp_nil))) 113 rfl ?_
  refine oc (y := mt_260) (pc := 113) (ok_iinc dX7_harmTold_113 (by decide)) 116 rfl ?_
  exact oc_goto dX7_harmTold_116 ⟨by decide, by decide⟩
theorem o_260_119 : okL gmt mt_260 119 b_260_119 := by
  refine oc (y := mt_260) (pc := 119) (ok_aload_n dX7_harmTold_119) 120 rfl ?_
  refine oc (y := mt_260) (pc := 120) (ok_getfield dX7_harmTold_120 (fg (own := "GardenChessModel") (idx := 148) (g := 9) (k := 54) (r := (RX7, TX7, 122)) rfl ⟨⟨by decide, by decide⟩, by decide⟩ (Or.inl q1866) (Or.inl rfl) rfl (fg_nil))) 123 rfl ?_
  refine oc (y := mt_260) (pc := 123) (ok_iconst dX7_harmTold_123 rfl ⟨by decide, by decide⟩) 124 rfl ?_
  refine oc (y := mt_260) (pc := 124) (ok_aload_n dX7_harmTold_124) 125 rfl ?_
  refine oc (y := mt_260) (pc := 125) (ok_getfield dX7_harmTold_125 (fg (own := "GardenChessModel") (idx := 394) (g := 9) (k := 56) (r := (RX7, TX7, 122)) rfl ⟨⟨by decide, by decide⟩, by decide⟩ (Or.inl q1868) (Or.inl rfl) rfl (fg_nil))) 128 rfl ?_
  refine oc (y := mt_260) (pc := 128) (ok_iastore dX7_harmTold_128) 129 rfl ?_
  exact oc_ret dX7_harmTold_129 rfl
theorem ok_260 : ∀ q ∈ pr_260, okL gmt mt_260 q.1 q.2 := pk_c o_260_0 (pk_c o_260_23 (pk_c o_260_31 (pk_c o_260_68 (pk_c o_260_80 (pk_c o_260_119 (pk_n))))))
theorem o_261_0 : okL gmt mt_261 0 b_261_0 := by
  refine oc (y := mt_261) (pc := 0) (ok_aload_n dX7_qSums_0) 1 rfl ?_
  refine oc (y := mt_261) (pc := 1) (ok_getfield dX7_qSums_1 (fg (own := "GardenChessModel") (idx := 388) (g := 9) (k := 115) (r := (RX7, TX7, 122)) rfl ⟨⟨by decide, by decide⟩, by decide⟩ (Or.inl q1927) (Or.inl rfl) rfl (fg_nil))) 4 rfl ?_
  refine oc (y := mt_261) (pc := 4) (ok_istore_n dX7_qSums_4 (by decide)) 5 rfl ?_
  refine oc (y := mt_261) (pc := 5) (ok_aload_n dX7_qSums_5) 6 rfl ?_
  refine oc (y := mt_261) (pc := 6) (ok_aload_n dX7_qSums_6) 7 rfl ?_
  refine oc (y := mt_261) (pc := 7) (ok_getfield dX7_qSums_7 (fg (own := "GardenChessModel") (idx := 382) (g := 9) (k := 113) (r := (RX7, TX7, 122)) rfl ⟨⟨by decide, by decide⟩, by decide⟩ (Or.inl q1925) (Or.inl rfl) rfl (fg_nil))) 10 rfl ?_
  refine oc (y := mt_261) (pc := 10) (ok_putfield dX7_qSums_10 (fp (own := "GardenChessModel") (idx := 388) (g := 9) (k := 115) (r := (RX7, TX7, 122)) rfl ⟨⟨by decide, by decide⟩, by decide⟩ (Or.inl q1927) (Or.inl rfl) rfl (Or.inl rfl) (fp_nil))) 13 rfl ?_
  refine oc (y := mt_261) (pc := 13) (ok_iconst dX7_qSums_13 rfl ⟨by decide, by decide⟩) 14 rfl ?_
  refine oc (y := mt_261) (pc := 14) (ok_istore_n dX7_qSums_14 (by decide)) 15 rfl ?_
  exact oc_fall rfl
theorem o_261_15 : okL gmt mt_261 15 b_261_15 := by
  refine oc (y := mt_261) (pc := 15) (ok_iload_n dX7_qSums_15) 16 rfl ?_
  refine oc_if dX7_qSums_16 ⟨by decide, by decide⟩ 19 rfl ?_
  refine oc (y := mt_261) (pc := 19) (ok_aload_n dX7_qSums_19) 20 rfl ?_
  refine oc (y := mt_261) (pc := 20) (ok_getfield dX7_qSums_20 (fg (own := "GardenChessModel") (idx := 278) (g := 9) (k := 5) (r := (RX7, TX7, 122)) rfl ⟨⟨by decide, by decide⟩, by decide⟩ (Or.inl q1817) (Or.inl rfl) rfl (fg_nil))) 23 rfl ?_
  refine oc_if dX7_qSums_23 ⟨by decide, by decide⟩ 26 rfl ?_
  refine oc (y := mt_261) (pc := 26) (ok_aload_n dX7_qSums_26) 27 rfl ?_
  refine oc_V (y := mt_261) (pc := 27) (vcons (y := mt_261) (pc := 27) (len := 3) (n := 1) (M := mt_262) (by decide) rfl (Or.inr rfl) rfl (ck_V dX7_qSums_27 ⟨by decide, by decide, by decide, by decide +kernel⟩ q2290 q2292 qs78 q177 q2293) vnil) (hok0 rfl) (by decide) 30 rfl ?_
  refine oc (y := mt_261) (pc := 30) (ok_aload_n dX7_qSums_30) 31 rfl ?_
  refine oc (y := mt_261) (pc := 31) (ok_getfield dX7_qSums_31 (fg (own := "GardenChessModel") (idx := 278) (g := 9) (k := 5) (r := (RX7, TX7, 122)) rfl ⟨⟨by decide, by decide⟩, by decide⟩ (Or.inl q1817) (Or.inl rfl) rfl (fg_nil))) 34 rfl ?_
  refine oc_if dX7_qSums_34 ⟨by decide, by decide⟩ 37 rfl ?_
  refine oc (y := mt_261) (pc := 37) (ok_aload_n dX7_qSums_37) 38 rfl ?_
  refine oc_V (y := mt_261) (pc := 38) (vcons (y := mt_261) (pc := 38) (len := 3) (n := 1) (M := mt_271) (by decide) rfl (Or.inr rfl) rfl (ck_V dX7_qSums_38 ⟨by decide, by decide, by decide, by decide +kernel⟩ q2326 q2328 qs87 q177 q2329) vnil) (hok0 rfl) (by decide) 41 rfl ?_
  refine oc_if dX7_qSums_41 ⟨by decide, by decide⟩ 44 rfl ?_
  refine oc (y := mt_261) (pc := 44) (ok_iconst dX7_qSums_44 rfl ⟨by decide, by decide⟩) 45 rfl ?_
  exact oc_goto dX7_qSums_45 ⟨by decide, by decide⟩
theorem o_261_48 : okL gmt mt_261 48 b_261_48 := by
  refine oc (y := mt_261) (pc := 48) (ok_iconst dX7_qSums_48 rfl ⟨by decide, by decide⟩) 49 rfl ?_
  exact oc_fall rfl
theorem o_261_49 : okL gmt mt_261 49 b_261_49 := by
  refine oc (y := mt_261) (pc := 49) (ok_istore_n dX7_qSums_49 (by decide)) 50 rfl ?_
  exact oc_goto dX7_qSums_50 ⟨by decide, by decide⟩
theorem o_261_53 : okL gmt mt_261 53 b_261_53 := by
  refine oc (y := mt_261) (pc := 53) (ok_aload_n dX7_qSums_53) 54 rfl ?_
  refine oc (y := mt_261) (pc := 54) (ok_getfield dX7_qSums_54 (fg (own := "GardenChessModel") (idx := 278) (g := 9) (k := 5) (r := (RX7, TX7, 122)) rfl ⟨⟨by decide, by decide⟩, by decide⟩ (Or.inl q1817) (Or.inl rfl) rfl (fg_nil))) 57 rfl ?_
  refine oc_if dX7_qSums_57 ⟨by decide, by decide⟩ 60 rfl ?_
  refine oc (y := mt_261) (pc := 60) (ok_aload_n dX7_qSums_60) 61 rfl ?_
  refine oc (y := mt_261) (pc := 61) (ok_getfield dX7_qSums_61 (fg (own := "GardenChessModel") (idx := 382) (g := 9) (k := 113) (r := (RX7, TX7, 122)) rfl ⟨⟨by decide, by decide⟩, by decide⟩ (Or.inl q1925) (Or.inl rfl) rfl (fg_nil))) 64 rfl ?_
  refine oc (y := mt_261) (pc := 64) (ok_aload_n dX7_qSums_64) 65 rfl ?_
  refine oc (y := mt_261) (pc := 65) (ok_getfield dX7_qSums_65 (fg (own := "GardenChessModel") (idx := 388) (g := 9) (k := 115) (r := (RX7, TX7, 122)) rfl ⟨⟨by decide, by decide⟩, by decide⟩ (Or.inl q1927) (Or.inl rfl) rfl (fg_nil))) 68 rfl ?_
  refine oc_icmp dX7_qSums_68 ⟨by decide, by decide⟩ 71 rfl ?_
  refine oc (y := mt_261) (pc := 71) (ok_aload_n dX7_qSums_71) 72 rfl ?_
  refine oc_V (y := mt_261) (pc := 72) (vcons (y := mt_261) (pc := 72) (len := 3) (n := 1) (M := mt_270) (by decide) rfl (Or.inr rfl) rfl (ck_V dX7_qSums_72 ⟨by decide, by decide, by decide, by decide +kernel⟩ q2322 q2324 qs86 q177 q2325) vnil) (hok0 rfl) (by decide) 75 rfl ?_
  exact oc_goto dX7_qSums_75 ⟨by decide, by decide⟩
theorem o_261_78 : okL gmt mt_261 78 b_261_78 := by
  refine oc (y := mt_261) (pc := 78) (ok_aload_n dX7_qSums_78) 79 rfl ?_
  refine oc (y := mt_261) (pc := 79) (ok_iload_n dX7_qSums_79) 80 rfl ?_
  refine oc (y := mt_261) (pc := 80) (ok_putfield dX7_qSums_80 (fp (own := "GardenChessModel") (idx := 388) (g := 9) (k := 115) (r := (RX7, TX7, 122)) rfl ⟨⟨by decide, by decide⟩, by decide⟩ (Or.inl q1927) (Or.inl rfl) rfl (Or.inl rfl) (fp_nil))) 83 rfl ?_
  exact oc_ret dX7_qSums_83 rfl
theorem ok_261 : ∀ q ∈ pr_261, okL gmt mt_261 q.1 q.2 := pk_c o_261_0 (pk_c o_261_15 (pk_c o_261_48 (pk_c o_261_49 (pk_c o_261_53 (pk_c o_261_78 (pk_n))))))
theorem o_262_0 : okL gmt mt_262 0 b_262_0 := by
  refine oc (y := mt_262) (pc := 0) (ok_iconst dX7_qPartTold_0 rfl ⟨by decide, by decide⟩) 1 rfl ?_
  refine oc (y := mt_262) (pc := 1) (ok_istore_n dX7_qPartTold_1 (by decide)) 2 rfl ?_
  exact oc_fall rfl
theorem o_262_2 : okL gmt mt_262 2 b_262_2 := by
  refine oc (y := mt_262) (pc := 2) (ok_iload_n dX7_qPartTold_2) 3 rfl ?_
  refine oc_if dX7_qPartTold_3 ⟨by decide, by decide⟩ 6 rfl ?_
  refine oc (y := mt_262) (pc := 6) (ok_aload_n dX7_qPartTold_6) 7 rfl ?_
  refine oc (y := mt_262) (pc := 7) (ok_getfield dX7_qPartTold_7 (fg (own := "GardenChessModel") (idx := 278) (g := 9) (k := 5) (r := (RX7, TX7, 122)) rfl ⟨⟨by decide, by decide⟩, by decide⟩ (Or.inl q1817) (Or.inl rfl) rfl (fg_nil))) 10 rfl ?_
  refine oc_if dX7_qPartTold_10 ⟨by decide, by decide⟩ 13 rfl ?_
  refine oc (y := mt_262) (pc := 13) (ok_aload_n dX7_qPartTold_13) 14 rfl ?_
  refine oc_V (y := mt_262) (pc := 14) (vcons (y := mt_262) (pc := 14) (len := 3) (n := 1) (M := mt_241) (by decide) rfl (Or.inr rfl) rfl (ck_V dX7_qPartTold_14 ⟨by decide, by decide, by decide, by decide +kernel⟩ q2207 q2209 qs60 q177 q2210) vnil) (hok0 rfl) (by decide) 17 rfl ?_
  refine oc (y := mt_262) (pc := 17) (ok_istore_n dX7_qPartTold_17 (by decide)) 18 rfl ?_
  refine oc (y := mt_262) (pc := 18) (ok_aload_n dX7_qPartTold_18) 19 rfl ?_
  refine oc (y := mt_262) (pc := 19) (ok_bipush dX7_qPartTold_19 (by decide) ⟨by decide, by decide⟩) 21 rfl ?_
  refine oc (y := mt_262) (pc := 21) (ok_bipush dX7_qPartTold_21 (by decide) ⟨by decide, by decide⟩) 23 rfl ?_
  refine oc_V (y := mt_262) (pc := 23) (vcons (y := mt_262) (pc := 23) (len := 3) (n := 3) (M := mt_263) (by decide) rfl (Or.inr rfl) rfl (ck_V dX7_qPartTold_23 ⟨by decide, by decide, by decide, by decide +kernel⟩ q2294 q2296 qs79 q177 q2297) vnil) (hok0 rfl) (by decide) 26 rfl ?_
  refine oc (y := mt_262) (pc := 26) (ok_istore_n dX7_qPartTold_26 (by decide)) 27 rfl ?_
  refine oc (y := mt_262) (pc := 27) (ok_iload_n dX7_qPartTold_27) 28 rfl ?_
  refine oc (y := mt_262) (pc := 28) (ok_bipush dX7_qPartTold_28 (by decide) ⟨by decide, by decide⟩) 30 rfl ?_
  refine oc_icmp dX7_qPartTold_30 ⟨by decide, by decide⟩ 33 rfl ?_
  refine oc (y := mt_262) (pc := 33) (ok_aload_n dX7_qPartTold_33) 34 rfl ?_
  refine oc (y := mt_262) (pc := 34) (ok_bipush dX7_qPartTold_34 (by decide) ⟨by decide, by decide⟩) 36 rfl ?_
  refine oc (y := mt_262) (pc := 36) (ok_aload_n dX7_qPartTold_36) 37 rfl ?_
  refine oc (y := mt_262) (pc := 37) (ok_getfield dX7_qPartTold_37 (fg (own := "GardenChessModel") (idx := 284) (g := 9) (k := 2) (r := (RX7, TX7, 122)) rfl ⟨⟨by decide, by decide⟩, by decide⟩ (Or.inl q1814) (Or.inl rfl) rfl (fg_nil))) 40 rfl ?_
  refine oc_V (y := mt_262) (pc := 40) (vcons (y := mt_262) (pc := 40) (len := 3) (n := 3) (M := mt_266) (by decide) rfl (Or.inr rfl) rfl (ck_V dX7_qPartTold_40 ⟨by decide, by decide, by decide, by decide +kernel⟩ q2306 q2308 qs82 q177 q2309) vnil) (hok0 rfl) (by decide) 43 rfl ?_
  refine oc (y := mt_262) (pc := 43) (ok_aload_n dX7_qPartTold_43) 44 rfl ?_
  refine oc (y := mt_262) (pc := 44) (ok_dup dX7_qPartTold_44) 45 rfl ?_
  refine oc (y := mt_262) (pc := 45) (ok_getfield dX7_qPartTold_45 (fg (own := "GardenChessModel") (idx := 284) (g := 9) (k := 2) (r := (RX7, TX7, 122)) rfl ⟨⟨by decide, by decide⟩, by decide⟩ (Or.inl q1814) (Or.inl rfl) rfl (fg_nil))) 48 rfl ?_
  refine oc (y := mt_262) (pc := 48) (ok_iconst dX7_qPartTold_48 rfl ⟨by decide, by decide⟩) 49 rfl ?_
  refine oc (y := mt_262) (pc := 49) (ok_iadd dX7_qPartTold_49) 50 rfl ?_
  refine oc (y := mt_262) (pc := 50) (ok_putfield dX7_qPartTold_50 (fp (own := "GardenChessModel") (idx := 284) (g := 9) (k := 2) (r := (RX7, TX7, 122)) rfl ⟨⟨by decide, by decide⟩, by decide⟩ (Or.inl q1814) (Or.inl rfl) rfl (Or.inl rfl) (fp_nil))) 53 rfl ?_
  exact oc_goto dX7_qPartTold_53 ⟨by decide, by decide⟩
theorem o_262_56 : okL gmt mt_262 56 b_262_56 := by
  refine oc (y := mt_262) (pc := 56) (ok_aload_n dX7_qPartTold_56) 57 rfl ?_
  refine oc (y := mt_262) (pc := 57) (ok_aload_n dX7_qPartTold_57) 58 rfl ?_
  refine oc (y := mt_262) (pc := 58) (ok_getfield dX7_qPartTold_58 (fg (own := "GardenChessModel") (idx := 224) (g := 9) (k := 97) (r := (RX7, TX7, 122)) rfl ⟨⟨by decide, by decide⟩, by decide⟩ (Or.inl q1909) (Or.inl rfl) rfl (fg_nil))) 61 rfl ?_
  refine oc_V (y := mt_262) (pc := 61) (vcons (y := mt_262) (pc := 61) (len := 3) (n := 2) (M := mt_240) (by decide) rfl (Or.inr rfl) rfl (ck_V dX7_qPartTold_61 ⟨by decide, by decide, by decide, by decide +kernel⟩ q2203 q2205 qs59 q177 q2206) vnil) (hok0 rfl) (by decide) 64 rfl ?_
  refine oc_if dX7_qPartTold_64 ⟨by decide, by decide⟩ 67 rfl ?_
  refine oc (y := mt_262) (pc := 67) (ok_aload_n dX7_qPartTold_67) 68 rfl ?_
  refine oc (y := mt_262) (pc := 68) (ok_aload_n dX7_qPartTold_68) 69 rfl ?_
  refine oc (y := mt_262) (pc := 69) (ok_getfield dX7_qPartTold_69 (fg (own := "GardenChessModel") (idx := 227) (g := 9) (k := 98) (r := (RX7, TX7, 122)) rfl ⟨⟨by decide, by decide⟩, by decide⟩ (Or.inl q1910) (Or.inl rfl) rfl (fg_nil))) 72 rfl ?_
  refine oc_V (y := mt_262) (pc := 72) (vcons (y := mt_262) (pc := 72) (len := 3) (n := 2) (M := mt_240) (by decide) rfl (Or.inr rfl) rfl (ck_V dX7_qPartTold_72 ⟨by decide, by decide, by decide, by decide +kernel⟩ q2203 q2205 qs59 q177 q2206) vnil) (hok0 rfl) (by decide) 75 rfl ?_
  refine oc_if dX7_qPartTold_75 ⟨by decide, by decide⟩ 78 rfl ?_
  exact oc_fall rfl
theorem o_262_78 : okL gmt mt_262 78 b_262_78 := by
  refine oc (y := mt_262) (pc := 78) (ok_aload_n dX7_qPartTold_78) 79 rfl ?_
  refine oc (y := mt_262) (pc := 79) (ok_aload_n dX7_qPartTold_79) 80 rfl ?_
  refine oc (y := mt_262) (pc := 80) (ok_getfield dX7_qPartTold_80 (fg (own := "GardenChessModel") (idx := 224) (g := 9) (k := 97) (r := (RX7, TX7, 122)) rfl ⟨⟨by decide, by decide⟩, by decide⟩ (Or.inl q1909) (Or.inl rfl) rfl (fg_nil))) 83 rfl ?_
  refine oc_V (y := mt_262) (pc := 83) (vcons (y := mt_262) (pc := 83) (len := 3) (n := 2) (M := mt_239) (by decide) rfl (Or.inr rfl) rfl (ck_V dX7_qPartTold_83 ⟨by decide, by decide, by decide, by decide +kernel⟩ q2199 q2201 qs58 q177 q2202) vnil) (hok0 rfl) (by decide) 86 rfl ?_
  refine oc (y := mt_262) (pc := 86) (ok_istore dX7_qPartTold_86 (by decide)) 88 rfl ?_
  refine oc (y := mt_262) (pc := 88) (ok_iload dX7_qPartTold_88) 90 rfl ?_
  refine oc_if dX7_qPartTold_90 ⟨by decide, by decide⟩ 93 rfl ?_
  refine oc (y := mt_262) (pc := 93) (ok_aload_n dX7_qPartTold_93) 94 rfl ?_
  refine oc (y := mt_262) (pc := 94) (ok_aload_n dX7_qPartTold_94) 95 rfl ?_
  refine oc (y := mt_262) (pc := 95) (ok_getfield dX7_qPartTold_95 (fg (own := "GardenChessModel") (idx := 227) (g := 9) (k := 98) (r := (RX7, TX7, 122)) rfl ⟨⟨by decide, by decide⟩, by decide⟩ (Or.inl q1910) (Or.inl rfl) rfl (fg_nil))) 98 rfl ?_
  refine oc_V (y := mt_262) (pc := 98) (vcons (y := mt_262) (pc := 98) (len := 3) (n := 2) (M := mt_238) (by decide) rfl (Or.inr rfl) rfl (ck_V dX7_qPartTold_98 ⟨by decide, by decide, by decide, by decide +kernel⟩ q2195 q2197 qs57 q177 q2198) vnil) (hok0 rfl) (by decide) 101 rfl ?_
  exact oc_fall rfl
theorem o_262_101 : okL gmt mt_262 101 b_262_101 := by
  refine oc (y := mt_262) (pc := 101) (ok_aload_n dX7_qPartTold_101) 102 rfl ?_
  refine oc_V (y := mt_262) (pc := 102) (vcons (y := mt_262) (pc := 102) (len := 3) (n := 1) (M := mt_241) (by decide) rfl (Or.inr rfl) rfl (ck_V dX7_qPartTold_102 ⟨by decide, by decide, by decide, by decide +kernel⟩ q2207 q2209 qs60 q177 q2210) vnil) (hok0 rfl) (by decide) 105 rfl ?_
  refine oc (y := mt_262) (pc := 105) (ok_bipush dX7_qPartTold_105 (by decide) ⟨by decide, by decide⟩) 107 rfl ?_
  refine oc_icmp dX7_qPartTold_107 ⟨by decide, by decide⟩ 110 rfl ?_
  refine oc (y := mt_262) (pc := 110) (ok_aload_n dX7_qPartTold_110) 111 rfl ?_
  refine oc (y := mt_262) (pc := 111) (ok_getfield dX7_qPartTold_111 (fg (own := "GardenChessModel") (idx := 284) (g := 9) (k := 2) (r := (RX7, TX7, 122)) rfl ⟨⟨by decide, by decide⟩, by decide⟩ (Or.inl q1814) (Or.inl rfl) rfl (fg_nil))) 114 rfl ?_
  exact oc_goto dX7_qPartTold_114 ⟨by decide, by decide⟩
theorem o_262_117 : okL gmt mt_262 117 b_262_117 := by
  refine oc (y := mt_262) (pc := 117) (ok_iconst dX7_qPartTold_117 rfl ⟨by decide, by decide⟩) 118 rfl ?_
  exact oc_fall rfl
theorem o_262_118 : okL gmt mt_262 118 b_262_118 := by
  refine oc (y := mt_262) (pc := 118) (ok_istore dX7_qPartTold_118 (by decide)) 120 rfl ?_
  refine oc (y := mt_262) (pc := 120) (ok_iload dX7_qPartTold_120) 122 rfl ?_
  refine oc (y := mt_262) (pc := 122) (ok_iconst dX7_qPartTold_122 rfl ⟨by decide, by decide⟩) 123 rfl ?_
  refine oc_icmp dX7_qPartTold_123 ⟨by decide, by decide⟩ 126 rfl ?_
  refine oc (y := mt_262) (pc := 126) (ok_aload_n dX7_qPartTold_126) 127 rfl ?_
  refine oc (y := mt_262) (pc := 127) (ok_iload dX7_qPartTold_127) 129 rfl ?_
  refine oc_if dX7_qPartTold_129 ⟨by decide, by decide⟩ 132 rfl ?_
  refine oc (y := mt_262) (pc := 132) (ok_bipush dX7_qPartTold_132 (by decide) ⟨by decide, by decide⟩) 134 rfl ?_
  exact oc_goto dX7_qPartTold_134 ⟨by decide, by decide⟩
theorem o_262_137 : okL gmt mt_262 137 b_262_137 := by
  refine oc (y := mt_262) (pc := 137) (ok_bipush dX7_qPartTold_137 (by decide) ⟨by decide, by decide⟩) 139 rfl ?_
  exact oc_fall rfl
theorem o_262_139 : okL gmt mt_262 139 b_262_139 := by
  refine oc (y := mt_262) (pc := 139) (ok_iload dX7_qPartTold_139) 141 rfl ?_
  refine oc_V (y := mt_262) (pc := 141) (vcons (y := mt_262) (pc := 141) (len := 3) (n := 3) (M := mt_266) (by decide) rfl (Or.inr rfl) rfl (ck_V dX7_qPartTold_141 ⟨by decide, by decide, by decide, by decide +kernel⟩ q2306 q2308 qs82 q177 q2309) vnil) (hok0 rfl) (by decide) 144 rfl ?_
  exact oc_fall rfl
theorem o_262_144 : okL gmt mt_262 144 b_262_144 := by
  refine oc (y := mt_262) (pc := 144) (ok_aload_n dX7_qPartTold_144) 145 rfl ?_
  refine oc (y := mt_262) (pc := 145) (ok_bipush dX7_qPartTold_145 (by decide) ⟨by decide, by decide⟩) 147 rfl ?_
  refine oc_V (y := mt_262) (pc := 147) (vcons (y := mt_262) (pc := 147) (len := 3) (n := 2) (M := mt_247) (by decide) rfl (Or.inr rfl) rfl (ck_V dX7_qPartTold_147 ⟨by decide, by decide, by decide, by decide +kernel⟩ q2228 q2230 qs63 q177 q2231) vnil) (hok0 rfl) (by decide) 150 rfl ?_
  exact oc_goto dX7_qPartTold_150 ⟨by decide, by decide⟩
theorem o_262_153 : okL gmt mt_262 153 b_262_153 := by
  refine oc (y := mt_262) (pc := 153) (ok_iload_n dX7_qPartTold_153) 154 rfl ?_
  refine oc (y := mt_262) (pc := 154) (ok_iconst dX7_qPartTold_154 rfl ⟨by decide, by decide⟩) 155 rfl ?_
  refine oc_icmp dX7_qPartTold_155 ⟨by decide, by decide⟩ 158 rfl ?_
  refine oc (y := mt_262) (pc := 158) (ok_aload_n dX7_qPartTold_158) 159 rfl ?_
  refine oc (y := mt_262) (pc := 159) (ok_bipush dX7_qPartTold_159 (by decide) ⟨by decide, by decide⟩) 161 rfl ?_
  refine oc (y := mt_262) (pc := 161) (ok_iload_n dX7_qPartTold_161) 162 rfl ?_
  refine oc (y := mt_262) (pc := 162) (ok_iadd dX7_qPartTold_162) 163 rfl ?_
  refine oc (y := mt_262) (pc := 163) (ok_bipush dX7_qPartTold_163 (by decide) ⟨by decide, by decide⟩) 165 rfl ?_
  refine oc (y := mt_262) (pc := 165) (ok_isub dX7_qPartTold_165) 166 rfl ?_
  refine oc (y := mt_262) (pc := 166) (ok_aload_n dX7_qPartTold_166) 167 rfl ?_
  refine oc (y := mt_262) (pc := 167) (ok_getfield dX7_qPartTold_167 (fg (own := "GardenChessModel") (idx := 284) (g := 9) (k := 2) (r := (RX7, TX7, 122)) rfl ⟨⟨by decide, by decide⟩, by decide⟩ (Or.inl q1814) (Or.inl rfl) rfl (fg_nil))) 170 rfl ?_
  refine oc_V (y := mt_262) (pc := 170) (vcons (y := mt_262) (pc := 170) (len := 3) (n := 3) (M := mt_266) (by decide) rfl (Or.inr rfl) rfl (ck_V dX7_qPartTold_170 ⟨by decide, by decide, by decide, by decide +kernel⟩ q2306 q2308 qs82 q177 q2309) vnil) (hok0 rfl) (by decide) 173 rfl ?_
  refine oc (y := mt_262) (pc := 173) (ok_aload_n dX7_qPartTold_173) 174 rfl ?_
  refine oc (y := mt_262) (pc := 174) (ok_iload_n dX7_qPartTold_174) 175 rfl ?_
  refine oc_V (y := mt_262) (pc := 175) (vcons (y := mt_262) (pc := 175) (len := 3) (n := 2) (M := mt_267) (by decide) rfl (Or.inr rfl) rfl (ck_V dX7_qPartTold_175 ⟨by decide, by decide, by decide, by decide +kernel⟩ q2310 q2312 qs83 q177 q2313) vnil) (hok0 rfl) (by decide) 178 rfl ?_
  exact oc_goto dX7_qPartTold_178 ⟨by decide, by decide⟩
theorem o_262_181 : okL gmt mt_262 181 b_262_181 := by
  refine oc (y := mt_262) (pc := 181) (ok_iconst dX7_qPartTold_181 rfl ⟨by decide, by decide⟩) 182 rfl ?_
  refine oc (y := mt_262) (pc := 182) (ok_istore_n dX7_qPartTold_182 (by decide)) 183 rfl ?_
  exact oc_fall rfl
theorem o_262_183 : okL gmt mt_262 183 b_262_183 := by
  exact oc_goto dX7_qPartTold_183 ⟨by decide, by decide⟩
theorem o_262_186 : okL gmt mt_262 186 b_262_186 := by
  refine oc (y := mt_262) (pc := 186) (ok_aload_n dX7_qPartTold_186) 187 rfl ?_
  refine oc (y := mt_262) (pc := 187) (ok_getfield dX7_qPartTold_187 (fg (own := "GardenChessModel") (idx := 278) (g := 9) (k := 5) (r := (RX7, TX7, 122)) rfl ⟨⟨by decide, by decide⟩, by decide⟩ (Or.inl q1817) (Or.inl rfl) rfl (fg_nil))) 190 rfl ?_
  refine oc_if dX7_qPartTold_190 ⟨by decide, by decide⟩ 193 rfl ?_
  exact oc_ret dX7_qPartTold_193 rfl
theorem o_262_194 : okL gmt mt_262 194 b_262_194 := by
  refine oc (y := mt_262) (pc := 194) (ok_aload_n dX7_qPartTold_194) 195 rfl ?_
  refine oc (y := mt_262) (pc := 195) (ok_iconst dX7_qPartTold_195 rfl ⟨by decide, by decide⟩) 196 rfl ?_
  refine oc (y := mt_262) (pc := 196) (ok_bipush dX7_qPartTold_196 (by decide) ⟨by decide, by decide⟩) 198 rfl ?_
  refine oc_V (y := mt_262) (pc := 198) (vcons (y := mt_262) (pc := 198) (len := 3) (n := 3) (M := mt_263) (by decide) rfl (Or.inr rfl) rfl (ck_V dX7_qPartTold_198 ⟨by decide, by decide, by decide, by decide +kernel⟩ q2294 q2296 qs79 q177 q2297) vnil) (hok0 rfl) (by decide) 201 rfl ?_
  refine oc (y := mt_262) (pc := 201) (ok_istore_n dX7_qPartTold_201 (by decide)) 202 rfl ?_
  refine oc (y := mt_262) (pc := 202) (ok_iload_n dX7_qPartTold_202) 203 rfl ?_
  refine oc (y := mt_262) (pc := 203) (ok_iconst dX7_qPartTold_203 rfl ⟨by decide, by decide⟩) 204 rfl ?_
  refine oc_icmp dX7_qPartTold_204 ⟨by decide, by decide⟩ 207 rfl ?_
  refine oc (y := mt_262) (pc := 207) (ok_aload_n dX7_qPartTold_207) 208 rfl ?_
  refine oc (y := mt_262) (pc := 208) (ok_iload_n dX7_qPartTold_208) 209 rfl ?_
  refine oc_V (y := mt_262) (pc := 209) (vcons (y := mt_262) (pc := 209) (len := 3) (n := 2) (M := mt_267) (by decide) rfl (Or.inr rfl) rfl (ck_V dX7_qPartTold_209 ⟨by decide, by decide, by decide, by decide +kernel⟩ q2310 q2312 qs83 q177 q2313) vnil) (hok0 rfl) (by decide) 212 rfl ?_
  exact oc_fall rfl
theorem o_262_212 : okL gmt mt_262 212 b_262_212 := by
  refine oc (y := mt_262) (pc := 212) (ok_aload_n dX7_qPartTold_212) 213 rfl ?_
  refine oc (y := mt_262) (pc := 213) (ok_iload_n dX7_qPartTold_213) 214 rfl ?_
  refine oc (y := mt_262) (pc := 214) (ok_iconst dX7_qPartTold_214 rfl ⟨by decide, by decide⟩) 215 rfl ?_
  refine oc_icmp dX7_qPartTold_215 ⟨by decide, by decide⟩ 218 rfl ?_
  refine oc (y := mt_262) (pc := 218) (ok_bipush dX7_qPartTold_218 (by decide) ⟨by decide, by decide⟩) 220 rfl ?_
  refine oc (y := mt_262) (pc := 220) (ok_iload_n dX7_qPartTold_220) 221 rfl ?_
  refine oc (y := mt_262) (pc := 221) (ok_iadd dX7_qPartTold_221) 222 rfl ?_
  exact oc_goto dX7_qPartTold_222 ⟨by decide, by decide⟩
theorem o_262_225 : okL gmt mt_262 225 b_262_225 := by
  refine oc (y := mt_262) (pc := 225) (ok_sipush dX7_qPartTold_225 (by decide) ⟨by decide, by decide⟩) 228 rfl ?_
  refine oc (y := mt_262) (pc := 228) (ok_aload_n dX7_qPartTold_228) 229 rfl ?_
  refine oc (y := mt_262) (pc := 229) (ok_iconst dX7_qPartTold_229 rfl ⟨by decide, by decide⟩) 230 rfl ?_
  refine oc (y := mt_262) (pc := 230) (ok_sipush dX7_qPartTold_230 (by decide) ⟨by decide, by decide⟩) 233 rfl ?_
  refine oc_V (y := mt_262) (pc := 233) (vcons (y := mt_262) (pc := 233) (len := 3) (n := 3) (M := mt_244) (by decide) rfl (Or.inr rfl) rfl (ck_V dX7_qPartTold_233 ⟨by decide, by decide, by decide, by decide +kernel⟩ q2218 q2220 qs62 q177 q2221) vnil) (hok0 rfl) (by decide) 236 rfl ?_
  refine oc (y := mt_262) (pc := 236) (ok_iadd dX7_qPartTold_236) 237 rfl ?_
  exact oc_fall rfl
theorem o_262_237 : okL gmt mt_262 237 b_262_237 := by
  refine oc_V (y := mt_262) (pc := 237) (vcons (y := mt_262) (pc := 237) (len := 3) (n := 2) (M := mt_268) (by decide) rfl (Or.inr rfl) rfl (ck_V dX7_qPartTold_237 ⟨by decide, by decide, by decide, by decide +kernel⟩ q2314 q2316 qs84 q177 q2317) vnil) (hok0 rfl) (by decide) 240 rfl ?_
  refine oc (y := mt_262) (pc := 240) (ok_aload_n dX7_qPartTold_240) 241 rfl ?_
  refine oc_V (y := mt_262) (pc := 241) (vcons (y := mt_262) (pc := 241) (len := 3) (n := 1) (M := mt_269) (by decide) rfl (Or.inr rfl) rfl (ck_V dX7_qPartTold_241 ⟨by decide, by decide, by decide, by decide +kernel⟩ q2318 q2320 qs85 q177 q2321) vnil) (hok0 rfl) (by decide) 244 rfl ?_
  exact oc_ret dX7_qPartTold_244 rfl
theorem ok_262 : ∀ q ∈ pr_262, okL gmt mt_262 q.1 q.2 := pk_c o_262_0 (pk_c o_262_2 (pk_c o_262_56 (pk_c o_262_78 (pk_c o_262_101 (pk_c o_262_117 (pk_c o_262_118 (pk_c o_262_137 (pk_c o_262_139 (pk_c o_262_144 (pk_c o_262_153 (pk_c o_262_181 (pk_c o_262_183 (pk_c o_262_186 (pk_c o_262_194 (pk_c o_262_212 (pk_c o_262_225 (pk_c o_262_237 (pk_n))))))))))))))))))
theorem o_263_0 : okL gmt mt_263 0 b_263_0 := by
  refine oc (y := mt_263) (pc := 0) (ok_aload_n dX7_qWordOf_0) 1 rfl ?_
  refine oc_V (y := mt_263) (pc := 1) (vcons (y := mt_263) (pc := 1) (len := 3) (n := 1) (M := mt_264) (by decide) rfl (Or.inr rfl) rfl (ck_V dX7_qWordOf_1 ⟨by decide, by decide, by decide, by decide +kernel⟩ q2298 q2300 qs80 q177 q2301) vnil) (hok0 rfl) (by decide) 4 rfl ?_
  refine oc (y := mt_263) (pc := 4) (ok_istore_n dX7_qWordOf_4 (by decide)) 5 rfl ?_
  refine oc (y := mt_263) (pc := 5) (ok_iload_n dX7_qWordOf_5) 6 rfl ?_
  refine oc (y := mt_263) (pc := 6) (ok_iload_n dX7_qWordOf_6) 7 rfl ?_
  refine oc_icmp dX7_qWordOf_7 ⟨by decide, by decide⟩ 10 rfl ?_
  refine oc (y := mt_263) (pc := 10) (ok_iload_n dX7_qWordOf_10) 11 rfl ?_
  refine oc (y := mt_263) (pc := 11) (ok_iload_n dX7_qWordOf_11) 12 rfl ?_
  refine oc_icmp dX7_qWordOf_12 ⟨by decide, by decide⟩ 15 rfl ?_
  refine oc (y := mt_263) (pc := 15) (ok_aload_n dX7_qWordOf_15) 16 rfl ?_
  refine oc (y := mt_263) (pc := 16) (ok_iload_n dX7_qWordOf_16) 17 rfl ?_
  refine oc_V (y := mt_263) (pc := 17) (vcons (y := mt_263) (pc := 17) (len := 3) (n := 2) (M := mt_265) (by decide) rfl (Or.inr rfl) rfl (ck_V dX7_qWordOf_17 ⟨by decide, by decide, by decide, by decide +kernel⟩ q2302 q2304 qs81 q177 q2305) vnil) (hok0 rfl) (by decide) 20 rfl ?_
  refine oc_if dX7_qWordOf_20 ⟨by decide, by decide⟩ 23 rfl ?_
  refine oc (y := mt_263) (pc := 23) (ok_iload_n dX7_qWordOf_23) 24 rfl ?_
  exact oc_goto dX7_qWordOf_24 ⟨by decide, by decide⟩
theorem o_263_27 : okL gmt mt_263 27 b_263_27 := by
  refine oc (y := mt_263) (pc := 27) (ok_iconst dX7_qWordOf_27 rfl ⟨by decide, by decide⟩) 28 rfl ?_
  exact oc_fall rfl
theorem o_263_28 : okL gmt mt_263 28 b_263_28 := by
  exact oc_iret dX7_qWordOf_28 rfl
theorem ok_263 : ∀ q ∈ pr_263, okL gmt mt_263 q.1 q.2 := pk_c o_263_0 (pk_c o_263_27 (pk_c o_263_28 (pk_n)))
theorem o_264_0 : okL gmt mt_264 0 b_264_0 := by
  refine oc (y := mt_264) (pc := 0) (ok_aload_n dX7_qWordHere_0) 1 rfl ?_
  refine oc (y := mt_264) (pc := 1) (ok_aload_n dX7_qWordHere_1) 2 rfl ?_
  refine oc (y := mt_264) (pc := 2) (ok_getfield dX7_qWordHere_2 (fg (own := "GardenChessModel") (idx := 230) (g := 9) (k := 99) (r := (RX7, TX7, 122)) rfl ⟨⟨by decide, by decide⟩, by decide⟩ (Or.inl q1911) (Or.inl rfl) rfl (fg_nil))) 5 rfl ?_
  refine oc_V (y := mt_264) (pc := 5) (vcons (y := mt_264) (pc := 5) (len := 3) (n := 2) (M := mt_240) (by decide) rfl (Or.inr rfl) rfl (ck_V dX7_qWordHere_5 ⟨by decide, by decide, by decide, by decide +kernel⟩ q2203 q2205 qs59 q177 q2206) vnil) (hok0 rfl) (by decide) 8 rfl ?_
  refine oc_if dX7_qWordHere_8 ⟨by decide, by decide⟩ 11 rfl ?_
  refine oc (y := mt_264) (pc := 11) (ok_iconst dX7_qWordHere_11 rfl ⟨by decide, by decide⟩) 12 rfl ?_
  exact oc_iret dX7_qWordHere_12 rfl
theorem o_264_13 : okL gmt mt_264 13 b_264_13 := by
  refine oc (y := mt_264) (pc := 13) (ok_aload_n dX7_qWordHere_13) 14 rfl ?_
  refine oc (y := mt_264) (pc := 14) (ok_aload_n dX7_qWordHere_14) 15 rfl ?_
  refine oc (y := mt_264) (pc := 15) (ok_getfield dX7_qWordHere_15 (fg (own := "GardenChessModel") (idx := 233) (g := 9) (k := 100) (r := (RX7, TX7, 122)) rfl ⟨⟨by decide, by decide⟩, by decide⟩ (Or.inl q1912) (Or.inl rfl) rfl (fg_nil))) 18 rfl ?_
  refine oc_V (y := mt_264) (pc := 18) (vcons (y := mt_264) (pc := 18) (len := 3) (n := 2) (M := mt_240) (by decide) rfl (Or.inr rfl) rfl (ck_V dX7_qWordHere_18 ⟨by decide, by decide, by decide, by decide +kernel⟩ q2203 q2205 qs59 q177 q2206) vnil) (hok0 rfl) (by decide) 21 rfl ?_
  refine oc_if dX7_qWordHere_21 ⟨by decide, by decide⟩ 24 rfl ?_
  refine oc (y := mt_264) (pc := 24) (ok_iconst dX7_qWordHere_24 rfl ⟨by decide, by decide⟩) 25 rfl ?_
  exact oc_iret dX7_qWordHere_25 rfl
theorem o_264_26 : okL gmt mt_264 26 b_264_26 := by
  refine oc (y := mt_264) (pc := 26) (ok_aload_n dX7_qWordHere_26) 27 rfl ?_
  refine oc (y := mt_264) (pc := 27) (ok_aload_n dX7_qWordHere_27) 28 rfl ?_
  refine oc (y := mt_264) (pc := 28) (ok_getfield dX7_qWordHere_28 (fg (own := "GardenChessModel") (idx := 236) (g := 9) (k := 101) (r := (RX7, TX7, 122)) rfl ⟨⟨by decide, by decide⟩, by decide⟩ (Or.inl q1913) (Or.inl rfl) rfl (fg_nil))) 31 rfl ?_
  refine oc_V (y := mt_264) (pc := 31) (vcons (y := mt_264) (pc := 31) (len := 3) (n := 2) (M := mt_240) (by decide) rfl (Or.inr rfl) rfl (ck_V dX7_qWordHere_31 ⟨by decide, by decide, by decide, by decide +kernel⟩ q2203 q2205 qs59 q177 q2206) vnil) (hok0 rfl) (by decide) 34 rfl ?_
  refine oc_if dX7_qWordHere_34 ⟨by decide, by decide⟩ 37 rfl ?_
  refine oc (y := mt_264) (pc := 37) (ok_aload_n dX7_qWordHere_37) 38 rfl ?_
  refine oc (y := mt_264) (pc := 38) (ok_getfield dX7_qWordHere_38 (fg (own := "GardenChessModel") (idx := 336) (g := 9) (k := 59) (r := (RX7, TX7, 122)) rfl ⟨⟨by decide, by decide⟩, by decide⟩ (Or.inl q1871) (Or.inl rfl) rfl (fg_nil))) 41 rfl ?_
  refine oc_if dX7_qWordHere_41 ⟨by decide, by decide⟩ 44 rfl ?_
  refine oc (y := mt_264) (pc := 44) (ok_iconst dX7_qWordHere_44 rfl ⟨by decide, by decide⟩) 45 rfl ?_
  exact oc_goto dX7_qWordHere_45 ⟨by decide, by decide⟩
theorem o_264_48 : okL gmt mt_264 48 b_264_48 := by
  refine oc (y := mt_264) (pc := 48) (ok_bipush dX7_qWordHere_48 (by decide) ⟨by decide, by decide⟩) 50 rfl ?_
  exact oc_fall rfl
theorem o_264_50 : okL gmt mt_264 50 b_264_50 := by
  exact oc_iret dX7_qWordHere_50 rfl
theorem o_264_51 : okL gmt mt_264 51 b_264_51 := by
  refine oc (y := mt_264) (pc := 51) (ok_aload_n dX7_qWordHere_51) 52 rfl ?_
  refine oc (y := mt_264) (pc := 52) (ok_aload_n dX7_qWordHere_52) 53 rfl ?_
  refine oc (y := mt_264) (pc := 53) (ok_getfield dX7_qWordHere_53 (fg (own := "GardenChessModel") (idx := 239) (g := 9) (k := 102) (r := (RX7, TX7, 122)) rfl ⟨⟨by decide, by decide⟩, by decide⟩ (Or.inl q1914) (Or.inl rfl) rfl (fg_nil))) 56 rfl ?_
  refine oc_V (y := mt_264) (pc := 56) (vcons (y := mt_264) (pc := 56) (len := 3) (n := 2) (M := mt_240) (by decide) rfl (Or.inr rfl) rfl (ck_V dX7_qWordHere_56 ⟨by decide, by decide, by decide, by decide +kernel⟩ q2203 q2205 qs59 q177 q2206) vnil) (hok0 rfl) (by decide) 59 rfl ?_
  refine oc_if dX7_qWordHere_59 ⟨by decide, by decide⟩ 62 rfl ?_
  refine oc (y := mt_264) (pc := 62) (ok_iconst dX7_qWordHere_62 rfl ⟨by decide, by decide⟩) 63 rfl ?_
  exact oc_iret dX7_qWordHere_63 rfl
theorem o_264_64 : okL gmt mt_264 64 b_264_64 := by
  refine oc (y := mt_264) (pc := 64) (ok_aload_n dX7_qWordHere_64) 65 rfl ?_
  refine oc (y := mt_264) (pc := 65) (ok_aload_n dX7_qWordHere_65) 66 rfl ?_
  refine oc (y := mt_264) (pc := 66) (ok_getfield dX7_qWordHere_66 (fg (own := "GardenChessModel") (idx := 242) (g := 9) (k := 103) (r := (RX7, TX7, 122)) rfl ⟨⟨by decide, by decide⟩, by decide⟩ (Or.inl q1915) (Or.inl rfl) rfl (fg_nil))) 69 rfl ?_
  refine oc_V (y := mt_264) (pc := 69) (vcons (y := mt_264) (pc := 69) (len := 3) (n := 2) (M := mt_240) (by decide) rfl (Or.inr rfl) rfl (ck_V dX7_qWordHere_69 ⟨by decide, by decide, by decide, by decide +kernel⟩ q2203 q2205 qs59 q177 q2206) vnil) (hok0 rfl) (by decide) 72 rfl ?_
  refine oc_if dX7_qWordHere_72 ⟨by decide, by decide⟩ 75 rfl ?_
  refine oc (y := mt_264) (pc := 75) (ok_iconst dX7_qWordHere_75 rfl ⟨by decide, by decide⟩) 76 rfl ?_
  exact oc_iret dX7_qWordHere_76 rfl
theorem o_264_77 : okL gmt mt_264 77 b_264_77 := by
  refine oc (y := mt_264) (pc := 77) (ok_aload_n dX7_qWordHere_77) 78 rfl ?_
  refine oc (y := mt_264) (pc := 78) (ok_aload_n dX7_qWordHere_78) 79 rfl ?_
  refine oc (y := mt_264) (pc := 79) (ok_getfield dX7_qWordHere_79 (fg (own := "GardenChessModel") (idx := 245) (g := 9) (k := 104) (r := (RX7, TX7, 122)) rfl ⟨⟨by decide, by decide⟩, by decide⟩ (Or.inl q1916) (Or.inl rfl) rfl (fg_nil))) 82 rfl ?_
  refine oc_V (y := mt_264) (pc := 82) (vcons (y := mt_264) (pc := 82) (len := 3) (n := 2) (M := mt_240) (by decide) rfl (Or.inr rfl) rfl (ck_V dX7_qWordHere_82 ⟨by decide, by decide, by decide, by decide +kernel⟩ q2203 q2205 qs59 q177 q2206) vnil) (hok0 rfl) (by decide) 85 rfl ?_
  refine oc_if dX7_qWordHere_85 ⟨by decide, by decide⟩ 88 rfl ?_
  refine oc (y := mt_264) (pc := 88) (ok_iconst dX7_qWordHere_88 rfl ⟨by decide, by decide⟩) 89 rfl ?_
  exact oc_iret dX7_qWordHere_89 rfl
theorem o_264_90 : okL gmt mt_264 90 b_264_90 := by
  refine oc (y := mt_264) (pc := 90) (ok_aload_n dX7_qWordHere_90) 91 rfl ?_
  refine oc (y := mt_264) (pc := 91) (ok_aload_n dX7_qWordHere_91) 92 rfl ?_
  refine oc (y := mt_264) (pc := 92) (ok_getfield dX7_qWordHere_92 (fg (own := "GardenChessModel") (idx := 248) (g := 9) (k := 105) (r := (RX7, TX7, 122)) rfl ⟨⟨by decide, by decide⟩, by decide⟩ (Or.inl q1917) (Or.inl rfl) rfl (fg_nil))) 95 rfl ?_
  refine oc_V (y := mt_264) (pc := 95) (vcons (y := mt_264) (pc := 95) (len := 3) (n := 2) (M := mt_240) (by decide) rfl (Or.inr rfl) rfl (ck_V dX7_qWordHere_95 ⟨by decide, by decide, by decide, by decide +kernel⟩ q2203 q2205 qs59 q177 q2206) vnil) (hok0 rfl) (by decide) 98 rfl ?_
  refine oc_if dX7_qWordHere_98 ⟨by decide, by decide⟩ 101 rfl ?_
  refine oc (y := mt_264) (pc := 101) (ok_bipush dX7_qWordHere_101 (by decide) ⟨by decide, by decide⟩) 103 rfl ?_
  exact oc_iret dX7_qWordHere_103 rfl
theorem o_264_104 : okL gmt mt_264 104 b_264_104 := by
  refine oc (y := mt_264) (pc := 104) (ok_aload_n dX7_qWordHere_104) 105 rfl ?_
  refine oc (y := mt_264) (pc := 105) (ok_aload_n dX7_qWordHere_105) 106 rfl ?_
  refine oc (y := mt_264) (pc := 106) (ok_getfield dX7_qWordHere_106 (fg (own := "GardenChessModel") (idx := 251) (g := 9) (k := 106) (r := (RX7, TX7, 122)) rfl ⟨⟨by decide, by decide⟩, by decide⟩ (Or.inl q1918) (Or.inl rfl) rfl (fg_nil))) 109 rfl ?_
  refine oc_V (y := mt_264) (pc := 109) (vcons (y := mt_264) (pc := 109) (len := 3) (n := 2) (M := mt_240) (by decide) rfl (Or.inr rfl) rfl (ck_V dX7_qWordHere_109 ⟨by decide, by decide, by decide, by decide +kernel⟩ q2203 q2205 qs59 q177 q2206) vnil) (hok0 rfl) (by decide) 112 rfl ?_
  refine oc_if dX7_qWordHere_112 ⟨by decide, by decide⟩ 115 rfl ?_
  refine oc (y := mt_264) (pc := 115) (ok_bipush dX7_qWordHere_115 (by decide) ⟨by decide, by decide⟩) 117 rfl ?_
  exact oc_iret dX7_qWordHere_117 rfl
theorem o_264_118 : okL gmt mt_264 118 b_264_118 := by
  refine oc (y := mt_264) (pc := 118) (ok_aload_n dX7_qWordHere_118) 119 rfl ?_
  refine oc (y := mt_264) (pc := 119) (ok_aload_n dX7_qWordHere_119) 120 rfl ?_
  refine oc (y := mt_264) (pc := 120) (ok_getfield dX7_qWordHere_120 (fg (own := "GardenChessModel") (idx := 254) (g := 9) (k := 107) (r := (RX7, TX7, 122)) rfl ⟨⟨by decide, by decide⟩, by decide⟩ (Or.inl q1919) (Or.inl rfl) rfl (fg_nil))) 123 rfl ?_
  refine oc_V (y := mt_264) (pc := 123) (vcons (y := mt_264) (pc := 123) (len := 3) (n := 2) (M := mt_240) (by decide) rfl (Or.inr rfl) rfl (ck_V dX7_qWordHere_123 ⟨by decide, by decide, by decide, by decide +kernel⟩ q2203 q2205 qs59 q177 q2206) vnil) (hok0 rfl) (by decide) 126 rfl ?_
  refine oc_if dX7_qWordHere_126 ⟨by decide, by decide⟩ 129 rfl ?_
  refine oc (y := mt_264) (pc := 129) (ok_bipush dX7_qWordHere_129 (by decide) ⟨by decide, by decide⟩) 131 rfl ?_
  exact oc_iret dX7_qWordHere_131 rfl
theorem o_264_132 : okL gmt mt_264 132 b_264_132 := by
  refine oc (y := mt_264) (pc := 132) (ok_aload_n dX7_qWordHere_132) 133 rfl ?_
  refine oc (y := mt_264) (pc := 133) (ok_aload_n dX7_qWordHere_133) 134 rfl ?_
  refine oc (y := mt_264) (pc := 134) (ok_getfield dX7_qWordHere_134 (fg (own := "GardenChessModel") (idx := 257) (g := 9) (k := 108) (r := (RX7, TX7, 122)) rfl ⟨⟨by decide, by decide⟩, by decide⟩ (Or.inl q1920) (Or.inl rfl) rfl (fg_nil))) 137 rfl ?_
  refine oc_V (y := mt_264) (pc := 137) (vcons (y := mt_264) (pc := 137) (len := 3) (n := 2) (M := mt_240) (by decide) rfl (Or.inr rfl) rfl (ck_V dX7_qWordHere_137 ⟨by decide, by decide, by decide, by decide +kernel⟩ q2203 q2205 qs59 q177 q2206) vnil) (hok0 rfl) (by decide) 140 rfl ?_
  refine oc_if dX7_qWordHere_140 ⟨by decide, by decide⟩ 143 rfl ?_
  refine oc (y := mt_264) (pc := 143) (ok_bipush dX7_qWordHere_143 (by decide) ⟨by decide, by decide⟩) 145 rfl ?_
  exact oc_iret dX7_qWordHere_145 rfl
theorem o_264_146 : okL gmt mt_264 146 b_264_146 := by
  refine oc (y := mt_264) (pc := 146) (ok_aload_n dX7_qWordHere_146) 147 rfl ?_
  refine oc (y := mt_264) (pc := 147) (ok_aload_n dX7_qWordHere_147) 148 rfl ?_
  refine oc (y := mt_264) (pc := 148) (ok_getfield dX7_qWordHere_148 (fg (own := "GardenChessModel") (idx := 260) (g := 9) (k := 109) (r := (RX7, TX7, 122)) rfl ⟨⟨by decide, by decide⟩, by decide⟩ (Or.inl q1921) (Or.inl rfl) rfl (fg_nil))) 151 rfl ?_
  refine oc_V (y := mt_264) (pc := 151) (vcons (y := mt_264) (pc := 151) (len := 3) (n := 2) (M := mt_240) (by decide) rfl (Or.inr rfl) rfl (ck_V dX7_qWordHere_151 ⟨by decide, by decide, by decide, by decide +kernel⟩ q2203 q2205 qs59 q177 q2206) vnil) (hok0 rfl) (by decide) 154 rfl ?_
  refine oc_if dX7_qWordHere_154 ⟨by decide, by decide⟩ 157 rfl ?_
  refine oc (y := mt_264) (pc := 157) (ok_bipush dX7_qWordHere_157 (by decide) ⟨by decide, by decide⟩) 159 rfl ?_
  exact oc_iret dX7_qWordHere_159 rfl
theorem o_264_160 : okL gmt mt_264 160 b_264_160 := by
  refine oc (y := mt_264) (pc := 160) (ok_iconst dX7_qWordHere_160 rfl ⟨by decide, by decide⟩) 161 rfl ?_
  exact oc_iret dX7_qWordHere_161 rfl
theorem ok_264 : ∀ q ∈ pr_264, okL gmt mt_264 q.1 q.2 := pk_c o_264_0 (pk_c o_264_13 (pk_c o_264_26 (pk_c o_264_48 (pk_c o_264_50 (pk_c o_264_51 (pk_c o_264_64 (pk_c o_264_77 (pk_c o_264_90 (pk_c o_264_104 (pk_c o_264_118 (pk_c o_264_132 (pk_c o_264_146 (pk_c o_264_160 (pk_n))))))))))))))
theorem o_265_0 : okL gmt mt_265 0 b_265_0 := by
  refine oc (y := mt_265) (pc := 0) (ok_aload_n dX7_isAllowed_0) 1 rfl ?_
  refine oc (y := mt_265) (pc := 1) (ok_getfield dX7_isAllowed_1 (fg (own := "GardenChessModel") (idx := 336) (g := 9) (k := 59) (r := (RX7, TX7, 122)) rfl ⟨⟨by decide, by decide⟩, by decide⟩ (Or.inl q1871) (Or.inl rfl) rfl (fg_nil))) 4 rfl ?_
  refine oc_if dX7_isAllowed_4 ⟨by decide, by decide⟩ 7 rfl ?_
  refine oc (y := mt_265) (pc := 7) (ok_iload_n dX7_isAllowed_7) 8 rfl ?_
  refine oc (y := mt_265) (pc := 8) (ok_iconst dX7_isAllowed_8 rfl ⟨by decide, by decide⟩) 9 rfl ?_
  refine oc_icmp dX7_isAllowed_9 ⟨by decide, by decide⟩ 12 rfl ?_
  refine oc (y := mt_265) (pc := 12) (ok_iconst dX7_isAllowed_12 rfl ⟨by decide, by decide⟩) 13 rfl ?_
  exact oc_goto dX7_isAllowed_13 ⟨by decide, by decide⟩
theorem o_265_16 : okL gmt mt_265 16 b_265_16 := by
  refine oc (y := mt_265) (pc := 16) (ok_iconst dX7_isAllowed_16 rfl ⟨by decide, by decide⟩) 17 rfl ?_
  exact oc_goto dX7_isAllowed_17 ⟨by decide, by decide⟩
theorem o_265_20 : okL gmt mt_265 20 b_265_20 := by
  refine oc (y := mt_265) (pc := 20) (ok_iload_n dX7_isAllowed_20) 21 rfl ?_
  refine oc (y := mt_265) (pc := 21) (ok_iconst dX7_isAllowed_21 rfl ⟨by decide, by decide⟩) 22 rfl ?_
  refine oc_icmp dX7_isAllowed_22 ⟨by decide, by decide⟩ 25 rfl ?_
  refine oc (y := mt_265) (pc := 25) (ok_iconst dX7_isAllowed_25 rfl ⟨by decide, by decide⟩) 26 rfl ?_
  exact oc_goto dX7_isAllowed_26 ⟨by decide, by decide⟩
theorem o_265_29 : okL gmt mt_265 29 b_265_29 := by
  refine oc (y := mt_265) (pc := 29) (ok_iconst dX7_isAllowed_29 rfl ⟨by decide, by decide⟩) 30 rfl ?_
  exact oc_fall rfl
theorem o_265_30 : okL gmt mt_265 30 b_265_30 := by
  exact oc_zret dX7_isAllowed_30 rfl
theorem ok_265 : ∀ q ∈ pr_265, okL gmt mt_265 q.1 q.2 := pk_c o_265_0 (pk_c o_265_16 (pk_c o_265_20 (pk_c o_265_29 (pk_c o_265_30 (pk_n)))))
theorem o_266_0 : okL gmt mt_266 0 b_266_0 := by
  refine oc (y := mt_266) (pc := 0) (ok_aload_n dX7_qOpens_0) 1 rfl ?_
  refine oc (y := mt_266) (pc := 1) (ok_getfield dX7_qOpens_1 (fg (own := "GardenChessModel") (idx := 278) (g := 9) (k := 5) (r := (RX7, TX7, 122)) rfl ⟨⟨by decide, by decide⟩, by decide⟩ (Or.inl q1817) (Or.inl rfl) rfl (fg_nil))) 4 rfl ?_
  refine oc_if dX7_qOpens_4 ⟨by decide, by decide⟩ 7 rfl ?_
  exact oc_ret dX7_qOpens_7 rfl
theorem o_266_8 : okL gmt mt_266 8 b_266_8 := by
  refine oc (y := mt_266) (pc := 8) (ok_aload_n dX7_qOpens_8) 9 rfl ?_
  refine oc (y := mt_266) (pc := 9) (ok_getfield dX7_qOpens_9 (fg (own := "GardenChessModel") (idx := 385) (g := 9) (k := 114) (r := (RX7, TX7, 122)) rfl ⟨⟨by decide, by decide⟩, by decide⟩ (Or.inl q1926) (Or.inl rfl) rfl (fg_nil))) 12 rfl ?_
  refine oc (y := mt_266) (pc := 12) (ok_bipush dX7_qOpens_12 (by decide) ⟨by decide, by decide⟩) 14 rfl ?_
  refine oc_icmp dX7_qOpens_14 ⟨by decide, by decide⟩ 17 rfl ?_
  refine oc (y := mt_266) (pc := 17) (ok_aload_n dX7_qOpens_17) 18 rfl ?_
  refine oc (y := mt_266) (pc := 18) (ok_iconst dX7_qOpens_18 rfl ⟨by decide, by decide⟩) 19 rfl ?_
  refine oc (y := mt_266) (pc := 19) (ok_iload_n dX7_qOpens_19) 20 rfl ?_
  refine oc_V (y := mt_266) (pc := 20) (vcons (y := mt_266) (pc := 20) (len := 3) (n := 3) (M := mt_243) (by decide) rfl (Or.inr rfl) rfl (ck_V dX7_qOpens_20 ⟨by decide, by decide, by decide, by decide +kernel⟩ q2214 q2216 qs61 q177 q2217) vnil) (hok0 rfl) (by decide) 23 rfl ?_
  exact oc_ret dX7_qOpens_23 rfl
theorem o_266_24 : okL gmt mt_266 24 b_266_24 := by
  refine oc (y := mt_266) (pc := 24) (ok_aload_n dX7_qOpens_24) 25 rfl ?_
  refine oc (y := mt_266) (pc := 25) (ok_dup dX7_qOpens_25) 26 rfl ?_
  refine oc (y := mt_266) (pc := 26) (ok_getfield dX7_qOpens_26 (fg (own := "GardenChessModel") (idx := 385) (g := 9) (k := 114) (r := (RX7, TX7, 122)) rfl ⟨⟨by decide, by decide⟩, by decide⟩ (Or.inl q1926) (Or.inl rfl) rfl (fg_nil))) 29 rfl ?_
  refine oc (y := mt_266) (pc := 29) (ok_iconst dX7_qOpens_29 rfl ⟨by decide, by decide⟩) 30 rfl ?_
  refine oc (y := mt_266) (pc := 30) (ok_iadd dX7_qOpens_30) 31 rfl ?_
  refine oc (y := mt_266) (pc := 31) (ok_putfield dX7_qOpens_31 (fp (own := "GardenChessModel") (idx := 385) (g := 9) (k := 114) (r := (RX7, TX7, 122)) rfl ⟨⟨by decide, by decide⟩, by decide⟩ (Or.inl q1926) (Or.inl rfl) rfl (Or.inl rfl) (fp_nil))) 34 rfl ?_
  refine oc (y := mt_266) (pc := 34) (ok_aload_n dX7_qOpens_34) 35 rfl ?_
  refine oc (y := mt_266) (pc := 35) (ok_getfield dX7_qOpens_35 (fg (own := "GardenChessModel") (idx := 266) (g := 9) (k := 112) (r := (RX7, TX7, 122)) rfl ⟨⟨by decide, by decide⟩, by decide⟩ (Or.inl q1924) (Or.inl rfl) rfl (fg_nil))) 38 rfl ?_
  refine oc (y := mt_266) (pc := 38) (ok_aload_n dX7_qOpens_38) 39 rfl ?_
  refine oc (y := mt_266) (pc := 39) (ok_getfield dX7_qOpens_39 (fg (own := "GardenChessModel") (idx := 382) (g := 9) (k := 113) (r := (RX7, TX7, 122)) rfl ⟨⟨by decide, by decide⟩, by decide⟩ (Or.inl q1925) (Or.inl rfl) rfl (fg_nil))) 42 rfl ?_
  refine oc (y := mt_266) (pc := 42) (ok_iload_n dX7_qOpens_42) 43 rfl ?_
  refine oc (y := mt_266) (pc := 43) (ok_iastore dX7_qOpens_43) 44 rfl ?_
  refine oc (y := mt_266) (pc := 44) (ok_aload_n dX7_qOpens_44) 45 rfl ?_
  refine oc (y := mt_266) (pc := 45) (ok_dup dX7_qOpens_45) 46 rfl ?_
  refine oc (y := mt_266) (pc := 46) (ok_getfield dX7_qOpens_46 (fg (own := "GardenChessModel") (idx := 382) (g := 9) (k := 113) (r := (RX7, TX7, 122)) rfl ⟨⟨by decide, by decide⟩, by decide⟩ (Or.inl q1925) (Or.inl rfl) rfl (fg_nil))) 49 rfl ?_
  refine oc (y := mt_266) (pc := 49) (ok_iconst dX7_qOpens_49 rfl ⟨by decide, by decide⟩) 50 rfl ?_
  refine oc (y := mt_266) (pc := 50) (ok_iadd dX7_qOpens_50) 51 rfl ?_
  refine oc (y := mt_266) (pc := 51) (ok_putfield dX7_qOpens_51 (fp (own := "GardenChessModel") (idx := 382) (g := 9) (k := 113) (r := (RX7, TX7, 122)) rfl ⟨⟨by decide, by decide⟩, by decide⟩ (Or.inl q1925) (Or.inl rfl) rfl (Or.inl rfl) (fp_nil))) 54 rfl ?_
  exact oc_ret dX7_qOpens_54 rfl
theorem ok_266 : ∀ q ∈ pr_266, okL gmt mt_266 q.1 q.2 := pk_c o_266_0 (pk_c o_266_8 (pk_c o_266_24 (pk_n)))
theorem o_267_0 : okL gmt mt_267 0 b_267_0 := by
  refine oc (y := mt_267) (pc := 0) (ok_iload_n dX7_qAsksWord_0) 1 rfl ?_
  exact oc_tsw dX7_qAsksWord_1 (by decide) (by decide +kernel)
theorem o_267_60 : okL gmt mt_267 60 b_267_60 := by
  refine oc (y := mt_267) (pc := 60) (ok_aload_n dX7_qAsksWord_60) 61 rfl ?_
  refine oc (y := mt_267) (pc := 61) (ok_aload_n dX7_qAsksWord_61) 62 rfl ?_
  refine oc (y := mt_267) (pc := 62) (ok_getfield dX7_qAsksWord_62 (fg (own := "GardenChessModel") (idx := 230) (g := 9) (k := 99) (r := (RX7, TX7, 122)) rfl ⟨⟨by decide, by decide⟩, by decide⟩ (Or.inl q1911) (Or.inl rfl) rfl (fg_nil))) 65 rfl ?_
  refine oc_V (y := mt_267) (pc := 65) (vcons (y := mt_267) (pc := 65) (len := 3) (n := 2) (M := mt_238) (by decide) rfl (Or.inr rfl) rfl (ck_V dX7_qAsksWord_65 ⟨by decide, by decide, by decide, by decide +kernel⟩ q2195 q2197 qs57 q177 q2198) vnil) (hok0 rfl) (by decide) 68 rfl ?_
  exact oc_goto dX7_qAsksWord_68 ⟨by decide, by decide⟩
theorem o_267_71 : okL gmt mt_267 71 b_267_71 := by
  refine oc (y := mt_267) (pc := 71) (ok_aload_n dX7_qAsksWord_71) 72 rfl ?_
  refine oc (y := mt_267) (pc := 72) (ok_aload_n dX7_qAsksWord_72) 73 rfl ?_
  refine oc (y := mt_267) (pc := 73) (ok_getfield dX7_qAsksWord_73 (fg (own := "GardenChessModel") (idx := 233) (g := 9) (k := 100) (r := (RX7, TX7, 122)) rfl ⟨⟨by decide, by decide⟩, by decide⟩ (Or.inl q1912) (Or.inl rfl) rfl (fg_nil))) 76 rfl ?_
  refine oc_V (y := mt_267) (pc := 76) (vcons (y := mt_267) (pc := 76) (len := 3) (n := 2) (M := mt_238) (by decide) rfl (Or.inr rfl) rfl (ck_V dX7_qAsksWord_76 ⟨by decide, by decide, by decide, by decide +kernel⟩ q2195 q2197 qs57 q177 q2198) vnil) (hok0 rfl) (by decide) 79 rfl ?_
  exact oc_goto dX7_qAsksWord_79 ⟨by decide, by decide⟩
theorem o_267_82 : okL gmt mt_267 82 b_267_82 := by
  refine oc (y := mt_267) (pc := 82) (ok_aload_n dX7_qAsksWord_82) 83 rfl ?_
  refine oc (y := mt_267) (pc := 83) (ok_aload_n dX7_qAsksWord_83) 84 rfl ?_
  refine oc (y := mt_267) (pc := 84) (ok_getfield dX7_qAsksWord_84 (fg (own := "GardenChessModel") (idx := 236) (g := 9) (k := 101) (r := (RX7, TX7, 122)) rfl ⟨⟨by decide, by decide⟩, by decide⟩ (Or.inl q1913) (Or.inl rfl) rfl (fg_nil))) 87 rfl ?_
  refine oc_V (y := mt_267) (pc := 87) (vcons (y := mt_267) (pc := 87) (len := 3) (n := 2) (M := mt_238) (by decide) rfl (Or.inr rfl) rfl (ck_V dX7_qAsksWord_87 ⟨by decide, by decide, by decide, by decide +kernel⟩ q2195 q2197 qs57 q177 q2198) vnil) (hok0 rfl) (by decide) 90 rfl ?_
  exact oc_goto dX7_qAsksWord_90 ⟨by decide, by decide⟩
theorem o_267_93 : okL gmt mt_267 93 b_267_93 := by
  refine oc (y := mt_267) (pc := 93) (ok_aload_n dX7_qAsksWord_93) 94 rfl ?_
  refine oc (y := mt_267) (pc := 94) (ok_aload_n dX7_qAsksWord_94) 95 rfl ?_
  refine oc (y := mt_267) (pc := 95) (ok_getfield dX7_qAsksWord_95 (fg (own := "GardenChessModel") (idx := 239) (g := 9) (k := 102) (r := (RX7, TX7, 122)) rfl ⟨⟨by decide, by decide⟩, by decide⟩ (Or.inl q1914) (Or.inl rfl) rfl (fg_nil))) 98 rfl ?_
  refine oc_V (y := mt_267) (pc := 98) (vcons (y := mt_267) (pc := 98) (len := 3) (n := 2) (M := mt_238) (by decide) rfl (Or.inr rfl) rfl (ck_V dX7_qAsksWord_98 ⟨by decide, by decide, by decide, by decide +kernel⟩ q2195 q2197 qs57 q177 q2198) vnil) (hok0 rfl) (by decide) 101 rfl ?_
  exact oc_goto dX7_qAsksWord_101 ⟨by decide, by decide⟩
theorem o_267_104 : okL gmt mt_267 104 b_267_104 := by
  refine oc (y := mt_267) (pc := 104) (ok_aload_n dX7_qAsksWord_104) 105 rfl ?_
  refine oc (y := mt_267) (pc := 105) (ok_aload_n dX7_qAsksWord_105) 106 rfl ?_
  refine oc (y := mt_267) (pc := 106) (ok_getfield dX7_qAsksWord_106 (fg (own := "GardenChessModel") (idx := 242) (g := 9) (k := 103) (r := (RX7, TX7, 122)) rfl ⟨⟨by decide, by decide⟩, by decide⟩ (Or.inl q1915) (Or.inl rfl) rfl (fg_nil))) 109 rfl ?_
  refine oc_V (y := mt_267) (pc := 109) (vcons (y := mt_267) (pc := 109) (len := 3) (n := 2) (M := mt_238) (by decide) rfl (Or.inr rfl) rfl (ck_V dX7_qAsksWord_109 ⟨by decide, by decide, by decide, by decide +kernel⟩ q2195 q2197 qs57 q177 q2198) vnil) (hok0 rfl) (by decide) 112 rfl ?_
  exact oc_goto dX7_qAsksWord_112 ⟨by decide, by decide⟩
theorem o_267_115 : okL gmt mt_267 115 b_267_115 := by
  refine oc (y := mt_267) (pc := 115) (ok_aload_n dX7_qAsksWord_115) 116 rfl ?_
  refine oc (y := mt_267) (pc := 116) (ok_aload_n dX7_qAsksWord_116) 117 rfl ?_
  refine oc (y := mt_267) (pc := 117) (ok_getfield dX7_qAsksWord_117 (fg (own := "GardenChessModel") (idx := 245) (g := 9) (k := 104) (r := (RX7, TX7, 122)) rfl ⟨⟨by decide, by decide⟩, by decide⟩ (Or.inl q1916) (Or.inl rfl) rfl (fg_nil))) 120 rfl ?_
  refine oc_V (y := mt_267) (pc := 120) (vcons (y := mt_267) (pc := 120) (len := 3) (n := 2) (M := mt_238) (by decide) rfl (Or.inr rfl) rfl (ck_V dX7_qAsksWord_120 ⟨by decide, by decide, by decide, by decide +kernel⟩ q2195 q2197 qs57 q177 q2198) vnil) (hok0 rfl) (by decide) 123 rfl ?_
  exact oc_goto dX7_qAsksWord_123 ⟨by decide, by decide⟩
theorem o_267_126 : okL gmt mt_267 126 b_267_126 := by
  refine oc (y := mt_267) (pc := 126) (ok_aload_n dX7_qAsksWord_126) 127 rfl ?_
  refine oc (y := mt_267) (pc := 127) (ok_aload_n dX7_qAsksWord_127) 128 rfl ?_
  refine oc (y := mt_267) (pc := 128) (ok_getfield dX7_qAsksWord_128 (fg (own := "GardenChessModel") (idx := 248) (g := 9) (k := 105) (r := (RX7, TX7, 122)) rfl ⟨⟨by decide, by decide⟩, by decide⟩ (Or.inl q1917) (Or.inl rfl) rfl (fg_nil))) 131 rfl ?_
  refine oc_V (y := mt_267) (pc := 131) (vcons (y := mt_267) (pc := 131) (len := 3) (n := 2) (M := mt_238) (by decide) rfl (Or.inr rfl) rfl (ck_V dX7_qAsksWord_131 ⟨by decide, by decide, by decide, by decide +kernel⟩ q2195 q2197 qs57 q177 q2198) vnil) (hok0 rfl) (by decide) 134 rfl ?_
  exact oc_goto dX7_qAsksWord_134 ⟨by decide, by decide⟩
theorem o_267_137 : okL gmt mt_267 137 b_267_137 := by
  refine oc (y := mt_267) (pc := 137) (ok_aload_n dX7_qAsksWord_137) 138 rfl ?_
  refine oc (y := mt_267) (pc := 138) (ok_aload_n dX7_qAsksWord_138) 139 rfl ?_
  refine oc (y := mt_267) (pc := 139) (ok_getfield dX7_qAsksWord_139 (fg (own := "GardenChessModel") (idx := 251) (g := 9) (k := 106) (r := (RX7, TX7, 122)) rfl ⟨⟨by decide, by decide⟩, by decide⟩ (Or.inl q1918) (Or.inl rfl) rfl (fg_nil))) 142 rfl ?_
  refine oc_V (y := mt_267) (pc := 142) (vcons (y := mt_267) (pc := 142) (len := 3) (n := 2) (M := mt_238) (by decide) rfl (Or.inr rfl) rfl (ck_V dX7_qAsksWord_142 ⟨by decide, by decide, by decide, by decide +kernel⟩ q2195 q2197 qs57 q177 q2198) vnil) (hok0 rfl) (by decide) 145 rfl ?_
  exact oc_goto dX7_qAsksWord_145 ⟨by decide, by decide⟩
theorem o_267_148 : okL gmt mt_267 148 b_267_148 := by
  refine oc (y := mt_267) (pc := 148) (ok_aload_n dX7_qAsksWord_148) 149 rfl ?_
  refine oc (y := mt_267) (pc := 149) (ok_aload_n dX7_qAsksWord_149) 150 rfl ?_
  refine oc (y := mt_267) (pc := 150) (ok_getfield dX7_qAsksWord_150 (fg (own := "GardenChessModel") (idx := 254) (g := 9) (k := 107) (r := (RX7, TX7, 122)) rfl ⟨⟨by decide, by decide⟩, by decide⟩ (Or.inl q1919) (Or.inl rfl) rfl (fg_nil))) 153 rfl ?_
  refine oc_V (y := mt_267) (pc := 153) (vcons (y := mt_267) (pc := 153) (len := 3) (n := 2) (M := mt_238) (by decide) rfl (Or.inr rfl) rfl (ck_V dX7_qAsksWord_153 ⟨by decide, by decide, by decide, by decide +kernel⟩ q2195 q2197 qs57 q177 q2198) vnil) (hok0 rfl) (by decide) 156 rfl ?_
  exact oc_goto dX7_qAsksWord_156 ⟨by decide, by decide⟩
theorem o_267_159 : okL gmt mt_267 159 b_267_159 := by
  refine oc (y := mt_267) (pc := 159) (ok_aload_n dX7_qAsksWord_159) 160 rfl ?_
  refine oc (y := mt_267) (pc := 160) (ok_aload_n dX7_qAsksWord_160) 161 rfl ?_
  refine oc (y := mt_267) (pc := 161) (ok_getfield dX7_qAsksWord_161 (fg (own := "GardenChessModel") (idx := 257) (g := 9) (k := 108) (r := (RX7, TX7, 122)) rfl ⟨⟨by decide, by decide⟩, by decide⟩ (Or.inl q1920) (Or.inl rfl) rfl (fg_nil))) 164 rfl ?_
  refine oc_V (y := mt_267) (pc := 164) (vcons (y := mt_267) (pc := 164) (len := 3) (n := 2) (M := mt_238) (by decide) rfl (Or.inr rfl) rfl (ck_V dX7_qAsksWord_164 ⟨by decide, by decide, by decide, by decide +kernel⟩ q2195 q2197 qs57 q177 q2198) vnil) (hok0 rfl) (by decide) 167 rfl ?_
  exact oc_goto dX7_qAsksWord_167 ⟨by decide, by decide⟩
theorem o_267_170 : okL gmt mt_267 170 b_267_170 := by
  refine oc (y := mt_267) (pc := 170) (ok_aload_n dX7_qAsksWord_170) 171 rfl ?_
  refine oc (y := mt_267) (pc := 171) (ok_aload_n dX7_qAsksWord_171) 172 rfl ?_
  refine oc (y := mt_267) (pc := 172) (ok_getfield dX7_qAsksWord_172 (fg (own := "GardenChessModel") (idx := 260) (g := 9) (k := 109) (r := (RX7, TX7, 122)) rfl ⟨⟨by decide, by decide⟩, by decide⟩ (Or.inl q1921) (Or.inl rfl) rfl (fg_nil))) 175 rfl ?_
  refine oc_V (y := mt_267) (pc := 175) (vcons (y := mt_267) (pc := 175) (len := 3) (n := 2) (M := mt_238) (by decide) rfl (Or.inr rfl) rfl (ck_V dX7_qAsksWord_175 ⟨by decide, by decide, by decide, by decide +kernel⟩ q2195 q2197 qs57 q177 q2198) vnil) (hok0 rfl) (by decide) 178 rfl ?_
  exact oc_goto dX7_qAsksWord_178 ⟨by decide, by decide⟩
theorem o_267_181 : okL gmt mt_267 181 b_267_181 := by
  refine oc (y := mt_267) (pc := 181) (ok_aload_n dX7_qAsksWord_181) 182 rfl ?_
  refine oc (y := mt_267) (pc := 182) (ok_aload_n dX7_qAsksWord_182) 183 rfl ?_
  refine oc (y := mt_267) (pc := 183) (ok_getfield dX7_qAsksWord_183 (fg (own := "GardenChessModel") (idx := 236) (g := 9) (k := 101) (r := (RX7, TX7, 122)) rfl ⟨⟨by decide, by decide⟩, by decide⟩ (Or.inl q1913) (Or.inl rfl) rfl (fg_nil))) 186 rfl ?_
  refine oc_V (y := mt_267) (pc := 186) (vcons (y := mt_267) (pc := 186) (len := 3) (n := 2) (M := mt_238) (by decide) rfl (Or.inr rfl) rfl (ck_V dX7_qAsksWord_186 ⟨by decide, by decide, by decide, by decide +kernel⟩ q2195 q2197 qs57 q177 q2198) vnil) (hok0 rfl) (by decide) 189 rfl ?_
  exact oc_fall rfl
theorem o_267_189 : okL gmt mt_267 189 b_267_189 := by
  exact oc_ret dX7_qAsksWord_189 rfl
theorem ok_267 : ∀ q ∈ pr_267, okL gmt mt_267 q.1 q.2 := pk_c o_267_0 (pk_c o_267_60 (pk_c o_267_71 (pk_c o_267_82 (pk_c o_267_93 (pk_c o_267_104 (pk_c o_267_115 (pk_c o_267_126 (pk_c o_267_137 (pk_c o_267_148 (pk_c o_267_159 (pk_c o_267_170 (pk_c o_267_181 (pk_c o_267_189 (pk_n))))))))))))))
theorem o_268_0 : okL gmt mt_268 0 b_268_0 := by
  refine oc (y := mt_268) (pc := 0) (ok_aload_n dX7_qCode_0) 1 rfl ?_
  refine oc (y := mt_268) (pc := 1) (ok_getfield dX7_qCode_1 (fg (own := "GardenChessModel") (idx := 263) (g := 9) (k := 110) (r := (RX7, TX7, 122)) rfl ⟨⟨by decide, by decide⟩, by decide⟩ (Or.inl q1922) (Or.inl rfl) rfl (fg_nil))) 4 rfl ?_
  refine oc (y := mt_268) (pc := 4) (ok_aload_n dX7_qCode_4) 5 rfl ?_
  refine oc (y := mt_268) (pc := 5) (ok_getfield dX7_qCode_5 (fg (own := "GardenChessModel") (idx := 379) (g := 9) (k := 111) (r := (RX7, TX7, 122)) rfl ⟨⟨by decide, by decide⟩, by decide⟩ (Or.inl q1923) (Or.inl rfl) rfl (fg_nil))) 8 rfl ?_
  refine oc (y := mt_268) (pc := 8) (ok_iload_n dX7_qCode_8) 9 rfl ?_
  refine oc (y := mt_268) (pc := 9) (ok_iastore dX7_qCode_9) 10 rfl ?_
  refine oc (y := mt_268) (pc := 10) (ok_aload_n dX7_qCode_10) 11 rfl ?_
  refine oc (y := mt_268) (pc := 11) (ok_dup dX7_qCode_11) 12 rfl ?_
  refine oc (y := mt_268) (pc := 12) (ok_getfield dX7_qCode_12 (fg (own := "GardenChessModel") (idx := 379) (g := 9) (k := 111) (r := (RX7, TX7, 122)) rfl ⟨⟨by decide, by decide⟩, by decide⟩ (Or.inl q1923) (Or.inl rfl) rfl (fg_nil))) 15 rfl ?_
  refine oc (y := mt_268) (pc := 15) (ok_iconst dX7_qCode_15 rfl ⟨by decide, by decide⟩) 16 rfl ?_
  refine oc (y := mt_268) (pc := 16) (ok_iadd dX7_qCode_16) 17 rfl ?_
  refine oc (y := mt_268) (pc := 17) (ok_putfield dX7_qCode_17 (fp (own := "GardenChessModel") (idx := 379) (g := 9) (k := 111) (r := (RX7, TX7, 122)) rfl ⟨⟨by decide, by decide⟩, by decide⟩ (Or.inl q1923) (Or.inl rfl) rfl (Or.inl rfl) (fp_nil))) 20 rfl ?_
  exact oc_ret dX7_qCode_20 rfl
theorem ok_268 : ∀ q ∈ pr_268, okL gmt mt_268 q.1 q.2 := pk_c o_268_0 (pk_n)
theorem o_269_0 : okL gmt mt_269 0 b_269_0 := by
  refine oc (y := mt_269) (pc := 0) (ok_aload_n dX7_qEndsPart_0) 1 rfl ?_
  refine oc (y := mt_269) (pc := 1) (ok_getfield dX7_qEndsPart_1 (fg (own := "GardenChessModel") (idx := 278) (g := 9) (k := 5) (r := (RX7, TX7, 122)) rfl ⟨⟨by decide, by decide⟩, by decide⟩ (Or.inl q1817) (Or.inl rfl) rfl (fg_nil))) 4 rfl ?_
  refine oc_if dX7_qEndsPart_4 ⟨by decide, by decide⟩ 7 rfl ?_
  refine oc (y := mt_269) (pc := 7) (ok_aload_n dX7_qEndsPart_7) 8 rfl ?_
  refine oc (y := mt_269) (pc := 8) (ok_getfield dX7_qEndsPart_8 (fg (own := "GardenChessModel") (idx := 382) (g := 9) (k := 113) (r := (RX7, TX7, 122)) rfl ⟨⟨by decide, by decide⟩, by decide⟩ (Or.inl q1925) (Or.inl rfl) rfl (fg_nil))) 11 rfl ?_
  refine oc (y := mt_269) (pc := 11) (ok_aload_n dX7_qEndsPart_11) 12 rfl ?_
  refine oc (y := mt_269) (pc := 12) (ok_getfield dX7_qEndsPart_12 (fg (own := "GardenChessModel") (idx := 388) (g := 9) (k := 115) (r := (RX7, TX7, 122)) rfl ⟨⟨by decide, by decide⟩, by decide⟩ (Or.inl q1927) (Or.inl rfl) rfl (fg_nil))) 15 rfl ?_
  refine oc_icmp dX7_qEndsPart_15 ⟨by decide, by decide⟩ 18 rfl ?_
  refine oc (y := mt_269) (pc := 18) (ok_aload_n dX7_qEndsPart_18) 19 rfl ?_
  refine oc (y := mt_269) (pc := 19) (ok_getfield dX7_qEndsPart_19 (fg (own := "GardenChessModel") (idx := 266) (g := 9) (k := 112) (r := (RX7, TX7, 122)) rfl ⟨⟨by decide, by decide⟩, by decide⟩ (Or.inl q1924) (Or.inl rfl) rfl (fg_nil))) 22 rfl ?_
  refine oc (y := mt_269) (pc := 22) (ok_aload_n dX7_qEndsPart_22) 23 rfl ?_
  refine oc (y := mt_269) (pc := 23) (ok_getfield dX7_qEndsPart_23 (fg (own := "GardenChessModel") (idx := 382) (g := 9) (k := 113) (r := (RX7, TX7, 122)) rfl ⟨⟨by decide, by decide⟩, by decide⟩ (Or.inl q1925) (Or.inl rfl) rfl (fg_nil))) 26 rfl ?_
  refine oc (y := mt_269) (pc := 26) (ok_iconst dX7_qEndsPart_26 rfl ⟨by decide, by decide⟩) 27 rfl ?_
  refine oc (y := mt_269) (pc := 27) (ok_isub dX7_qEndsPart_27) 28 rfl ?_
  refine oc (y := mt_269) (pc := 28) (ok_iaload dX7_qEndsPart_28) 29 rfl ?_
  refine oc (y := mt_269) (pc := 29) (ok_bipush dX7_qEndsPart_29 (by decide) ⟨by decide, by decide⟩) 31 rfl ?_
  refine oc_icmp dX7_qEndsPart_31 ⟨by decide, by decide⟩ 34 rfl ?_
  refine oc (y := mt_269) (pc := 34) (ok_aload_n dX7_qEndsPart_34) 35 rfl ?_
  refine oc (y := mt_269) (pc := 35) (ok_dup dX7_qEndsPart_35) 36 rfl ?_
  refine oc (y := mt_269) (pc := 36) (ok_getfield dX7_qEndsPart_36 (fg (own := "GardenChessModel") (idx := 385) (g := 9) (k := 114) (r := (RX7, TX7, 122)) rfl ⟨⟨by decide, by decide⟩, by decide⟩ (Or.inl q1926) (Or.inl rfl) rfl (fg_nil))) 39 rfl ?_
  refine oc (y := mt_269) (pc := 39) (ok_iconst dX7_qEndsPart_39 rfl ⟨by decide, by decide⟩) 40 rfl ?_
  refine oc (y := mt_269) (pc := 40) (ok_isub dX7_qEndsPart_40) 41 rfl ?_
  refine oc (y := mt_269) (pc := 41) (ok_putfield dX7_qEndsPart_41 (fp (own := "GardenChessModel") (idx := 385) (g := 9) (k := 114) (r := (RX7, TX7, 122)) rfl ⟨⟨by decide, by decide⟩, by decide⟩ (Or.inl q1926) (Or.inl rfl) rfl (Or.inl rfl) (fp_nil))) 44 rfl ?_
  refine oc (y := mt_269) (pc := 44) (ok_aload_n dX7_qEndsPart_44) 45 rfl ?_
  refine oc_V (y := mt_269) (pc := 45) (vcons (y := mt_269) (pc := 45) (len := 3) (n := 1) (M := mt_270) (by decide) rfl (Or.inr rfl) rfl (ck_V dX7_qEndsPart_45 ⟨by decide, by decide, by decide, by decide +kernel⟩ q2322 q2324 qs86 q177 q2325) vnil) (hok0 rfl) (by decide) 48 rfl ?_
  exact oc_goto dX7_qEndsPart_48 ⟨by decide, by decide⟩
theorem o_269_51 : okL gmt mt_269 51 b_269_51 := by
  exact oc_ret dX7_qEndsPart_51 rfl
theorem ok_269 : ∀ q ∈ pr_269, okL gmt mt_269 q.1 q.2 := pk_c o_269_0 (pk_c o_269_51 (pk_n))
theorem o_270_0 : okL gmt mt_270 0 b_270_0 := by
  refine oc (y := mt_270) (pc := 0) (ok_aload_n dX7_qDrops_0) 1 rfl ?_
  refine oc (y := mt_270) (pc := 1) (ok_dup dX7_qDrops_1) 2 rfl ?_
  refine oc (y := mt_270) (pc := 2) (ok_getfield dX7_qDrops_2 (fg (own := "GardenChessModel") (idx := 382) (g := 9) (k := 113) (r := (RX7, TX7, 122)) rfl ⟨⟨by decide, by decide⟩, by decide⟩ (Or.inl q1925) (Or.inl rfl) rfl (fg_nil))) 5 rfl ?_
  refine oc (y := mt_270) (pc := 5) (ok_iconst dX7_qDrops_5 rfl ⟨by decide, by decide⟩) 6 rfl ?_
  refine oc (y := mt_270) (pc := 6) (ok_isub dX7_qDrops_6) 7 rfl ?_
  refine oc (y := mt_270) (pc := 7) (ok_putfield dX7_qDrops_7 (fp (own := "GardenChessModel") (idx := 382) (g := 9) (k := 113) (r := (RX7, TX7, 122)) rfl ⟨⟨by decide, by decide⟩, by decide⟩ (Or.inl q1925) (Or.inl rfl) rfl (Or.inl rfl) (fp_nil))) 10 rfl ?_
  refine oc (y := mt_270) (pc := 10) (ok_aload_n dX7_qDrops_10) 11 rfl ?_
  refine oc (y := mt_270) (pc := 11) (ok_aload_n dX7_qDrops_11) 12 rfl ?_
  refine oc (y := mt_270) (pc := 12) (ok_getfield dX7_qDrops_12 (fg (own := "GardenChessModel") (idx := 266) (g := 9) (k := 112) (r := (RX7, TX7, 122)) rfl ⟨⟨by decide, by decide⟩, by decide⟩ (Or.inl q1924) (Or.inl rfl) rfl (fg_nil))) 15 rfl ?_
  refine oc (y := mt_270) (pc := 15) (ok_aload_n dX7_qDrops_15) 16 rfl ?_
  refine oc (y := mt_270) (pc := 16) (ok_getfield dX7_qDrops_16 (fg (own := "GardenChessModel") (idx := 382) (g := 9) (k := 113) (r := (RX7, TX7, 122)) rfl ⟨⟨by decide, by decide⟩, by decide⟩ (Or.inl q1925) (Or.inl rfl) rfl (fg_nil))) 19 rfl ?_
  refine oc (y := mt_270) (pc := 19) (ok_iaload dX7_qDrops_19) 20 rfl ?_
  refine oc_V (y := mt_270) (pc := 20) (vcons (y := mt_270) (pc := 20) (len := 3) (n := 2) (M := mt_268) (by decide) rfl (Or.inr rfl) rfl (ck_V dX7_qDrops_20 ⟨by decide, by decide, by decide, by decide +kernel⟩ q2314 q2316 qs84 q177 q2317) vnil) (hok0 rfl) (by decide) 23 rfl ?_
  exact oc_ret dX7_qDrops_23 rfl
theorem ok_270 : ∀ q ∈ pr_270, okL gmt mt_270 q.1 q.2 := pk_c o_270_0 (pk_n)
theorem o_271_0 : okL gmt mt_271 0 b_271_0 := by
  refine oc (y := mt_271) (pc := 0) (ok_aload_n dX7_qGoesOn_0) 1 rfl ?_
  refine oc (y := mt_271) (pc := 1) (ok_getfield dX7_qGoesOn_1 (fg (own := "GardenChessModel") (idx := 278) (g := 9) (k := 5) (r := (RX7, TX7, 122)) rfl ⟨⟨by decide, by decide⟩, by decide⟩ (Or.inl q1817) (Or.inl rfl) rfl (fg_nil))) 4 rfl ?_
  refine oc_if dX7_qGoesOn_4 ⟨by decide, by decide⟩ 7 rfl ?_
  refine oc (y := mt_271) (pc := 7) (ok_aload_n dX7_qGoesOn_7) 8 rfl ?_
  refine oc_V (y := mt_271) (pc := 8) (vcons (y := mt_271) (pc := 8) (len := 3) (n := 1) (M := mt_241) (by decide) rfl (Or.inr rfl) rfl (ck_V dX7_qGoesOn_8 ⟨by decide, by decide, by decide, by decide +kernel⟩ q2207 q2209 qs60 q177 q2210) vnil) (hok0 rfl) (by decide) 11 rfl ?_
  refine oc (y := mt_271) (pc := 11) (ok_bipush dX7_qGoesOn_11 (by decide) ⟨by decide, by decide⟩) 13 rfl ?_
  refine oc_icmp dX7_qGoesOn_13 ⟨by decide, by decide⟩ 16 rfl ?_
  refine oc (y := mt_271) (pc := 16) (ok_aload_n dX7_qGoesOn_16) 17 rfl ?_
  refine oc_V (y := mt_271) (pc := 17) (vcons (y := mt_271) (pc := 17) (len := 3) (n := 1) (M := mt_272) (by decide) rfl (Or.inr rfl) rfl (ck_V dX7_qGoesOn_17 ⟨by decide, by decide, by decide, by decide +kernel⟩ q2330 q2332 qs88 q177 q2333) vnil) (hok0 rfl) (by decide) 20 rfl ?_
  refine oc (y := mt_271) (pc := 20) (ok_bipush dX7_qGoesOn_20 (by decide) ⟨by decide, by decide⟩) 22 rfl ?_
  refine oc_icmp dX7_qGoesOn_22 ⟨by decide, by decide⟩ 25 rfl ?_
  refine oc (y := mt_271) (pc := 25) (ok_aload_n dX7_qGoesOn_25) 26 rfl ?_
  refine oc_V (y := mt_271) (pc := 26) (vcons (y := mt_271) (pc := 26) (len := 3) (n := 1) (M := mt_272) (by decide) rfl (Or.inr rfl) rfl (ck_V dX7_qGoesOn_26 ⟨by decide, by decide, by decide, by decide +kernel⟩ q2330 q2332 qs88 q177 q2333) vnil) (hok0 rfl) (by decide) 29 rfl ?_
  refine oc (y := mt_271) (pc := 29) (ok_bipush dX7_qGoesOn_29 (by decide) ⟨by decide, by decide⟩) 31 rfl ?_
  refine oc_icmp dX7_qGoesOn_31 ⟨by decide, by decide⟩ 34 rfl ?_
  refine oc (y := mt_271) (pc := 34) (ok_aload_n dX7_qGoesOn_34) 35 rfl ?_
  refine oc_V (y := mt_271) (pc := 35) (vcons (y := mt_271) (pc := 35) (len := 3) (n := 1) (M := mt_272) (by decide) rfl (Or.inr rfl) rfl (ck_V dX7_qGoesOn_35 ⟨by decide, by decide, by decide, by decide +kernel⟩ q2330 q2332 qs88 q177 q2333) vnil) (hok0 rfl) (by decide) 38 rfl ?_
  refine oc (y := mt_271) (pc := 38) (ok_bipush dX7_qGoesOn_38 (by decide) ⟨by decide, by decide⟩) 40 rfl ?_
  refine oc_icmp dX7_qGoesOn_40 ⟨by decide, by decide⟩ 43 rfl ?_
  exact oc_fall rfl
theorem o_271_43 : okL gmt mt_271 43 b_271_43 := by
  refine oc (y := mt_271) (pc := 43) (ok_aload_n dX7_qGoesOn_43) 44 rfl ?_
  refine oc (y := mt_271) (pc := 44) (ok_dup dX7_qGoesOn_44) 45 rfl ?_
  refine oc (y := mt_271) (pc := 45) (ok_getfield dX7_qGoesOn_45 (fg (own := "GardenChessModel") (idx := 284) (g := 9) (k := 2) (r := (RX7, TX7, 122)) rfl ⟨⟨by decide, by decide⟩, by decide⟩ (Or.inl q1814) (Or.inl rfl) rfl (fg_nil))) 48 rfl ?_
  refine oc (y := mt_271) (pc := 48) (ok_iconst dX7_qGoesOn_48 rfl ⟨by decide, by decide⟩) 49 rfl ?_
  refine oc (y := mt_271) (pc := 49) (ok_iadd dX7_qGoesOn_49) 50 rfl ?_
  refine oc (y := mt_271) (pc := 50) (ok_putfield dX7_qGoesOn_50 (fp (own := "GardenChessModel") (idx := 284) (g := 9) (k := 2) (r := (RX7, TX7, 122)) rfl ⟨⟨by decide, by decide⟩, by decide⟩ (Or.inl q1814) (Or.inl rfl) rfl (Or.inl rfl) (fp_nil))) 53 rfl ?_
  refine oc (y := mt_271) (pc := 53) (ok_aload_n dX7_qGoesOn_53) 54 rfl ?_
  refine oc_V (y := mt_271) (pc := 54) (vcons (y := mt_271) (pc := 54) (len := 3) (n := 1) (M := mt_274) (by decide) rfl (Or.inr rfl) rfl (ck_V dX7_qGoesOn_54 ⟨by decide, by decide, by decide, by decide +kernel⟩ q2337 q2339 qs89 q177 q2340) vnil) (hok0 rfl) (by decide) 57 rfl ?_
  refine oc (y := mt_271) (pc := 57) (ok_aload_n dX7_qGoesOn_57) 58 rfl ?_
  refine oc (y := mt_271) (pc := 58) (ok_dup dX7_qGoesOn_58) 59 rfl ?_
  refine oc (y := mt_271) (pc := 59) (ok_getfield dX7_qGoesOn_59 (fg (own := "GardenChessModel") (idx := 382) (g := 9) (k := 113) (r := (RX7, TX7, 122)) rfl ⟨⟨by decide, by decide⟩, by decide⟩ (Or.inl q1925) (Or.inl rfl) rfl (fg_nil))) 62 rfl ?_
  refine oc (y := mt_271) (pc := 62) (ok_iconst dX7_qGoesOn_62 rfl ⟨by decide, by decide⟩) 63 rfl ?_
  refine oc (y := mt_271) (pc := 63) (ok_isub dX7_qGoesOn_63) 64 rfl ?_
  refine oc (y := mt_271) (pc := 64) (ok_putfield dX7_qGoesOn_64 (fp (own := "GardenChessModel") (idx := 382) (g := 9) (k := 113) (r := (RX7, TX7, 122)) rfl ⟨⟨by decide, by decide⟩, by decide⟩ (Or.inl q1925) (Or.inl rfl) rfl (Or.inl rfl) (fp_nil))) 67 rfl ?_
  refine oc (y := mt_271) (pc := 67) (ok_aload_n dX7_qGoesOn_67) 68 rfl ?_
  refine oc (y := mt_271) (pc := 68) (ok_dup dX7_qGoesOn_68) 69 rfl ?_
  refine oc (y := mt_271) (pc := 69) (ok_getfield dX7_qGoesOn_69 (fg (own := "GardenChessModel") (idx := 385) (g := 9) (k := 114) (r := (RX7, TX7, 122)) rfl ⟨⟨by decide, by decide⟩, by decide⟩ (Or.inl q1926) (Or.inl rfl) rfl (fg_nil))) 72 rfl ?_
  refine oc (y := mt_271) (pc := 72) (ok_iconst dX7_qGoesOn_72 rfl ⟨by decide, by decide⟩) 73 rfl ?_
  refine oc (y := mt_271) (pc := 73) (ok_isub dX7_qGoesOn_73) 74 rfl ?_
  refine oc (y := mt_271) (pc := 74) (ok_putfield dX7_qGoesOn_74 (fp (own := "GardenChessModel") (idx := 385) (g := 9) (k := 114) (r := (RX7, TX7, 122)) rfl ⟨⟨by decide, by decide⟩, by decide⟩ (Or.inl q1926) (Or.inl rfl) rfl (Or.inl rfl) (fp_nil))) 77 rfl ?_
  refine oc (y := mt_271) (pc := 77) (ok_aload_n dX7_qGoesOn_77) 78 rfl ?_
  refine oc (y := mt_271) (pc := 78) (ok_getfield dX7_qGoesOn_78 (fg (own := "GardenChessModel") (idx := 266) (g := 9) (k := 112) (r := (RX7, TX7, 122)) rfl ⟨⟨by decide, by decide⟩, by decide⟩ (Or.inl q1924) (Or.inl rfl) rfl (fg_nil))) 81 rfl ?_
  refine oc (y := mt_271) (pc := 81) (ok_aload_n dX7_qGoesOn_81) 82 rfl ?_
  refine oc (y := mt_271) (pc := 82) (ok_getfield dX7_qGoesOn_82 (fg (own := "GardenChessModel") (idx := 382) (g := 9) (k := 113) (r := (RX7, TX7, 122)) rfl ⟨⟨by decide, by decide⟩, by decide⟩ (Or.inl q1925) (Or.inl rfl) rfl (fg_nil))) 85 rfl ?_
  refine oc (y := mt_271) (pc := 85) (ok_iaload dX7_qGoesOn_85) 86 rfl ?_
  refine oc (y := mt_271) (pc := 86) (ok_bipush dX7_qGoesOn_86 (by decide) ⟨by decide, by decide⟩) 88 rfl ?_
  refine oc_icmp dX7_qGoesOn_88 ⟨by decide, by decide⟩ 91 rfl ?_
  refine oc (y := mt_271) (pc := 91) (ok_aload_n dX7_qGoesOn_91) 92 rfl ?_
  refine oc (y := mt_271) (pc := 92) (ok_aload_n dX7_qGoesOn_92) 93 rfl ?_
  refine oc (y := mt_271) (pc := 93) (ok_getfield dX7_qGoesOn_93 (fg (own := "GardenChessModel") (idx := 266) (g := 9) (k := 112) (r := (RX7, TX7, 122)) rfl ⟨⟨by decide, by decide⟩, by decide⟩ (Or.inl q1924) (Or.inl rfl) rfl (fg_nil))) 96 rfl ?_
  refine oc (y := mt_271) (pc := 96) (ok_aload_n dX7_qGoesOn_96) 97 rfl ?_
  refine oc (y := mt_271) (pc := 97) (ok_getfield dX7_qGoesOn_97 (fg (own := "GardenChessModel") (idx := 382) (g := 9) (k := 113) (r := (RX7, TX7, 122)) rfl ⟨⟨by decide, by decide⟩, by decide⟩ (Or.inl q1925) (Or.inl rfl) rfl (fg_nil))) 100 rfl ?_
  refine oc (y := mt_271) (pc := 100) (ok_iaload dX7_qGoesOn_100) 101 rfl ?_
  refine oc (y := mt_271) (pc := 101) (ok_bipush dX7_qGoesOn_101 (by decide) ⟨by decide, by decide⟩) 103 rfl ?_
  refine oc_icmp dX7_qGoesOn_103 ⟨by decide, by decide⟩ 106 rfl ?_
  refine oc (y := mt_271) (pc := 106) (ok_iconst dX7_qGoesOn_106 rfl ⟨by decide, by decide⟩) 107 rfl ?_
  exact oc_goto dX7_qGoesOn_107 ⟨by decide, by decide⟩
theorem o_271_110 : okL gmt mt_271 110 b_271_110 := by
  refine oc (y := mt_271) (pc := 110) (ok_bipush dX7_qGoesOn_110 (by decide) ⟨by decide, by decide⟩) 112 rfl ?_
  exact oc_fall rfl
theorem o_271_112 : okL gmt mt_271 112 b_271_112 := by
  refine oc_V (y := mt_271) (pc := 112) (vcons (y := mt_271) (pc := 112) (len := 3) (n := 2) (M := mt_268) (by decide) rfl (Or.inr rfl) rfl (ck_V dX7_qGoesOn_112 ⟨by decide, by decide, by decide, by decide +kernel⟩ q2314 q2316 qs84 q177 q2317) vnil) (hok0 rfl) (by decide) 115 rfl ?_
  exact oc_fall rfl
theorem o_271_115 : okL gmt mt_271 115 b_271_115 := by
  refine oc (y := mt_271) (pc := 115) (ok_aload_n dX7_qGoesOn_115) 116 rfl ?_
  refine oc_V (y := mt_271) (pc := 116) (vcons (y := mt_271) (pc := 116) (len := 3) (n := 1) (M := mt_269) (by decide) rfl (Or.inr rfl) rfl (ck_V dX7_qGoesOn_116 ⟨by decide, by decide, by decide, by decide +kernel⟩ q2318 q2320 qs85 q177 q2321) vnil) (hok0 rfl) (by decide) 119 rfl ?_
  exact oc_goto dX7_qGoesOn_119 ⟨by decide, by decide⟩
theorem o_271_122 : okL gmt mt_271 122 b_271_122 := by
  refine oc (y := mt_271) (pc := 122) (ok_aload_n dX7_qGoesOn_122) 123 rfl ?_
  refine oc (y := mt_271) (pc := 123) (ok_bipush dX7_qGoesOn_123 (by decide) ⟨by decide, by decide⟩) 125 rfl ?_
  refine oc_V (y := mt_271) (pc := 125) (vcons (y := mt_271) (pc := 125) (len := 3) (n := 2) (M := mt_248) (by decide) rfl (Or.inr rfl) rfl (ck_V dX7_qGoesOn_125 ⟨by decide, by decide, by decide, by decide +kernel⟩ q2232 q2234 qs64 q177 q2235) vnil) (hok0 rfl) (by decide) 128 rfl ?_
  refine oc_if dX7_qGoesOn_128 ⟨by decide, by decide⟩ 131 rfl ?_
  refine oc (y := mt_271) (pc := 131) (ok_aload_n dX7_qGoesOn_131) 132 rfl ?_
  refine oc (y := mt_271) (pc := 132) (ok_bipush dX7_qGoesOn_132 (by decide) ⟨by decide, by decide⟩) 134 rfl ?_
  refine oc_V (y := mt_271) (pc := 134) (vcons (y := mt_271) (pc := 134) (len := 3) (n := 2) (M := mt_248) (by decide) rfl (Or.inr rfl) rfl (ck_V dX7_qGoesOn_134 ⟨by decide, by decide, by decide, by decide +kernel⟩ q2232 q2234 qs64 q177 q2235) vnil) (hok0 rfl) (by decide) 137 rfl ?_
  refine oc_if dX7_qGoesOn_137 ⟨by decide, by decide⟩ 140 rfl ?_
  exact oc_fall rfl
theorem o_271_140 : okL gmt mt_271 140 b_271_140 := by
  refine oc (y := mt_271) (pc := 140) (ok_aload_n dX7_qGoesOn_140) 141 rfl ?_
  refine oc (y := mt_271) (pc := 141) (ok_getfield dX7_qGoesOn_141 (fg (own := "GardenChessModel") (idx := 7) (g := 9) (k := 0) (r := (RX7, TX7, 122)) rfl ⟨⟨by decide, by decide⟩, by decide⟩ (Or.inl q1812) (Or.inl rfl) rfl (fg_nil))) 144 rfl ?_
  refine oc (y := mt_271) (pc := 144) (ok_aload_n dX7_qGoesOn_144) 145 rfl ?_
  refine oc (y := mt_271) (pc := 145) (ok_getfield dX7_qGoesOn_145 (fg (own := "GardenChessModel") (idx := 284) (g := 9) (k := 2) (r := (RX7, TX7, 122)) rfl ⟨⟨by decide, by decide⟩, by decide⟩ (Or.inl q1814) (Or.inl rfl) rfl (fg_nil))) 148 rfl ?_
  refine oc (y := mt_271) (pc := 148) (ok_iconst dX7_qGoesOn_148 rfl ⟨by decide, by decide⟩) 149 rfl ?_
  refine oc (y := mt_271) (pc := 149) (ok_isub dX7_qGoesOn_149) 150 rfl ?_
  refine oc (y := mt_271) (pc := 150) (ok_iaload dX7_qGoesOn_150) 151 rfl ?_
  refine oc (y := mt_271) (pc := 151) (ok_bipush dX7_qGoesOn_151 (by decide) ⟨by decide, by decide⟩) 153 rfl ?_
  refine oc_icmp dX7_qGoesOn_153 ⟨by decide, by decide⟩ 156 rfl ?_
  refine oc (y := mt_271) (pc := 156) (ok_iconst dX7_qGoesOn_156 rfl ⟨by decide, by decide⟩) 157 rfl ?_
  exact oc_goto dX7_qGoesOn_157 ⟨by decide, by decide⟩
theorem o_271_160 : okL gmt mt_271 160 b_271_160 := by
  refine oc (y := mt_271) (pc := 160) (ok_iconst dX7_qGoesOn_160 rfl ⟨by decide, by decide⟩) 161 rfl ?_
  exact oc_fall rfl
theorem o_271_161 : okL gmt mt_271 161 b_271_161 := by
  refine oc (y := mt_271) (pc := 161) (ok_istore_n dX7_qGoesOn_161 (by decide)) 162 rfl ?_
  exact oc_fall rfl
theorem o_271_162 : okL gmt mt_271 162 b_271_162 := by
  refine oc (y := mt_271) (pc := 162) (ok_aload_n dX7_qGoesOn_162) 163 rfl ?_
  refine oc (y := mt_271) (pc := 163) (ok_iconst dX7_qGoesOn_163 rfl ⟨by decide, by decide⟩) 164 rfl ?_
  refine oc_V (y := mt_271) (pc := 164) (vcons (y := mt_271) (pc := 164) (len := 3) (n := 2) (M := mt_275) (by decide) rfl (Or.inr rfl) rfl (ck_V dX7_qGoesOn_164 ⟨by decide, by decide, by decide, by decide +kernel⟩ q2341 q2343 qs90 q177 q2344) vnil) (hok0 rfl) (by decide) 167 rfl ?_
  refine oc_if dX7_qGoesOn_167 ⟨by decide, by decide⟩ 170 rfl ?_
  refine oc (y := mt_271) (pc := 170) (ok_aload_n dX7_qGoesOn_170) 171 rfl ?_
  refine oc (y := mt_271) (pc := 171) (ok_iconst dX7_qGoesOn_171 rfl ⟨by decide, by decide⟩) 172 rfl ?_
  refine oc_V (y := mt_271) (pc := 172) (vcons (y := mt_271) (pc := 172) (len := 3) (n := 2) (M := mt_275) (by decide) rfl (Or.inr rfl) rfl (ck_V dX7_qGoesOn_172 ⟨by decide, by decide, by decide, by decide +kernel⟩ q2341 q2343 qs90 q177 q2344) vnil) (hok0 rfl) (by decide) 175 rfl ?_
  refine oc_if dX7_qGoesOn_175 ⟨by decide, by decide⟩ 178 rfl ?_
  exact oc_fall rfl
theorem o_271_178 : okL gmt mt_271 178 b_271_178 := by
  refine oc (y := mt_271) (pc := 178) (ok_aload_n dX7_qGoesOn_178) 179 rfl ?_
  refine oc_V (y := mt_271) (pc := 179) (vcons (y := mt_271) (pc := 179) (len := 3) (n := 1) (M := mt_270) (by decide) rfl (Or.inr rfl) rfl (ck_V dX7_qGoesOn_179 ⟨by decide, by decide, by decide, by decide +kernel⟩ q2322 q2324 qs86 q177 q2325) vnil) (hok0 rfl) (by decide) 182 rfl ?_
  exact oc_goto dX7_qGoesOn_182 ⟨by decide, by decide⟩
theorem o_271_185 : okL gmt mt_271 185 b_271_185 := by
  refine oc (y := mt_271) (pc := 185) (ok_aload_n dX7_qGoesOn_185) 186 rfl ?_
  refine oc (y := mt_271) (pc := 186) (ok_getfield dX7_qGoesOn_186 (fg (own := "GardenChessModel") (idx := 266) (g := 9) (k := 112) (r := (RX7, TX7, 122)) rfl ⟨⟨by decide, by decide⟩, by decide⟩ (Or.inl q1924) (Or.inl rfl) rfl (fg_nil))) 189 rfl ?_
  refine oc (y := mt_271) (pc := 189) (ok_aload_n dX7_qGoesOn_189) 190 rfl ?_
  refine oc (y := mt_271) (pc := 190) (ok_getfield dX7_qGoesOn_190 (fg (own := "GardenChessModel") (idx := 382) (g := 9) (k := 113) (r := (RX7, TX7, 122)) rfl ⟨⟨by decide, by decide⟩, by decide⟩ (Or.inl q1925) (Or.inl rfl) rfl (fg_nil))) 193 rfl ?_
  refine oc (y := mt_271) (pc := 193) (ok_iload_n dX7_qGoesOn_193) 194 rfl ?_
  refine oc (y := mt_271) (pc := 194) (ok_iastore dX7_qGoesOn_194) 195 rfl ?_
  refine oc (y := mt_271) (pc := 195) (ok_aload_n dX7_qGoesOn_195) 196 rfl ?_
  refine oc (y := mt_271) (pc := 196) (ok_dup dX7_qGoesOn_196) 197 rfl ?_
  refine oc (y := mt_271) (pc := 197) (ok_getfield dX7_qGoesOn_197 (fg (own := "GardenChessModel") (idx := 382) (g := 9) (k := 113) (r := (RX7, TX7, 122)) rfl ⟨⟨by decide, by decide⟩, by decide⟩ (Or.inl q1925) (Or.inl rfl) rfl (fg_nil))) 200 rfl ?_
  refine oc (y := mt_271) (pc := 200) (ok_iconst dX7_qGoesOn_200 rfl ⟨by decide, by decide⟩) 201 rfl ?_
  refine oc (y := mt_271) (pc := 201) (ok_iadd dX7_qGoesOn_201) 202 rfl ?_
  refine oc (y := mt_271) (pc := 202) (ok_putfield dX7_qGoesOn_202 (fp (own := "GardenChessModel") (idx := 382) (g := 9) (k := 113) (r := (RX7, TX7, 122)) rfl ⟨⟨by decide, by decide⟩, by decide⟩ (Or.inl q1925) (Or.inl rfl) rfl (Or.inl rfl) (fp_nil))) 205 rfl ?_
  refine oc (y := mt_271) (pc := 205) (ok_iconst dX7_qGoesOn_205 rfl ⟨by decide, by decide⟩) 206 rfl ?_
  exact oc_zret dX7_qGoesOn_206 rfl
theorem o_271_207 : okL gmt mt_271 207 b_271_207 := by
  refine oc (y := mt_271) (pc := 207) (ok_aload_n dX7_qGoesOn_207) 208 rfl ?_
  refine oc (y := mt_271) (pc := 208) (ok_bipush dX7_qGoesOn_208 (by decide) ⟨by decide, by decide⟩) 210 rfl ?_
  refine oc_V (y := mt_271) (pc := 210) (vcons (y := mt_271) (pc := 210) (len := 3) (n := 2) (M := mt_248) (by decide) rfl (Or.inr rfl) rfl (ck_V dX7_qGoesOn_210 ⟨by decide, by decide, by decide, by decide +kernel⟩ q2232 q2234 qs64 q177 q2235) vnil) (hok0 rfl) (by decide) 213 rfl ?_
  refine oc_if dX7_qGoesOn_213 ⟨by decide, by decide⟩ 216 rfl ?_
  refine oc (y := mt_271) (pc := 216) (ok_aload_n dX7_qGoesOn_216) 217 rfl ?_
  refine oc (y := mt_271) (pc := 217) (ok_bipush dX7_qGoesOn_217 (by decide) ⟨by decide, by decide⟩) 219 rfl ?_
  refine oc_V (y := mt_271) (pc := 219) (vcons (y := mt_271) (pc := 219) (len := 3) (n := 2) (M := mt_248) (by decide) rfl (Or.inr rfl) rfl (ck_V dX7_qGoesOn_219 ⟨by decide, by decide, by decide, by decide +kernel⟩ q2232 q2234 qs64 q177 q2235) vnil) (hok0 rfl) (by decide) 222 rfl ?_
  refine oc_if dX7_qGoesOn_222 ⟨by decide, by decide⟩ 225 rfl ?_
  exact oc_fall rfl
theorem o_271_225 : okL gmt mt_271 225 b_271_225 := by
  refine oc (y := mt_271) (pc := 225) (ok_aload_n dX7_qGoesOn_225) 226 rfl ?_
  refine oc (y := mt_271) (pc := 226) (ok_getfield dX7_qGoesOn_226 (fg (own := "GardenChessModel") (idx := 7) (g := 9) (k := 0) (r := (RX7, TX7, 122)) rfl ⟨⟨by decide, by decide⟩, by decide⟩ (Or.inl q1812) (Or.inl rfl) rfl (fg_nil))) 229 rfl ?_
  refine oc (y := mt_271) (pc := 229) (ok_aload_n dX7_qGoesOn_229) 230 rfl ?_
  refine oc (y := mt_271) (pc := 230) (ok_getfield dX7_qGoesOn_230 (fg (own := "GardenChessModel") (idx := 284) (g := 9) (k := 2) (r := (RX7, TX7, 122)) rfl ⟨⟨by decide, by decide⟩, by decide⟩ (Or.inl q1814) (Or.inl rfl) rfl (fg_nil))) 233 rfl ?_
  refine oc (y := mt_271) (pc := 233) (ok_iconst dX7_qGoesOn_233 rfl ⟨by decide, by decide⟩) 234 rfl ?_
  refine oc (y := mt_271) (pc := 234) (ok_isub dX7_qGoesOn_234) 235 rfl ?_
  refine oc (y := mt_271) (pc := 235) (ok_iaload dX7_qGoesOn_235) 236 rfl ?_
  refine oc (y := mt_271) (pc := 236) (ok_bipush dX7_qGoesOn_236 (by decide) ⟨by decide, by decide⟩) 238 rfl ?_
  refine oc_icmp dX7_qGoesOn_238 ⟨by decide, by decide⟩ 241 rfl ?_
  refine oc (y := mt_271) (pc := 241) (ok_iconst dX7_qGoesOn_241 rfl ⟨by decide, by decide⟩) 242 rfl ?_
  exact oc_goto dX7_qGoesOn_242 ⟨by decide, by decide⟩
theorem o_271_245 : okL gmt mt_271 245 b_271_245 := by
  refine oc (y := mt_271) (pc := 245) (ok_iconst dX7_qGoesOn_245 rfl ⟨by decide, by decide⟩) 246 rfl ?_
  exact oc_fall rfl
theorem o_271_246 : okL gmt mt_271 246 b_271_246 := by
  refine oc (y := mt_271) (pc := 246) (ok_istore_n dX7_qGoesOn_246 (by decide)) 247 rfl ?_
  exact oc_fall rfl
theorem o_271_247 : okL gmt mt_271 247 b_271_247 := by
  refine oc (y := mt_271) (pc := 247) (ok_aload_n dX7_qGoesOn_247) 248 rfl ?_
  refine oc (y := mt_271) (pc := 248) (ok_iconst dX7_qGoesOn_248 rfl ⟨by decide, by decide⟩) 249 rfl ?_
  refine oc_V (y := mt_271) (pc := 249) (vcons (y := mt_271) (pc := 249) (len := 3) (n := 2) (M := mt_275) (by decide) rfl (Or.inr rfl) rfl (ck_V dX7_qGoesOn_249 ⟨by decide, by decide, by decide, by decide +kernel⟩ q2341 q2343 qs90 q177 q2344) vnil) (hok0 rfl) (by decide) 252 rfl ?_
  refine oc_if dX7_qGoesOn_252 ⟨by decide, by decide⟩ 255 rfl ?_
  refine oc (y := mt_271) (pc := 255) (ok_aload_n dX7_qGoesOn_255) 256 rfl ?_
  refine oc (y := mt_271) (pc := 256) (ok_iconst dX7_qGoesOn_256 rfl ⟨by decide, by decide⟩) 257 rfl ?_
  refine oc_V (y := mt_271) (pc := 257) (vcons (y := mt_271) (pc := 257) (len := 3) (n := 2) (M := mt_275) (by decide) rfl (Or.inr rfl) rfl (ck_V dX7_qGoesOn_257 ⟨by decide, by decide, by decide, by decide +kernel⟩ q2341 q2343 qs90 q177 q2344) vnil) (hok0 rfl) (by decide) 260 rfl ?_
  refine oc_if dX7_qGoesOn_260 ⟨by decide, by decide⟩ 263 rfl ?_
  refine oc (y := mt_271) (pc := 263) (ok_aload_n dX7_qGoesOn_263) 264 rfl ?_
  refine oc (y := mt_271) (pc := 264) (ok_iconst dX7_qGoesOn_264 rfl ⟨by decide, by decide⟩) 265 rfl ?_
  refine oc_V (y := mt_271) (pc := 265) (vcons (y := mt_271) (pc := 265) (len := 3) (n := 2) (M := mt_275) (by decide) rfl (Or.inr rfl) rfl (ck_V dX7_qGoesOn_265 ⟨by decide, by decide, by decide, by decide +kernel⟩ q2341 q2343 qs90 q177 q2344) vnil) (hok0 rfl) (by decide) 268 rfl ?_
  refine oc_if dX7_qGoesOn_268 ⟨by decide, by decide⟩ 271 rfl ?_
  refine oc (y := mt_271) (pc := 271) (ok_aload_n dX7_qGoesOn_271) 272 rfl ?_
  refine oc (y := mt_271) (pc := 272) (ok_iconst dX7_qGoesOn_272 rfl ⟨by decide, by decide⟩) 273 rfl ?_
  refine oc_V (y := mt_271) (pc := 273) (vcons (y := mt_271) (pc := 273) (len := 3) (n := 2) (M := mt_275) (by decide) rfl (Or.inr rfl) rfl (ck_V dX7_qGoesOn_273 ⟨by decide, by decide, by decide, by decide +kernel⟩ q2341 q2343 qs90 q177 q2344) vnil) (hok0 rfl) (by decide) 276 rfl ?_
  refine oc_if dX7_qGoesOn_276 ⟨by decide, by decide⟩ 279 rfl ?_
  exact oc_fall rfl
theorem o_271_279 : okL gmt mt_271 279 b_271_279 := by
  refine oc (y := mt_271) (pc := 279) (ok_aload_n dX7_qGoesOn_279) 280 rfl ?_
  refine oc_V (y := mt_271) (pc := 280) (vcons (y := mt_271) (pc := 280) (len := 3) (n := 1) (M := mt_270) (by decide) rfl (Or.inr rfl) rfl (ck_V dX7_qGoesOn_280 ⟨by decide, by decide, by decide, by decide +kernel⟩ q2322 q2324 qs86 q177 q2325) vnil) (hok0 rfl) (by decide) 283 rfl ?_
  exact oc_goto dX7_qGoesOn_283 ⟨by decide, by decide⟩
theorem o_271_286 : okL gmt mt_271 286 b_271_286 := by
  refine oc (y := mt_271) (pc := 286) (ok_aload_n dX7_qGoesOn_286) 287 rfl ?_
  refine oc (y := mt_271) (pc := 287) (ok_getfield dX7_qGoesOn_287 (fg (own := "GardenChessModel") (idx := 266) (g := 9) (k := 112) (r := (RX7, TX7, 122)) rfl ⟨⟨by decide, by decide⟩, by decide⟩ (Or.inl q1924) (Or.inl rfl) rfl (fg_nil))) 290 rfl ?_
  refine oc (y := mt_271) (pc := 290) (ok_aload_n dX7_qGoesOn_290) 291 rfl ?_
  refine oc (y := mt_271) (pc := 291) (ok_getfield dX7_qGoesOn_291 (fg (own := "GardenChessModel") (idx := 382) (g := 9) (k := 113) (r := (RX7, TX7, 122)) rfl ⟨⟨by decide, by decide⟩, by decide⟩ (Or.inl q1925) (Or.inl rfl) rfl (fg_nil))) 294 rfl ?_
  refine oc (y := mt_271) (pc := 294) (ok_iload_n dX7_qGoesOn_294) 295 rfl ?_
  refine oc (y := mt_271) (pc := 295) (ok_iastore dX7_qGoesOn_295) 296 rfl ?_
  refine oc (y := mt_271) (pc := 296) (ok_aload_n dX7_qGoesOn_296) 297 rfl ?_
  refine oc (y := mt_271) (pc := 297) (ok_dup dX7_qGoesOn_297) 298 rfl ?_
  refine oc (y := mt_271) (pc := 298) (ok_getfield dX7_qGoesOn_298 (fg (own := "GardenChessModel") (idx := 382) (g := 9) (k := 113) (r := (RX7, TX7, 122)) rfl ⟨⟨by decide, by decide⟩, by decide⟩ (Or.inl q1925) (Or.inl rfl) rfl (fg_nil))) 301 rfl ?_
  refine oc (y := mt_271) (pc := 301) (ok_iconst dX7_qGoesOn_301 rfl ⟨by decide, by decide⟩) 302 rfl ?_
  refine oc (y := mt_271) (pc := 302) (ok_iadd dX7_qGoesOn_302) 303 rfl ?_
  refine oc (y := mt_271) (pc := 303) (ok_putfield dX7_qGoesOn_303 (fp (own := "GardenChessModel") (idx := 382) (g := 9) (k := 113) (r := (RX7, TX7, 122)) rfl ⟨⟨by decide, by decide⟩, by decide⟩ (Or.inl q1925) (Or.inl rfl) rfl (Or.inl rfl) (fp_nil))) 306 rfl ?_
  refine oc (y := mt_271) (pc := 306) (ok_iconst dX7_qGoesOn_306 rfl ⟨by decide, by decide⟩) 307 rfl ?_
  exact oc_zret dX7_qGoesOn_307 rfl
theorem o_271_308 : okL gmt mt_271 308 b_271_308 := by
  refine oc (y := mt_271) (pc := 308) (ok_aload_n dX7_qGoesOn_308) 309 rfl ?_
  refine oc_V (y := mt_271) (pc := 309) (vcons (y := mt_271) (pc := 309) (len := 3) (n := 1) (M := mt_272) (by decide) rfl (Or.inr rfl) rfl (ck_V dX7_qGoesOn_309 ⟨by decide, by decide, by decide, by decide +kernel⟩ q2330 q2332 qs88 q177 q2333) vnil) (hok0 rfl) (by decide) 312 rfl ?_
  refine oc (y := mt_271) (pc := 312) (ok_bipush dX7_qGoesOn_312 (by decide) ⟨by decide, by decide⟩) 314 rfl ?_
  refine oc_icmp dX7_qGoesOn_314 ⟨by decide, by decide⟩ 317 rfl ?_
  refine oc (y := mt_271) (pc := 317) (ok_aload_n dX7_qGoesOn_317) 318 rfl ?_
  refine oc_V (y := mt_271) (pc := 318) (vcons (y := mt_271) (pc := 318) (len := 3) (n := 1) (M := mt_272) (by decide) rfl (Or.inr rfl) rfl (ck_V dX7_qGoesOn_318 ⟨by decide, by decide, by decide, by decide +kernel⟩ q2330 q2332 qs88 q177 q2333) vnil) (hok0 rfl) (by decide) 321 rfl ?_
  refine oc (y := mt_271) (pc := 321) (ok_bipush dX7_qGoesOn_321 (by decide) ⟨by decide, by decide⟩) 323 rfl ?_
  refine oc_icmp dX7_qGoesOn_323 ⟨by decide, by decide⟩ 326 rfl ?_
  exact oc_fall rfl
theorem o_271_326 : okL gmt mt_271 326 b_271_326 := by
  refine oc (y := mt_271) (pc := 326) (ok_aload_n dX7_qGoesOn_326) 327 rfl ?_
  refine oc (y := mt_271) (pc := 327) (ok_bipush dX7_qGoesOn_327 (by decide) ⟨by decide, by decide⟩) 329 rfl ?_
  refine oc_V (y := mt_271) (pc := 329) (vcons (y := mt_271) (pc := 329) (len := 3) (n := 2) (M := mt_247) (by decide) rfl (Or.inr rfl) rfl (ck_V dX7_qGoesOn_329 ⟨by decide, by decide, by decide, by decide +kernel⟩ q2228 q2230 qs63 q177 q2231) vnil) (hok0 rfl) (by decide) 332 rfl ?_
  refine oc (y := mt_271) (pc := 332) (ok_aload_n dX7_qGoesOn_332) 333 rfl ?_
  refine oc (y := mt_271) (pc := 333) (ok_getfield dX7_qGoesOn_333 (fg (own := "GardenChessModel") (idx := 278) (g := 9) (k := 5) (r := (RX7, TX7, 122)) rfl ⟨⟨by decide, by decide⟩, by decide⟩ (Or.inl q1817) (Or.inl rfl) rfl (fg_nil))) 336 rfl ?_
  refine oc_if dX7_qGoesOn_336 ⟨by decide, by decide⟩ 339 rfl ?_
  refine oc (y := mt_271) (pc := 339) (ok_iconst dX7_qGoesOn_339 rfl ⟨by decide, by decide⟩) 340 rfl ?_
  exact oc_zret dX7_qGoesOn_340 rfl
theorem o_271_341 : okL gmt mt_271 341 b_271_341 := by
  refine oc (y := mt_271) (pc := 341) (ok_aload_n dX7_qGoesOn_341) 342 rfl ?_
  refine oc_V (y := mt_271) (pc := 342) (vcons (y := mt_271) (pc := 342) (len := 3) (n := 1) (M := mt_274) (by decide) rfl (Or.inr rfl) rfl (ck_V dX7_qGoesOn_342 ⟨by decide, by decide, by decide, by decide +kernel⟩ q2337 q2339 qs89 q177 q2340) vnil) (hok0 rfl) (by decide) 345 rfl ?_
  refine oc (y := mt_271) (pc := 345) (ok_aload_n dX7_qGoesOn_345) 346 rfl ?_
  refine oc (y := mt_271) (pc := 346) (ok_getfield dX7_qGoesOn_346 (fg (own := "GardenChessModel") (idx := 266) (g := 9) (k := 112) (r := (RX7, TX7, 122)) rfl ⟨⟨by decide, by decide⟩, by decide⟩ (Or.inl q1924) (Or.inl rfl) rfl (fg_nil))) 349 rfl ?_
  refine oc (y := mt_271) (pc := 349) (ok_aload_n dX7_qGoesOn_349) 350 rfl ?_
  refine oc (y := mt_271) (pc := 350) (ok_getfield dX7_qGoesOn_350 (fg (own := "GardenChessModel") (idx := 382) (g := 9) (k := 113) (r := (RX7, TX7, 122)) rfl ⟨⟨by decide, by decide⟩, by decide⟩ (Or.inl q1925) (Or.inl rfl) rfl (fg_nil))) 353 rfl ?_
  refine oc (y := mt_271) (pc := 353) (ok_iconst dX7_qGoesOn_353 rfl ⟨by decide, by decide⟩) 354 rfl ?_
  refine oc (y := mt_271) (pc := 354) (ok_isub dX7_qGoesOn_354) 355 rfl ?_
  refine oc (y := mt_271) (pc := 355) (ok_dup2 dX7_qGoesOn_355) 356 rfl ?_
  refine oc (y := mt_271) (pc := 356) (ok_iaload dX7_qGoesOn_356) 357 rfl ?_
  refine oc (y := mt_271) (pc := 357) (ok_iconst dX7_qGoesOn_357 rfl ⟨by decide, by decide⟩) 358 rfl ?_
  refine oc (y := mt_271) (pc := 358) (ok_iadd dX7_qGoesOn_358) 359 rfl ?_
  refine oc (y := mt_271) (pc := 359) (ok_iastore dX7_qGoesOn_359) 360 rfl ?_
  refine oc (y := mt_271) (pc := 360) (ok_iconst dX7_qGoesOn_360 rfl ⟨by decide, by decide⟩) 361 rfl ?_
  exact oc_zret dX7_qGoesOn_361 rfl
theorem o_271_362 : okL gmt mt_271 362 b_271_362 := by
  refine oc (y := mt_271) (pc := 362) (ok_aload_n dX7_qGoesOn_362) 363 rfl ?_
  refine oc_V (y := mt_271) (pc := 363) (vcons (y := mt_271) (pc := 363) (len := 3) (n := 1) (M := mt_272) (by decide) rfl (Or.inr rfl) rfl (ck_V dX7_qGoesOn_363 ⟨by decide, by decide, by decide, by decide +kernel⟩ q2330 q2332 qs88 q177 q2333) vnil) (hok0 rfl) (by decide) 366 rfl ?_
  refine oc (y := mt_271) (pc := 366) (ok_iconst dX7_qGoesOn_366 rfl ⟨by decide, by decide⟩) 367 rfl ?_
  refine oc_icmp dX7_qGoesOn_367 ⟨by decide, by decide⟩ 370 rfl ?_
  refine oc (y := mt_271) (pc := 370) (ok_aload_n dX7_qGoesOn_370) 371 rfl ?_
  refine oc (y := mt_271) (pc := 371) (ok_getfield dX7_qGoesOn_371 (fg (own := "GardenChessModel") (idx := 278) (g := 9) (k := 5) (r := (RX7, TX7, 122)) rfl ⟨⟨by decide, by decide⟩, by decide⟩ (Or.inl q1817) (Or.inl rfl) rfl (fg_nil))) 374 rfl ?_
  refine oc_if dX7_qGoesOn_374 ⟨by decide, by decide⟩ 377 rfl ?_
  refine oc (y := mt_271) (pc := 377) (ok_aload_n dX7_qGoesOn_377) 378 rfl ?_
  refine oc (y := mt_271) (pc := 378) (ok_iconst dX7_qGoesOn_378 rfl ⟨by decide, by decide⟩) 379 rfl ?_
  refine oc (y := mt_271) (pc := 379) (ok_aload_n dX7_qGoesOn_379) 380 rfl ?_
  refine oc (y := mt_271) (pc := 380) (ok_getfield dX7_qGoesOn_380 (fg (own := "GardenChessModel") (idx := 284) (g := 9) (k := 2) (r := (RX7, TX7, 122)) rfl ⟨⟨by decide, by decide⟩, by decide⟩ (Or.inl q1814) (Or.inl rfl) rfl (fg_nil))) 383 rfl ?_
  refine oc_V (y := mt_271) (pc := 383) (vcons (y := mt_271) (pc := 383) (len := 3) (n := 3) (M := mt_243) (by decide) rfl (Or.inr rfl) rfl (ck_V dX7_qGoesOn_383 ⟨by decide, by decide, by decide, by decide +kernel⟩ q2214 q2216 qs61 q177 q2217) vnil) (hok0 rfl) (by decide) 386 rfl ?_
  exact oc_fall rfl
theorem o_271_386 : okL gmt mt_271 386 b_271_386 := by
  refine oc (y := mt_271) (pc := 386) (ok_iconst dX7_qGoesOn_386 rfl ⟨by decide, by decide⟩) 387 rfl ?_
  exact oc_zret dX7_qGoesOn_387 rfl
theorem ok_271 : ∀ q ∈ pr_271, okL gmt mt_271 q.1 q.2 := pk_c o_271_0 (pk_c o_271_43 (pk_c o_271_110 (pk_c o_271_112 (pk_c o_271_115 (pk_c o_271_122 (pk_c o_271_140 (pk_c o_271_160 (pk_c o_271_161 (pk_c o_271_162 (pk_c o_271_178 (pk_c o_271_185 (pk_c o_271_207 (pk_c o_271_225 (pk_c o_271_245 (pk_c o_271_246 (pk_c o_271_247 (pk_c o_271_279 (pk_c o_271_286 (pk_c o_271_308 (pk_c o_271_326 (pk_c o_271_341 (pk_c o_271_362 (pk_c o_271_386 (pk_n))))))))))))))))))))))))
theorem o_272_0 : okL gmt mt_272 0 b_272_0 := by
  refine oc (y := mt_272) (pc := 0) (ok_aload_n dX7_qBracket_0) 1 rfl ?_
  refine oc (y := mt_272) (pc := 1) (ok_getfield dX7_qBracket_1 (fg (own := "GardenChessModel") (idx := 382) (g := 9) (k := 113) (r := (RX7, TX7, 122)) rfl ⟨⟨by decide, by decide⟩, by decide⟩ (Or.inl q1925) (Or.inl rfl) rfl (fg_nil))) 4 rfl ?_
  refine oc (y := mt_272) (pc := 4) (ok_iconst dX7_qBracket_4 rfl ⟨by decide, by decide⟩) 5 rfl ?_
  refine oc (y := mt_272) (pc := 5) (ok_isub dX7_qBracket_5) 6 rfl ?_
  refine oc (y := mt_272) (pc := 6) (ok_istore_n dX7_qBracket_6 (by decide)) 7 rfl ?_
  exact oc_fall rfl
theorem o_272_7 : okL gmt mt_272 7 b_272_7 := by
  refine oc (y := mt_272) (pc := 7) (ok_iload_n dX7_qBracket_7) 8 rfl ?_
  refine oc (y := mt_272) (pc := 8) (ok_aload_n dX7_qBracket_8) 9 rfl ?_
  refine oc (y := mt_272) (pc := 9) (ok_getfield dX7_qBracket_9 (fg (own := "GardenChessModel") (idx := 388) (g := 9) (k := 115) (r := (RX7, TX7, 122)) rfl ⟨⟨by decide, by decide⟩, by decide⟩ (Or.inl q1927) (Or.inl rfl) rfl (fg_nil))) 12 rfl ?_
  refine oc_icmp dX7_qBracket_12 ⟨by decide, by decide⟩ 15 rfl ?_
  refine oc (y := mt_272) (pc := 15) (ok_aload_n dX7_qBracket_15) 16 rfl ?_
  refine oc (y := mt_272) (pc := 16) (ok_getfield dX7_qBracket_16 (fg (own := "GardenChessModel") (idx := 266) (g := 9) (k := 112) (r := (RX7, TX7, 122)) rfl ⟨⟨by decide, by decide⟩, by decide⟩ (Or.inl q1924) (Or.inl rfl) rfl (fg_nil))) 19 rfl ?_
  refine oc (y := mt_272) (pc := 19) (ok_iload_n dX7_qBracket_19) 20 rfl ?_
  refine oc (y := mt_272) (pc := 20) (ok_iaload dX7_qBracket_20) 21 rfl ?_
  refine oc_S (y := mt_272) (pc := 21) (M := mt_273) rfl (ck_S dX7_qBracket_21 ⟨by decide, by decide, by decide, by decide +kernel⟩ q2334 q2335 q177 q2336) (hok0 rfl) (by decide) 24 rfl ?_
  refine oc_if dX7_qBracket_24 ⟨by decide, by decide⟩ 27 rfl ?_
  refine oc (y := mt_272) (pc := 27) (ok_iinc dX7_qBracket_27 (by decide)) 30 rfl ?_
  exact oc_goto dX7_qBracket_30 ⟨by decide, by decide⟩
theorem o_272_33 : okL gmt mt_272 33 b_272_33 := by
  refine oc (y := mt_272) (pc := 33) (ok_iload_n dX7_qBracket_33) 34 rfl ?_
  refine oc (y := mt_272) (pc := 34) (ok_aload_n dX7_qBracket_34) 35 rfl ?_
  refine oc (y := mt_272) (pc := 35) (ok_getfield dX7_qBracket_35 (fg (own := "GardenChessModel") (idx := 388) (g := 9) (k := 115) (r := (RX7, TX7, 122)) rfl ⟨⟨by decide, by decide⟩, by decide⟩ (Or.inl q1927) (Or.inl rfl) rfl (fg_nil))) 38 rfl ?_
  refine oc_icmp dX7_qBracket_38 ⟨by decide, by decide⟩ 41 rfl ?_
  refine oc (y := mt_272) (pc := 41) (ok_aload_n dX7_qBracket_41) 42 rfl ?_
  refine oc (y := mt_272) (pc := 42) (ok_getfield dX7_qBracket_42 (fg (own := "GardenChessModel") (idx := 266) (g := 9) (k := 112) (r := (RX7, TX7, 122)) rfl ⟨⟨by decide, by decide⟩, by decide⟩ (Or.inl q1924) (Or.inl rfl) rfl (fg_nil))) 45 rfl ?_
  refine oc (y := mt_272) (pc := 45) (ok_iload_n dX7_qBracket_45) 46 rfl ?_
  refine oc (y := mt_272) (pc := 46) (ok_iaload dX7_qBracket_46) 47 rfl ?_
  exact oc_goto dX7_qBracket_47 ⟨by decide, by decide⟩
theorem o_272_50 : okL gmt mt_272 50 b_272_50 := by
  refine oc (y := mt_272) (pc := 50) (ok_iconst dX7_qBracket_50 rfl ⟨by decide, by decide⟩) 51 rfl ?_
  exact oc_fall rfl
theorem o_272_51 : okL gmt mt_272 51 b_272_51 := by
  exact oc_iret dX7_qBracket_51 rfl
theorem ok_272 : ∀ q ∈ pr_272, okL gmt mt_272 q.1 q.2 := pk_c o_272_0 (pk_c o_272_7 (pk_c o_272_33 (pk_c o_272_50 (pk_c o_272_51 (pk_n)))))
theorem o_273_0 : okL gmt mt_273 0 b_273_0 := by
  refine oc (y := mt_273) (pc := 0) (ok_iload_n dX7_qIsBracket_0) 1 rfl ?_
  refine oc (y := mt_273) (pc := 1) (ok_bipush dX7_qIsBracket_1 (by decide) ⟨by decide, by decide⟩) 3 rfl ?_
  refine oc_icmp dX7_qIsBracket_3 ⟨by decide, by decide⟩ 6 rfl ?_
  refine oc (y := mt_273) (pc := 6) (ok_iload_n dX7_qIsBracket_6) 7 rfl ?_
  refine oc (y := mt_273) (pc := 7) (ok_bipush dX7_qIsBracket_7 (by decide) ⟨by decide, by decide⟩) 9 rfl ?_
  refine oc_icmp dX7_qIsBracket_9 ⟨by decide, by decide⟩ 12 rfl ?_
  refine oc (y := mt_273) (pc := 12) (ok_iconst dX7_qIsBracket_12 rfl ⟨by decide, by decide⟩) 13 rfl ?_
  exact oc_goto dX7_qIsBracket_13 ⟨by decide, by decide⟩
theorem o_273_16 : okL gmt mt_273 16 b_273_16 := by
  refine oc (y := mt_273) (pc := 16) (ok_iconst dX7_qIsBracket_16 rfl ⟨by decide, by decide⟩) 17 rfl ?_
  exact oc_fall rfl
theorem o_273_17 : okL gmt mt_273 17 b_273_17 := by
  exact oc_zret dX7_qIsBracket_17 rfl
theorem ok_273 : ∀ q ∈ pr_273, okL gmt mt_273 q.1 q.2 := pk_c o_273_0 (pk_c o_273_16 (pk_c o_273_17 (pk_n)))
theorem o_274_0 : okL gmt mt_274 0 b_274_0 := by
  refine oc (y := mt_274) (pc := 0) (ok_aload_n dX7_qDropsToBracket_0) 1 rfl ?_
  refine oc (y := mt_274) (pc := 1) (ok_getfield dX7_qDropsToBracket_1 (fg (own := "GardenChessModel") (idx := 382) (g := 9) (k := 113) (r := (RX7, TX7, 122)) rfl ⟨⟨by decide, by decide⟩, by decide⟩ (Or.inl q1925) (Or.inl rfl) rfl (fg_nil))) 4 rfl ?_
  refine oc (y := mt_274) (pc := 4) (ok_aload_n dX7_qDropsToBracket_4) 5 rfl ?_
  refine oc (y := mt_274) (pc := 5) (ok_getfield dX7_qDropsToBracket_5 (fg (own := "GardenChessModel") (idx := 388) (g := 9) (k := 115) (r := (RX7, TX7, 122)) rfl ⟨⟨by decide, by decide⟩, by decide⟩ (Or.inl q1927) (Or.inl rfl) rfl (fg_nil))) 8 rfl ?_
  refine oc_icmp dX7_qDropsToBracket_8 ⟨by decide, by decide⟩ 11 rfl ?_
  refine oc (y := mt_274) (pc := 11) (ok_aload_n dX7_qDropsToBracket_11) 12 rfl ?_
  refine oc (y := mt_274) (pc := 12) (ok_getfield dX7_qDropsToBracket_12 (fg (own := "GardenChessModel") (idx := 266) (g := 9) (k := 112) (r := (RX7, TX7, 122)) rfl ⟨⟨by decide, by decide⟩, by decide⟩ (Or.inl q1924) (Or.inl rfl) rfl (fg_nil))) 15 rfl ?_
  refine oc (y := mt_274) (pc := 15) (ok_aload_n dX7_qDropsToBracket_15) 16 rfl ?_
  refine oc (y := mt_274) (pc := 16) (ok_getfield dX7_qDropsToBracket_16 (fg (own := "GardenChessModel") (idx := 382) (g := 9) (k := 113) (r := (RX7, TX7, 122)) rfl ⟨⟨by decide, by decide⟩, by decide⟩ (Or.inl q1925) (Or.inl rfl) rfl (fg_nil))) 19 rfl ?_
  refine oc (y := mt_274) (pc := 19) (ok_iconst dX7_qDropsToBracket_19 rfl ⟨by decide, by decide⟩) 20 rfl ?_
  refine oc (y := mt_274) (pc := 20) (ok_isub dX7_qDropsToBracket_20) 21 rfl ?_
  refine oc (y := mt_274) (pc := 21) (ok_iaload dX7_qDropsToBracket_21) 22 rfl ?_
  refine oc_S (y := mt_274) (pc := 22) (M := mt_273) rfl (ck_S dX7_qDropsToBracket_22 ⟨by decide, by decide, by decide, by decide +kernel⟩ q2334 q2335 q177 q2336) (hok0 rfl) (by decide) 25 rfl ?_
  refine oc_if dX7_qDropsToBracket_25 ⟨by decide, by decide⟩ 28 rfl ?_
  refine oc (y := mt_274) (pc := 28) (ok_aload_n dX7_qDropsToBracket_28) 29 rfl ?_
  refine oc_V (y := mt_274) (pc := 29) (vcons (y := mt_274) (pc := 29) (len := 3) (n := 1) (M := mt_270) (by decide) rfl (Or.inr rfl) rfl (ck_V dX7_qDropsToBracket_29 ⟨by decide, by decide, by decide, by decide +kernel⟩ q2322 q2324 qs86 q177 q2325) vnil) (hok0 rfl) (by decide) 32 rfl ?_
  exact oc_goto dX7_qDropsToBracket_32 ⟨by decide, by decide⟩
theorem o_274_35 : okL gmt mt_274 35 b_274_35 := by
  exact oc_ret dX7_qDropsToBracket_35 rfl
theorem ok_274 : ∀ q ∈ pr_274, okL gmt mt_274 q.1 q.2 := pk_c o_274_0 (pk_c o_274_35 (pk_n))
theorem o_275_0 : okL gmt mt_275 0 b_275_0 := by
  refine oc (y := mt_275) (pc := 0) (ok_aload_n dX7_qIsOn_0) 1 rfl ?_
  refine oc (y := mt_275) (pc := 1) (ok_getfield dX7_qIsOn_1 (fg (own := "GardenChessModel") (idx := 382) (g := 9) (k := 113) (r := (RX7, TX7, 122)) rfl ⟨⟨by decide, by decide⟩, by decide⟩ (Or.inl q1925) (Or.inl rfl) rfl (fg_nil))) 4 rfl ?_
  refine oc_if dX7_qIsOn_4 ⟨by decide, by decide⟩ 7 rfl ?_
  refine oc (y := mt_275) (pc := 7) (ok_aload_n dX7_qIsOn_7) 8 rfl ?_
  refine oc (y := mt_275) (pc := 8) (ok_getfield dX7_qIsOn_8 (fg (own := "GardenChessModel") (idx := 266) (g := 9) (k := 112) (r := (RX7, TX7, 122)) rfl ⟨⟨by decide, by decide⟩, by decide⟩ (Or.inl q1924) (Or.inl rfl) rfl (fg_nil))) 11 rfl ?_
  refine oc (y := mt_275) (pc := 11) (ok_aload_n dX7_qIsOn_11) 12 rfl ?_
  refine oc (y := mt_275) (pc := 12) (ok_getfield dX7_qIsOn_12 (fg (own := "GardenChessModel") (idx := 382) (g := 9) (k := 113) (r := (RX7, TX7, 122)) rfl ⟨⟨by decide, by decide⟩, by decide⟩ (Or.inl q1925) (Or.inl rfl) rfl (fg_nil))) 15 rfl ?_
  refine oc (y := mt_275) (pc := 15) (ok_iconst dX7_qIsOn_15 rfl ⟨by decide, by decide⟩) 16 rfl ?_
  refine oc (y := mt_275) (pc := 16) (ok_isub dX7_qIsOn_16) 17 rfl ?_
  refine oc (y := mt_275) (pc := 17) (ok_iaload dX7_qIsOn_17) 18 rfl ?_
  refine oc (y := mt_275) (pc := 18) (ok_iload_n dX7_qIsOn_18) 19 rfl ?_
  refine oc_icmp dX7_qIsOn_19 ⟨by decide, by decide⟩ 22 rfl ?_
  refine oc (y := mt_275) (pc := 22) (ok_iconst dX7_qIsOn_22 rfl ⟨by decide, by decide⟩) 23 rfl ?_
  exact oc_goto dX7_qIsOn_23 ⟨by decide, by decide⟩
theorem o_275_26 : okL gmt mt_275 26 b_275_26 := by
  refine oc (y := mt_275) (pc := 26) (ok_iconst dX7_qIsOn_26 rfl ⟨by decide, by decide⟩) 27 rfl ?_
  exact oc_fall rfl
theorem o_275_27 : okL gmt mt_275 27 b_275_27 := by
  exact oc_zret dX7_qIsOn_27 rfl
theorem ok_275 : ∀ q ∈ pr_275, okL gmt mt_275 q.1 q.2 := pk_c o_275_0 (pk_c o_275_26 (pk_c o_275_27 (pk_n)))
theorem o_276_0 : okL gmt mt_276 0 b_276_0 := by
  refine oc (y := mt_276) (pc := 0) (ok_aload_n dX7_stands_0) 1 rfl ?_
  refine oc (y := mt_276) (pc := 1) (ok_iconst dX7_stands_1 rfl ⟨by decide, by decide⟩) 2 rfl ?_
  refine oc (y := mt_276) (pc := 2) (ok_putfield dX7_stands_2 (fp (own := "GardenChessModel") (idx := 424) (g := 9) (k := 58) (r := (RX7, TX7, 122)) rfl ⟨⟨by decide, by decide⟩, by decide⟩ (Or.inl q1870) (Or.inl rfl) rfl (Or.inl rfl) (fp_nil))) 5 rfl ?_
  refine oc (y := mt_276) (pc := 5) (ok_iconst dX7_stands_5 rfl ⟨by decide, by decide⟩) 6 rfl ?_
  refine oc (y := mt_276) (pc := 6) (ok_istore_n dX7_stands_6 (by decide)) 7 rfl ?_
  exact oc_fall rfl
theorem o_276_7 : okL gmt mt_276 7 b_276_7 := by
  refine oc (y := mt_276) (pc := 7) (ok_iload_n dX7_stands_7) 8 rfl ?_
  refine oc (y := mt_276) (pc := 8) (ok_iconst dX7_stands_8 rfl ⟨by decide, by decide⟩) 9 rfl ?_
  refine oc_icmp dX7_stands_9 ⟨by decide, by decide⟩ 12 rfl ?_
  refine oc (y := mt_276) (pc := 12) (ok_aload_n dX7_stands_12) 13 rfl ?_
  refine oc (y := mt_276) (pc := 13) (ok_getfield dX7_stands_13 (fg (own := "GardenChessModel") (idx := 120) (g := 9) (k := 45) (r := (RX7, TX7, 122)) rfl ⟨⟨by decide, by decide⟩, by decide⟩ (Or.inl q1857) (Or.inl rfl) rfl (fg_nil))) 16 rfl ?_
  refine oc (y := mt_276) (pc := 16) (ok_iconst dX7_stands_16 rfl ⟨by decide, by decide⟩) 17 rfl ?_
  refine oc (y := mt_276) (pc := 17) (ok_iload_n dX7_stands_17) 18 rfl ?_
  refine oc (y := mt_276) (pc := 18) (ok_iadd dX7_stands_18) 19 rfl ?_
  refine oc (y := mt_276) (pc := 19) (ok_aload_n dX7_stands_19) 20 rfl ?_
  refine oc (y := mt_276) (pc := 20) (ok_getfield dX7_stands_20 (fg (own := "GardenChessModel") (idx := 120) (g := 9) (k := 45) (r := (RX7, TX7, 122)) rfl ⟨⟨by decide, by decide⟩, by decide⟩ (Or.inl q1857) (Or.inl rfl) rfl (fg_nil))) 23 rfl ?_
  refine oc (y := mt_276) (pc := 23) (ok_iload_n dX7_stands_23) 24 rfl ?_
  refine oc (y := mt_276) (pc := 24) (ok_iaload dX7_stands_24) 25 rfl ?_
  refine oc (y := mt_276) (pc := 25) (ok_iastore dX7_stands_25) 26 rfl ?_
  refine oc (y := mt_276) (pc := 26) (ok_iinc dX7_stands_26 (by decide)) 29 rfl ?_
  exact oc_goto dX7_stands_29 ⟨by decide, by decide⟩
theorem o_276_32 : okL gmt mt_276 32 b_276_32 := by
  refine oc (y := mt_276) (pc := 32) (ok_iconst dX7_stands_32 rfl ⟨by decide, by decide⟩) 33 rfl ?_
  refine oc (y := mt_276) (pc := 33) (ok_istore_n dX7_stands_33 (by decide)) 34 rfl ?_
  exact oc_fall rfl
theorem o_276_34 : okL gmt mt_276 34 b_276_34 := by
  refine oc (y := mt_276) (pc := 34) (ok_iload_n dX7_stands_34) 35 rfl ?_
  refine oc (y := mt_276) (pc := 35) (ok_bipush dX7_stands_35 (by decide) ⟨by decide, by decide⟩) 37 rfl ?_
  refine oc_icmp dX7_stands_37 ⟨by decide, by decide⟩ 40 rfl ?_
  refine oc (y := mt_276) (pc := 40) (ok_aload_n dX7_stands_40) 41 rfl ?_
  refine oc (y := mt_276) (pc := 41) (ok_getfield dX7_stands_41 (fg (own := "GardenChessModel") (idx := 123) (g := 9) (k := 46) (r := (RX7, TX7, 122)) rfl ⟨⟨by decide, by decide⟩, by decide⟩ (Or.inl q1858) (Or.inl rfl) rfl (fg_nil))) 44 rfl ?_
  refine oc (y := mt_276) (pc := 44) (ok_bipush dX7_stands_44 (by decide) ⟨by decide, by decide⟩) 46 rfl ?_
  refine oc (y := mt_276) (pc := 46) (ok_iload_n dX7_stands_46) 47 rfl ?_
  refine oc (y := mt_276) (pc := 47) (ok_iadd dX7_stands_47) 48 rfl ?_
  refine oc (y := mt_276) (pc := 48) (ok_aload_n dX7_stands_48) 49 rfl ?_
  refine oc (y := mt_276) (pc := 49) (ok_getfield dX7_stands_49 (fg (own := "GardenChessModel") (idx := 123) (g := 9) (k := 46) (r := (RX7, TX7, 122)) rfl ⟨⟨by decide, by decide⟩, by decide⟩ (Or.inl q1858) (Or.inl rfl) rfl (fg_nil))) 52 rfl ?_
  refine oc (y := mt_276) (pc := 52) (ok_iload_n dX7_stands_52) 53 rfl ?_
  refine oc (y := mt_276) (pc := 53) (ok_laload dX7_stands_53) 54 rfl ?_
  refine oc (y := mt_276) (pc := 54) (ok_lastore dX7_stands_54) 55 rfl ?_
  refine oc (y := mt_276) (pc := 55) (ok_iinc dX7_stands_55 (by decide)) 58 rfl ?_
  exact oc_goto dX7_stands_58 ⟨by decide, by decide⟩
theorem o_276_61 : okL gmt mt_276 61 b_276_61 := by
  refine oc (y := mt_276) (pc := 61) (ok_iconst dX7_stands_61 rfl ⟨by decide, by decide⟩) 62 rfl ?_
  refine oc (y := mt_276) (pc := 62) (ok_istore_n dX7_stands_62 (by decide)) 63 rfl ?_
  exact oc_fall rfl
theorem o_276_63 : okL gmt mt_276 63 b_276_63 := by
  refine oc (y := mt_276) (pc := 63) (ok_iload_n dX7_stands_63) 64 rfl ?_
  refine oc (y := mt_276) (pc := 64) (ok_iconst dX7_stands_64 rfl ⟨by decide, by decide⟩) 65 rfl ?_
  refine oc_icmp dX7_stands_65 ⟨by decide, by decide⟩ 68 rfl ?_
  refine oc (y := mt_276) (pc := 68) (ok_aload_n dX7_stands_68) 69 rfl ?_
  refine oc (y := mt_276) (pc := 69) (ok_getfield dX7_stands_69 (fg (own := "GardenChessModel") (idx := 127) (g := 9) (k := 47) (r := (RX7, TX7, 122)) rfl ⟨⟨by decide, by decide⟩, by decide⟩ (Or.inl q1859) (Or.inl rfl) rfl (fg_nil))) 72 rfl ?_
  refine oc (y := mt_276) (pc := 72) (ok_iconst dX7_stands_72 rfl ⟨by decide, by decide⟩) 73 rfl ?_
  refine oc (y := mt_276) (pc := 73) (ok_iload_n dX7_stands_73) 74 rfl ?_
  refine oc (y := mt_276) (pc := 74) (ok_iadd dX7_stands_74) 75 rfl ?_
  refine oc (y := mt_276) (pc := 75) (ok_aload_n dX7_stands_75) 76 rfl ?_
  refine oc (y := mt_276) (pc := 76) (ok_getfield dX7_stands_76 (fg (own := "GardenChessModel") (idx := 127) (g := 9) (k := 47) (r := (RX7, TX7, 122)) rfl ⟨⟨by decide, by decide⟩, by decide⟩ (Or.inl q1859) (Or.inl rfl) rfl (fg_nil))) 79 rfl ?_
  refine oc (y := mt_276) (pc := 79) (ok_iload_n dX7_stands_79) 80 rfl ?_
  refine oc (y := mt_276) (pc := 80) (ok_iaload dX7_stands_80) 81 rfl ?_
  refine oc (y := mt_276) (pc := 81) (ok_iastore dX7_stands_81) 82 rfl ?_
  refine oc (y := mt_276) (pc := 82) (ok_iinc dX7_stands_82 (by decide)) 85 rfl ?_
  exact oc_goto dX7_stands_85 ⟨by decide, by decide⟩
theorem o_276_88 : okL gmt mt_276 88 b_276_88 := by
  refine oc (y := mt_276) (pc := 88) (ok_iconst dX7_stands_88 rfl ⟨by decide, by decide⟩) 89 rfl ?_
  refine oc (y := mt_276) (pc := 89) (ok_istore_n dX7_stands_89 (by decide)) 90 rfl ?_
  exact oc_fall rfl
theorem o_276_90 : okL gmt mt_276 90 b_276_90 := by
  refine oc (y := mt_276) (pc := 90) (ok_iload_n dX7_stands_90) 91 rfl ?_
  refine oc (y := mt_276) (pc := 91) (ok_bipush dX7_stands_91 (by decide) ⟨by decide, by decide⟩) 93 rfl ?_
  refine oc_icmp dX7_stands_93 ⟨by decide, by decide⟩ 96 rfl ?_
  refine oc (y := mt_276) (pc := 96) (ok_aload_n dX7_stands_96) 97 rfl ?_
  refine oc (y := mt_276) (pc := 97) (ok_getfield dX7_stands_97 (fg (own := "GardenChessModel") (idx := 130) (g := 9) (k := 48) (r := (RX7, TX7, 122)) rfl ⟨⟨by decide, by decide⟩, by decide⟩ (Or.inl q1860) (Or.inl rfl) rfl (fg_nil))) 100 rfl ?_
  refine oc (y := mt_276) (pc := 100) (ok_bipush dX7_stands_100 (by decide) ⟨by decide, by decide⟩) 102 rfl ?_
  refine oc (y := mt_276) (pc := 102) (ok_iload_n dX7_stands_102) 103 rfl ?_
  refine oc (y := mt_276) (pc := 103) (ok_iadd dX7_stands_103) 104 rfl ?_
  refine oc (y := mt_276) (pc := 104) (ok_aload_n dX7_stands_104) 105 rfl ?_
  refine oc (y := mt_276) (pc := 105) (ok_getfield dX7_stands_105 (fg (own := "GardenChessModel") (idx := 130) (g := 9) (k := 48) (r := (RX7, TX7, 122)) rfl ⟨⟨by decide, by decide⟩, by decide⟩ (Or.inl q1860) (Or.inl rfl) rfl (fg_nil))) 108 rfl ?_
  refine oc (y := mt_276) (pc := 108) (ok_iload_n dX7_stands_108) 109 rfl ?_
  refine oc (y := mt_276) (pc := 109) (ok_iaload dX7_stands_109) 110 rfl ?_
  refine oc (y := mt_276) (pc := 110) (ok_iastore dX7_stands_110) 111 rfl ?_
  refine oc (y := mt_276) (pc := 111) (ok_iinc dX7_stands_111 (by decide)) 114 rfl ?_
  exact oc_goto dX7_stands_114 ⟨by decide, by decide⟩
theorem o_276_117 : okL gmt mt_276 117 b_276_117 := by
  refine oc (y := mt_276) (pc := 117) (ok_iconst dX7_stands_117 rfl ⟨by decide, by decide⟩) 118 rfl ?_
  refine oc (y := mt_276) (pc := 118) (ok_istore_n dX7_stands_118 (by decide)) 119 rfl ?_
  exact oc_fall rfl
theorem o_276_119 : okL gmt mt_276 119 b_276_119 := by
  refine oc (y := mt_276) (pc := 119) (ok_iload_n dX7_stands_119) 120 rfl ?_
  refine oc (y := mt_276) (pc := 120) (ok_bipush dX7_stands_120 (by decide) ⟨by decide, by decide⟩) 122 rfl ?_
  refine oc_icmp dX7_stands_122 ⟨by decide, by decide⟩ 125 rfl ?_
  refine oc (y := mt_276) (pc := 125) (ok_aload_n dX7_stands_125) 126 rfl ?_
  refine oc (y := mt_276) (pc := 126) (ok_getfield dX7_stands_126 (fg (own := "GardenChessModel") (idx := 133) (g := 9) (k := 49) (r := (RX7, TX7, 122)) rfl ⟨⟨by decide, by decide⟩, by decide⟩ (Or.inl q1861) (Or.inl rfl) rfl (fg_nil))) 129 rfl ?_
  refine oc (y := mt_276) (pc := 129) (ok_bipush dX7_stands_129 (by decide) ⟨by decide, by decide⟩) 131 rfl ?_
  refine oc (y := mt_276) (pc := 131) (ok_iload_n dX7_stands_131) 132 rfl ?_
  refine oc (y := mt_276) (pc := 132) (ok_iadd dX7_stands_132) 133 rfl ?_
  refine oc (y := mt_276) (pc := 133) (ok_aload_n dX7_stands_133) 134 rfl ?_
  refine oc (y := mt_276) (pc := 134) (ok_getfield dX7_stands_134 (fg (own := "GardenChessModel") (idx := 133) (g := 9) (k := 49) (r := (RX7, TX7, 122)) rfl ⟨⟨by decide, by decide⟩, by decide⟩ (Or.inl q1861) (Or.inl rfl) rfl (fg_nil))) 137 rfl ?_
  refine oc (y := mt_276) (pc := 137) (ok_iload_n dX7_stands_137) 138 rfl ?_
  refine oc (y := mt_276) (pc := 138) (ok_iaload dX7_stands_138) 139 rfl ?_
  refine oc (y := mt_276) (pc := 139) (ok_iastore dX7_stands_139) 140 rfl ?_
  refine oc (y := mt_276) (pc := 140) (ok_iinc dX7_stands_140 (by decide)) 143 rfl ?_
  exact oc_goto dX7_stands_143 ⟨by decide, by decide⟩
theorem o_276_146 : okL gmt mt_276 146 b_276_146 := by
  refine oc (y := mt_276) (pc := 146) (ok_iconst dX7_stands_146 rfl ⟨by decide, by decide⟩) 147 rfl ?_
  refine oc (y := mt_276) (pc := 147) (ok_istore_n dX7_stands_147 (by decide)) 148 rfl ?_
  exact oc_fall rfl
theorem o_276_148 : okL gmt mt_276 148 b_276_148 := by
  refine oc (y := mt_276) (pc := 148) (ok_iload_n dX7_stands_148) 149 rfl ?_
  refine oc (y := mt_276) (pc := 149) (ok_bipush dX7_stands_149 (by decide) ⟨by decide, by decide⟩) 151 rfl ?_
  refine oc_icmp dX7_stands_151 ⟨by decide, by decide⟩ 154 rfl ?_
  refine oc (y := mt_276) (pc := 154) (ok_aload_n dX7_stands_154) 155 rfl ?_
  refine oc (y := mt_276) (pc := 155) (ok_getfield dX7_stands_155 (fg (own := "GardenChessModel") (idx := 139) (g := 9) (k := 51) (r := (RX7, TX7, 122)) rfl ⟨⟨by decide, by decide⟩, by decide⟩ (Or.inl q1863) (Or.inl rfl) rfl (fg_nil))) 158 rfl ?_
  refine oc (y := mt_276) (pc := 158) (ok_bipush dX7_stands_158 (by decide) ⟨by decide, by decide⟩) 160 rfl ?_
  refine oc (y := mt_276) (pc := 160) (ok_iload_n dX7_stands_160) 161 rfl ?_
  refine oc (y := mt_276) (pc := 161) (ok_iadd dX7_stands_161) 162 rfl ?_
  refine oc (y := mt_276) (pc := 162) (ok_aload_n dX7_stands_162) 163 rfl ?_
  refine oc (y := mt_276) (pc := 163) (ok_getfield dX7_stands_163 (fg (own := "GardenChessModel") (idx := 139) (g := 9) (k := 51) (r := (RX7, TX7, 122)) rfl ⟨⟨by decide, by decide⟩, by decide⟩ (Or.inl q1863) (Or.inl rfl) rfl (fg_nil))) 166 rfl ?_
  refine oc (y := mt_276) (pc := 166) (ok_iload_n dX7_stands_166) 167 rfl ?_
  refine oc (y := mt_276) (pc := 167) (ok_iaload dX7_stands_167) 168 rfl ?_
  refine oc (y := mt_276) (pc := 168) (ok_iastore dX7_stands_168) 169 rfl ?_
  refine oc (y := mt_276) (pc := 169) (ok_iinc dX7_stands_169 (by decide)) 172 rfl ?_
  exact oc_goto dX7_stands_172 ⟨by decide, by decide⟩
theorem o_276_175 : okL gmt mt_276 175 b_276_175 := by
  refine oc (y := mt_276) (pc := 175) (ok_iconst dX7_stands_175 rfl ⟨by decide, by decide⟩) 176 rfl ?_
  refine oc (y := mt_276) (pc := 176) (ok_istore_n dX7_stands_176 (by decide)) 177 rfl ?_
  exact oc_fall rfl
theorem o_276_177 : okL gmt mt_276 177 b_276_177 := by
  refine oc (y := mt_276) (pc := 177) (ok_iload_n dX7_stands_177) 178 rfl ?_
  refine oc (y := mt_276) (pc := 178) (ok_iconst dX7_stands_178 rfl ⟨by decide, by decide⟩) 179 rfl ?_
  refine oc_icmp dX7_stands_179 ⟨by decide, by decide⟩ 182 rfl ?_
  refine oc (y := mt_276) (pc := 182) (ok_aload_n dX7_stands_182) 183 rfl ?_
  refine oc (y := mt_276) (pc := 183) (ok_getfield dX7_stands_183 (fg (own := "GardenChessModel") (idx := 142) (g := 9) (k := 52) (r := (RX7, TX7, 122)) rfl ⟨⟨by decide, by decide⟩, by decide⟩ (Or.inl q1864) (Or.inl rfl) rfl (fg_nil))) 186 rfl ?_
  refine oc (y := mt_276) (pc := 186) (ok_iconst dX7_stands_186 rfl ⟨by decide, by decide⟩) 187 rfl ?_
  refine oc (y := mt_276) (pc := 187) (ok_iload_n dX7_stands_187) 188 rfl ?_
  refine oc (y := mt_276) (pc := 188) (ok_iadd dX7_stands_188) 189 rfl ?_
  refine oc (y := mt_276) (pc := 189) (ok_aload_n dX7_stands_189) 190 rfl ?_
  refine oc (y := mt_276) (pc := 190) (ok_getfield dX7_stands_190 (fg (own := "GardenChessModel") (idx := 142) (g := 9) (k := 52) (r := (RX7, TX7, 122)) rfl ⟨⟨by decide, by decide⟩, by decide⟩ (Or.inl q1864) (Or.inl rfl) rfl (fg_nil))) 193 rfl ?_
  refine oc (y := mt_276) (pc := 193) (ok_iload_n dX7_stands_193) 194 rfl ?_
  refine oc (y := mt_276) (pc := 194) (ok_iaload dX7_stands_194) 195 rfl ?_
  refine oc (y := mt_276) (pc := 195) (ok_iastore dX7_stands_195) 196 rfl ?_
  refine oc (y := mt_276) (pc := 196) (ok_iinc dX7_stands_196 (by decide)) 199 rfl ?_
  exact oc_goto dX7_stands_199 ⟨by decide, by decide⟩
theorem o_276_202 : okL gmt mt_276 202 b_276_202 := by
  refine oc (y := mt_276) (pc := 202) (ok_aload_n dX7_stands_202) 203 rfl ?_
  refine oc (y := mt_276) (pc := 203) (ok_getfield dX7_stands_203 (fg (own := "GardenChessModel") (idx := 145) (g := 9) (k := 53) (r := (RX7, TX7, 122)) rfl ⟨⟨by decide, by decide⟩, by decide⟩ (Or.inl q1865) (Or.inl rfl) rfl (fg_nil))) 206 rfl ?_
  refine oc (y := mt_276) (pc := 206) (ok_iconst dX7_stands_206 rfl ⟨by decide, by decide⟩) 207 rfl ?_
  refine oc (y := mt_276) (pc := 207) (ok_aload_n dX7_stands_207) 208 rfl ?_
  refine oc (y := mt_276) (pc := 208) (ok_getfield dX7_stands_208 (fg (own := "GardenChessModel") (idx := 145) (g := 9) (k := 53) (r := (RX7, TX7, 122)) rfl ⟨⟨by decide, by decide⟩, by decide⟩ (Or.inl q1865) (Or.inl rfl) rfl (fg_nil))) 211 rfl ?_
  refine oc (y := mt_276) (pc := 211) (ok_iconst dX7_stands_211 rfl ⟨by decide, by decide⟩) 212 rfl ?_
  refine oc (y := mt_276) (pc := 212) (ok_iaload dX7_stands_212) 213 rfl ?_
  refine oc (y := mt_276) (pc := 213) (ok_iastore dX7_stands_213) 214 rfl ?_
  refine oc (y := mt_276) (pc := 214) (ok_aload_n dX7_stands_214) 215 rfl ?_
  refine oc (y := mt_276) (pc := 215) (ok_getfield dX7_stands_215 (fg (own := "GardenChessModel") (idx := 148) (g := 9) (k := 54) (r := (RX7, TX7, 122)) rfl ⟨⟨by decide, by decide⟩, by decide⟩ (Or.inl q1866) (Or.inl rfl) rfl (fg_nil))) 218 rfl ?_
  refine oc (y := mt_276) (pc := 218) (ok_iconst dX7_stands_218 rfl ⟨by decide, by decide⟩) 219 rfl ?_
  refine oc (y := mt_276) (pc := 219) (ok_aload_n dX7_stands_219) 220 rfl ?_
  refine oc (y := mt_276) (pc := 220) (ok_getfield dX7_stands_220 (fg (own := "GardenChessModel") (idx := 148) (g := 9) (k := 54) (r := (RX7, TX7, 122)) rfl ⟨⟨by decide, by decide⟩, by decide⟩ (Or.inl q1866) (Or.inl rfl) rfl (fg_nil))) 223 rfl ?_
  refine oc (y := mt_276) (pc := 223) (ok_iconst dX7_stands_223 rfl ⟨by decide, by decide⟩) 224 rfl ?_
  refine oc (y := mt_276) (pc := 224) (ok_iaload dX7_stands_224) 225 rfl ?_
  refine oc (y := mt_276) (pc := 225) (ok_iastore dX7_stands_225) 226 rfl ?_
  refine oc (y := mt_276) (pc := 226) (ok_iconst dX7_stands_226 rfl ⟨by decide, by decide⟩) 227 rfl ?_
  refine oc (y := mt_276) (pc := 227) (ok_istore_n dX7_stands_227 (by decide)) 228 rfl ?_
  exact oc_fall rfl
theorem o_276_228 : okL gmt mt_276 228 b_276_228 := by
  refine oc (y := mt_276) (pc := 228) (ok_iload_n dX7_stands_228) 229 rfl ?_
  refine oc (y := mt_276) (pc := 229) (ok_aload_n dX7_stands_229) 230 rfl ?_
  refine oc (y := mt_276) (pc := 230) (ok_getfield dX7_stands_230 (fg (own := "GardenChessModel") (idx := 394) (g := 9) (k := 56) (r := (RX7, TX7, 122)) rfl ⟨⟨by decide, by decide⟩, by decide⟩ (Or.inl q1868) (Or.inl rfl) rfl (fg_nil))) 233 rfl ?_
  refine oc_icmp dX7_stands_233 ⟨by decide, by decide⟩ 236 rfl ?_
  refine oc (y := mt_276) (pc := 236) (ok_aload_n dX7_stands_236) 237 rfl ?_
  refine oc (y := mt_276) (pc := 237) (ok_getfield dX7_stands_237 (fg (own := "GardenChessModel") (idx := 151) (g := 9) (k := 55) (r := (RX7, TX7, 122)) rfl ⟨⟨by decide, by decide⟩, by decide⟩ (Or.inl q1867) (Or.inl rfl) rfl (fg_nil))) 240 rfl ?_
  refine oc (y := mt_276) (pc := 240) (ok_sipush dX7_stands_240 (by decide) ⟨by decide, by decide⟩) 243 rfl ?_
  refine oc (y := mt_276) (pc := 243) (ok_iload_n dX7_stands_243) 244 rfl ?_
  refine oc (y := mt_276) (pc := 244) (ok_iadd dX7_stands_244) 245 rfl ?_
  refine oc (y := mt_276) (pc := 245) (ok_aload_n dX7_stands_245) 246 rfl ?_
  refine oc (y := mt_276) (pc := 246) (ok_getfield dX7_stands_246 (fg (own := "GardenChessModel") (idx := 151) (g := 9) (k := 55) (r := (RX7, TX7, 122)) rfl ⟨⟨by decide, by decide⟩, by decide⟩ (Or.inl q1867) (Or.inl rfl) rfl (fg_nil))) 249 rfl ?_
  refine oc (y := mt_276) (pc := 249) (ok_iload_n dX7_stands_249) 250 rfl ?_
  refine oc (y := mt_276) (pc := 250) (ok_iaload dX7_stands_250) 251 rfl ?_
  refine oc (y := mt_276) (pc := 251) (ok_iastore dX7_stands_251) 252 rfl ?_
  refine oc (y := mt_276) (pc := 252) (ok_iinc dX7_stands_252 (by decide)) 255 rfl ?_
  exact oc_goto dX7_stands_255 ⟨by decide, by decide⟩
theorem o_276_258 : okL gmt mt_276 258 b_276_258 := by
  refine oc (y := mt_276) (pc := 258) (ok_iconst dX7_stands_258 rfl ⟨by decide, by decide⟩) 259 rfl ?_
  refine oc (y := mt_276) (pc := 259) (ok_istore_n dX7_stands_259 (by decide)) 260 rfl ?_
  exact oc_fall rfl
theorem o_276_260 : okL gmt mt_276 260 b_276_260 := by
  refine oc (y := mt_276) (pc := 260) (ok_iload_n dX7_stands_260) 261 rfl ?_
  refine oc (y := mt_276) (pc := 261) (ok_sipush dX7_stands_261 (by decide) ⟨by decide, by decide⟩) 264 rfl ?_
  refine oc_icmp dX7_stands_264 ⟨by decide, by decide⟩ 267 rfl ?_
  refine oc (y := mt_276) (pc := 267) (ok_aload_n dX7_stands_267) 268 rfl ?_
  refine oc (y := mt_276) (pc := 268) (ok_getfield dX7_stands_268 (fg (own := "GardenChessModel") (idx := 154) (g := 9) (k := 62) (r := (RX7, TX7, 122)) rfl ⟨⟨by decide, by decide⟩, by decide⟩ (Or.inl q1874) (Or.inl rfl) rfl (fg_nil))) 271 rfl ?_
  refine oc (y := mt_276) (pc := 271) (ok_iload_n dX7_stands_271) 272 rfl ?_
  refine oc (y := mt_276) (pc := 272) (ok_iconst dX7_stands_272 rfl ⟨by decide, by decide⟩) 273 rfl ?_
  refine oc (y := mt_276) (pc := 273) (ok_iastore dX7_stands_273) 274 rfl ?_
  refine oc (y := mt_276) (pc := 274) (ok_iinc dX7_stands_274 (by decide)) 277 rfl ?_
  exact oc_goto dX7_stands_277 ⟨by decide, by decide⟩
theorem o_276_280 : okL gmt mt_276 280 b_276_280 := by
  refine oc (y := mt_276) (pc := 280) (ok_iconst dX7_stands_280 rfl ⟨by decide, by decide⟩) 281 rfl ?_
  refine oc (y := mt_276) (pc := 281) (ok_istore_n dX7_stands_281 (by decide)) 282 rfl ?_
  exact oc_fall rfl
theorem o_276_282 : okL gmt mt_276 282 b_276_282 := by
  refine oc (y := mt_276) (pc := 282) (ok_iload_n dX7_stands_282) 283 rfl ?_
  refine oc (y := mt_276) (pc := 283) (ok_iconst dX7_stands_283 rfl ⟨by decide, by decide⟩) 284 rfl ?_
  refine oc (y := mt_276) (pc := 284) (ok_aload_n dX7_stands_284) 285 rfl ?_
  refine oc (y := mt_276) (pc := 285) (ok_getfield dX7_stands_285 (fg (own := "GardenChessModel") (idx := 120) (g := 9) (k := 45) (r := (RX7, TX7, 122)) rfl ⟨⟨by decide, by decide⟩, by decide⟩ (Or.inl q1857) (Or.inl rfl) rfl (fg_nil))) 288 rfl ?_
  refine oc (y := mt_276) (pc := 288) (ok_iconst dX7_stands_288 rfl ⟨by decide, by decide⟩) 289 rfl ?_
  refine oc (y := mt_276) (pc := 289) (ok_iaload dX7_stands_289) 290 rfl ?_
  refine oc (y := mt_276) (pc := 290) (ok_imul dX7_stands_290) 291 rfl ?_
  refine oc_icmp dX7_stands_291 ⟨by decide, by decide⟩ 294 rfl ?_
  refine oc (y := mt_276) (pc := 294) (ok_aload_n dX7_stands_294) 295 rfl ?_
  refine oc (y := mt_276) (pc := 295) (ok_getfield dX7_stands_295 (fg (own := "GardenChessModel") (idx := 154) (g := 9) (k := 62) (r := (RX7, TX7, 122)) rfl ⟨⟨by decide, by decide⟩, by decide⟩ (Or.inl q1874) (Or.inl rfl) rfl (fg_nil))) 298 rfl ?_
  refine oc (y := mt_276) (pc := 298) (ok_iconst dX7_stands_298 rfl ⟨by decide, by decide⟩) 299 rfl ?_
  refine oc (y := mt_276) (pc := 299) (ok_iload_n dX7_stands_299) 300 rfl ?_
  refine oc (y := mt_276) (pc := 300) (ok_iadd dX7_stands_300) 301 rfl ?_
  refine oc (y := mt_276) (pc := 301) (ok_aload_n dX7_stands_301) 302 rfl ?_
  refine oc (y := mt_276) (pc := 302) (ok_getfield dX7_stands_302 (fg (own := "GardenChessModel") (idx := 136) (g := 9) (k := 50) (r := (RX7, TX7, 122)) rfl ⟨⟨by decide, by decide⟩, by decide⟩ (Or.inl q1862) (Or.inl rfl) rfl (fg_nil))) 305 rfl ?_
  refine oc (y := mt_276) (pc := 305) (ok_iload_n dX7_stands_305) 306 rfl ?_
  refine oc (y := mt_276) (pc := 306) (ok_iaload dX7_stands_306) 307 rfl ?_
  refine oc (y := mt_276) (pc := 307) (ok_iastore dX7_stands_307) 308 rfl ?_
  refine oc (y := mt_276) (pc := 308) (ok_iinc dX7_stands_308 (by decide)) 311 rfl ?_
  exact oc_goto dX7_stands_311 ⟨by decide, by decide⟩
theorem o_276_314 : okL gmt mt_276 314 b_276_314 := by
  refine oc (y := mt_276) (pc := 314) (ok_iconst dX7_stands_314 rfl ⟨by decide, by decide⟩) 315 rfl ?_
  refine oc (y := mt_276) (pc := 315) (ok_istore_n dX7_stands_315 (by decide)) 316 rfl ?_
  exact oc_fall rfl
theorem o_276_316 : okL gmt mt_276 316 b_276_316 := by
  refine oc (y := mt_276) (pc := 316) (ok_iload_n dX7_stands_316) 317 rfl ?_
  refine oc (y := mt_276) (pc := 317) (ok_aload_n dX7_stands_317) 318 rfl ?_
  refine oc (y := mt_276) (pc := 318) (ok_getfield dX7_stands_318 (fg (own := "GardenChessModel") (idx := 120) (g := 9) (k := 45) (r := (RX7, TX7, 122)) rfl ⟨⟨by decide, by decide⟩, by decide⟩ (Or.inl q1857) (Or.inl rfl) rfl (fg_nil))) 321 rfl ?_
  refine oc (y := mt_276) (pc := 321) (ok_iconst dX7_stands_321 rfl ⟨by decide, by decide⟩) 322 rfl ?_
  refine oc (y := mt_276) (pc := 322) (ok_iaload dX7_stands_322) 323 rfl ?_
  refine oc_icmp dX7_stands_323 ⟨by decide, by decide⟩ 326 rfl ?_
  refine oc (y := mt_276) (pc := 326) (ok_aload_n dX7_stands_326) 327 rfl ?_
  refine oc (y := mt_276) (pc := 327) (ok_getfield dX7_stands_327 (fg (own := "GardenChessModel") (idx := 154) (g := 9) (k := 62) (r := (RX7, TX7, 122)) rfl ⟨⟨by decide, by decide⟩, by decide⟩ (Or.inl q1874) (Or.inl rfl) rfl (fg_nil))) 330 rfl ?_
  refine oc (y := mt_276) (pc := 330) (ok_bipush dX7_stands_330 (by decide) ⟨by decide, by decide⟩) 332 rfl ?_
  refine oc (y := mt_276) (pc := 332) (ok_iload_n dX7_stands_332) 333 rfl ?_
  refine oc (y := mt_276) (pc := 333) (ok_iadd dX7_stands_333) 334 rfl ?_
  refine oc (y := mt_276) (pc := 334) (ok_aload_n dX7_stands_334) 335 rfl ?_
  refine oc (y := mt_276) (pc := 335) (ok_getfield dX7_stands_335 (fg (own := "GardenChessModel") (idx := 139) (g := 9) (k := 51) (r := (RX7, TX7, 122)) rfl ⟨⟨by decide, by decide⟩, by decide⟩ (Or.inl q1863) (Or.inl rfl) rfl (fg_nil))) 338 rfl ?_
  refine oc (y := mt_276) (pc := 338) (ok_iconst dX7_stands_338 rfl ⟨by decide, by decide⟩) 339 rfl ?_
  refine oc (y := mt_276) (pc := 339) (ok_iload_n dX7_stands_339) 340 rfl ?_
  refine oc (y := mt_276) (pc := 340) (ok_imul dX7_stands_340) 341 rfl ?_
  refine oc (y := mt_276) (pc := 341) (ok_iconst dX7_stands_341 rfl ⟨by decide, by decide⟩) 342 rfl ?_
  refine oc (y := mt_276) (pc := 342) (ok_iadd dX7_stands_342) 343 rfl ?_
  refine oc (y := mt_276) (pc := 343) (ok_iaload dX7_stands_343) 344 rfl ?_
  refine oc (y := mt_276) (pc := 344) (ok_iastore dX7_stands_344) 345 rfl ?_
  refine oc (y := mt_276) (pc := 345) (ok_iinc dX7_stands_345 (by decide)) 348 rfl ?_
  exact oc_goto dX7_stands_348 ⟨by decide, by decide⟩
theorem o_276_351 : okL gmt mt_276 351 b_276_351 := by
  refine oc (y := mt_276) (pc := 351) (ok_aload_n dX7_stands_351) 352 rfl ?_
  refine oc (y := mt_276) (pc := 352) (ok_iconst dX7_stands_352 rfl ⟨by decide, by decide⟩) 353 rfl ?_
  refine oc (y := mt_276) (pc := 353) (ok_putfield dX7_stands_353 (fp (own := "GardenChessModel") (idx := 427) (g := 9) (k := 84) (r := (RX7, TX7, 122)) rfl ⟨⟨by decide, by decide⟩, by decide⟩ (Or.inl q1896) (Or.inl rfl) rfl (Or.inl rfl) (fp_nil))) 356 rfl ?_
  refine oc (y := mt_276) (pc := 356) (ok_aload_n dX7_stands_356) 357 rfl ?_
  refine oc (y := mt_276) (pc := 357) (ok_iconst dX7_stands_357 rfl ⟨by decide, by decide⟩) 358 rfl ?_
  refine oc (y := mt_276) (pc := 358) (ok_putfield dX7_stands_358 (fp (own := "GardenChessModel") (idx := 430) (g := 9) (k := 80) (r := (RX7, TX7, 122)) rfl ⟨⟨by decide, by decide⟩, by decide⟩ (Or.inl q1892) (Or.inl rfl) rfl (Or.inl rfl) (fp_nil))) 361 rfl ?_
  exact oc_ret dX7_stands_361 rfl
theorem ok_276 : ∀ q ∈ pr_276, okL gmt mt_276 q.1 q.2 := pk_c o_276_0 (pk_c o_276_7 (pk_c o_276_32 (pk_c o_276_34 (pk_c o_276_61 (pk_c o_276_63 (pk_c o_276_88 (pk_c o_276_90 (pk_c o_276_117 (pk_c o_276_119 (pk_c o_276_146 (pk_c o_276_148 (pk_c o_276_175 (pk_c o_276_177 (pk_c o_276_202 (pk_c o_276_228 (pk_c o_276_258 (pk_c o_276_260 (pk_c o_276_280 (pk_c o_276_282 (pk_c o_276_314 (pk_c o_276_316 (pk_c o_276_351 (pk_n)))))))))))))))))))))))
theorem o_277_0 : okL gmt mt_277 0 b_277_0 := by
  refine oc (y := mt_277) (pc := 0) (ok_iload_n dX7_fault_0) 1 rfl ?_
  refine oc_if dX7_fault_1 ⟨by decide, by decide⟩ 4 rfl ?_
  refine oc (y := mt_277) (pc := 4) (ok_aload_n dX7_fault_4) 5 rfl ?_
  refine oc (y := mt_277) (pc := 5) (ok_getfield dX7_fault_5 (fg (own := "GardenChessModel") (idx := 418) (g := 9) (k := 7) (r := (RX7, TX7, 122)) rfl ⟨⟨by decide, by decide⟩, by decide⟩ (Or.inl q1819) (Or.inl rfl) rfl (fg_nil))) 8 rfl ?_
  exact oc_goto dX7_fault_8 ⟨by decide, by decide⟩
theorem o_277_11 : okL gmt mt_277 11 b_277_11 := by
  refine oc (y := mt_277) (pc := 11) (ok_iload_n dX7_fault_11) 12 rfl ?_
  refine oc (y := mt_277) (pc := 12) (ok_iconst dX7_fault_12 rfl ⟨by decide, by decide⟩) 13 rfl ?_
  refine oc_icmp dX7_fault_13 ⟨by decide, by decide⟩ 16 rfl ?_
  refine oc (y := mt_277) (pc := 16) (ok_aload_n dX7_fault_16) 17 rfl ?_
  refine oc (y := mt_277) (pc := 17) (ok_getfield dX7_fault_17 (fg (own := "GardenChessModel") (idx := 13) (g := 9) (k := 8) (r := (RX7, TX7, 122)) rfl ⟨⟨by decide, by decide⟩, by decide⟩ (Or.inl q1820) (Or.inl rfl) rfl (fg_nil))) 20 rfl ?_
  exact oc_goto dX7_fault_20 ⟨by decide, by decide⟩
theorem o_277_23 : okL gmt mt_277 23 b_277_23 := by
  refine oc (y := mt_277) (pc := 23) (ok_iconst dX7_fault_23 rfl ⟨by decide, by decide⟩) 24 rfl ?_
  exact oc_fall rfl
theorem o_277_24 : okL gmt mt_277 24 b_277_24 := by
  exact oc_iret dX7_fault_24 rfl
theorem ok_277 : ∀ q ∈ pr_277, okL gmt mt_277 q.1 q.2 := pk_c o_277_0 (pk_c o_277_11 (pk_c o_277_23 (pk_c o_277_24 (pk_n))))
