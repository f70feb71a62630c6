set_option maxRecDepth 100000
theorem o_278_0 : okL gmt mt_278 0 b_278_0 := by
  refine oc (y := mt_278) (pc := 0) (ok_iload_n dX7_has_0) 1 rfl ?_
  exact oc_tsw dX7_has_1 (by decide) (by decide +kernel)
theorem o_278_68 : okL gmt mt_278 68 b_278_68 := by
  refine oc (y := mt_278) (pc := 68) (ok_aload_n dX7_has_68) 69 rfl ?_
  refine oc (y := mt_278) (pc := 69) (ok_getfield dX7_has_69 (fg (own := "GardenChessModel") (idx := 127) (g := 9) (k := 47) (r := (RX7, TX7, 122)) rfl ⟨⟨by decide, by decide⟩, by decide⟩ (Or.inl q1859) (Or.inl rfl) rfl (fg_nil))) 72 rfl ?_
  refine oc (y := mt_278) (pc := 72) (ok_iconst dX7_has_72 rfl ⟨by decide, by decide⟩) 73 rfl ?_
  refine oc (y := mt_278) (pc := 73) (ok_iload_n dX7_has_73) 74 rfl ?_
  refine oc (y := mt_278) (pc := 74) (ok_iadd dX7_has_74) 75 rfl ?_
  refine oc (y := mt_278) (pc := 75) (ok_iaload dX7_has_75) 76 rfl ?_
  exact oc_iret dX7_has_76 rfl
theorem o_278_77 : okL gmt mt_278 77 b_278_77 := by
  refine oc (y := mt_278) (pc := 77) (ok_aload_n dX7_has_77) 78 rfl ?_
  refine oc (y := mt_278) (pc := 78) (ok_getfield dX7_has_78 (fg (own := "GardenChessModel") (idx := 120) (g := 9) (k := 45) (r := (RX7, TX7, 122)) rfl ⟨⟨by decide, by decide⟩, by decide⟩ (Or.inl q1857) (Or.inl rfl) rfl (fg_nil))) 81 rfl ?_
  refine oc (y := mt_278) (pc := 81) (ok_iconst dX7_has_81 rfl ⟨by decide, by decide⟩) 82 rfl ?_
  refine oc (y := mt_278) (pc := 82) (ok_iload_n dX7_has_82) 83 rfl ?_
  refine oc (y := mt_278) (pc := 83) (ok_iadd dX7_has_83) 84 rfl ?_
  refine oc (y := mt_278) (pc := 84) (ok_iconst dX7_has_84 rfl ⟨by decide, by decide⟩) 85 rfl ?_
  refine oc (y := mt_278) (pc := 85) (ok_isub dX7_has_85) 86 rfl ?_
  refine oc (y := mt_278) (pc := 86) (ok_iaload dX7_has_86) 87 rfl ?_
  exact oc_iret dX7_has_87 rfl
theorem o_278_88 : okL gmt mt_278 88 b_278_88 := by
  refine oc (y := mt_278) (pc := 88) (ok_aload_n dX7_has_88) 89 rfl ?_
  refine oc (y := mt_278) (pc := 89) (ok_getfield dX7_has_89 (fg (own := "GardenChessModel") (idx := 154) (g := 9) (k := 62) (r := (RX7, TX7, 122)) rfl ⟨⟨by decide, by decide⟩, by decide⟩ (Or.inl q1874) (Or.inl rfl) rfl (fg_nil))) 92 rfl ?_
  refine oc (y := mt_278) (pc := 92) (ok_iload_n dX7_has_92) 93 rfl ?_
  refine oc (y := mt_278) (pc := 93) (ok_iconst dX7_has_93 rfl ⟨by decide, by decide⟩) 94 rfl ?_
  refine oc (y := mt_278) (pc := 94) (ok_isub dX7_has_94) 95 rfl ?_
  refine oc (y := mt_278) (pc := 95) (ok_iaload dX7_has_95) 96 rfl ?_
  exact oc_iret dX7_has_96 rfl
theorem o_278_97 : okL gmt mt_278 97 b_278_97 := by
  refine oc (y := mt_278) (pc := 97) (ok_aload_n dX7_has_97) 98 rfl ?_
  refine oc (y := mt_278) (pc := 98) (ok_getfield dX7_has_98 (fg (own := "GardenChessModel") (idx := 424) (g := 9) (k := 58) (r := (RX7, TX7, 122)) rfl ⟨⟨by decide, by decide⟩, by decide⟩ (Or.inl q1870) (Or.inl rfl) rfl (fg_nil))) 101 rfl ?_
  refine oc_if dX7_has_101 ⟨by decide, by decide⟩ 104 rfl ?_
  refine oc (y := mt_278) (pc := 104) (ok_aload_n dX7_has_104) 105 rfl ?_
  refine oc_V (y := mt_278) (pc := 105) (vcons (y := mt_278) (pc := 105) (len := 3) (n := 1) (M := mt_279) (by decide) rfl (Or.inr rfl) rfl (ck_V dX7_has_105 ⟨by decide, by decide, by decide, by decide +kernel⟩ q2357 q2359 qs92 q177 q2360) vnil) (hok0 rfl) (by decide) 108 rfl ?_
  refine oc_if dX7_has_108 ⟨by decide, by decide⟩ 111 rfl ?_
  refine oc (y := mt_278) (pc := 111) (ok_iconst dX7_has_111 rfl ⟨by decide, by decide⟩) 112 rfl ?_
  exact oc_goto dX7_has_112 ⟨by decide, by decide⟩
theorem o_278_115 : okL gmt mt_278 115 b_278_115 := by
  refine oc (y := mt_278) (pc := 115) (ok_iconst dX7_has_115 rfl ⟨by decide, by decide⟩) 116 rfl ?_
  exact oc_fall rfl
theorem o_278_116 : okL gmt mt_278 116 b_278_116 := by
  exact oc_iret dX7_has_116 rfl
theorem o_278_117 : okL gmt mt_278 117 b_278_117 := by
  refine oc (y := mt_278) (pc := 117) (ok_aload_n dX7_has_117) 118 rfl ?_
  refine oc_V (y := mt_278) (pc := 118) (vcons (y := mt_278) (pc := 118) (len := 3) (n := 1) (M := mt_281) (by decide) rfl (Or.inr rfl) rfl (ck_V dX7_has_118 ⟨by decide, by decide, by decide, by decide +kernel⟩ q2365 q2367 qs94 q177 q2368) vnil) (hok0 rfl) (by decide) 121 rfl ?_
  refine oc (y := mt_278) (pc := 121) (ok_aload_n dX7_has_121) 122 rfl ?_
  refine oc (y := mt_278) (pc := 122) (ok_iconst dX7_has_122 rfl ⟨by decide, by decide⟩) 123 rfl ?_
  refine oc_V (y := mt_278) (pc := 123) (vcons (y := mt_278) (pc := 123) (len := 3) (n := 2) (M := mt_297) (by decide) rfl (Or.inr rfl) rfl (ck_V dX7_has_123 ⟨by decide, by decide, by decide, by decide +kernel⟩ q2426 q2428 qs107 q177 q2429) vnil) (hok0 rfl) (by decide) 126 rfl ?_
  refine oc (y := mt_278) (pc := 126) (ok_isub dX7_has_126) 127 rfl ?_
  refine oc (y := mt_278) (pc := 127) (ok_aload_n dX7_has_127) 128 rfl ?_
  refine oc (y := mt_278) (pc := 128) (ok_iconst dX7_has_128 rfl ⟨by decide, by decide⟩) 129 rfl ?_
  refine oc_V (y := mt_278) (pc := 129) (vcons (y := mt_278) (pc := 129) (len := 3) (n := 2) (M := mt_297) (by decide) rfl (Or.inr rfl) rfl (ck_V dX7_has_129 ⟨by decide, by decide, by decide, by decide +kernel⟩ q2426 q2428 qs107 q177 q2429) vnil) (hok0 rfl) (by decide) 132 rfl ?_
  refine oc (y := mt_278) (pc := 132) (ok_isub dX7_has_132) 133 rfl ?_
  exact oc_iret dX7_has_133 rfl
theorem o_278_134 : okL gmt mt_278 134 b_278_134 := by
  refine oc (y := mt_278) (pc := 134) (ok_aload_n dX7_has_134) 135 rfl ?_
  refine oc_V (y := mt_278) (pc := 135) (vcons (y := mt_278) (pc := 135) (len := 3) (n := 1) (M := mt_298) (by decide) rfl (Or.inr rfl) rfl (ck_V dX7_has_135 ⟨by decide, by decide, by decide, by decide +kernel⟩ q2430 q2432 qs108 q177 q2433) vnil) (hok0 rfl) (by decide) 138 rfl ?_
  exact oc_iret dX7_has_138 rfl
theorem o_278_139 : okL gmt mt_278 139 b_278_139 := by
  refine oc (y := mt_278) (pc := 139) (ok_aload_n dX7_has_139) 140 rfl ?_
  refine oc (y := mt_278) (pc := 140) (ok_getfield dX7_has_140 (fg (own := "GardenChessModel") (idx := 154) (g := 9) (k := 62) (r := (RX7, TX7, 122)) rfl ⟨⟨by decide, by decide⟩, by decide⟩ (Or.inl q1874) (Or.inl rfl) rfl (fg_nil))) 143 rfl ?_
  refine oc (y := mt_278) (pc := 143) (ok_bipush dX7_has_143 (by decide) ⟨by decide, by decide⟩) 145 rfl ?_
  refine oc (y := mt_278) (pc := 145) (ok_iaload dX7_has_145) 146 rfl ?_
  exact oc_iret dX7_has_146 rfl
theorem o_278_147 : okL gmt mt_278 147 b_278_147 := by
  refine oc (y := mt_278) (pc := 147) (ok_aload_n dX7_has_147) 148 rfl ?_
  refine oc (y := mt_278) (pc := 148) (ok_getfield dX7_has_148 (fg (own := "GardenChessModel") (idx := 430) (g := 9) (k := 80) (r := (RX7, TX7, 122)) rfl ⟨⟨by decide, by decide⟩, by decide⟩ (Or.inl q1892) (Or.inl rfl) rfl (fg_nil))) 151 rfl ?_
  exact oc_iret dX7_has_151 rfl
theorem o_278_152 : okL gmt mt_278 152 b_278_152 := by
  refine oc (y := mt_278) (pc := 152) (ok_aload_n dX7_has_152) 153 rfl ?_
  refine oc (y := mt_278) (pc := 153) (ok_getfield dX7_has_153 (fg (own := "GardenChessModel") (idx := 427) (g := 9) (k := 84) (r := (RX7, TX7, 122)) rfl ⟨⟨by decide, by decide⟩, by decide⟩ (Or.inl q1896) (Or.inl rfl) rfl (fg_nil))) 156 rfl ?_
  exact oc_iret dX7_has_156 rfl
theorem o_278_157 : okL gmt mt_278 157 b_278_157 := by
  refine oc (y := mt_278) (pc := 157) (ok_iconst dX7_has_157 rfl ⟨by decide, by decide⟩) 158 rfl ?_
  exact oc_iret dX7_has_158 rfl
theorem ok_278 : ∀ q ∈ pr_278, okL gmt mt_278 q.1 q.2 := pk_c o_278_0 (pk_c o_278_68 (pk_c o_278_77 (pk_c o_278_88 (pk_c o_278_97 (pk_c o_278_115 (pk_c o_278_116 (pk_c o_278_117 (pk_c o_278_134 (pk_c o_278_139 (pk_c o_278_147 (pk_c o_278_152 (pk_c o_278_157 (pk_n)))))))))))))
theorem o_279_0 : okL gmt mt_279 0 b_279_0 := by
  refine oc (y := mt_279) (pc := 0) (ok_aload_n dX7_isOver_0) 1 rfl ?_
  refine oc_V (y := mt_279) (pc := 1) (vcons (y := mt_279) (pc := 1) (len := 3) (n := 1) (M := mt_280) (by decide) rfl (Or.inr rfl) rfl (ck_V dX7_isOver_1 ⟨by decide, by decide, by decide, by decide +kernel⟩ q2361 q2363 qs93 q177 q2364) vnil) (hok0 rfl) (by decide) 4 rfl ?_
  refine oc_if dX7_isOver_4 ⟨by decide, by decide⟩ 7 rfl ?_
  refine oc (y := mt_279) (pc := 7) (ok_aload_n dX7_isOver_7) 8 rfl ?_
  refine oc_V (y := mt_279) (pc := 8) (vcons (y := mt_279) (pc := 8) (len := 3) (n := 1) (M := mt_286) (by decide) rfl (Or.inr rfl) rfl (ck_V dX7_isOver_8 ⟨by decide, by decide, by decide, by decide +kernel⟩ q2385 q2387 qs99 q177 q2388) vnil) (hok0 rfl) (by decide) 11 rfl ?_
  refine oc_if dX7_isOver_11 ⟨by decide, by decide⟩ 14 rfl ?_
  exact oc_fall rfl
theorem o_279_14 : okL gmt mt_279 14 b_279_14 := by
  refine oc (y := mt_279) (pc := 14) (ok_iconst dX7_isOver_14 rfl ⟨by decide, by decide⟩) 15 rfl ?_
  exact oc_goto dX7_isOver_15 ⟨by decide, by decide⟩
theorem o_279_18 : okL gmt mt_279 18 b_279_18 := by
  refine oc (y := mt_279) (pc := 18) (ok_iconst dX7_isOver_18 rfl ⟨by decide, by decide⟩) 19 rfl ?_
  exact oc_fall rfl
theorem o_279_19 : okL gmt mt_279 19 b_279_19 := by
  exact oc_zret dX7_isOver_19 rfl
theorem ok_279 : ∀ q ∈ pr_279, okL gmt mt_279 q.1 q.2 := pk_c o_279_0 (pk_c o_279_14 (pk_c o_279_18 (pk_c o_279_19 (pk_n))))
theorem o_280_0 : okL gmt mt_280 0 b_280_0 := by
  refine oc (y := mt_280) (pc := 0) (ok_iconst dX7_isCrownTaken_0 rfl ⟨by decide, by decide⟩) 1 rfl ?_
  refine oc (y := mt_280) (pc := 1) (ok_istore_n dX7_isCrownTaken_1 (by decide)) 2 rfl ?_
  exact oc_fall rfl
theorem o_280_2 : okL gmt mt_280 2 b_280_2 := by
  refine oc (y := mt_280) (pc := 2) (ok_iload_n dX7_isCrownTaken_2) 3 rfl ?_
  refine oc (y := mt_280) (pc := 3) (ok_aload_n dX7_isCrownTaken_3) 4 rfl ?_
  refine oc_V (y := mt_280) (pc := 4) (vcons (y := mt_280) (pc := 4) (len := 3) (n := 1) (M := mt_281) (by decide) rfl (Or.inr rfl) rfl (ck_V dX7_isCrownTaken_4 ⟨by decide, by decide, by decide, by decide +kernel⟩ q2365 q2367 qs94 q177 q2368) vnil) (hok0 rfl) (by decide) 7 rfl ?_
  refine oc_icmp dX7_isCrownTaken_7 ⟨by decide, by decide⟩ 10 rfl ?_
  refine oc (y := mt_280) (pc := 10) (ok_aload_n dX7_isCrownTaken_10) 11 rfl ?_
  refine oc (y := mt_280) (pc := 11) (ok_iload_n dX7_isCrownTaken_11) 12 rfl ?_
  refine oc_V (y := mt_280) (pc := 12) (vcons (y := mt_280) (pc := 12) (len := 3) (n := 2) (M := mt_282) (by decide) rfl (Or.inr rfl) rfl (ck_V dX7_isCrownTaken_12 ⟨by decide, by decide, by decide, by decide +kernel⟩ q2369 q2371 qs95 q177 q2372) vnil) (hok0 rfl) (by decide) 15 rfl ?_
  refine oc_if dX7_isCrownTaken_15 ⟨by decide, by decide⟩ 18 rfl ?_
  refine oc (y := mt_280) (pc := 18) (ok_aload_n dX7_isCrownTaken_18) 19 rfl ?_
  refine oc (y := mt_280) (pc := 19) (ok_iload_n dX7_isCrownTaken_19) 20 rfl ?_
  refine oc_V (y := mt_280) (pc := 20) (vcons (y := mt_280) (pc := 20) (len := 3) (n := 2) (M := mt_284) (by decide) rfl (Or.inr rfl) rfl (ck_V dX7_isCrownTaken_20 ⟨by decide, by decide, by decide, by decide +kernel⟩ q2377 q2379 qs97 q177 q2380) vnil) (hok0 rfl) (by decide) 23 rfl ?_
  refine oc_if dX7_isCrownTaken_23 ⟨by decide, by decide⟩ 26 rfl ?_
  refine oc (y := mt_280) (pc := 26) (ok_iconst dX7_isCrownTaken_26 rfl ⟨by decide, by decide⟩) 27 rfl ?_
  exact oc_zret dX7_isCrownTaken_27 rfl
theorem o_280_28 : okL gmt mt_280 28 b_280_28 := by
  refine oc (y := mt_280) (pc := 28) (ok_iinc dX7_isCrownTaken_28 (by decide)) 31 rfl ?_
  exact oc_goto dX7_isCrownTaken_31 ⟨by decide, by decide⟩
theorem o_280_34 : okL gmt mt_280 34 b_280_34 := by
  refine oc (y := mt_280) (pc := 34) (ok_iconst dX7_isCrownTaken_34 rfl ⟨by decide, by decide⟩) 35 rfl ?_
  exact oc_zret dX7_isCrownTaken_35 rfl
theorem ok_280 : ∀ q ∈ pr_280, okL gmt mt_280 q.1 q.2 := pk_c o_280_0 (pk_c o_280_2 (pk_c o_280_28 (pk_c o_280_34 (pk_n))))
theorem o_281_0 : okL gmt mt_281 0 b_281_0 := by
  refine oc (y := mt_281) (pc := 0) (ok_aload_n dX7_manMany_0) 1 rfl ?_
  refine oc (y := mt_281) (pc := 1) (ok_getfield dX7_manMany_1 (fg (own := "GardenChessModel") (idx := 120) (g := 9) (k := 45) (r := (RX7, TX7, 122)) rfl ⟨⟨by decide, by decide⟩, by decide⟩ (Or.inl q1857) (Or.inl rfl) rfl (fg_nil))) 4 rfl ?_
  refine oc (y := mt_281) (pc := 4) (ok_iconst dX7_manMany_4 rfl ⟨by decide, by decide⟩) 5 rfl ?_
  refine oc (y := mt_281) (pc := 5) (ok_iaload dX7_manMany_5) 6 rfl ?_
  exact oc_iret dX7_manMany_6 rfl
theorem ok_281 : ∀ q ∈ pr_281, okL gmt mt_281 q.1 q.2 := pk_c o_281_0 (pk_n)
theorem o_282_0 : okL gmt mt_282 0 b_282_0 := by
  refine oc (y := mt_282) (pc := 0) (ok_aload_n dX7_isCrown_0) 1 rfl ?_
  refine oc (y := mt_282) (pc := 1) (ok_getfield dX7_isCrown_1 (fg (own := "GardenChessModel") (idx := 130) (g := 9) (k := 48) (r := (RX7, TX7, 122)) rfl ⟨⟨by decide, by decide⟩, by decide⟩ (Or.inl q1860) (Or.inl rfl) rfl (fg_nil))) 4 rfl ?_
  refine oc (y := mt_282) (pc := 4) (ok_bipush dX7_isCrown_4 (by decide) ⟨by decide, by decide⟩) 6 rfl ?_
  refine oc (y := mt_282) (pc := 6) (ok_iconst dX7_isCrown_6 rfl ⟨by decide, by decide⟩) 7 rfl ?_
  refine oc (y := mt_282) (pc := 7) (ok_aload_n dX7_isCrown_7) 8 rfl ?_
  refine oc (y := mt_282) (pc := 8) (ok_iload_n dX7_isCrown_8) 9 rfl ?_
  refine oc_V (y := mt_282) (pc := 9) (vcons (y := mt_282) (pc := 9) (len := 3) (n := 2) (M := mt_283) (by decide) rfl (Or.inr rfl) rfl (ck_V dX7_isCrown_9 ⟨by decide, by decide, by decide, by decide +kernel⟩ q2373 q2375 qs96 q177 q2376) vnil) (hok0 rfl) (by decide) 12 rfl ?_
  refine oc (y := mt_282) (pc := 12) (ok_imul dX7_isCrown_12) 13 rfl ?_
  refine oc (y := mt_282) (pc := 13) (ok_iadd dX7_isCrown_13) 14 rfl ?_
  refine oc (y := mt_282) (pc := 14) (ok_iaload dX7_isCrown_14) 15 rfl ?_
  refine oc (y := mt_282) (pc := 15) (ok_iconst dX7_isCrown_15 rfl ⟨by decide, by decide⟩) 16 rfl ?_
  refine oc_icmp dX7_isCrown_16 ⟨by decide, by decide⟩ 19 rfl ?_
  refine oc (y := mt_282) (pc := 19) (ok_iconst dX7_isCrown_19 rfl ⟨by decide, by decide⟩) 20 rfl ?_
  exact oc_goto dX7_isCrown_20 ⟨by decide, by decide⟩
theorem o_282_23 : okL gmt mt_282 23 b_282_23 := by
  refine oc (y := mt_282) (pc := 23) (ok_iconst dX7_isCrown_23 rfl ⟨by decide, by decide⟩) 24 rfl ?_
  exact oc_fall rfl
theorem o_282_24 : okL gmt mt_282 24 b_282_24 := by
  exact oc_zret dX7_isCrown_24 rfl
theorem ok_282 : ∀ q ∈ pr_282, okL gmt mt_282 q.1 q.2 := pk_c o_282_0 (pk_c o_282_23 (pk_c o_282_24 (pk_n)))
theorem o_283_0 : okL gmt mt_283 0 b_283_0 := by
  refine oc (y := mt_283) (pc := 0) (ok_aload_n dX7_kindOf_0) 1 rfl ?_
  refine oc (y := mt_283) (pc := 1) (ok_getfield dX7_kindOf_1 (fg (own := "GardenChessModel") (idx := 133) (g := 9) (k := 49) (r := (RX7, TX7, 122)) rfl ⟨⟨by decide, by decide⟩, by decide⟩ (Or.inl q1861) (Or.inl rfl) rfl (fg_nil))) 4 rfl ?_
  refine oc (y := mt_283) (pc := 4) (ok_bipush dX7_kindOf_4 (by decide) ⟨by decide, by decide⟩) 6 rfl ?_
  refine oc (y := mt_283) (pc := 6) (ok_iconst dX7_kindOf_6 rfl ⟨by decide, by decide⟩) 7 rfl ?_
  refine oc (y := mt_283) (pc := 7) (ok_iload_n dX7_kindOf_7) 8 rfl ?_
  refine oc (y := mt_283) (pc := 8) (ok_imul dX7_kindOf_8) 9 rfl ?_
  refine oc (y := mt_283) (pc := 9) (ok_iadd dX7_kindOf_9) 10 rfl ?_
  refine oc (y := mt_283) (pc := 10) (ok_iaload dX7_kindOf_10) 11 rfl ?_
  exact oc_iret dX7_kindOf_11 rfl
theorem ok_283 : ∀ q ∈ pr_283, okL gmt mt_283 q.1 q.2 := pk_c o_283_0 (pk_n)
theorem o_284_0 : okL gmt mt_284 0 b_284_0 := by
  refine oc (y := mt_284) (pc := 0) (ok_aload_n dX7_isTaken_0) 1 rfl ?_
  refine oc (y := mt_284) (pc := 1) (ok_iload_n dX7_isTaken_1) 2 rfl ?_
  refine oc_V (y := mt_284) (pc := 2) (vcons (y := mt_284) (pc := 2) (len := 3) (n := 2) (M := mt_285) (by decide) rfl (Or.inr rfl) rfl (ck_V dX7_isTaken_2 ⟨by decide, by decide, by decide, by decide +kernel⟩ q2381 q2383 qs98 q177 q2384) vnil) (hok0 rfl) (by decide) 5 rfl ?_
  refine oc (y := mt_284) (pc := 5) (ok_iconst dX7_isTaken_5 rfl ⟨by decide, by decide⟩) 6 rfl ?_
  refine oc_icmp dX7_isTaken_6 ⟨by decide, by decide⟩ 9 rfl ?_
  refine oc (y := mt_284) (pc := 9) (ok_iconst dX7_isTaken_9 rfl ⟨by decide, by decide⟩) 10 rfl ?_
  exact oc_goto dX7_isTaken_10 ⟨by decide, by decide⟩
theorem o_284_13 : okL gmt mt_284 13 b_284_13 := by
  refine oc (y := mt_284) (pc := 13) (ok_iconst dX7_isTaken_13 rfl ⟨by decide, by decide⟩) 14 rfl ?_
  exact oc_fall rfl
theorem o_284_14 : okL gmt mt_284 14 b_284_14 := by
  exact oc_zret dX7_isTaken_14 rfl
theorem ok_284 : ∀ q ∈ pr_284, okL gmt mt_284 q.1 q.2 := pk_c o_284_0 (pk_c o_284_13 (pk_c o_284_14 (pk_n)))
theorem o_285_0 : okL gmt mt_285 0 b_285_0 := by
  refine oc (y := mt_285) (pc := 0) (ok_aload_n dX7_columnOf_0) 1 rfl ?_
  refine oc (y := mt_285) (pc := 1) (ok_getfield dX7_columnOf_1 (fg (own := "GardenChessModel") (idx := 154) (g := 9) (k := 62) (r := (RX7, TX7, 122)) rfl ⟨⟨by decide, by decide⟩, by decide⟩ (Or.inl q1874) (Or.inl rfl) rfl (fg_nil))) 4 rfl ?_
  refine oc (y := mt_285) (pc := 4) (ok_iconst dX7_columnOf_4 rfl ⟨by decide, by decide⟩) 5 rfl ?_
  refine oc (y := mt_285) (pc := 5) (ok_iconst dX7_columnOf_5 rfl ⟨by decide, by decide⟩) 6 rfl ?_
  refine oc (y := mt_285) (pc := 6) (ok_iload_n dX7_columnOf_6) 7 rfl ?_
  refine oc (y := mt_285) (pc := 7) (ok_imul dX7_columnOf_7) 8 rfl ?_
  refine oc (y := mt_285) (pc := 8) (ok_iadd dX7_columnOf_8) 9 rfl ?_
  refine oc (y := mt_285) (pc := 9) (ok_iaload dX7_columnOf_9) 10 rfl ?_
  exact oc_iret dX7_columnOf_10 rfl
theorem ok_285 : ∀ q ∈ pr_285, okL gmt mt_285 q.1 q.2 := pk_c o_285_0 (pk_n)
theorem o_286_0 : okL gmt mt_286 0 b_286_0 := by
  refine oc (y := mt_286) (pc := 0) (ok_iconst dX7_hasMove_0 rfl ⟨by decide, by decide⟩) 1 rfl ?_
  refine oc (y := mt_286) (pc := 1) (ok_istore_n dX7_hasMove_1 (by decide)) 2 rfl ?_
  exact oc_fall rfl
theorem o_286_2 : okL gmt mt_286 2 b_286_2 := by
  refine oc (y := mt_286) (pc := 2) (ok_iload_n dX7_hasMove_2) 3 rfl ?_
  refine oc (y := mt_286) (pc := 3) (ok_aload_n dX7_hasMove_3) 4 rfl ?_
  refine oc_V (y := mt_286) (pc := 4) (vcons (y := mt_286) (pc := 4) (len := 3) (n := 1) (M := mt_281) (by decide) rfl (Or.inr rfl) rfl (ck_V dX7_hasMove_4 ⟨by decide, by decide, by decide, by decide +kernel⟩ q2365 q2367 qs94 q177 q2368) vnil) (hok0 rfl) (by decide) 7 rfl ?_
  refine oc_icmp dX7_hasMove_7 ⟨by decide, by decide⟩ 10 rfl ?_
  refine oc (y := mt_286) (pc := 10) (ok_aload_n dX7_hasMove_10) 11 rfl ?_
  refine oc (y := mt_286) (pc := 11) (ok_iload_n dX7_hasMove_11) 12 rfl ?_
  refine oc_V (y := mt_286) (pc := 12) (vcons (y := mt_286) (pc := 12) (len := 3) (n := 2) (M := mt_287) (by decide) rfl (Or.inr rfl) rfl (ck_V dX7_hasMove_12 ⟨by decide, by decide, by decide, by decide +kernel⟩ q2389 q2391 qs100 q177 q2392) vnil) (hok0 rfl) (by decide) 15 rfl ?_
  refine oc (y := mt_286) (pc := 15) (ok_aload_n dX7_hasMove_15) 16 rfl ?_
  refine oc (y := mt_286) (pc := 16) (ok_getfield dX7_hasMove_16 (fg (own := "GardenChessModel") (idx := 154) (g := 9) (k := 62) (r := (RX7, TX7, 122)) rfl ⟨⟨by decide, by decide⟩, by decide⟩ (Or.inl q1874) (Or.inl rfl) rfl (fg_nil))) 19 rfl ?_
  refine oc (y := mt_286) (pc := 19) (ok_iconst dX7_hasMove_19 rfl ⟨by decide, by decide⟩) 20 rfl ?_
  refine oc (y := mt_286) (pc := 20) (ok_iaload dX7_hasMove_20) 21 rfl ?_
  refine oc_icmp dX7_hasMove_21 ⟨by decide, by decide⟩ 24 rfl ?_
  refine oc (y := mt_286) (pc := 24) (ok_aload_n dX7_hasMove_24) 25 rfl ?_
  refine oc (y := mt_286) (pc := 25) (ok_iload_n dX7_hasMove_25) 26 rfl ?_
  refine oc_V (y := mt_286) (pc := 26) (vcons (y := mt_286) (pc := 26) (len := 3) (n := 2) (M := mt_288) (by decide) rfl (Or.inr rfl) rfl (ck_V dX7_hasMove_26 ⟨by decide, by decide, by decide, by decide +kernel⟩ q2393 q2395 qs101 q177 q2396) vnil) (hok0 rfl) (by decide) 29 rfl ?_
  refine oc_if dX7_hasMove_29 ⟨by decide, by decide⟩ 32 rfl ?_
  refine oc (y := mt_286) (pc := 32) (ok_iconst dX7_hasMove_32 rfl ⟨by decide, by decide⟩) 33 rfl ?_
  exact oc_zret dX7_hasMove_33 rfl
theorem o_286_34 : okL gmt mt_286 34 b_286_34 := by
  refine oc (y := mt_286) (pc := 34) (ok_iinc dX7_hasMove_34 (by decide)) 37 rfl ?_
  exact oc_goto dX7_hasMove_37 ⟨by decide, by decide⟩
theorem o_286_40 : okL gmt mt_286 40 b_286_40 := by
  refine oc (y := mt_286) (pc := 40) (ok_iconst dX7_hasMove_40 rfl ⟨by decide, by decide⟩) 41 rfl ?_
  exact oc_zret dX7_hasMove_41 rfl
theorem ok_286 : ∀ q ∈ pr_286, okL gmt mt_286 q.1 q.2 := pk_c o_286_0 (pk_c o_286_2 (pk_c o_286_34 (pk_c o_286_40 (pk_n))))
theorem o_287_0 : okL gmt mt_287 0 b_287_0 := by
  refine oc (y := mt_287) (pc := 0) (ok_aload_n dX7_sideOf_0) 1 rfl ?_
  refine oc (y := mt_287) (pc := 1) (ok_getfield dX7_sideOf_1 (fg (own := "GardenChessModel") (idx := 133) (g := 9) (k := 49) (r := (RX7, TX7, 122)) rfl ⟨⟨by decide, by decide⟩, by decide⟩ (Or.inl q1861) (Or.inl rfl) rfl (fg_nil))) 4 rfl ?_
  refine oc (y := mt_287) (pc := 4) (ok_bipush dX7_sideOf_4 (by decide) ⟨by decide, by decide⟩) 6 rfl ?_
  refine oc (y := mt_287) (pc := 6) (ok_iconst dX7_sideOf_6 rfl ⟨by decide, by decide⟩) 7 rfl ?_
  refine oc (y := mt_287) (pc := 7) (ok_iload_n dX7_sideOf_7) 8 rfl ?_
  refine oc (y := mt_287) (pc := 8) (ok_imul dX7_sideOf_8) 9 rfl ?_
  refine oc (y := mt_287) (pc := 9) (ok_iadd dX7_sideOf_9) 10 rfl ?_
  refine oc (y := mt_287) (pc := 10) (ok_iaload dX7_sideOf_10) 11 rfl ?_
  exact oc_iret dX7_sideOf_11 rfl
theorem ok_287 : ∀ q ∈ pr_287, okL gmt mt_287 q.1 q.2 := pk_c o_287_0 (pk_n)
theorem o_288_0 : okL gmt mt_288 0 b_288_0 := by
  refine oc (y := mt_288) (pc := 0) (ok_iconst dX7_movesOf_0 rfl ⟨by decide, by decide⟩) 1 rfl ?_
  refine oc (y := mt_288) (pc := 1) (ok_istore_n dX7_movesOf_1 (by decide)) 2 rfl ?_
  refine oc (y := mt_288) (pc := 2) (ok_iconst dX7_movesOf_2 rfl ⟨by decide, by decide⟩) 3 rfl ?_
  refine oc (y := mt_288) (pc := 3) (ok_istore_n dX7_movesOf_3 (by decide)) 4 rfl ?_
  exact oc_fall rfl
theorem o_288_4 : okL gmt mt_288 4 b_288_4 := by
  refine oc (y := mt_288) (pc := 4) (ok_iload_n dX7_movesOf_4) 5 rfl ?_
  refine oc (y := mt_288) (pc := 5) (ok_aload_n dX7_movesOf_5) 6 rfl ?_
  refine oc_V (y := mt_288) (pc := 6) (vcons (y := mt_288) (pc := 6) (len := 3) (n := 1) (M := mt_289) (by decide) rfl (Or.inr rfl) rfl (ck_V dX7_movesOf_6 ⟨by decide, by decide, by decide, by decide +kernel⟩ q2397 q2399 qs102 q177 q2400) vnil) (hok0 rfl) (by decide) 9 rfl ?_
  refine oc_icmp dX7_movesOf_9 ⟨by decide, by decide⟩ 12 rfl ?_
  refine oc (y := mt_288) (pc := 12) (ok_aload_n dX7_movesOf_12) 13 rfl ?_
  refine oc (y := mt_288) (pc := 13) (ok_iload_n dX7_movesOf_13) 14 rfl ?_
  refine oc (y := mt_288) (pc := 14) (ok_iload_n dX7_movesOf_14) 15 rfl ?_
  refine oc_V (y := mt_288) (pc := 15) (vcons (y := mt_288) (pc := 15) (len := 3) (n := 3) (M := mt_290) (by decide) rfl (Or.inr rfl) rfl (ck_V dX7_movesOf_15 ⟨by decide, by decide, by decide, by decide +kernel⟩ q2401 q2403 qs103 q177 q2404) vnil) (hok0 rfl) (by decide) 18 rfl ?_
  refine oc_if dX7_movesOf_18 ⟨by decide, by decide⟩ 21 rfl ?_
  refine oc (y := mt_288) (pc := 21) (ok_iinc dX7_movesOf_21 (by decide)) 24 rfl ?_
  exact oc_fall rfl
theorem o_288_24 : okL gmt mt_288 24 b_288_24 := by
  refine oc (y := mt_288) (pc := 24) (ok_iinc dX7_movesOf_24 (by decide)) 27 rfl ?_
  exact oc_goto dX7_movesOf_27 ⟨by decide, by decide⟩
theorem o_288_30 : okL gmt mt_288 30 b_288_30 := by
  refine oc (y := mt_288) (pc := 30) (ok_iload_n dX7_movesOf_30) 31 rfl ?_
  exact oc_iret dX7_movesOf_31 rfl
theorem ok_288 : ∀ q ∈ pr_288, okL gmt mt_288 q.1 q.2 := pk_c o_288_0 (pk_c o_288_4 (pk_c o_288_24 (pk_c o_288_30 (pk_n))))
theorem o_289_0 : okL gmt mt_289 0 b_289_0 := by
  refine oc (y := mt_289) (pc := 0) (ok_aload_n dX7_places_0) 1 rfl ?_
  refine oc (y := mt_289) (pc := 1) (ok_getfield dX7_places_1 (fg (own := "GardenChessModel") (idx := 127) (g := 9) (k := 47) (r := (RX7, TX7, 122)) rfl ⟨⟨by decide, by decide⟩, by decide⟩ (Or.inl q1859) (Or.inl rfl) rfl (fg_nil))) 4 rfl ?_
  refine oc (y := mt_289) (pc := 4) (ok_iconst dX7_places_4 rfl ⟨by decide, by decide⟩) 5 rfl ?_
  refine oc (y := mt_289) (pc := 5) (ok_iaload dX7_places_5) 6 rfl ?_
  refine oc (y := mt_289) (pc := 6) (ok_aload_n dX7_places_6) 7 rfl ?_
  refine oc (y := mt_289) (pc := 7) (ok_getfield dX7_places_7 (fg (own := "GardenChessModel") (idx := 127) (g := 9) (k := 47) (r := (RX7, TX7, 122)) rfl ⟨⟨by decide, by decide⟩, by decide⟩ (Or.inl q1859) (Or.inl rfl) rfl (fg_nil))) 10 rfl ?_
  refine oc (y := mt_289) (pc := 10) (ok_iconst dX7_places_10 rfl ⟨by decide, by decide⟩) 11 rfl ?_
  refine oc (y := mt_289) (pc := 11) (ok_iaload dX7_places_11) 12 rfl ?_
  refine oc (y := mt_289) (pc := 12) (ok_imul dX7_places_12) 13 rfl ?_
  exact oc_iret dX7_places_13 rfl
theorem ok_289 : ∀ q ∈ pr_289, okL gmt mt_289 q.1 q.2 := pk_c o_289_0 (pk_n)
theorem o_290_0 : okL gmt mt_290 0 b_290_0 := by
  refine oc (y := mt_290) (pc := 0) (ok_aload_n dX7_canGo_0) 1 rfl ?_
  refine oc (y := mt_290) (pc := 1) (ok_iload_n dX7_canGo_1) 2 rfl ?_
  refine oc_V (y := mt_290) (pc := 2) (vcons (y := mt_290) (pc := 2) (len := 3) (n := 2) (M := mt_284) (by decide) rfl (Or.inr rfl) rfl (ck_V dX7_canGo_2 ⟨by decide, by decide, by decide, by decide +kernel⟩ q2377 q2379 qs97 q177 q2380) vnil) (hok0 rfl) (by decide) 5 rfl ?_
  refine oc_if dX7_canGo_5 ⟨by decide, by decide⟩ 8 rfl ?_
  refine oc (y := mt_290) (pc := 8) (ok_iconst dX7_canGo_8 rfl ⟨by decide, by decide⟩) 9 rfl ?_
  exact oc_zret dX7_canGo_9 rfl
theorem o_290_10 : okL gmt mt_290 10 b_290_10 := by
  refine oc (y := mt_290) (pc := 10) (ok_iload_n dX7_canGo_10) 11 rfl ?_
  refine oc (y := mt_290) (pc := 11) (ok_aload_n dX7_canGo_11) 12 rfl ?_
  refine oc (y := mt_290) (pc := 12) (ok_getfield dX7_canGo_12 (fg (own := "GardenChessModel") (idx := 127) (g := 9) (k := 47) (r := (RX7, TX7, 122)) rfl ⟨⟨by decide, by decide⟩, by decide⟩ (Or.inl q1859) (Or.inl rfl) rfl (fg_nil))) 15 rfl ?_
  refine oc (y := mt_290) (pc := 15) (ok_iconst dX7_canGo_15 rfl ⟨by decide, by decide⟩) 16 rfl ?_
  refine oc (y := mt_290) (pc := 16) (ok_iaload dX7_canGo_16) 17 rfl ?_
  refine oc (y := mt_290) (pc := 17) (ok_irem dX7_canGo_17) 18 rfl ?_
  refine oc (y := mt_290) (pc := 18) (ok_istore_n dX7_canGo_18 (by decide)) 19 rfl ?_
  refine oc (y := mt_290) (pc := 19) (ok_iload_n dX7_canGo_19) 20 rfl ?_
  refine oc (y := mt_290) (pc := 20) (ok_aload_n dX7_canGo_20) 21 rfl ?_
  refine oc (y := mt_290) (pc := 21) (ok_getfield dX7_canGo_21 (fg (own := "GardenChessModel") (idx := 127) (g := 9) (k := 47) (r := (RX7, TX7, 122)) rfl ⟨⟨by decide, by decide⟩, by decide⟩ (Or.inl q1859) (Or.inl rfl) rfl (fg_nil))) 24 rfl ?_
  refine oc (y := mt_290) (pc := 24) (ok_iconst dX7_canGo_24 rfl ⟨by decide, by decide⟩) 25 rfl ?_
  refine oc (y := mt_290) (pc := 25) (ok_iaload dX7_canGo_25) 26 rfl ?_
  refine oc (y := mt_290) (pc := 26) (ok_idiv dX7_canGo_26) 27 rfl ?_
  refine oc (y := mt_290) (pc := 27) (ok_istore dX7_canGo_27 (by decide)) 29 rfl ?_
  refine oc (y := mt_290) (pc := 29) (ok_iload_n dX7_canGo_29) 30 rfl ?_
  refine oc (y := mt_290) (pc := 30) (ok_aload_n dX7_canGo_30) 31 rfl ?_
  refine oc (y := mt_290) (pc := 31) (ok_iload_n dX7_canGo_31) 32 rfl ?_
  refine oc_V (y := mt_290) (pc := 32) (vcons (y := mt_290) (pc := 32) (len := 3) (n := 2) (M := mt_285) (by decide) rfl (Or.inr rfl) rfl (ck_V dX7_canGo_32 ⟨by decide, by decide, by decide, by decide +kernel⟩ q2381 q2383 qs98 q177 q2384) vnil) (hok0 rfl) (by decide) 35 rfl ?_
  refine oc (y := mt_290) (pc := 35) (ok_isub dX7_canGo_35) 36 rfl ?_
  refine oc_S (y := mt_290) (pc := 36) (M := mt_291) rfl (ck_S dX7_canGo_36 ⟨by decide, by decide, by decide, by decide +kernel⟩ q2405 q2406 q177 q2407) (hok0 rfl) (by decide) 39 rfl ?_
  refine oc (y := mt_290) (pc := 39) (ok_istore dX7_canGo_39 (by decide)) 41 rfl ?_
  refine oc (y := mt_290) (pc := 41) (ok_iload dX7_canGo_41) 43 rfl ?_
  refine oc (y := mt_290) (pc := 43) (ok_aload_n dX7_canGo_43) 44 rfl ?_
  refine oc (y := mt_290) (pc := 44) (ok_iload_n dX7_canGo_44) 45 rfl ?_
  refine oc_V (y := mt_290) (pc := 45) (vcons (y := mt_290) (pc := 45) (len := 3) (n := 2) (M := mt_292) (by decide) rfl (Or.inr rfl) rfl (ck_V dX7_canGo_45 ⟨by decide, by decide, by decide, by decide +kernel⟩ q2408 q2410 qs104 q177 q2411) vnil) (hok0 rfl) (by decide) 48 rfl ?_
  refine oc (y := mt_290) (pc := 48) (ok_isub dX7_canGo_48) 49 rfl ?_
  refine oc_S (y := mt_290) (pc := 49) (M := mt_291) rfl (ck_S dX7_canGo_49 ⟨by decide, by decide, by decide, by decide +kernel⟩ q2405 q2406 q177 q2407) (hok0 rfl) (by decide) 52 rfl ?_
  refine oc (y := mt_290) (pc := 52) (ok_istore dX7_canGo_52 (by decide)) 54 rfl ?_
  refine oc (y := mt_290) (pc := 54) (ok_iload dX7_canGo_54) 56 rfl ?_
  refine oc_if dX7_canGo_56 ⟨by decide, by decide⟩ 59 rfl ?_
  refine oc (y := mt_290) (pc := 59) (ok_iload dX7_canGo_59) 61 rfl ?_
  refine oc_if dX7_canGo_61 ⟨by decide, by decide⟩ 64 rfl ?_
  refine oc (y := mt_290) (pc := 64) (ok_iconst dX7_canGo_64 rfl ⟨by decide, by decide⟩) 65 rfl ?_
  exact oc_zret dX7_canGo_65 rfl
theorem o_290_66 : okL gmt mt_290 66 b_290_66 := by
  refine oc (y := mt_290) (pc := 66) (ok_aload_n dX7_canGo_66) 67 rfl ?_
  refine oc (y := mt_290) (pc := 67) (ok_getfield dX7_canGo_67 (fg (own := "GardenChessModel") (idx := 130) (g := 9) (k := 48) (r := (RX7, TX7, 122)) rfl ⟨⟨by decide, by decide⟩, by decide⟩ (Or.inl q1860) (Or.inl rfl) rfl (fg_nil))) 70 rfl ?_
  refine oc (y := mt_290) (pc := 70) (ok_bipush dX7_canGo_70 (by decide) ⟨by decide, by decide⟩) 72 rfl ?_
  refine oc (y := mt_290) (pc := 72) (ok_iconst dX7_canGo_72 rfl ⟨by decide, by decide⟩) 73 rfl ?_
  refine oc (y := mt_290) (pc := 73) (ok_aload_n dX7_canGo_73) 74 rfl ?_
  refine oc (y := mt_290) (pc := 74) (ok_iload_n dX7_canGo_74) 75 rfl ?_
  refine oc_V (y := mt_290) (pc := 75) (vcons (y := mt_290) (pc := 75) (len := 3) (n := 2) (M := mt_283) (by decide) rfl (Or.inr rfl) rfl (ck_V dX7_canGo_75 ⟨by decide, by decide, by decide, by decide +kernel⟩ q2373 q2375 qs96 q177 q2376) vnil) (hok0 rfl) (by decide) 78 rfl ?_
  refine oc (y := mt_290) (pc := 78) (ok_imul dX7_canGo_78) 79 rfl ?_
  refine oc (y := mt_290) (pc := 79) (ok_iadd dX7_canGo_79) 80 rfl ?_
  refine oc (y := mt_290) (pc := 80) (ok_iaload dX7_canGo_80) 81 rfl ?_
  refine oc (y := mt_290) (pc := 81) (ok_istore dX7_canGo_81 (by decide)) 83 rfl ?_
  refine oc (y := mt_290) (pc := 83) (ok_iload dX7_canGo_83) 85 rfl ?_
  refine oc (y := mt_290) (pc := 85) (ok_iconst dX7_canGo_85 rfl ⟨by decide, by decide⟩) 86 rfl ?_
  refine oc_icmp dX7_canGo_86 ⟨by decide, by decide⟩ 89 rfl ?_
  refine oc (y := mt_290) (pc := 89) (ok_iload dX7_canGo_89) 91 rfl ?_
  refine oc (y := mt_290) (pc := 91) (ok_iload dX7_canGo_91) 93 rfl ?_
  refine oc (y := mt_290) (pc := 93) (ok_imul dX7_canGo_93) 94 rfl ?_
  refine oc (y := mt_290) (pc := 94) (ok_iconst dX7_canGo_94 rfl ⟨by decide, by decide⟩) 95 rfl ?_
  refine oc_icmp dX7_canGo_95 ⟨by decide, by decide⟩ 98 rfl ?_
  refine oc (y := mt_290) (pc := 98) (ok_iconst dX7_canGo_98 rfl ⟨by decide, by decide⟩) 99 rfl ?_
  exact oc_zret dX7_canGo_99 rfl
theorem o_290_100 : okL gmt mt_290 100 b_290_100 := by
  refine oc (y := mt_290) (pc := 100) (ok_iload dX7_canGo_100) 102 rfl ?_
  refine oc_if dX7_canGo_102 ⟨by decide, by decide⟩ 105 rfl ?_
  refine oc (y := mt_290) (pc := 105) (ok_iload dX7_canGo_105) 107 rfl ?_
  refine oc_if dX7_canGo_107 ⟨by decide, by decide⟩ 110 rfl ?_
  exact oc_fall rfl
theorem o_290_110 : okL gmt mt_290 110 b_290_110 := by
  refine oc (y := mt_290) (pc := 110) (ok_iconst dX7_canGo_110 rfl ⟨by decide, by decide⟩) 111 rfl ?_
  exact oc_goto dX7_canGo_111 ⟨by decide, by decide⟩
theorem o_290_114 : okL gmt mt_290 114 b_290_114 := by
  refine oc (y := mt_290) (pc := 114) (ok_iconst dX7_canGo_114 rfl ⟨by decide, by decide⟩) 115 rfl ?_
  exact oc_fall rfl
theorem o_290_115 : okL gmt mt_290 115 b_290_115 := by
  refine oc (y := mt_290) (pc := 115) (ok_istore dX7_canGo_115 (by decide)) 117 rfl ?_
  refine oc (y := mt_290) (pc := 117) (ok_iload_n dX7_canGo_117) 118 rfl ?_
  refine oc (y := mt_290) (pc := 118) (ok_iload dX7_canGo_118) 120 rfl ?_
  refine oc (y := mt_290) (pc := 120) (ok_aload_n dX7_canGo_120) 121 rfl ?_
  refine oc (y := mt_290) (pc := 121) (ok_iload_n dX7_canGo_121) 122 rfl ?_
  refine oc_V (y := mt_290) (pc := 122) (vcons (y := mt_290) (pc := 122) (len := 3) (n := 2) (M := mt_285) (by decide) rfl (Or.inr rfl) rfl (ck_V dX7_canGo_122 ⟨by decide, by decide, by decide, by decide +kernel⟩ q2381 q2383 qs98 q177 q2384) vnil) (hok0 rfl) (by decide) 125 rfl ?_
  refine oc (y := mt_290) (pc := 125) (ok_aload_n dX7_canGo_125) 126 rfl ?_
  refine oc (y := mt_290) (pc := 126) (ok_iload_n dX7_canGo_126) 127 rfl ?_
  refine oc_V (y := mt_290) (pc := 127) (vcons (y := mt_290) (pc := 127) (len := 3) (n := 2) (M := mt_292) (by decide) rfl (Or.inr rfl) rfl (ck_V dX7_canGo_127 ⟨by decide, by decide, by decide, by decide +kernel⟩ q2408 q2410 qs104 q177 q2411) vnil) (hok0 rfl) (by decide) 130 rfl ?_
  refine oc_S (y := mt_290) (pc := 130) (M := mt_293) rfl (ck_S dX7_canGo_130 ⟨by decide, by decide, by decide, by decide +kernel⟩ q2412 q2413 q177 q2414) (hok0 rfl) (by decide) 133 rfl ?_
  refine oc (y := mt_290) (pc := 133) (ok_aload_n dX7_canGo_133) 134 rfl ?_
  refine oc (y := mt_290) (pc := 134) (ok_getfield dX7_canGo_134 (fg (own := "GardenChessModel") (idx := 130) (g := 9) (k := 48) (r := (RX7, TX7, 122)) rfl ⟨⟨by decide, by decide⟩, by decide⟩ (Or.inl q1860) (Or.inl rfl) rfl (fg_nil))) 137 rfl ?_
  refine oc (y := mt_290) (pc := 137) (ok_bipush dX7_canGo_137 (by decide) ⟨by decide, by decide⟩) 139 rfl ?_
  refine oc (y := mt_290) (pc := 139) (ok_iconst dX7_canGo_139 rfl ⟨by decide, by decide⟩) 140 rfl ?_
  refine oc (y := mt_290) (pc := 140) (ok_aload_n dX7_canGo_140) 141 rfl ?_
  refine oc (y := mt_290) (pc := 141) (ok_iload_n dX7_canGo_141) 142 rfl ?_
  refine oc_V (y := mt_290) (pc := 142) (vcons (y := mt_290) (pc := 142) (len := 3) (n := 2) (M := mt_283) (by decide) rfl (Or.inr rfl) rfl (ck_V dX7_canGo_142 ⟨by decide, by decide, by decide, by decide +kernel⟩ q2373 q2375 qs96 q177 q2376) vnil) (hok0 rfl) (by decide) 145 rfl ?_
  refine oc (y := mt_290) (pc := 145) (ok_imul dX7_canGo_145) 146 rfl ?_
  refine oc (y := mt_290) (pc := 146) (ok_iadd dX7_canGo_146) 147 rfl ?_
  refine oc (y := mt_290) (pc := 147) (ok_iaload dX7_canGo_147) 148 rfl ?_
  refine oc_icmp dX7_canGo_148 ⟨by decide, by decide⟩ 151 rfl ?_
  refine oc (y := mt_290) (pc := 151) (ok_iconst dX7_canGo_151 rfl ⟨by decide, by decide⟩) 152 rfl ?_
  exact oc_zret dX7_canGo_152 rfl
theorem o_290_153 : okL gmt mt_290 153 b_290_153 := by
  refine oc (y := mt_290) (pc := 153) (ok_iload dX7_canGo_153) 155 rfl ?_
  refine oc_if dX7_canGo_155 ⟨by decide, by decide⟩ 158 rfl ?_
  refine oc (y := mt_290) (pc := 158) (ok_iload dX7_canGo_158) 160 rfl ?_
  refine oc (y := mt_290) (pc := 160) (ok_iconst dX7_canGo_160 rfl ⟨by decide, by decide⟩) 161 rfl ?_
  refine oc_icmp dX7_canGo_161 ⟨by decide, by decide⟩ 164 rfl ?_
  exact oc_fall rfl
theorem o_290_164 : okL gmt mt_290 164 b_290_164 := by
  refine oc (y := mt_290) (pc := 164) (ok_iload dX7_canGo_164) 166 rfl ?_
  refine oc (y := mt_290) (pc := 166) (ok_iload dX7_canGo_166) 168 rfl ?_
  refine oc_icmp dX7_canGo_168 ⟨by decide, by decide⟩ 171 rfl ?_
  refine oc (y := mt_290) (pc := 171) (ok_iload dX7_canGo_171) 173 rfl ?_
  refine oc (y := mt_290) (pc := 173) (ok_iconst dX7_canGo_173 rfl ⟨by decide, by decide⟩) 174 rfl ?_
  refine oc_icmp dX7_canGo_174 ⟨by decide, by decide⟩ 177 rfl ?_
  exact oc_fall rfl
theorem o_290_177 : okL gmt mt_290 177 b_290_177 := by
  refine oc (y := mt_290) (pc := 177) (ok_aload_n dX7_canGo_177) 178 rfl ?_
  refine oc (y := mt_290) (pc := 178) (ok_iload_n dX7_canGo_178) 179 rfl ?_
  refine oc (y := mt_290) (pc := 179) (ok_iload_n dX7_canGo_179) 180 rfl ?_
  refine oc (y := mt_290) (pc := 180) (ok_iload dX7_canGo_180) 182 rfl ?_
  refine oc_V (y := mt_290) (pc := 182) (vcons (y := mt_290) (pc := 182) (len := 3) (n := 4) (M := mt_294) (by decide) rfl (Or.inr rfl) rfl (ck_V dX7_canGo_182 ⟨by decide, by decide, by decide, by decide +kernel⟩ q2415 q2417 qs105 q177 q2418) vnil) (hok0 rfl) (by decide) 185 rfl ?_
  refine oc_if dX7_canGo_185 ⟨by decide, by decide⟩ 188 rfl ?_
  exact oc_fall rfl
theorem o_290_188 : okL gmt mt_290 188 b_290_188 := by
  refine oc (y := mt_290) (pc := 188) (ok_iconst dX7_canGo_188 rfl ⟨by decide, by decide⟩) 189 rfl ?_
  exact oc_zret dX7_canGo_189 rfl
theorem o_290_190 : okL gmt mt_290 190 b_290_190 := by
  refine oc (y := mt_290) (pc := 190) (ok_aload_n dX7_canGo_190) 191 rfl ?_
  refine oc (y := mt_290) (pc := 191) (ok_iload_n dX7_canGo_191) 192 rfl ?_
  refine oc (y := mt_290) (pc := 192) (ok_iload dX7_canGo_192) 194 rfl ?_
  refine oc_V (y := mt_290) (pc := 194) (vcons (y := mt_290) (pc := 194) (len := 3) (n := 3) (M := mt_296) (by decide) rfl (Or.inr rfl) rfl (ck_V dX7_canGo_194 ⟨by decide, by decide, by decide, by decide +kernel⟩ q2422 q2424 qs106 q177 q2425) vnil) (hok0 rfl) (by decide) 197 rfl ?_
  refine oc (y := mt_290) (pc := 197) (ok_istore dX7_canGo_197 (by decide)) 199 rfl ?_
  refine oc (y := mt_290) (pc := 199) (ok_iload dX7_canGo_199) 201 rfl ?_
  refine oc (y := mt_290) (pc := 201) (ok_iconst dX7_canGo_201 rfl ⟨by decide, by decide⟩) 202 rfl ?_
  refine oc_icmp dX7_canGo_202 ⟨by decide, by decide⟩ 205 rfl ?_
  refine oc (y := mt_290) (pc := 205) (ok_aload_n dX7_canGo_205) 206 rfl ?_
  refine oc (y := mt_290) (pc := 206) (ok_iload dX7_canGo_206) 208 rfl ?_
  refine oc_V (y := mt_290) (pc := 208) (vcons (y := mt_290) (pc := 208) (len := 3) (n := 2) (M := mt_287) (by decide) rfl (Or.inr rfl) rfl (ck_V dX7_canGo_208 ⟨by decide, by decide, by decide, by decide +kernel⟩ q2389 q2391 qs100 q177 q2392) vnil) (hok0 rfl) (by decide) 211 rfl ?_
  refine oc (y := mt_290) (pc := 211) (ok_aload_n dX7_canGo_211) 212 rfl ?_
  refine oc (y := mt_290) (pc := 212) (ok_iload_n dX7_canGo_212) 213 rfl ?_
  refine oc_V (y := mt_290) (pc := 213) (vcons (y := mt_290) (pc := 213) (len := 3) (n := 2) (M := mt_287) (by decide) rfl (Or.inr rfl) rfl (ck_V dX7_canGo_213 ⟨by decide, by decide, by decide, by decide +kernel⟩ q2389 q2391 qs100 q177 q2392) vnil) (hok0 rfl) (by decide) 216 rfl ?_
  refine oc_icmp dX7_canGo_216 ⟨by decide, by decide⟩ 219 rfl ?_
  exact oc_fall rfl
theorem o_290_219 : okL gmt mt_290 219 b_290_219 := by
  refine oc (y := mt_290) (pc := 219) (ok_iconst dX7_canGo_219 rfl ⟨by decide, by decide⟩) 220 rfl ?_
  exact oc_goto dX7_canGo_220 ⟨by decide, by decide⟩
theorem o_290_223 : okL gmt mt_290 223 b_290_223 := by
  refine oc (y := mt_290) (pc := 223) (ok_iconst dX7_canGo_223 rfl ⟨by decide, by decide⟩) 224 rfl ?_
  exact oc_fall rfl
theorem o_290_224 : okL gmt mt_290 224 b_290_224 := by
  exact oc_zret dX7_canGo_224 rfl
theorem ok_290 : ∀ q ∈ pr_290, okL gmt mt_290 q.1 q.2 := pk_c o_290_0 (pk_c o_290_10 (pk_c o_290_66 (pk_c o_290_100 (pk_c o_290_110 (pk_c o_290_114 (pk_c o_290_115 (pk_c o_290_153 (pk_c o_290_164 (pk_c o_290_177 (pk_c o_290_188 (pk_c o_290_190 (pk_c o_290_219 (pk_c o_290_223 (pk_c o_290_224 (pk_n)))))))))))))))
theorem o_291_0 : okL gmt mt_291 0 b_291_0 := by
  refine oc (y := mt_291) (pc := 0) (ok_iload_n dX7_abs_0) 1 rfl ?_
  refine oc_if dX7_abs_1 ⟨by decide, by decide⟩ 4 rfl ?_
  refine oc (y := mt_291) (pc := 4) (ok_iload_n dX7_abs_4) 5 rfl ?_
  refine oc (y := mt_291) (pc := 5) (ok_ineg dX7_abs_5) 6 rfl ?_
  exact oc_goto dX7_abs_6 ⟨by decide, by decide⟩
theorem o_291_9 : okL gmt mt_291 9 b_291_9 := by
  refine oc (y := mt_291) (pc := 9) (ok_iload_n dX7_abs_9) 10 rfl ?_
  exact oc_fall rfl
theorem o_291_10 : okL gmt mt_291 10 b_291_10 := by
  exact oc_iret dX7_abs_10 rfl
theorem ok_291 : ∀ q ∈ pr_291, okL gmt mt_291 q.1 q.2 := pk_c o_291_0 (pk_c o_291_9 (pk_c o_291_10 (pk_n)))
theorem o_292_0 : okL gmt mt_292 0 b_292_0 := by
  refine oc (y := mt_292) (pc := 0) (ok_aload_n dX7_rowOf_0) 1 rfl ?_
  refine oc (y := mt_292) (pc := 1) (ok_getfield dX7_rowOf_1 (fg (own := "GardenChessModel") (idx := 154) (g := 9) (k := 62) (r := (RX7, TX7, 122)) rfl ⟨⟨by decide, by decide⟩, by decide⟩ (Or.inl q1874) (Or.inl rfl) rfl (fg_nil))) 4 rfl ?_
  refine oc (y := mt_292) (pc := 4) (ok_iconst dX7_rowOf_4 rfl ⟨by decide, by decide⟩) 5 rfl ?_
  refine oc (y := mt_292) (pc := 5) (ok_iconst dX7_rowOf_5 rfl ⟨by decide, by decide⟩) 6 rfl ?_
  refine oc (y := mt_292) (pc := 6) (ok_iload_n dX7_rowOf_6) 7 rfl ?_
  refine oc (y := mt_292) (pc := 7) (ok_imul dX7_rowOf_7) 8 rfl ?_
  refine oc (y := mt_292) (pc := 8) (ok_iadd dX7_rowOf_8) 9 rfl ?_
  refine oc (y := mt_292) (pc := 9) (ok_iconst dX7_rowOf_9 rfl ⟨by decide, by decide⟩) 10 rfl ?_
  refine oc (y := mt_292) (pc := 10) (ok_iadd dX7_rowOf_10) 11 rfl ?_
  refine oc (y := mt_292) (pc := 11) (ok_iaload dX7_rowOf_11) 12 rfl ?_
  exact oc_iret dX7_rowOf_12 rfl
theorem ok_292 : ∀ q ∈ pr_292, okL gmt mt_292 q.1 q.2 := pk_c o_292_0 (pk_n)
theorem o_293_0 : okL gmt mt_293 0 b_293_0 := by
  refine oc (y := mt_293) (pc := 0) (ok_iload_n dX7_farOff_0) 1 rfl ?_
  refine oc (y := mt_293) (pc := 1) (ok_iload_n dX7_farOff_1) 2 rfl ?_
  refine oc (y := mt_293) (pc := 2) (ok_isub dX7_farOff_2) 3 rfl ?_
  refine oc_S (y := mt_293) (pc := 3) (M := mt_291) rfl (ck_S dX7_farOff_3 ⟨by decide, by decide, by decide, by decide +kernel⟩ q2405 q2406 q177 q2407) (hok0 rfl) (by decide) 6 rfl ?_
  refine oc (y := mt_293) (pc := 6) (ok_istore dX7_farOff_6 (by decide)) 8 rfl ?_
  refine oc (y := mt_293) (pc := 8) (ok_iload_n dX7_farOff_8) 9 rfl ?_
  refine oc (y := mt_293) (pc := 9) (ok_iload_n dX7_farOff_9) 10 rfl ?_
  refine oc (y := mt_293) (pc := 10) (ok_isub dX7_farOff_10) 11 rfl ?_
  refine oc_S (y := mt_293) (pc := 11) (M := mt_291) rfl (ck_S dX7_farOff_11 ⟨by decide, by decide, by decide, by decide +kernel⟩ q2405 q2406 q177 q2407) (hok0 rfl) (by decide) 14 rfl ?_
  refine oc (y := mt_293) (pc := 14) (ok_istore dX7_farOff_14 (by decide)) 16 rfl ?_
  refine oc (y := mt_293) (pc := 16) (ok_iload dX7_farOff_16) 18 rfl ?_
  refine oc (y := mt_293) (pc := 18) (ok_iload dX7_farOff_18) 20 rfl ?_
  refine oc_icmp dX7_farOff_20 ⟨by decide, by decide⟩ 23 rfl ?_
  refine oc (y := mt_293) (pc := 23) (ok_iload dX7_farOff_23) 25 rfl ?_
  exact oc_goto dX7_farOff_25 ⟨by decide, by decide⟩
theorem o_293_28 : okL gmt mt_293 28 b_293_28 := by
  refine oc (y := mt_293) (pc := 28) (ok_iload dX7_farOff_28) 30 rfl ?_
  exact oc_fall rfl
theorem o_293_30 : okL gmt mt_293 30 b_293_30 := by
  exact oc_iret dX7_farOff_30 rfl
theorem ok_293 : ∀ q ∈ pr_293, okL gmt mt_293 q.1 q.2 := pk_c o_293_0 (pk_c o_293_28 (pk_c o_293_30 (pk_n)))
theorem o_294_0 : okL gmt mt_294 0 b_294_0 := by
  refine oc (y := mt_294) (pc := 0) (ok_iload_n dX7_isWayFree_0) 1 rfl ?_
  refine oc (y := mt_294) (pc := 1) (ok_aload_n dX7_isWayFree_1) 2 rfl ?_
  refine oc (y := mt_294) (pc := 2) (ok_iload_n dX7_isWayFree_2) 3 rfl ?_
  refine oc_V (y := mt_294) (pc := 3) (vcons (y := mt_294) (pc := 3) (len := 3) (n := 2) (M := mt_285) (by decide) rfl (Or.inr rfl) rfl (ck_V dX7_isWayFree_3 ⟨by decide, by decide, by decide, by decide +kernel⟩ q2381 q2383 qs98 q177 q2384) vnil) (hok0 rfl) (by decide) 6 rfl ?_
  refine oc (y := mt_294) (pc := 6) (ok_isub dX7_isWayFree_6) 7 rfl ?_
  refine oc_S (y := mt_294) (pc := 7) (M := mt_295) rfl (ck_S dX7_isWayFree_7 ⟨by decide, by decide, by decide, by decide +kernel⟩ q2419 q2420 q177 q2421) (hok0 rfl) (by decide) 10 rfl ?_
  refine oc (y := mt_294) (pc := 10) (ok_istore dX7_isWayFree_10 (by decide)) 12 rfl ?_
  refine oc (y := mt_294) (pc := 12) (ok_iload_n dX7_isWayFree_12) 13 rfl ?_
  refine oc (y := mt_294) (pc := 13) (ok_aload_n dX7_isWayFree_13) 14 rfl ?_
  refine oc (y := mt_294) (pc := 14) (ok_iload_n dX7_isWayFree_14) 15 rfl ?_
  refine oc_V (y := mt_294) (pc := 15) (vcons (y := mt_294) (pc := 15) (len := 3) (n := 2) (M := mt_292) (by decide) rfl (Or.inr rfl) rfl (ck_V dX7_isWayFree_15 ⟨by decide, by decide, by decide, by decide +kernel⟩ q2408 q2410 qs104 q177 q2411) vnil) (hok0 rfl) (by decide) 18 rfl ?_
  refine oc (y := mt_294) (pc := 18) (ok_isub dX7_isWayFree_18) 19 rfl ?_
  refine oc_S (y := mt_294) (pc := 19) (M := mt_295) rfl (ck_S dX7_isWayFree_19 ⟨by decide, by decide, by decide, by decide +kernel⟩ q2419 q2420 q177 q2421) (hok0 rfl) (by decide) 22 rfl ?_
  refine oc (y := mt_294) (pc := 22) (ok_istore dX7_isWayFree_22 (by decide)) 24 rfl ?_
  refine oc (y := mt_294) (pc := 24) (ok_aload_n dX7_isWayFree_24) 25 rfl ?_
  refine oc (y := mt_294) (pc := 25) (ok_iload_n dX7_isWayFree_25) 26 rfl ?_
  refine oc_V (y := mt_294) (pc := 26) (vcons (y := mt_294) (pc := 26) (len := 3) (n := 2) (M := mt_285) (by decide) rfl (Or.inr rfl) rfl (ck_V dX7_isWayFree_26 ⟨by decide, by decide, by decide, by decide +kernel⟩ q2381 q2383 qs98 q177 q2384) vnil) (hok0 rfl) (by decide) 29 rfl ?_
  refine oc (y := mt_294) (pc := 29) (ok_iload dX7_isWayFree_29) 31 rfl ?_
  refine oc (y := mt_294) (pc := 31) (ok_iadd dX7_isWayFree_31) 32 rfl ?_
  refine oc (y := mt_294) (pc := 32) (ok_istore dX7_isWayFree_32 (by decide)) 34 rfl ?_
  refine oc (y := mt_294) (pc := 34) (ok_aload_n dX7_isWayFree_34) 35 rfl ?_
  refine oc (y := mt_294) (pc := 35) (ok_iload_n dX7_isWayFree_35) 36 rfl ?_
  refine oc_V (y := mt_294) (pc := 36) (vcons (y := mt_294) (pc := 36) (len := 3) (n := 2) (M := mt_292) (by decide) rfl (Or.inr rfl) rfl (ck_V dX7_isWayFree_36 ⟨by decide, by decide, by decide, by decide +kernel⟩ q2408 q2410 qs104 q177 q2411) vnil) (hok0 rfl) (by decide) 39 rfl ?_
  refine oc (y := mt_294) (pc := 39) (ok_iload dX7_isWayFree_39) 41 rfl ?_
  refine oc (y := mt_294) (pc := 41) (ok_iadd dX7_isWayFree_41) 42 rfl ?_
  refine oc (y := mt_294) (pc := 42) (ok_istore dX7_isWayFree_42 (by decide)) 44 rfl ?_
  exact oc_fall rfl
theorem o_294_44 : okL gmt mt_294 44 b_294_44 := by
  refine oc (y := mt_294) (pc := 44) (ok_iload dX7_isWayFree_44) 46 rfl ?_
  refine oc (y := mt_294) (pc := 46) (ok_iload_n dX7_isWayFree_46) 47 rfl ?_
  refine oc_icmp dX7_isWayFree_47 ⟨by decide, by decide⟩ 50 rfl ?_
  refine oc (y := mt_294) (pc := 50) (ok_iload dX7_isWayFree_50) 52 rfl ?_
  refine oc (y := mt_294) (pc := 52) (ok_iload_n dX7_isWayFree_52) 53 rfl ?_
  refine oc_icmp dX7_isWayFree_53 ⟨by decide, by decide⟩ 56 rfl ?_
  exact oc_fall rfl
theorem o_294_56 : okL gmt mt_294 56 b_294_56 := by
  refine oc (y := mt_294) (pc := 56) (ok_aload_n dX7_isWayFree_56) 57 rfl ?_
  refine oc (y := mt_294) (pc := 57) (ok_iload dX7_isWayFree_57) 59 rfl ?_
  refine oc (y := mt_294) (pc := 59) (ok_iload dX7_isWayFree_59) 61 rfl ?_
  refine oc_V (y := mt_294) (pc := 61) (vcons (y := mt_294) (pc := 61) (len := 3) (n := 3) (M := mt_296) (by decide) rfl (Or.inr rfl) rfl (ck_V dX7_isWayFree_61 ⟨by decide, by decide, by decide, by decide +kernel⟩ q2422 q2424 qs106 q177 q2425) vnil) (hok0 rfl) (by decide) 64 rfl ?_
  refine oc (y := mt_294) (pc := 64) (ok_iconst dX7_isWayFree_64 rfl ⟨by decide, by decide⟩) 65 rfl ?_
  refine oc_icmp dX7_isWayFree_65 ⟨by decide, by decide⟩ 68 rfl ?_
  refine oc (y := mt_294) (pc := 68) (ok_iconst dX7_isWayFree_68 rfl ⟨by decide, by decide⟩) 69 rfl ?_
  exact oc_zret dX7_isWayFree_69 rfl
theorem o_294_70 : okL gmt mt_294 70 b_294_70 := by
  refine oc (y := mt_294) (pc := 70) (ok_iload dX7_isWayFree_70) 72 rfl ?_
  refine oc (y := mt_294) (pc := 72) (ok_iload dX7_isWayFree_72) 74 rfl ?_
  refine oc (y := mt_294) (pc := 74) (ok_iadd dX7_isWayFree_74) 75 rfl ?_
  refine oc (y := mt_294) (pc := 75) (ok_istore dX7_isWayFree_75 (by decide)) 77 rfl ?_
  refine oc (y := mt_294) (pc := 77) (ok_iload dX7_isWayFree_77) 79 rfl ?_
  refine oc (y := mt_294) (pc := 79) (ok_iload dX7_isWayFree_79) 81 rfl ?_
  refine oc (y := mt_294) (pc := 81) (ok_iadd dX7_isWayFree_81) 82 rfl ?_
  refine oc (y := mt_294) (pc := 82) (ok_istore dX7_isWayFree_82 (by decide)) 84 rfl ?_
  exact oc_goto dX7_isWayFree_84 ⟨by decide, by decide⟩
theorem o_294_87 : okL gmt mt_294 87 b_294_87 := by
  refine oc (y := mt_294) (pc := 87) (ok_iconst dX7_isWayFree_87 rfl ⟨by decide, by decide⟩) 88 rfl ?_
  exact oc_zret dX7_isWayFree_88 rfl
theorem ok_294 : ∀ q ∈ pr_294, okL gmt mt_294 q.1 q.2 := pk_c o_294_0 (pk_c o_294_44 (pk_c o_294_56 (pk_c o_294_70 (pk_c o_294_87 (pk_n)))))
theorem o_295_0 : okL gmt mt_295 0 b_295_0 := by
  refine oc (y := mt_295) (pc := 0) (ok_iload_n dX7_sign_0) 1 rfl ?_
  refine oc_if dX7_sign_1 ⟨by decide, by decide⟩ 4 rfl ?_
  refine oc (y := mt_295) (pc := 4) (ok_iconst dX7_sign_4 rfl ⟨by decide, by decide⟩) 5 rfl ?_
  exact oc_goto dX7_sign_5 ⟨by decide, by decide⟩
theorem o_295_8 : okL gmt mt_295 8 b_295_8 := by
  refine oc (y := mt_295) (pc := 8) (ok_iload_n dX7_sign_8) 9 rfl ?_
  refine oc_if dX7_sign_9 ⟨by decide, by decide⟩ 12 rfl ?_
  refine oc (y := mt_295) (pc := 12) (ok_iconst dX7_sign_12 rfl ⟨by decide, by decide⟩) 13 rfl ?_
  exact oc_goto dX7_sign_13 ⟨by decide, by decide⟩
theorem o_295_16 : okL gmt mt_295 16 b_295_16 := by
  refine oc (y := mt_295) (pc := 16) (ok_iconst dX7_sign_16 rfl ⟨by decide, by decide⟩) 17 rfl ?_
  exact oc_fall rfl
theorem o_295_17 : okL gmt mt_295 17 b_295_17 := by
  exact oc_iret dX7_sign_17 rfl
theorem ok_295 : ∀ q ∈ pr_295, okL gmt mt_295 q.1 q.2 := pk_c o_295_0 (pk_c o_295_8 (pk_c o_295_16 (pk_c o_295_17 (pk_n))))
theorem o_296_0 : okL gmt mt_296 0 b_296_0 := by
  refine oc (y := mt_296) (pc := 0) (ok_iconst dX7_manAt_0 rfl ⟨by decide, by decide⟩) 1 rfl ?_
  refine oc (y := mt_296) (pc := 1) (ok_istore_n dX7_manAt_1 (by decide)) 2 rfl ?_
  exact oc_fall rfl
theorem o_296_2 : okL gmt mt_296 2 b_296_2 := by
  refine oc (y := mt_296) (pc := 2) (ok_iload_n dX7_manAt_2) 3 rfl ?_
  refine oc (y := mt_296) (pc := 3) (ok_aload_n dX7_manAt_3) 4 rfl ?_
  refine oc_V (y := mt_296) (pc := 4) (vcons (y := mt_296) (pc := 4) (len := 3) (n := 1) (M := mt_281) (by decide) rfl (Or.inr rfl) rfl (ck_V dX7_manAt_4 ⟨by decide, by decide, by decide, by decide +kernel⟩ q2365 q2367 qs94 q177 q2368) vnil) (hok0 rfl) (by decide) 7 rfl ?_
  refine oc_icmp dX7_manAt_7 ⟨by decide, by decide⟩ 10 rfl ?_
  refine oc (y := mt_296) (pc := 10) (ok_aload_n dX7_manAt_10) 11 rfl ?_
  refine oc (y := mt_296) (pc := 11) (ok_iload_n dX7_manAt_11) 12 rfl ?_
  refine oc_V (y := mt_296) (pc := 12) (vcons (y := mt_296) (pc := 12) (len := 3) (n := 2) (M := mt_285) (by decide) rfl (Or.inr rfl) rfl (ck_V dX7_manAt_12 ⟨by decide, by decide, by decide, by decide +kernel⟩ q2381 q2383 qs98 q177 q2384) vnil) (hok0 rfl) (by decide) 15 rfl ?_
  refine oc (y := mt_296) (pc := 15) (ok_iload_n dX7_manAt_15) 16 rfl ?_
  refine oc_icmp dX7_manAt_16 ⟨by decide, by decide⟩ 19 rfl ?_
  refine oc (y := mt_296) (pc := 19) (ok_aload_n dX7_manAt_19) 20 rfl ?_
  refine oc (y := mt_296) (pc := 20) (ok_iload_n dX7_manAt_20) 21 rfl ?_
  refine oc_V (y := mt_296) (pc := 21) (vcons (y := mt_296) (pc := 21) (len := 3) (n := 2) (M := mt_292) (by decide) rfl (Or.inr rfl) rfl (ck_V dX7_manAt_21 ⟨by decide, by decide, by decide, by decide +kernel⟩ q2408 q2410 qs104 q177 q2411) vnil) (hok0 rfl) (by decide) 24 rfl ?_
  refine oc (y := mt_296) (pc := 24) (ok_iload_n dX7_manAt_24) 25 rfl ?_
  refine oc_icmp dX7_manAt_25 ⟨by decide, by decide⟩ 28 rfl ?_
  refine oc (y := mt_296) (pc := 28) (ok_iload_n dX7_manAt_28) 29 rfl ?_
  exact oc_iret dX7_manAt_29 rfl
theorem o_296_30 : okL gmt mt_296 30 b_296_30 := by
  refine oc (y := mt_296) (pc := 30) (ok_iinc dX7_manAt_30 (by decide)) 33 rfl ?_
  exact oc_goto dX7_manAt_33 ⟨by decide, by decide⟩
theorem o_296_36 : okL gmt mt_296 36 b_296_36 := by
  refine oc (y := mt_296) (pc := 36) (ok_iconst dX7_manAt_36 rfl ⟨by decide, by decide⟩) 37 rfl ?_
  exact oc_iret dX7_manAt_37 rfl
theorem ok_296 : ∀ q ∈ pr_296, okL gmt mt_296 q.1 q.2 := pk_c o_296_0 (pk_c o_296_2 (pk_c o_296_30 (pk_c o_296_36 (pk_n))))
theorem o_297_0 : okL gmt mt_297 0 b_297_0 := by
  refine oc (y := mt_297) (pc := 0) (ok_iconst dX7_menOf_0 rfl ⟨by decide, by decide⟩) 1 rfl ?_
  refine oc (y := mt_297) (pc := 1) (ok_istore_n dX7_menOf_1 (by decide)) 2 rfl ?_
  refine oc (y := mt_297) (pc := 2) (ok_iconst dX7_menOf_2 rfl ⟨by decide, by decide⟩) 3 rfl ?_
  refine oc (y := mt_297) (pc := 3) (ok_istore_n dX7_menOf_3 (by decide)) 4 rfl ?_
  exact oc_fall rfl
theorem o_297_4 : okL gmt mt_297 4 b_297_4 := by
  refine oc (y := mt_297) (pc := 4) (ok_iload_n dX7_menOf_4) 5 rfl ?_
  refine oc (y := mt_297) (pc := 5) (ok_aload_n dX7_menOf_5) 6 rfl ?_
  refine oc_V (y := mt_297) (pc := 6) (vcons (y := mt_297) (pc := 6) (len := 3) (n := 1) (M := mt_281) (by decide) rfl (Or.inr rfl) rfl (ck_V dX7_menOf_6 ⟨by decide, by decide, by decide, by decide +kernel⟩ q2365 q2367 qs94 q177 q2368) vnil) (hok0 rfl) (by decide) 9 rfl ?_
  refine oc_icmp dX7_menOf_9 ⟨by decide, by decide⟩ 12 rfl ?_
  refine oc (y := mt_297) (pc := 12) (ok_aload_n dX7_menOf_12) 13 rfl ?_
  refine oc (y := mt_297) (pc := 13) (ok_iload_n dX7_menOf_13) 14 rfl ?_
  refine oc_V (y := mt_297) (pc := 14) (vcons (y := mt_297) (pc := 14) (len := 3) (n := 2) (M := mt_284) (by decide) rfl (Or.inr rfl) rfl (ck_V dX7_menOf_14 ⟨by decide, by decide, by decide, by decide +kernel⟩ q2377 q2379 qs97 q177 q2380) vnil) (hok0 rfl) (by decide) 17 rfl ?_
  refine oc_if dX7_menOf_17 ⟨by decide, by decide⟩ 20 rfl ?_
  refine oc (y := mt_297) (pc := 20) (ok_aload_n dX7_menOf_20) 21 rfl ?_
  refine oc (y := mt_297) (pc := 21) (ok_iload_n dX7_menOf_21) 22 rfl ?_
  refine oc_V (y := mt_297) (pc := 22) (vcons (y := mt_297) (pc := 22) (len := 3) (n := 2) (M := mt_287) (by decide) rfl (Or.inr rfl) rfl (ck_V dX7_menOf_22 ⟨by decide, by decide, by decide, by decide +kernel⟩ q2389 q2391 qs100 q177 q2392) vnil) (hok0 rfl) (by decide) 25 rfl ?_
  refine oc (y := mt_297) (pc := 25) (ok_iload_n dX7_menOf_25) 26 rfl ?_
  refine oc_icmp dX7_menOf_26 ⟨by decide, by decide⟩ 29 rfl ?_
  refine oc (y := mt_297) (pc := 29) (ok_iinc dX7_menOf_29 (by decide)) 32 rfl ?_
  exact oc_fall rfl
theorem o_297_32 : okL gmt mt_297 32 b_297_32 := by
  refine oc (y := mt_297) (pc := 32) (ok_iinc dX7_menOf_32 (by decide)) 35 rfl ?_
  exact oc_goto dX7_menOf_35 ⟨by decide, by decide⟩
theorem o_297_38 : okL gmt mt_297 38 b_297_38 := by
  refine oc (y := mt_297) (pc := 38) (ok_iload_n dX7_menOf_38) 39 rfl ?_
  exact oc_iret dX7_menOf_39 rfl
theorem ok_297 : ∀ q ∈ pr_297, okL gmt mt_297 q.1 q.2 := pk_c o_297_0 (pk_c o_297_4 (pk_c o_297_32 (pk_c o_297_38 (pk_n))))
theorem o_298_0 : okL gmt mt_298 0 b_298_0 := by
  refine oc (y := mt_298) (pc := 0) (ok_iconst dX7_bearAll_0 rfl ⟨by decide, by decide⟩) 1 rfl ?_
  refine oc (y := mt_298) (pc := 1) (ok_istore_n dX7_bearAll_1 (by decide)) 2 rfl ?_
  refine oc (y := mt_298) (pc := 2) (ok_iconst dX7_bearAll_2 rfl ⟨by decide, by decide⟩) 3 rfl ?_
  refine oc (y := mt_298) (pc := 3) (ok_istore_n dX7_bearAll_3 (by decide)) 4 rfl ?_
  exact oc_fall rfl
theorem o_298_4 : okL gmt mt_298 4 b_298_4 := by
  refine oc (y := mt_298) (pc := 4) (ok_iload_n dX7_bearAll_4) 5 rfl ?_
  refine oc (y := mt_298) (pc := 5) (ok_aload_n dX7_bearAll_5) 6 rfl ?_
  refine oc_V (y := mt_298) (pc := 6) (vcons (y := mt_298) (pc := 6) (len := 3) (n := 1) (M := mt_299) (by decide) rfl (Or.inr rfl) rfl (ck_V dX7_bearAll_6 ⟨by decide, by decide, by decide, by decide +kernel⟩ q2434 q2436 qs109 q177 q2437) vnil) (hok0 rfl) (by decide) 9 rfl ?_
  refine oc_icmp dX7_bearAll_9 ⟨by decide, by decide⟩ 12 rfl ?_
  refine oc (y := mt_298) (pc := 12) (ok_iload_n dX7_bearAll_12) 13 rfl ?_
  refine oc (y := mt_298) (pc := 13) (ok_aload_n dX7_bearAll_13) 14 rfl ?_
  refine oc (y := mt_298) (pc := 14) (ok_getfield dX7_bearAll_14 (fg (own := "GardenChessModel") (idx := 154) (g := 9) (k := 62) (r := (RX7, TX7, 122)) rfl ⟨⟨by decide, by decide⟩, by decide⟩ (Or.inl q1874) (Or.inl rfl) rfl (fg_nil))) 17 rfl ?_
  refine oc (y := mt_298) (pc := 17) (ok_bipush dX7_bearAll_17 (by decide) ⟨by decide, by decide⟩) 19 rfl ?_
  refine oc (y := mt_298) (pc := 19) (ok_iload_n dX7_bearAll_19) 20 rfl ?_
  refine oc (y := mt_298) (pc := 20) (ok_iadd dX7_bearAll_20) 21 rfl ?_
  refine oc (y := mt_298) (pc := 21) (ok_iaload dX7_bearAll_21) 22 rfl ?_
  refine oc (y := mt_298) (pc := 22) (ok_iadd dX7_bearAll_22) 23 rfl ?_
  refine oc (y := mt_298) (pc := 23) (ok_istore_n dX7_bearAll_23 (by decide)) 24 rfl ?_
  refine oc (y := mt_298) (pc := 24) (ok_iinc dX7_bearAll_24 (by decide)) 27 rfl ?_
  exact oc_goto dX7_bearAll_27 ⟨by decide, by decide⟩
theorem o_298_30 : okL gmt mt_298 30 b_298_30 := by
  refine oc (y := mt_298) (pc := 30) (ok_iload_n dX7_bearAll_30) 31 rfl ?_
  exact oc_iret dX7_bearAll_31 rfl
theorem ok_298 : ∀ q ∈ pr_298, okL gmt mt_298 q.1 q.2 := pk_c o_298_0 (pk_c o_298_4 (pk_c o_298_30 (pk_n)))
theorem o_299_0 : okL gmt mt_299 0 b_299_0 := by
  refine oc (y := mt_299) (pc := 0) (ok_aload_n dX7_fieldMany_0) 1 rfl ?_
  refine oc (y := mt_299) (pc := 1) (ok_getfield dX7_fieldMany_1 (fg (own := "GardenChessModel") (idx := 120) (g := 9) (k := 45) (r := (RX7, TX7, 122)) rfl ⟨⟨by decide, by decide⟩, by decide⟩ (Or.inl q1857) (Or.inl rfl) rfl (fg_nil))) 4 rfl ?_
  refine oc (y := mt_299) (pc := 4) (ok_iconst dX7_fieldMany_4 rfl ⟨by decide, by decide⟩) 5 rfl ?_
  refine oc (y := mt_299) (pc := 5) (ok_iaload dX7_fieldMany_5) 6 rfl ?_
  exact oc_iret dX7_fieldMany_6 rfl
theorem ok_299 : ∀ q ∈ pr_299, okL gmt mt_299 q.1 q.2 := pk_c o_299_0 (pk_n)
theorem o_300_0 : okL gmt mt_300 0 b_300_0 := by
  refine oc (y := mt_300) (pc := 0) (ok_iload_n dX7_letter_0) 1 rfl ?_
  refine oc (y := mt_300) (pc := 1) (ok_i2l dX7_letter_1) 2 rfl ?_
  refine oc (y := mt_300) (pc := 2) (ok_lconst dX7_letter_2 (by decide) ⟨by decide, by decide⟩) 3 rfl ?_
  refine oc (y := mt_300) (pc := 3) (ok_ldc2 dX7_letter_3 ⟨by decide, by decide⟩ (show Cond.constantLong _ _ (Int64.ofInt 2) ∈ lw_all from q2442)) 6 rfl ?_
  refine oc_S (y := mt_300) (pc := 6) (M := mt_246) rfl (ck_S dX7_letter_6 ⟨by decide, by decide, by decide, by decide +kernel⟩ q2225 q2226 q177 q2227) (hok0 rfl) (by decide) 9 rfl ?_
  refine oc_if dX7_letter_9 ⟨by decide, by decide⟩ 12 rfl ?_
  refine oc (y := mt_300) (pc := 12) (ok_iload_n dX7_letter_12) 13 rfl ?_
  refine oc (y := mt_300) (pc := 13) (ok_i2l dX7_letter_13) 14 rfl ?_
  refine oc (y := mt_300) (pc := 14) (ok_lconst dX7_letter_14 (by decide) ⟨by decide, by decide⟩) 15 rfl ?_
  refine oc (y := mt_300) (pc := 15) (ok_aload_n dX7_letter_15) 16 rfl ?_
  refine oc (y := mt_300) (pc := 16) (ok_getfield dX7_letter_16 (fg (own := "GardenChessModel") (idx := 120) (g := 9) (k := 45) (r := (RX7, TX7, 122)) rfl ⟨⟨by decide, by decide⟩, by decide⟩ (Or.inl q1857) (Or.inl rfl) rfl (fg_nil))) 19 rfl ?_
  refine oc (y := mt_300) (pc := 19) (ok_iconst dX7_letter_19 rfl ⟨by decide, by decide⟩) 20 rfl ?_
  refine oc (y := mt_300) (pc := 20) (ok_iload_n dX7_letter_20) 21 rfl ?_
  refine oc (y := mt_300) (pc := 21) (ok_iadd dX7_letter_21) 22 rfl ?_
  refine oc (y := mt_300) (pc := 22) (ok_iaload dX7_letter_22) 23 rfl ?_
  refine oc (y := mt_300) (pc := 23) (ok_iconst dX7_letter_23 rfl ⟨by decide, by decide⟩) 24 rfl ?_
  refine oc (y := mt_300) (pc := 24) (ok_isub dX7_letter_24) 25 rfl ?_
  refine oc (y := mt_300) (pc := 25) (ok_i2l dX7_letter_25) 26 rfl ?_
  refine oc_S (y := mt_300) (pc := 26) (M := mt_246) rfl (ck_S dX7_letter_26 ⟨by decide, by decide, by decide, by decide +kernel⟩ q2225 q2226 q177 q2227) (hok0 rfl) (by decide) 29 rfl ?_
  refine oc_if dX7_letter_29 ⟨by decide, by decide⟩ 32 rfl ?_
  refine oc (y := mt_300) (pc := 32) (ok_iload_n dX7_letter_32) 33 rfl ?_
  refine oc (y := mt_300) (pc := 33) (ok_i2l dX7_letter_33) 34 rfl ?_
  refine oc (y := mt_300) (pc := 34) (ok_lconst dX7_letter_34 (by decide) ⟨by decide, by decide⟩) 35 rfl ?_
  refine oc (y := mt_300) (pc := 35) (ok_ldc2 dX7_letter_35 ⟨by decide, by decide⟩ (show Cond.constantLong _ _ (Int64.ofInt 5) ∈ lw_all from q2443)) 38 rfl ?_
  refine oc_S (y := mt_300) (pc := 38) (M := mt_246) rfl (ck_S dX7_letter_38 ⟨by decide, by decide, by decide, by decide +kernel⟩ q2225 q2226 q177 q2227) (hok0 rfl) (by decide) 41 rfl ?_
  refine oc_if dX7_letter_41 ⟨by decide, by decide⟩ 44 rfl ?_
  exact oc_fall rfl
theorem o_300_44 : okL gmt mt_300 44 b_300_44 := by
  refine oc (y := mt_300) (pc := 44) (ok_iconst dX7_letter_44 rfl ⟨by decide, by decide⟩) 45 rfl ?_
  exact oc_iret dX7_letter_45 rfl
theorem o_300_46 : okL gmt mt_300 46 b_300_46 := by
  refine oc (y := mt_300) (pc := 46) (ok_aload_n dX7_letter_46) 47 rfl ?_
  refine oc (y := mt_300) (pc := 47) (ok_getfield dX7_letter_47 (fg (own := "GardenChessModel") (idx := 123) (g := 9) (k := 46) (r := (RX7, TX7, 122)) rfl ⟨⟨by decide, by decide⟩, by decide⟩ (Or.inl q1858) (Or.inl rfl) rfl (fg_nil))) 50 rfl ?_
  refine oc (y := mt_300) (pc := 50) (ok_bipush dX7_letter_50 (by decide) ⟨by decide, by decide⟩) 52 rfl ?_
  refine oc (y := mt_300) (pc := 52) (ok_bipush dX7_letter_52 (by decide) ⟨by decide, by decide⟩) 54 rfl ?_
  refine oc (y := mt_300) (pc := 54) (ok_iload_n dX7_letter_54) 55 rfl ?_
  refine oc (y := mt_300) (pc := 55) (ok_imul dX7_letter_55) 56 rfl ?_
  refine oc (y := mt_300) (pc := 56) (ok_iadd dX7_letter_56) 57 rfl ?_
  refine oc (y := mt_300) (pc := 57) (ok_iload_n dX7_letter_57) 58 rfl ?_
  refine oc (y := mt_300) (pc := 58) (ok_iadd dX7_letter_58) 59 rfl ?_
  refine oc (y := mt_300) (pc := 59) (ok_laload dX7_letter_59) 60 rfl ?_
  refine oc (y := mt_300) (pc := 60) (ok_lstore dX7_letter_60 (by decide)) 62 rfl ?_
  refine oc (y := mt_300) (pc := 62) (ok_iconst dX7_letter_62 rfl ⟨by decide, by decide⟩) 63 rfl ?_
  refine oc (y := mt_300) (pc := 63) (ok_istore dX7_letter_63 (by decide)) 65 rfl ?_
  refine oc (y := mt_300) (pc := 65) (ok_lload dX7_letter_65) 67 rfl ?_
  refine oc (y := mt_300) (pc := 67) (ok_lstore dX7_letter_67 (by decide)) 69 rfl ?_
  exact oc_fall rfl
theorem o_300_69 : okL gmt mt_300 69 b_300_69 := by
  refine oc (y := mt_300) (pc := 69) (ok_lload dX7_letter_69) 71 rfl ?_
  refine oc (y := mt_300) (pc := 71) (ok_lconst dX7_letter_71 (by decide) ⟨by decide, by decide⟩) 72 rfl ?_
  refine oc (y := mt_300) (pc := 72) (ok_lcmp dX7_letter_72) 73 rfl ?_
  refine oc_if dX7_letter_73 ⟨by decide, by decide⟩ 76 rfl ?_
  refine oc (y := mt_300) (pc := 76) (ok_iinc dX7_letter_76 (by decide)) 79 rfl ?_
  refine oc (y := mt_300) (pc := 79) (ok_lload dX7_letter_79) 81 rfl ?_
  refine oc (y := mt_300) (pc := 81) (ok_ldc2 dX7_letter_81 ⟨by decide, by decide⟩ (show Cond.constantLong _ _ (Int64.ofInt 27) ∈ lw_all from q2260)) 84 rfl ?_
  refine oc (y := mt_300) (pc := 84) (ok_ldiv dX7_letter_84) 85 rfl ?_
  refine oc (y := mt_300) (pc := 85) (ok_lstore dX7_letter_85 (by decide)) 87 rfl ?_
  exact oc_goto dX7_letter_87 ⟨by decide, by decide⟩
theorem o_300_90 : okL gmt mt_300 90 b_300_90 := by
  refine oc (y := mt_300) (pc := 90) (ok_iload_n dX7_letter_90) 91 rfl ?_
  refine oc (y := mt_300) (pc := 91) (ok_iload dX7_letter_91) 93 rfl ?_
  refine oc_icmp dX7_letter_93 ⟨by decide, by decide⟩ 96 rfl ?_
  refine oc (y := mt_300) (pc := 96) (ok_iconst dX7_letter_96 rfl ⟨by decide, by decide⟩) 97 rfl ?_
  exact oc_iret dX7_letter_97 rfl
theorem o_300_98 : okL gmt mt_300 98 b_300_98 := by
  refine oc (y := mt_300) (pc := 98) (ok_iload dX7_letter_98) 100 rfl ?_
  refine oc (y := mt_300) (pc := 100) (ok_iconst dX7_letter_100 rfl ⟨by decide, by decide⟩) 101 rfl ?_
  refine oc (y := mt_300) (pc := 101) (ok_isub dX7_letter_101) 102 rfl ?_
  refine oc (y := mt_300) (pc := 102) (ok_istore dX7_letter_102 (by decide)) 104 rfl ?_
  exact oc_fall rfl
theorem o_300_104 : okL gmt mt_300 104 b_300_104 := by
  refine oc (y := mt_300) (pc := 104) (ok_iload dX7_letter_104) 106 rfl ?_
  refine oc (y := mt_300) (pc := 106) (ok_iload_n dX7_letter_106) 107 rfl ?_
  refine oc_icmp dX7_letter_107 ⟨by decide, by decide⟩ 110 rfl ?_
  refine oc (y := mt_300) (pc := 110) (ok_lload dX7_letter_110) 112 rfl ?_
  refine oc (y := mt_300) (pc := 112) (ok_ldc2 dX7_letter_112 ⟨by decide, by decide⟩ (show Cond.constantLong _ _ (Int64.ofInt 27) ∈ lw_all from q2260)) 115 rfl ?_
  refine oc (y := mt_300) (pc := 115) (ok_ldiv dX7_letter_115) 116 rfl ?_
  refine oc (y := mt_300) (pc := 116) (ok_lstore dX7_letter_116 (by decide)) 118 rfl ?_
  refine oc (y := mt_300) (pc := 118) (ok_iinc dX7_letter_118 (by decide)) 121 rfl ?_
  exact oc_goto dX7_letter_121 ⟨by decide, by decide⟩
theorem o_300_124 : okL gmt mt_300 124 b_300_124 := by
  refine oc (y := mt_300) (pc := 124) (ok_lload dX7_letter_124) 126 rfl ?_
  refine oc (y := mt_300) (pc := 126) (ok_ldc2 dX7_letter_126 ⟨by decide, by decide⟩ (show Cond.constantLong _ _ (Int64.ofInt 27) ∈ lw_all from q2260)) 129 rfl ?_
  refine oc (y := mt_300) (pc := 129) (ok_lrem dX7_letter_129) 130 rfl ?_
  refine oc (y := mt_300) (pc := 130) (ok_l2i dX7_letter_130) 131 rfl ?_
  exact oc_iret dX7_letter_131 rfl
theorem ok_300 : ∀ q ∈ pr_300, okL gmt mt_300 q.1 q.2 := pk_c o_300_0 (pk_c o_300_44 (pk_c o_300_46 (pk_c o_300_69 (pk_c o_300_90 (pk_c o_300_98 (pk_c o_300_104 (pk_c o_300_124 (pk_n))))))))
theorem o_301_0 : okL gmt mt_301 0 b_301_0 := by
  refine oc (y := mt_301) (pc := 0) (ok_iload_n dX7_kind_0) 1 rfl ?_
  refine oc (y := mt_301) (pc := 1) (ok_i2l dX7_kind_1) 2 rfl ?_
  refine oc (y := mt_301) (pc := 2) (ok_lconst dX7_kind_2 (by decide) ⟨by decide, by decide⟩) 3 rfl ?_
  refine oc (y := mt_301) (pc := 3) (ok_aload_n dX7_kind_3) 4 rfl ?_
  refine oc (y := mt_301) (pc := 4) (ok_getfield dX7_kind_4 (fg (own := "GardenChessModel") (idx := 120) (g := 9) (k := 45) (r := (RX7, TX7, 122)) rfl ⟨⟨by decide, by decide⟩, by decide⟩ (Or.inl q1857) (Or.inl rfl) rfl (fg_nil))) 7 rfl ?_
  refine oc (y := mt_301) (pc := 7) (ok_iconst dX7_kind_7 rfl ⟨by decide, by decide⟩) 8 rfl ?_
  refine oc (y := mt_301) (pc := 8) (ok_iaload dX7_kind_8) 9 rfl ?_
  refine oc (y := mt_301) (pc := 9) (ok_iconst dX7_kind_9 rfl ⟨by decide, by decide⟩) 10 rfl ?_
  refine oc (y := mt_301) (pc := 10) (ok_isub dX7_kind_10) 11 rfl ?_
  refine oc (y := mt_301) (pc := 11) (ok_i2l dX7_kind_11) 12 rfl ?_
  refine oc_S (y := mt_301) (pc := 12) (M := mt_246) rfl (ck_S dX7_kind_12 ⟨by decide, by decide, by decide, by decide +kernel⟩ q2225 q2226 q177 q2227) (hok0 rfl) (by decide) 15 rfl ?_
  refine oc_if dX7_kind_15 ⟨by decide, by decide⟩ 18 rfl ?_
  refine oc (y := mt_301) (pc := 18) (ok_iload_n dX7_kind_18) 19 rfl ?_
  refine oc (y := mt_301) (pc := 19) (ok_i2l dX7_kind_19) 20 rfl ?_
  refine oc (y := mt_301) (pc := 20) (ok_lconst dX7_kind_20 (by decide) ⟨by decide, by decide⟩) 21 rfl ?_
  refine oc (y := mt_301) (pc := 21) (ok_ldc2 dX7_kind_21 ⟨by decide, by decide⟩ (show Cond.constantLong _ _ (Int64.ofInt 3) ∈ lw_all from q2448)) 24 rfl ?_
  refine oc_S (y := mt_301) (pc := 24) (M := mt_246) rfl (ck_S dX7_kind_24 ⟨by decide, by decide, by decide, by decide +kernel⟩ q2225 q2226 q177 q2227) (hok0 rfl) (by decide) 27 rfl ?_
  refine oc_if dX7_kind_27 ⟨by decide, by decide⟩ 30 rfl ?_
  refine oc (y := mt_301) (pc := 30) (ok_aload_n dX7_kind_30) 31 rfl ?_
  refine oc (y := mt_301) (pc := 31) (ok_getfield dX7_kind_31 (fg (own := "GardenChessModel") (idx := 130) (g := 9) (k := 48) (r := (RX7, TX7, 122)) rfl ⟨⟨by decide, by decide⟩, by decide⟩ (Or.inl q1860) (Or.inl rfl) rfl (fg_nil))) 34 rfl ?_
  refine oc (y := mt_301) (pc := 34) (ok_bipush dX7_kind_34 (by decide) ⟨by decide, by decide⟩) 36 rfl ?_
  refine oc (y := mt_301) (pc := 36) (ok_iconst dX7_kind_36 rfl ⟨by decide, by decide⟩) 37 rfl ?_
  refine oc (y := mt_301) (pc := 37) (ok_iload_n dX7_kind_37) 38 rfl ?_
  refine oc (y := mt_301) (pc := 38) (ok_imul dX7_kind_38) 39 rfl ?_
  refine oc (y := mt_301) (pc := 39) (ok_iadd dX7_kind_39) 40 rfl ?_
  refine oc (y := mt_301) (pc := 40) (ok_iload_n dX7_kind_40) 41 rfl ?_
  refine oc (y := mt_301) (pc := 41) (ok_iadd dX7_kind_41) 42 rfl ?_
  refine oc (y := mt_301) (pc := 42) (ok_iaload dX7_kind_42) 43 rfl ?_
  exact oc_goto dX7_kind_43 ⟨by decide, by decide⟩
theorem o_301_46 : okL gmt mt_301 46 b_301_46 := by
  refine oc (y := mt_301) (pc := 46) (ok_iconst dX7_kind_46 rfl ⟨by decide, by decide⟩) 47 rfl ?_
  exact oc_fall rfl
theorem o_301_47 : okL gmt mt_301 47 b_301_47 := by
  exact oc_iret dX7_kind_47 rfl
theorem ok_301 : ∀ q ∈ pr_301, okL gmt mt_301 q.1 q.2 := pk_c o_301_0 (pk_c o_301_46 (pk_c o_301_47 (pk_n)))
theorem o_302_0 : okL gmt mt_302 0 b_302_0 := by
  refine oc (y := mt_302) (pc := 0) (ok_aload_n dX7_man_0) 1 rfl ?_
  refine oc (y := mt_302) (pc := 1) (ok_iload_n dX7_man_1) 2 rfl ?_
  refine oc_V (y := mt_302) (pc := 2) (vcons (y := mt_302) (pc := 2) (len := 3) (n := 2) (M := mt_303) (by decide) rfl (Or.inr rfl) rfl (ck_V dX7_man_2 ⟨by decide, by decide, by decide, by decide +kernel⟩ q2453 q2455 qs110 q177 q2456) vnil) (hok0 rfl) (by decide) 5 rfl ?_
  refine oc_if dX7_man_5 ⟨by decide, by decide⟩ 8 rfl ?_
  refine oc (y := mt_302) (pc := 8) (ok_iconst dX7_man_8 rfl ⟨by decide, by decide⟩) 9 rfl ?_
  exact oc_iret dX7_man_9 rfl
theorem o_302_10 : okL gmt mt_302 10 b_302_10 := by
  refine oc (y := mt_302) (pc := 10) (ok_iload_n dX7_man_10) 11 rfl ?_
  exact oc_tsw dX7_man_11 (by decide) (by decide +kernel)
theorem o_302_44 : okL gmt mt_302 44 b_302_44 := by
  refine oc (y := mt_302) (pc := 44) (ok_aload_n dX7_man_44) 45 rfl ?_
  refine oc (y := mt_302) (pc := 45) (ok_iload_n dX7_man_45) 46 rfl ?_
  refine oc_V (y := mt_302) (pc := 46) (vcons (y := mt_302) (pc := 46) (len := 3) (n := 2) (M := mt_285) (by decide) rfl (Or.inr rfl) rfl (ck_V dX7_man_46 ⟨by decide, by decide, by decide, by decide +kernel⟩ q2381 q2383 qs98 q177 q2384) vnil) (hok0 rfl) (by decide) 49 rfl ?_
  exact oc_iret dX7_man_49 rfl
theorem o_302_50 : okL gmt mt_302 50 b_302_50 := by
  refine oc (y := mt_302) (pc := 50) (ok_aload_n dX7_man_50) 51 rfl ?_
  refine oc (y := mt_302) (pc := 51) (ok_iload_n dX7_man_51) 52 rfl ?_
  refine oc_V (y := mt_302) (pc := 52) (vcons (y := mt_302) (pc := 52) (len := 3) (n := 2) (M := mt_292) (by decide) rfl (Or.inr rfl) rfl (ck_V dX7_man_52 ⟨by decide, by decide, by decide, by decide +kernel⟩ q2408 q2410 qs104 q177 q2411) vnil) (hok0 rfl) (by decide) 55 rfl ?_
  exact oc_iret dX7_man_55 rfl
theorem o_302_56 : okL gmt mt_302 56 b_302_56 := by
  refine oc (y := mt_302) (pc := 56) (ok_aload_n dX7_man_56) 57 rfl ?_
  refine oc (y := mt_302) (pc := 57) (ok_iload_n dX7_man_57) 58 rfl ?_
  refine oc_V (y := mt_302) (pc := 58) (vcons (y := mt_302) (pc := 58) (len := 3) (n := 2) (M := mt_283) (by decide) rfl (Or.inr rfl) rfl (ck_V dX7_man_58 ⟨by decide, by decide, by decide, by decide +kernel⟩ q2373 q2375 qs96 q177 q2376) vnil) (hok0 rfl) (by decide) 61 rfl ?_
  exact oc_iret dX7_man_61 rfl
theorem o_302_62 : okL gmt mt_302 62 b_302_62 := by
  refine oc (y := mt_302) (pc := 62) (ok_aload_n dX7_man_62) 63 rfl ?_
  refine oc (y := mt_302) (pc := 63) (ok_iload_n dX7_man_63) 64 rfl ?_
  refine oc_V (y := mt_302) (pc := 64) (vcons (y := mt_302) (pc := 64) (len := 3) (n := 2) (M := mt_287) (by decide) rfl (Or.inr rfl) rfl (ck_V dX7_man_64 ⟨by decide, by decide, by decide, by decide +kernel⟩ q2389 q2391 qs100 q177 q2392) vnil) (hok0 rfl) (by decide) 67 rfl ?_
  exact oc_iret dX7_man_67 rfl
theorem o_302_68 : okL gmt mt_302 68 b_302_68 := by
  refine oc (y := mt_302) (pc := 68) (ok_aload_n dX7_man_68) 69 rfl ?_
  refine oc (y := mt_302) (pc := 69) (ok_iload_n dX7_man_69) 70 rfl ?_
  refine oc_V (y := mt_302) (pc := 70) (vcons (y := mt_302) (pc := 70) (len := 3) (n := 2) (M := mt_284) (by decide) rfl (Or.inr rfl) rfl (ck_V dX7_man_70 ⟨by decide, by decide, by decide, by decide +kernel⟩ q2377 q2379 qs97 q177 q2380) vnil) (hok0 rfl) (by decide) 73 rfl ?_
  refine oc_if dX7_man_73 ⟨by decide, by decide⟩ 76 rfl ?_
  refine oc (y := mt_302) (pc := 76) (ok_iconst dX7_man_76 rfl ⟨by decide, by decide⟩) 77 rfl ?_
  exact oc_goto dX7_man_77 ⟨by decide, by decide⟩
theorem o_302_80 : okL gmt mt_302 80 b_302_80 := by
  refine oc (y := mt_302) (pc := 80) (ok_aload_n dX7_man_80) 81 rfl ?_
  refine oc (y := mt_302) (pc := 81) (ok_iload_n dX7_man_81) 82 rfl ?_
  refine oc_V (y := mt_302) (pc := 82) (vcons (y := mt_302) (pc := 82) (len := 3) (n := 2) (M := mt_288) (by decide) rfl (Or.inr rfl) rfl (ck_V dX7_man_82 ⟨by decide, by decide, by decide, by decide +kernel⟩ q2393 q2395 qs101 q177 q2396) vnil) (hok0 rfl) (by decide) 85 rfl ?_
  exact oc_fall rfl
theorem o_302_85 : okL gmt mt_302 85 b_302_85 := by
  exact oc_iret dX7_man_85 rfl
theorem o_302_86 : okL gmt mt_302 86 b_302_86 := by
  refine oc (y := mt_302) (pc := 86) (ok_iconst dX7_man_86 rfl ⟨by decide, by decide⟩) 87 rfl ?_
  exact oc_iret dX7_man_87 rfl
theorem ok_302 : ∀ q ∈ pr_302, okL gmt mt_302 q.1 q.2 := pk_c o_302_0 (pk_c o_302_10 (pk_c o_302_44 (pk_c o_302_50 (pk_c o_302_56 (pk_c o_302_62 (pk_c o_302_68 (pk_c o_302_80 (pk_c o_302_85 (pk_c o_302_86 (pk_n))))))))))
theorem o_303_0 : okL gmt mt_303 0 b_303_0 := by
  refine oc (y := mt_303) (pc := 0) (ok_iload_n dX7_isMan_0) 1 rfl ?_
  refine oc (y := mt_303) (pc := 1) (ok_i2l dX7_isMan_1) 2 rfl ?_
  refine oc (y := mt_303) (pc := 2) (ok_lconst dX7_isMan_2 (by decide) ⟨by decide, by decide⟩) 3 rfl ?_
  refine oc (y := mt_303) (pc := 3) (ok_aload_n dX7_isMan_3) 4 rfl ?_
  refine oc_V (y := mt_303) (pc := 4) (vcons (y := mt_303) (pc := 4) (len := 3) (n := 1) (M := mt_281) (by decide) rfl (Or.inr rfl) rfl (ck_V dX7_isMan_4 ⟨by decide, by decide, by decide, by decide +kernel⟩ q2365 q2367 qs94 q177 q2368) vnil) (hok0 rfl) (by decide) 7 rfl ?_
  refine oc (y := mt_303) (pc := 7) (ok_iconst dX7_isMan_7 rfl ⟨by decide, by decide⟩) 8 rfl ?_
  refine oc (y := mt_303) (pc := 8) (ok_isub dX7_isMan_8) 9 rfl ?_
  refine oc (y := mt_303) (pc := 9) (ok_i2l dX7_isMan_9) 10 rfl ?_
  refine oc_S (y := mt_303) (pc := 10) (M := mt_246) rfl (ck_S dX7_isMan_10 ⟨by decide, by decide, by decide, by decide +kernel⟩ q2225 q2226 q177 q2227) (hok0 rfl) (by decide) 13 rfl ?_
  exact oc_zret dX7_isMan_13 rfl
theorem ok_303 : ∀ q ∈ pr_303, okL gmt mt_303 q.1 q.2 := pk_c o_303_0 (pk_n)
theorem o_304_0 : okL gmt mt_304 0 b_304_0 := by
  refine oc (y := mt_304) (pc := 0) (ok_aload_n dX7_field_0) 1 rfl ?_
  refine oc (y := mt_304) (pc := 1) (ok_iload_n dX7_field_1) 2 rfl ?_
  refine oc_V (y := mt_304) (pc := 2) (vcons (y := mt_304) (pc := 2) (len := 3) (n := 2) (M := mt_305) (by decide) rfl (Or.inr rfl) rfl (ck_V dX7_field_2 ⟨by decide, by decide, by decide, by decide +kernel⟩ q2461 q2463 qs111 q177 q2464) vnil) (hok0 rfl) (by decide) 5 rfl ?_
  refine oc_if dX7_field_5 ⟨by decide, by decide⟩ 8 rfl ?_
  refine oc (y := mt_304) (pc := 8) (ok_iconst dX7_field_8 rfl ⟨by decide, by decide⟩) 9 rfl ?_
  exact oc_iret dX7_field_9 rfl
theorem o_304_10 : okL gmt mt_304 10 b_304_10 := by
  refine oc (y := mt_304) (pc := 10) (ok_iload_n dX7_field_10) 11 rfl ?_
  refine oc (y := mt_304) (pc := 11) (ok_i2l dX7_field_11) 12 rfl ?_
  refine oc (y := mt_304) (pc := 12) (ok_lconst dX7_field_12 (by decide) ⟨by decide, by decide⟩) 13 rfl ?_
  refine oc (y := mt_304) (pc := 13) (ok_lconst dX7_field_13 (by decide) ⟨by decide, by decide⟩) 14 rfl ?_
  refine oc_S (y := mt_304) (pc := 14) (M := mt_246) rfl (ck_S dX7_field_14 ⟨by decide, by decide, by decide, by decide +kernel⟩ q2225 q2226 q177 q2227) (hok0 rfl) (by decide) 17 rfl ?_
  refine oc_if dX7_field_17 ⟨by decide, by decide⟩ 20 rfl ?_
  refine oc (y := mt_304) (pc := 20) (ok_aload_n dX7_field_20) 21 rfl ?_
  refine oc (y := mt_304) (pc := 21) (ok_getfield dX7_field_21 (fg (own := "GardenChessModel") (idx := 139) (g := 9) (k := 51) (r := (RX7, TX7, 122)) rfl ⟨⟨by decide, by decide⟩, by decide⟩ (Or.inl q1863) (Or.inl rfl) rfl (fg_nil))) 24 rfl ?_
  refine oc (y := mt_304) (pc := 24) (ok_bipush dX7_field_24 (by decide) ⟨by decide, by decide⟩) 26 rfl ?_
  refine oc (y := mt_304) (pc := 26) (ok_iconst dX7_field_26 rfl ⟨by decide, by decide⟩) 27 rfl ?_
  refine oc (y := mt_304) (pc := 27) (ok_iload_n dX7_field_27) 28 rfl ?_
  refine oc (y := mt_304) (pc := 28) (ok_imul dX7_field_28) 29 rfl ?_
  refine oc (y := mt_304) (pc := 29) (ok_iadd dX7_field_29) 30 rfl ?_
  refine oc (y := mt_304) (pc := 30) (ok_iload_n dX7_field_30) 31 rfl ?_
  refine oc (y := mt_304) (pc := 31) (ok_iadd dX7_field_31) 32 rfl ?_
  refine oc (y := mt_304) (pc := 32) (ok_iaload dX7_field_32) 33 rfl ?_
  exact oc_goto dX7_field_33 ⟨by decide, by decide⟩
theorem o_304_36 : okL gmt mt_304 36 b_304_36 := by
  refine oc (y := mt_304) (pc := 36) (ok_iload_n dX7_field_36) 37 rfl ?_
  refine oc (y := mt_304) (pc := 37) (ok_iconst dX7_field_37 rfl ⟨by decide, by decide⟩) 38 rfl ?_
  refine oc_icmp dX7_field_38 ⟨by decide, by decide⟩ 41 rfl ?_
  refine oc (y := mt_304) (pc := 41) (ok_aload_n dX7_field_41) 42 rfl ?_
  refine oc (y := mt_304) (pc := 42) (ok_getfield dX7_field_42 (fg (own := "GardenChessModel") (idx := 154) (g := 9) (k := 62) (r := (RX7, TX7, 122)) rfl ⟨⟨by decide, by decide⟩, by decide⟩ (Or.inl q1874) (Or.inl rfl) rfl (fg_nil))) 45 rfl ?_
  refine oc (y := mt_304) (pc := 45) (ok_bipush dX7_field_45 (by decide) ⟨by decide, by decide⟩) 47 rfl ?_
  refine oc (y := mt_304) (pc := 47) (ok_iload_n dX7_field_47) 48 rfl ?_
  refine oc (y := mt_304) (pc := 48) (ok_iadd dX7_field_48) 49 rfl ?_
  refine oc (y := mt_304) (pc := 49) (ok_iaload dX7_field_49) 50 rfl ?_
  exact oc_goto dX7_field_50 ⟨by decide, by decide⟩
theorem o_304_53 : okL gmt mt_304 53 b_304_53 := by
  refine oc (y := mt_304) (pc := 53) (ok_iconst dX7_field_53 rfl ⟨by decide, by decide⟩) 54 rfl ?_
  exact oc_fall rfl
theorem o_304_54 : okL gmt mt_304 54 b_304_54 := by
  exact oc_iret dX7_field_54 rfl
theorem ok_304 : ∀ q ∈ pr_304, okL gmt mt_304 q.1 q.2 := pk_c o_304_0 (pk_c o_304_10 (pk_c o_304_36 (pk_c o_304_53 (pk_c o_304_54 (pk_n)))))
theorem o_305_0 : okL gmt mt_305 0 b_305_0 := by
  refine oc (y := mt_305) (pc := 0) (ok_iload_n dX7_isField_0) 1 rfl ?_
  refine oc (y := mt_305) (pc := 1) (ok_i2l dX7_isField_1) 2 rfl ?_
  refine oc (y := mt_305) (pc := 2) (ok_lconst dX7_isField_2 (by decide) ⟨by decide, by decide⟩) 3 rfl ?_
  refine oc (y := mt_305) (pc := 3) (ok_aload_n dX7_isField_3) 4 rfl ?_
  refine oc_V (y := mt_305) (pc := 4) (vcons (y := mt_305) (pc := 4) (len := 3) (n := 1) (M := mt_299) (by decide) rfl (Or.inr rfl) rfl (ck_V dX7_isField_4 ⟨by decide, by decide, by decide, by decide +kernel⟩ q2434 q2436 qs109 q177 q2437) vnil) (hok0 rfl) (by decide) 7 rfl ?_
  refine oc (y := mt_305) (pc := 7) (ok_iconst dX7_isField_7 rfl ⟨by decide, by decide⟩) 8 rfl ?_
  refine oc (y := mt_305) (pc := 8) (ok_isub dX7_isField_8) 9 rfl ?_
  refine oc (y := mt_305) (pc := 9) (ok_i2l dX7_isField_9) 10 rfl ?_
  refine oc_S (y := mt_305) (pc := 10) (M := mt_246) rfl (ck_S dX7_isField_10 ⟨by decide, by decide, by decide, by decide +kernel⟩ q2225 q2226 q177 q2227) (hok0 rfl) (by decide) 13 rfl ?_
  exact oc_zret dX7_isField_13 rfl
theorem ok_305 : ∀ q ∈ pr_305, okL gmt mt_305 q.1 q.2 := pk_c o_305_0 (pk_n)
theorem o_306_0 : okL gmt mt_306 0 b_306_0 := by
  refine oc (y := mt_306) (pc := 0) (ok_aload_n dX7_at_0) 1 rfl ?_
  refine oc (y := mt_306) (pc := 1) (ok_getfield dX7_at_1 (fg (own := "GardenChessModel") (idx := 424) (g := 9) (k := 58) (r := (RX7, TX7, 122)) rfl ⟨⟨by decide, by decide⟩, by decide⟩ (Or.inl q1870) (Or.inl rfl) rfl (fg_nil))) 4 rfl ?_
  refine oc_if dX7_at_4 ⟨by decide, by decide⟩ 7 rfl ?_
  refine oc (y := mt_306) (pc := 7) (ok_iload_n dX7_at_7) 8 rfl ?_
  refine oc (y := mt_306) (pc := 8) (ok_i2l dX7_at_8) 9 rfl ?_
  refine oc (y := mt_306) (pc := 9) (ok_lconst dX7_at_9 (by decide) ⟨by decide, by decide⟩) 10 rfl ?_
  refine oc (y := mt_306) (pc := 10) (ok_aload_n dX7_at_10) 11 rfl ?_
  refine oc (y := mt_306) (pc := 11) (ok_getfield dX7_at_11 (fg (own := "GardenChessModel") (idx := 127) (g := 9) (k := 47) (r := (RX7, TX7, 122)) rfl ⟨⟨by decide, by decide⟩, by decide⟩ (Or.inl q1859) (Or.inl rfl) rfl (fg_nil))) 14 rfl ?_
  refine oc (y := mt_306) (pc := 14) (ok_iconst dX7_at_14 rfl ⟨by decide, by decide⟩) 15 rfl ?_
  refine oc (y := mt_306) (pc := 15) (ok_iaload dX7_at_15) 16 rfl ?_
  refine oc (y := mt_306) (pc := 16) (ok_iconst dX7_at_16 rfl ⟨by decide, by decide⟩) 17 rfl ?_
  refine oc (y := mt_306) (pc := 17) (ok_isub dX7_at_17) 18 rfl ?_
  refine oc (y := mt_306) (pc := 18) (ok_i2l dX7_at_18) 19 rfl ?_
  refine oc_S (y := mt_306) (pc := 19) (M := mt_246) rfl (ck_S dX7_at_19 ⟨by decide, by decide, by decide, by decide +kernel⟩ q2225 q2226 q177 q2227) (hok0 rfl) (by decide) 22 rfl ?_
  refine oc_if dX7_at_22 ⟨by decide, by decide⟩ 25 rfl ?_
  refine oc (y := mt_306) (pc := 25) (ok_iload_n dX7_at_25) 26 rfl ?_
  refine oc (y := mt_306) (pc := 26) (ok_i2l dX7_at_26) 27 rfl ?_
  refine oc (y := mt_306) (pc := 27) (ok_lconst dX7_at_27 (by decide) ⟨by decide, by decide⟩) 28 rfl ?_
  refine oc (y := mt_306) (pc := 28) (ok_aload_n dX7_at_28) 29 rfl ?_
  refine oc (y := mt_306) (pc := 29) (ok_getfield dX7_at_29 (fg (own := "GardenChessModel") (idx := 127) (g := 9) (k := 47) (r := (RX7, TX7, 122)) rfl ⟨⟨by decide, by decide⟩, by decide⟩ (Or.inl q1859) (Or.inl rfl) rfl (fg_nil))) 32 rfl ?_
  refine oc (y := mt_306) (pc := 32) (ok_iconst dX7_at_32 rfl ⟨by decide, by decide⟩) 33 rfl ?_
  refine oc (y := mt_306) (pc := 33) (ok_iaload dX7_at_33) 34 rfl ?_
  refine oc (y := mt_306) (pc := 34) (ok_iconst dX7_at_34 rfl ⟨by decide, by decide⟩) 35 rfl ?_
  refine oc (y := mt_306) (pc := 35) (ok_isub dX7_at_35) 36 rfl ?_
  refine oc (y := mt_306) (pc := 36) (ok_i2l dX7_at_36) 37 rfl ?_
  refine oc_S (y := mt_306) (pc := 37) (M := mt_246) rfl (ck_S dX7_at_37 ⟨by decide, by decide, by decide, by decide +kernel⟩ q2225 q2226 q177 q2227) (hok0 rfl) (by decide) 40 rfl ?_
  refine oc_if dX7_at_40 ⟨by decide, by decide⟩ 43 rfl ?_
  refine oc (y := mt_306) (pc := 43) (ok_aload_n dX7_at_43) 44 rfl ?_
  refine oc (y := mt_306) (pc := 44) (ok_iload_n dX7_at_44) 45 rfl ?_
  refine oc (y := mt_306) (pc := 45) (ok_iload_n dX7_at_45) 46 rfl ?_
  refine oc_V (y := mt_306) (pc := 46) (vcons (y := mt_306) (pc := 46) (len := 3) (n := 3) (M := mt_296) (by decide) rfl (Or.inr rfl) rfl (ck_V dX7_at_46 ⟨by decide, by decide, by decide, by decide +kernel⟩ q2422 q2424 qs106 q177 q2425) vnil) (hok0 rfl) (by decide) 49 rfl ?_
  exact oc_goto dX7_at_49 ⟨by decide, by decide⟩
theorem o_306_52 : okL gmt mt_306 52 b_306_52 := by
  refine oc (y := mt_306) (pc := 52) (ok_iconst dX7_at_52 rfl ⟨by decide, by decide⟩) 53 rfl ?_
  exact oc_fall rfl
theorem o_306_53 : okL gmt mt_306 53 b_306_53 := by
  exact oc_iret dX7_at_53 rfl
theorem ok_306 : ∀ q ∈ pr_306, okL gmt mt_306 q.1 q.2 := pk_c o_306_0 (pk_c o_306_52 (pk_c o_306_53 (pk_n)))
theorem o_307_0 : okL gmt mt_307 0 b_307_0 := by
  refine oc (y := mt_307) (pc := 0) (ok_iload_n dX7_option_0) 1 rfl ?_
  refine oc (y := mt_307) (pc := 1) (ok_i2l dX7_option_1) 2 rfl ?_
  refine oc (y := mt_307) (pc := 2) (ok_lconst dX7_option_2 (by decide) ⟨by decide, by decide⟩) 3 rfl ?_
  refine oc (y := mt_307) (pc := 3) (ok_ldc2 dX7_option_3 ⟨by decide, by decide⟩ (show Cond.constantLong _ _ (Int64.ofInt 4) ∈ lw_all from q2473)) 6 rfl ?_
  refine oc_S (y := mt_307) (pc := 6) (M := mt_246) rfl (ck_S dX7_option_6 ⟨by decide, by decide, by decide, by decide +kernel⟩ q2225 q2226 q177 q2227) (hok0 rfl) (by decide) 9 rfl ?_
  refine oc_if dX7_option_9 ⟨by decide, by decide⟩ 12 rfl ?_
  refine oc (y := mt_307) (pc := 12) (ok_iconst dX7_option_12 rfl ⟨by decide, by decide⟩) 13 rfl ?_
  exact oc_iret dX7_option_13 rfl
theorem o_307_14 : okL gmt mt_307 14 b_307_14 := by
  refine oc (y := mt_307) (pc := 14) (ok_aload_n dX7_option_14) 15 rfl ?_
  refine oc (y := mt_307) (pc := 15) (ok_iload_n dX7_option_15) 16 rfl ?_
  refine oc_V (y := mt_307) (pc := 16) (vcons (y := mt_307) (pc := 16) (len := 3) (n := 2) (M := mt_308) (by decide) rfl (Or.inr rfl) rfl (ck_V dX7_option_16 ⟨by decide, by decide, by decide, by decide +kernel⟩ q2474 q2476 qs112 q177 q2477) vnil) (hok0 rfl) (by decide) 19 rfl ?_
  refine oc (y := mt_307) (pc := 19) (ok_aload_n dX7_option_19) 20 rfl ?_
  refine oc (y := mt_307) (pc := 20) (ok_getfield dX7_option_20 (fg (own := "GardenChessModel") (idx := 515) (g := 9) (k := 68) (r := (RX7, TX7, 122)) rfl ⟨⟨by decide, by decide⟩, by decide⟩ (Or.inl q1880) (Or.inl rfl) rfl (fg_nil))) 23 rfl ?_
  refine oc (y := mt_307) (pc := 23) (ok_iconst dX7_option_23 rfl ⟨by decide, by decide⟩) 24 rfl ?_
  refine oc_icmp dX7_option_24 ⟨by decide, by decide⟩ 27 rfl ?_
  refine oc (y := mt_307) (pc := 27) (ok_iconst dX7_option_27 rfl ⟨by decide, by decide⟩) 28 rfl ?_
  exact oc_iret dX7_option_28 rfl
theorem o_307_29 : okL gmt mt_307 29 b_307_29 := by
  refine oc (y := mt_307) (pc := 29) (ok_aload_n dX7_option_29) 30 rfl ?_
  refine oc (y := mt_307) (pc := 30) (ok_getfield dX7_option_30 (fg (own := "GardenChessModel") (idx := 524) (g := 9) (k := 70) (r := (RX7, TX7, 122)) rfl ⟨⟨by decide, by decide⟩, by decide⟩ (Or.inl q1882) (Or.inl rfl) rfl (fg_nil))) 33 rfl ?_
  refine oc (y := mt_307) (pc := 33) (ok_aload_n dX7_option_33) 34 rfl ?_
  refine oc (y := mt_307) (pc := 34) (ok_getfield dX7_option_34 (fg (own := "GardenChessModel") (idx := 127) (g := 9) (k := 47) (r := (RX7, TX7, 122)) rfl ⟨⟨by decide, by decide⟩, by decide⟩ (Or.inl q1859) (Or.inl rfl) rfl (fg_nil))) 37 rfl ?_
  refine oc (y := mt_307) (pc := 37) (ok_iconst dX7_option_37 rfl ⟨by decide, by decide⟩) 38 rfl ?_
  refine oc (y := mt_307) (pc := 38) (ok_iaload dX7_option_38) 39 rfl ?_
  refine oc (y := mt_307) (pc := 39) (ok_irem dX7_option_39) 40 rfl ?_
  refine oc (y := mt_307) (pc := 40) (ok_istore_n dX7_option_40 (by decide)) 41 rfl ?_
  refine oc (y := mt_307) (pc := 41) (ok_aload_n dX7_option_41) 42 rfl ?_
  refine oc (y := mt_307) (pc := 42) (ok_getfield dX7_option_42 (fg (own := "GardenChessModel") (idx := 524) (g := 9) (k := 70) (r := (RX7, TX7, 122)) rfl ⟨⟨by decide, by decide⟩, by decide⟩ (Or.inl q1882) (Or.inl rfl) rfl (fg_nil))) 45 rfl ?_
  refine oc (y := mt_307) (pc := 45) (ok_aload_n dX7_option_45) 46 rfl ?_
  refine oc (y := mt_307) (pc := 46) (ok_getfield dX7_option_46 (fg (own := "GardenChessModel") (idx := 127) (g := 9) (k := 47) (r := (RX7, TX7, 122)) rfl ⟨⟨by decide, by decide⟩, by decide⟩ (Or.inl q1859) (Or.inl rfl) rfl (fg_nil))) 49 rfl ?_
  refine oc (y := mt_307) (pc := 49) (ok_iconst dX7_option_49 rfl ⟨by decide, by decide⟩) 50 rfl ?_
  refine oc (y := mt_307) (pc := 50) (ok_iaload dX7_option_50) 51 rfl ?_
  refine oc (y := mt_307) (pc := 51) (ok_idiv dX7_option_51) 52 rfl ?_
  refine oc (y := mt_307) (pc := 52) (ok_istore dX7_option_52 (by decide)) 54 rfl ?_
  refine oc (y := mt_307) (pc := 54) (ok_aload_n dX7_option_54) 55 rfl ?_
  refine oc (y := mt_307) (pc := 55) (ok_iload_n dX7_option_55) 56 rfl ?_
  refine oc (y := mt_307) (pc := 56) (ok_iload dX7_option_56) 58 rfl ?_
  refine oc_V (y := mt_307) (pc := 58) (vcons (y := mt_307) (pc := 58) (len := 3) (n := 3) (M := mt_296) (by decide) rfl (Or.inr rfl) rfl (ck_V dX7_option_58 ⟨by decide, by decide, by decide, by decide +kernel⟩ q2422 q2424 qs106 q177 q2425) vnil) (hok0 rfl) (by decide) 61 rfl ?_
  refine oc (y := mt_307) (pc := 61) (ok_istore dX7_option_61 (by decide)) 63 rfl ?_
  refine oc (y := mt_307) (pc := 63) (ok_aload_n dX7_option_63) 64 rfl ?_
  refine oc (y := mt_307) (pc := 64) (ok_iconst dX7_option_64 rfl ⟨by decide, by decide⟩) 65 rfl ?_
  refine oc (y := mt_307) (pc := 65) (ok_aload_n dX7_option_65) 66 rfl ?_
  refine oc (y := mt_307) (pc := 66) (ok_getfield dX7_option_66 (fg (own := "GardenChessModel") (idx := 521) (g := 9) (k := 69) (r := (RX7, TX7, 122)) rfl ⟨⟨by decide, by decide⟩, by decide⟩ (Or.inl q1881) (Or.inl rfl) rfl (fg_nil))) 69 rfl ?_
  refine oc (y := mt_307) (pc := 69) (ok_aload_n dX7_option_69) 70 rfl ?_
  refine oc (y := mt_307) (pc := 70) (ok_getfield dX7_option_70 (fg (own := "GardenChessModel") (idx := 524) (g := 9) (k := 70) (r := (RX7, TX7, 122)) rfl ⟨⟨by decide, by decide⟩, by decide⟩ (Or.inl q1882) (Or.inl rfl) rfl (fg_nil))) 73 rfl ?_
  refine oc_V (y := mt_307) (pc := 73) (vcons (y := mt_307) (pc := 73) (len := 3) (n := 4) (M := mt_309) (by decide) rfl (Or.inr rfl) rfl (ck_V dX7_option_73 ⟨by decide, by decide, by decide, by decide +kernel⟩ q2478 q2480 qs113 q177 q2481) vnil) (hok0 rfl) (by decide) 76 rfl ?_
  refine oc (y := mt_307) (pc := 76) (ok_aload_n dX7_option_76) 77 rfl ?_
  refine oc (y := mt_307) (pc := 77) (ok_aload_n dX7_option_77) 78 rfl ?_
  refine oc (y := mt_307) (pc := 78) (ok_getfield dX7_option_78 (fg (own := "GardenChessModel") (idx := 154) (g := 9) (k := 62) (r := (RX7, TX7, 122)) rfl ⟨⟨by decide, by decide⟩, by decide⟩ (Or.inl q1874) (Or.inl rfl) rfl (fg_nil))) 81 rfl ?_
  refine oc (y := mt_307) (pc := 81) (ok_iconst dX7_option_81 rfl ⟨by decide, by decide⟩) 82 rfl ?_
  refine oc (y := mt_307) (pc := 82) (ok_iaload dX7_option_82) 83 rfl ?_
  refine oc_V (y := mt_307) (pc := 83) (vcons (y := mt_307) (pc := 83) (len := 3) (n := 2) (M := mt_310) (by decide) rfl (Or.inr rfl) rfl (ck_V dX7_option_83 ⟨by decide, by decide, by decide, by decide +kernel⟩ q2482 q2484 qs114 q177 q2485) vnil) (hok0 rfl) (by decide) 86 rfl ?_
  refine oc_if dX7_option_86 ⟨by decide, by decide⟩ 89 rfl ?_
  refine oc (y := mt_307) (pc := 89) (ok_iconst dX7_option_89 rfl ⟨by decide, by decide⟩) 90 rfl ?_
  exact oc_goto dX7_option_90 ⟨by decide, by decide⟩
theorem o_307_93 : okL gmt mt_307 93 b_307_93 := by
  refine oc (y := mt_307) (pc := 93) (ok_iconst dX7_option_93 rfl ⟨by decide, by decide⟩) 94 rfl ?_
  exact oc_fall rfl
theorem o_307_94 : okL gmt mt_307 94 b_307_94 := by
  refine oc (y := mt_307) (pc := 94) (ok_istore dX7_option_94 (by decide)) 96 rfl ?_
  refine oc (y := mt_307) (pc := 96) (ok_aload_n dX7_option_96) 97 rfl ?_
  refine oc (y := mt_307) (pc := 97) (ok_iconst dX7_option_97 rfl ⟨by decide, by decide⟩) 98 rfl ?_
  refine oc_V (y := mt_307) (pc := 98) (vcons (y := mt_307) (pc := 98) (len := 3) (n := 2) (M := mt_311) (by decide) rfl (Or.inr rfl) rfl (ck_V dX7_option_98 ⟨by decide, by decide, by decide, by decide +kernel⟩ q2486 q2488 qs115 q177 q2489) vnil) (hok0 rfl) (by decide) 101 rfl ?_
  refine oc (y := mt_307) (pc := 101) (ok_iload_n dX7_option_101) 102 rfl ?_
  exact oc_tsw dX7_option_102 (by decide) (by decide +kernel)
theorem o_307_132 : okL gmt mt_307 132 b_307_132 := by
  refine oc (y := mt_307) (pc := 132) (ok_aload_n dX7_option_132) 133 rfl ?_
  refine oc (y := mt_307) (pc := 133) (ok_getfield dX7_option_133 (fg (own := "GardenChessModel") (idx := 521) (g := 9) (k := 69) (r := (RX7, TX7, 122)) rfl ⟨⟨by decide, by decide⟩, by decide⟩ (Or.inl q1881) (Or.inl rfl) rfl (fg_nil))) 136 rfl ?_
  exact oc_iret dX7_option_136 rfl
theorem o_307_137 : okL gmt mt_307 137 b_307_137 := by
  refine oc (y := mt_307) (pc := 137) (ok_iload_n dX7_option_137) 138 rfl ?_
  exact oc_iret dX7_option_138 rfl
theorem o_307_139 : okL gmt mt_307 139 b_307_139 := by
  refine oc (y := mt_307) (pc := 139) (ok_iload dX7_option_139) 141 rfl ?_
  exact oc_iret dX7_option_141 rfl
theorem o_307_142 : okL gmt mt_307 142 b_307_142 := by
  refine oc (y := mt_307) (pc := 142) (ok_iload dX7_option_142) 144 rfl ?_
  refine oc (y := mt_307) (pc := 144) (ok_iconst dX7_option_144 rfl ⟨by decide, by decide⟩) 145 rfl ?_
  refine oc_icmp dX7_option_145 ⟨by decide, by decide⟩ 148 rfl ?_
  refine oc (y := mt_307) (pc := 148) (ok_sipush dX7_option_148 (by decide) ⟨by decide, by decide⟩) 151 rfl ?_
  exact oc_goto dX7_option_151 ⟨by decide, by decide⟩
theorem o_307_154 : okL gmt mt_307 154 b_307_154 := by
  refine oc (y := mt_307) (pc := 154) (ok_iload dX7_option_154) 156 rfl ?_
  exact oc_fall rfl
theorem o_307_156 : okL gmt mt_307 156 b_307_156 := by
  exact oc_iret dX7_option_156 rfl
theorem o_307_157 : okL gmt mt_307 157 b_307_157 := by
  refine oc (y := mt_307) (pc := 157) (ok_iload dX7_option_157) 159 rfl ?_
  exact oc_iret dX7_option_159 rfl
theorem ok_307 : ∀ q ∈ pr_307, okL gmt mt_307 q.1 q.2 := pk_c o_307_0 (pk_c o_307_14 (pk_c o_307_29 (pk_c o_307_93 (pk_c o_307_94 (pk_c o_307_132 (pk_c o_307_137 (pk_c o_307_139 (pk_c o_307_142 (pk_c o_307_154 (pk_c o_307_156 (pk_c o_307_157 (pk_n))))))))))))
theorem o_308_0 : okL gmt mt_308 0 b_308_0 := by
  refine oc (y := mt_308) (pc := 0) (ok_aload_n dX7_chooses_0) 1 rfl ?_
  refine oc (y := mt_308) (pc := 1) (ok_iconst dX7_chooses_1 rfl ⟨by decide, by decide⟩) 2 rfl ?_
  refine oc (y := mt_308) (pc := 2) (ok_putfield dX7_chooses_2 (fp (own := "GardenChessModel") (idx := 515) (g := 9) (k := 68) (r := (RX7, TX7, 122)) rfl ⟨⟨by decide, by decide⟩, by decide⟩ (Or.inl q1880) (Or.inl rfl) rfl (Or.inl rfl) (fp_nil))) 5 rfl ?_
  refine oc (y := mt_308) (pc := 5) (ok_iload_n dX7_chooses_5) 6 rfl ?_
  refine oc_if dX7_chooses_6 ⟨by decide, by decide⟩ 9 rfl ?_
  refine oc (y := mt_308) (pc := 9) (ok_aload_n dX7_chooses_9) 10 rfl ?_
  refine oc_V (y := mt_308) (pc := 10) (vcons (y := mt_308) (pc := 10) (len := 3) (n := 1) (M := mt_280) (by decide) rfl (Or.inr rfl) rfl (ck_V dX7_chooses_10 ⟨by decide, by decide, by decide, by decide +kernel⟩ q2361 q2363 qs93 q177 q2364) vnil) (hok0 rfl) (by decide) 13 rfl ?_
  refine oc_if dX7_chooses_13 ⟨by decide, by decide⟩ 16 rfl ?_
  exact oc_fall rfl
theorem o_308_16 : okL gmt mt_308 16 b_308_16 := by
  exact oc_ret dX7_chooses_16 rfl
theorem o_308_17 : okL gmt mt_308 17 b_308_17 := by
  refine oc (y := mt_308) (pc := 17) (ok_iconst dX7_chooses_17 rfl ⟨by decide, by decide⟩) 18 rfl ?_
  refine oc (y := mt_308) (pc := 18) (ok_istore_n dX7_chooses_18 (by decide)) 19 rfl ?_
  refine oc (y := mt_308) (pc := 19) (ok_iconst dX7_chooses_19 rfl ⟨by decide, by decide⟩) 20 rfl ?_
  refine oc (y := mt_308) (pc := 20) (ok_istore_n dX7_chooses_20 (by decide)) 21 rfl ?_
  exact oc_fall rfl
theorem o_308_21 : okL gmt mt_308 21 b_308_21 := by
  refine oc (y := mt_308) (pc := 21) (ok_iload_n dX7_chooses_21) 22 rfl ?_
  refine oc (y := mt_308) (pc := 22) (ok_aload_n dX7_chooses_22) 23 rfl ?_
  refine oc_V (y := mt_308) (pc := 23) (vcons (y := mt_308) (pc := 23) (len := 3) (n := 1) (M := mt_281) (by decide) rfl (Or.inr rfl) rfl (ck_V dX7_chooses_23 ⟨by decide, by decide, by decide, by decide +kernel⟩ q2365 q2367 qs94 q177 q2368) vnil) (hok0 rfl) (by decide) 26 rfl ?_
  refine oc_icmp dX7_chooses_26 ⟨by decide, by decide⟩ 29 rfl ?_
  refine oc (y := mt_308) (pc := 29) (ok_aload_n dX7_chooses_29) 30 rfl ?_
  refine oc (y := mt_308) (pc := 30) (ok_getfield dX7_chooses_30 (fg (own := "GardenChessModel") (idx := 515) (g := 9) (k := 68) (r := (RX7, TX7, 122)) rfl ⟨⟨by decide, by decide⟩, by decide⟩ (Or.inl q1880) (Or.inl rfl) rfl (fg_nil))) 33 rfl ?_
  refine oc (y := mt_308) (pc := 33) (ok_iconst dX7_chooses_33 rfl ⟨by decide, by decide⟩) 34 rfl ?_
  refine oc_icmp dX7_chooses_34 ⟨by decide, by decide⟩ 37 rfl ?_
  refine oc (y := mt_308) (pc := 37) (ok_iconst dX7_chooses_37 rfl ⟨by decide, by decide⟩) 38 rfl ?_
  refine oc (y := mt_308) (pc := 38) (ok_istore dX7_chooses_38 (by decide)) 40 rfl ?_
  exact oc_fall rfl
theorem o_308_40 : okL gmt mt_308 40 b_308_40 := by
  refine oc (y := mt_308) (pc := 40) (ok_iload dX7_chooses_40) 42 rfl ?_
  refine oc (y := mt_308) (pc := 42) (ok_aload_n dX7_chooses_42) 43 rfl ?_
  refine oc_V (y := mt_308) (pc := 43) (vcons (y := mt_308) (pc := 43) (len := 3) (n := 1) (M := mt_289) (by decide) rfl (Or.inr rfl) rfl (ck_V dX7_chooses_43 ⟨by decide, by decide, by decide, by decide +kernel⟩ q2397 q2399 qs102 q177 q2400) vnil) (hok0 rfl) (by decide) 46 rfl ?_
  refine oc_icmp dX7_chooses_46 ⟨by decide, by decide⟩ 49 rfl ?_
  refine oc (y := mt_308) (pc := 49) (ok_aload_n dX7_chooses_49) 50 rfl ?_
  refine oc (y := mt_308) (pc := 50) (ok_getfield dX7_chooses_50 (fg (own := "GardenChessModel") (idx := 515) (g := 9) (k := 68) (r := (RX7, TX7, 122)) rfl ⟨⟨by decide, by decide⟩, by decide⟩ (Or.inl q1880) (Or.inl rfl) rfl (fg_nil))) 53 rfl ?_
  refine oc (y := mt_308) (pc := 53) (ok_iconst dX7_chooses_53 rfl ⟨by decide, by decide⟩) 54 rfl ?_
  refine oc_icmp dX7_chooses_54 ⟨by decide, by decide⟩ 57 rfl ?_
  refine oc (y := mt_308) (pc := 57) (ok_aload_n dX7_chooses_57) 58 rfl ?_
  refine oc (y := mt_308) (pc := 58) (ok_iload_n dX7_chooses_58) 59 rfl ?_
  refine oc_V (y := mt_308) (pc := 59) (vcons (y := mt_308) (pc := 59) (len := 3) (n := 2) (M := mt_287) (by decide) rfl (Or.inr rfl) rfl (ck_V dX7_chooses_59 ⟨by decide, by decide, by decide, by decide +kernel⟩ q2389 q2391 qs100 q177 q2392) vnil) (hok0 rfl) (by decide) 62 rfl ?_
  refine oc (y := mt_308) (pc := 62) (ok_aload_n dX7_chooses_62) 63 rfl ?_
  refine oc (y := mt_308) (pc := 63) (ok_getfield dX7_chooses_63 (fg (own := "GardenChessModel") (idx := 154) (g := 9) (k := 62) (r := (RX7, TX7, 122)) rfl ⟨⟨by decide, by decide⟩, by decide⟩ (Or.inl q1874) (Or.inl rfl) rfl (fg_nil))) 66 rfl ?_
  refine oc (y := mt_308) (pc := 66) (ok_iconst dX7_chooses_66 rfl ⟨by decide, by decide⟩) 67 rfl ?_
  refine oc (y := mt_308) (pc := 67) (ok_iaload dX7_chooses_67) 68 rfl ?_
  refine oc_icmp dX7_chooses_68 ⟨by decide, by decide⟩ 71 rfl ?_
  refine oc (y := mt_308) (pc := 71) (ok_aload_n dX7_chooses_71) 72 rfl ?_
  refine oc (y := mt_308) (pc := 72) (ok_iload_n dX7_chooses_72) 73 rfl ?_
  refine oc (y := mt_308) (pc := 73) (ok_iload dX7_chooses_73) 75 rfl ?_
  refine oc_V (y := mt_308) (pc := 75) (vcons (y := mt_308) (pc := 75) (len := 3) (n := 3) (M := mt_290) (by decide) rfl (Or.inr rfl) rfl (ck_V dX7_chooses_75 ⟨by decide, by decide, by decide, by decide +kernel⟩ q2401 q2403 qs103 q177 q2404) vnil) (hok0 rfl) (by decide) 78 rfl ?_
  refine oc_if dX7_chooses_78 ⟨by decide, by decide⟩ 81 rfl ?_
  exact oc_goto dX7_chooses_81 ⟨by decide, by decide⟩
theorem o_308_84 : okL gmt mt_308 84 b_308_84 := by
  refine oc (y := mt_308) (pc := 84) (ok_iload_n dX7_chooses_84) 85 rfl ?_
  refine oc (y := mt_308) (pc := 85) (ok_iload_n dX7_chooses_85) 86 rfl ?_
  refine oc_icmp dX7_chooses_86 ⟨by decide, by decide⟩ 89 rfl ?_
  refine oc (y := mt_308) (pc := 89) (ok_aload_n dX7_chooses_89) 90 rfl ?_
  refine oc (y := mt_308) (pc := 90) (ok_iload_n dX7_chooses_90) 91 rfl ?_
  refine oc (y := mt_308) (pc := 91) (ok_putfield dX7_chooses_91 (fp (own := "GardenChessModel") (idx := 515) (g := 9) (k := 68) (r := (RX7, TX7, 122)) rfl ⟨⟨by decide, by decide⟩, by decide⟩ (Or.inl q1880) (Or.inl rfl) rfl (Or.inl rfl) (fp_nil))) 94 rfl ?_
  refine oc (y := mt_308) (pc := 94) (ok_aload_n dX7_chooses_94) 95 rfl ?_
  refine oc (y := mt_308) (pc := 95) (ok_iload_n dX7_chooses_95) 96 rfl ?_
  refine oc (y := mt_308) (pc := 96) (ok_putfield dX7_chooses_96 (fp (own := "GardenChessModel") (idx := 521) (g := 9) (k := 69) (r := (RX7, TX7, 122)) rfl ⟨⟨by decide, by decide⟩, by decide⟩ (Or.inl q1881) (Or.inl rfl) rfl (Or.inl rfl) (fp_nil))) 99 rfl ?_
  refine oc (y := mt_308) (pc := 99) (ok_aload_n dX7_chooses_99) 100 rfl ?_
  refine oc (y := mt_308) (pc := 100) (ok_iload dX7_chooses_100) 102 rfl ?_
  refine oc (y := mt_308) (pc := 102) (ok_putfield dX7_chooses_102 (fp (own := "GardenChessModel") (idx := 524) (g := 9) (k := 70) (r := (RX7, TX7, 122)) rfl ⟨⟨by decide, by decide⟩, by decide⟩ (Or.inl q1882) (Or.inl rfl) rfl (Or.inl rfl) (fp_nil))) 105 rfl ?_
  exact oc_fall rfl
theorem o_308_105 : okL gmt mt_308 105 b_308_105 := by
  refine oc (y := mt_308) (pc := 105) (ok_iinc dX7_chooses_105 (by decide)) 108 rfl ?_
  exact oc_fall rfl
theorem o_308_108 : okL gmt mt_308 108 b_308_108 := by
  refine oc (y := mt_308) (pc := 108) (ok_iinc dX7_chooses_108 (by decide)) 111 rfl ?_
  exact oc_goto dX7_chooses_111 ⟨by decide, by decide⟩
theorem o_308_114 : okL gmt mt_308 114 b_308_114 := by
  refine oc (y := mt_308) (pc := 114) (ok_iinc dX7_chooses_114 (by decide)) 117 rfl ?_
  exact oc_goto dX7_chooses_117 ⟨by decide, by decide⟩
theorem o_308_120 : okL gmt mt_308 120 b_308_120 := by
  exact oc_ret dX7_chooses_120 rfl
theorem ok_308 : ∀ q ∈ pr_308, okL gmt mt_308 q.1 q.2 := pk_c o_308_0 (pk_c o_308_16 (pk_c o_308_17 (pk_c o_308_21 (pk_c o_308_40 (pk_c o_308_84 (pk_c o_308_105 (pk_c o_308_108 (pk_c o_308_114 (pk_c o_308_120 (pk_n))))))))))
theorem o_309_0 : okL gmt mt_309 0 b_309_0 := by
  refine oc (y := mt_309) (pc := 0) (ok_iload_n dX7_does_0) 1 rfl ?_
  refine oc (y := mt_309) (pc := 1) (ok_aload_n dX7_does_1) 2 rfl ?_
  refine oc (y := mt_309) (pc := 2) (ok_getfield dX7_does_2 (fg (own := "GardenChessModel") (idx := 127) (g := 9) (k := 47) (r := (RX7, TX7, 122)) rfl ⟨⟨by decide, by decide⟩, by decide⟩ (Or.inl q1859) (Or.inl rfl) rfl (fg_nil))) 5 rfl ?_
  refine oc (y := mt_309) (pc := 5) (ok_iconst dX7_does_5 rfl ⟨by decide, by decide⟩) 6 rfl ?_
  refine oc (y := mt_309) (pc := 6) (ok_iaload dX7_does_6) 7 rfl ?_
  refine oc (y := mt_309) (pc := 7) (ok_irem dX7_does_7) 8 rfl ?_
  refine oc (y := mt_309) (pc := 8) (ok_istore dX7_does_8 (by decide)) 10 rfl ?_
  refine oc (y := mt_309) (pc := 10) (ok_iload_n dX7_does_10) 11 rfl ?_
  refine oc (y := mt_309) (pc := 11) (ok_aload_n dX7_does_11) 12 rfl ?_
  refine oc (y := mt_309) (pc := 12) (ok_getfield dX7_does_12 (fg (own := "GardenChessModel") (idx := 127) (g := 9) (k := 47) (r := (RX7, TX7, 122)) rfl ⟨⟨by decide, by decide⟩, by decide⟩ (Or.inl q1859) (Or.inl rfl) rfl (fg_nil))) 15 rfl ?_
  refine oc (y := mt_309) (pc := 15) (ok_iconst dX7_does_15 rfl ⟨by decide, by decide⟩) 16 rfl ?_
  refine oc (y := mt_309) (pc := 16) (ok_iaload dX7_does_16) 17 rfl ?_
  refine oc (y := mt_309) (pc := 17) (ok_idiv dX7_does_17) 18 rfl ?_
  refine oc (y := mt_309) (pc := 18) (ok_istore dX7_does_18 (by decide)) 20 rfl ?_
  refine oc (y := mt_309) (pc := 20) (ok_aload_n dX7_does_20) 21 rfl ?_
  refine oc (y := mt_309) (pc := 21) (ok_iload dX7_does_21) 23 rfl ?_
  refine oc (y := mt_309) (pc := 23) (ok_iload dX7_does_23) 25 rfl ?_
  refine oc_V (y := mt_309) (pc := 25) (vcons (y := mt_309) (pc := 25) (len := 3) (n := 3) (M := mt_296) (by decide) rfl (Or.inr rfl) rfl (ck_V dX7_does_25 ⟨by decide, by decide, by decide, by decide +kernel⟩ q2422 q2424 qs106 q177 q2425) vnil) (hok0 rfl) (by decide) 28 rfl ?_
  refine oc (y := mt_309) (pc := 28) (ok_istore dX7_does_28 (by decide)) 30 rfl ?_
  refine oc (y := mt_309) (pc := 30) (ok_aload_n dX7_does_30) 31 rfl ?_
  refine oc (y := mt_309) (pc := 31) (ok_getfield dX7_does_31 (fg (own := "GardenChessModel") (idx := 160) (g := 9) (k := 64) (r := (RX7, TX7, 122)) rfl ⟨⟨by decide, by decide⟩, by decide⟩ (Or.inl q1876) (Or.inl rfl) rfl (fg_nil))) 34 rfl ?_
  refine oc (y := mt_309) (pc := 34) (ok_iload_n dX7_does_34) 35 rfl ?_
  refine oc (y := mt_309) (pc := 35) (ok_iload_n dX7_does_35) 36 rfl ?_
  refine oc (y := mt_309) (pc := 36) (ok_iastore dX7_does_36) 37 rfl ?_
  refine oc (y := mt_309) (pc := 37) (ok_aload_n dX7_does_37) 38 rfl ?_
  refine oc (y := mt_309) (pc := 38) (ok_getfield dX7_does_38 (fg (own := "GardenChessModel") (idx := 163) (g := 9) (k := 65) (r := (RX7, TX7, 122)) rfl ⟨⟨by decide, by decide⟩, by decide⟩ (Or.inl q1877) (Or.inl rfl) rfl (fg_nil))) 41 rfl ?_
  refine oc (y := mt_309) (pc := 41) (ok_iload_n dX7_does_41) 42 rfl ?_
  refine oc (y := mt_309) (pc := 42) (ok_aload_n dX7_does_42) 43 rfl ?_
  refine oc (y := mt_309) (pc := 43) (ok_iload_n dX7_does_43) 44 rfl ?_
  refine oc_V (y := mt_309) (pc := 44) (vcons (y := mt_309) (pc := 44) (len := 3) (n := 2) (M := mt_285) (by decide) rfl (Or.inr rfl) rfl (ck_V dX7_does_44 ⟨by decide, by decide, by decide, by decide +kernel⟩ q2381 q2383 qs98 q177 q2384) vnil) (hok0 rfl) (by decide) 47 rfl ?_
  refine oc (y := mt_309) (pc := 47) (ok_iastore dX7_does_47) 48 rfl ?_
  refine oc (y := mt_309) (pc := 48) (ok_aload_n dX7_does_48) 49 rfl ?_
  refine oc (y := mt_309) (pc := 49) (ok_getfield dX7_does_49 (fg (own := "GardenChessModel") (idx := 166) (g := 9) (k := 66) (r := (RX7, TX7, 122)) rfl ⟨⟨by decide, by decide⟩, by decide⟩ (Or.inl q1878) (Or.inl rfl) rfl (fg_nil))) 52 rfl ?_
  refine oc (y := mt_309) (pc := 52) (ok_iload_n dX7_does_52) 53 rfl ?_
  refine oc (y := mt_309) (pc := 53) (ok_aload_n dX7_does_53) 54 rfl ?_
  refine oc (y := mt_309) (pc := 54) (ok_iload_n dX7_does_54) 55 rfl ?_
  refine oc_V (y := mt_309) (pc := 55) (vcons (y := mt_309) (pc := 55) (len := 3) (n := 2) (M := mt_292) (by decide) rfl (Or.inr rfl) rfl (ck_V dX7_does_55 ⟨by decide, by decide, by decide, by decide +kernel⟩ q2408 q2410 qs104 q177 q2411) vnil) (hok0 rfl) (by decide) 58 rfl ?_
  refine oc (y := mt_309) (pc := 58) (ok_iastore dX7_does_58) 59 rfl ?_
  refine oc (y := mt_309) (pc := 59) (ok_aload_n dX7_does_59) 60 rfl ?_
  refine oc (y := mt_309) (pc := 60) (ok_getfield dX7_does_60 (fg (own := "GardenChessModel") (idx := 169) (g := 9) (k := 67) (r := (RX7, TX7, 122)) rfl ⟨⟨by decide, by decide⟩, by decide⟩ (Or.inl q1879) (Or.inl rfl) rfl (fg_nil))) 63 rfl ?_
  refine oc (y := mt_309) (pc := 63) (ok_iload_n dX7_does_63) 64 rfl ?_
  refine oc (y := mt_309) (pc := 64) (ok_iload dX7_does_64) 66 rfl ?_
  refine oc (y := mt_309) (pc := 66) (ok_iastore dX7_does_66) 67 rfl ?_
  refine oc (y := mt_309) (pc := 67) (ok_iload dX7_does_67) 69 rfl ?_
  refine oc (y := mt_309) (pc := 69) (ok_iconst dX7_does_69 rfl ⟨by decide, by decide⟩) 70 rfl ?_
  refine oc_icmp dX7_does_70 ⟨by decide, by decide⟩ 73 rfl ?_
  refine oc (y := mt_309) (pc := 73) (ok_aload_n dX7_does_73) 74 rfl ?_
  refine oc (y := mt_309) (pc := 74) (ok_getfield dX7_does_74 (fg (own := "GardenChessModel") (idx := 154) (g := 9) (k := 62) (r := (RX7, TX7, 122)) rfl ⟨⟨by decide, by decide⟩, by decide⟩ (Or.inl q1874) (Or.inl rfl) rfl (fg_nil))) 77 rfl ?_
  exact oc_fall rfl
theorem o_309_77 : okL gmt mt_309 77 b_309_77 := by
  refine oc (y := mt_309) (pc := 77) (ok_iconst dX7_does_77 rfl ⟨by decide, by decide⟩) 78 rfl ?_
  refine oc (y := mt_309) (pc := 78) (ok_iconst dX7_does_78 rfl ⟨by decide, by decide⟩) 79 rfl ?_
  refine oc (y := mt_309) (pc := 79) (ok_iload dX7_does_79) 81 rfl ?_
  refine oc (y := mt_309) (pc := 81) (ok_imul dX7_does_81) 82 rfl ?_
  refine oc (y := mt_309) (pc := 82) (ok_iadd dX7_does_82) 83 rfl ?_
  refine oc (y := mt_309) (pc := 83) (ok_iconst dX7_does_83 rfl ⟨by decide, by decide⟩) 84 rfl ?_
  refine oc (y := mt_309) (pc := 84) (ok_iastore dX7_does_84) 85 rfl ?_
  refine oc (y := mt_309) (pc := 85) (ok_aload_n dX7_does_85) 86 rfl ?_
  refine oc (y := mt_309) (pc := 86) (ok_getfield dX7_does_86 (fg (own := "GardenChessModel") (idx := 154) (g := 9) (k := 62) (r := (RX7, TX7, 122)) rfl ⟨⟨by decide, by decide⟩, by decide⟩ (Or.inl q1874) (Or.inl rfl) rfl (fg_nil))) 89 rfl ?_
  refine oc (y := mt_309) (pc := 89) (ok_iconst dX7_does_89 rfl ⟨by decide, by decide⟩) 90 rfl ?_
  refine oc (y := mt_309) (pc := 90) (ok_iconst dX7_does_90 rfl ⟨by decide, by decide⟩) 91 rfl ?_
  refine oc (y := mt_309) (pc := 91) (ok_iload dX7_does_91) 93 rfl ?_
  refine oc (y := mt_309) (pc := 93) (ok_imul dX7_does_93) 94 rfl ?_
  refine oc (y := mt_309) (pc := 94) (ok_iadd dX7_does_94) 95 rfl ?_
  refine oc (y := mt_309) (pc := 95) (ok_iconst dX7_does_95 rfl ⟨by decide, by decide⟩) 96 rfl ?_
  refine oc (y := mt_309) (pc := 96) (ok_iadd dX7_does_96) 97 rfl ?_
  refine oc (y := mt_309) (pc := 97) (ok_iconst dX7_does_97 rfl ⟨by decide, by decide⟩) 98 rfl ?_
  refine oc (y := mt_309) (pc := 98) (ok_iastore dX7_does_98) 99 rfl ?_
  exact oc_fall rfl
theorem o_309_99 : okL gmt mt_309 99 b_309_99 := by
  refine oc (y := mt_309) (pc := 99) (ok_aload_n dX7_does_99) 100 rfl ?_
  refine oc (y := mt_309) (pc := 100) (ok_getfield dX7_does_100 (fg (own := "GardenChessModel") (idx := 154) (g := 9) (k := 62) (r := (RX7, TX7, 122)) rfl ⟨⟨by decide, by decide⟩, by decide⟩ (Or.inl q1874) (Or.inl rfl) rfl (fg_nil))) 103 rfl ?_
  refine oc (y := mt_309) (pc := 103) (ok_iconst dX7_does_103 rfl ⟨by decide, by decide⟩) 104 rfl ?_
  refine oc (y := mt_309) (pc := 104) (ok_iconst dX7_does_104 rfl ⟨by decide, by decide⟩) 105 rfl ?_
  refine oc (y := mt_309) (pc := 105) (ok_iload_n dX7_does_105) 106 rfl ?_
  refine oc (y := mt_309) (pc := 106) (ok_imul dX7_does_106) 107 rfl ?_
  refine oc (y := mt_309) (pc := 107) (ok_iadd dX7_does_107) 108 rfl ?_
  refine oc (y := mt_309) (pc := 108) (ok_iload dX7_does_108) 110 rfl ?_
  refine oc (y := mt_309) (pc := 110) (ok_iastore dX7_does_110) 111 rfl ?_
  refine oc (y := mt_309) (pc := 111) (ok_aload_n dX7_does_111) 112 rfl ?_
  refine oc (y := mt_309) (pc := 112) (ok_getfield dX7_does_112 (fg (own := "GardenChessModel") (idx := 154) (g := 9) (k := 62) (r := (RX7, TX7, 122)) rfl ⟨⟨by decide, by decide⟩, by decide⟩ (Or.inl q1874) (Or.inl rfl) rfl (fg_nil))) 115 rfl ?_
  refine oc (y := mt_309) (pc := 115) (ok_iconst dX7_does_115 rfl ⟨by decide, by decide⟩) 116 rfl ?_
  refine oc (y := mt_309) (pc := 116) (ok_iconst dX7_does_116 rfl ⟨by decide, by decide⟩) 117 rfl ?_
  refine oc (y := mt_309) (pc := 117) (ok_iload_n dX7_does_117) 118 rfl ?_
  refine oc (y := mt_309) (pc := 118) (ok_imul dX7_does_118) 119 rfl ?_
  refine oc (y := mt_309) (pc := 119) (ok_iadd dX7_does_119) 120 rfl ?_
  refine oc (y := mt_309) (pc := 120) (ok_iconst dX7_does_120 rfl ⟨by decide, by decide⟩) 121 rfl ?_
  refine oc (y := mt_309) (pc := 121) (ok_iadd dX7_does_121) 122 rfl ?_
  refine oc (y := mt_309) (pc := 122) (ok_iload dX7_does_122) 124 rfl ?_
  refine oc (y := mt_309) (pc := 124) (ok_iastore dX7_does_124) 125 rfl ?_
  refine oc (y := mt_309) (pc := 125) (ok_aload_n dX7_does_125) 126 rfl ?_
  refine oc (y := mt_309) (pc := 126) (ok_getfield dX7_does_126 (fg (own := "GardenChessModel") (idx := 154) (g := 9) (k := 62) (r := (RX7, TX7, 122)) rfl ⟨⟨by decide, by decide⟩, by decide⟩ (Or.inl q1874) (Or.inl rfl) rfl (fg_nil))) 129 rfl ?_
  refine oc (y := mt_309) (pc := 129) (ok_iconst dX7_does_129 rfl ⟨by decide, by decide⟩) 130 rfl ?_
  refine oc (y := mt_309) (pc := 130) (ok_iconst dX7_does_130 rfl ⟨by decide, by decide⟩) 131 rfl ?_
  refine oc (y := mt_309) (pc := 131) (ok_aload_n dX7_does_131) 132 rfl ?_
  refine oc (y := mt_309) (pc := 132) (ok_getfield dX7_does_132 (fg (own := "GardenChessModel") (idx := 154) (g := 9) (k := 62) (r := (RX7, TX7, 122)) rfl ⟨⟨by decide, by decide⟩, by decide⟩ (Or.inl q1874) (Or.inl rfl) rfl (fg_nil))) 135 rfl ?_
  refine oc (y := mt_309) (pc := 135) (ok_iconst dX7_does_135 rfl ⟨by decide, by decide⟩) 136 rfl ?_
  refine oc (y := mt_309) (pc := 136) (ok_iaload dX7_does_136) 137 rfl ?_
  refine oc (y := mt_309) (pc := 137) (ok_isub dX7_does_137) 138 rfl ?_
  refine oc (y := mt_309) (pc := 138) (ok_iastore dX7_does_138) 139 rfl ?_
  exact oc_ret dX7_does_139 rfl
theorem ok_309 : ∀ q ∈ pr_309, okL gmt mt_309 q.1 q.2 := pk_c o_309_0 (pk_c o_309_77 (pk_c o_309_99 (pk_n)))
theorem o_310_0 : okL gmt mt_310 0 b_310_0 := by
  refine oc (y := mt_310) (pc := 0) (ok_iconst dX7_isCheck_0 rfl ⟨by decide, by decide⟩) 1 rfl ?_
  refine oc (y := mt_310) (pc := 1) (ok_istore_n dX7_isCheck_1 (by decide)) 2 rfl ?_
  exact oc_fall rfl
theorem o_310_2 : okL gmt mt_310 2 b_310_2 := by
  refine oc (y := mt_310) (pc := 2) (ok_iload_n dX7_isCheck_2) 3 rfl ?_
  refine oc (y := mt_310) (pc := 3) (ok_aload_n dX7_isCheck_3) 4 rfl ?_
  refine oc_V (y := mt_310) (pc := 4) (vcons (y := mt_310) (pc := 4) (len := 3) (n := 1) (M := mt_281) (by decide) rfl (Or.inr rfl) rfl (ck_V dX7_isCheck_4 ⟨by decide, by decide, by decide, by decide +kernel⟩ q2365 q2367 qs94 q177 q2368) vnil) (hok0 rfl) (by decide) 7 rfl ?_
  refine oc_icmp dX7_isCheck_7 ⟨by decide, by decide⟩ 10 rfl ?_
  refine oc (y := mt_310) (pc := 10) (ok_aload_n dX7_isCheck_10) 11 rfl ?_
  refine oc (y := mt_310) (pc := 11) (ok_iload_n dX7_isCheck_11) 12 rfl ?_
  refine oc_V (y := mt_310) (pc := 12) (vcons (y := mt_310) (pc := 12) (len := 3) (n := 2) (M := mt_282) (by decide) rfl (Or.inr rfl) rfl (ck_V dX7_isCheck_12 ⟨by decide, by decide, by decide, by decide +kernel⟩ q2369 q2371 qs95 q177 q2372) vnil) (hok0 rfl) (by decide) 15 rfl ?_
  refine oc_if dX7_isCheck_15 ⟨by decide, by decide⟩ 18 rfl ?_
  refine oc (y := mt_310) (pc := 18) (ok_aload_n dX7_isCheck_18) 19 rfl ?_
  refine oc (y := mt_310) (pc := 19) (ok_iload_n dX7_isCheck_19) 20 rfl ?_
  refine oc_V (y := mt_310) (pc := 20) (vcons (y := mt_310) (pc := 20) (len := 3) (n := 2) (M := mt_287) (by decide) rfl (Or.inr rfl) rfl (ck_V dX7_isCheck_20 ⟨by decide, by decide, by decide, by decide +kernel⟩ q2389 q2391 qs100 q177 q2392) vnil) (hok0 rfl) (by decide) 23 rfl ?_
  refine oc (y := mt_310) (pc := 23) (ok_iload_n dX7_isCheck_23) 24 rfl ?_
  refine oc_icmp dX7_isCheck_24 ⟨by decide, by decide⟩ 27 rfl ?_
  refine oc (y := mt_310) (pc := 27) (ok_aload_n dX7_isCheck_27) 28 rfl ?_
  refine oc (y := mt_310) (pc := 28) (ok_iload_n dX7_isCheck_28) 29 rfl ?_
  refine oc_V (y := mt_310) (pc := 29) (vcons (y := mt_310) (pc := 29) (len := 3) (n := 2) (M := mt_284) (by decide) rfl (Or.inr rfl) rfl (ck_V dX7_isCheck_29 ⟨by decide, by decide, by decide, by decide +kernel⟩ q2377 q2379 qs97 q177 q2380) vnil) (hok0 rfl) (by decide) 32 rfl ?_
  refine oc_if dX7_isCheck_32 ⟨by decide, by decide⟩ 35 rfl ?_
  exact oc_goto dX7_isCheck_35 ⟨by decide, by decide⟩
theorem o_310_38 : okL gmt mt_310 38 b_310_38 := by
  refine oc (y := mt_310) (pc := 38) (ok_iconst dX7_isCheck_38 rfl ⟨by decide, by decide⟩) 39 rfl ?_
  refine oc (y := mt_310) (pc := 39) (ok_istore_n dX7_isCheck_39 (by decide)) 40 rfl ?_
  exact oc_fall rfl
theorem o_310_40 : okL gmt mt_310 40 b_310_40 := by
  refine oc (y := mt_310) (pc := 40) (ok_iload_n dX7_isCheck_40) 41 rfl ?_
  refine oc (y := mt_310) (pc := 41) (ok_aload_n dX7_isCheck_41) 42 rfl ?_
  refine oc_V (y := mt_310) (pc := 42) (vcons (y := mt_310) (pc := 42) (len := 3) (n := 1) (M := mt_281) (by decide) rfl (Or.inr rfl) rfl (ck_V dX7_isCheck_42 ⟨by decide, by decide, by decide, by decide +kernel⟩ q2365 q2367 qs94 q177 q2368) vnil) (hok0 rfl) (by decide) 45 rfl ?_
  refine oc_icmp dX7_isCheck_45 ⟨by decide, by decide⟩ 48 rfl ?_
  refine oc (y := mt_310) (pc := 48) (ok_aload_n dX7_isCheck_48) 49 rfl ?_
  refine oc (y := mt_310) (pc := 49) (ok_iload_n dX7_isCheck_49) 50 rfl ?_
  refine oc_V (y := mt_310) (pc := 50) (vcons (y := mt_310) (pc := 50) (len := 3) (n := 2) (M := mt_287) (by decide) rfl (Or.inr rfl) rfl (ck_V dX7_isCheck_50 ⟨by decide, by decide, by decide, by decide +kernel⟩ q2389 q2391 qs100 q177 q2392) vnil) (hok0 rfl) (by decide) 53 rfl ?_
  refine oc (y := mt_310) (pc := 53) (ok_iload_n dX7_isCheck_53) 54 rfl ?_
  refine oc_icmp dX7_isCheck_54 ⟨by decide, by decide⟩ 57 rfl ?_
  refine oc (y := mt_310) (pc := 57) (ok_aload_n dX7_isCheck_57) 58 rfl ?_
  refine oc (y := mt_310) (pc := 58) (ok_iload_n dX7_isCheck_58) 59 rfl ?_
  refine oc (y := mt_310) (pc := 59) (ok_aload_n dX7_isCheck_59) 60 rfl ?_
  refine oc (y := mt_310) (pc := 60) (ok_iload_n dX7_isCheck_60) 61 rfl ?_
  refine oc_V (y := mt_310) (pc := 61) (vcons (y := mt_310) (pc := 61) (len := 3) (n := 2) (M := mt_285) (by decide) rfl (Or.inr rfl) rfl (ck_V dX7_isCheck_61 ⟨by decide, by decide, by decide, by decide +kernel⟩ q2381 q2383 qs98 q177 q2384) vnil) (hok0 rfl) (by decide) 64 rfl ?_
  refine oc (y := mt_310) (pc := 64) (ok_aload_n dX7_isCheck_64) 65 rfl ?_
  refine oc (y := mt_310) (pc := 65) (ok_getfield dX7_isCheck_65 (fg (own := "GardenChessModel") (idx := 127) (g := 9) (k := 47) (r := (RX7, TX7, 122)) rfl ⟨⟨by decide, by decide⟩, by decide⟩ (Or.inl q1859) (Or.inl rfl) rfl (fg_nil))) 68 rfl ?_
  refine oc (y := mt_310) (pc := 68) (ok_iconst dX7_isCheck_68 rfl ⟨by decide, by decide⟩) 69 rfl ?_
  refine oc (y := mt_310) (pc := 69) (ok_iaload dX7_isCheck_69) 70 rfl ?_
  refine oc (y := mt_310) (pc := 70) (ok_aload_n dX7_isCheck_70) 71 rfl ?_
  refine oc (y := mt_310) (pc := 71) (ok_iload_n dX7_isCheck_71) 72 rfl ?_
  refine oc_V (y := mt_310) (pc := 72) (vcons (y := mt_310) (pc := 72) (len := 3) (n := 2) (M := mt_292) (by decide) rfl (Or.inr rfl) rfl (ck_V dX7_isCheck_72 ⟨by decide, by decide, by decide, by decide +kernel⟩ q2408 q2410 qs104 q177 q2411) vnil) (hok0 rfl) (by decide) 75 rfl ?_
  refine oc (y := mt_310) (pc := 75) (ok_imul dX7_isCheck_75) 76 rfl ?_
  refine oc (y := mt_310) (pc := 76) (ok_iadd dX7_isCheck_76) 77 rfl ?_
  refine oc_V (y := mt_310) (pc := 77) (vcons (y := mt_310) (pc := 77) (len := 3) (n := 3) (M := mt_290) (by decide) rfl (Or.inr rfl) rfl (ck_V dX7_isCheck_77 ⟨by decide, by decide, by decide, by decide +kernel⟩ q2401 q2403 qs103 q177 q2404) vnil) (hok0 rfl) (by decide) 80 rfl ?_
  refine oc_if dX7_isCheck_80 ⟨by decide, by decide⟩ 83 rfl ?_
  refine oc (y := mt_310) (pc := 83) (ok_iconst dX7_isCheck_83 rfl ⟨by decide, by decide⟩) 84 rfl ?_
  exact oc_zret dX7_isCheck_84 rfl
theorem o_310_85 : okL gmt mt_310 85 b_310_85 := by
  refine oc (y := mt_310) (pc := 85) (ok_iinc dX7_isCheck_85 (by decide)) 88 rfl ?_
  exact oc_goto dX7_isCheck_88 ⟨by decide, by decide⟩
theorem o_310_91 : okL gmt mt_310 91 b_310_91 := by
  refine oc (y := mt_310) (pc := 91) (ok_iinc dX7_isCheck_91 (by decide)) 94 rfl ?_
  exact oc_goto dX7_isCheck_94 ⟨by decide, by decide⟩
theorem o_310_97 : okL gmt mt_310 97 b_310_97 := by
  refine oc (y := mt_310) (pc := 97) (ok_iconst dX7_isCheck_97 rfl ⟨by decide, by decide⟩) 98 rfl ?_
  exact oc_zret dX7_isCheck_98 rfl
theorem ok_310 : ∀ q ∈ pr_310, okL gmt mt_310 q.1 q.2 := pk_c o_310_0 (pk_c o_310_2 (pk_c o_310_38 (pk_c o_310_40 (pk_c o_310_85 (pk_c o_310_91 (pk_c o_310_97 (pk_n)))))))
theorem o_311_0 : okL gmt mt_311 0 b_311_0 := by
  refine oc (y := mt_311) (pc := 0) (ok_aload_n dX7_undoes_0) 1 rfl ?_
  refine oc (y := mt_311) (pc := 1) (ok_getfield dX7_undoes_1 (fg (own := "GardenChessModel") (idx := 160) (g := 9) (k := 64) (r := (RX7, TX7, 122)) rfl ⟨⟨by decide, by decide⟩, by decide⟩ (Or.inl q1876) (Or.inl rfl) rfl (fg_nil))) 4 rfl ?_
  refine oc (y := mt_311) (pc := 4) (ok_iload_n dX7_undoes_4) 5 rfl ?_
  refine oc (y := mt_311) (pc := 5) (ok_iaload dX7_undoes_5) 6 rfl ?_
  refine oc (y := mt_311) (pc := 6) (ok_istore_n dX7_undoes_6 (by decide)) 7 rfl ?_
  refine oc (y := mt_311) (pc := 7) (ok_aload_n dX7_undoes_7) 8 rfl ?_
  refine oc (y := mt_311) (pc := 8) (ok_getfield dX7_undoes_8 (fg (own := "GardenChessModel") (idx := 169) (g := 9) (k := 67) (r := (RX7, TX7, 122)) rfl ⟨⟨by decide, by decide⟩, by decide⟩ (Or.inl q1879) (Or.inl rfl) rfl (fg_nil))) 11 rfl ?_
  refine oc (y := mt_311) (pc := 11) (ok_iload_n dX7_undoes_11) 12 rfl ?_
  refine oc (y := mt_311) (pc := 12) (ok_iaload dX7_undoes_12) 13 rfl ?_
  refine oc (y := mt_311) (pc := 13) (ok_istore_n dX7_undoes_13 (by decide)) 14 rfl ?_
  refine oc (y := mt_311) (pc := 14) (ok_iload_n dX7_undoes_14) 15 rfl ?_
  refine oc (y := mt_311) (pc := 15) (ok_iconst dX7_undoes_15 rfl ⟨by decide, by decide⟩) 16 rfl ?_
  refine oc_icmp dX7_undoes_16 ⟨by decide, by decide⟩ 19 rfl ?_
  refine oc (y := mt_311) (pc := 19) (ok_aload_n dX7_undoes_19) 20 rfl ?_
  refine oc (y := mt_311) (pc := 20) (ok_getfield dX7_undoes_20 (fg (own := "GardenChessModel") (idx := 154) (g := 9) (k := 62) (r := (RX7, TX7, 122)) rfl ⟨⟨by decide, by decide⟩, by decide⟩ (Or.inl q1874) (Or.inl rfl) rfl (fg_nil))) 23 rfl ?_
  refine oc (y := mt_311) (pc := 23) (ok_iconst dX7_undoes_23 rfl ⟨by decide, by decide⟩) 24 rfl ?_
  refine oc (y := mt_311) (pc := 24) (ok_iconst dX7_undoes_24 rfl ⟨by decide, by decide⟩) 25 rfl ?_
  refine oc (y := mt_311) (pc := 25) (ok_iload_n dX7_undoes_25) 26 rfl ?_
  refine oc (y := mt_311) (pc := 26) (ok_imul dX7_undoes_26) 27 rfl ?_
  refine oc (y := mt_311) (pc := 27) (ok_iadd dX7_undoes_27) 28 rfl ?_
  refine oc (y := mt_311) (pc := 28) (ok_aload_n dX7_undoes_28) 29 rfl ?_
  refine oc (y := mt_311) (pc := 29) (ok_iload_n dX7_undoes_29) 30 rfl ?_
  refine oc_V (y := mt_311) (pc := 30) (vcons (y := mt_311) (pc := 30) (len := 3) (n := 2) (M := mt_285) (by decide) rfl (Or.inr rfl) rfl (ck_V dX7_undoes_30 ⟨by decide, by decide, by decide, by decide +kernel⟩ q2381 q2383 qs98 q177 q2384) vnil) (hok0 rfl) (by decide) 33 rfl ?_
  refine oc (y := mt_311) (pc := 33) (ok_iastore dX7_undoes_33) 34 rfl ?_
  refine oc (y := mt_311) (pc := 34) (ok_aload_n dX7_undoes_34) 35 rfl ?_
  refine oc (y := mt_311) (pc := 35) (ok_getfield dX7_undoes_35 (fg (own := "GardenChessModel") (idx := 154) (g := 9) (k := 62) (r := (RX7, TX7, 122)) rfl ⟨⟨by decide, by decide⟩, by decide⟩ (Or.inl q1874) (Or.inl rfl) rfl (fg_nil))) 38 rfl ?_
  refine oc (y := mt_311) (pc := 38) (ok_iconst dX7_undoes_38 rfl ⟨by decide, by decide⟩) 39 rfl ?_
  refine oc (y := mt_311) (pc := 39) (ok_iconst dX7_undoes_39 rfl ⟨by decide, by decide⟩) 40 rfl ?_
  refine oc (y := mt_311) (pc := 40) (ok_iload_n dX7_undoes_40) 41 rfl ?_
  refine oc (y := mt_311) (pc := 41) (ok_imul dX7_undoes_41) 42 rfl ?_
  refine oc (y := mt_311) (pc := 42) (ok_iadd dX7_undoes_42) 43 rfl ?_
  refine oc (y := mt_311) (pc := 43) (ok_iconst dX7_undoes_43 rfl ⟨by decide, by decide⟩) 44 rfl ?_
  refine oc (y := mt_311) (pc := 44) (ok_iadd dX7_undoes_44) 45 rfl ?_
  refine oc (y := mt_311) (pc := 45) (ok_aload_n dX7_undoes_45) 46 rfl ?_
  refine oc (y := mt_311) (pc := 46) (ok_iload_n dX7_undoes_46) 47 rfl ?_
  refine oc_V (y := mt_311) (pc := 47) (vcons (y := mt_311) (pc := 47) (len := 3) (n := 2) (M := mt_292) (by decide) rfl (Or.inr rfl) rfl (ck_V dX7_undoes_47 ⟨by decide, by decide, by decide, by decide +kernel⟩ q2408 q2410 qs104 q177 q2411) vnil) (hok0 rfl) (by decide) 50 rfl ?_
  refine oc (y := mt_311) (pc := 50) (ok_iastore dX7_undoes_50) 51 rfl ?_
  exact oc_fall rfl
theorem o_311_51 : okL gmt mt_311 51 b_311_51 := by
  refine oc (y := mt_311) (pc := 51) (ok_aload_n dX7_undoes_51) 52 rfl ?_
  refine oc (y := mt_311) (pc := 52) (ok_getfield dX7_undoes_52 (fg (own := "GardenChessModel") (idx := 154) (g := 9) (k := 62) (r := (RX7, TX7, 122)) rfl ⟨⟨by decide, by decide⟩, by decide⟩ (Or.inl q1874) (Or.inl rfl) rfl (fg_nil))) 55 rfl ?_
  refine oc (y := mt_311) (pc := 55) (ok_iconst dX7_undoes_55 rfl ⟨by decide, by decide⟩) 56 rfl ?_
  refine oc (y := mt_311) (pc := 56) (ok_iconst dX7_undoes_56 rfl ⟨by decide, by decide⟩) 57 rfl ?_
  refine oc (y := mt_311) (pc := 57) (ok_iload_n dX7_undoes_57) 58 rfl ?_
  refine oc (y := mt_311) (pc := 58) (ok_imul dX7_undoes_58) 59 rfl ?_
  refine oc (y := mt_311) (pc := 59) (ok_iadd dX7_undoes_59) 60 rfl ?_
  refine oc (y := mt_311) (pc := 60) (ok_aload_n dX7_undoes_60) 61 rfl ?_
  refine oc (y := mt_311) (pc := 61) (ok_getfield dX7_undoes_61 (fg (own := "GardenChessModel") (idx := 163) (g := 9) (k := 65) (r := (RX7, TX7, 122)) rfl ⟨⟨by decide, by decide⟩, by decide⟩ (Or.inl q1877) (Or.inl rfl) rfl (fg_nil))) 64 rfl ?_
  refine oc (y := mt_311) (pc := 64) (ok_iload_n dX7_undoes_64) 65 rfl ?_
  refine oc (y := mt_311) (pc := 65) (ok_iaload dX7_undoes_65) 66 rfl ?_
  refine oc (y := mt_311) (pc := 66) (ok_iastore dX7_undoes_66) 67 rfl ?_
  refine oc (y := mt_311) (pc := 67) (ok_aload_n dX7_undoes_67) 68 rfl ?_
  refine oc (y := mt_311) (pc := 68) (ok_getfield dX7_undoes_68 (fg (own := "GardenChessModel") (idx := 154) (g := 9) (k := 62) (r := (RX7, TX7, 122)) rfl ⟨⟨by decide, by decide⟩, by decide⟩ (Or.inl q1874) (Or.inl rfl) rfl (fg_nil))) 71 rfl ?_
  refine oc (y := mt_311) (pc := 71) (ok_iconst dX7_undoes_71 rfl ⟨by decide, by decide⟩) 72 rfl ?_
  refine oc (y := mt_311) (pc := 72) (ok_iconst dX7_undoes_72 rfl ⟨by decide, by decide⟩) 73 rfl ?_
  refine oc (y := mt_311) (pc := 73) (ok_iload_n dX7_undoes_73) 74 rfl ?_
  refine oc (y := mt_311) (pc := 74) (ok_imul dX7_undoes_74) 75 rfl ?_
  refine oc (y := mt_311) (pc := 75) (ok_iadd dX7_undoes_75) 76 rfl ?_
  refine oc (y := mt_311) (pc := 76) (ok_iconst dX7_undoes_76 rfl ⟨by decide, by decide⟩) 77 rfl ?_
  refine oc (y := mt_311) (pc := 77) (ok_iadd dX7_undoes_77) 78 rfl ?_
  refine oc (y := mt_311) (pc := 78) (ok_aload_n dX7_undoes_78) 79 rfl ?_
  refine oc (y := mt_311) (pc := 79) (ok_getfield dX7_undoes_79 (fg (own := "GardenChessModel") (idx := 166) (g := 9) (k := 66) (r := (RX7, TX7, 122)) rfl ⟨⟨by decide, by decide⟩, by decide⟩ (Or.inl q1878) (Or.inl rfl) rfl (fg_nil))) 82 rfl ?_
  refine oc (y := mt_311) (pc := 82) (ok_iload_n dX7_undoes_82) 83 rfl ?_
  refine oc (y := mt_311) (pc := 83) (ok_iaload dX7_undoes_83) 84 rfl ?_
  refine oc (y := mt_311) (pc := 84) (ok_iastore dX7_undoes_84) 85 rfl ?_
  refine oc (y := mt_311) (pc := 85) (ok_aload_n dX7_undoes_85) 86 rfl ?_
  refine oc (y := mt_311) (pc := 86) (ok_getfield dX7_undoes_86 (fg (own := "GardenChessModel") (idx := 154) (g := 9) (k := 62) (r := (RX7, TX7, 122)) rfl ⟨⟨by decide, by decide⟩, by decide⟩ (Or.inl q1874) (Or.inl rfl) rfl (fg_nil))) 89 rfl ?_
  refine oc (y := mt_311) (pc := 89) (ok_iconst dX7_undoes_89 rfl ⟨by decide, by decide⟩) 90 rfl ?_
  refine oc (y := mt_311) (pc := 90) (ok_iconst dX7_undoes_90 rfl ⟨by decide, by decide⟩) 91 rfl ?_
  refine oc (y := mt_311) (pc := 91) (ok_aload_n dX7_undoes_91) 92 rfl ?_
  refine oc (y := mt_311) (pc := 92) (ok_getfield dX7_undoes_92 (fg (own := "GardenChessModel") (idx := 154) (g := 9) (k := 62) (r := (RX7, TX7, 122)) rfl ⟨⟨by decide, by decide⟩, by decide⟩ (Or.inl q1874) (Or.inl rfl) rfl (fg_nil))) 95 rfl ?_
  refine oc (y := mt_311) (pc := 95) (ok_iconst dX7_undoes_95 rfl ⟨by decide, by decide⟩) 96 rfl ?_
  refine oc (y := mt_311) (pc := 96) (ok_iaload dX7_undoes_96) 97 rfl ?_
  refine oc (y := mt_311) (pc := 97) (ok_isub dX7_undoes_97) 98 rfl ?_
  refine oc (y := mt_311) (pc := 98) (ok_iastore dX7_undoes_98) 99 rfl ?_
  exact oc_ret dX7_undoes_99 rfl
theorem ok_311 : ∀ q ∈ pr_311, okL gmt mt_311 q.1 q.2 := pk_c o_311_0 (pk_c o_311_51 (pk_n))
theorem o_312_0 : okL gmt mt_312 0 b_312_0 := by
  refine oc (y := mt_312) (pc := 0) (ok_iload_n dX7_kept_0) 1 rfl ?_
  refine oc (y := mt_312) (pc := 1) (ok_i2l dX7_kept_1) 2 rfl ?_
  refine oc (y := mt_312) (pc := 2) (ok_lconst dX7_kept_2 (by decide) ⟨by decide, by decide⟩) 3 rfl ?_
  refine oc (y := mt_312) (pc := 3) (ok_aload_n dX7_kept_3) 4 rfl ?_
  refine oc (y := mt_312) (pc := 4) (ok_getfield dX7_kept_4 (fg (own := "GardenChessModel") (idx := 154) (g := 9) (k := 62) (r := (RX7, TX7, 122)) rfl ⟨⟨by decide, by decide⟩, by decide⟩ (Or.inl q1874) (Or.inl rfl) rfl (fg_nil))) 7 rfl ?_
  refine oc (y := mt_312) (pc := 7) (ok_bipush dX7_kept_7 (by decide) ⟨by decide, by decide⟩) 9 rfl ?_
  refine oc (y := mt_312) (pc := 9) (ok_iaload dX7_kept_9) 10 rfl ?_
  refine oc (y := mt_312) (pc := 10) (ok_iconst dX7_kept_10 rfl ⟨by decide, by decide⟩) 11 rfl ?_
  refine oc (y := mt_312) (pc := 11) (ok_isub dX7_kept_11) 12 rfl ?_
  refine oc (y := mt_312) (pc := 12) (ok_i2l dX7_kept_12) 13 rfl ?_
  refine oc_S (y := mt_312) (pc := 13) (M := mt_246) rfl (ck_S dX7_kept_13 ⟨by decide, by decide, by decide, by decide +kernel⟩ q2225 q2226 q177 q2227) (hok0 rfl) (by decide) 16 rfl ?_
  refine oc_if dX7_kept_16 ⟨by decide, by decide⟩ 19 rfl ?_
  refine oc (y := mt_312) (pc := 19) (ok_iload_n dX7_kept_19) 20 rfl ?_
  refine oc (y := mt_312) (pc := 20) (ok_i2l dX7_kept_20) 21 rfl ?_
  refine oc (y := mt_312) (pc := 21) (ok_lconst dX7_kept_21 (by decide) ⟨by decide, by decide⟩) 22 rfl ?_
  refine oc (y := mt_312) (pc := 22) (ok_ldc2 dX7_kept_22 ⟨by decide, by decide⟩ (show Cond.constantLong _ _ (Int64.ofInt 4) ∈ lw_all from q2473)) 25 rfl ?_
  refine oc_S (y := mt_312) (pc := 25) (M := mt_246) rfl (ck_S dX7_kept_25 ⟨by decide, by decide, by decide, by decide +kernel⟩ q2225 q2226 q177 q2227) (hok0 rfl) (by decide) 28 rfl ?_
  refine oc_if dX7_kept_28 ⟨by decide, by decide⟩ 31 rfl ?_
  refine oc (y := mt_312) (pc := 31) (ok_aload_n dX7_kept_31) 32 rfl ?_
  refine oc (y := mt_312) (pc := 32) (ok_getfield dX7_kept_32 (fg (own := "GardenChessModel") (idx := 154) (g := 9) (k := 62) (r := (RX7, TX7, 122)) rfl ⟨⟨by decide, by decide⟩, by decide⟩ (Or.inl q1874) (Or.inl rfl) rfl (fg_nil))) 35 rfl ?_
  refine oc (y := mt_312) (pc := 35) (ok_bipush dX7_kept_35 (by decide) ⟨by decide, by decide⟩) 37 rfl ?_
  refine oc (y := mt_312) (pc := 37) (ok_iconst dX7_kept_37 rfl ⟨by decide, by decide⟩) 38 rfl ?_
  refine oc (y := mt_312) (pc := 38) (ok_iload_n dX7_kept_38) 39 rfl ?_
  refine oc (y := mt_312) (pc := 39) (ok_imul dX7_kept_39) 40 rfl ?_
  refine oc (y := mt_312) (pc := 40) (ok_iadd dX7_kept_40) 41 rfl ?_
  refine oc (y := mt_312) (pc := 41) (ok_iload_n dX7_kept_41) 42 rfl ?_
  refine oc (y := mt_312) (pc := 42) (ok_iadd dX7_kept_42) 43 rfl ?_
  refine oc (y := mt_312) (pc := 43) (ok_iaload dX7_kept_43) 44 rfl ?_
  exact oc_goto dX7_kept_44 ⟨by decide, by decide⟩
theorem o_312_47 : okL gmt mt_312 47 b_312_47 := by
  refine oc (y := mt_312) (pc := 47) (ok_iconst dX7_kept_47 rfl ⟨by decide, by decide⟩) 48 rfl ?_
  exact oc_fall rfl
theorem o_312_48 : okL gmt mt_312 48 b_312_48 := by
  exact oc_iret dX7_kept_48 rfl
theorem ok_312 : ∀ q ∈ pr_312, okL gmt mt_312 q.1 q.2 := pk_c o_312_0 (pk_c o_312_47 (pk_c o_312_48 (pk_n)))
theorem o_313_0 : okL gmt mt_313 0 b_313_0 := by
  refine oc (y := mt_313) (pc := 0) (ok_aload_n dX7_balance_0) 1 rfl ?_
  refine oc (y := mt_313) (pc := 1) (ok_getfield dX7_balance_1 (fg (own := "GardenChessModel") (idx := 424) (g := 9) (k := 58) (r := (RX7, TX7, 122)) rfl ⟨⟨by decide, by decide⟩, by decide⟩ (Or.inl q1870) (Or.inl rfl) rfl (fg_nil))) 4 rfl ?_
  refine oc_if dX7_balance_4 ⟨by decide, by decide⟩ 7 rfl ?_
  refine oc (y := mt_313) (pc := 7) (ok_iload_n dX7_balance_7) 8 rfl ?_
  refine oc (y := mt_313) (pc := 8) (ok_i2l dX7_balance_8) 9 rfl ?_
  refine oc (y := mt_313) (pc := 9) (ok_lconst dX7_balance_9 (by decide) ⟨by decide, by decide⟩) 10 rfl ?_
  refine oc (y := mt_313) (pc := 10) (ok_lconst dX7_balance_10 (by decide) ⟨by decide, by decide⟩) 11 rfl ?_
  refine oc_S (y := mt_313) (pc := 11) (M := mt_246) rfl (ck_S dX7_balance_11 ⟨by decide, by decide, by decide, by decide +kernel⟩ q2225 q2226 q177 q2227) (hok0 rfl) (by decide) 14 rfl ?_
  refine oc_if dX7_balance_14 ⟨by decide, by decide⟩ 17 rfl ?_
  refine oc (y := mt_313) (pc := 17) (ok_aload_n dX7_balance_17) 18 rfl ?_
  refine oc (y := mt_313) (pc := 18) (ok_iload_n dX7_balance_18) 19 rfl ?_
  refine oc_V (y := mt_313) (pc := 19) (vcons (y := mt_313) (pc := 19) (len := 3) (n := 2) (M := mt_314) (by decide) rfl (Or.inr rfl) rfl (ck_V dX7_balance_19 ⟨by decide, by decide, by decide, by decide +kernel⟩ q2498 q2500 qs116 q177 q2501) vnil) (hok0 rfl) (by decide) 22 rfl ?_
  refine oc (y := mt_313) (pc := 22) (ok_i2l dX7_balance_22) 23 rfl ?_
  exact oc_goto dX7_balance_23 ⟨by decide, by decide⟩
theorem o_313_26 : okL gmt mt_313 26 b_313_26 := by
  refine oc (y := mt_313) (pc := 26) (ok_ldc2 dX7_balance_26 ⟨by decide, by decide⟩ (show Cond.constantLong _ _ (Int64.ofInt (-1000000000000000)) ∈ lw_all from q2506)) 29 rfl ?_
  exact oc_fall rfl
theorem o_313_29 : okL gmt mt_313 29 b_313_29 := by
  exact oc_lret dX7_balance_29 rfl
theorem ok_313 : ∀ q ∈ pr_313, okL gmt mt_313 q.1 q.2 := pk_c o_313_0 (pk_c o_313_26 (pk_c o_313_29 (pk_n)))
theorem o_314_0 : okL gmt mt_314 0 b_314_0 := by
  refine oc (y := mt_314) (pc := 0) (ok_iconst dX7_balanceOf_0 rfl ⟨by decide, by decide⟩) 1 rfl ?_
  refine oc (y := mt_314) (pc := 1) (ok_istore_n dX7_balanceOf_1 (by decide)) 2 rfl ?_
  refine oc (y := mt_314) (pc := 2) (ok_iconst dX7_balanceOf_2 rfl ⟨by decide, by decide⟩) 3 rfl ?_
  refine oc (y := mt_314) (pc := 3) (ok_istore_n dX7_balanceOf_3 (by decide)) 4 rfl ?_
  exact oc_fall rfl
theorem o_314_4 : okL gmt mt_314 4 b_314_4 := by
  refine oc (y := mt_314) (pc := 4) (ok_iload_n dX7_balanceOf_4) 5 rfl ?_
  refine oc (y := mt_314) (pc := 5) (ok_aload_n dX7_balanceOf_5) 6 rfl ?_
  refine oc_V (y := mt_314) (pc := 6) (vcons (y := mt_314) (pc := 6) (len := 3) (n := 1) (M := mt_281) (by decide) rfl (Or.inr rfl) rfl (ck_V dX7_balanceOf_6 ⟨by decide, by decide, by decide, by decide +kernel⟩ q2365 q2367 qs94 q177 q2368) vnil) (hok0 rfl) (by decide) 9 rfl ?_
  refine oc_icmp dX7_balanceOf_9 ⟨by decide, by decide⟩ 12 rfl ?_
  refine oc (y := mt_314) (pc := 12) (ok_aload_n dX7_balanceOf_12) 13 rfl ?_
  refine oc (y := mt_314) (pc := 13) (ok_iload_n dX7_balanceOf_13) 14 rfl ?_
  refine oc_V (y := mt_314) (pc := 14) (vcons (y := mt_314) (pc := 14) (len := 3) (n := 2) (M := mt_284) (by decide) rfl (Or.inr rfl) rfl (ck_V dX7_balanceOf_14 ⟨by decide, by decide, by decide, by decide +kernel⟩ q2377 q2379 qs97 q177 q2380) vnil) (hok0 rfl) (by decide) 17 rfl ?_
  refine oc_if dX7_balanceOf_17 ⟨by decide, by decide⟩ 20 rfl ?_
  refine oc (y := mt_314) (pc := 20) (ok_iload_n dX7_balanceOf_20) 21 rfl ?_
  refine oc (y := mt_314) (pc := 21) (ok_aload_n dX7_balanceOf_21) 22 rfl ?_
  refine oc (y := mt_314) (pc := 22) (ok_iload_n dX7_balanceOf_22) 23 rfl ?_
  refine oc_V (y := mt_314) (pc := 23) (vcons (y := mt_314) (pc := 23) (len := 3) (n := 2) (M := mt_287) (by decide) rfl (Or.inr rfl) rfl (ck_V dX7_balanceOf_23 ⟨by decide, by decide, by decide, by decide +kernel⟩ q2389 q2391 qs100 q177 q2392) vnil) (hok0 rfl) (by decide) 26 rfl ?_
  refine oc (y := mt_314) (pc := 26) (ok_iload_n dX7_balanceOf_26) 27 rfl ?_
  refine oc_icmp dX7_balanceOf_27 ⟨by decide, by decide⟩ 30 rfl ?_
  refine oc (y := mt_314) (pc := 30) (ok_aload_n dX7_balanceOf_30) 31 rfl ?_
  refine oc (y := mt_314) (pc := 31) (ok_iload_n dX7_balanceOf_31) 32 rfl ?_
  refine oc_V (y := mt_314) (pc := 32) (vcons (y := mt_314) (pc := 32) (len := 3) (n := 2) (M := mt_315) (by decide) rfl (Or.inr rfl) rfl (ck_V dX7_balanceOf_32 ⟨by decide, by decide, by decide, by decide +kernel⟩ q2502 q2504 qs117 q177 q2505) vnil) (hok0 rfl) (by decide) 35 rfl ?_
  exact oc_goto dX7_balanceOf_35 ⟨by decide, by decide⟩
theorem o_314_38 : okL gmt mt_314 38 b_314_38 := by
  refine oc (y := mt_314) (pc := 38) (ok_aload_n dX7_balanceOf_38) 39 rfl ?_
  refine oc (y := mt_314) (pc := 39) (ok_iload_n dX7_balanceOf_39) 40 rfl ?_
  refine oc_V (y := mt_314) (pc := 40) (vcons (y := mt_314) (pc := 40) (len := 3) (n := 2) (M := mt_315) (by decide) rfl (Or.inr rfl) rfl (ck_V dX7_balanceOf_40 ⟨by decide, by decide, by decide, by decide +kernel⟩ q2502 q2504 qs117 q177 q2505) vnil) (hok0 rfl) (by decide) 43 rfl ?_
  refine oc (y := mt_314) (pc := 43) (ok_ineg dX7_balanceOf_43) 44 rfl ?_
  exact oc_fall rfl
theorem o_314_44 : okL gmt mt_314 44 b_314_44 := by
  refine oc (y := mt_314) (pc := 44) (ok_iadd dX7_balanceOf_44) 45 rfl ?_
  refine oc (y := mt_314) (pc := 45) (ok_istore_n dX7_balanceOf_45 (by decide)) 46 rfl ?_
  exact oc_fall rfl
theorem o_314_46 : okL gmt mt_314 46 b_314_46 := by
  refine oc (y := mt_314) (pc := 46) (ok_iinc dX7_balanceOf_46 (by decide)) 49 rfl ?_
  exact oc_goto dX7_balanceOf_49 ⟨by decide, by decide⟩
theorem o_314_52 : okL gmt mt_314 52 b_314_52 := by
  refine oc (y := mt_314) (pc := 52) (ok_iload_n dX7_balanceOf_52) 53 rfl ?_
  exact oc_iret dX7_balanceOf_53 rfl
theorem ok_314 : ∀ q ∈ pr_314, okL gmt mt_314 q.1 q.2 := pk_c o_314_0 (pk_c o_314_4 (pk_c o_314_38 (pk_c o_314_44 (pk_c o_314_46 (pk_c o_314_52 (pk_n))))))
theorem o_315_0 : okL gmt mt_315 0 b_315_0 := by
  refine oc (y := mt_315) (pc := 0) (ok_aload_n dX7_worthOf_0) 1 rfl ?_
  refine oc (y := mt_315) (pc := 1) (ok_getfield dX7_worthOf_1 (fg (own := "GardenChessModel") (idx := 130) (g := 9) (k := 48) (r := (RX7, TX7, 122)) rfl ⟨⟨by decide, by decide⟩, by decide⟩ (Or.inl q1860) (Or.inl rfl) rfl (fg_nil))) 4 rfl ?_
  refine oc (y := mt_315) (pc := 4) (ok_bipush dX7_worthOf_4 (by decide) ⟨by decide, by decide⟩) 6 rfl ?_
  refine oc (y := mt_315) (pc := 6) (ok_iconst dX7_worthOf_6 rfl ⟨by decide, by decide⟩) 7 rfl ?_
  refine oc (y := mt_315) (pc := 7) (ok_aload_n dX7_worthOf_7) 8 rfl ?_
  refine oc (y := mt_315) (pc := 8) (ok_iload_n dX7_worthOf_8) 9 rfl ?_
  refine oc_V (y := mt_315) (pc := 9) (vcons (y := mt_315) (pc := 9) (len := 3) (n := 2) (M := mt_283) (by decide) rfl (Or.inr rfl) rfl (ck_V dX7_worthOf_9 ⟨by decide, by decide, by decide, by decide +kernel⟩ q2373 q2375 qs96 q177 q2376) vnil) (hok0 rfl) (by decide) 12 rfl ?_
  refine oc (y := mt_315) (pc := 12) (ok_imul dX7_worthOf_12) 13 rfl ?_
  refine oc (y := mt_315) (pc := 13) (ok_iadd dX7_worthOf_13) 14 rfl ?_
  refine oc (y := mt_315) (pc := 14) (ok_iaload dX7_worthOf_14) 15 rfl ?_
  exact oc_iret dX7_worthOf_15 rfl
theorem ok_315 : ∀ q ∈ pr_315, okL gmt mt_315 q.1 q.2 := pk_c o_315_0 (pk_n)
theorem o_316_0 : okL gmt mt_316 0 b_316_0 := by
  refine oc (y := mt_316) (pc := 0) (ok_aload_n dX7_value_0) 1 rfl ?_
  refine oc (y := mt_316) (pc := 1) (ok_getfield dX7_value_1 (fg (own := "GardenChessModel") (idx := 424) (g := 9) (k := 58) (r := (RX7, TX7, 122)) rfl ⟨⟨by decide, by decide⟩, by decide⟩ (Or.inl q1870) (Or.inl rfl) rfl (fg_nil))) 4 rfl ?_
  refine oc_if dX7_value_4 ⟨by decide, by decide⟩ 7 rfl ?_
  refine oc (y := mt_316) (pc := 7) (ok_iload_n dX7_value_7) 8 rfl ?_
  refine oc (y := mt_316) (pc := 8) (ok_i2l dX7_value_8) 9 rfl ?_
  refine oc (y := mt_316) (pc := 9) (ok_lconst dX7_value_9 (by decide) ⟨by decide, by decide⟩) 10 rfl ?_
  refine oc (y := mt_316) (pc := 10) (ok_ldc2 dX7_value_10 ⟨by decide, by decide⟩ (show Cond.constantLong _ _ (Int64.ofInt 3) ∈ lw_all from q2448)) 13 rfl ?_
  refine oc_S (y := mt_316) (pc := 13) (M := mt_246) rfl (ck_S dX7_value_13 ⟨by decide, by decide, by decide, by decide +kernel⟩ q2225 q2226 q177 q2227) (hok0 rfl) (by decide) 16 rfl ?_
  refine oc_if dX7_value_16 ⟨by decide, by decide⟩ 19 rfl ?_
  refine oc (y := mt_316) (pc := 19) (ok_aload_n dX7_value_19) 20 rfl ?_
  refine oc (y := mt_316) (pc := 20) (ok_iload_n dX7_value_20) 21 rfl ?_
  refine oc_V (y := mt_316) (pc := 21) (vcons (y := mt_316) (pc := 21) (len := 3) (n := 2) (M := mt_317) (by decide) rfl (Or.inr rfl) rfl (ck_V dX7_value_21 ⟨by decide, by decide, by decide, by decide +kernel⟩ q2511 q2513 qs118 q177 q2514) vnil) (hok0 rfl) (by decide) 24 rfl ?_
  refine oc (y := mt_316) (pc := 24) (ok_i2l dX7_value_24) 25 rfl ?_
  exact oc_goto dX7_value_25 ⟨by decide, by decide⟩
theorem o_316_28 : okL gmt mt_316 28 b_316_28 := by
  refine oc (y := mt_316) (pc := 28) (ok_ldc2 dX7_value_28 ⟨by decide, by decide⟩ (show Cond.constantLong _ _ (Int64.ofInt (-1000000000000000)) ∈ lw_all from q2506)) 31 rfl ?_
  exact oc_fall rfl
theorem o_316_31 : okL gmt mt_316 31 b_316_31 := by
  exact oc_lret dX7_value_31 rfl
theorem ok_316 : ∀ q ∈ pr_316, okL gmt mt_316 q.1 q.2 := pk_c o_316_0 (pk_c o_316_28 (pk_c o_316_31 (pk_n)))
theorem o_317_0 : okL gmt mt_317 0 b_317_0 := by
  refine oc (y := mt_317) (pc := 0) (ok_iload_n dX7_valueBy_0) 1 rfl ?_
  refine oc_if dX7_valueBy_1 ⟨by decide, by decide⟩ 4 rfl ?_
  refine oc (y := mt_317) (pc := 4) (ok_aload_n dX7_valueBy_4) 5 rfl ?_
  refine oc_V (y := mt_317) (pc := 5) (vcons (y := mt_317) (pc := 5) (len := 3) (n := 1) (M := mt_318) (by decide) rfl (Or.inr rfl) rfl (ck_V dX7_valueBy_5 ⟨by decide, by decide, by decide, by decide +kernel⟩ q2515 q2517 qs119 q177 q2518) vnil) (hok0 rfl) (by decide) 8 rfl ?_
  exact oc_goto dX7_valueBy_8 ⟨by decide, by decide⟩
theorem o_317_11 : okL gmt mt_317 11 b_317_11 := by
  refine oc (y := mt_317) (pc := 11) (ok_iload_n dX7_valueBy_11) 12 rfl ?_
  refine oc (y := mt_317) (pc := 12) (ok_iconst dX7_valueBy_12 rfl ⟨by decide, by decide⟩) 13 rfl ?_
  refine oc_icmp dX7_valueBy_13 ⟨by decide, by decide⟩ 16 rfl ?_
  refine oc (y := mt_317) (pc := 16) (ok_aload_n dX7_valueBy_16) 17 rfl ?_
  refine oc_V (y := mt_317) (pc := 17) (vcons (y := mt_317) (pc := 17) (len := 3) (n := 1) (M := mt_319) (by decide) rfl (Or.inr rfl) rfl (ck_V dX7_valueBy_17 ⟨by decide, by decide, by decide, by decide +kernel⟩ q2519 q2521 qs120 q177 q2522) vnil) (hok0 rfl) (by decide) 20 rfl ?_
  exact oc_goto dX7_valueBy_20 ⟨by decide, by decide⟩
theorem o_317_23 : okL gmt mt_317 23 b_317_23 := by
  refine oc (y := mt_317) (pc := 23) (ok_iload_n dX7_valueBy_23) 24 rfl ?_
  refine oc (y := mt_317) (pc := 24) (ok_iconst dX7_valueBy_24 rfl ⟨by decide, by decide⟩) 25 rfl ?_
  refine oc_icmp dX7_valueBy_25 ⟨by decide, by decide⟩ 28 rfl ?_
  refine oc (y := mt_317) (pc := 28) (ok_aload_n dX7_valueBy_28) 29 rfl ?_
  refine oc_V (y := mt_317) (pc := 29) (vcons (y := mt_317) (pc := 29) (len := 3) (n := 1) (M := mt_320) (by decide) rfl (Or.inr rfl) rfl (ck_V dX7_valueBy_29 ⟨by decide, by decide, by decide, by decide +kernel⟩ q2523 q2525 qs121 q177 q2526) vnil) (hok0 rfl) (by decide) 32 rfl ?_
  exact oc_goto dX7_valueBy_32 ⟨by decide, by decide⟩
theorem o_317_35 : okL gmt mt_317 35 b_317_35 := by
  refine oc (y := mt_317) (pc := 35) (ok_aload_n dX7_valueBy_35) 36 rfl ?_
  refine oc_V (y := mt_317) (pc := 36) (vcons (y := mt_317) (pc := 36) (len := 3) (n := 1) (M := mt_321) (by decide) rfl (Or.inr rfl) rfl (ck_V dX7_valueBy_36 ⟨by decide, by decide, by decide, by decide +kernel⟩ q2527 q2529 qs122 q177 q2530) vnil) (hok0 rfl) (by decide) 39 rfl ?_
  exact oc_fall rfl
theorem o_317_39 : okL gmt mt_317 39 b_317_39 := by
  exact oc_iret dX7_valueBy_39 rfl
theorem ok_317 : ∀ q ∈ pr_317, okL gmt mt_317 q.1 q.2 := pk_c o_317_0 (pk_c o_317_11 (pk_c o_317_23 (pk_c o_317_35 (pk_c o_317_39 (pk_n)))))
theorem o_318_0 : okL gmt mt_318 0 b_318_0 := by
  refine oc (y := mt_318) (pc := 0) (ok_aload_n dX7_value0_0) 1 rfl ?_
  refine oc (y := mt_318) (pc := 1) (ok_aload_n dX7_value0_1) 2 rfl ?_
  refine oc (y := mt_318) (pc := 2) (ok_getfield dX7_value0_2 (fg (own := "GardenChessModel") (idx := 154) (g := 9) (k := 62) (r := (RX7, TX7, 122)) rfl ⟨⟨by decide, by decide⟩, by decide⟩ (Or.inl q1874) (Or.inl rfl) rfl (fg_nil))) 5 rfl ?_
  refine oc (y := mt_318) (pc := 5) (ok_iconst dX7_value0_5 rfl ⟨by decide, by decide⟩) 6 rfl ?_
  refine oc (y := mt_318) (pc := 6) (ok_iaload dX7_value0_6) 7 rfl ?_
  refine oc_V (y := mt_318) (pc := 7) (vcons (y := mt_318) (pc := 7) (len := 3) (n := 2) (M := mt_314) (by decide) rfl (Or.inr rfl) rfl (ck_V dX7_value0_7 ⟨by decide, by decide, by decide, by decide +kernel⟩ q2498 q2500 qs116 q177 q2501) vnil) (hok0 rfl) (by decide) 10 rfl ?_
  exact oc_iret dX7_value0_10 rfl
theorem ok_318 : ∀ q ∈ pr_318, okL gmt mt_318 q.1 q.2 := pk_c o_318_0 (pk_n)
theorem o_319_0 : okL gmt mt_319 0 b_319_0 := by
  refine oc (y := mt_319) (pc := 0) (ok_aload_n dX7_value1_0) 1 rfl ?_
  refine oc (y := mt_319) (pc := 1) (ok_aload_n dX7_value1_1) 2 rfl ?_
  refine oc (y := mt_319) (pc := 2) (ok_getfield dX7_value1_2 (fg (own := "GardenChessModel") (idx := 154) (g := 9) (k := 62) (r := (RX7, TX7, 122)) rfl ⟨⟨by decide, by decide⟩, by decide⟩ (Or.inl q1874) (Or.inl rfl) rfl (fg_nil))) 5 rfl ?_
  refine oc (y := mt_319) (pc := 5) (ok_iconst dX7_value1_5 rfl ⟨by decide, by decide⟩) 6 rfl ?_
  refine oc (y := mt_319) (pc := 6) (ok_iaload dX7_value1_6) 7 rfl ?_
  refine oc_V (y := mt_319) (pc := 7) (vcons (y := mt_319) (pc := 7) (len := 3) (n := 2) (M := mt_314) (by decide) rfl (Or.inr rfl) rfl (ck_V dX7_value1_7 ⟨by decide, by decide, by decide, by decide +kernel⟩ q2498 q2500 qs116 q177 q2501) vnil) (hok0 rfl) (by decide) 10 rfl ?_
  refine oc (y := mt_319) (pc := 10) (ok_istore_n dX7_value1_10 (by decide)) 11 rfl ?_
  refine oc (y := mt_319) (pc := 11) (ok_aload_n dX7_value1_11) 12 rfl ?_
  refine oc_V (y := mt_319) (pc := 12) (vcons (y := mt_319) (pc := 12) (len := 3) (n := 1) (M := mt_280) (by decide) rfl (Or.inr rfl) rfl (ck_V dX7_value1_12 ⟨by decide, by decide, by decide, by decide +kernel⟩ q2361 q2363 qs93 q177 q2364) vnil) (hok0 rfl) (by decide) 15 rfl ?_
  refine oc_if dX7_value1_15 ⟨by decide, by decide⟩ 18 rfl ?_
  refine oc (y := mt_319) (pc := 18) (ok_iload_n dX7_value1_18) 19 rfl ?_
  exact oc_iret dX7_value1_19 rfl
theorem o_319_20 : okL gmt mt_319 20 b_319_20 := by
  refine oc (y := mt_319) (pc := 20) (ok_iconst dX7_value1_20 rfl ⟨by decide, by decide⟩) 21 rfl ?_
  refine oc (y := mt_319) (pc := 21) (ok_istore_n dX7_value1_21 (by decide)) 22 rfl ?_
  refine oc (y := mt_319) (pc := 22) (ok_iconst dX7_value1_22 rfl ⟨by decide, by decide⟩) 23 rfl ?_
  refine oc (y := mt_319) (pc := 23) (ok_istore_n dX7_value1_23 (by decide)) 24 rfl ?_
  exact oc_fall rfl
theorem o_319_24 : okL gmt mt_319 24 b_319_24 := by
  refine oc (y := mt_319) (pc := 24) (ok_iload_n dX7_value1_24) 25 rfl ?_
  refine oc (y := mt_319) (pc := 25) (ok_aload_n dX7_value1_25) 26 rfl ?_
  refine oc_V (y := mt_319) (pc := 26) (vcons (y := mt_319) (pc := 26) (len := 3) (n := 1) (M := mt_281) (by decide) rfl (Or.inr rfl) rfl (ck_V dX7_value1_26 ⟨by decide, by decide, by decide, by decide +kernel⟩ q2365 q2367 qs94 q177 q2368) vnil) (hok0 rfl) (by decide) 29 rfl ?_
  refine oc_icmp dX7_value1_29 ⟨by decide, by decide⟩ 32 rfl ?_
  refine oc (y := mt_319) (pc := 32) (ok_iconst dX7_value1_32 rfl ⟨by decide, by decide⟩) 33 rfl ?_
  refine oc (y := mt_319) (pc := 33) (ok_istore dX7_value1_33 (by decide)) 35 rfl ?_
  exact oc_fall rfl
theorem o_319_35 : okL gmt mt_319 35 b_319_35 := by
  refine oc (y := mt_319) (pc := 35) (ok_iload dX7_value1_35) 37 rfl ?_
  refine oc (y := mt_319) (pc := 37) (ok_aload_n dX7_value1_37) 38 rfl ?_
  refine oc_V (y := mt_319) (pc := 38) (vcons (y := mt_319) (pc := 38) (len := 3) (n := 1) (M := mt_289) (by decide) rfl (Or.inr rfl) rfl (ck_V dX7_value1_38 ⟨by decide, by decide, by decide, by decide +kernel⟩ q2397 q2399 qs102 q177 q2400) vnil) (hok0 rfl) (by decide) 41 rfl ?_
  refine oc_icmp dX7_value1_41 ⟨by decide, by decide⟩ 44 rfl ?_
  refine oc (y := mt_319) (pc := 44) (ok_aload_n dX7_value1_44) 45 rfl ?_
  refine oc (y := mt_319) (pc := 45) (ok_iload_n dX7_value1_45) 46 rfl ?_
  refine oc_V (y := mt_319) (pc := 46) (vcons (y := mt_319) (pc := 46) (len := 3) (n := 2) (M := mt_287) (by decide) rfl (Or.inr rfl) rfl (ck_V dX7_value1_46 ⟨by decide, by decide, by decide, by decide +kernel⟩ q2389 q2391 qs100 q177 q2392) vnil) (hok0 rfl) (by decide) 49 rfl ?_
  refine oc (y := mt_319) (pc := 49) (ok_aload_n dX7_value1_49) 50 rfl ?_
  refine oc (y := mt_319) (pc := 50) (ok_getfield dX7_value1_50 (fg (own := "GardenChessModel") (idx := 154) (g := 9) (k := 62) (r := (RX7, TX7, 122)) rfl ⟨⟨by decide, by decide⟩, by decide⟩ (Or.inl q1874) (Or.inl rfl) rfl (fg_nil))) 53 rfl ?_
  refine oc (y := mt_319) (pc := 53) (ok_iconst dX7_value1_53 rfl ⟨by decide, by decide⟩) 54 rfl ?_
  refine oc (y := mt_319) (pc := 54) (ok_iaload dX7_value1_54) 55 rfl ?_
  refine oc_icmp dX7_value1_55 ⟨by decide, by decide⟩ 58 rfl ?_
  refine oc (y := mt_319) (pc := 58) (ok_aload_n dX7_value1_58) 59 rfl ?_
  refine oc (y := mt_319) (pc := 59) (ok_iload_n dX7_value1_59) 60 rfl ?_
  refine oc (y := mt_319) (pc := 60) (ok_iload dX7_value1_60) 62 rfl ?_
  refine oc_V (y := mt_319) (pc := 62) (vcons (y := mt_319) (pc := 62) (len := 3) (n := 3) (M := mt_290) (by decide) rfl (Or.inr rfl) rfl (ck_V dX7_value1_62 ⟨by decide, by decide, by decide, by decide +kernel⟩ q2401 q2403 qs103 q177 q2404) vnil) (hok0 rfl) (by decide) 65 rfl ?_
  refine oc_if dX7_value1_65 ⟨by decide, by decide⟩ 68 rfl ?_
  exact oc_goto dX7_value1_68 ⟨by decide, by decide⟩
theorem o_319_71 : okL gmt mt_319 71 b_319_71 := by
  refine oc (y := mt_319) (pc := 71) (ok_aload_n dX7_value1_71) 72 rfl ?_
  refine oc (y := mt_319) (pc := 72) (ok_iconst dX7_value1_72 rfl ⟨by decide, by decide⟩) 73 rfl ?_
  refine oc (y := mt_319) (pc := 73) (ok_iload_n dX7_value1_73) 74 rfl ?_
  refine oc (y := mt_319) (pc := 74) (ok_iload dX7_value1_74) 76 rfl ?_
  refine oc_V (y := mt_319) (pc := 76) (vcons (y := mt_319) (pc := 76) (len := 3) (n := 4) (M := mt_309) (by decide) rfl (Or.inr rfl) rfl (ck_V dX7_value1_76 ⟨by decide, by decide, by decide, by decide +kernel⟩ q2478 q2480 qs113 q177 q2481) vnil) (hok0 rfl) (by decide) 79 rfl ?_
  refine oc (y := mt_319) (pc := 79) (ok_aload_n dX7_value1_79) 80 rfl ?_
  refine oc_V (y := mt_319) (pc := 80) (vcons (y := mt_319) (pc := 80) (len := 3) (n := 1) (M := mt_318) (by decide) rfl (Or.inr rfl) rfl (ck_V dX7_value1_80 ⟨by decide, by decide, by decide, by decide +kernel⟩ q2515 q2517 qs119 q177 q2518) vnil) (hok0 rfl) (by decide) 83 rfl ?_
  refine oc (y := mt_319) (pc := 83) (ok_ineg dX7_value1_83) 84 rfl ?_
  refine oc (y := mt_319) (pc := 84) (ok_istore dX7_value1_84 (by decide)) 86 rfl ?_
  refine oc (y := mt_319) (pc := 86) (ok_aload_n dX7_value1_86) 87 rfl ?_
  refine oc (y := mt_319) (pc := 87) (ok_iconst dX7_value1_87 rfl ⟨by decide, by decide⟩) 88 rfl ?_
  refine oc_V (y := mt_319) (pc := 88) (vcons (y := mt_319) (pc := 88) (len := 3) (n := 2) (M := mt_311) (by decide) rfl (Or.inr rfl) rfl (ck_V dX7_value1_88 ⟨by decide, by decide, by decide, by decide +kernel⟩ q2486 q2488 qs115 q177 q2489) vnil) (hok0 rfl) (by decide) 91 rfl ?_
  refine oc (y := mt_319) (pc := 91) (ok_iload_n dX7_value1_91) 92 rfl ?_
  refine oc_if dX7_value1_92 ⟨by decide, by decide⟩ 95 rfl ?_
  refine oc (y := mt_319) (pc := 95) (ok_iload dX7_value1_95) 97 rfl ?_
  refine oc (y := mt_319) (pc := 97) (ok_iload_n dX7_value1_97) 98 rfl ?_
  refine oc_icmp dX7_value1_98 ⟨by decide, by decide⟩ 101 rfl ?_
  exact oc_goto dX7_value1_101 ⟨by decide, by decide⟩
theorem o_319_104 : okL gmt mt_319 104 b_319_104 := by
  refine oc (y := mt_319) (pc := 104) (ok_iconst dX7_value1_104 rfl ⟨by decide, by decide⟩) 105 rfl ?_
  refine oc (y := mt_319) (pc := 105) (ok_istore_n dX7_value1_105 (by decide)) 106 rfl ?_
  refine oc (y := mt_319) (pc := 106) (ok_iload dX7_value1_106) 108 rfl ?_
  refine oc (y := mt_319) (pc := 108) (ok_istore_n dX7_value1_108 (by decide)) 109 rfl ?_
  exact oc_fall rfl
theorem o_319_109 : okL gmt mt_319 109 b_319_109 := by
  refine oc (y := mt_319) (pc := 109) (ok_iinc dX7_value1_109 (by decide)) 112 rfl ?_
  exact oc_goto dX7_value1_112 ⟨by decide, by decide⟩
theorem o_319_115 : okL gmt mt_319 115 b_319_115 := by
  refine oc (y := mt_319) (pc := 115) (ok_iinc dX7_value1_115 (by decide)) 118 rfl ?_
  exact oc_goto dX7_value1_118 ⟨by decide, by decide⟩
theorem o_319_121 : okL gmt mt_319 121 b_319_121 := by
  refine oc (y := mt_319) (pc := 121) (ok_iload_n dX7_value1_121) 122 rfl ?_
  exact oc_iret dX7_value1_122 rfl
theorem ok_319 : ∀ q ∈ pr_319, okL gmt mt_319 q.1 q.2 := pk_c o_319_0 (pk_c o_319_20 (pk_c o_319_24 (pk_c o_319_35 (pk_c o_319_71 (pk_c o_319_104 (pk_c o_319_109 (pk_c o_319_115 (pk_c o_319_121 (pk_n)))))))))
theorem o_320_0 : okL gmt mt_320 0 b_320_0 := by
  refine oc (y := mt_320) (pc := 0) (ok_aload_n dX7_value2_0) 1 rfl ?_
  refine oc (y := mt_320) (pc := 1) (ok_aload_n dX7_value2_1) 2 rfl ?_
  refine oc (y := mt_320) (pc := 2) (ok_getfield dX7_value2_2 (fg (own := "GardenChessModel") (idx := 154) (g := 9) (k := 62) (r := (RX7, TX7, 122)) rfl ⟨⟨by decide, by decide⟩, by decide⟩ (Or.inl q1874) (Or.inl rfl) rfl (fg_nil))) 5 rfl ?_
  refine oc (y := mt_320) (pc := 5) (ok_iconst dX7_value2_5 rfl ⟨by decide, by decide⟩) 6 rfl ?_
  refine oc (y := mt_320) (pc := 6) (ok_iaload dX7_value2_6) 7 rfl ?_
  refine oc_V (y := mt_320) (pc := 7) (vcons (y := mt_320) (pc := 7) (len := 3) (n := 2) (M := mt_314) (by decide) rfl (Or.inr rfl) rfl (ck_V dX7_value2_7 ⟨by decide, by decide, by decide, by decide +kernel⟩ q2498 q2500 qs116 q177 q2501) vnil) (hok0 rfl) (by decide) 10 rfl ?_
  refine oc (y := mt_320) (pc := 10) (ok_istore_n dX7_value2_10 (by decide)) 11 rfl ?_
  refine oc (y := mt_320) (pc := 11) (ok_aload_n dX7_value2_11) 12 rfl ?_
  refine oc_V (y := mt_320) (pc := 12) (vcons (y := mt_320) (pc := 12) (len := 3) (n := 1) (M := mt_280) (by decide) rfl (Or.inr rfl) rfl (ck_V dX7_value2_12 ⟨by decide, by decide, by decide, by decide +kernel⟩ q2361 q2363 qs93 q177 q2364) vnil) (hok0 rfl) (by decide) 15 rfl ?_
  refine oc_if dX7_value2_15 ⟨by decide, by decide⟩ 18 rfl ?_
  refine oc (y := mt_320) (pc := 18) (ok_iload_n dX7_value2_18) 19 rfl ?_
  exact oc_iret dX7_value2_19 rfl
theorem o_320_20 : okL gmt mt_320 20 b_320_20 := by
  refine oc (y := mt_320) (pc := 20) (ok_iconst dX7_value2_20 rfl ⟨by decide, by decide⟩) 21 rfl ?_
  refine oc (y := mt_320) (pc := 21) (ok_istore_n dX7_value2_21 (by decide)) 22 rfl ?_
  refine oc (y := mt_320) (pc := 22) (ok_iconst dX7_value2_22 rfl ⟨by decide, by decide⟩) 23 rfl ?_
  refine oc (y := mt_320) (pc := 23) (ok_istore_n dX7_value2_23 (by decide)) 24 rfl ?_
  exact oc_fall rfl
theorem o_320_24 : okL gmt mt_320 24 b_320_24 := by
  refine oc (y := mt_320) (pc := 24) (ok_iload_n dX7_value2_24) 25 rfl ?_
  refine oc (y := mt_320) (pc := 25) (ok_aload_n dX7_value2_25) 26 rfl ?_
  refine oc_V (y := mt_320) (pc := 26) (vcons (y := mt_320) (pc := 26) (len := 3) (n := 1) (M := mt_281) (by decide) rfl (Or.inr rfl) rfl (ck_V dX7_value2_26 ⟨by decide, by decide, by decide, by decide +kernel⟩ q2365 q2367 qs94 q177 q2368) vnil) (hok0 rfl) (by decide) 29 rfl ?_
  refine oc_icmp dX7_value2_29 ⟨by decide, by decide⟩ 32 rfl ?_
  refine oc (y := mt_320) (pc := 32) (ok_iconst dX7_value2_32 rfl ⟨by decide, by decide⟩) 33 rfl ?_
  refine oc (y := mt_320) (pc := 33) (ok_istore dX7_value2_33 (by decide)) 35 rfl ?_
  exact oc_fall rfl
theorem o_320_35 : okL gmt mt_320 35 b_320_35 := by
  refine oc (y := mt_320) (pc := 35) (ok_iload dX7_value2_35) 37 rfl ?_
  refine oc (y := mt_320) (pc := 37) (ok_aload_n dX7_value2_37) 38 rfl ?_
  refine oc_V (y := mt_320) (pc := 38) (vcons (y := mt_320) (pc := 38) (len := 3) (n := 1) (M := mt_289) (by decide) rfl (Or.inr rfl) rfl (ck_V dX7_value2_38 ⟨by decide, by decide, by decide, by decide +kernel⟩ q2397 q2399 qs102 q177 q2400) vnil) (hok0 rfl) (by decide) 41 rfl ?_
  refine oc_icmp dX7_value2_41 ⟨by decide, by decide⟩ 44 rfl ?_
  refine oc (y := mt_320) (pc := 44) (ok_aload_n dX7_value2_44) 45 rfl ?_
  refine oc (y := mt_320) (pc := 45) (ok_iload_n dX7_value2_45) 46 rfl ?_
  refine oc_V (y := mt_320) (pc := 46) (vcons (y := mt_320) (pc := 46) (len := 3) (n := 2) (M := mt_287) (by decide) rfl (Or.inr rfl) rfl (ck_V dX7_value2_46 ⟨by decide, by decide, by decide, by decide +kernel⟩ q2389 q2391 qs100 q177 q2392) vnil) (hok0 rfl) (by decide) 49 rfl ?_
  refine oc (y := mt_320) (pc := 49) (ok_aload_n dX7_value2_49) 50 rfl ?_
  refine oc (y := mt_320) (pc := 50) (ok_getfield dX7_value2_50 (fg (own := "GardenChessModel") (idx := 154) (g := 9) (k := 62) (r := (RX7, TX7, 122)) rfl ⟨⟨by decide, by decide⟩, by decide⟩ (Or.inl q1874) (Or.inl rfl) rfl (fg_nil))) 53 rfl ?_
  refine oc (y := mt_320) (pc := 53) (ok_iconst dX7_value2_53 rfl ⟨by decide, by decide⟩) 54 rfl ?_
  refine oc (y := mt_320) (pc := 54) (ok_iaload dX7_value2_54) 55 rfl ?_
  refine oc_icmp dX7_value2_55 ⟨by decide, by decide⟩ 58 rfl ?_
  refine oc (y := mt_320) (pc := 58) (ok_aload_n dX7_value2_58) 59 rfl ?_
  refine oc (y := mt_320) (pc := 59) (ok_iload_n dX7_value2_59) 60 rfl ?_
  refine oc (y := mt_320) (pc := 60) (ok_iload dX7_value2_60) 62 rfl ?_
  refine oc_V (y := mt_320) (pc := 62) (vcons (y := mt_320) (pc := 62) (len := 3) (n := 3) (M := mt_290) (by decide) rfl (Or.inr rfl) rfl (ck_V dX7_value2_62 ⟨by decide, by decide, by decide, by decide +kernel⟩ q2401 q2403 qs103 q177 q2404) vnil) (hok0 rfl) (by decide) 65 rfl ?_
  refine oc_if dX7_value2_65 ⟨by decide, by decide⟩ 68 rfl ?_
  exact oc_goto dX7_value2_68 ⟨by decide, by decide⟩
theorem o_320_71 : okL gmt mt_320 71 b_320_71 := by
  refine oc (y := mt_320) (pc := 71) (ok_aload_n dX7_value2_71) 72 rfl ?_
  refine oc (y := mt_320) (pc := 72) (ok_iconst dX7_value2_72 rfl ⟨by decide, by decide⟩) 73 rfl ?_
  refine oc (y := mt_320) (pc := 73) (ok_iload_n dX7_value2_73) 74 rfl ?_
  refine oc (y := mt_320) (pc := 74) (ok_iload dX7_value2_74) 76 rfl ?_
  refine oc_V (y := mt_320) (pc := 76) (vcons (y := mt_320) (pc := 76) (len := 3) (n := 4) (M := mt_309) (by decide) rfl (Or.inr rfl) rfl (ck_V dX7_value2_76 ⟨by decide, by decide, by decide, by decide +kernel⟩ q2478 q2480 qs113 q177 q2481) vnil) (hok0 rfl) (by decide) 79 rfl ?_
  refine oc (y := mt_320) (pc := 79) (ok_aload_n dX7_value2_79) 80 rfl ?_
  refine oc_V (y := mt_320) (pc := 80) (vcons (y := mt_320) (pc := 80) (len := 3) (n := 1) (M := mt_319) (by decide) rfl (Or.inr rfl) rfl (ck_V dX7_value2_80 ⟨by decide, by decide, by decide, by decide +kernel⟩ q2519 q2521 qs120 q177 q2522) vnil) (hok0 rfl) (by decide) 83 rfl ?_
  refine oc (y := mt_320) (pc := 83) (ok_ineg dX7_value2_83) 84 rfl ?_
  refine oc (y := mt_320) (pc := 84) (ok_istore dX7_value2_84 (by decide)) 86 rfl ?_
  refine oc (y := mt_320) (pc := 86) (ok_aload_n dX7_value2_86) 87 rfl ?_
  refine oc (y := mt_320) (pc := 87) (ok_iconst dX7_value2_87 rfl ⟨by decide, by decide⟩) 88 rfl ?_
  refine oc_V (y := mt_320) (pc := 88) (vcons (y := mt_320) (pc := 88) (len := 3) (n := 2) (M := mt_311) (by decide) rfl (Or.inr rfl) rfl (ck_V dX7_value2_88 ⟨by decide, by decide, by decide, by decide +kernel⟩ q2486 q2488 qs115 q177 q2489) vnil) (hok0 rfl) (by decide) 91 rfl ?_
  refine oc (y := mt_320) (pc := 91) (ok_iload_n dX7_value2_91) 92 rfl ?_
  refine oc_if dX7_value2_92 ⟨by decide, by decide⟩ 95 rfl ?_
  refine oc (y := mt_320) (pc := 95) (ok_iload dX7_value2_95) 97 rfl ?_
  refine oc (y := mt_320) (pc := 97) (ok_iload_n dX7_value2_97) 98 rfl ?_
  refine oc_icmp dX7_value2_98 ⟨by decide, by decide⟩ 101 rfl ?_
  exact oc_goto dX7_value2_101 ⟨by decide, by decide⟩
theorem o_320_104 : okL gmt mt_320 104 b_320_104 := by
  refine oc (y := mt_320) (pc := 104) (ok_iconst dX7_value2_104 rfl ⟨by decide, by decide⟩) 105 rfl ?_
  refine oc (y := mt_320) (pc := 105) (ok_istore_n dX7_value2_105 (by decide)) 106 rfl ?_
  refine oc (y := mt_320) (pc := 106) (ok_iload dX7_value2_106) 108 rfl ?_
  refine oc (y := mt_320) (pc := 108) (ok_istore_n dX7_value2_108 (by decide)) 109 rfl ?_
  exact oc_fall rfl
theorem o_320_109 : okL gmt mt_320 109 b_320_109 := by
  refine oc (y := mt_320) (pc := 109) (ok_iinc dX7_value2_109 (by decide)) 112 rfl ?_
  exact oc_goto dX7_value2_112 ⟨by decide, by decide⟩
theorem o_320_115 : okL gmt mt_320 115 b_320_115 := by
  refine oc (y := mt_320) (pc := 115) (ok_iinc dX7_value2_115 (by decide)) 118 rfl ?_
  exact oc_goto dX7_value2_118 ⟨by decide, by decide⟩
theorem o_320_121 : okL gmt mt_320 121 b_320_121 := by
  refine oc (y := mt_320) (pc := 121) (ok_iload_n dX7_value2_121) 122 rfl ?_
  exact oc_iret dX7_value2_122 rfl
theorem ok_320 : ∀ q ∈ pr_320, okL gmt mt_320 q.1 q.2 := pk_c o_320_0 (pk_c o_320_20 (pk_c o_320_24 (pk_c o_320_35 (pk_c o_320_71 (pk_c o_320_104 (pk_c o_320_109 (pk_c o_320_115 (pk_c o_320_121 (pk_n)))))))))
theorem o_321_0 : okL gmt mt_321 0 b_321_0 := by
  refine oc (y := mt_321) (pc := 0) (ok_aload_n dX7_value3_0) 1 rfl ?_
  refine oc (y := mt_321) (pc := 1) (ok_aload_n dX7_value3_1) 2 rfl ?_
  refine oc (y := mt_321) (pc := 2) (ok_getfield dX7_value3_2 (fg (own := "GardenChessModel") (idx := 154) (g := 9) (k := 62) (r := (RX7, TX7, 122)) rfl ⟨⟨by decide, by decide⟩, by decide⟩ (Or.inl q1874) (Or.inl rfl) rfl (fg_nil))) 5 rfl ?_
  refine oc (y := mt_321) (pc := 5) (ok_iconst dX7_value3_5 rfl ⟨by decide, by decide⟩) 6 rfl ?_
  refine oc (y := mt_321) (pc := 6) (ok_iaload dX7_value3_6) 7 rfl ?_
  refine oc_V (y := mt_321) (pc := 7) (vcons (y := mt_321) (pc := 7) (len := 3) (n := 2) (M := mt_314) (by decide) rfl (Or.inr rfl) rfl (ck_V dX7_value3_7 ⟨by decide, by decide, by decide, by decide +kernel⟩ q2498 q2500 qs116 q177 q2501) vnil) (hok0 rfl) (by decide) 10 rfl ?_
  refine oc (y := mt_321) (pc := 10) (ok_istore_n dX7_value3_10 (by decide)) 11 rfl ?_
  refine oc (y := mt_321) (pc := 11) (ok_aload_n dX7_value3_11) 12 rfl ?_
  refine oc_V (y := mt_321) (pc := 12) (vcons (y := mt_321) (pc := 12) (len := 3) (n := 1) (M := mt_280) (by decide) rfl (Or.inr rfl) rfl (ck_V dX7_value3_12 ⟨by decide, by decide, by decide, by decide +kernel⟩ q2361 q2363 qs93 q177 q2364) vnil) (hok0 rfl) (by decide) 15 rfl ?_
  refine oc_if dX7_value3_15 ⟨by decide, by decide⟩ 18 rfl ?_
  refine oc (y := mt_321) (pc := 18) (ok_iload_n dX7_value3_18) 19 rfl ?_
  exact oc_iret dX7_value3_19 rfl
theorem o_321_20 : okL gmt mt_321 20 b_321_20 := by
  refine oc (y := mt_321) (pc := 20) (ok_iconst dX7_value3_20 rfl ⟨by decide, by decide⟩) 21 rfl ?_
  refine oc (y := mt_321) (pc := 21) (ok_istore_n dX7_value3_21 (by decide)) 22 rfl ?_
  refine oc (y := mt_321) (pc := 22) (ok_iconst dX7_value3_22 rfl ⟨by decide, by decide⟩) 23 rfl ?_
  refine oc (y := mt_321) (pc := 23) (ok_istore_n dX7_value3_23 (by decide)) 24 rfl ?_
  exact oc_fall rfl
theorem o_321_24 : okL gmt mt_321 24 b_321_24 := by
  refine oc (y := mt_321) (pc := 24) (ok_iload_n dX7_value3_24) 25 rfl ?_
  refine oc (y := mt_321) (pc := 25) (ok_aload_n dX7_value3_25) 26 rfl ?_
  refine oc_V (y := mt_321) (pc := 26) (vcons (y := mt_321) (pc := 26) (len := 3) (n := 1) (M := mt_281) (by decide) rfl (Or.inr rfl) rfl (ck_V dX7_value3_26 ⟨by decide, by decide, by decide, by decide +kernel⟩ q2365 q2367 qs94 q177 q2368) vnil) (hok0 rfl) (by decide) 29 rfl ?_
  refine oc_icmp dX7_value3_29 ⟨by decide, by decide⟩ 32 rfl ?_
  refine oc (y := mt_321) (pc := 32) (ok_iconst dX7_value3_32 rfl ⟨by decide, by decide⟩) 33 rfl ?_
  refine oc (y := mt_321) (pc := 33) (ok_istore dX7_value3_33 (by decide)) 35 rfl ?_
  exact oc_fall rfl
theorem o_321_35 : okL gmt mt_321 35 b_321_35 := by
  refine oc (y := mt_321) (pc := 35) (ok_iload dX7_value3_35) 37 rfl ?_
  refine oc (y := mt_321) (pc := 37) (ok_aload_n dX7_value3_37) 38 rfl ?_
  refine oc_V (y := mt_321) (pc := 38) (vcons (y := mt_321) (pc := 38) (len := 3) (n := 1) (M := mt_289) (by decide) rfl (Or.inr rfl) rfl (ck_V dX7_value3_38 ⟨by decide, by decide, by decide, by decide +kernel⟩ q2397 q2399 qs102 q177 q2400) vnil) (hok0 rfl) (by decide) 41 rfl ?_
  refine oc_icmp dX7_value3_41 ⟨by decide, by decide⟩ 44 rfl ?_
  refine oc (y := mt_321) (pc := 44) (ok_aload_n dX7_value3_44) 45 rfl ?_
  refine oc (y := mt_321) (pc := 45) (ok_iload_n dX7_value3_45) 46 rfl ?_
  refine oc_V (y := mt_321) (pc := 46) (vcons (y := mt_321) (pc := 46) (len := 3) (n := 2) (M := mt_287) (by decide) rfl (Or.inr rfl) rfl (ck_V dX7_value3_46 ⟨by decide, by decide, by decide, by decide +kernel⟩ q2389 q2391 qs100 q177 q2392) vnil) (hok0 rfl) (by decide) 49 rfl ?_
  refine oc (y := mt_321) (pc := 49) (ok_aload_n dX7_value3_49) 50 rfl ?_
  refine oc (y := mt_321) (pc := 50) (ok_getfield dX7_value3_50 (fg (own := "GardenChessModel") (idx := 154) (g := 9) (k := 62) (r := (RX7, TX7, 122)) rfl ⟨⟨by decide, by decide⟩, by decide⟩ (Or.inl q1874) (Or.inl rfl) rfl (fg_nil))) 53 rfl ?_
  refine oc (y := mt_321) (pc := 53) (ok_iconst dX7_value3_53 rfl ⟨by decide, by decide⟩) 54 rfl ?_
  refine oc (y := mt_321) (pc := 54) (ok_iaload dX7_value3_54) 55 rfl ?_
  refine oc_icmp dX7_value3_55 ⟨by decide, by decide⟩ 58 rfl ?_
  refine oc (y := mt_321) (pc := 58) (ok_aload_n dX7_value3_58) 59 rfl ?_
  refine oc (y := mt_321) (pc := 59) (ok_iload_n dX7_value3_59) 60 rfl ?_
  refine oc (y := mt_321) (pc := 60) (ok_iload dX7_value3_60) 62 rfl ?_
  refine oc_V (y := mt_321) (pc := 62) (vcons (y := mt_321) (pc := 62) (len := 3) (n := 3) (M := mt_290) (by decide) rfl (Or.inr rfl) rfl (ck_V dX7_value3_62 ⟨by decide, by decide, by decide, by decide +kernel⟩ q2401 q2403 qs103 q177 q2404) vnil) (hok0 rfl) (by decide) 65 rfl ?_
  refine oc_if dX7_value3_65 ⟨by decide, by decide⟩ 68 rfl ?_
  exact oc_goto dX7_value3_68 ⟨by decide, by decide⟩
theorem o_321_71 : okL gmt mt_321 71 b_321_71 := by
  refine oc (y := mt_321) (pc := 71) (ok_aload_n dX7_value3_71) 72 rfl ?_
  refine oc (y := mt_321) (pc := 72) (ok_iconst dX7_value3_72 rfl ⟨by decide, by decide⟩) 73 rfl ?_
  refine oc (y := mt_321) (pc := 73) (ok_iload_n dX7_value3_73) 74 rfl ?_
  refine oc (y := mt_321) (pc := 74) (ok_iload dX7_value3_74) 76 rfl ?_
  refine oc_V (y := mt_321) (pc := 76) (vcons (y := mt_321) (pc := 76) (len := 3) (n := 4) (M := mt_309) (by decide) rfl (Or.inr rfl) rfl (ck_V dX7_value3_76 ⟨by decide, by decide, by decide, by decide +kernel⟩ q2478 q2480 qs113 q177 q2481) vnil) (hok0 rfl) (by decide) 79 rfl ?_
  refine oc (y := mt_321) (pc := 79) (ok_aload_n dX7_value3_79) 80 rfl ?_
  refine oc_V (y := mt_321) (pc := 80) (vcons (y := mt_321) (pc := 80) (len := 3) (n := 1) (M := mt_320) (by decide) rfl (Or.inr rfl) rfl (ck_V dX7_value3_80 ⟨by decide, by decide, by decide, by decide +kernel⟩ q2523 q2525 qs121 q177 q2526) vnil) (hok0 rfl) (by decide) 83 rfl ?_
  refine oc (y := mt_321) (pc := 83) (ok_ineg dX7_value3_83) 84 rfl ?_
  refine oc (y := mt_321) (pc := 84) (ok_istore dX7_value3_84 (by decide)) 86 rfl ?_
  refine oc (y := mt_321) (pc := 86) (ok_aload_n dX7_value3_86) 87 rfl ?_
  refine oc (y := mt_321) (pc := 87) (ok_iconst dX7_value3_87 rfl ⟨by decide, by decide⟩) 88 rfl ?_
  refine oc_V (y := mt_321) (pc := 88) (vcons (y := mt_321) (pc := 88) (len := 3) (n := 2) (M := mt_311) (by decide) rfl (Or.inr rfl) rfl (ck_V dX7_value3_88 ⟨by decide, by decide, by decide, by decide +kernel⟩ q2486 q2488 qs115 q177 q2489) vnil) (hok0 rfl) (by decide) 91 rfl ?_
  refine oc (y := mt_321) (pc := 91) (ok_iload_n dX7_value3_91) 92 rfl ?_
  refine oc_if dX7_value3_92 ⟨by decide, by decide⟩ 95 rfl ?_
  refine oc (y := mt_321) (pc := 95) (ok_iload dX7_value3_95) 97 rfl ?_
  refine oc (y := mt_321) (pc := 97) (ok_iload_n dX7_value3_97) 98 rfl ?_
  refine oc_icmp dX7_value3_98 ⟨by decide, by decide⟩ 101 rfl ?_
  exact oc_goto dX7_value3_101 ⟨by decide, by decide⟩
theorem o_321_104 : okL gmt mt_321 104 b_321_104 := by
  refine oc (y := mt_321) (pc := 104) (ok_iconst dX7_value3_104 rfl ⟨by decide, by decide⟩) 105 rfl ?_
  refine oc (y := mt_321) (pc := 105) (ok_istore_n dX7_value3_105 (by decide)) 106 rfl ?_
  refine oc (y := mt_321) (pc := 106) (ok_iload dX7_value3_106) 108 rfl ?_
  refine oc (y := mt_321) (pc := 108) (ok_istore_n dX7_value3_108 (by decide)) 109 rfl ?_
  exact oc_fall rfl
theorem o_321_109 : okL gmt mt_321 109 b_321_109 := by
  refine oc (y := mt_321) (pc := 109) (ok_iinc dX7_value3_109 (by decide)) 112 rfl ?_
  exact oc_goto dX7_value3_112 ⟨by decide, by decide⟩
theorem o_321_115 : okL gmt mt_321 115 b_321_115 := by
  refine oc (y := mt_321) (pc := 115) (ok_iinc dX7_value3_115 (by decide)) 118 rfl ?_
  exact oc_goto dX7_value3_118 ⟨by decide, by decide⟩
theorem o_321_121 : okL gmt mt_321 121 b_321_121 := by
  refine oc (y := mt_321) (pc := 121) (ok_iload_n dX7_value3_121) 122 rfl ?_
  exact oc_iret dX7_value3_122 rfl
theorem ok_321 : ∀ q ∈ pr_321, okL gmt mt_321 q.1 q.2 := pk_c o_321_0 (pk_c o_321_20 (pk_c o_321_24 (pk_c o_321_35 (pk_c o_321_71 (pk_c o_321_104 (pk_c o_321_109 (pk_c o_321_115 (pk_c o_321_121 (pk_n)))))))))
theorem o_322_0 : okL gmt mt_322 0 b_322_0 := by
  refine oc (y := mt_322) (pc := 0) (ok_aload_n dX7_best_0) 1 rfl ?_
  refine oc (y := mt_322) (pc := 1) (ok_getfield dX7_best_1 (fg (own := "GardenChessModel") (idx := 424) (g := 9) (k := 58) (r := (RX7, TX7, 122)) rfl ⟨⟨by decide, by decide⟩, by decide⟩ (Or.inl q1870) (Or.inl rfl) rfl (fg_nil))) 4 rfl ?_
  refine oc_if dX7_best_4 ⟨by decide, by decide⟩ 7 rfl ?_
  refine oc (y := mt_322) (pc := 7) (ok_iload_n dX7_best_7) 8 rfl ?_
  refine oc (y := mt_322) (pc := 8) (ok_i2l dX7_best_8) 9 rfl ?_
  refine oc (y := mt_322) (pc := 9) (ok_lconst dX7_best_9 (by decide) ⟨by decide, by decide⟩) 10 rfl ?_
  refine oc (y := mt_322) (pc := 10) (ok_ldc2 dX7_best_10 ⟨by decide, by decide⟩ (show Cond.constantLong _ _ (Int64.ofInt 3) ∈ lw_all from q2448)) 13 rfl ?_
  refine oc_S (y := mt_322) (pc := 13) (M := mt_246) rfl (ck_S dX7_best_13 ⟨by decide, by decide, by decide, by decide +kernel⟩ q2225 q2226 q177 q2227) (hok0 rfl) (by decide) 16 rfl ?_
  refine oc_if dX7_best_16 ⟨by decide, by decide⟩ 19 rfl ?_
  exact oc_fall rfl
theorem o_322_19 : okL gmt mt_322 19 b_322_19 := by
  refine oc (y := mt_322) (pc := 19) (ok_iconst dX7_best_19 rfl ⟨by decide, by decide⟩) 20 rfl ?_
  exact oc_iret dX7_best_20 rfl
theorem o_322_21 : okL gmt mt_322 21 b_322_21 := by
  refine oc (y := mt_322) (pc := 21) (ok_aload_n dX7_best_21) 22 rfl ?_
  refine oc (y := mt_322) (pc := 22) (ok_iload_n dX7_best_22) 23 rfl ?_
  refine oc_V (y := mt_322) (pc := 23) (vcons (y := mt_322) (pc := 23) (len := 3) (n := 2) (M := mt_323) (by decide) rfl (Or.inr rfl) rfl (ck_V dX7_best_23 ⟨by decide, by decide, by decide, by decide +kernel⟩ q2535 q2537 qs123 q177 q2538) vnil) (hok0 rfl) (by decide) 26 rfl ?_
  refine oc (y := mt_322) (pc := 26) (ok_aload_n dX7_best_26) 27 rfl ?_
  refine oc (y := mt_322) (pc := 27) (ok_getfield dX7_best_27 (fg (own := "GardenChessModel") (idx := 515) (g := 9) (k := 68) (r := (RX7, TX7, 122)) rfl ⟨⟨by decide, by decide⟩, by decide⟩ (Or.inl q1880) (Or.inl rfl) rfl (fg_nil))) 30 rfl ?_
  exact oc_iret dX7_best_30 rfl
theorem ok_322 : ∀ q ∈ pr_322, okL gmt mt_322 q.1 q.2 := pk_c o_322_0 (pk_c o_322_19 (pk_c o_322_21 (pk_n)))
theorem o_323_0 : okL gmt mt_323 0 b_323_0 := by
  refine oc (y := mt_323) (pc := 0) (ok_aload_n dX7_choosesBest_0) 1 rfl ?_
  refine oc (y := mt_323) (pc := 1) (ok_iconst dX7_choosesBest_1 rfl ⟨by decide, by decide⟩) 2 rfl ?_
  refine oc (y := mt_323) (pc := 2) (ok_putfield dX7_choosesBest_2 (fp (own := "GardenChessModel") (idx := 515) (g := 9) (k := 68) (r := (RX7, TX7, 122)) rfl ⟨⟨by decide, by decide⟩, by decide⟩ (Or.inl q1880) (Or.inl rfl) rfl (Or.inl rfl) (fp_nil))) 5 rfl ?_
  refine oc (y := mt_323) (pc := 5) (ok_aload_n dX7_choosesBest_5) 6 rfl ?_
  refine oc_V (y := mt_323) (pc := 6) (vcons (y := mt_323) (pc := 6) (len := 3) (n := 1) (M := mt_280) (by decide) rfl (Or.inr rfl) rfl (ck_V dX7_choosesBest_6 ⟨by decide, by decide, by decide, by decide +kernel⟩ q2361 q2363 qs93 q177 q2364) vnil) (hok0 rfl) (by decide) 9 rfl ?_
  refine oc_if dX7_choosesBest_9 ⟨by decide, by decide⟩ 12 rfl ?_
  exact oc_ret dX7_choosesBest_12 rfl
theorem o_323_13 : okL gmt mt_323 13 b_323_13 := by
  refine oc (y := mt_323) (pc := 13) (ok_iconst dX7_choosesBest_13 rfl ⟨by decide, by decide⟩) 14 rfl ?_
  refine oc (y := mt_323) (pc := 14) (ok_istore_n dX7_choosesBest_14 (by decide)) 15 rfl ?_
  refine oc (y := mt_323) (pc := 15) (ok_iconst dX7_choosesBest_15 rfl ⟨by decide, by decide⟩) 16 rfl ?_
  refine oc (y := mt_323) (pc := 16) (ok_istore_n dX7_choosesBest_16 (by decide)) 17 rfl ?_
  refine oc (y := mt_323) (pc := 17) (ok_iconst dX7_choosesBest_17 rfl ⟨by decide, by decide⟩) 18 rfl ?_
  refine oc (y := mt_323) (pc := 18) (ok_istore dX7_choosesBest_18 (by decide)) 20 rfl ?_
  exact oc_fall rfl
theorem o_323_20 : okL gmt mt_323 20 b_323_20 := by
  refine oc (y := mt_323) (pc := 20) (ok_iload dX7_choosesBest_20) 22 rfl ?_
  refine oc (y := mt_323) (pc := 22) (ok_aload_n dX7_choosesBest_22) 23 rfl ?_
  refine oc_V (y := mt_323) (pc := 23) (vcons (y := mt_323) (pc := 23) (len := 3) (n := 1) (M := mt_281) (by decide) rfl (Or.inr rfl) rfl (ck_V dX7_choosesBest_23 ⟨by decide, by decide, by decide, by decide +kernel⟩ q2365 q2367 qs94 q177 q2368) vnil) (hok0 rfl) (by decide) 26 rfl ?_
  refine oc_icmp dX7_choosesBest_26 ⟨by decide, by decide⟩ 29 rfl ?_
  refine oc (y := mt_323) (pc := 29) (ok_iconst dX7_choosesBest_29 rfl ⟨by decide, by decide⟩) 30 rfl ?_
  refine oc (y := mt_323) (pc := 30) (ok_istore dX7_choosesBest_30 (by decide)) 32 rfl ?_
  exact oc_fall rfl
theorem o_323_32 : okL gmt mt_323 32 b_323_32 := by
  refine oc (y := mt_323) (pc := 32) (ok_iload dX7_choosesBest_32) 34 rfl ?_
  refine oc (y := mt_323) (pc := 34) (ok_aload_n dX7_choosesBest_34) 35 rfl ?_
  refine oc_V (y := mt_323) (pc := 35) (vcons (y := mt_323) (pc := 35) (len := 3) (n := 1) (M := mt_289) (by decide) rfl (Or.inr rfl) rfl (ck_V dX7_choosesBest_35 ⟨by decide, by decide, by decide, by decide +kernel⟩ q2397 q2399 qs102 q177 q2400) vnil) (hok0 rfl) (by decide) 38 rfl ?_
  refine oc_icmp dX7_choosesBest_38 ⟨by decide, by decide⟩ 41 rfl ?_
  refine oc (y := mt_323) (pc := 41) (ok_aload_n dX7_choosesBest_41) 42 rfl ?_
  refine oc (y := mt_323) (pc := 42) (ok_iload dX7_choosesBest_42) 44 rfl ?_
  refine oc_V (y := mt_323) (pc := 44) (vcons (y := mt_323) (pc := 44) (len := 3) (n := 2) (M := mt_287) (by decide) rfl (Or.inr rfl) rfl (ck_V dX7_choosesBest_44 ⟨by decide, by decide, by decide, by decide +kernel⟩ q2389 q2391 qs100 q177 q2392) vnil) (hok0 rfl) (by decide) 47 rfl ?_
  refine oc (y := mt_323) (pc := 47) (ok_aload_n dX7_choosesBest_47) 48 rfl ?_
  refine oc (y := mt_323) (pc := 48) (ok_getfield dX7_choosesBest_48 (fg (own := "GardenChessModel") (idx := 154) (g := 9) (k := 62) (r := (RX7, TX7, 122)) rfl ⟨⟨by decide, by decide⟩, by decide⟩ (Or.inl q1874) (Or.inl rfl) rfl (fg_nil))) 51 rfl ?_
  refine oc (y := mt_323) (pc := 51) (ok_iconst dX7_choosesBest_51 rfl ⟨by decide, by decide⟩) 52 rfl ?_
  refine oc (y := mt_323) (pc := 52) (ok_iaload dX7_choosesBest_52) 53 rfl ?_
  refine oc_icmp dX7_choosesBest_53 ⟨by decide, by decide⟩ 56 rfl ?_
  refine oc (y := mt_323) (pc := 56) (ok_aload_n dX7_choosesBest_56) 57 rfl ?_
  refine oc (y := mt_323) (pc := 57) (ok_iload dX7_choosesBest_57) 59 rfl ?_
  refine oc (y := mt_323) (pc := 59) (ok_iload dX7_choosesBest_59) 61 rfl ?_
  refine oc_V (y := mt_323) (pc := 61) (vcons (y := mt_323) (pc := 61) (len := 3) (n := 3) (M := mt_290) (by decide) rfl (Or.inr rfl) rfl (ck_V dX7_choosesBest_61 ⟨by decide, by decide, by decide, by decide +kernel⟩ q2401 q2403 qs103 q177 q2404) vnil) (hok0 rfl) (by decide) 64 rfl ?_
  refine oc_if dX7_choosesBest_64 ⟨by decide, by decide⟩ 67 rfl ?_
  exact oc_goto dX7_choosesBest_67 ⟨by decide, by decide⟩
theorem o_323_70 : okL gmt mt_323 70 b_323_70 := by
  refine oc (y := mt_323) (pc := 70) (ok_aload_n dX7_choosesBest_70) 71 rfl ?_
  refine oc (y := mt_323) (pc := 71) (ok_iconst dX7_choosesBest_71 rfl ⟨by decide, by decide⟩) 72 rfl ?_
  refine oc (y := mt_323) (pc := 72) (ok_iload dX7_choosesBest_72) 74 rfl ?_
  refine oc (y := mt_323) (pc := 74) (ok_iload dX7_choosesBest_74) 76 rfl ?_
  refine oc_V (y := mt_323) (pc := 76) (vcons (y := mt_323) (pc := 76) (len := 3) (n := 4) (M := mt_309) (by decide) rfl (Or.inr rfl) rfl (ck_V dX7_choosesBest_76 ⟨by decide, by decide, by decide, by decide +kernel⟩ q2478 q2480 qs113 q177 q2481) vnil) (hok0 rfl) (by decide) 79 rfl ?_
  refine oc (y := mt_323) (pc := 79) (ok_aload_n dX7_choosesBest_79) 80 rfl ?_
  refine oc (y := mt_323) (pc := 80) (ok_iload_n dX7_choosesBest_80) 81 rfl ?_
  refine oc (y := mt_323) (pc := 81) (ok_iconst dX7_choosesBest_81 rfl ⟨by decide, by decide⟩) 82 rfl ?_
  refine oc (y := mt_323) (pc := 82) (ok_isub dX7_choosesBest_82) 83 rfl ?_
  refine oc_V (y := mt_323) (pc := 83) (vcons (y := mt_323) (pc := 83) (len := 3) (n := 2) (M := mt_317) (by decide) rfl (Or.inr rfl) rfl (ck_V dX7_choosesBest_83 ⟨by decide, by decide, by decide, by decide +kernel⟩ q2511 q2513 qs118 q177 q2514) vnil) (hok0 rfl) (by decide) 86 rfl ?_
  refine oc (y := mt_323) (pc := 86) (ok_ineg dX7_choosesBest_86) 87 rfl ?_
  refine oc (y := mt_323) (pc := 87) (ok_istore dX7_choosesBest_87 (by decide)) 89 rfl ?_
  refine oc (y := mt_323) (pc := 89) (ok_aload_n dX7_choosesBest_89) 90 rfl ?_
  refine oc (y := mt_323) (pc := 90) (ok_iconst dX7_choosesBest_90 rfl ⟨by decide, by decide⟩) 91 rfl ?_
  refine oc_V (y := mt_323) (pc := 91) (vcons (y := mt_323) (pc := 91) (len := 3) (n := 2) (M := mt_311) (by decide) rfl (Or.inr rfl) rfl (ck_V dX7_choosesBest_91 ⟨by decide, by decide, by decide, by decide +kernel⟩ q2486 q2488 qs115 q177 q2489) vnil) (hok0 rfl) (by decide) 94 rfl ?_
  refine oc (y := mt_323) (pc := 94) (ok_aload_n dX7_choosesBest_94) 95 rfl ?_
  refine oc (y := mt_323) (pc := 95) (ok_getfield dX7_choosesBest_95 (fg (own := "GardenChessModel") (idx := 515) (g := 9) (k := 68) (r := (RX7, TX7, 122)) rfl ⟨⟨by decide, by decide⟩, by decide⟩ (Or.inl q1880) (Or.inl rfl) rfl (fg_nil))) 98 rfl ?_
  refine oc (y := mt_323) (pc := 98) (ok_iconst dX7_choosesBest_98 rfl ⟨by decide, by decide⟩) 99 rfl ?_
  refine oc_icmp dX7_choosesBest_99 ⟨by decide, by decide⟩ 102 rfl ?_
  refine oc (y := mt_323) (pc := 102) (ok_iload dX7_choosesBest_102) 104 rfl ?_
  refine oc (y := mt_323) (pc := 104) (ok_iload_n dX7_choosesBest_104) 105 rfl ?_
  refine oc_icmp dX7_choosesBest_105 ⟨by decide, by decide⟩ 108 rfl ?_
  exact oc_fall rfl
theorem o_323_108 : okL gmt mt_323 108 b_323_108 := by
  refine oc (y := mt_323) (pc := 108) (ok_iload dX7_choosesBest_108) 110 rfl ?_
  refine oc (y := mt_323) (pc := 110) (ok_istore_n dX7_choosesBest_110 (by decide)) 111 rfl ?_
  refine oc (y := mt_323) (pc := 111) (ok_aload_n dX7_choosesBest_111) 112 rfl ?_
  refine oc (y := mt_323) (pc := 112) (ok_iload_n dX7_choosesBest_112) 113 rfl ?_
  refine oc (y := mt_323) (pc := 113) (ok_putfield dX7_choosesBest_113 (fp (own := "GardenChessModel") (idx := 515) (g := 9) (k := 68) (r := (RX7, TX7, 122)) rfl ⟨⟨by decide, by decide⟩, by decide⟩ (Or.inl q1880) (Or.inl rfl) rfl (Or.inl rfl) (fp_nil))) 116 rfl ?_
  refine oc (y := mt_323) (pc := 116) (ok_aload_n dX7_choosesBest_116) 117 rfl ?_
  refine oc (y := mt_323) (pc := 117) (ok_iload dX7_choosesBest_117) 119 rfl ?_
  refine oc (y := mt_323) (pc := 119) (ok_putfield dX7_choosesBest_119 (fp (own := "GardenChessModel") (idx := 521) (g := 9) (k := 69) (r := (RX7, TX7, 122)) rfl ⟨⟨by decide, by decide⟩, by decide⟩ (Or.inl q1881) (Or.inl rfl) rfl (Or.inl rfl) (fp_nil))) 122 rfl ?_
  refine oc (y := mt_323) (pc := 122) (ok_aload_n dX7_choosesBest_122) 123 rfl ?_
  refine oc (y := mt_323) (pc := 123) (ok_iload dX7_choosesBest_123) 125 rfl ?_
  refine oc (y := mt_323) (pc := 125) (ok_putfield dX7_choosesBest_125 (fp (own := "GardenChessModel") (idx := 524) (g := 9) (k := 70) (r := (RX7, TX7, 122)) rfl ⟨⟨by decide, by decide⟩, by decide⟩ (Or.inl q1882) (Or.inl rfl) rfl (Or.inl rfl) (fp_nil))) 128 rfl ?_
  exact oc_fall rfl
theorem o_323_128 : okL gmt mt_323 128 b_323_128 := by
  refine oc (y := mt_323) (pc := 128) (ok_iinc dX7_choosesBest_128 (by decide)) 131 rfl ?_
  exact oc_fall rfl
theorem o_323_131 : okL gmt mt_323 131 b_323_131 := by
  refine oc (y := mt_323) (pc := 131) (ok_iinc dX7_choosesBest_131 (by decide)) 134 rfl ?_
  exact oc_goto dX7_choosesBest_134 ⟨by decide, by decide⟩
theorem o_323_137 : okL gmt mt_323 137 b_323_137 := by
  refine oc (y := mt_323) (pc := 137) (ok_iinc dX7_choosesBest_137 (by decide)) 140 rfl ?_
  exact oc_goto dX7_choosesBest_140 ⟨by decide, by decide⟩
theorem o_323_143 : okL gmt mt_323 143 b_323_143 := by
  exact oc_ret dX7_choosesBest_143 rfl
theorem ok_323 : ∀ q ∈ pr_323, okL gmt mt_323 q.1 q.2 := pk_c o_323_0 (pk_c o_323_13 (pk_c o_323_20 (pk_c o_323_32 (pk_c o_323_70 (pk_c o_323_108 (pk_c o_323_128 (pk_c o_323_131 (pk_c o_323_137 (pk_c o_323_143 (pk_n))))))))))
theorem o_324_0 : okL gmt mt_324 0 b_324_0 := by
  refine oc (y := mt_324) (pc := 0) (ok_aload_n dX7_forced_0) 1 rfl ?_
  refine oc (y := mt_324) (pc := 1) (ok_getfield dX7_forced_1 (fg (own := "GardenChessModel") (idx := 424) (g := 9) (k := 58) (r := (RX7, TX7, 122)) rfl ⟨⟨by decide, by decide⟩, by decide⟩ (Or.inl q1870) (Or.inl rfl) rfl (fg_nil))) 4 rfl ?_
  refine oc_if dX7_forced_4 ⟨by decide, by decide⟩ 7 rfl ?_
  refine oc (y := mt_324) (pc := 7) (ok_aload_n dX7_forced_7) 8 rfl ?_
  refine oc_V (y := mt_324) (pc := 8) (vcons (y := mt_324) (pc := 8) (len := 3) (n := 1) (M := mt_279) (by decide) rfl (Or.inr rfl) rfl (ck_V dX7_forced_8 ⟨by decide, by decide, by decide, by decide +kernel⟩ q2357 q2359 qs92 q177 q2360) vnil) (hok0 rfl) (by decide) 11 rfl ?_
  refine oc_if dX7_forced_11 ⟨by decide, by decide⟩ 14 rfl ?_
  exact oc_fall rfl
theorem o_324_14 : okL gmt mt_324 14 b_324_14 := by
  refine oc (y := mt_324) (pc := 14) (ok_iconst dX7_forced_14 rfl ⟨by decide, by decide⟩) 15 rfl ?_
  exact oc_iret dX7_forced_15 rfl
theorem o_324_16 : okL gmt mt_324 16 b_324_16 := by
  refine oc (y := mt_324) (pc := 16) (ok_aload_n dX7_forced_16) 17 rfl ?_
  refine oc_V (y := mt_324) (pc := 17) (vcons (y := mt_324) (pc := 17) (len := 3) (n := 1) (M := mt_325) (by decide) rfl (Or.inr rfl) rfl (ck_V dX7_forced_17 ⟨by decide, by decide, by decide, by decide +kernel⟩ q2543 q2545 qs124 q177 q2546) vnil) (hok0 rfl) (by decide) 20 rfl ?_
  refine oc_if dX7_forced_20 ⟨by decide, by decide⟩ 23 rfl ?_
  refine oc (y := mt_324) (pc := 23) (ok_iconst dX7_forced_23 rfl ⟨by decide, by decide⟩) 24 rfl ?_
  exact oc_iret dX7_forced_24 rfl
theorem o_324_25 : okL gmt mt_324 25 b_324_25 := by
  refine oc (y := mt_324) (pc := 25) (ok_iconst dX7_forced_25 rfl ⟨by decide, by decide⟩) 26 rfl ?_
  refine oc (y := mt_324) (pc := 26) (ok_istore_n dX7_forced_26 (by decide)) 27 rfl ?_
  refine oc (y := mt_324) (pc := 27) (ok_iconst dX7_forced_27 rfl ⟨by decide, by decide⟩) 28 rfl ?_
  refine oc (y := mt_324) (pc := 28) (ok_istore_n dX7_forced_28 (by decide)) 29 rfl ?_
  exact oc_fall rfl
theorem o_324_29 : okL gmt mt_324 29 b_324_29 := by
  refine oc (y := mt_324) (pc := 29) (ok_iload_n dX7_forced_29) 30 rfl ?_
  refine oc (y := mt_324) (pc := 30) (ok_aload_n dX7_forced_30) 31 rfl ?_
  refine oc_V (y := mt_324) (pc := 31) (vcons (y := mt_324) (pc := 31) (len := 3) (n := 1) (M := mt_281) (by decide) rfl (Or.inr rfl) rfl (ck_V dX7_forced_31 ⟨by decide, by decide, by decide, by decide +kernel⟩ q2365 q2367 qs94 q177 q2368) vnil) (hok0 rfl) (by decide) 34 rfl ?_
  refine oc_icmp dX7_forced_34 ⟨by decide, by decide⟩ 37 rfl ?_
  refine oc (y := mt_324) (pc := 37) (ok_iload_n dX7_forced_37) 38 rfl ?_
  refine oc_if dX7_forced_38 ⟨by decide, by decide⟩ 41 rfl ?_
  refine oc (y := mt_324) (pc := 41) (ok_iconst dX7_forced_41 rfl ⟨by decide, by decide⟩) 42 rfl ?_
  refine oc (y := mt_324) (pc := 42) (ok_istore_n dX7_forced_42 (by decide)) 43 rfl ?_
  exact oc_fall rfl
theorem o_324_43 : okL gmt mt_324 43 b_324_43 := by
  refine oc (y := mt_324) (pc := 43) (ok_iload_n dX7_forced_43) 44 rfl ?_
  refine oc (y := mt_324) (pc := 44) (ok_aload_n dX7_forced_44) 45 rfl ?_
  refine oc_V (y := mt_324) (pc := 45) (vcons (y := mt_324) (pc := 45) (len := 3) (n := 1) (M := mt_289) (by decide) rfl (Or.inr rfl) rfl (ck_V dX7_forced_45 ⟨by decide, by decide, by decide, by decide +kernel⟩ q2397 q2399 qs102 q177 q2400) vnil) (hok0 rfl) (by decide) 48 rfl ?_
  refine oc_icmp dX7_forced_48 ⟨by decide, by decide⟩ 51 rfl ?_
  refine oc (y := mt_324) (pc := 51) (ok_iload_n dX7_forced_51) 52 rfl ?_
  refine oc_if dX7_forced_52 ⟨by decide, by decide⟩ 55 rfl ?_
  refine oc (y := mt_324) (pc := 55) (ok_aload_n dX7_forced_55) 56 rfl ?_
  refine oc (y := mt_324) (pc := 56) (ok_iload_n dX7_forced_56) 57 rfl ?_
  refine oc_V (y := mt_324) (pc := 57) (vcons (y := mt_324) (pc := 57) (len := 3) (n := 2) (M := mt_287) (by decide) rfl (Or.inr rfl) rfl (ck_V dX7_forced_57 ⟨by decide, by decide, by decide, by decide +kernel⟩ q2389 q2391 qs100 q177 q2392) vnil) (hok0 rfl) (by decide) 60 rfl ?_
  refine oc (y := mt_324) (pc := 60) (ok_aload_n dX7_forced_60) 61 rfl ?_
  refine oc (y := mt_324) (pc := 61) (ok_getfield dX7_forced_61 (fg (own := "GardenChessModel") (idx := 154) (g := 9) (k := 62) (r := (RX7, TX7, 122)) rfl ⟨⟨by decide, by decide⟩, by decide⟩ (Or.inl q1874) (Or.inl rfl) rfl (fg_nil))) 64 rfl ?_
  refine oc (y := mt_324) (pc := 64) (ok_iconst dX7_forced_64 rfl ⟨by decide, by decide⟩) 65 rfl ?_
  refine oc (y := mt_324) (pc := 65) (ok_iaload dX7_forced_65) 66 rfl ?_
  refine oc_icmp dX7_forced_66 ⟨by decide, by decide⟩ 69 rfl ?_
  refine oc (y := mt_324) (pc := 69) (ok_aload_n dX7_forced_69) 70 rfl ?_
  refine oc (y := mt_324) (pc := 70) (ok_iload_n dX7_forced_70) 71 rfl ?_
  refine oc (y := mt_324) (pc := 71) (ok_iload_n dX7_forced_71) 72 rfl ?_
  refine oc_V (y := mt_324) (pc := 72) (vcons (y := mt_324) (pc := 72) (len := 3) (n := 3) (M := mt_290) (by decide) rfl (Or.inr rfl) rfl (ck_V dX7_forced_72 ⟨by decide, by decide, by decide, by decide +kernel⟩ q2401 q2403 qs103 q177 q2404) vnil) (hok0 rfl) (by decide) 75 rfl ?_
  refine oc_if dX7_forced_75 ⟨by decide, by decide⟩ 78 rfl ?_
  exact oc_goto dX7_forced_78 ⟨by decide, by decide⟩
theorem o_324_81 : okL gmt mt_324 81 b_324_81 := by
  refine oc (y := mt_324) (pc := 81) (ok_aload_n dX7_forced_81) 82 rfl ?_
  refine oc (y := mt_324) (pc := 82) (ok_iconst dX7_forced_82 rfl ⟨by decide, by decide⟩) 83 rfl ?_
  refine oc (y := mt_324) (pc := 83) (ok_iload_n dX7_forced_83) 84 rfl ?_
  refine oc (y := mt_324) (pc := 84) (ok_iload_n dX7_forced_84) 85 rfl ?_
  refine oc_V (y := mt_324) (pc := 85) (vcons (y := mt_324) (pc := 85) (len := 3) (n := 4) (M := mt_309) (by decide) rfl (Or.inr rfl) rfl (ck_V dX7_forced_85 ⟨by decide, by decide, by decide, by decide +kernel⟩ q2478 q2480 qs113 q177 q2481) vnil) (hok0 rfl) (by decide) 88 rfl ?_
  refine oc (y := mt_324) (pc := 88) (ok_aload_n dX7_forced_88) 89 rfl ?_
  refine oc_V (y := mt_324) (pc := 89) (vcons (y := mt_324) (pc := 89) (len := 3) (n := 1) (M := mt_280) (by decide) rfl (Or.inr rfl) rfl (ck_V dX7_forced_89 ⟨by decide, by decide, by decide, by decide +kernel⟩ q2361 q2363 qs93 q177 q2364) vnil) (hok0 rfl) (by decide) 92 rfl ?_
  refine oc_if dX7_forced_92 ⟨by decide, by decide⟩ 95 rfl ?_
  refine oc (y := mt_324) (pc := 95) (ok_aload_n dX7_forced_95) 96 rfl ?_
  refine oc_V (y := mt_324) (pc := 96) (vcons (y := mt_324) (pc := 96) (len := 3) (n := 1) (M := mt_326) (by decide) rfl (Or.inr rfl) rfl (ck_V dX7_forced_96 ⟨by decide, by decide, by decide, by decide +kernel⟩ q2547 q2549 qs125 q177 q2550) vnil) (hok0 rfl) (by decide) 99 rfl ?_
  refine oc_if dX7_forced_99 ⟨by decide, by decide⟩ 102 rfl ?_
  refine oc (y := mt_324) (pc := 102) (ok_iconst dX7_forced_102 rfl ⟨by decide, by decide⟩) 103 rfl ?_
  exact oc_goto dX7_forced_103 ⟨by decide, by decide⟩
theorem o_324_106 : okL gmt mt_324 106 b_324_106 := by
  refine oc (y := mt_324) (pc := 106) (ok_iconst dX7_forced_106 rfl ⟨by decide, by decide⟩) 107 rfl ?_
  exact oc_fall rfl
theorem o_324_107 : okL gmt mt_324 107 b_324_107 := by
  refine oc (y := mt_324) (pc := 107) (ok_istore_n dX7_forced_107 (by decide)) 108 rfl ?_
  refine oc (y := mt_324) (pc := 108) (ok_aload_n dX7_forced_108) 109 rfl ?_
  refine oc (y := mt_324) (pc := 109) (ok_iconst dX7_forced_109 rfl ⟨by decide, by decide⟩) 110 rfl ?_
  refine oc_V (y := mt_324) (pc := 110) (vcons (y := mt_324) (pc := 110) (len := 3) (n := 2) (M := mt_311) (by decide) rfl (Or.inr rfl) rfl (ck_V dX7_forced_110 ⟨by decide, by decide, by decide, by decide +kernel⟩ q2486 q2488 qs115 q177 q2489) vnil) (hok0 rfl) (by decide) 113 rfl ?_
  exact oc_fall rfl
theorem o_324_113 : okL gmt mt_324 113 b_324_113 := by
  refine oc (y := mt_324) (pc := 113) (ok_iinc dX7_forced_113 (by decide)) 116 rfl ?_
  exact oc_goto dX7_forced_116 ⟨by decide, by decide⟩
theorem o_324_119 : okL gmt mt_324 119 b_324_119 := by
  refine oc (y := mt_324) (pc := 119) (ok_iinc dX7_forced_119 (by decide)) 122 rfl ?_
  exact oc_goto dX7_forced_122 ⟨by decide, by decide⟩
theorem o_324_125 : okL gmt mt_324 125 b_324_125 := by
  refine oc (y := mt_324) (pc := 125) (ok_iload_n dX7_forced_125) 126 rfl ?_
  refine oc_if dX7_forced_126 ⟨by decide, by decide⟩ 129 rfl ?_
  refine oc (y := mt_324) (pc := 129) (ok_iconst dX7_forced_129 rfl ⟨by decide, by decide⟩) 130 rfl ?_
  exact oc_goto dX7_forced_130 ⟨by decide, by decide⟩
theorem o_324_133 : okL gmt mt_324 133 b_324_133 := by
  refine oc (y := mt_324) (pc := 133) (ok_iconst dX7_forced_133 rfl ⟨by decide, by decide⟩) 134 rfl ?_
  exact oc_fall rfl
theorem o_324_134 : okL gmt mt_324 134 b_324_134 := by
  exact oc_iret dX7_forced_134 rfl
theorem ok_324 : ∀ q ∈ pr_324, okL gmt mt_324 q.1 q.2 := pk_c o_324_0 (pk_c o_324_14 (pk_c o_324_16 (pk_c o_324_25 (pk_c o_324_29 (pk_c o_324_43 (pk_c o_324_81 (pk_c o_324_106 (pk_c o_324_107 (pk_c o_324_113 (pk_c o_324_119 (pk_c o_324_125 (pk_c o_324_133 (pk_c o_324_134 (pk_n))))))))))))))
theorem o_325_0 : okL gmt mt_325 0 b_325_0 := by
  refine oc (y := mt_325) (pc := 0) (ok_aload_n dX7_takesCrown_0) 1 rfl ?_
  refine oc (y := mt_325) (pc := 1) (ok_iconst dX7_takesCrown_1 rfl ⟨by decide, by decide⟩) 2 rfl ?_
  refine oc (y := mt_325) (pc := 2) (ok_aload_n dX7_takesCrown_2) 3 rfl ?_
  refine oc (y := mt_325) (pc := 3) (ok_getfield dX7_takesCrown_3 (fg (own := "GardenChessModel") (idx := 154) (g := 9) (k := 62) (r := (RX7, TX7, 122)) rfl ⟨⟨by decide, by decide⟩, by decide⟩ (Or.inl q1874) (Or.inl rfl) rfl (fg_nil))) 6 rfl ?_
  refine oc (y := mt_325) (pc := 6) (ok_iconst dX7_takesCrown_6 rfl ⟨by decide, by decide⟩) 7 rfl ?_
  refine oc (y := mt_325) (pc := 7) (ok_iaload dX7_takesCrown_7) 8 rfl ?_
  refine oc (y := mt_325) (pc := 8) (ok_isub dX7_takesCrown_8) 9 rfl ?_
  refine oc_V (y := mt_325) (pc := 9) (vcons (y := mt_325) (pc := 9) (len := 3) (n := 2) (M := mt_310) (by decide) rfl (Or.inr rfl) rfl (ck_V dX7_takesCrown_9 ⟨by decide, by decide, by decide, by decide +kernel⟩ q2482 q2484 qs114 q177 q2485) vnil) (hok0 rfl) (by decide) 12 rfl ?_
  exact oc_zret dX7_takesCrown_12 rfl
theorem ok_325 : ∀ q ∈ pr_325, okL gmt mt_325 q.1 q.2 := pk_c o_325_0 (pk_n)
theorem o_326_0 : okL gmt mt_326 0 b_326_0 := by
  refine oc (y := mt_326) (pc := 0) (ok_iconst dX7_isForcedNow_0 rfl ⟨by decide, by decide⟩) 1 rfl ?_
  refine oc (y := mt_326) (pc := 1) (ok_istore_n dX7_isForcedNow_1 (by decide)) 2 rfl ?_
  refine oc (y := mt_326) (pc := 2) (ok_iconst dX7_isForcedNow_2 rfl ⟨by decide, by decide⟩) 3 rfl ?_
  refine oc (y := mt_326) (pc := 3) (ok_istore_n dX7_isForcedNow_3 (by decide)) 4 rfl ?_
  exact oc_fall rfl
theorem o_326_4 : okL gmt mt_326 4 b_326_4 := by
  refine oc (y := mt_326) (pc := 4) (ok_iload_n dX7_isForcedNow_4) 5 rfl ?_
  refine oc (y := mt_326) (pc := 5) (ok_aload_n dX7_isForcedNow_5) 6 rfl ?_
  refine oc_V (y := mt_326) (pc := 6) (vcons (y := mt_326) (pc := 6) (len := 3) (n := 1) (M := mt_281) (by decide) rfl (Or.inr rfl) rfl (ck_V dX7_isForcedNow_6 ⟨by decide, by decide, by decide, by decide +kernel⟩ q2365 q2367 qs94 q177 q2368) vnil) (hok0 rfl) (by decide) 9 rfl ?_
  refine oc_icmp dX7_isForcedNow_9 ⟨by decide, by decide⟩ 12 rfl ?_
  refine oc (y := mt_326) (pc := 12) (ok_iconst dX7_isForcedNow_12 rfl ⟨by decide, by decide⟩) 13 rfl ?_
  refine oc (y := mt_326) (pc := 13) (ok_istore_n dX7_isForcedNow_13 (by decide)) 14 rfl ?_
  exact oc_fall rfl
theorem o_326_14 : okL gmt mt_326 14 b_326_14 := by
  refine oc (y := mt_326) (pc := 14) (ok_iload_n dX7_isForcedNow_14) 15 rfl ?_
  refine oc (y := mt_326) (pc := 15) (ok_aload_n dX7_isForcedNow_15) 16 rfl ?_
  refine oc_V (y := mt_326) (pc := 16) (vcons (y := mt_326) (pc := 16) (len := 3) (n := 1) (M := mt_289) (by decide) rfl (Or.inr rfl) rfl (ck_V dX7_isForcedNow_16 ⟨by decide, by decide, by decide, by decide +kernel⟩ q2397 q2399 qs102 q177 q2400) vnil) (hok0 rfl) (by decide) 19 rfl ?_
  refine oc_icmp dX7_isForcedNow_19 ⟨by decide, by decide⟩ 22 rfl ?_
  refine oc (y := mt_326) (pc := 22) (ok_aload_n dX7_isForcedNow_22) 23 rfl ?_
  refine oc (y := mt_326) (pc := 23) (ok_iload_n dX7_isForcedNow_23) 24 rfl ?_
  refine oc_V (y := mt_326) (pc := 24) (vcons (y := mt_326) (pc := 24) (len := 3) (n := 2) (M := mt_287) (by decide) rfl (Or.inr rfl) rfl (ck_V dX7_isForcedNow_24 ⟨by decide, by decide, by decide, by decide +kernel⟩ q2389 q2391 qs100 q177 q2392) vnil) (hok0 rfl) (by decide) 27 rfl ?_
  refine oc (y := mt_326) (pc := 27) (ok_aload_n dX7_isForcedNow_27) 28 rfl ?_
  refine oc (y := mt_326) (pc := 28) (ok_getfield dX7_isForcedNow_28 (fg (own := "GardenChessModel") (idx := 154) (g := 9) (k := 62) (r := (RX7, TX7, 122)) rfl ⟨⟨by decide, by decide⟩, by decide⟩ (Or.inl q1874) (Or.inl rfl) rfl (fg_nil))) 31 rfl ?_
  refine oc (y := mt_326) (pc := 31) (ok_iconst dX7_isForcedNow_31 rfl ⟨by decide, by decide⟩) 32 rfl ?_
  refine oc (y := mt_326) (pc := 32) (ok_iaload dX7_isForcedNow_32) 33 rfl ?_
  refine oc_icmp dX7_isForcedNow_33 ⟨by decide, by decide⟩ 36 rfl ?_
  refine oc (y := mt_326) (pc := 36) (ok_aload_n dX7_isForcedNow_36) 37 rfl ?_
  refine oc (y := mt_326) (pc := 37) (ok_iload_n dX7_isForcedNow_37) 38 rfl ?_
  refine oc (y := mt_326) (pc := 38) (ok_iload_n dX7_isForcedNow_38) 39 rfl ?_
  refine oc_V (y := mt_326) (pc := 39) (vcons (y := mt_326) (pc := 39) (len := 3) (n := 3) (M := mt_290) (by decide) rfl (Or.inr rfl) rfl (ck_V dX7_isForcedNow_39 ⟨by decide, by decide, by decide, by decide +kernel⟩ q2401 q2403 qs103 q177 q2404) vnil) (hok0 rfl) (by decide) 42 rfl ?_
  refine oc_if dX7_isForcedNow_42 ⟨by decide, by decide⟩ 45 rfl ?_
  exact oc_goto dX7_isForcedNow_45 ⟨by decide, by decide⟩
theorem o_326_48 : okL gmt mt_326 48 b_326_48 := by
  refine oc (y := mt_326) (pc := 48) (ok_iconst dX7_isForcedNow_48 rfl ⟨by decide, by decide⟩) 49 rfl ?_
  refine oc (y := mt_326) (pc := 49) (ok_istore_n dX7_isForcedNow_49 (by decide)) 50 rfl ?_
  refine oc (y := mt_326) (pc := 50) (ok_aload_n dX7_isForcedNow_50) 51 rfl ?_
  refine oc (y := mt_326) (pc := 51) (ok_iconst dX7_isForcedNow_51 rfl ⟨by decide, by decide⟩) 52 rfl ?_
  refine oc (y := mt_326) (pc := 52) (ok_iload_n dX7_isForcedNow_52) 53 rfl ?_
  refine oc (y := mt_326) (pc := 53) (ok_iload_n dX7_isForcedNow_53) 54 rfl ?_
  refine oc_V (y := mt_326) (pc := 54) (vcons (y := mt_326) (pc := 54) (len := 3) (n := 4) (M := mt_309) (by decide) rfl (Or.inr rfl) rfl (ck_V dX7_isForcedNow_54 ⟨by decide, by decide, by decide, by decide +kernel⟩ q2478 q2480 qs113 q177 q2481) vnil) (hok0 rfl) (by decide) 57 rfl ?_
  refine oc (y := mt_326) (pc := 57) (ok_aload_n dX7_isForcedNow_57) 58 rfl ?_
  refine oc_V (y := mt_326) (pc := 58) (vcons (y := mt_326) (pc := 58) (len := 3) (n := 1) (M := mt_280) (by decide) rfl (Or.inr rfl) rfl (ck_V dX7_isForcedNow_58 ⟨by decide, by decide, by decide, by decide +kernel⟩ q2361 q2363 qs93 q177 q2364) vnil) (hok0 rfl) (by decide) 61 rfl ?_
  refine oc_if dX7_isForcedNow_61 ⟨by decide, by decide⟩ 64 rfl ?_
  refine oc (y := mt_326) (pc := 64) (ok_aload_n dX7_isForcedNow_64) 65 rfl ?_
  refine oc_V (y := mt_326) (pc := 65) (vcons (y := mt_326) (pc := 65) (len := 3) (n := 1) (M := mt_325) (by decide) rfl (Or.inr rfl) rfl (ck_V dX7_isForcedNow_65 ⟨by decide, by decide, by decide, by decide +kernel⟩ q2543 q2545 qs124 q177 q2546) vnil) (hok0 rfl) (by decide) 68 rfl ?_
  refine oc_if dX7_isForcedNow_68 ⟨by decide, by decide⟩ 71 rfl ?_
  refine oc (y := mt_326) (pc := 71) (ok_iconst dX7_isForcedNow_71 rfl ⟨by decide, by decide⟩) 72 rfl ?_
  exact oc_goto dX7_isForcedNow_72 ⟨by decide, by decide⟩
theorem o_326_75 : okL gmt mt_326 75 b_326_75 := by
  refine oc (y := mt_326) (pc := 75) (ok_iconst dX7_isForcedNow_75 rfl ⟨by decide, by decide⟩) 76 rfl ?_
  exact oc_fall rfl
theorem o_326_76 : okL gmt mt_326 76 b_326_76 := by
  refine oc (y := mt_326) (pc := 76) (ok_istore dX7_isForcedNow_76 (by decide)) 78 rfl ?_
  refine oc (y := mt_326) (pc := 78) (ok_aload_n dX7_isForcedNow_78) 79 rfl ?_
  refine oc (y := mt_326) (pc := 79) (ok_iconst dX7_isForcedNow_79 rfl ⟨by decide, by decide⟩) 80 rfl ?_
  refine oc_V (y := mt_326) (pc := 80) (vcons (y := mt_326) (pc := 80) (len := 3) (n := 2) (M := mt_311) (by decide) rfl (Or.inr rfl) rfl (ck_V dX7_isForcedNow_80 ⟨by decide, by decide, by decide, by decide +kernel⟩ q2486 q2488 qs115 q177 q2489) vnil) (hok0 rfl) (by decide) 83 rfl ?_
  refine oc (y := mt_326) (pc := 83) (ok_iload dX7_isForcedNow_83) 85 rfl ?_
  refine oc_if dX7_isForcedNow_85 ⟨by decide, by decide⟩ 88 rfl ?_
  refine oc (y := mt_326) (pc := 88) (ok_iconst dX7_isForcedNow_88 rfl ⟨by decide, by decide⟩) 89 rfl ?_
  exact oc_zret dX7_isForcedNow_89 rfl
theorem o_326_90 : okL gmt mt_326 90 b_326_90 := by
  refine oc (y := mt_326) (pc := 90) (ok_iinc dX7_isForcedNow_90 (by decide)) 93 rfl ?_
  exact oc_goto dX7_isForcedNow_93 ⟨by decide, by decide⟩
theorem o_326_96 : okL gmt mt_326 96 b_326_96 := by
  refine oc (y := mt_326) (pc := 96) (ok_iinc dX7_isForcedNow_96 (by decide)) 99 rfl ?_
  exact oc_goto dX7_isForcedNow_99 ⟨by decide, by decide⟩
theorem o_326_102 : okL gmt mt_326 102 b_326_102 := by
  refine oc (y := mt_326) (pc := 102) (ok_iload_n dX7_isForcedNow_102) 103 rfl ?_
  exact oc_zret dX7_isForcedNow_103 rfl
theorem ok_326 : ∀ q ∈ pr_326, okL gmt mt_326 q.1 q.2 := pk_c o_326_0 (pk_c o_326_4 (pk_c o_326_14 (pk_c o_326_48 (pk_c o_326_75 (pk_c o_326_76 (pk_c o_326_90 (pk_c o_326_96 (pk_c o_326_102 (pk_n)))))))))
theorem o_327_0 : okL gmt mt_327 0 b_327_0 := by
  refine oc (y := mt_327) (pc := 0) (ok_aload_n dX7_later_0) 1 rfl ?_
  refine oc (y := mt_327) (pc := 1) (ok_iload_n dX7_later_1) 2 rfl ?_
  refine oc (y := mt_327) (pc := 2) (ok_iconst dX7_later_2 rfl ⟨by decide, by decide⟩) 3 rfl ?_
  refine oc (y := mt_327) (pc := 3) (ok_bipush dX7_later_3 (by decide) ⟨by decide, by decide⟩) 5 rfl ?_
  refine oc_V (y := mt_327) (pc := 5) (vcons (y := mt_327) (pc := 5) (len := 3) (n := 4) (M := mt_328) (by decide) rfl (Or.inr rfl) rfl (ck_V dX7_later_5 ⟨by decide, by decide, by decide, by decide +kernel⟩ q2555 q2557 qs126 q177 q2558) vnil) (hok0 rfl) (by decide) 8 rfl ?_
  refine oc_if dX7_later_8 ⟨by decide, by decide⟩ 11 rfl ?_
  refine oc (y := mt_327) (pc := 11) (ok_iload_n dX7_later_11) 12 rfl ?_
  refine oc (y := mt_327) (pc := 12) (ok_i2l dX7_later_12) 13 rfl ?_
  refine oc (y := mt_327) (pc := 13) (ok_lconst dX7_later_13 (by decide) ⟨by decide, by decide⟩) 14 rfl ?_
  refine oc (y := mt_327) (pc := 14) (ok_ldc2 dX7_later_14 ⟨by decide, by decide⟩ (show Cond.constantLong _ _ (Int64.ofInt 3) ∈ lw_all from q2448)) 17 rfl ?_
  refine oc_S (y := mt_327) (pc := 17) (M := mt_246) rfl (ck_S dX7_later_17 ⟨by decide, by decide, by decide, by decide +kernel⟩ q2225 q2226 q177 q2227) (hok0 rfl) (by decide) 20 rfl ?_
  refine oc_if dX7_later_20 ⟨by decide, by decide⟩ 23 rfl ?_
  exact oc_fall rfl
theorem o_327_23 : okL gmt mt_327 23 b_327_23 := by
  refine oc (y := mt_327) (pc := 23) (ok_iconst dX7_later_23 rfl ⟨by decide, by decide⟩) 24 rfl ?_
  exact oc_iret dX7_later_24 rfl
theorem o_327_25 : okL gmt mt_327 25 b_327_25 := by
  refine oc (y := mt_327) (pc := 25) (ok_aload_n dX7_later_25) 26 rfl ?_
  refine oc_V (y := mt_327) (pc := 26) (vcons (y := mt_327) (pc := 26) (len := 3) (n := 1) (M := mt_329) (by decide) rfl (Or.inr rfl) rfl (ck_V dX7_later_26 ⟨by decide, by decide, by decide, by decide +kernel⟩ q2559 q2561 qs127 q177 q2562) vnil) (hok0 rfl) (by decide) 29 rfl ?_
  refine oc (y := mt_327) (pc := 29) (ok_aload_n dX7_later_29) 30 rfl ?_
  refine oc (y := mt_327) (pc := 30) (ok_iload_n dX7_later_30) 31 rfl ?_
  refine oc_V (y := mt_327) (pc := 31) (vcons (y := mt_327) (pc := 31) (len := 3) (n := 2) (M := mt_330) (by decide) rfl (Or.inr rfl) rfl (ck_V dX7_later_31 ⟨by decide, by decide, by decide, by decide +kernel⟩ q2563 q2565 qs128 q177 q2566) vnil) (hok0 rfl) (by decide) 34 rfl ?_
  refine oc (y := mt_327) (pc := 34) (ok_iload_n dX7_later_34) 35 rfl ?_
  refine oc (y := mt_327) (pc := 35) (ok_iconst dX7_later_35 rfl ⟨by decide, by decide⟩) 36 rfl ?_
  refine oc_icmp dX7_later_36 ⟨by decide, by decide⟩ 39 rfl ?_
  refine oc (y := mt_327) (pc := 39) (ok_aload_n dX7_later_39) 40 rfl ?_
  refine oc (y := mt_327) (pc := 40) (ok_iload_n dX7_later_40) 41 rfl ?_
  refine oc_V (y := mt_327) (pc := 41) (vcons (y := mt_327) (pc := 41) (len := 3) (n := 2) (M := mt_297) (by decide) rfl (Or.inr rfl) rfl (ck_V dX7_later_41 ⟨by decide, by decide, by decide, by decide +kernel⟩ q2426 q2428 qs107 q177 q2429) vnil) (hok0 rfl) (by decide) 44 rfl ?_
  exact oc_goto dX7_later_44 ⟨by decide, by decide⟩
theorem o_327_47 : okL gmt mt_327 47 b_327_47 := by
  refine oc (y := mt_327) (pc := 47) (ok_iload_n dX7_later_47) 48 rfl ?_
  refine oc (y := mt_327) (pc := 48) (ok_iconst dX7_later_48 rfl ⟨by decide, by decide⟩) 49 rfl ?_
  refine oc_icmp dX7_later_49 ⟨by decide, by decide⟩ 52 rfl ?_
  refine oc (y := mt_327) (pc := 52) (ok_aload_n dX7_later_52) 53 rfl ?_
  refine oc_V (y := mt_327) (pc := 53) (vcons (y := mt_327) (pc := 53) (len := 3) (n := 1) (M := mt_298) (by decide) rfl (Or.inr rfl) rfl (ck_V dX7_later_53 ⟨by decide, by decide, by decide, by decide +kernel⟩ q2430 q2432 qs108 q177 q2433) vnil) (hok0 rfl) (by decide) 56 rfl ?_
  exact oc_goto dX7_later_56 ⟨by decide, by decide⟩
theorem o_327_59 : okL gmt mt_327 59 b_327_59 := by
  refine oc (y := mt_327) (pc := 59) (ok_aload_n dX7_later_59) 60 rfl ?_
  refine oc_V (y := mt_327) (pc := 60) (vcons (y := mt_327) (pc := 60) (len := 3) (n := 1) (M := mt_279) (by decide) rfl (Or.inr rfl) rfl (ck_V dX7_later_60 ⟨by decide, by decide, by decide, by decide +kernel⟩ q2357 q2359 qs92 q177 q2360) vnil) (hok0 rfl) (by decide) 63 rfl ?_
  refine oc_if dX7_later_63 ⟨by decide, by decide⟩ 66 rfl ?_
  refine oc (y := mt_327) (pc := 66) (ok_iconst dX7_later_66 rfl ⟨by decide, by decide⟩) 67 rfl ?_
  exact oc_goto dX7_later_67 ⟨by decide, by decide⟩
theorem o_327_70 : okL gmt mt_327 70 b_327_70 := by
  refine oc (y := mt_327) (pc := 70) (ok_iconst dX7_later_70 rfl ⟨by decide, by decide⟩) 71 rfl ?_
  exact oc_fall rfl
theorem o_327_71 : okL gmt mt_327 71 b_327_71 := by
  refine oc (y := mt_327) (pc := 71) (ok_istore_n dX7_later_71 (by decide)) 72 rfl ?_
  refine oc (y := mt_327) (pc := 72) (ok_aload_n dX7_later_72) 73 rfl ?_
  refine oc_V (y := mt_327) (pc := 73) (vcons (y := mt_327) (pc := 73) (len := 3) (n := 1) (M := mt_341) (by decide) rfl (Or.inr rfl) rfl (ck_V dX7_later_73 ⟨by decide, by decide, by decide, by decide +kernel⟩ q2607 q2609 qs137 q177 q2610) vnil) (hok0 rfl) (by decide) 76 rfl ?_
  refine oc (y := mt_327) (pc := 76) (ok_iload_n dX7_later_76) 77 rfl ?_
  exact oc_iret dX7_later_77 rfl
theorem ok_327 : ∀ q ∈ pr_327, okL gmt mt_327 q.1 q.2 := pk_c o_327_0 (pk_c o_327_23 (pk_c o_327_25 (pk_c o_327_47 (pk_c o_327_59 (pk_c o_327_70 (pk_c o_327_71 (pk_n)))))))
theorem o_328_0 : okL gmt mt_328 0 b_328_0 := by
  refine oc (y := mt_328) (pc := 0) (ok_aload_n dX7_isAhead_0) 1 rfl ?_
  refine oc (y := mt_328) (pc := 1) (ok_getfield dX7_isAhead_1 (fg (own := "GardenChessModel") (idx := 424) (g := 9) (k := 58) (r := (RX7, TX7, 122)) rfl ⟨⟨by decide, by decide⟩, by decide⟩ (Or.inl q1870) (Or.inl rfl) rfl (fg_nil))) 4 rfl ?_
  refine oc_if dX7_isAhead_4 ⟨by decide, by decide⟩ 7 rfl ?_
  refine oc (y := mt_328) (pc := 7) (ok_iload_n dX7_isAhead_7) 8 rfl ?_
  refine oc (y := mt_328) (pc := 8) (ok_i2l dX7_isAhead_8) 9 rfl ?_
  refine oc (y := mt_328) (pc := 9) (ok_iload_n dX7_isAhead_9) 10 rfl ?_
  refine oc (y := mt_328) (pc := 10) (ok_i2l dX7_isAhead_10) 11 rfl ?_
  refine oc (y := mt_328) (pc := 11) (ok_iload_n dX7_isAhead_11) 12 rfl ?_
  refine oc (y := mt_328) (pc := 12) (ok_i2l dX7_isAhead_12) 13 rfl ?_
  refine oc_S (y := mt_328) (pc := 13) (M := mt_246) rfl (ck_S dX7_isAhead_13 ⟨by decide, by decide, by decide, by decide +kernel⟩ q2225 q2226 q177 q2227) (hok0 rfl) (by decide) 16 rfl ?_
  refine oc_if dX7_isAhead_16 ⟨by decide, by decide⟩ 19 rfl ?_
  refine oc (y := mt_328) (pc := 19) (ok_aload_n dX7_isAhead_19) 20 rfl ?_
  refine oc (y := mt_328) (pc := 20) (ok_getfield dX7_isAhead_20 (fg (own := "GardenChessModel") (idx := 154) (g := 9) (k := 62) (r := (RX7, TX7, 122)) rfl ⟨⟨by decide, by decide⟩, by decide⟩ (Or.inl q1874) (Or.inl rfl) rfl (fg_nil))) 23 rfl ?_
  refine oc (y := mt_328) (pc := 23) (ok_iconst dX7_isAhead_23 rfl ⟨by decide, by decide⟩) 24 rfl ?_
  refine oc (y := mt_328) (pc := 24) (ok_iaload dX7_isAhead_24) 25 rfl ?_
  refine oc (y := mt_328) (pc := 25) (ok_iload_n dX7_isAhead_25) 26 rfl ?_
  refine oc (y := mt_328) (pc := 26) (ok_iadd dX7_isAhead_26) 27 rfl ?_
  refine oc (y := mt_328) (pc := 27) (ok_sipush dX7_isAhead_27 (by decide) ⟨by decide, by decide⟩) 30 rfl ?_
  refine oc_icmp dX7_isAhead_30 ⟨by decide, by decide⟩ 33 rfl ?_
  refine oc (y := mt_328) (pc := 33) (ok_iconst dX7_isAhead_33 rfl ⟨by decide, by decide⟩) 34 rfl ?_
  exact oc_goto dX7_isAhead_34 ⟨by decide, by decide⟩
theorem o_328_37 : okL gmt mt_328 37 b_328_37 := by
  refine oc (y := mt_328) (pc := 37) (ok_iconst dX7_isAhead_37 rfl ⟨by decide, by decide⟩) 38 rfl ?_
  exact oc_fall rfl
theorem o_328_38 : okL gmt mt_328 38 b_328_38 := by
  exact oc_zret dX7_isAhead_38 rfl
theorem ok_328 : ∀ q ∈ pr_328, okL gmt mt_328 q.1 q.2 := pk_c o_328_0 (pk_c o_328_37 (pk_c o_328_38 (pk_n)))
theorem o_329_0 : okL gmt mt_329 0 b_329_0 := by
  refine oc (y := mt_329) (pc := 0) (ok_aload_n dX7_putsAside_0) 1 rfl ?_
  refine oc (y := mt_329) (pc := 1) (ok_iconst dX7_putsAside_1 rfl ⟨by decide, by decide⟩) 2 rfl ?_
  refine oc (y := mt_329) (pc := 2) (ok_putfield dX7_putsAside_2 (fp (own := "GardenChessModel") (idx := 547) (g := 9) (k := 75) (r := (RX7, TX7, 122)) rfl ⟨⟨by decide, by decide⟩, by decide⟩ (Or.inl q1887) (Or.inl rfl) rfl (Or.inl rfl) (fp_nil))) 5 rfl ?_
  refine oc (y := mt_329) (pc := 5) (ok_iconst dX7_putsAside_5 rfl ⟨by decide, by decide⟩) 6 rfl ?_
  refine oc (y := mt_329) (pc := 6) (ok_istore_n dX7_putsAside_6 (by decide)) 7 rfl ?_
  exact oc_fall rfl
theorem o_329_7 : okL gmt mt_329 7 b_329_7 := by
  refine oc (y := mt_329) (pc := 7) (ok_iload_n dX7_putsAside_7) 8 rfl ?_
  refine oc (y := mt_329) (pc := 8) (ok_bipush dX7_putsAside_8 (by decide) ⟨by decide, by decide⟩) 10 rfl ?_
  refine oc_icmp dX7_putsAside_10 ⟨by decide, by decide⟩ 13 rfl ?_
  refine oc (y := mt_329) (pc := 13) (ok_aload_n dX7_putsAside_13) 14 rfl ?_
  refine oc (y := mt_329) (pc := 14) (ok_getfield dX7_putsAside_14 (fg (own := "GardenChessModel") (idx := 157) (g := 9) (k := 63) (r := (RX7, TX7, 122)) rfl ⟨⟨by decide, by decide⟩, by decide⟩ (Or.inl q1875) (Or.inl rfl) rfl (fg_nil))) 17 rfl ?_
  refine oc (y := mt_329) (pc := 17) (ok_iload_n dX7_putsAside_17) 18 rfl ?_
  refine oc (y := mt_329) (pc := 18) (ok_aload_n dX7_putsAside_18) 19 rfl ?_
  refine oc (y := mt_329) (pc := 19) (ok_getfield dX7_putsAside_19 (fg (own := "GardenChessModel") (idx := 154) (g := 9) (k := 62) (r := (RX7, TX7, 122)) rfl ⟨⟨by decide, by decide⟩, by decide⟩ (Or.inl q1874) (Or.inl rfl) rfl (fg_nil))) 22 rfl ?_
  refine oc (y := mt_329) (pc := 22) (ok_iload_n dX7_putsAside_22) 23 rfl ?_
  refine oc (y := mt_329) (pc := 23) (ok_iaload dX7_putsAside_23) 24 rfl ?_
  refine oc (y := mt_329) (pc := 24) (ok_iastore dX7_putsAside_24) 25 rfl ?_
  refine oc (y := mt_329) (pc := 25) (ok_iinc dX7_putsAside_25 (by decide)) 28 rfl ?_
  exact oc_goto dX7_putsAside_28 ⟨by decide, by decide⟩
theorem o_329_31 : okL gmt mt_329 31 b_329_31 := by
  exact oc_ret dX7_putsAside_31 rfl
theorem ok_329 : ∀ q ∈ pr_329, okL gmt mt_329 q.1 q.2 := pk_c o_329_0 (pk_c o_329_7 (pk_c o_329_31 (pk_n)))
theorem o_330_0 : okL gmt mt_330 0 b_330_0 := by
  refine oc (y := mt_330) (pc := 0) (ok_iconst dX7_daysGo_0 rfl ⟨by decide, by decide⟩) 1 rfl ?_
  refine oc (y := mt_330) (pc := 1) (ok_istore_n dX7_daysGo_1 (by decide)) 2 rfl ?_
  exact oc_fall rfl
theorem o_330_2 : okL gmt mt_330 2 b_330_2 := by
  refine oc (y := mt_330) (pc := 2) (ok_iload_n dX7_daysGo_2) 3 rfl ?_
  refine oc (y := mt_330) (pc := 3) (ok_iload_n dX7_daysGo_3) 4 rfl ?_
  refine oc_icmp dX7_daysGo_4 ⟨by decide, by decide⟩ 7 rfl ?_
  refine oc (y := mt_330) (pc := 7) (ok_aload_n dX7_daysGo_7) 8 rfl ?_
  refine oc_V (y := mt_330) (pc := 8) (vcons (y := mt_330) (pc := 8) (len := 3) (n := 1) (M := mt_331) (by decide) rfl (Or.inr rfl) rfl (ck_V dX7_daysGo_8 ⟨by decide, by decide, by decide, by decide +kernel⟩ q2567 q2569 qs129 q177 q2570) vnil) (hok0 rfl) (by decide) 11 rfl ?_
  refine oc (y := mt_330) (pc := 11) (ok_aload_n dX7_daysGo_11) 12 rfl ?_
  refine oc_V (y := mt_330) (pc := 12) (vcons (y := mt_330) (pc := 12) (len := 3) (n := 1) (M := mt_332) (by decide) rfl (Or.inr rfl) rfl (ck_V dX7_daysGo_12 ⟨by decide, by decide, by decide, by decide +kernel⟩ q2571 q2573 qs130 q177 q2574) vnil) (hok0 rfl) (by decide) 15 rfl ?_
  refine oc (y := mt_330) (pc := 15) (ok_iinc dX7_daysGo_15 (by decide)) 18 rfl ?_
  exact oc_goto dX7_daysGo_18 ⟨by decide, by decide⟩
theorem o_330_21 : okL gmt mt_330 21 b_330_21 := by
  exact oc_ret dX7_daysGo_21 rfl
theorem ok_330 : ∀ q ∈ pr_330, okL gmt mt_330 q.1 q.2 := pk_c o_330_0 (pk_c o_330_2 (pk_c o_330_21 (pk_n)))
theorem o_331_0 : okL gmt mt_331 0 b_331_0 := by
  refine oc (y := mt_331) (pc := 0) (ok_aload_n dX7_choosesToday_0) 1 rfl ?_
  refine oc (y := mt_331) (pc := 1) (ok_aload_n dX7_choosesToday_1) 2 rfl ?_
  refine oc (y := mt_331) (pc := 2) (ok_getfield dX7_choosesToday_2 (fg (own := "GardenChessModel") (idx := 154) (g := 9) (k := 62) (r := (RX7, TX7, 122)) rfl ⟨⟨by decide, by decide⟩, by decide⟩ (Or.inl q1874) (Or.inl rfl) rfl (fg_nil))) 5 rfl ?_
  refine oc (y := mt_331) (pc := 5) (ok_iconst dX7_choosesToday_5 rfl ⟨by decide, by decide⟩) 6 rfl ?_
  refine oc (y := mt_331) (pc := 6) (ok_iaload dX7_choosesToday_6) 7 rfl ?_
  refine oc (y := mt_331) (pc := 7) (ok_aload_n dX7_choosesToday_7) 8 rfl ?_
  refine oc (y := mt_331) (pc := 8) (ok_getfield dX7_choosesToday_8 (fg (own := "GardenChessModel") (idx := 178) (g := 9) (k := 78) (r := (RX7, TX7, 122)) rfl ⟨⟨by decide, by decide⟩, by decide⟩ (Or.inl q1890) (Or.inl rfl) rfl (fg_nil))) 11 rfl ?_
  refine oc_icmp dX7_choosesToday_11 ⟨by decide, by decide⟩ 14 rfl ?_
  refine oc (y := mt_331) (pc := 14) (ok_aload_n dX7_choosesToday_14) 15 rfl ?_
  refine oc (y := mt_331) (pc := 15) (ok_getfield dX7_choosesToday_15 (fg (own := "GardenChessModel") (idx := 569) (g := 9) (k := 79) (r := (RX7, TX7, 122)) rfl ⟨⟨by decide, by decide⟩, by decide⟩ (Or.inl q1891) (Or.inl rfl) rfl (fg_nil))) 18 rfl ?_
  exact oc_goto dX7_choosesToday_18 ⟨by decide, by decide⟩
theorem o_331_21 : okL gmt mt_331 21 b_331_21 := by
  refine oc (y := mt_331) (pc := 21) (ok_aload_n dX7_choosesToday_21) 22 rfl ?_
  refine oc (y := mt_331) (pc := 22) (ok_getfield dX7_choosesToday_22 (fg (own := "GardenChessModel") (idx := 127) (g := 9) (k := 47) (r := (RX7, TX7, 122)) rfl ⟨⟨by decide, by decide⟩, by decide⟩ (Or.inl q1859) (Or.inl rfl) rfl (fg_nil))) 25 rfl ?_
  refine oc (y := mt_331) (pc := 25) (ok_bipush dX7_choosesToday_25 (by decide) ⟨by decide, by decide⟩) 27 rfl ?_
  refine oc (y := mt_331) (pc := 27) (ok_aload_n dX7_choosesToday_27) 28 rfl ?_
  refine oc (y := mt_331) (pc := 28) (ok_getfield dX7_choosesToday_28 (fg (own := "GardenChessModel") (idx := 154) (g := 9) (k := 62) (r := (RX7, TX7, 122)) rfl ⟨⟨by decide, by decide⟩, by decide⟩ (Or.inl q1874) (Or.inl rfl) rfl (fg_nil))) 31 rfl ?_
  refine oc (y := mt_331) (pc := 31) (ok_iconst dX7_choosesToday_31 rfl ⟨by decide, by decide⟩) 32 rfl ?_
  refine oc (y := mt_331) (pc := 32) (ok_iaload dX7_choosesToday_32) 33 rfl ?_
  refine oc (y := mt_331) (pc := 33) (ok_iadd dX7_choosesToday_33) 34 rfl ?_
  refine oc (y := mt_331) (pc := 34) (ok_iaload dX7_choosesToday_34) 35 rfl ?_
  exact oc_fall rfl
theorem o_331_35 : okL gmt mt_331 35 b_331_35 := by
  refine oc_V (y := mt_331) (pc := 35) (vcons (y := mt_331) (pc := 35) (len := 3) (n := 2) (M := mt_323) (by decide) rfl (Or.inr rfl) rfl (ck_V dX7_choosesToday_35 ⟨by decide, by decide, by decide, by decide +kernel⟩ q2535 q2537 qs123 q177 q2538) vnil) (hok0 rfl) (by decide) 38 rfl ?_
  exact oc_ret dX7_choosesToday_38 rfl
theorem ok_331 : ∀ q ∈ pr_331, okL gmt mt_331 q.1 q.2 := pk_c o_331_0 (pk_c o_331_21 (pk_c o_331_35 (pk_n)))
theorem o_332_0 : okL gmt mt_332 0 b_332_0 := by
  refine oc (y := mt_332) (pc := 0) (ok_aload_n dX7_dayGoes_0) 1 rfl ?_
  refine oc (y := mt_332) (pc := 1) (ok_getfield dX7_dayGoes_1 (fg (own := "GardenChessModel") (idx := 515) (g := 9) (k := 68) (r := (RX7, TX7, 122)) rfl ⟨⟨by decide, by decide⟩, by decide⟩ (Or.inl q1880) (Or.inl rfl) rfl (fg_nil))) 4 rfl ?_
  refine oc (y := mt_332) (pc := 4) (ok_iconst dX7_dayGoes_4 rfl ⟨by decide, by decide⟩) 5 rfl ?_
  refine oc_icmp dX7_dayGoes_5 ⟨by decide, by decide⟩ 8 rfl ?_
  refine oc (y := mt_332) (pc := 8) (ok_aload_n dX7_dayGoes_8) 9 rfl ?_
  refine oc (y := mt_332) (pc := 9) (ok_getfield dX7_dayGoes_9 (fg (own := "GardenChessModel") (idx := 154) (g := 9) (k := 62) (r := (RX7, TX7, 122)) rfl ⟨⟨by decide, by decide⟩, by decide⟩ (Or.inl q1874) (Or.inl rfl) rfl (fg_nil))) 12 rfl ?_
  refine oc (y := mt_332) (pc := 12) (ok_iconst dX7_dayGoes_12 rfl ⟨by decide, by decide⟩) 13 rfl ?_
  refine oc (y := mt_332) (pc := 13) (ok_iconst dX7_dayGoes_13 rfl ⟨by decide, by decide⟩) 14 rfl ?_
  refine oc (y := mt_332) (pc := 14) (ok_aload_n dX7_dayGoes_14) 15 rfl ?_
  refine oc (y := mt_332) (pc := 15) (ok_getfield dX7_dayGoes_15 (fg (own := "GardenChessModel") (idx := 154) (g := 9) (k := 62) (r := (RX7, TX7, 122)) rfl ⟨⟨by decide, by decide⟩, by decide⟩ (Or.inl q1874) (Or.inl rfl) rfl (fg_nil))) 18 rfl ?_
  refine oc (y := mt_332) (pc := 18) (ok_iconst dX7_dayGoes_18 rfl ⟨by decide, by decide⟩) 19 rfl ?_
  refine oc (y := mt_332) (pc := 19) (ok_iaload dX7_dayGoes_19) 20 rfl ?_
  refine oc (y := mt_332) (pc := 20) (ok_isub dX7_dayGoes_20) 21 rfl ?_
  refine oc (y := mt_332) (pc := 21) (ok_iastore dX7_dayGoes_21) 22 rfl ?_
  exact oc_goto dX7_dayGoes_22 ⟨by decide, by decide⟩
theorem o_332_25 : okL gmt mt_332 25 b_332_25 := by
  refine oc (y := mt_332) (pc := 25) (ok_aload_n dX7_dayGoes_25) 26 rfl ?_
  refine oc_V (y := mt_332) (pc := 26) (vcons (y := mt_332) (pc := 26) (len := 3) (n := 1) (M := mt_333) (by decide) rfl (Or.inr rfl) rfl (ck_V dX7_dayGoes_26 ⟨by decide, by decide, by decide, by decide +kernel⟩ q2575 q2577 qs131 q177 q2578) vnil) (hok0 rfl) (by decide) 29 rfl ?_
  exact oc_fall rfl
theorem o_332_29 : okL gmt mt_332 29 b_332_29 := by
  refine oc (y := mt_332) (pc := 29) (ok_iconst dX7_dayGoes_29 rfl ⟨by decide, by decide⟩) 30 rfl ?_
  refine oc (y := mt_332) (pc := 30) (ok_istore_n dX7_dayGoes_30 (by decide)) 31 rfl ?_
  exact oc_fall rfl
theorem o_332_31 : okL gmt mt_332 31 b_332_31 := by
  refine oc (y := mt_332) (pc := 31) (ok_iload_n dX7_dayGoes_31) 32 rfl ?_
  refine oc (y := mt_332) (pc := 32) (ok_aload_n dX7_dayGoes_32) 33 rfl ?_
  refine oc_V (y := mt_332) (pc := 33) (vcons (y := mt_332) (pc := 33) (len := 3) (n := 1) (M := mt_299) (by decide) rfl (Or.inr rfl) rfl (ck_V dX7_dayGoes_33 ⟨by decide, by decide, by decide, by decide +kernel⟩ q2434 q2436 qs109 q177 q2437) vnil) (hok0 rfl) (by decide) 36 rfl ?_
  refine oc_icmp dX7_dayGoes_36 ⟨by decide, by decide⟩ 39 rfl ?_
  refine oc (y := mt_332) (pc := 39) (ok_aload_n dX7_dayGoes_39) 40 rfl ?_
  refine oc (y := mt_332) (pc := 40) (ok_getfield dX7_dayGoes_40 (fg (own := "GardenChessModel") (idx := 154) (g := 9) (k := 62) (r := (RX7, TX7, 122)) rfl ⟨⟨by decide, by decide⟩, by decide⟩ (Or.inl q1874) (Or.inl rfl) rfl (fg_nil))) 43 rfl ?_
  refine oc (y := mt_332) (pc := 43) (ok_bipush dX7_dayGoes_43 (by decide) ⟨by decide, by decide⟩) 45 rfl ?_
  refine oc (y := mt_332) (pc := 45) (ok_iload_n dX7_dayGoes_45) 46 rfl ?_
  refine oc (y := mt_332) (pc := 46) (ok_iadd dX7_dayGoes_46) 47 rfl ?_
  refine oc (y := mt_332) (pc := 47) (ok_aload_n dX7_dayGoes_47) 48 rfl ?_
  refine oc (y := mt_332) (pc := 48) (ok_getfield dX7_dayGoes_48 (fg (own := "GardenChessModel") (idx := 154) (g := 9) (k := 62) (r := (RX7, TX7, 122)) rfl ⟨⟨by decide, by decide⟩, by decide⟩ (Or.inl q1874) (Or.inl rfl) rfl (fg_nil))) 51 rfl ?_
  refine oc (y := mt_332) (pc := 51) (ok_bipush dX7_dayGoes_51 (by decide) ⟨by decide, by decide⟩) 53 rfl ?_
  refine oc (y := mt_332) (pc := 53) (ok_iload_n dX7_dayGoes_53) 54 rfl ?_
  refine oc (y := mt_332) (pc := 54) (ok_iadd dX7_dayGoes_54) 55 rfl ?_
  refine oc (y := mt_332) (pc := 55) (ok_iaload dX7_dayGoes_55) 56 rfl ?_
  refine oc (y := mt_332) (pc := 56) (ok_aload_n dX7_dayGoes_56) 57 rfl ?_
  refine oc (y := mt_332) (pc := 57) (ok_getfield dX7_dayGoes_57 (fg (own := "GardenChessModel") (idx := 142) (g := 9) (k := 52) (r := (RX7, TX7, 122)) rfl ⟨⟨by decide, by decide⟩, by decide⟩ (Or.inl q1864) (Or.inl rfl) rfl (fg_nil))) 60 rfl ?_
  refine oc (y := mt_332) (pc := 60) (ok_iconst dX7_dayGoes_60 rfl ⟨by decide, by decide⟩) 61 rfl ?_
  refine oc (y := mt_332) (pc := 61) (ok_iaload dX7_dayGoes_61) 62 rfl ?_
  refine oc (y := mt_332) (pc := 62) (ok_iadd dX7_dayGoes_62) 63 rfl ?_
  refine oc (y := mt_332) (pc := 63) (ok_sipush dX7_dayGoes_63 (by decide) ⟨by decide, by decide⟩) 66 rfl ?_
  refine oc_icmp dX7_dayGoes_66 ⟨by decide, by decide⟩ 69 rfl ?_
  refine oc (y := mt_332) (pc := 69) (ok_sipush dX7_dayGoes_69 (by decide) ⟨by decide, by decide⟩) 72 rfl ?_
  exact oc_goto dX7_dayGoes_72 ⟨by decide, by decide⟩
theorem o_332_75 : okL gmt mt_332 75 b_332_75 := by
  refine oc (y := mt_332) (pc := 75) (ok_aload_n dX7_dayGoes_75) 76 rfl ?_
  refine oc (y := mt_332) (pc := 76) (ok_getfield dX7_dayGoes_76 (fg (own := "GardenChessModel") (idx := 154) (g := 9) (k := 62) (r := (RX7, TX7, 122)) rfl ⟨⟨by decide, by decide⟩, by decide⟩ (Or.inl q1874) (Or.inl rfl) rfl (fg_nil))) 79 rfl ?_
  refine oc (y := mt_332) (pc := 79) (ok_bipush dX7_dayGoes_79 (by decide) ⟨by decide, by decide⟩) 81 rfl ?_
  refine oc (y := mt_332) (pc := 81) (ok_iload_n dX7_dayGoes_81) 82 rfl ?_
  refine oc (y := mt_332) (pc := 82) (ok_iadd dX7_dayGoes_82) 83 rfl ?_
  refine oc (y := mt_332) (pc := 83) (ok_iaload dX7_dayGoes_83) 84 rfl ?_
  refine oc (y := mt_332) (pc := 84) (ok_aload_n dX7_dayGoes_84) 85 rfl ?_
  refine oc (y := mt_332) (pc := 85) (ok_getfield dX7_dayGoes_85 (fg (own := "GardenChessModel") (idx := 142) (g := 9) (k := 52) (r := (RX7, TX7, 122)) rfl ⟨⟨by decide, by decide⟩, by decide⟩ (Or.inl q1864) (Or.inl rfl) rfl (fg_nil))) 88 rfl ?_
  refine oc (y := mt_332) (pc := 88) (ok_iconst dX7_dayGoes_88 rfl ⟨by decide, by decide⟩) 89 rfl ?_
  refine oc (y := mt_332) (pc := 89) (ok_iaload dX7_dayGoes_89) 90 rfl ?_
  refine oc (y := mt_332) (pc := 90) (ok_iadd dX7_dayGoes_90) 91 rfl ?_
  exact oc_fall rfl
theorem o_332_91 : okL gmt mt_332 91 b_332_91 := by
  refine oc (y := mt_332) (pc := 91) (ok_iastore dX7_dayGoes_91) 92 rfl ?_
  refine oc (y := mt_332) (pc := 92) (ok_iinc dX7_dayGoes_92 (by decide)) 95 rfl ?_
  exact oc_goto dX7_dayGoes_95 ⟨by decide, by decide⟩
theorem o_332_98 : okL gmt mt_332 98 b_332_98 := by
  refine oc (y := mt_332) (pc := 98) (ok_aload_n dX7_dayGoes_98) 99 rfl ?_
  refine oc (y := mt_332) (pc := 99) (ok_getfield dX7_dayGoes_99 (fg (own := "GardenChessModel") (idx := 154) (g := 9) (k := 62) (r := (RX7, TX7, 122)) rfl ⟨⟨by decide, by decide⟩, by decide⟩ (Or.inl q1874) (Or.inl rfl) rfl (fg_nil))) 102 rfl ?_
  refine oc (y := mt_332) (pc := 102) (ok_iconst dX7_dayGoes_102 rfl ⟨by decide, by decide⟩) 103 rfl ?_
  refine oc (y := mt_332) (pc := 103) (ok_dup2 dX7_dayGoes_103) 104 rfl ?_
  refine oc (y := mt_332) (pc := 104) (ok_iaload dX7_dayGoes_104) 105 rfl ?_
  refine oc (y := mt_332) (pc := 105) (ok_iconst dX7_dayGoes_105 rfl ⟨by decide, by decide⟩) 106 rfl ?_
  refine oc (y := mt_332) (pc := 106) (ok_iadd dX7_dayGoes_106) 107 rfl ?_
  refine oc (y := mt_332) (pc := 107) (ok_iastore dX7_dayGoes_107) 108 rfl ?_
  exact oc_ret dX7_dayGoes_108 rfl
theorem ok_332 : ∀ q ∈ pr_332, okL gmt mt_332 q.1 q.2 := pk_c o_332_0 (pk_c o_332_25 (pk_c o_332_29 (pk_c o_332_31 (pk_c o_332_75 (pk_c o_332_91 (pk_c o_332_98 (pk_n)))))))
theorem o_333_0 : okL gmt mt_333 0 b_333_0 := by
  refine oc (y := mt_333) (pc := 0) (ok_aload_n dX7_playsChosen_0) 1 rfl ?_
  refine oc (y := mt_333) (pc := 1) (ok_getfield dX7_playsChosen_1 (fg (own := "GardenChessModel") (idx := 524) (g := 9) (k := 70) (r := (RX7, TX7, 122)) rfl ⟨⟨by decide, by decide⟩, by decide⟩ (Or.inl q1882) (Or.inl rfl) rfl (fg_nil))) 4 rfl ?_
  refine oc (y := mt_333) (pc := 4) (ok_aload_n dX7_playsChosen_4) 5 rfl ?_
  refine oc (y := mt_333) (pc := 5) (ok_getfield dX7_playsChosen_5 (fg (own := "GardenChessModel") (idx := 127) (g := 9) (k := 47) (r := (RX7, TX7, 122)) rfl ⟨⟨by decide, by decide⟩, by decide⟩ (Or.inl q1859) (Or.inl rfl) rfl (fg_nil))) 8 rfl ?_
  refine oc (y := mt_333) (pc := 8) (ok_iconst dX7_playsChosen_8 rfl ⟨by decide, by decide⟩) 9 rfl ?_
  refine oc (y := mt_333) (pc := 9) (ok_iaload dX7_playsChosen_9) 10 rfl ?_
  refine oc (y := mt_333) (pc := 10) (ok_irem dX7_playsChosen_10) 11 rfl ?_
  refine oc (y := mt_333) (pc := 11) (ok_istore_n dX7_playsChosen_11 (by decide)) 12 rfl ?_
  refine oc (y := mt_333) (pc := 12) (ok_aload_n dX7_playsChosen_12) 13 rfl ?_
  refine oc (y := mt_333) (pc := 13) (ok_getfield dX7_playsChosen_13 (fg (own := "GardenChessModel") (idx := 524) (g := 9) (k := 70) (r := (RX7, TX7, 122)) rfl ⟨⟨by decide, by decide⟩, by decide⟩ (Or.inl q1882) (Or.inl rfl) rfl (fg_nil))) 16 rfl ?_
  refine oc (y := mt_333) (pc := 16) (ok_aload_n dX7_playsChosen_16) 17 rfl ?_
  refine oc (y := mt_333) (pc := 17) (ok_getfield dX7_playsChosen_17 (fg (own := "GardenChessModel") (idx := 127) (g := 9) (k := 47) (r := (RX7, TX7, 122)) rfl ⟨⟨by decide, by decide⟩, by decide⟩ (Or.inl q1859) (Or.inl rfl) rfl (fg_nil))) 20 rfl ?_
  refine oc (y := mt_333) (pc := 20) (ok_iconst dX7_playsChosen_20 rfl ⟨by decide, by decide⟩) 21 rfl ?_
  refine oc (y := mt_333) (pc := 21) (ok_iaload dX7_playsChosen_21) 22 rfl ?_
  refine oc (y := mt_333) (pc := 22) (ok_idiv dX7_playsChosen_22) 23 rfl ?_
  refine oc (y := mt_333) (pc := 23) (ok_istore_n dX7_playsChosen_23 (by decide)) 24 rfl ?_
  refine oc (y := mt_333) (pc := 24) (ok_aload_n dX7_playsChosen_24) 25 rfl ?_
  refine oc (y := mt_333) (pc := 25) (ok_iload_n dX7_playsChosen_25) 26 rfl ?_
  refine oc (y := mt_333) (pc := 26) (ok_iload_n dX7_playsChosen_26) 27 rfl ?_
  refine oc_V (y := mt_333) (pc := 27) (vcons (y := mt_333) (pc := 27) (len := 3) (n := 3) (M := mt_296) (by decide) rfl (Or.inr rfl) rfl (ck_V dX7_playsChosen_27 ⟨by decide, by decide, by decide, by decide +kernel⟩ q2422 q2424 qs106 q177 q2425) vnil) (hok0 rfl) (by decide) 30 rfl ?_
  refine oc (y := mt_333) (pc := 30) (ok_istore_n dX7_playsChosen_30 (by decide)) 31 rfl ?_
  refine oc (y := mt_333) (pc := 31) (ok_aload_n dX7_playsChosen_31) 32 rfl ?_
  refine oc (y := mt_333) (pc := 32) (ok_iload_n dX7_playsChosen_32) 33 rfl ?_
  refine oc (y := mt_333) (pc := 33) (ok_iconst dX7_playsChosen_33 rfl ⟨by decide, by decide⟩) 34 rfl ?_
  refine oc_icmp dX7_playsChosen_34 ⟨by decide, by decide⟩ 37 rfl ?_
  refine oc (y := mt_333) (pc := 37) (ok_sipush dX7_playsChosen_37 (by decide) ⟨by decide, by decide⟩) 40 rfl ?_
  exact oc_goto dX7_playsChosen_40 ⟨by decide, by decide⟩
theorem o_333_43 : okL gmt mt_333 43 b_333_43 := by
  refine oc (y := mt_333) (pc := 43) (ok_iload_n dX7_playsChosen_43) 44 rfl ?_
  exact oc_fall rfl
theorem o_333_44 : okL gmt mt_333 44 b_333_44 := by
  refine oc (y := mt_333) (pc := 44) (ok_putfield dX7_playsChosen_44 (fp (own := "GardenChessModel") (idx := 550) (g := 9) (k := 77) (r := (RX7, TX7, 122)) rfl ⟨⟨by decide, by decide⟩, by decide⟩ (Or.inl q1889) (Or.inl rfl) rfl (Or.inl rfl) (fp_nil))) 47 rfl ?_
  refine oc (y := mt_333) (pc := 47) (ok_aload_n dX7_playsChosen_47) 48 rfl ?_
  refine oc (y := mt_333) (pc := 48) (ok_iload_n dX7_playsChosen_48) 49 rfl ?_
  refine oc (y := mt_333) (pc := 49) (ok_iconst dX7_playsChosen_49 rfl ⟨by decide, by decide⟩) 50 rfl ?_
  refine oc_icmp dX7_playsChosen_50 ⟨by decide, by decide⟩ 53 rfl ?_
  refine oc (y := mt_333) (pc := 53) (ok_lconst dX7_playsChosen_53 (by decide) ⟨by decide, by decide⟩) 54 rfl ?_
  exact oc_goto dX7_playsChosen_54 ⟨by decide, by decide⟩
theorem o_333_57 : okL gmt mt_333 57 b_333_57 := by
  refine oc (y := mt_333) (pc := 57) (ok_aload_n dX7_playsChosen_57) 58 rfl ?_
  refine oc (y := mt_333) (pc := 58) (ok_iload_n dX7_playsChosen_58) 59 rfl ?_
  refine oc_V (y := mt_333) (pc := 59) (vcons (y := mt_333) (pc := 59) (len := 3) (n := 2) (M := mt_315) (by decide) rfl (Or.inr rfl) rfl (ck_V dX7_playsChosen_59 ⟨by decide, by decide, by decide, by decide +kernel⟩ q2502 q2504 qs117 q177 q2505) vnil) (hok0 rfl) (by decide) 62 rfl ?_
  refine oc (y := mt_333) (pc := 62) (ok_i2l dX7_playsChosen_62) 63 rfl ?_
  exact oc_fall rfl
theorem o_333_63 : okL gmt mt_333 63 b_333_63 := by
  refine oc (y := mt_333) (pc := 63) (ok_putfield dX7_playsChosen_63 (fp (own := "GardenChessModel") (idx := 527) (g := 9) (k := 71) (r := (RX7, TX7, 122)) rfl ⟨⟨by decide, by decide⟩, by decide⟩ (Or.inl q1883) (Or.inl rfl) rfl (Or.inl rfl) (fp_nil))) 66 rfl ?_
  refine oc (y := mt_333) (pc := 66) (ok_aload_n dX7_playsChosen_66) 67 rfl ?_
  refine oc (y := mt_333) (pc := 67) (ok_iconst dX7_playsChosen_67 rfl ⟨by decide, by decide⟩) 68 rfl ?_
  refine oc (y := mt_333) (pc := 68) (ok_aload_n dX7_playsChosen_68) 69 rfl ?_
  refine oc (y := mt_333) (pc := 69) (ok_getfield dX7_playsChosen_69 (fg (own := "GardenChessModel") (idx := 521) (g := 9) (k := 69) (r := (RX7, TX7, 122)) rfl ⟨⟨by decide, by decide⟩, by decide⟩ (Or.inl q1881) (Or.inl rfl) rfl (fg_nil))) 72 rfl ?_
  refine oc (y := mt_333) (pc := 72) (ok_aload_n dX7_playsChosen_72) 73 rfl ?_
  refine oc (y := mt_333) (pc := 73) (ok_getfield dX7_playsChosen_73 (fg (own := "GardenChessModel") (idx := 524) (g := 9) (k := 70) (r := (RX7, TX7, 122)) rfl ⟨⟨by decide, by decide⟩, by decide⟩ (Or.inl q1882) (Or.inl rfl) rfl (fg_nil))) 76 rfl ?_
  refine oc_V (y := mt_333) (pc := 76) (vcons (y := mt_333) (pc := 76) (len := 3) (n := 4) (M := mt_309) (by decide) rfl (Or.inr rfl) rfl (ck_V dX7_playsChosen_76 ⟨by decide, by decide, by decide, by decide +kernel⟩ q2478 q2480 qs113 q177 q2481) vnil) (hok0 rfl) (by decide) 79 rfl ?_
  refine oc (y := mt_333) (pc := 79) (ok_aload_n dX7_playsChosen_79) 80 rfl ?_
  refine oc (y := mt_333) (pc := 80) (ok_aload_n dX7_playsChosen_80) 81 rfl ?_
  refine oc (y := mt_333) (pc := 81) (ok_aload_n dX7_playsChosen_81) 82 rfl ?_
  refine oc (y := mt_333) (pc := 82) (ok_getfield dX7_playsChosen_82 (fg (own := "GardenChessModel") (idx := 154) (g := 9) (k := 62) (r := (RX7, TX7, 122)) rfl ⟨⟨by decide, by decide⟩, by decide⟩ (Or.inl q1874) (Or.inl rfl) rfl (fg_nil))) 85 rfl ?_
  refine oc (y := mt_333) (pc := 85) (ok_iconst dX7_playsChosen_85 rfl ⟨by decide, by decide⟩) 86 rfl ?_
  refine oc (y := mt_333) (pc := 86) (ok_iaload dX7_playsChosen_86) 87 rfl ?_
  refine oc_V (y := mt_333) (pc := 87) (vcons (y := mt_333) (pc := 87) (len := 3) (n := 2) (M := mt_310) (by decide) rfl (Or.inr rfl) rfl (ck_V dX7_playsChosen_87 ⟨by decide, by decide, by decide, by decide +kernel⟩ q2482 q2484 qs114 q177 q2485) vnil) (hok0 rfl) (by decide) 90 rfl ?_
  refine oc_if dX7_playsChosen_90 ⟨by decide, by decide⟩ 93 rfl ?_
  refine oc (y := mt_333) (pc := 93) (ok_lconst dX7_playsChosen_93 (by decide) ⟨by decide, by decide⟩) 94 rfl ?_
  exact oc_goto dX7_playsChosen_94 ⟨by decide, by decide⟩
theorem o_333_97 : okL gmt mt_333 97 b_333_97 := by
  refine oc (y := mt_333) (pc := 97) (ok_lconst dX7_playsChosen_97 (by decide) ⟨by decide, by decide⟩) 98 rfl ?_
  exact oc_fall rfl
theorem o_333_98 : okL gmt mt_333 98 b_333_98 := by
  refine oc (y := mt_333) (pc := 98) (ok_putfield dX7_playsChosen_98 (fp (own := "GardenChessModel") (idx := 556) (g := 9) (k := 72) (r := (RX7, TX7, 122)) rfl ⟨⟨by decide, by decide⟩, by decide⟩ (Or.inl q1884) (Or.inl rfl) rfl (Or.inl rfl) (fp_nil))) 101 rfl ?_
  refine oc (y := mt_333) (pc := 101) (ok_iconst dX7_playsChosen_101 rfl ⟨by decide, by decide⟩) 102 rfl ?_
  refine oc (y := mt_333) (pc := 102) (ok_istore dX7_playsChosen_102 (by decide)) 104 rfl ?_
  exact oc_fall rfl
theorem o_333_104 : okL gmt mt_333 104 b_333_104 := by
  refine oc (y := mt_333) (pc := 104) (ok_iload dX7_playsChosen_104) 106 rfl ?_
  refine oc (y := mt_333) (pc := 106) (ok_aload_n dX7_playsChosen_106) 107 rfl ?_
  refine oc_V (y := mt_333) (pc := 107) (vcons (y := mt_333) (pc := 107) (len := 3) (n := 1) (M := mt_299) (by decide) rfl (Or.inr rfl) rfl (ck_V dX7_playsChosen_107 ⟨by decide, by decide, by decide, by decide +kernel⟩ q2434 q2436 qs109 q177 q2437) vnil) (hok0 rfl) (by decide) 110 rfl ?_
  refine oc_icmp dX7_playsChosen_110 ⟨by decide, by decide⟩ 113 rfl ?_
  refine oc (y := mt_333) (pc := 113) (ok_aload_n dX7_playsChosen_113) 114 rfl ?_
  refine oc (y := mt_333) (pc := 114) (ok_aload_n dX7_playsChosen_114) 115 rfl ?_
  refine oc (y := mt_333) (pc := 115) (ok_getfield dX7_playsChosen_115 (fg (own := "GardenChessModel") (idx := 139) (g := 9) (k := 51) (r := (RX7, TX7, 122)) rfl ⟨⟨by decide, by decide⟩, by decide⟩ (Or.inl q1863) (Or.inl rfl) rfl (fg_nil))) 118 rfl ?_
  refine oc (y := mt_333) (pc := 118) (ok_bipush dX7_playsChosen_118 (by decide) ⟨by decide, by decide⟩) 120 rfl ?_
  refine oc (y := mt_333) (pc := 120) (ok_iconst dX7_playsChosen_120 rfl ⟨by decide, by decide⟩) 121 rfl ?_
  refine oc (y := mt_333) (pc := 121) (ok_iload dX7_playsChosen_121) 123 rfl ?_
  refine oc (y := mt_333) (pc := 123) (ok_imul dX7_playsChosen_123) 124 rfl ?_
  refine oc (y := mt_333) (pc := 124) (ok_iadd dX7_playsChosen_124) 125 rfl ?_
  refine oc (y := mt_333) (pc := 125) (ok_iaload dX7_playsChosen_125) 126 rfl ?_
  refine oc (y := mt_333) (pc := 126) (ok_aload_n dX7_playsChosen_126) 127 rfl ?_
  refine oc (y := mt_333) (pc := 127) (ok_getfield dX7_playsChosen_127 (fg (own := "GardenChessModel") (idx := 139) (g := 9) (k := 51) (r := (RX7, TX7, 122)) rfl ⟨⟨by decide, by decide⟩, by decide⟩ (Or.inl q1863) (Or.inl rfl) rfl (fg_nil))) 130 rfl ?_
  refine oc (y := mt_333) (pc := 130) (ok_bipush dX7_playsChosen_130 (by decide) ⟨by decide, by decide⟩) 132 rfl ?_
  refine oc (y := mt_333) (pc := 132) (ok_iconst dX7_playsChosen_132 rfl ⟨by decide, by decide⟩) 133 rfl ?_
  refine oc (y := mt_333) (pc := 133) (ok_iload dX7_playsChosen_133) 135 rfl ?_
  refine oc (y := mt_333) (pc := 135) (ok_imul dX7_playsChosen_135) 136 rfl ?_
  refine oc (y := mt_333) (pc := 136) (ok_iadd dX7_playsChosen_136) 137 rfl ?_
  refine oc (y := mt_333) (pc := 137) (ok_iaload dX7_playsChosen_137) 138 rfl ?_
  refine oc (y := mt_333) (pc := 138) (ok_iload_n dX7_playsChosen_138) 139 rfl ?_
  refine oc (y := mt_333) (pc := 139) (ok_iload_n dX7_playsChosen_139) 140 rfl ?_
  refine oc_V (y := mt_333) (pc := 140) (vcons (y := mt_333) (pc := 140) (len := 3) (n := 5) (M := mt_334) (by decide) rfl (Or.inr rfl) rfl (ck_V dX7_playsChosen_140 ⟨by decide, by decide, by decide, by decide +kernel⟩ q2579 q2581 qs132 q177 q2582) vnil) (hok0 rfl) (by decide) 143 rfl ?_
  refine oc (y := mt_333) (pc := 143) (ok_lstore dX7_playsChosen_143 (by decide)) 145 rfl ?_
  refine oc (y := mt_333) (pc := 145) (ok_aload_n dX7_playsChosen_145) 146 rfl ?_
  refine oc (y := mt_333) (pc := 146) (ok_getfield dX7_playsChosen_146 (fg (own := "GardenChessModel") (idx := 154) (g := 9) (k := 62) (r := (RX7, TX7, 122)) rfl ⟨⟨by decide, by decide⟩, by decide⟩ (Or.inl q1874) (Or.inl rfl) rfl (fg_nil))) 149 rfl ?_
  refine oc (y := mt_333) (pc := 149) (ok_bipush dX7_playsChosen_149 (by decide) ⟨by decide, by decide⟩) 151 rfl ?_
  refine oc (y := mt_333) (pc := 151) (ok_iload dX7_playsChosen_151) 153 rfl ?_
  refine oc (y := mt_333) (pc := 153) (ok_iadd dX7_playsChosen_153) 154 rfl ?_
  refine oc (y := mt_333) (pc := 154) (ok_lload dX7_playsChosen_154) 156 rfl ?_
  refine oc (y := mt_333) (pc := 156) (ok_aload_n dX7_playsChosen_156) 157 rfl ?_
  refine oc (y := mt_333) (pc := 157) (ok_getfield dX7_playsChosen_157 (fg (own := "GardenChessModel") (idx := 154) (g := 9) (k := 62) (r := (RX7, TX7, 122)) rfl ⟨⟨by decide, by decide⟩, by decide⟩ (Or.inl q1874) (Or.inl rfl) rfl (fg_nil))) 160 rfl ?_
  refine oc (y := mt_333) (pc := 160) (ok_bipush dX7_playsChosen_160 (by decide) ⟨by decide, by decide⟩) 162 rfl ?_
  refine oc (y := mt_333) (pc := 162) (ok_iload dX7_playsChosen_162) 164 rfl ?_
  refine oc (y := mt_333) (pc := 164) (ok_iadd dX7_playsChosen_164) 165 rfl ?_
  refine oc (y := mt_333) (pc := 165) (ok_iaload dX7_playsChosen_165) 166 rfl ?_
  refine oc (y := mt_333) (pc := 166) (ok_i2l dX7_playsChosen_166) 167 rfl ?_
  refine oc (y := mt_333) (pc := 167) (ok_lcmp dX7_playsChosen_167) 168 rfl ?_
  refine oc_if dX7_playsChosen_168 ⟨by decide, by decide⟩ 171 rfl ?_
  refine oc (y := mt_333) (pc := 171) (ok_iconst dX7_playsChosen_171 rfl ⟨by decide, by decide⟩) 172 rfl ?_
  exact oc_goto dX7_playsChosen_172 ⟨by decide, by decide⟩
theorem o_333_175 : okL gmt mt_333 175 b_333_175 := by
  refine oc (y := mt_333) (pc := 175) (ok_aload_n dX7_playsChosen_175) 176 rfl ?_
  refine oc (y := mt_333) (pc := 176) (ok_getfield dX7_playsChosen_176 (fg (own := "GardenChessModel") (idx := 154) (g := 9) (k := 62) (r := (RX7, TX7, 122)) rfl ⟨⟨by decide, by decide⟩, by decide⟩ (Or.inl q1874) (Or.inl rfl) rfl (fg_nil))) 179 rfl ?_
  refine oc (y := mt_333) (pc := 179) (ok_bipush dX7_playsChosen_179 (by decide) ⟨by decide, by decide⟩) 181 rfl ?_
  refine oc (y := mt_333) (pc := 181) (ok_iload dX7_playsChosen_181) 183 rfl ?_
  refine oc (y := mt_333) (pc := 183) (ok_iadd dX7_playsChosen_183) 184 rfl ?_
  refine oc (y := mt_333) (pc := 184) (ok_iaload dX7_playsChosen_184) 185 rfl ?_
  refine oc (y := mt_333) (pc := 185) (ok_lload dX7_playsChosen_185) 187 rfl ?_
  refine oc (y := mt_333) (pc := 187) (ok_l2i dX7_playsChosen_187) 188 rfl ?_
  refine oc (y := mt_333) (pc := 188) (ok_isub dX7_playsChosen_188) 189 rfl ?_
  exact oc_fall rfl
theorem o_333_189 : okL gmt mt_333 189 b_333_189 := by
  refine oc (y := mt_333) (pc := 189) (ok_iastore dX7_playsChosen_189) 190 rfl ?_
  refine oc (y := mt_333) (pc := 190) (ok_iinc dX7_playsChosen_190 (by decide)) 193 rfl ?_
  exact oc_goto dX7_playsChosen_193 ⟨by decide, by decide⟩
theorem o_333_196 : okL gmt mt_333 196 b_333_196 := by
  refine oc (y := mt_333) (pc := 196) (ok_aload_n dX7_playsChosen_196) 197 rfl ?_
  refine oc_V (y := mt_333) (pc := 197) (vcons (y := mt_333) (pc := 197) (len := 3) (n := 1) (M := mt_340) (by decide) rfl (Or.inr rfl) rfl (ck_V dX7_playsChosen_197 ⟨by decide, by decide, by decide, by decide +kernel⟩ q2603 q2605 qs136 q177 q2606) vnil) (hok0 rfl) (by decide) 200 rfl ?_
  exact oc_ret dX7_playsChosen_200 rfl
theorem ok_333 : ∀ q ∈ pr_333, okL gmt mt_333 q.1 q.2 := pk_c o_333_0 (pk_c o_333_43 (pk_c o_333_44 (pk_c o_333_57 (pk_c o_333_63 (pk_c o_333_97 (pk_c o_333_98 (pk_c o_333_104 (pk_c o_333_175 (pk_c o_333_189 (pk_c o_333_196 (pk_n)))))))))))
theorem o_334_0 : okL gmt mt_334 0 b_334_0 := by
  refine oc (y := mt_334) (pc := 0) (ok_aload_n dX7_harmAt_0) 1 rfl ?_
  refine oc (y := mt_334) (pc := 1) (ok_getfield dX7_harmAt_1 (fg (own := "GardenChessModel") (idx := 145) (g := 9) (k := 53) (r := (RX7, TX7, 122)) rfl ⟨⟨by decide, by decide⟩, by decide⟩ (Or.inl q1865) (Or.inl rfl) rfl (fg_nil))) 4 rfl ?_
  refine oc (y := mt_334) (pc := 4) (ok_iconst dX7_harmAt_4 rfl ⟨by decide, by decide⟩) 5 rfl ?_
  refine oc (y := mt_334) (pc := 5) (ok_iaload dX7_harmAt_5) 6 rfl ?_
  refine oc (y := mt_334) (pc := 6) (ok_iconst dX7_harmAt_6 rfl ⟨by decide, by decide⟩) 7 rfl ?_
  refine oc_icmp dX7_harmAt_7 ⟨by decide, by decide⟩ 10 rfl ?_
  refine oc (y := mt_334) (pc := 10) (ok_aload_n dX7_harmAt_10) 11 rfl ?_
  refine oc (y := mt_334) (pc := 11) (ok_getfield dX7_harmAt_11 (fg (own := "GardenChessModel") (idx := 527) (g := 9) (k := 71) (r := (RX7, TX7, 122)) rfl ⟨⟨by decide, by decide⟩, by decide⟩ (Or.inl q1883) (Or.inl rfl) rfl (fg_nil))) 14 rfl ?_
  exact oc_lret dX7_harmAt_14 rfl
theorem o_334_15 : okL gmt mt_334 15 b_334_15 := by
  refine oc (y := mt_334) (pc := 15) (ok_aload_n dX7_harmAt_15) 16 rfl ?_
  refine oc (y := mt_334) (pc := 16) (ok_iload_n dX7_harmAt_16) 17 rfl ?_
  refine oc (y := mt_334) (pc := 17) (ok_iload_n dX7_harmAt_17) 18 rfl ?_
  refine oc (y := mt_334) (pc := 18) (ok_iload_n dX7_harmAt_18) 19 rfl ?_
  refine oc (y := mt_334) (pc := 19) (ok_iload dX7_harmAt_19) 21 rfl ?_
  refine oc_S (y := mt_334) (pc := 21) (M := mt_293) rfl (ck_S dX7_harmAt_21 ⟨by decide, by decide, by decide, by decide +kernel⟩ q2412 q2413 q177 q2414) (hok0 rfl) (by decide) 24 rfl ?_
  refine oc (y := mt_334) (pc := 24) (ok_i2l dX7_harmAt_24) 25 rfl ?_
  refine oc (y := mt_334) (pc := 25) (ok_putfield dX7_harmAt_25 (fp (own := "GardenChessModel") (idx := 530) (g := 9) (k := 73) (r := (RX7, TX7, 122)) rfl ⟨⟨by decide, by decide⟩, by decide⟩ (Or.inl q1885) (Or.inl rfl) rfl (Or.inl rfl) (fp_nil))) 28 rfl ?_
  refine oc (y := mt_334) (pc := 28) (ok_aload_n dX7_harmAt_28) 29 rfl ?_
  refine oc (y := mt_334) (pc := 29) (ok_iconst dX7_harmAt_29 rfl ⟨by decide, by decide⟩) 30 rfl ?_
  refine oc (y := mt_334) (pc := 30) (ok_putfield dX7_harmAt_30 (fp (own := "GardenChessModel") (idx := 336) (g := 9) (k := 59) (r := (RX7, TX7, 122)) rfl ⟨⟨by decide, by decide⟩, by decide⟩ (Or.inl q1871) (Or.inl rfl) rfl (Or.inl rfl) (fp_nil))) 33 rfl ?_
  refine oc (y := mt_334) (pc := 33) (ok_aload_n dX7_harmAt_33) 34 rfl ?_
  refine oc (y := mt_334) (pc := 34) (ok_iconst dX7_harmAt_34 rfl ⟨by decide, by decide⟩) 35 rfl ?_
  refine oc (y := mt_334) (pc := 35) (ok_putfield dX7_harmAt_35 (fp (own := "GardenChessModel") (idx := 533) (g := 9) (k := 117) (r := (RX7, TX7, 122)) rfl ⟨⟨by decide, by decide⟩, by decide⟩ (Or.inl q1929) (Or.inl rfl) rfl (Or.inl rfl) (fp_nil))) 38 rfl ?_
  refine oc (y := mt_334) (pc := 38) (ok_aload_n dX7_harmAt_38) 39 rfl ?_
  refine oc (y := mt_334) (pc := 39) (ok_getfield dX7_harmAt_39 (fg (own := "GardenChessModel") (idx := 145) (g := 9) (k := 53) (r := (RX7, TX7, 122)) rfl ⟨⟨by decide, by decide⟩, by decide⟩ (Or.inl q1865) (Or.inl rfl) rfl (fg_nil))) 42 rfl ?_
  refine oc (y := mt_334) (pc := 42) (ok_iconst dX7_harmAt_42 rfl ⟨by decide, by decide⟩) 43 rfl ?_
  refine oc (y := mt_334) (pc := 43) (ok_iaload dX7_harmAt_43) 44 rfl ?_
  refine oc (y := mt_334) (pc := 44) (ok_istore dX7_harmAt_44 (by decide)) 46 rfl ?_
  exact oc_fall rfl
theorem o_334_46 : okL gmt mt_334 46 b_334_46 := by
  refine oc (y := mt_334) (pc := 46) (ok_iload dX7_harmAt_46) 48 rfl ?_
  refine oc (y := mt_334) (pc := 48) (ok_aload_n dX7_harmAt_48) 49 rfl ?_
  refine oc (y := mt_334) (pc := 49) (ok_getfield dX7_harmAt_49 (fg (own := "GardenChessModel") (idx := 148) (g := 9) (k := 54) (r := (RX7, TX7, 122)) rfl ⟨⟨by decide, by decide⟩, by decide⟩ (Or.inl q1866) (Or.inl rfl) rfl (fg_nil))) 52 rfl ?_
  refine oc (y := mt_334) (pc := 52) (ok_iconst dX7_harmAt_52 rfl ⟨by decide, by decide⟩) 53 rfl ?_
  refine oc (y := mt_334) (pc := 53) (ok_iaload dX7_harmAt_53) 54 rfl ?_
  refine oc_icmp dX7_harmAt_54 ⟨by decide, by decide⟩ 57 rfl ?_
  refine oc (y := mt_334) (pc := 57) (ok_aload_n dX7_harmAt_57) 58 rfl ?_
  refine oc (y := mt_334) (pc := 58) (ok_getfield dX7_harmAt_58 (fg (own := "GardenChessModel") (idx := 151) (g := 9) (k := 55) (r := (RX7, TX7, 122)) rfl ⟨⟨by decide, by decide⟩, by decide⟩ (Or.inl q1867) (Or.inl rfl) rfl (fg_nil))) 61 rfl ?_
  refine oc (y := mt_334) (pc := 61) (ok_sipush dX7_harmAt_61 (by decide) ⟨by decide, by decide⟩) 64 rfl ?_
  refine oc (y := mt_334) (pc := 64) (ok_iload dX7_harmAt_64) 66 rfl ?_
  refine oc (y := mt_334) (pc := 66) (ok_iadd dX7_harmAt_66) 67 rfl ?_
  refine oc (y := mt_334) (pc := 67) (ok_iaload dX7_harmAt_67) 68 rfl ?_
  refine oc (y := mt_334) (pc := 68) (ok_istore dX7_harmAt_68 (by decide)) 70 rfl ?_
  refine oc (y := mt_334) (pc := 70) (ok_iload dX7_harmAt_70) 72 rfl ?_
  refine oc (y := mt_334) (pc := 72) (ok_sipush dX7_harmAt_72 (by decide) ⟨by decide, by decide⟩) 75 rfl ?_
  refine oc_icmp dX7_harmAt_75 ⟨by decide, by decide⟩ 78 rfl ?_
  refine oc (y := mt_334) (pc := 78) (ok_aload_n dX7_harmAt_78) 79 rfl ?_
  refine oc (y := mt_334) (pc := 79) (ok_iload dX7_harmAt_79) 81 rfl ?_
  refine oc (y := mt_334) (pc := 81) (ok_sipush dX7_harmAt_81 (by decide) ⟨by decide, by decide⟩) 84 rfl ?_
  refine oc (y := mt_334) (pc := 84) (ok_isub dX7_harmAt_84) 85 rfl ?_
  refine oc (y := mt_334) (pc := 85) (ok_i2l dX7_harmAt_85) 86 rfl ?_
  refine oc_V (y := mt_334) (pc := 86) (vcons (y := mt_334) (pc := 86) (len := 3) (n := 2) (M := mt_335) (by decide) rfl (Or.inr rfl) rfl (ck_V dX7_harmAt_86 ⟨by decide, by decide, by decide, by decide +kernel⟩ q2583 q2585 qs133 q177 q2586) vnil) (hok0 rfl) (by decide) 89 rfl ?_
  exact oc_goto dX7_harmAt_89 ⟨by decide, by decide⟩
theorem o_334_92 : okL gmt mt_334 92 b_334_92 := by
  refine oc (y := mt_334) (pc := 92) (ok_iload dX7_harmAt_92) 94 rfl ?_
  refine oc (y := mt_334) (pc := 94) (ok_bipush dX7_harmAt_94 (by decide) ⟨by decide, by decide⟩) 96 rfl ?_
  refine oc_icmp dX7_harmAt_96 ⟨by decide, by decide⟩ 99 rfl ?_
  refine oc (y := mt_334) (pc := 99) (ok_aload_n dX7_harmAt_99) 100 rfl ?_
  refine oc (y := mt_334) (pc := 100) (ok_aload_n dX7_harmAt_100) 101 rfl ?_
  refine oc (y := mt_334) (pc := 101) (ok_iload dX7_harmAt_101) 103 rfl ?_
  refine oc (y := mt_334) (pc := 103) (ok_bipush dX7_harmAt_103 (by decide) ⟨by decide, by decide⟩) 105 rfl ?_
  refine oc (y := mt_334) (pc := 105) (ok_isub dX7_harmAt_105) 106 rfl ?_
  refine oc (y := mt_334) (pc := 106) (ok_iconst dX7_harmAt_106 rfl ⟨by decide, by decide⟩) 107 rfl ?_
  refine oc_V (y := mt_334) (pc := 107) (vcons (y := mt_334) (pc := 107) (len := 3) (n := 3) (M := mt_336) (by decide) rfl (Or.inr rfl) rfl (ck_V dX7_harmAt_107 ⟨by decide, by decide, by decide, by decide +kernel⟩ q2587 q2589 qs134 q177 q2590) vnil) (hok0 rfl) (by decide) 110 rfl ?_
  refine oc_V (y := mt_334) (pc := 110) (vcons (y := mt_334) (pc := 110) (len := 3) (n := 2) (M := mt_335) (by decide) rfl (Or.inr rfl) rfl (ck_V dX7_harmAt_110 ⟨by decide, by decide, by decide, by decide +kernel⟩ q2583 q2585 qs133 q177 q2586) vnil) (hok0 rfl) (by decide) 113 rfl ?_
  exact oc_goto dX7_harmAt_113 ⟨by decide, by decide⟩
theorem o_334_116 : okL gmt mt_334 116 b_334_116 := by
  refine oc (y := mt_334) (pc := 116) (ok_aload_n dX7_harmAt_116) 117 rfl ?_
  refine oc (y := mt_334) (pc := 117) (ok_iload dX7_harmAt_117) 119 rfl ?_
  refine oc_V (y := mt_334) (pc := 119) (vcons (y := mt_334) (pc := 119) (len := 3) (n := 2) (M := mt_337) (by decide) rfl (Or.inr rfl) rfl (ck_V dX7_harmAt_119 ⟨by decide, by decide, by decide, by decide +kernel⟩ q2591 q2593 qs135 q177 q2594) vnil) (hok0 rfl) (by decide) 122 rfl ?_
  exact oc_fall rfl
theorem o_334_122 : okL gmt mt_334 122 b_334_122 := by
  refine oc (y := mt_334) (pc := 122) (ok_iinc dX7_harmAt_122 (by decide)) 125 rfl ?_
  exact oc_goto dX7_harmAt_125 ⟨by decide, by decide⟩
theorem o_334_128 : okL gmt mt_334 128 b_334_128 := by
  refine oc (y := mt_334) (pc := 128) (ok_aload_n dX7_harmAt_128) 129 rfl ?_
  refine oc (y := mt_334) (pc := 129) (ok_getfield dX7_harmAt_129 (fg (own := "GardenChessModel") (idx := 269) (g := 9) (k := 116) (r := (RX7, TX7, 122)) rfl ⟨⟨by decide, by decide⟩, by decide⟩ (Or.inl q1928) (Or.inl rfl) rfl (fg_nil))) 132 rfl ?_
  refine oc (y := mt_334) (pc := 132) (ok_iconst dX7_harmAt_132 rfl ⟨by decide, by decide⟩) 133 rfl ?_
  refine oc (y := mt_334) (pc := 133) (ok_laload dX7_harmAt_133) 134 rfl ?_
  refine oc (y := mt_334) (pc := 134) (ok_lconst dX7_harmAt_134 (by decide) ⟨by decide, by decide⟩) 135 rfl ?_
  refine oc (y := mt_334) (pc := 135) (ok_lcmp dX7_harmAt_135) 136 rfl ?_
  refine oc_if dX7_harmAt_136 ⟨by decide, by decide⟩ 139 rfl ?_
  refine oc (y := mt_334) (pc := 139) (ok_lconst dX7_harmAt_139 (by decide) ⟨by decide, by decide⟩) 140 rfl ?_
  exact oc_goto dX7_harmAt_140 ⟨by decide, by decide⟩
theorem o_334_143 : okL gmt mt_334 143 b_334_143 := by
  refine oc (y := mt_334) (pc := 143) (ok_aload_n dX7_harmAt_143) 144 rfl ?_
  refine oc (y := mt_334) (pc := 144) (ok_getfield dX7_harmAt_144 (fg (own := "GardenChessModel") (idx := 269) (g := 9) (k := 116) (r := (RX7, TX7, 122)) rfl ⟨⟨by decide, by decide⟩, by decide⟩ (Or.inl q1928) (Or.inl rfl) rfl (fg_nil))) 147 rfl ?_
  refine oc (y := mt_334) (pc := 147) (ok_iconst dX7_harmAt_147 rfl ⟨by decide, by decide⟩) 148 rfl ?_
  refine oc (y := mt_334) (pc := 148) (ok_laload dX7_harmAt_148) 149 rfl ?_
  exact oc_fall rfl
theorem o_334_149 : okL gmt mt_334 149 b_334_149 := by
  exact oc_lret dX7_harmAt_149 rfl
theorem ok_334 : ∀ q ∈ pr_334, okL gmt mt_334 q.1 q.2 := pk_c o_334_0 (pk_c o_334_15 (pk_c o_334_46 (pk_c o_334_92 (pk_c o_334_116 (pk_c o_334_122 (pk_c o_334_128 (pk_c o_334_143 (pk_c o_334_149 (pk_n)))))))))
theorem o_335_0 : okL gmt mt_335 0 b_335_0 := by
  refine oc (y := mt_335) (pc := 0) (ok_aload_n dX7_qPuts_0) 1 rfl ?_
  refine oc (y := mt_335) (pc := 1) (ok_getfield dX7_qPuts_1 (fg (own := "GardenChessModel") (idx := 269) (g := 9) (k := 116) (r := (RX7, TX7, 122)) rfl ⟨⟨by decide, by decide⟩, by decide⟩ (Or.inl q1928) (Or.inl rfl) rfl (fg_nil))) 4 rfl ?_
  refine oc (y := mt_335) (pc := 4) (ok_aload_n dX7_qPuts_4) 5 rfl ?_
  refine oc (y := mt_335) (pc := 5) (ok_getfield dX7_qPuts_5 (fg (own := "GardenChessModel") (idx := 533) (g := 9) (k := 117) (r := (RX7, TX7, 122)) rfl ⟨⟨by decide, by decide⟩, by decide⟩ (Or.inl q1929) (Or.inl rfl) rfl (fg_nil))) 8 rfl ?_
  refine oc (y := mt_335) (pc := 8) (ok_lload_n dX7_qPuts_8) 9 rfl ?_
  refine oc (y := mt_335) (pc := 9) (ok_lastore dX7_qPuts_9) 10 rfl ?_
  refine oc (y := mt_335) (pc := 10) (ok_aload_n dX7_qPuts_10) 11 rfl ?_
  refine oc (y := mt_335) (pc := 11) (ok_dup dX7_qPuts_11) 12 rfl ?_
  refine oc (y := mt_335) (pc := 12) (ok_getfield dX7_qPuts_12 (fg (own := "GardenChessModel") (idx := 533) (g := 9) (k := 117) (r := (RX7, TX7, 122)) rfl ⟨⟨by decide, by decide⟩, by decide⟩ (Or.inl q1929) (Or.inl rfl) rfl (fg_nil))) 15 rfl ?_
  refine oc (y := mt_335) (pc := 15) (ok_iconst dX7_qPuts_15 rfl ⟨by decide, by decide⟩) 16 rfl ?_
  refine oc (y := mt_335) (pc := 16) (ok_iadd dX7_qPuts_16) 17 rfl ?_
  refine oc (y := mt_335) (pc := 17) (ok_putfield dX7_qPuts_17 (fp (own := "GardenChessModel") (idx := 533) (g := 9) (k := 117) (r := (RX7, TX7, 122)) rfl ⟨⟨by decide, by decide⟩, by decide⟩ (Or.inl q1929) (Or.inl rfl) rfl (Or.inl rfl) (fp_nil))) 20 rfl ?_
  exact oc_ret dX7_qPuts_20 rfl
theorem ok_335 : ∀ q ∈ pr_335, okL gmt mt_335 q.1 q.2 := pk_c o_335_0 (pk_n)
theorem o_336_0 : okL gmt mt_336 0 b_336_0 := by
  refine oc (y := mt_336) (pc := 0) (ok_iload_n dX7_qPartOf_0) 1 rfl ?_
  exact oc_tsw dX7_qPartOf_1 (by decide) (by decide +kernel)
theorem o_336_56 : okL gmt mt_336 56 b_336_56 := by
  refine oc (y := mt_336) (pc := 56) (ok_aload_n dX7_qPartOf_56) 57 rfl ?_
  refine oc (y := mt_336) (pc := 57) (ok_getfield dX7_qPartOf_57 (fg (own := "GardenChessModel") (idx := 527) (g := 9) (k := 71) (r := (RX7, TX7, 122)) rfl ⟨⟨by decide, by decide⟩, by decide⟩ (Or.inl q1883) (Or.inl rfl) rfl (fg_nil))) 60 rfl ?_
  exact oc_lret dX7_qPartOf_60 rfl
theorem o_336_61 : okL gmt mt_336 61 b_336_61 := by
  refine oc (y := mt_336) (pc := 61) (ok_aload_n dX7_qPartOf_61) 62 rfl ?_
  refine oc (y := mt_336) (pc := 62) (ok_getfield dX7_qPartOf_62 (fg (own := "GardenChessModel") (idx := 556) (g := 9) (k := 72) (r := (RX7, TX7, 122)) rfl ⟨⟨by decide, by decide⟩, by decide⟩ (Or.inl q1884) (Or.inl rfl) rfl (fg_nil))) 65 rfl ?_
  exact oc_lret dX7_qPartOf_65 rfl
theorem o_336_66 : okL gmt mt_336 66 b_336_66 := by
  refine oc (y := mt_336) (pc := 66) (ok_aload_n dX7_qPartOf_66) 67 rfl ?_
  refine oc (y := mt_336) (pc := 67) (ok_getfield dX7_qPartOf_67 (fg (own := "GardenChessModel") (idx := 530) (g := 9) (k := 73) (r := (RX7, TX7, 122)) rfl ⟨⟨by decide, by decide⟩, by decide⟩ (Or.inl q1885) (Or.inl rfl) rfl (fg_nil))) 70 rfl ?_
  exact oc_lret dX7_qPartOf_70 rfl
theorem o_336_71 : okL gmt mt_336 71 b_336_71 := by
  refine oc (y := mt_336) (pc := 71) (ok_aload_n dX7_qPartOf_71) 72 rfl ?_
  refine oc (y := mt_336) (pc := 72) (ok_getfield dX7_qPartOf_72 (fg (own := "GardenChessModel") (idx := 154) (g := 9) (k := 62) (r := (RX7, TX7, 122)) rfl ⟨⟨by decide, by decide⟩, by decide⟩ (Or.inl q1874) (Or.inl rfl) rfl (fg_nil))) 75 rfl ?_
  refine oc (y := mt_336) (pc := 75) (ok_iconst dX7_qPartOf_75 rfl ⟨by decide, by decide⟩) 76 rfl ?_
  refine oc (y := mt_336) (pc := 76) (ok_iaload dX7_qPartOf_76) 77 rfl ?_
  refine oc (y := mt_336) (pc := 77) (ok_i2l dX7_qPartOf_77) 78 rfl ?_
  exact oc_lret dX7_qPartOf_78 rfl
theorem o_336_79 : okL gmt mt_336 79 b_336_79 := by
  refine oc (y := mt_336) (pc := 79) (ok_iload_n dX7_qPartOf_79) 80 rfl ?_
  refine oc (y := mt_336) (pc := 80) (ok_i2l dX7_qPartOf_80) 81 rfl ?_
  exact oc_lret dX7_qPartOf_81 rfl
theorem o_336_82 : okL gmt mt_336 82 b_336_82 := by
  refine oc (y := mt_336) (pc := 82) (ok_aload_n dX7_qPartOf_82) 83 rfl ?_
  refine oc (y := mt_336) (pc := 83) (ok_iload_n dX7_qPartOf_83) 84 rfl ?_
  refine oc_V (y := mt_336) (pc := 84) (vcons (y := mt_336) (pc := 84) (len := 3) (n := 2) (M := mt_285) (by decide) rfl (Or.inr rfl) rfl (ck_V dX7_qPartOf_84 ⟨by decide, by decide, by decide, by decide +kernel⟩ q2381 q2383 qs98 q177 q2384) vnil) (hok0 rfl) (by decide) 87 rfl ?_
  refine oc (y := mt_336) (pc := 87) (ok_i2l dX7_qPartOf_87) 88 rfl ?_
  exact oc_lret dX7_qPartOf_88 rfl
theorem o_336_89 : okL gmt mt_336 89 b_336_89 := by
  refine oc (y := mt_336) (pc := 89) (ok_aload_n dX7_qPartOf_89) 90 rfl ?_
  refine oc (y := mt_336) (pc := 90) (ok_iload_n dX7_qPartOf_90) 91 rfl ?_
  refine oc_V (y := mt_336) (pc := 91) (vcons (y := mt_336) (pc := 91) (len := 3) (n := 2) (M := mt_292) (by decide) rfl (Or.inr rfl) rfl (ck_V dX7_qPartOf_91 ⟨by decide, by decide, by decide, by decide +kernel⟩ q2408 q2410 qs104 q177 q2411) vnil) (hok0 rfl) (by decide) 94 rfl ?_
  refine oc (y := mt_336) (pc := 94) (ok_i2l dX7_qPartOf_94) 95 rfl ?_
  exact oc_lret dX7_qPartOf_95 rfl
theorem o_336_96 : okL gmt mt_336 96 b_336_96 := by
  refine oc (y := mt_336) (pc := 96) (ok_aload_n dX7_qPartOf_96) 97 rfl ?_
  refine oc (y := mt_336) (pc := 97) (ok_iload_n dX7_qPartOf_97) 98 rfl ?_
  refine oc_V (y := mt_336) (pc := 98) (vcons (y := mt_336) (pc := 98) (len := 3) (n := 2) (M := mt_287) (by decide) rfl (Or.inr rfl) rfl (ck_V dX7_qPartOf_98 ⟨by decide, by decide, by decide, by decide +kernel⟩ q2389 q2391 qs100 q177 q2392) vnil) (hok0 rfl) (by decide) 101 rfl ?_
  refine oc (y := mt_336) (pc := 101) (ok_i2l dX7_qPartOf_101) 102 rfl ?_
  exact oc_lret dX7_qPartOf_102 rfl
theorem o_336_103 : okL gmt mt_336 103 b_336_103 := by
  refine oc (y := mt_336) (pc := 103) (ok_aload_n dX7_qPartOf_103) 104 rfl ?_
  refine oc (y := mt_336) (pc := 104) (ok_iload_n dX7_qPartOf_104) 105 rfl ?_
  refine oc_V (y := mt_336) (pc := 105) (vcons (y := mt_336) (pc := 105) (len := 3) (n := 2) (M := mt_315) (by decide) rfl (Or.inr rfl) rfl (ck_V dX7_qPartOf_105 ⟨by decide, by decide, by decide, by decide +kernel⟩ q2502 q2504 qs117 q177 q2505) vnil) (hok0 rfl) (by decide) 108 rfl ?_
  refine oc (y := mt_336) (pc := 108) (ok_i2l dX7_qPartOf_108) 109 rfl ?_
  exact oc_lret dX7_qPartOf_109 rfl
theorem o_336_110 : okL gmt mt_336 110 b_336_110 := by
  refine oc (y := mt_336) (pc := 110) (ok_aload_n dX7_qPartOf_110) 111 rfl ?_
  refine oc (y := mt_336) (pc := 111) (ok_getfield dX7_qPartOf_111 (fg (own := "GardenChessModel") (idx := 130) (g := 9) (k := 48) (r := (RX7, TX7, 122)) rfl ⟨⟨by decide, by decide⟩, by decide⟩ (Or.inl q1860) (Or.inl rfl) rfl (fg_nil))) 114 rfl ?_
  refine oc (y := mt_336) (pc := 114) (ok_bipush dX7_qPartOf_114 (by decide) ⟨by decide, by decide⟩) 116 rfl ?_
  refine oc (y := mt_336) (pc := 116) (ok_iconst dX7_qPartOf_116 rfl ⟨by decide, by decide⟩) 117 rfl ?_
  refine oc (y := mt_336) (pc := 117) (ok_aload_n dX7_qPartOf_117) 118 rfl ?_
  refine oc (y := mt_336) (pc := 118) (ok_iload_n dX7_qPartOf_118) 119 rfl ?_
  refine oc_V (y := mt_336) (pc := 119) (vcons (y := mt_336) (pc := 119) (len := 3) (n := 2) (M := mt_283) (by decide) rfl (Or.inr rfl) rfl (ck_V dX7_qPartOf_119 ⟨by decide, by decide, by decide, by decide +kernel⟩ q2373 q2375 qs96 q177 q2376) vnil) (hok0 rfl) (by decide) 122 rfl ?_
  refine oc (y := mt_336) (pc := 122) (ok_imul dX7_qPartOf_122) 123 rfl ?_
  refine oc (y := mt_336) (pc := 123) (ok_iadd dX7_qPartOf_123) 124 rfl ?_
  refine oc (y := mt_336) (pc := 124) (ok_iaload dX7_qPartOf_124) 125 rfl ?_
  refine oc (y := mt_336) (pc := 125) (ok_i2l dX7_qPartOf_125) 126 rfl ?_
  exact oc_lret dX7_qPartOf_126 rfl
theorem o_336_127 : okL gmt mt_336 127 b_336_127 := by
  refine oc (y := mt_336) (pc := 127) (ok_aload_n dX7_qPartOf_127) 128 rfl ?_
  refine oc (y := mt_336) (pc := 128) (ok_getfield dX7_qPartOf_128 (fg (own := "GardenChessModel") (idx := 172) (g := 9) (k := 74) (r := (RX7, TX7, 122)) rfl ⟨⟨by decide, by decide⟩, by decide⟩ (Or.inl q1886) (Or.inl rfl) rfl (fg_nil))) 131 rfl ?_
  refine oc (y := mt_336) (pc := 131) (ok_iload_n dX7_qPartOf_131) 132 rfl ?_
  refine oc (y := mt_336) (pc := 132) (ok_iaload dX7_qPartOf_132) 133 rfl ?_
  refine oc (y := mt_336) (pc := 133) (ok_i2l dX7_qPartOf_133) 134 rfl ?_
  exact oc_lret dX7_qPartOf_134 rfl
theorem ok_336 : ∀ q ∈ pr_336, okL gmt mt_336 q.1 q.2 := pk_c o_336_0 (pk_c o_336_56 (pk_c o_336_61 (pk_c o_336_66 (pk_c o_336_71 (pk_c o_336_79 (pk_c o_336_82 (pk_c o_336_89 (pk_c o_336_96 (pk_c o_336_103 (pk_c o_336_110 (pk_c o_336_127 (pk_n))))))))))))
