set_option maxRecDepth 100000
theorem o_377_0 : okL gmt mt_377 0 b_377_0 := by
  refine oc (y := mt_377) (pc := 0) (ok_aload_n dX7_image_0) 1 rfl ?_
  refine oc (y := mt_377) (pc := 1) (ok_iconst dX7_image_1 rfl ⟨by decide, by decide⟩) 2 rfl ?_
  refine oc (y := mt_377) (pc := 2) (ok_putfield dX7_image_2 (fp (own := "GardenChessModel") (idx := 771) (g := 9) (k := 121) (r := (RX7, TX7, 122)) rfl ⟨⟨by decide, by decide⟩, by decide⟩ (Or.inl q1933) (Or.inl rfl) rfl (Or.inl rfl) (fp_nil))) 5 rfl ?_
  refine oc (y := mt_377) (pc := 5) (ok_aload_n dX7_image_5) 6 rfl ?_
  refine oc (y := mt_377) (pc := 6) (ok_aload_n dX7_image_6) 7 rfl ?_
  refine oc (y := mt_377) (pc := 7) (ok_getfield dX7_image_7 (fg (own := "GardenChessModel") (idx := 154) (g := 9) (k := 62) (r := (RX7, TX7, 122)) rfl ⟨⟨by decide, by decide⟩, by decide⟩ (Or.inl q1874) (Or.inl rfl) rfl (fg_nil))) 10 rfl ?_
  refine oc (y := mt_377) (pc := 10) (ok_iconst dX7_image_10 rfl ⟨by decide, by decide⟩) 11 rfl ?_
  refine oc (y := mt_377) (pc := 11) (ok_iaload dX7_image_11) 12 rfl ?_
  refine oc (y := mt_377) (pc := 12) (ok_sipush dX7_image_12 (by decide) ⟨by decide, by decide⟩) 15 rfl ?_
  refine oc (y := mt_377) (pc := 15) (ok_idiv dX7_image_15) 16 rfl ?_
  refine oc_V (y := mt_377) (pc := 16) (vcons (y := mt_377) (pc := 16) (len := 3) (n := 2) (M := mt_378) (by decide) rfl (Or.inr rfl) rfl (ck_V dX7_image_16 ⟨by decide, by decide, by decide, by decide +kernel⟩ q2763 q2765 qs159 q177 q2766) vnil) (hok0 rfl) (by decide) 19 rfl ?_
  refine oc (y := mt_377) (pc := 19) (ok_aload_n dX7_image_19) 20 rfl ?_
  refine oc (y := mt_377) (pc := 20) (ok_aload_n dX7_image_20) 21 rfl ?_
  refine oc (y := mt_377) (pc := 21) (ok_getfield dX7_image_21 (fg (own := "GardenChessModel") (idx := 154) (g := 9) (k := 62) (r := (RX7, TX7, 122)) rfl ⟨⟨by decide, by decide⟩, by decide⟩ (Or.inl q1874) (Or.inl rfl) rfl (fg_nil))) 24 rfl ?_
  refine oc (y := mt_377) (pc := 24) (ok_iconst dX7_image_24 rfl ⟨by decide, by decide⟩) 25 rfl ?_
  refine oc (y := mt_377) (pc := 25) (ok_iaload dX7_image_25) 26 rfl ?_
  refine oc (y := mt_377) (pc := 26) (ok_sipush dX7_image_26 (by decide) ⟨by decide, by decide⟩) 29 rfl ?_
  refine oc (y := mt_377) (pc := 29) (ok_irem dX7_image_29) 30 rfl ?_
  refine oc_V (y := mt_377) (pc := 30) (vcons (y := mt_377) (pc := 30) (len := 3) (n := 2) (M := mt_378) (by decide) rfl (Or.inr rfl) rfl (ck_V dX7_image_30 ⟨by decide, by decide, by decide, by decide +kernel⟩ q2763 q2765 qs159 q177 q2766) vnil) (hok0 rfl) (by decide) 33 rfl ?_
  refine oc (y := mt_377) (pc := 33) (ok_aload_n dX7_image_33) 34 rfl ?_
  refine oc (y := mt_377) (pc := 34) (ok_aload_n dX7_image_34) 35 rfl ?_
  refine oc (y := mt_377) (pc := 35) (ok_getfield dX7_image_35 (fg (own := "GardenChessModel") (idx := 154) (g := 9) (k := 62) (r := (RX7, TX7, 122)) rfl ⟨⟨by decide, by decide⟩, by decide⟩ (Or.inl q1874) (Or.inl rfl) rfl (fg_nil))) 38 rfl ?_
  refine oc (y := mt_377) (pc := 38) (ok_iconst dX7_image_38 rfl ⟨by decide, by decide⟩) 39 rfl ?_
  refine oc (y := mt_377) (pc := 39) (ok_iaload dX7_image_39) 40 rfl ?_
  refine oc_V (y := mt_377) (pc := 40) (vcons (y := mt_377) (pc := 40) (len := 3) (n := 2) (M := mt_378) (by decide) rfl (Or.inr rfl) rfl (ck_V dX7_image_40 ⟨by decide, by decide, by decide, by decide +kernel⟩ q2763 q2765 qs159 q177 q2766) vnil) (hok0 rfl) (by decide) 43 rfl ?_
  refine oc (y := mt_377) (pc := 43) (ok_iconst dX7_image_43 rfl ⟨by decide, by decide⟩) 44 rfl ?_
  refine oc (y := mt_377) (pc := 44) (ok_istore_n dX7_image_44 (by decide)) 45 rfl ?_
  exact oc_fall rfl
theorem o_377_45 : okL gmt mt_377 45 b_377_45 := by
  refine oc (y := mt_377) (pc := 45) (ok_iload_n dX7_image_45) 46 rfl ?_
  refine oc (y := mt_377) (pc := 46) (ok_iconst dX7_image_46 rfl ⟨by decide, by decide⟩) 47 rfl ?_
  refine oc (y := mt_377) (pc := 47) (ok_aload_n dX7_image_47) 48 rfl ?_
  refine oc_V (y := mt_377) (pc := 48) (vcons (y := mt_377) (pc := 48) (len := 3) (n := 1) (M := mt_281) (by decide) rfl (Or.inr rfl) rfl (ck_V dX7_image_48 ⟨by decide, by decide, by decide, by decide +kernel⟩ q2365 q2367 qs94 q177 q2368) vnil) (hok0 rfl) (by decide) 51 rfl ?_
  refine oc (y := mt_377) (pc := 51) (ok_imul dX7_image_51) 52 rfl ?_
  refine oc_icmp dX7_image_52 ⟨by decide, by decide⟩ 55 rfl ?_
  refine oc (y := mt_377) (pc := 55) (ok_aload_n dX7_image_55) 56 rfl ?_
  refine oc (y := mt_377) (pc := 56) (ok_aload_n dX7_image_56) 57 rfl ?_
  refine oc (y := mt_377) (pc := 57) (ok_getfield dX7_image_57 (fg (own := "GardenChessModel") (idx := 154) (g := 9) (k := 62) (r := (RX7, TX7, 122)) rfl ⟨⟨by decide, by decide⟩, by decide⟩ (Or.inl q1874) (Or.inl rfl) rfl (fg_nil))) 60 rfl ?_
  refine oc (y := mt_377) (pc := 60) (ok_iconst dX7_image_60 rfl ⟨by decide, by decide⟩) 61 rfl ?_
  refine oc (y := mt_377) (pc := 61) (ok_iload_n dX7_image_61) 62 rfl ?_
  refine oc (y := mt_377) (pc := 62) (ok_iadd dX7_image_62) 63 rfl ?_
  refine oc (y := mt_377) (pc := 63) (ok_iaload dX7_image_63) 64 rfl ?_
  refine oc (y := mt_377) (pc := 64) (ok_iconst dX7_image_64 rfl ⟨by decide, by decide⟩) 65 rfl ?_
  refine oc_icmp dX7_image_65 ⟨by decide, by decide⟩ 68 rfl ?_
  refine oc (y := mt_377) (pc := 68) (ok_sipush dX7_image_68 (by decide) ⟨by decide, by decide⟩) 71 rfl ?_
  exact oc_goto dX7_image_71 ⟨by decide, by decide⟩
theorem o_377_74 : okL gmt mt_377 74 b_377_74 := by
  refine oc (y := mt_377) (pc := 74) (ok_aload_n dX7_image_74) 75 rfl ?_
  refine oc (y := mt_377) (pc := 75) (ok_getfield dX7_image_75 (fg (own := "GardenChessModel") (idx := 154) (g := 9) (k := 62) (r := (RX7, TX7, 122)) rfl ⟨⟨by decide, by decide⟩, by decide⟩ (Or.inl q1874) (Or.inl rfl) rfl (fg_nil))) 78 rfl ?_
  refine oc (y := mt_377) (pc := 78) (ok_iconst dX7_image_78 rfl ⟨by decide, by decide⟩) 79 rfl ?_
  refine oc (y := mt_377) (pc := 79) (ok_iload_n dX7_image_79) 80 rfl ?_
  refine oc (y := mt_377) (pc := 80) (ok_iadd dX7_image_80) 81 rfl ?_
  refine oc (y := mt_377) (pc := 81) (ok_iaload dX7_image_81) 82 rfl ?_
  exact oc_fall rfl
theorem o_377_82 : okL gmt mt_377 82 b_377_82 := by
  refine oc_V (y := mt_377) (pc := 82) (vcons (y := mt_377) (pc := 82) (len := 3) (n := 2) (M := mt_378) (by decide) rfl (Or.inr rfl) rfl (ck_V dX7_image_82 ⟨by decide, by decide, by decide, by decide +kernel⟩ q2763 q2765 qs159 q177 q2766) vnil) (hok0 rfl) (by decide) 85 rfl ?_
  refine oc (y := mt_377) (pc := 85) (ok_iinc dX7_image_85 (by decide)) 88 rfl ?_
  exact oc_goto dX7_image_88 ⟨by decide, by decide⟩
theorem o_377_91 : okL gmt mt_377 91 b_377_91 := by
  refine oc (y := mt_377) (pc := 91) (ok_iconst dX7_image_91 rfl ⟨by decide, by decide⟩) 92 rfl ?_
  refine oc (y := mt_377) (pc := 92) (ok_istore_n dX7_image_92 (by decide)) 93 rfl ?_
  exact oc_fall rfl
theorem o_377_93 : okL gmt mt_377 93 b_377_93 := by
  refine oc (y := mt_377) (pc := 93) (ok_iload_n dX7_image_93) 94 rfl ?_
  refine oc (y := mt_377) (pc := 94) (ok_aload_n dX7_image_94) 95 rfl ?_
  refine oc_V (y := mt_377) (pc := 95) (vcons (y := mt_377) (pc := 95) (len := 3) (n := 1) (M := mt_299) (by decide) rfl (Or.inr rfl) rfl (ck_V dX7_image_95 ⟨by decide, by decide, by decide, by decide +kernel⟩ q2434 q2436 qs109 q177 q2437) vnil) (hok0 rfl) (by decide) 98 rfl ?_
  refine oc_icmp dX7_image_98 ⟨by decide, by decide⟩ 101 rfl ?_
  refine oc (y := mt_377) (pc := 101) (ok_aload_n dX7_image_101) 102 rfl ?_
  refine oc (y := mt_377) (pc := 102) (ok_aload_n dX7_image_102) 103 rfl ?_
  refine oc (y := mt_377) (pc := 103) (ok_getfield dX7_image_103 (fg (own := "GardenChessModel") (idx := 154) (g := 9) (k := 62) (r := (RX7, TX7, 122)) rfl ⟨⟨by decide, by decide⟩, by decide⟩ (Or.inl q1874) (Or.inl rfl) rfl (fg_nil))) 106 rfl ?_
  refine oc (y := mt_377) (pc := 106) (ok_bipush dX7_image_106 (by decide) ⟨by decide, by decide⟩) 108 rfl ?_
  refine oc (y := mt_377) (pc := 108) (ok_iload_n dX7_image_108) 109 rfl ?_
  refine oc (y := mt_377) (pc := 109) (ok_iadd dX7_image_109) 110 rfl ?_
  refine oc (y := mt_377) (pc := 110) (ok_iaload dX7_image_110) 111 rfl ?_
  refine oc (y := mt_377) (pc := 111) (ok_sipush dX7_image_111 (by decide) ⟨by decide, by decide⟩) 114 rfl ?_
  refine oc (y := mt_377) (pc := 114) (ok_idiv dX7_image_114) 115 rfl ?_
  refine oc_V (y := mt_377) (pc := 115) (vcons (y := mt_377) (pc := 115) (len := 3) (n := 2) (M := mt_378) (by decide) rfl (Or.inr rfl) rfl (ck_V dX7_image_115 ⟨by decide, by decide, by decide, by decide +kernel⟩ q2763 q2765 qs159 q177 q2766) vnil) (hok0 rfl) (by decide) 118 rfl ?_
  refine oc (y := mt_377) (pc := 118) (ok_aload_n dX7_image_118) 119 rfl ?_
  refine oc (y := mt_377) (pc := 119) (ok_aload_n dX7_image_119) 120 rfl ?_
  refine oc (y := mt_377) (pc := 120) (ok_getfield dX7_image_120 (fg (own := "GardenChessModel") (idx := 154) (g := 9) (k := 62) (r := (RX7, TX7, 122)) rfl ⟨⟨by decide, by decide⟩, by decide⟩ (Or.inl q1874) (Or.inl rfl) rfl (fg_nil))) 123 rfl ?_
  refine oc (y := mt_377) (pc := 123) (ok_bipush dX7_image_123 (by decide) ⟨by decide, by decide⟩) 125 rfl ?_
  refine oc (y := mt_377) (pc := 125) (ok_iload_n dX7_image_125) 126 rfl ?_
  refine oc (y := mt_377) (pc := 126) (ok_iadd dX7_image_126) 127 rfl ?_
  refine oc (y := mt_377) (pc := 127) (ok_iaload dX7_image_127) 128 rfl ?_
  refine oc (y := mt_377) (pc := 128) (ok_sipush dX7_image_128 (by decide) ⟨by decide, by decide⟩) 131 rfl ?_
  refine oc (y := mt_377) (pc := 131) (ok_irem dX7_image_131) 132 rfl ?_
  refine oc_V (y := mt_377) (pc := 132) (vcons (y := mt_377) (pc := 132) (len := 3) (n := 2) (M := mt_378) (by decide) rfl (Or.inr rfl) rfl (ck_V dX7_image_132 ⟨by decide, by decide, by decide, by decide +kernel⟩ q2763 q2765 qs159 q177 q2766) vnil) (hok0 rfl) (by decide) 135 rfl ?_
  refine oc (y := mt_377) (pc := 135) (ok_iinc dX7_image_135 (by decide)) 138 rfl ?_
  exact oc_goto dX7_image_138 ⟨by decide, by decide⟩
theorem o_377_141 : okL gmt mt_377 141 b_377_141 := by
  refine oc (y := mt_377) (pc := 141) (ok_aload_n dX7_image_141) 142 rfl ?_
  refine oc (y := mt_377) (pc := 142) (ok_aload_n dX7_image_142) 143 rfl ?_
  refine oc (y := mt_377) (pc := 143) (ok_getfield dX7_image_143 (fg (own := "GardenChessModel") (idx := 272) (g := 9) (k := 120) (r := (RX7, TX7, 122)) rfl ⟨⟨by decide, by decide⟩, by decide⟩ (Or.inl q1932) (Or.inl rfl) rfl (fg_nil))) 146 rfl ?_
  refine oc (y := mt_377) (pc := 146) (ok_aload_n dX7_image_146) 147 rfl ?_
  refine oc (y := mt_377) (pc := 147) (ok_getfield dX7_image_147 (fg (own := "GardenChessModel") (idx := 771) (g := 9) (k := 121) (r := (RX7, TX7, 122)) rfl ⟨⟨by decide, by decide⟩, by decide⟩ (Or.inl q1933) (Or.inl rfl) rfl (fg_nil))) 150 rfl ?_
  refine oc_S (y := mt_377) (pc := 150) (M := mt_379) rfl (ck_S dX7_image_150 ⟨by decide, by decide, by decide, by decide +kernel⟩ q2767 q2768 q177 q2769) (hok0 rfl) (by decide) 153 rfl ?_
  refine oc_V (y := mt_377) (pc := 153) (vcons (y := mt_377) (pc := 153) (len := 3) (n := 2) (M := mt_378) (by decide) rfl (Or.inr rfl) rfl (ck_V dX7_image_153 ⟨by decide, by decide, by decide, by decide +kernel⟩ q2763 q2765 qs159 q177 q2766) vnil) (hok0 rfl) (by decide) 156 rfl ?_
  refine oc (y := mt_377) (pc := 156) (ok_aload_n dX7_image_156) 157 rfl ?_
  refine oc (y := mt_377) (pc := 157) (ok_getfield dX7_image_157 (fg (own := "GardenChessModel") (idx := 771) (g := 9) (k := 121) (r := (RX7, TX7, 122)) rfl ⟨⟨by decide, by decide⟩, by decide⟩ (Or.inl q1933) (Or.inl rfl) rfl (fg_nil))) 160 rfl ?_
  exact oc_iret dX7_image_160 rfl
theorem ok_377 : ∀ q ∈ pr_377, okL gmt mt_377 q.1 q.2 := pk_c o_377_0 (pk_c o_377_45 (pk_c o_377_74 (pk_c o_377_82 (pk_c o_377_91 (pk_c o_377_93 (pk_c o_377_141 (pk_n)))))))
theorem o_378_0 : okL gmt mt_378 0 b_378_0 := by
  refine oc (y := mt_378) (pc := 0) (ok_aload_n dX7_writes_0) 1 rfl ?_
  refine oc (y := mt_378) (pc := 1) (ok_getfield dX7_writes_1 (fg (own := "GardenChessModel") (idx := 272) (g := 9) (k := 120) (r := (RX7, TX7, 122)) rfl ⟨⟨by decide, by decide⟩, by decide⟩ (Or.inl q1932) (Or.inl rfl) rfl (fg_nil))) 4 rfl ?_
  refine oc (y := mt_378) (pc := 4) (ok_aload_n dX7_writes_4) 5 rfl ?_
  refine oc (y := mt_378) (pc := 5) (ok_getfield dX7_writes_5 (fg (own := "GardenChessModel") (idx := 771) (g := 9) (k := 121) (r := (RX7, TX7, 122)) rfl ⟨⟨by decide, by decide⟩, by decide⟩ (Or.inl q1933) (Or.inl rfl) rfl (fg_nil))) 8 rfl ?_
  refine oc (y := mt_378) (pc := 8) (ok_iload_n dX7_writes_8) 9 rfl ?_
  refine oc (y := mt_378) (pc := 9) (ok_iastore dX7_writes_9) 10 rfl ?_
  refine oc (y := mt_378) (pc := 10) (ok_aload_n dX7_writes_10) 11 rfl ?_
  refine oc (y := mt_378) (pc := 11) (ok_dup dX7_writes_11) 12 rfl ?_
  refine oc (y := mt_378) (pc := 12) (ok_getfield dX7_writes_12 (fg (own := "GardenChessModel") (idx := 771) (g := 9) (k := 121) (r := (RX7, TX7, 122)) rfl ⟨⟨by decide, by decide⟩, by decide⟩ (Or.inl q1933) (Or.inl rfl) rfl (fg_nil))) 15 rfl ?_
  refine oc (y := mt_378) (pc := 15) (ok_iconst dX7_writes_15 rfl ⟨by decide, by decide⟩) 16 rfl ?_
  refine oc (y := mt_378) (pc := 16) (ok_iadd dX7_writes_16) 17 rfl ?_
  refine oc (y := mt_378) (pc := 17) (ok_putfield dX7_writes_17 (fp (own := "GardenChessModel") (idx := 771) (g := 9) (k := 121) (r := (RX7, TX7, 122)) rfl ⟨⟨by decide, by decide⟩, by decide⟩ (Or.inl q1933) (Or.inl rfl) rfl (Or.inl rfl) (fp_nil))) 20 rfl ?_
  exact oc_ret dX7_writes_20 rfl
theorem ok_378 : ∀ q ∈ pr_378, okL gmt mt_378 q.1 q.2 := pk_c o_378_0 (pk_n)
theorem o_379_0 : okL gmt mt_379 0 b_379_0 := by
  refine oc (y := mt_379) (pc := 0) (ok_bipush dX7_checked_0 (by decide) ⟨by decide, by decide⟩) 2 rfl ?_
  refine oc (y := mt_379) (pc := 2) (ok_istore_n dX7_checked_2 (by decide)) 3 rfl ?_
  refine oc (y := mt_379) (pc := 3) (ok_iconst dX7_checked_3 rfl ⟨by decide, by decide⟩) 4 rfl ?_
  refine oc (y := mt_379) (pc := 4) (ok_istore_n dX7_checked_4 (by decide)) 5 rfl ?_
  exact oc_fall rfl
theorem o_379_5 : okL gmt mt_379 5 b_379_5 := by
  refine oc (y := mt_379) (pc := 5) (ok_iload_n dX7_checked_5) 6 rfl ?_
  refine oc (y := mt_379) (pc := 6) (ok_iload_n dX7_checked_6) 7 rfl ?_
  refine oc_icmp dX7_checked_7 ⟨by decide, by decide⟩ 10 rfl ?_
  refine oc (y := mt_379) (pc := 10) (ok_iconst dX7_checked_10 rfl ⟨by decide, by decide⟩) 11 rfl ?_
  refine oc (y := mt_379) (pc := 11) (ok_iload_n dX7_checked_11) 12 rfl ?_
  refine oc (y := mt_379) (pc := 12) (ok_imul dX7_checked_12) 13 rfl ?_
  refine oc (y := mt_379) (pc := 13) (ok_aload_n dX7_checked_13) 14 rfl ?_
  refine oc (y := mt_379) (pc := 14) (ok_iload_n dX7_checked_14) 15 rfl ?_
  refine oc (y := mt_379) (pc := 15) (ok_iaload dX7_checked_15) 16 rfl ?_
  refine oc (y := mt_379) (pc := 16) (ok_iadd dX7_checked_16) 17 rfl ?_
  refine oc (y := mt_379) (pc := 17) (ok_sipush dX7_checked_17 (by decide) ⟨by decide, by decide⟩) 20 rfl ?_
  refine oc (y := mt_379) (pc := 20) (ok_irem dX7_checked_20) 21 rfl ?_
  refine oc (y := mt_379) (pc := 21) (ok_istore_n dX7_checked_21 (by decide)) 22 rfl ?_
  refine oc (y := mt_379) (pc := 22) (ok_iinc dX7_checked_22 (by decide)) 25 rfl ?_
  exact oc_goto dX7_checked_25 ⟨by decide, by decide⟩
theorem o_379_28 : okL gmt mt_379 28 b_379_28 := by
  refine oc (y := mt_379) (pc := 28) (ok_iload_n dX7_checked_28) 29 rfl ?_
  exact oc_iret dX7_checked_29 rfl
theorem ok_379 : ∀ q ∈ pr_379, okL gmt mt_379 q.1 q.2 := pk_c o_379_0 (pk_c o_379_5 (pk_c o_379_28 (pk_n)))
theorem o_380_0 : okL gmt mt_380 0 b_380_0 := by
  refine oc (y := mt_380) (pc := 0) (ok_iload_n dX7_octet_0) 1 rfl ?_
  refine oc_if dX7_octet_1 ⟨by decide, by decide⟩ 4 rfl ?_
  refine oc (y := mt_380) (pc := 4) (ok_iload_n dX7_octet_4) 5 rfl ?_
  refine oc (y := mt_380) (pc := 5) (ok_aload_n dX7_octet_5) 6 rfl ?_
  refine oc (y := mt_380) (pc := 6) (ok_getfield dX7_octet_6 (fg (own := "GardenChessModel") (idx := 771) (g := 9) (k := 121) (r := (RX7, TX7, 122)) rfl ⟨⟨by decide, by decide⟩, by decide⟩ (Or.inl q1933) (Or.inl rfl) rfl (fg_nil))) 9 rfl ?_
  refine oc_icmp dX7_octet_9 ⟨by decide, by decide⟩ 12 rfl ?_
  refine oc (y := mt_380) (pc := 12) (ok_aload_n dX7_octet_12) 13 rfl ?_
  refine oc (y := mt_380) (pc := 13) (ok_getfield dX7_octet_13 (fg (own := "GardenChessModel") (idx := 272) (g := 9) (k := 120) (r := (RX7, TX7, 122)) rfl ⟨⟨by decide, by decide⟩, by decide⟩ (Or.inl q1932) (Or.inl rfl) rfl (fg_nil))) 16 rfl ?_
  refine oc (y := mt_380) (pc := 16) (ok_iload_n dX7_octet_16) 17 rfl ?_
  refine oc (y := mt_380) (pc := 17) (ok_iaload dX7_octet_17) 18 rfl ?_
  exact oc_goto dX7_octet_18 ⟨by decide, by decide⟩
theorem o_380_21 : okL gmt mt_380 21 b_380_21 := by
  refine oc (y := mt_380) (pc := 21) (ok_iconst dX7_octet_21 rfl ⟨by decide, by decide⟩) 22 rfl ?_
  exact oc_fall rfl
theorem o_380_22 : okL gmt mt_380 22 b_380_22 := by
  exact oc_iret dX7_octet_22 rfl
theorem ok_380 : ∀ q ∈ pr_380, okL gmt mt_380 q.1 q.2 := pk_c o_380_0 (pk_c o_380_21 (pk_c o_380_22 (pk_n)))
theorem o_381_0 : okL gmt mt_381 0 b_381_0 := by
  refine oc (y := mt_381) (pc := 0) (ok_aload_n dX7_on_0) 1 rfl ?_
  refine oc (y := mt_381) (pc := 1) (ok_getfield dX7_on_1 (fg (own := "GardenChessModel") (idx := 275) (g := 9) (k := 1) (r := (RX7, TX7, 122)) rfl ⟨⟨by decide, by decide⟩, by decide⟩ (Or.inl q1813) (Or.inl rfl) rfl (fg_nil))) 4 rfl ?_
  refine oc (y := mt_381) (pc := 4) (ok_istore_n dX7_on_4 (by decide)) 5 rfl ?_
  refine oc (y := mt_381) (pc := 5) (ok_aload_n dX7_on_5) 6 rfl ?_
  refine oc (y := mt_381) (pc := 6) (ok_iconst dX7_on_6 rfl ⟨by decide, by decide⟩) 7 rfl ?_
  refine oc (y := mt_381) (pc := 7) (ok_putfield dX7_on_7 (fp (own := "GardenChessModel") (idx := 275) (g := 9) (k := 1) (r := (RX7, TX7, 122)) rfl ⟨⟨by decide, by decide⟩, by decide⟩ (Or.inl q1813) (Or.inl rfl) rfl (Or.inl rfl) (fp_nil))) 10 rfl ?_
  refine oc (y := mt_381) (pc := 10) (ok_aload_n dX7_on_10) 11 rfl ?_
  refine oc (y := mt_381) (pc := 11) (ok_iload_n dX7_on_11) 12 rfl ?_
  refine oc_V (y := mt_381) (pc := 12) (vcons (y := mt_381) (pc := 12) (len := 3) (n := 2) (M := mt_382) (by decide) rfl (Or.inr rfl) rfl (ck_V dX7_on_12 ⟨by decide, by decide, by decide, by decide +kernel⟩ q2778 q2780 qs160 q177 q2781) vnil) (hok0 rfl) (by decide) 15 rfl ?_
  refine oc_if dX7_on_15 ⟨by decide, by decide⟩ 18 rfl ?_
  refine oc (y := mt_381) (pc := 18) (ok_aload_n dX7_on_18) 19 rfl ?_
  refine oc (y := mt_381) (pc := 19) (ok_getfield dX7_on_19 (fg (own := "GardenChessModel") (idx := 17) (g := 9) (k := 9) (r := (RX7, TX7, 122)) rfl ⟨⟨by decide, by decide⟩, by decide⟩ (Or.inl q1821) (Or.inl rfl) rfl (fg_nil))) 22 rfl ?_
  refine oc (y := mt_381) (pc := 22) (ok_iconst dX7_on_22 rfl ⟨by decide, by decide⟩) 23 rfl ?_
  refine oc (y := mt_381) (pc := 23) (ok_dup2 dX7_on_23) 24 rfl ?_
  refine oc (y := mt_381) (pc := 24) (ok_iaload dX7_on_24) 25 rfl ?_
  refine oc (y := mt_381) (pc := 25) (ok_iconst dX7_on_25 rfl ⟨by decide, by decide⟩) 26 rfl ?_
  refine oc (y := mt_381) (pc := 26) (ok_iadd dX7_on_26) 27 rfl ?_
  refine oc (y := mt_381) (pc := 27) (ok_iastore dX7_on_27) 28 rfl ?_
  refine oc (y := mt_381) (pc := 28) (ok_iconst dX7_on_28 rfl ⟨by decide, by decide⟩) 29 rfl ?_
  exact oc_zret dX7_on_29 rfl
theorem o_381_30 : okL gmt mt_381 30 b_381_30 := by
  refine oc (y := mt_381) (pc := 30) (ok_aload_n dX7_on_30) 31 rfl ?_
  refine oc (y := mt_381) (pc := 31) (ok_getfield dX7_on_31 (fg (own := "GardenChessModel") (idx := 154) (g := 9) (k := 62) (r := (RX7, TX7, 122)) rfl ⟨⟨by decide, by decide⟩, by decide⟩ (Or.inl q1874) (Or.inl rfl) rfl (fg_nil))) 34 rfl ?_
  refine oc (y := mt_381) (pc := 34) (ok_iconst dX7_on_34 rfl ⟨by decide, by decide⟩) 35 rfl ?_
  refine oc (y := mt_381) (pc := 35) (ok_sipush dX7_on_35 (by decide) ⟨by decide, by decide⟩) 38 rfl ?_
  refine oc (y := mt_381) (pc := 38) (ok_aload_n dX7_on_38) 39 rfl ?_
  refine oc (y := mt_381) (pc := 39) (ok_getfield dX7_on_39 (fg (own := "GardenChessModel") (idx := 7) (g := 9) (k := 0) (r := (RX7, TX7, 122)) rfl ⟨⟨by decide, by decide⟩, by decide⟩ (Or.inl q1812) (Or.inl rfl) rfl (fg_nil))) 42 rfl ?_
  refine oc (y := mt_381) (pc := 42) (ok_iconst dX7_on_42 rfl ⟨by decide, by decide⟩) 43 rfl ?_
  refine oc (y := mt_381) (pc := 43) (ok_iaload dX7_on_43) 44 rfl ?_
  refine oc (y := mt_381) (pc := 44) (ok_imul dX7_on_44) 45 rfl ?_
  refine oc (y := mt_381) (pc := 45) (ok_aload_n dX7_on_45) 46 rfl ?_
  refine oc (y := mt_381) (pc := 46) (ok_getfield dX7_on_46 (fg (own := "GardenChessModel") (idx := 7) (g := 9) (k := 0) (r := (RX7, TX7, 122)) rfl ⟨⟨by decide, by decide⟩, by decide⟩ (Or.inl q1812) (Or.inl rfl) rfl (fg_nil))) 49 rfl ?_
  refine oc (y := mt_381) (pc := 49) (ok_iconst dX7_on_49 rfl ⟨by decide, by decide⟩) 50 rfl ?_
  refine oc (y := mt_381) (pc := 50) (ok_iaload dX7_on_50) 51 rfl ?_
  refine oc (y := mt_381) (pc := 51) (ok_iadd dX7_on_51) 52 rfl ?_
  refine oc (y := mt_381) (pc := 52) (ok_iastore dX7_on_52) 53 rfl ?_
  refine oc (y := mt_381) (pc := 53) (ok_aload_n dX7_on_53) 54 rfl ?_
  refine oc (y := mt_381) (pc := 54) (ok_getfield dX7_on_54 (fg (own := "GardenChessModel") (idx := 154) (g := 9) (k := 62) (r := (RX7, TX7, 122)) rfl ⟨⟨by decide, by decide⟩, by decide⟩ (Or.inl q1874) (Or.inl rfl) rfl (fg_nil))) 57 rfl ?_
  refine oc (y := mt_381) (pc := 57) (ok_iconst dX7_on_57 rfl ⟨by decide, by decide⟩) 58 rfl ?_
  refine oc (y := mt_381) (pc := 58) (ok_aload_n dX7_on_58) 59 rfl ?_
  refine oc (y := mt_381) (pc := 59) (ok_getfield dX7_on_59 (fg (own := "GardenChessModel") (idx := 7) (g := 9) (k := 0) (r := (RX7, TX7, 122)) rfl ⟨⟨by decide, by decide⟩, by decide⟩ (Or.inl q1812) (Or.inl rfl) rfl (fg_nil))) 62 rfl ?_
  refine oc (y := mt_381) (pc := 62) (ok_iconst dX7_on_62 rfl ⟨by decide, by decide⟩) 63 rfl ?_
  refine oc (y := mt_381) (pc := 63) (ok_iaload dX7_on_63) 64 rfl ?_
  refine oc (y := mt_381) (pc := 64) (ok_iastore dX7_on_64) 65 rfl ?_
  refine oc (y := mt_381) (pc := 65) (ok_iconst dX7_on_65 rfl ⟨by decide, by decide⟩) 66 rfl ?_
  refine oc (y := mt_381) (pc := 66) (ok_istore_n dX7_on_66 (by decide)) 67 rfl ?_
  exact oc_fall rfl
theorem o_381_67 : okL gmt mt_381 67 b_381_67 := by
  refine oc (y := mt_381) (pc := 67) (ok_iload_n dX7_on_67) 68 rfl ?_
  refine oc (y := mt_381) (pc := 68) (ok_iconst dX7_on_68 rfl ⟨by decide, by decide⟩) 69 rfl ?_
  refine oc (y := mt_381) (pc := 69) (ok_aload_n dX7_on_69) 70 rfl ?_
  refine oc_V (y := mt_381) (pc := 70) (vcons (y := mt_381) (pc := 70) (len := 3) (n := 1) (M := mt_281) (by decide) rfl (Or.inr rfl) rfl (ck_V dX7_on_70 ⟨by decide, by decide, by decide, by decide +kernel⟩ q2365 q2367 qs94 q177 q2368) vnil) (hok0 rfl) (by decide) 73 rfl ?_
  refine oc (y := mt_381) (pc := 73) (ok_imul dX7_on_73) 74 rfl ?_
  refine oc_icmp dX7_on_74 ⟨by decide, by decide⟩ 77 rfl ?_
  refine oc (y := mt_381) (pc := 77) (ok_aload_n dX7_on_77) 78 rfl ?_
  refine oc (y := mt_381) (pc := 78) (ok_getfield dX7_on_78 (fg (own := "GardenChessModel") (idx := 154) (g := 9) (k := 62) (r := (RX7, TX7, 122)) rfl ⟨⟨by decide, by decide⟩, by decide⟩ (Or.inl q1874) (Or.inl rfl) rfl (fg_nil))) 81 rfl ?_
  refine oc (y := mt_381) (pc := 81) (ok_iconst dX7_on_81 rfl ⟨by decide, by decide⟩) 82 rfl ?_
  refine oc (y := mt_381) (pc := 82) (ok_iload_n dX7_on_82) 83 rfl ?_
  refine oc (y := mt_381) (pc := 83) (ok_iadd dX7_on_83) 84 rfl ?_
  refine oc (y := mt_381) (pc := 84) (ok_aload_n dX7_on_84) 85 rfl ?_
  refine oc (y := mt_381) (pc := 85) (ok_getfield dX7_on_85 (fg (own := "GardenChessModel") (idx := 7) (g := 9) (k := 0) (r := (RX7, TX7, 122)) rfl ⟨⟨by decide, by decide⟩, by decide⟩ (Or.inl q1812) (Or.inl rfl) rfl (fg_nil))) 88 rfl ?_
  refine oc (y := mt_381) (pc := 88) (ok_iconst dX7_on_88 rfl ⟨by decide, by decide⟩) 89 rfl ?_
  refine oc (y := mt_381) (pc := 89) (ok_iload_n dX7_on_89) 90 rfl ?_
  refine oc (y := mt_381) (pc := 90) (ok_iadd dX7_on_90) 91 rfl ?_
  refine oc (y := mt_381) (pc := 91) (ok_iaload dX7_on_91) 92 rfl ?_
  refine oc (y := mt_381) (pc := 92) (ok_sipush dX7_on_92 (by decide) ⟨by decide, by decide⟩) 95 rfl ?_
  refine oc_icmp dX7_on_95 ⟨by decide, by decide⟩ 98 rfl ?_
  refine oc (y := mt_381) (pc := 98) (ok_iconst dX7_on_98 rfl ⟨by decide, by decide⟩) 99 rfl ?_
  exact oc_goto dX7_on_99 ⟨by decide, by decide⟩
theorem o_381_102 : okL gmt mt_381 102 b_381_102 := by
  refine oc (y := mt_381) (pc := 102) (ok_aload_n dX7_on_102) 103 rfl ?_
  refine oc (y := mt_381) (pc := 103) (ok_getfield dX7_on_103 (fg (own := "GardenChessModel") (idx := 7) (g := 9) (k := 0) (r := (RX7, TX7, 122)) rfl ⟨⟨by decide, by decide⟩, by decide⟩ (Or.inl q1812) (Or.inl rfl) rfl (fg_nil))) 106 rfl ?_
  refine oc (y := mt_381) (pc := 106) (ok_iconst dX7_on_106 rfl ⟨by decide, by decide⟩) 107 rfl ?_
  refine oc (y := mt_381) (pc := 107) (ok_iload_n dX7_on_107) 108 rfl ?_
  refine oc (y := mt_381) (pc := 108) (ok_iadd dX7_on_108) 109 rfl ?_
  refine oc (y := mt_381) (pc := 109) (ok_iaload dX7_on_109) 110 rfl ?_
  exact oc_fall rfl
theorem o_381_110 : okL gmt mt_381 110 b_381_110 := by
  refine oc (y := mt_381) (pc := 110) (ok_iastore dX7_on_110) 111 rfl ?_
  refine oc (y := mt_381) (pc := 111) (ok_iinc dX7_on_111 (by decide)) 114 rfl ?_
  exact oc_goto dX7_on_114 ⟨by decide, by decide⟩
theorem o_381_117 : okL gmt mt_381 117 b_381_117 := by
  refine oc (y := mt_381) (pc := 117) (ok_iconst dX7_on_117 rfl ⟨by decide, by decide⟩) 118 rfl ?_
  refine oc (y := mt_381) (pc := 118) (ok_iconst dX7_on_118 rfl ⟨by decide, by decide⟩) 119 rfl ?_
  refine oc (y := mt_381) (pc := 119) (ok_aload_n dX7_on_119) 120 rfl ?_
  refine oc_V (y := mt_381) (pc := 120) (vcons (y := mt_381) (pc := 120) (len := 3) (n := 1) (M := mt_281) (by decide) rfl (Or.inr rfl) rfl (ck_V dX7_on_120 ⟨by decide, by decide, by decide, by decide +kernel⟩ q2365 q2367 qs94 q177 q2368) vnil) (hok0 rfl) (by decide) 123 rfl ?_
  refine oc (y := mt_381) (pc := 123) (ok_imul dX7_on_123) 124 rfl ?_
  refine oc (y := mt_381) (pc := 124) (ok_iadd dX7_on_124) 125 rfl ?_
  refine oc (y := mt_381) (pc := 125) (ok_istore_n dX7_on_125 (by decide)) 126 rfl ?_
  refine oc (y := mt_381) (pc := 126) (ok_iconst dX7_on_126 rfl ⟨by decide, by decide⟩) 127 rfl ?_
  refine oc (y := mt_381) (pc := 127) (ok_istore_n dX7_on_127 (by decide)) 128 rfl ?_
  exact oc_fall rfl
theorem o_381_128 : okL gmt mt_381 128 b_381_128 := by
  refine oc (y := mt_381) (pc := 128) (ok_iload_n dX7_on_128) 129 rfl ?_
  refine oc (y := mt_381) (pc := 129) (ok_aload_n dX7_on_129) 130 rfl ?_
  refine oc_V (y := mt_381) (pc := 130) (vcons (y := mt_381) (pc := 130) (len := 3) (n := 1) (M := mt_299) (by decide) rfl (Or.inr rfl) rfl (ck_V dX7_on_130 ⟨by decide, by decide, by decide, by decide +kernel⟩ q2434 q2436 qs109 q177 q2437) vnil) (hok0 rfl) (by decide) 133 rfl ?_
  refine oc_icmp dX7_on_133 ⟨by decide, by decide⟩ 136 rfl ?_
  refine oc (y := mt_381) (pc := 136) (ok_aload_n dX7_on_136) 137 rfl ?_
  refine oc (y := mt_381) (pc := 137) (ok_getfield dX7_on_137 (fg (own := "GardenChessModel") (idx := 154) (g := 9) (k := 62) (r := (RX7, TX7, 122)) rfl ⟨⟨by decide, by decide⟩, by decide⟩ (Or.inl q1874) (Or.inl rfl) rfl (fg_nil))) 140 rfl ?_
  refine oc (y := mt_381) (pc := 140) (ok_bipush dX7_on_140 (by decide) ⟨by decide, by decide⟩) 142 rfl ?_
  refine oc (y := mt_381) (pc := 142) (ok_iload_n dX7_on_142) 143 rfl ?_
  refine oc (y := mt_381) (pc := 143) (ok_iadd dX7_on_143) 144 rfl ?_
  refine oc (y := mt_381) (pc := 144) (ok_sipush dX7_on_144 (by decide) ⟨by decide, by decide⟩) 147 rfl ?_
  refine oc (y := mt_381) (pc := 147) (ok_aload_n dX7_on_147) 148 rfl ?_
  refine oc (y := mt_381) (pc := 148) (ok_getfield dX7_on_148 (fg (own := "GardenChessModel") (idx := 7) (g := 9) (k := 0) (r := (RX7, TX7, 122)) rfl ⟨⟨by decide, by decide⟩, by decide⟩ (Or.inl q1812) (Or.inl rfl) rfl (fg_nil))) 151 rfl ?_
  refine oc (y := mt_381) (pc := 151) (ok_iload_n dX7_on_151) 152 rfl ?_
  refine oc (y := mt_381) (pc := 152) (ok_iconst dX7_on_152 rfl ⟨by decide, by decide⟩) 153 rfl ?_
  refine oc (y := mt_381) (pc := 153) (ok_iload_n dX7_on_153) 154 rfl ?_
  refine oc (y := mt_381) (pc := 154) (ok_imul dX7_on_154) 155 rfl ?_
  refine oc (y := mt_381) (pc := 155) (ok_iadd dX7_on_155) 156 rfl ?_
  refine oc (y := mt_381) (pc := 156) (ok_iaload dX7_on_156) 157 rfl ?_
  refine oc (y := mt_381) (pc := 157) (ok_imul dX7_on_157) 158 rfl ?_
  refine oc (y := mt_381) (pc := 158) (ok_aload_n dX7_on_158) 159 rfl ?_
  refine oc (y := mt_381) (pc := 159) (ok_getfield dX7_on_159 (fg (own := "GardenChessModel") (idx := 7) (g := 9) (k := 0) (r := (RX7, TX7, 122)) rfl ⟨⟨by decide, by decide⟩, by decide⟩ (Or.inl q1812) (Or.inl rfl) rfl (fg_nil))) 162 rfl ?_
  refine oc (y := mt_381) (pc := 162) (ok_iload_n dX7_on_162) 163 rfl ?_
  refine oc (y := mt_381) (pc := 163) (ok_iconst dX7_on_163 rfl ⟨by decide, by decide⟩) 164 rfl ?_
  refine oc (y := mt_381) (pc := 164) (ok_iload_n dX7_on_164) 165 rfl ?_
  refine oc (y := mt_381) (pc := 165) (ok_imul dX7_on_165) 166 rfl ?_
  refine oc (y := mt_381) (pc := 166) (ok_iadd dX7_on_166) 167 rfl ?_
  refine oc (y := mt_381) (pc := 167) (ok_iconst dX7_on_167 rfl ⟨by decide, by decide⟩) 168 rfl ?_
  refine oc (y := mt_381) (pc := 168) (ok_iadd dX7_on_168) 169 rfl ?_
  refine oc (y := mt_381) (pc := 169) (ok_iaload dX7_on_169) 170 rfl ?_
  refine oc (y := mt_381) (pc := 170) (ok_iadd dX7_on_170) 171 rfl ?_
  refine oc (y := mt_381) (pc := 171) (ok_iastore dX7_on_171) 172 rfl ?_
  refine oc (y := mt_381) (pc := 172) (ok_iinc dX7_on_172 (by decide)) 175 rfl ?_
  exact oc_goto dX7_on_175 ⟨by decide, by decide⟩
theorem o_381_178 : okL gmt mt_381 178 b_381_178 := by
  refine oc (y := mt_381) (pc := 178) (ok_aload_n dX7_on_178) 179 rfl ?_
  refine oc (y := mt_381) (pc := 179) (ok_getfield dX7_on_179 (fg (own := "GardenChessModel") (idx := 154) (g := 9) (k := 62) (r := (RX7, TX7, 122)) rfl ⟨⟨by decide, by decide⟩, by decide⟩ (Or.inl q1874) (Or.inl rfl) rfl (fg_nil))) 182 rfl ?_
  refine oc (y := mt_381) (pc := 182) (ok_bipush dX7_on_182 (by decide) ⟨by decide, by decide⟩) 184 rfl ?_
  refine oc (y := mt_381) (pc := 184) (ok_iconst dX7_on_184 rfl ⟨by decide, by decide⟩) 185 rfl ?_
  refine oc (y := mt_381) (pc := 185) (ok_iastore dX7_on_185) 186 rfl ?_
  refine oc (y := mt_381) (pc := 186) (ok_aload_n dX7_on_186) 187 rfl ?_
  refine oc (y := mt_381) (pc := 187) (ok_iconst dX7_on_187 rfl ⟨by decide, by decide⟩) 188 rfl ?_
  refine oc (y := mt_381) (pc := 188) (ok_putfield dX7_on_188 (fp (own := "GardenChessModel") (idx := 427) (g := 9) (k := 84) (r := (RX7, TX7, 122)) rfl ⟨⟨by decide, by decide⟩, by decide⟩ (Or.inl q1896) (Or.inl rfl) rfl (Or.inl rfl) (fp_nil))) 191 rfl ?_
  refine oc (y := mt_381) (pc := 191) (ok_iconst dX7_on_191 rfl ⟨by decide, by decide⟩) 192 rfl ?_
  exact oc_zret dX7_on_192 rfl
theorem ok_381 : ∀ q ∈ pr_381, okL gmt mt_381 q.1 q.2 := pk_c o_381_0 (pk_c o_381_30 (pk_c o_381_67 (pk_c o_381_102 (pk_c o_381_110 (pk_c o_381_117 (pk_c o_381_128 (pk_c o_381_178 (pk_n))))))))
theorem o_382_0 : okL gmt mt_382 0 b_382_0 := by
  refine oc (y := mt_382) (pc := 0) (ok_iconst dX7_isImage_0 rfl ⟨by decide, by decide⟩) 1 rfl ?_
  refine oc (y := mt_382) (pc := 1) (ok_iconst dX7_isImage_1 rfl ⟨by decide, by decide⟩) 2 rfl ?_
  refine oc (y := mt_382) (pc := 2) (ok_aload_n dX7_isImage_2) 3 rfl ?_
  refine oc_V (y := mt_382) (pc := 3) (vcons (y := mt_382) (pc := 3) (len := 3) (n := 1) (M := mt_281) (by decide) rfl (Or.inr rfl) rfl (ck_V dX7_isImage_3 ⟨by decide, by decide, by decide, by decide +kernel⟩ q2365 q2367 qs94 q177 q2368) vnil) (hok0 rfl) (by decide) 6 rfl ?_
  refine oc (y := mt_382) (pc := 6) (ok_imul dX7_isImage_6) 7 rfl ?_
  refine oc (y := mt_382) (pc := 7) (ok_iadd dX7_isImage_7) 8 rfl ?_
  refine oc (y := mt_382) (pc := 8) (ok_istore_n dX7_isImage_8 (by decide)) 9 rfl ?_
  refine oc (y := mt_382) (pc := 9) (ok_aload_n dX7_isImage_9) 10 rfl ?_
  refine oc (y := mt_382) (pc := 10) (ok_getfield dX7_isImage_10 (fg (own := "GardenChessModel") (idx := 424) (g := 9) (k := 58) (r := (RX7, TX7, 122)) rfl ⟨⟨by decide, by decide⟩, by decide⟩ (Or.inl q1870) (Or.inl rfl) rfl (fg_nil))) 13 rfl ?_
  refine oc_if dX7_isImage_13 ⟨by decide, by decide⟩ 16 rfl ?_
  refine oc (y := mt_382) (pc := 16) (ok_iload_n dX7_isImage_16) 17 rfl ?_
  refine oc (y := mt_382) (pc := 17) (ok_iload_n dX7_isImage_17) 18 rfl ?_
  refine oc (y := mt_382) (pc := 18) (ok_iconst dX7_isImage_18 rfl ⟨by decide, by decide⟩) 19 rfl ?_
  refine oc (y := mt_382) (pc := 19) (ok_aload_n dX7_isImage_19) 20 rfl ?_
  refine oc_V (y := mt_382) (pc := 20) (vcons (y := mt_382) (pc := 20) (len := 3) (n := 1) (M := mt_299) (by decide) rfl (Or.inr rfl) rfl (ck_V dX7_isImage_20 ⟨by decide, by decide, by decide, by decide +kernel⟩ q2434 q2436 qs109 q177 q2437) vnil) (hok0 rfl) (by decide) 23 rfl ?_
  refine oc (y := mt_382) (pc := 23) (ok_imul dX7_isImage_23) 24 rfl ?_
  refine oc (y := mt_382) (pc := 24) (ok_iadd dX7_isImage_24) 25 rfl ?_
  refine oc (y := mt_382) (pc := 25) (ok_iconst dX7_isImage_25 rfl ⟨by decide, by decide⟩) 26 rfl ?_
  refine oc (y := mt_382) (pc := 26) (ok_iadd dX7_isImage_26) 27 rfl ?_
  refine oc_icmp dX7_isImage_27 ⟨by decide, by decide⟩ 30 rfl ?_
  refine oc (y := mt_382) (pc := 30) (ok_aload_n dX7_isImage_30) 31 rfl ?_
  refine oc (y := mt_382) (pc := 31) (ok_getfield dX7_isImage_31 (fg (own := "GardenChessModel") (idx := 7) (g := 9) (k := 0) (r := (RX7, TX7, 122)) rfl ⟨⟨by decide, by decide⟩, by decide⟩ (Or.inl q1812) (Or.inl rfl) rfl (fg_nil))) 34 rfl ?_
  refine oc (y := mt_382) (pc := 34) (ok_iload_n dX7_isImage_34) 35 rfl ?_
  refine oc (y := mt_382) (pc := 35) (ok_iconst dX7_isImage_35 rfl ⟨by decide, by decide⟩) 36 rfl ?_
  refine oc (y := mt_382) (pc := 36) (ok_isub dX7_isImage_36) 37 rfl ?_
  refine oc (y := mt_382) (pc := 37) (ok_iaload dX7_isImage_37) 38 rfl ?_
  refine oc (y := mt_382) (pc := 38) (ok_aload_n dX7_isImage_38) 39 rfl ?_
  refine oc (y := mt_382) (pc := 39) (ok_getfield dX7_isImage_39 (fg (own := "GardenChessModel") (idx := 7) (g := 9) (k := 0) (r := (RX7, TX7, 122)) rfl ⟨⟨by decide, by decide⟩, by decide⟩ (Or.inl q1812) (Or.inl rfl) rfl (fg_nil))) 42 rfl ?_
  refine oc (y := mt_382) (pc := 42) (ok_iload_n dX7_isImage_42) 43 rfl ?_
  refine oc (y := mt_382) (pc := 43) (ok_iconst dX7_isImage_43 rfl ⟨by decide, by decide⟩) 44 rfl ?_
  refine oc (y := mt_382) (pc := 44) (ok_isub dX7_isImage_44) 45 rfl ?_
  refine oc_S (y := mt_382) (pc := 45) (M := mt_379) rfl (ck_S dX7_isImage_45 ⟨by decide, by decide, by decide, by decide +kernel⟩ q2767 q2768 q177 q2769) (hok0 rfl) (by decide) 48 rfl ?_
  refine oc_icmp dX7_isImage_48 ⟨by decide, by decide⟩ 51 rfl ?_
  refine oc (y := mt_382) (pc := 51) (ok_sipush dX7_isImage_51 (by decide) ⟨by decide, by decide⟩) 54 rfl ?_
  refine oc (y := mt_382) (pc := 54) (ok_aload_n dX7_isImage_54) 55 rfl ?_
  refine oc (y := mt_382) (pc := 55) (ok_getfield dX7_isImage_55 (fg (own := "GardenChessModel") (idx := 7) (g := 9) (k := 0) (r := (RX7, TX7, 122)) rfl ⟨⟨by decide, by decide⟩, by decide⟩ (Or.inl q1812) (Or.inl rfl) rfl (fg_nil))) 58 rfl ?_
  refine oc (y := mt_382) (pc := 58) (ok_iconst dX7_isImage_58 rfl ⟨by decide, by decide⟩) 59 rfl ?_
  refine oc (y := mt_382) (pc := 59) (ok_iaload dX7_isImage_59) 60 rfl ?_
  refine oc (y := mt_382) (pc := 60) (ok_imul dX7_isImage_60) 61 rfl ?_
  refine oc (y := mt_382) (pc := 61) (ok_aload_n dX7_isImage_61) 62 rfl ?_
  refine oc (y := mt_382) (pc := 62) (ok_getfield dX7_isImage_62 (fg (own := "GardenChessModel") (idx := 7) (g := 9) (k := 0) (r := (RX7, TX7, 122)) rfl ⟨⟨by decide, by decide⟩, by decide⟩ (Or.inl q1812) (Or.inl rfl) rfl (fg_nil))) 65 rfl ?_
  refine oc (y := mt_382) (pc := 65) (ok_iconst dX7_isImage_65 rfl ⟨by decide, by decide⟩) 66 rfl ?_
  refine oc (y := mt_382) (pc := 66) (ok_iaload dX7_isImage_66) 67 rfl ?_
  refine oc (y := mt_382) (pc := 67) (ok_iadd dX7_isImage_67) 68 rfl ?_
  refine oc (y := mt_382) (pc := 68) (ok_sipush dX7_isImage_68 (by decide) ⟨by decide, by decide⟩) 71 rfl ?_
  refine oc_icmp dX7_isImage_71 ⟨by decide, by decide⟩ 74 rfl ?_
  refine oc (y := mt_382) (pc := 74) (ok_aload_n dX7_isImage_74) 75 rfl ?_
  refine oc (y := mt_382) (pc := 75) (ok_getfield dX7_isImage_75 (fg (own := "GardenChessModel") (idx := 7) (g := 9) (k := 0) (r := (RX7, TX7, 122)) rfl ⟨⟨by decide, by decide⟩, by decide⟩ (Or.inl q1812) (Or.inl rfl) rfl (fg_nil))) 78 rfl ?_
  exact oc_fall rfl
theorem o_382_78 : okL gmt mt_382 78 b_382_78 := by
  refine oc (y := mt_382) (pc := 78) (ok_iconst dX7_isImage_78 rfl ⟨by decide, by decide⟩) 79 rfl ?_
  refine oc (y := mt_382) (pc := 79) (ok_iaload dX7_isImage_79) 80 rfl ?_
  refine oc (y := mt_382) (pc := 80) (ok_iconst dX7_isImage_80 rfl ⟨by decide, by decide⟩) 81 rfl ?_
  refine oc_icmp dX7_isImage_81 ⟨by decide, by decide⟩ 84 rfl ?_
  refine oc (y := mt_382) (pc := 84) (ok_aload_n dX7_isImage_84) 85 rfl ?_
  refine oc (y := mt_382) (pc := 85) (ok_iconst dX7_isImage_85 rfl ⟨by decide, by decide⟩) 86 rfl ?_
  refine oc_V (y := mt_382) (pc := 86) (vcons (y := mt_382) (pc := 86) (len := 3) (n := 2) (M := mt_354) (by decide) rfl (Or.inr rfl) rfl (ck_V dX7_isImage_86 ⟨by decide, by decide, by decide, by decide +kernel⟩ q2661 q2663 qs143 q177 q2664) vnil) (hok0 rfl) (by decide) 89 rfl ?_
  refine oc_if dX7_isImage_89 ⟨by decide, by decide⟩ 92 rfl ?_
  exact oc_fall rfl
theorem o_382_92 : okL gmt mt_382 92 b_382_92 := by
  refine oc (y := mt_382) (pc := 92) (ok_iconst dX7_isImage_92 rfl ⟨by decide, by decide⟩) 93 rfl ?_
  exact oc_zret dX7_isImage_93 rfl
theorem o_382_94 : okL gmt mt_382 94 b_382_94 := by
  refine oc (y := mt_382) (pc := 94) (ok_iconst dX7_isImage_94 rfl ⟨by decide, by decide⟩) 95 rfl ?_
  refine oc (y := mt_382) (pc := 95) (ok_istore_n dX7_isImage_95 (by decide)) 96 rfl ?_
  exact oc_fall rfl
theorem o_382_96 : okL gmt mt_382 96 b_382_96 := by
  refine oc (y := mt_382) (pc := 96) (ok_iload_n dX7_isImage_96) 97 rfl ?_
  refine oc (y := mt_382) (pc := 97) (ok_aload_n dX7_isImage_97) 98 rfl ?_
  refine oc_V (y := mt_382) (pc := 98) (vcons (y := mt_382) (pc := 98) (len := 3) (n := 1) (M := mt_299) (by decide) rfl (Or.inr rfl) rfl (ck_V dX7_isImage_98 ⟨by decide, by decide, by decide, by decide +kernel⟩ q2434 q2436 qs109 q177 q2437) vnil) (hok0 rfl) (by decide) 101 rfl ?_
  refine oc_icmp dX7_isImage_101 ⟨by decide, by decide⟩ 104 rfl ?_
  refine oc (y := mt_382) (pc := 104) (ok_sipush dX7_isImage_104 (by decide) ⟨by decide, by decide⟩) 107 rfl ?_
  refine oc (y := mt_382) (pc := 107) (ok_aload_n dX7_isImage_107) 108 rfl ?_
  refine oc (y := mt_382) (pc := 108) (ok_getfield dX7_isImage_108 (fg (own := "GardenChessModel") (idx := 7) (g := 9) (k := 0) (r := (RX7, TX7, 122)) rfl ⟨⟨by decide, by decide⟩, by decide⟩ (Or.inl q1812) (Or.inl rfl) rfl (fg_nil))) 111 rfl ?_
  refine oc (y := mt_382) (pc := 111) (ok_iload_n dX7_isImage_111) 112 rfl ?_
  refine oc (y := mt_382) (pc := 112) (ok_iconst dX7_isImage_112 rfl ⟨by decide, by decide⟩) 113 rfl ?_
  refine oc (y := mt_382) (pc := 113) (ok_iload_n dX7_isImage_113) 114 rfl ?_
  refine oc (y := mt_382) (pc := 114) (ok_imul dX7_isImage_114) 115 rfl ?_
  refine oc (y := mt_382) (pc := 115) (ok_iadd dX7_isImage_115) 116 rfl ?_
  refine oc (y := mt_382) (pc := 116) (ok_iaload dX7_isImage_116) 117 rfl ?_
  refine oc (y := mt_382) (pc := 117) (ok_imul dX7_isImage_117) 118 rfl ?_
  refine oc (y := mt_382) (pc := 118) (ok_aload_n dX7_isImage_118) 119 rfl ?_
  refine oc (y := mt_382) (pc := 119) (ok_getfield dX7_isImage_119 (fg (own := "GardenChessModel") (idx := 7) (g := 9) (k := 0) (r := (RX7, TX7, 122)) rfl ⟨⟨by decide, by decide⟩, by decide⟩ (Or.inl q1812) (Or.inl rfl) rfl (fg_nil))) 122 rfl ?_
  refine oc (y := mt_382) (pc := 122) (ok_iload_n dX7_isImage_122) 123 rfl ?_
  refine oc (y := mt_382) (pc := 123) (ok_iconst dX7_isImage_123 rfl ⟨by decide, by decide⟩) 124 rfl ?_
  refine oc (y := mt_382) (pc := 124) (ok_iload_n dX7_isImage_124) 125 rfl ?_
  refine oc (y := mt_382) (pc := 125) (ok_imul dX7_isImage_125) 126 rfl ?_
  refine oc (y := mt_382) (pc := 126) (ok_iadd dX7_isImage_126) 127 rfl ?_
  refine oc (y := mt_382) (pc := 127) (ok_iconst dX7_isImage_127 rfl ⟨by decide, by decide⟩) 128 rfl ?_
  refine oc (y := mt_382) (pc := 128) (ok_iadd dX7_isImage_128) 129 rfl ?_
  refine oc (y := mt_382) (pc := 129) (ok_iaload dX7_isImage_129) 130 rfl ?_
  refine oc (y := mt_382) (pc := 130) (ok_iadd dX7_isImage_130) 131 rfl ?_
  refine oc (y := mt_382) (pc := 131) (ok_sipush dX7_isImage_131 (by decide) ⟨by decide, by decide⟩) 134 rfl ?_
  refine oc_icmp dX7_isImage_134 ⟨by decide, by decide⟩ 137 rfl ?_
  refine oc (y := mt_382) (pc := 137) (ok_iconst dX7_isImage_137 rfl ⟨by decide, by decide⟩) 138 rfl ?_
  exact oc_zret dX7_isImage_138 rfl
theorem o_382_139 : okL gmt mt_382 139 b_382_139 := by
  refine oc (y := mt_382) (pc := 139) (ok_iinc dX7_isImage_139 (by decide)) 142 rfl ?_
  exact oc_goto dX7_isImage_142 ⟨by decide, by decide⟩
theorem o_382_145 : okL gmt mt_382 145 b_382_145 := by
  refine oc (y := mt_382) (pc := 145) (ok_iconst dX7_isImage_145 rfl ⟨by decide, by decide⟩) 146 rfl ?_
  exact oc_zret dX7_isImage_146 rfl
theorem ok_382 : ∀ q ∈ pr_382, okL gmt mt_382 q.1 q.2 := pk_c o_382_0 (pk_c o_382_78 (pk_c o_382_92 (pk_c o_382_94 (pk_c o_382_96 (pk_c o_382_139 (pk_c o_382_145 (pk_n)))))))
theorem o_383_0 : okL gmt mt_383 0 b_383_0 := by
  refine oc (y := mt_383) (pc := 0) (ok_iload_n dX7_status_0) 1 rfl ?_
  refine oc (y := mt_383) (pc := 1) (ok_i2l dX7_status_1) 2 rfl ?_
  refine oc (y := mt_383) (pc := 2) (ok_lconst dX7_status_2 (by decide) ⟨by decide, by decide⟩) 3 rfl ?_
  refine oc (y := mt_383) (pc := 3) (ok_ldc2 dX7_status_3 ⟨by decide, by decide⟩ (show Cond.constantLong _ _ (Int64.ofInt 5) ∈ lw_all from q2443)) 6 rfl ?_
  refine oc_S (y := mt_383) (pc := 6) (M := mt_246) rfl (ck_S dX7_status_6 ⟨by decide, by decide, by decide, by decide +kernel⟩ q2225 q2226 q177 q2227) (hok0 rfl) (by decide) 9 rfl ?_
  refine oc_if dX7_status_9 ⟨by decide, by decide⟩ 12 rfl ?_
  refine oc (y := mt_383) (pc := 12) (ok_aload_n dX7_status_12) 13 rfl ?_
  refine oc (y := mt_383) (pc := 13) (ok_getfield dX7_status_13 (fg (own := "GardenChessModel") (idx := 17) (g := 9) (k := 9) (r := (RX7, TX7, 122)) rfl ⟨⟨by decide, by decide⟩, by decide⟩ (Or.inl q1821) (Or.inl rfl) rfl (fg_nil))) 16 rfl ?_
  refine oc (y := mt_383) (pc := 16) (ok_iload_n dX7_status_16) 17 rfl ?_
  refine oc (y := mt_383) (pc := 17) (ok_iaload dX7_status_17) 18 rfl ?_
  exact oc_goto dX7_status_18 ⟨by decide, by decide⟩
theorem o_383_21 : okL gmt mt_383 21 b_383_21 := by
  refine oc (y := mt_383) (pc := 21) (ok_iconst dX7_status_21 rfl ⟨by decide, by decide⟩) 22 rfl ?_
  exact oc_fall rfl
theorem o_383_22 : okL gmt mt_383 22 b_383_22 := by
  exact oc_iret dX7_status_22 rfl
theorem ok_383 : ∀ q ∈ pr_383, okL gmt mt_383 q.1 q.2 := pk_c o_383_0 (pk_c o_383_21 (pk_c o_383_22 (pk_n)))
theorem o_384_0 : okL gmt mt_384 0 b_384_0 := by
  refine oc (y := mt_384) (pc := 0) (ok_iconst dX8_find_0 rfl ⟨by decide, by decide⟩) 1 rfl ?_
  refine oc (y := mt_384) (pc := 1) (ok_istore_n dX8_find_1 (by decide)) 2 rfl ?_
  exact oc_fall rfl
theorem o_384_2 : okL gmt mt_384 2 b_384_2 := by
  refine oc (y := mt_384) (pc := 2) (ok_iload_n dX8_find_2) 3 rfl ?_
  refine oc (y := mt_384) (pc := 3) (ok_aload_n dX8_find_3) 4 rfl ?_
  refine oc_F (y := mt_384) (pc := 4) (vcons (y := mt_384) (pc := 4) (len := 5) (n := 1) (M := mt_39) (by decide) rfl (Or.inr rfl) rfl (ck_F (ci := 2) dX8_find_4 rfl rfl (fun G s h => h.2.2.1.1) (by decide) ⟨by decide, by decide, by decide +kernel⟩ q883 q504 q506 q166 q508) vnil) (hok0 rfl) 9 rfl ?_
  refine oc_icmp dX8_find_9 ⟨by decide, by decide⟩ 12 rfl ?_
  refine oc (y := mt_384) (pc := 12) (ok_aload_n dX8_find_12) 13 rfl ?_
  refine oc (y := mt_384) (pc := 13) (ok_iload_n dX8_find_13) 14 rfl ?_
  refine oc_F (y := mt_384) (pc := 14) (vcons (y := mt_384) (pc := 14) (len := 5) (n := 2) (M := mt_40) (by decide) rfl (Or.inr rfl) rfl (ck_F (ci := 2) dX8_find_14 rfl rfl (fun G s h => h.2.2.1.2.1) (by decide) ⟨by decide, by decide, by decide +kernel⟩ q885 q521 q523 q166 q525) vnil) (hok0 rfl) 19 rfl ?_
  refine oc (y := mt_384) (pc := 19) (ok_checkcast (E := "GardenChess$Named") dX8_find_19 q886 (ct (by decide) rfl (Or.inr q2794) (ct (by decide) rfl (Or.inr q2795) (ct (by decide) rfl (Or.inr q2793) (ct_nil))))) 22 rfl ?_
  refine oc (y := mt_384) (pc := 22) (ok_getfield dX8_find_22 (fg (own := "GardenChess$Named") (idx := 9) (g := 12) (k := 0) (r := (RX9, TX9, 5)) rfl ⟨⟨by decide, by decide⟩, by decide⟩ (Or.inl q912) (Or.inl rfl) rfl (fg (own := "GardenChess$Named") (idx := 9) (g := 13) (k := 0) (r := (RX10, TX10, 5)) rfl ⟨⟨by decide, by decide⟩, by decide⟩ (Or.inl q912) (Or.inl rfl) rfl (fg (own := "GardenChess$Named") (idx := 9) (g := 14) (k := 0) (r := (RX11, TX11, 4)) rfl ⟨⟨by decide, by decide⟩, by decide⟩ (Or.inl q912) (Or.inl rfl) rfl (fg_nil))))) 25 rfl ?_
  refine oc (y := mt_384) (pc := 25) (ok_aload_n dX8_find_25) 26 rfl ?_
  refine oc_V (y := mt_384) (pc := 26) (vcons (y := mt_384) (pc := 26) (len := 3) (n := 2) (M := mt_57) (by decide) rfl (Or.inr rfl) rfl (ck_V dX8_find_26 ⟨by decide, by decide, by decide, by decide +kernel⟩ q887 q760 q761 q178 q762) vnil) (hok0 rfl) (by decide) 29 rfl ?_
  refine oc_if dX8_find_29 ⟨by decide, by decide⟩ 32 rfl ?_
  refine oc (y := mt_384) (pc := 32) (ok_iload_n dX8_find_32) 33 rfl ?_
  exact oc_iret dX8_find_33 rfl
theorem o_384_34 : okL gmt mt_384 34 b_384_34 := by
  refine oc (y := mt_384) (pc := 34) (ok_iinc dX8_find_34 (by decide)) 37 rfl ?_
  exact oc_goto dX8_find_37 ⟨by decide, by decide⟩
theorem o_384_40 : okL gmt mt_384 40 b_384_40 := by
  refine oc (y := mt_384) (pc := 40) (ok_iconst dX8_find_40 rfl ⟨by decide, by decide⟩) 41 rfl ?_
  exact oc_iret dX8_find_41 rfl
theorem ok_384 : ∀ q ∈ pr_384, okL gmt mt_384 q.1 q.2 := pk_c o_384_0 (pk_c o_384_2 (pk_c o_384_34 (pk_c o_384_40 (pk_n))))
theorem o_385_0 : okL gmt mt_385 0 b_385_0 := by
  refine oc (y := mt_385) (pc := 0) (ok_aload_n dX8_init_0) 1 rfl ?_
  refine oc_oi (y := mt_385) (pc := 1) dX8_init_1 q899 q210 q211 4 rfl ?_
  refine oc (y := mt_385) (pc := 4) (ok_aload_n dX8_init_4) 5 rfl ?_
  refine oc (y := mt_385) (pc := 5) (ok_aload_n dX8_init_5) 6 rfl ?_
  refine oc (y := mt_385) (pc := 6) (ok_putfield dX8_init_6 (fp (own := "GardenChess$Named") (idx := 9) (g := 12) (k := 0) (r := (RX9, TX9, 5)) rfl ⟨⟨by decide, by decide⟩, by decide⟩ (Or.inl q912) (Or.inl rfl) rfl (Or.inr ⟨rfl, rfl, rfl, q912⟩) (fp (own := "GardenChess$Named") (idx := 9) (g := 13) (k := 0) (r := (RX10, TX10, 5)) rfl ⟨⟨by decide, by decide⟩, by decide⟩ (Or.inl q912) (Or.inl rfl) rfl (Or.inr ⟨rfl, rfl, rfl, q912⟩) (fp (own := "GardenChess$Named") (idx := 9) (g := 14) (k := 0) (r := (RX11, TX11, 4)) rfl ⟨⟨by decide, by decide⟩, by decide⟩ (Or.inl q912) (Or.inl rfl) rfl (Or.inr ⟨rfl, rfl, rfl, q912⟩) (fp_nil))))) 9 rfl ?_
  exact oc_ret dX8_init_9 rfl
theorem ok_385 : ∀ q ∈ pr_385, okL gmt mt_385 q.1 q.2 := pk_c o_385_0 (pk_n)
theorem o_386_0 : okL gmt mt_386 0 b_386_0 := by
  refine oc (y := mt_386) (pc := 0) (ok_iload_n dX8_letter_0) 1 rfl ?_
  refine oc (y := mt_386) (pc := 1) (ok_aload_n dX8_letter_1) 2 rfl ?_
  refine oc (y := mt_386) (pc := 2) (ok_getfield dX8_letter_2 (fg (own := "GardenChess$Named") (idx := 9) (g := 12) (k := 0) (r := (RX9, TX9, 5)) rfl ⟨⟨by decide, by decide⟩, by decide⟩ (Or.inl q912) (Or.inl rfl) rfl (fg (own := "GardenChess$Named") (idx := 9) (g := 13) (k := 0) (r := (RX10, TX10, 5)) rfl ⟨⟨by decide, by decide⟩, by decide⟩ (Or.inl q912) (Or.inl rfl) rfl (fg (own := "GardenChess$Named") (idx := 9) (g := 14) (k := 0) (r := (RX11, TX11, 4)) rfl ⟨⟨by decide, by decide⟩, by decide⟩ (Or.inl q912) (Or.inl rfl) rfl (fg_nil))))) 5 rfl ?_
  refine oc_V (y := mt_386) (pc := 5) (vcons (y := mt_386) (pc := 5) (len := 3) (n := 1) (M := mt_60) (by decide) rfl (Or.inr rfl) rfl (ck_V dX8_letter_5 ⟨by decide, by decide, by decide, by decide +kernel⟩ q1339 q868 q869 q178 q870) vnil) (hok0 rfl) (by decide) 8 rfl ?_
  refine oc_icmp dX8_letter_8 ⟨by decide, by decide⟩ 11 rfl ?_
  refine oc (y := mt_386) (pc := 11) (ok_aload_n dX8_letter_11) 12 rfl ?_
  refine oc (y := mt_386) (pc := 12) (ok_getfield dX8_letter_12 (fg (own := "GardenChess$Named") (idx := 9) (g := 12) (k := 0) (r := (RX9, TX9, 5)) rfl ⟨⟨by decide, by decide⟩, by decide⟩ (Or.inl q912) (Or.inl rfl) rfl (fg (own := "GardenChess$Named") (idx := 9) (g := 13) (k := 0) (r := (RX10, TX10, 5)) rfl ⟨⟨by decide, by decide⟩, by decide⟩ (Or.inl q912) (Or.inl rfl) rfl (fg (own := "GardenChess$Named") (idx := 9) (g := 14) (k := 0) (r := (RX11, TX11, 4)) rfl ⟨⟨by decide, by decide⟩, by decide⟩ (Or.inl q912) (Or.inl rfl) rfl (fg_nil))))) 15 rfl ?_
  refine oc (y := mt_386) (pc := 15) (ok_iload_n dX8_letter_15) 16 rfl ?_
  refine oc_V (y := mt_386) (pc := 16) (vcons (y := mt_386) (pc := 16) (len := 3) (n := 2) (M := mt_63) (by decide) rfl (Or.inr rfl) rfl (ck_V dX8_letter_16 ⟨by decide, by decide, by decide, by decide +kernel⟩ q1340 q1341 q1342 q178 q1343) vnil) (hok0 rfl) (by decide) 19 rfl ?_
  refine oc (y := mt_386) (pc := 19) (ok_bipush dX8_letter_19 (by decide) ⟨by decide, by decide⟩) 21 rfl ?_
  refine oc (y := mt_386) (pc := 21) (ok_isub dX8_letter_21) 22 rfl ?_
  refine oc (y := mt_386) (pc := 22) (ok_iconst dX8_letter_22 rfl ⟨by decide, by decide⟩) 23 rfl ?_
  refine oc (y := mt_386) (pc := 23) (ok_iadd dX8_letter_23) 24 rfl ?_
  exact oc_goto dX8_letter_24 ⟨by decide, by decide⟩
theorem o_386_27 : okL gmt mt_386 27 b_386_27 := by
  refine oc (y := mt_386) (pc := 27) (ok_iconst dX8_letter_27 rfl ⟨by decide, by decide⟩) 28 rfl ?_
  exact oc_fall rfl
theorem o_386_28 : okL gmt mt_386 28 b_386_28 := by
  exact oc_iret dX8_letter_28 rfl
theorem ok_386 : ∀ q ∈ pr_386, okL gmt mt_386 q.1 q.2 := pk_c o_386_0 (pk_c o_386_27 (pk_c o_386_28 (pk_n)))
theorem o_387_0 : okL gmt mt_387 0 b_387_0 := by
  refine oc (y := mt_387) (pc := 0) (ok_aload_n dX9_init_0) 1 rfl ?_
  refine oc (y := mt_387) (pc := 1) (ok_aload_n dX9_init_1) 2 rfl ?_
  refine oc_I (y := mt_387) (pc := 2) (vcons (y := mt_387) (pc := 2) (len := 3) (n := 2) (M := mt_385) (by decide) rfl (Or.inl rfl) rfl (ck_I dX9_init_2 ⟨by decide, by decide, by decide, by decide +kernel⟩ rfl q896 q897 q182 q898) (vnil)) (hok0 rfl) (by decide) 5 rfl ?_
  refine oc (y := mt_387) (pc := 5) (ok_aload_n dX9_init_5) 6 rfl ?_
  refine oc (y := mt_387) (pc := 6) (ok_iload_n dX9_init_6) 7 rfl ?_
  refine oc (y := mt_387) (pc := 7) (ok_putfield dX9_init_7 (fp (own := "GardenChess$Kind") (idx := 7) (g := 12) (k := 1) (r := (RX9, TX9, 5)) rfl ⟨⟨by decide, by decide⟩, by decide⟩ (Or.inl q900) (Or.inl rfl) rfl (Or.inr ⟨rfl, rfl, rfl, q900⟩) (fp_nil))) 10 rfl ?_
  refine oc (y := mt_387) (pc := 10) (ok_aload_n dX9_init_10) 11 rfl ?_
  refine oc (y := mt_387) (pc := 11) (ok_iload_n dX9_init_11) 12 rfl ?_
  refine oc (y := mt_387) (pc := 12) (ok_putfield dX9_init_12 (fp (own := "GardenChess$Kind") (idx := 13) (g := 12) (k := 2) (r := (RX9, TX9, 5)) rfl ⟨⟨by decide, by decide⟩, by decide⟩ (Or.inl q903) (Or.inl rfl) rfl (Or.inr ⟨rfl, rfl, rfl, q903⟩) (fp_nil))) 15 rfl ?_
  refine oc (y := mt_387) (pc := 15) (ok_aload_n dX9_init_15) 16 rfl ?_
  refine oc (y := mt_387) (pc := 16) (ok_iload dX9_init_16) 18 rfl ?_
  refine oc (y := mt_387) (pc := 18) (ok_putfield dX9_init_18 (fp (own := "GardenChess$Kind") (idx := 16) (g := 12) (k := 3) (r := (RX9, TX9, 5)) rfl ⟨⟨by decide, by decide⟩, by decide⟩ (Or.inl q906) (Or.inl rfl) rfl (Or.inr ⟨rfl, rfl, rfl, q906⟩) (fp_nil))) 21 rfl ?_
  exact oc_ret dX9_init_21 rfl
theorem ok_387 : ∀ q ∈ pr_387, okL gmt mt_387 q.1 q.2 := pk_c o_387_0 (pk_n)
