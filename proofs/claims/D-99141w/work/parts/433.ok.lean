set_option maxRecDepth 100000
theorem o_220_0 : okL gmt mt_220 0 b_220_0 := by
  refine oc (y := mt_220) (pc := 0) (ok_aload_n dX6_copy_0) 1 rfl ?_
  refine oc (y := mt_220) (pc := 1) (ok_aload_n dX6_copy_1) 2 rfl ?_
  refine oc (y := mt_220) (pc := 2) (ok_getfield dX6_copy_2 (fg (own := "GardenChess$State") (idx := 30) (g := 8) (k := 0) (r := (RX6, TX6, 12)) rfl ⟨⟨by decide, by decide⟩, by decide⟩ (Or.inl q445) (Or.inl rfl) rfl (fg_nil))) 5 rfl ?_
  refine oc (y := mt_220) (pc := 5) (ok_putfield dX6_copy_5 (fp (own := "GardenChess$State") (idx := 30) (g := 8) (k := 0) (r := (RX6, TX6, 12)) rfl ⟨⟨by decide, by decide⟩, by decide⟩ (Or.inl q445) (Or.inl rfl) rfl (Or.inl rfl) (fp_nil))) 8 rfl ?_
  refine oc (y := mt_220) (pc := 8) (ok_aload_n dX6_copy_8) 9 rfl ?_
  refine oc (y := mt_220) (pc := 9) (ok_aload_n dX6_copy_9) 10 rfl ?_
  refine oc (y := mt_220) (pc := 10) (ok_getfield dX6_copy_10 (fg (own := "GardenChess$State") (idx := 34) (g := 8) (k := 1) (r := (RX6, TX6, 12)) rfl ⟨⟨by decide, by decide⟩, by decide⟩ (Or.inl q447) (Or.inl rfl) rfl (fg_nil))) 13 rfl ?_
  refine oc (y := mt_220) (pc := 13) (ok_putfield dX6_copy_13 (fp (own := "GardenChess$State") (idx := 34) (g := 8) (k := 1) (r := (RX6, TX6, 12)) rfl ⟨⟨by decide, by decide⟩, by decide⟩ (Or.inl q447) (Or.inl rfl) rfl (Or.inl rfl) (fp_nil))) 16 rfl ?_
  refine oc (y := mt_220) (pc := 16) (ok_aload_n dX6_copy_16) 17 rfl ?_
  refine oc (y := mt_220) (pc := 17) (ok_aload_n dX6_copy_17) 18 rfl ?_
  refine oc (y := mt_220) (pc := 18) (ok_getfield dX6_copy_18 (fg (own := "GardenChess$State") (idx := 37) (g := 8) (k := 2) (r := (RX6, TX6, 12)) rfl ⟨⟨by decide, by decide⟩, by decide⟩ (Or.inl q449) (Or.inl rfl) rfl (fg_nil))) 21 rfl ?_
  refine oc (y := mt_220) (pc := 21) (ok_putfield dX6_copy_21 (fp (own := "GardenChess$State") (idx := 37) (g := 8) (k := 2) (r := (RX6, TX6, 12)) rfl ⟨⟨by decide, by decide⟩, by decide⟩ (Or.inl q449) (Or.inl rfl) rfl (Or.inl rfl) (fp_nil))) 24 rfl ?_
  refine oc (y := mt_220) (pc := 24) (ok_aload_n dX6_copy_24) 25 rfl ?_
  refine oc (y := mt_220) (pc := 25) (ok_aload_n dX6_copy_25) 26 rfl ?_
  refine oc (y := mt_220) (pc := 26) (ok_getfield dX6_copy_26 (fg (own := "GardenChess$State") (idx := 81) (g := 8) (k := 7) (r := (RX6, TX6, 12)) rfl ⟨⟨by decide, by decide⟩, by decide⟩ (Or.inl q459) (Or.inl rfl) rfl (fg_nil))) 29 rfl ?_
  refine oc (y := mt_220) (pc := 29) (ok_putfield dX6_copy_29 (fp (own := "GardenChess$State") (idx := 81) (g := 8) (k := 7) (r := (RX6, TX6, 12)) rfl ⟨⟨by decide, by decide⟩, by decide⟩ (Or.inl q459) (Or.inl rfl) rfl (Or.inl rfl) (fp_nil))) 32 rfl ?_
  refine oc (y := mt_220) (pc := 32) (ok_iconst dX6_copy_32 rfl ⟨by decide, by decide⟩) 33 rfl ?_
  refine oc (y := mt_220) (pc := 33) (ok_istore_n dX6_copy_33 (by decide)) 34 rfl ?_
  exact oc_fall rfl
theorem o_220_34 : okL gmt mt_220 34 b_220_34 := by
  refine oc (y := mt_220) (pc := 34) (ok_iload_n dX6_copy_34) 35 rfl ?_
  refine oc (y := mt_220) (pc := 35) (ok_bipush dX6_copy_35 (by decide) ⟨by decide, by decide⟩) 37 rfl ?_
  refine oc_icmp dX6_copy_37 ⟨by decide, by decide⟩ 40 rfl ?_
  refine oc (y := mt_220) (pc := 40) (ok_aload_n dX6_copy_40) 41 rfl ?_
  refine oc (y := mt_220) (pc := 41) (ok_getfield dX6_copy_41 (fg (own := "GardenChess$State") (idx := 15) (g := 8) (k := 3) (r := (RX6, TX6, 12)) rfl ⟨⟨by decide, by decide⟩, by decide⟩ (Or.inl q451) (Or.inl rfl) rfl (fg_nil))) 44 rfl ?_
  refine oc (y := mt_220) (pc := 44) (ok_iload_n dX6_copy_44) 45 rfl ?_
  refine oc (y := mt_220) (pc := 45) (ok_aload_n dX6_copy_45) 46 rfl ?_
  refine oc (y := mt_220) (pc := 46) (ok_getfield dX6_copy_46 (fg (own := "GardenChess$State") (idx := 15) (g := 8) (k := 3) (r := (RX6, TX6, 12)) rfl ⟨⟨by decide, by decide⟩, by decide⟩ (Or.inl q451) (Or.inl rfl) rfl (fg_nil))) 49 rfl ?_
  refine oc (y := mt_220) (pc := 49) (ok_iload_n dX6_copy_49) 50 rfl ?_
  refine oc (y := mt_220) (pc := 50) (ok_iaload dX6_copy_50) 51 rfl ?_
  refine oc (y := mt_220) (pc := 51) (ok_iastore dX6_copy_51) 52 rfl ?_
  refine oc (y := mt_220) (pc := 52) (ok_iinc dX6_copy_52 (by decide)) 55 rfl ?_
  exact oc_goto dX6_copy_55 ⟨by decide, by decide⟩
theorem o_220_58 : okL gmt mt_220 58 b_220_58 := by
  refine oc (y := mt_220) (pc := 58) (ok_iconst dX6_copy_58 rfl ⟨by decide, by decide⟩) 59 rfl ?_
  refine oc (y := mt_220) (pc := 59) (ok_istore_n dX6_copy_59 (by decide)) 60 rfl ?_
  exact oc_fall rfl
theorem o_220_60 : okL gmt mt_220 60 b_220_60 := by
  refine oc (y := mt_220) (pc := 60) (ok_iload_n dX6_copy_60) 61 rfl ?_
  refine oc (y := mt_220) (pc := 61) (ok_bipush dX6_copy_61 (by decide) ⟨by decide, by decide⟩) 63 rfl ?_
  refine oc_icmp dX6_copy_63 ⟨by decide, by decide⟩ 66 rfl ?_
  refine oc (y := mt_220) (pc := 66) (ok_aload_n dX6_copy_66) 67 rfl ?_
  refine oc (y := mt_220) (pc := 67) (ok_getfield dX6_copy_67 (fg (own := "GardenChess$State") (idx := 19) (g := 8) (k := 4) (r := (RX6, TX6, 12)) rfl ⟨⟨by decide, by decide⟩, by decide⟩ (Or.inl q453) (Or.inl rfl) rfl (fg_nil))) 70 rfl ?_
  refine oc (y := mt_220) (pc := 70) (ok_iload_n dX6_copy_70) 71 rfl ?_
  refine oc (y := mt_220) (pc := 71) (ok_aload_n dX6_copy_71) 72 rfl ?_
  refine oc (y := mt_220) (pc := 72) (ok_getfield dX6_copy_72 (fg (own := "GardenChess$State") (idx := 19) (g := 8) (k := 4) (r := (RX6, TX6, 12)) rfl ⟨⟨by decide, by decide⟩, by decide⟩ (Or.inl q453) (Or.inl rfl) rfl (fg_nil))) 75 rfl ?_
  refine oc (y := mt_220) (pc := 75) (ok_iload_n dX6_copy_75) 76 rfl ?_
  refine oc (y := mt_220) (pc := 76) (ok_iaload dX6_copy_76) 77 rfl ?_
  refine oc (y := mt_220) (pc := 77) (ok_iastore dX6_copy_77) 78 rfl ?_
  refine oc (y := mt_220) (pc := 78) (ok_iinc dX6_copy_78 (by decide)) 81 rfl ?_
  exact oc_goto dX6_copy_81 ⟨by decide, by decide⟩
theorem o_220_84 : okL gmt mt_220 84 b_220_84 := by
  refine oc (y := mt_220) (pc := 84) (ok_iconst dX6_copy_84 rfl ⟨by decide, by decide⟩) 85 rfl ?_
  refine oc (y := mt_220) (pc := 85) (ok_istore_n dX6_copy_85 (by decide)) 86 rfl ?_
  exact oc_fall rfl
theorem o_220_86 : okL gmt mt_220 86 b_220_86 := by
  refine oc (y := mt_220) (pc := 86) (ok_iload_n dX6_copy_86) 87 rfl ?_
  refine oc (y := mt_220) (pc := 87) (ok_bipush dX6_copy_87 (by decide) ⟨by decide, by decide⟩) 89 rfl ?_
  refine oc_icmp dX6_copy_89 ⟨by decide, by decide⟩ 92 rfl ?_
  refine oc (y := mt_220) (pc := 92) (ok_aload_n dX6_copy_92) 93 rfl ?_
  refine oc (y := mt_220) (pc := 93) (ok_getfield dX6_copy_93 (fg (own := "GardenChess$State") (idx := 22) (g := 8) (k := 5) (r := (RX6, TX6, 12)) rfl ⟨⟨by decide, by decide⟩, by decide⟩ (Or.inl q455) (Or.inl rfl) rfl (fg_nil))) 96 rfl ?_
  refine oc (y := mt_220) (pc := 96) (ok_iload_n dX6_copy_96) 97 rfl ?_
  refine oc (y := mt_220) (pc := 97) (ok_aload_n dX6_copy_97) 98 rfl ?_
  refine oc (y := mt_220) (pc := 98) (ok_getfield dX6_copy_98 (fg (own := "GardenChess$State") (idx := 22) (g := 8) (k := 5) (r := (RX6, TX6, 12)) rfl ⟨⟨by decide, by decide⟩, by decide⟩ (Or.inl q455) (Or.inl rfl) rfl (fg_nil))) 101 rfl ?_
  refine oc (y := mt_220) (pc := 101) (ok_iload_n dX6_copy_101) 102 rfl ?_
  refine oc (y := mt_220) (pc := 102) (ok_iaload dX6_copy_102) 103 rfl ?_
  refine oc (y := mt_220) (pc := 103) (ok_iastore dX6_copy_103) 104 rfl ?_
  refine oc (y := mt_220) (pc := 104) (ok_iinc dX6_copy_104 (by decide)) 107 rfl ?_
  exact oc_goto dX6_copy_107 ⟨by decide, by decide⟩
theorem o_220_110 : okL gmt mt_220 110 b_220_110 := by
  refine oc (y := mt_220) (pc := 110) (ok_iconst dX6_copy_110 rfl ⟨by decide, by decide⟩) 111 rfl ?_
  refine oc (y := mt_220) (pc := 111) (ok_istore_n dX6_copy_111 (by decide)) 112 rfl ?_
  exact oc_fall rfl
theorem o_220_112 : okL gmt mt_220 112 b_220_112 := by
  refine oc (y := mt_220) (pc := 112) (ok_iload_n dX6_copy_112) 113 rfl ?_
  refine oc (y := mt_220) (pc := 113) (ok_aload_n dX6_copy_113) 114 rfl ?_
  refine oc (y := mt_220) (pc := 114) (ok_getfield dX6_copy_114 (fg (own := "GardenChess$State") (idx := 37) (g := 8) (k := 2) (r := (RX6, TX6, 12)) rfl ⟨⟨by decide, by decide⟩, by decide⟩ (Or.inl q449) (Or.inl rfl) rfl (fg_nil))) 117 rfl ?_
  refine oc_icmp dX6_copy_117 ⟨by decide, by decide⟩ 120 rfl ?_
  refine oc (y := mt_220) (pc := 120) (ok_iconst dX6_copy_120 rfl ⟨by decide, by decide⟩) 121 rfl ?_
  refine oc (y := mt_220) (pc := 121) (ok_istore_n dX6_copy_121 (by decide)) 122 rfl ?_
  exact oc_fall rfl
theorem o_220_122 : okL gmt mt_220 122 b_220_122 := by
  refine oc (y := mt_220) (pc := 122) (ok_iload_n dX6_copy_122) 123 rfl ?_
  refine oc (y := mt_220) (pc := 123) (ok_iconst dX6_copy_123 rfl ⟨by decide, by decide⟩) 124 rfl ?_
  refine oc_icmp dX6_copy_124 ⟨by decide, by decide⟩ 127 rfl ?_
  refine oc (y := mt_220) (pc := 127) (ok_aload_n dX6_copy_127) 128 rfl ?_
  refine oc (y := mt_220) (pc := 128) (ok_getfield dX6_copy_128 (fg (own := "GardenChess$State") (idx := 27) (g := 8) (k := 6) (r := (RX6, TX6, 12)) rfl ⟨⟨by decide, by decide⟩, by decide⟩ (Or.inl q457) (Or.inl rfl) rfl (fg_nil))) 131 rfl ?_
  refine oc (y := mt_220) (pc := 131) (ok_iload_n dX6_copy_131) 132 rfl ?_
  refine oc (y := mt_220) (pc := 132) (ok_aaload (ty := .array .int) dX6_copy_132 (by decide) (by decide) rfl rfl) 133 rfl ?_
  refine oc (y := mt_220) (pc := 133) (ok_iload_n dX6_copy_133) 134 rfl ?_
  refine oc (y := mt_220) (pc := 134) (ok_aload_n dX6_copy_134) 135 rfl ?_
  refine oc (y := mt_220) (pc := 135) (ok_getfield dX6_copy_135 (fg (own := "GardenChess$State") (idx := 27) (g := 8) (k := 6) (r := (RX6, TX6, 12)) rfl ⟨⟨by decide, by decide⟩, by decide⟩ (Or.inl q457) (Or.inl rfl) rfl (fg_nil))) 138 rfl ?_
  refine oc (y := mt_220) (pc := 138) (ok_iload_n dX6_copy_138) 139 rfl ?_
  refine oc (y := mt_220) (pc := 139) (ok_aaload (ty := .array .int) dX6_copy_139 (by decide) (by decide) rfl rfl) 140 rfl ?_
  refine oc (y := mt_220) (pc := 140) (ok_iload_n dX6_copy_140) 141 rfl ?_
  refine oc (y := mt_220) (pc := 141) (ok_iaload dX6_copy_141) 142 rfl ?_
  refine oc (y := mt_220) (pc := 142) (ok_iastore dX6_copy_142) 143 rfl ?_
  refine oc (y := mt_220) (pc := 143) (ok_iinc dX6_copy_143 (by decide)) 146 rfl ?_
  exact oc_goto dX6_copy_146 ⟨by decide, by decide⟩
theorem o_220_149 : okL gmt mt_220 149 b_220_149 := by
  refine oc (y := mt_220) (pc := 149) (ok_iinc dX6_copy_149 (by decide)) 152 rfl ?_
  exact oc_goto dX6_copy_152 ⟨by decide, by decide⟩
theorem o_220_155 : okL gmt mt_220 155 b_220_155 := by
  refine oc (y := mt_220) (pc := 155) (ok_aload_n dX6_copy_155) 156 rfl ?_
  exact oc_aretO dX6_copy_156 rfl
theorem ok_220 : ∀ q ∈ pr_220, okL gmt mt_220 q.1 q.2 := pk_c o_220_0 (pk_c o_220_34 (pk_c o_220_58 (pk_c o_220_60 (pk_c o_220_84 (pk_c o_220_86 (pk_c o_220_110 (pk_c o_220_112 (pk_c o_220_122 (pk_c o_220_149 (pk_c o_220_155 (pk_n)))))))))))
theorem o_221_0 : okL gmt mt_221 0 b_221_0 := by
  refine oc (y := mt_221) (pc := 0) (ok_aload_n dX6_moves_0) 1 rfl ?_
  refine oc (y := mt_221) (pc := 1) (ok_getfield dX6_moves_1 (fg (own := "GardenChess$State") (idx := 19) (g := 8) (k := 4) (r := (RX6, TX6, 12)) rfl ⟨⟨by decide, by decide⟩, by decide⟩ (Or.inl q453) (Or.inl rfl) rfl (fg_nil))) 4 rfl ?_
  refine oc (y := mt_221) (pc := 4) (ok_iload_n dX6_moves_4) 5 rfl ?_
  refine oc (y := mt_221) (pc := 5) (ok_iaload dX6_moves_5) 6 rfl ?_
  refine oc (y := mt_221) (pc := 6) (ok_istore_n dX6_moves_6 (by decide)) 7 rfl ?_
  refine oc (y := mt_221) (pc := 7) (ok_aload_n dX6_moves_7) 8 rfl ?_
  refine oc (y := mt_221) (pc := 8) (ok_getfield dX6_moves_8 (fg (own := "GardenChess$State") (idx := 19) (g := 8) (k := 4) (r := (RX6, TX6, 12)) rfl ⟨⟨by decide, by decide⟩, by decide⟩ (Or.inl q453) (Or.inl rfl) rfl (fg_nil))) 11 rfl ?_
  refine oc (y := mt_221) (pc := 11) (ok_aload_n dX6_moves_11) 12 rfl ?_
  refine oc (y := mt_221) (pc := 12) (ok_getfield dX6_moves_12 (fg (own := "GardenChess$State") (idx := 15) (g := 8) (k := 3) (r := (RX6, TX6, 12)) rfl ⟨⟨by decide, by decide⟩, by decide⟩ (Or.inl q451) (Or.inl rfl) rfl (fg_nil))) 15 rfl ?_
  refine oc (y := mt_221) (pc := 15) (ok_iload_n dX6_moves_15) 16 rfl ?_
  refine oc (y := mt_221) (pc := 16) (ok_iaload dX6_moves_16) 17 rfl ?_
  refine oc (y := mt_221) (pc := 17) (ok_iconst dX6_moves_17 rfl ⟨by decide, by decide⟩) 18 rfl ?_
  refine oc (y := mt_221) (pc := 18) (ok_iastore dX6_moves_18) 19 rfl ?_
  refine oc (y := mt_221) (pc := 19) (ok_iload_n dX6_moves_19) 20 rfl ?_
  refine oc (y := mt_221) (pc := 20) (ok_iconst dX6_moves_20 rfl ⟨by decide, by decide⟩) 21 rfl ?_
  refine oc_icmp dX6_moves_21 ⟨by decide, by decide⟩ 24 rfl ?_
  refine oc (y := mt_221) (pc := 24) (ok_aload_n dX6_moves_24) 25 rfl ?_
  refine oc (y := mt_221) (pc := 25) (ok_getfield dX6_moves_25 (fg (own := "GardenChess$State") (idx := 15) (g := 8) (k := 3) (r := (RX6, TX6, 12)) rfl ⟨⟨by decide, by decide⟩, by decide⟩ (Or.inl q451) (Or.inl rfl) rfl (fg_nil))) 28 rfl ?_
  refine oc (y := mt_221) (pc := 28) (ok_iload_n dX6_moves_28) 29 rfl ?_
  refine oc (y := mt_221) (pc := 29) (ok_iconst dX6_moves_29 rfl ⟨by decide, by decide⟩) 30 rfl ?_
  refine oc (y := mt_221) (pc := 30) (ok_iastore dX6_moves_30) 31 rfl ?_
  refine oc (y := mt_221) (pc := 31) (ok_aload_n dX6_moves_31) 32 rfl ?_
  refine oc (y := mt_221) (pc := 32) (ok_dup dX6_moves_32) 33 rfl ?_
  refine oc (y := mt_221) (pc := 33) (ok_getfield dX6_moves_33 (fg (own := "GardenChess$State") (idx := 81) (g := 8) (k := 7) (r := (RX6, TX6, 12)) rfl ⟨⟨by decide, by decide⟩, by decide⟩ (Or.inl q459) (Or.inl rfl) rfl (fg_nil))) 36 rfl ?_
  refine oc (y := mt_221) (pc := 36) (ok_aload_n dX6_moves_36) 37 rfl ?_
  refine oc (y := mt_221) (pc := 37) (ok_getfield dX6_moves_37 (fg (own := "GardenChess$State") (idx := 3) (g := 8) (k := 11) (r := (RX6, TX6, 12)) rfl ⟨⟨by decide, by decide⟩, by decide⟩ (Or.inl q464) (Or.inl rfl) rfl (fg_nil))) 40 rfl ?_
  refine oc (y := mt_221) (pc := 40) (ok_iload_n dX6_moves_40) 41 rfl ?_
  refine oc_V (y := mt_221) (pc := 41) (vcons (y := mt_221) (pc := 41) (len := 3) (n := 2) (M := mt_82) (by decide) rfl (Or.inr rfl) rfl (ck_VN dX6_moves_41 ⟨by decide, by decide, by decide, by decide +kernel⟩ q509 q511 qs2 q162 q512) vnil) (hok0 rfl) (by decide) 44 rfl ?_
  refine oc (y := mt_221) (pc := 44) (ok_getfield dX6_moves_44 (fg (own := "GardenChess$State") (idx := 88) (g := 12) (k := 4) (r := (RX9, TX9, 5)) rfl ⟨⟨by decide, by decide⟩, by decide⟩ (Or.inr ⟨_, q909⟩) (Or.inl rfl) rfl (fg_nil))) 47 rfl ?_
  refine oc_if dX6_moves_47 ⟨by decide, by decide⟩ 50 rfl ?_
  refine oc (y := mt_221) (pc := 50) (ok_iconst dX6_moves_50 rfl ⟨by decide, by decide⟩) 51 rfl ?_
  exact oc_goto dX6_moves_51 ⟨by decide, by decide⟩
theorem o_221_54 : okL gmt mt_221 54 b_221_54 := by
  refine oc (y := mt_221) (pc := 54) (ok_iconst dX6_moves_54 rfl ⟨by decide, by decide⟩) 55 rfl ?_
  exact oc_fall rfl
theorem o_221_55 : okL gmt mt_221 55 b_221_55 := by
  refine oc (y := mt_221) (pc := 55) (ok_iadd dX6_moves_55) 56 rfl ?_
  refine oc (y := mt_221) (pc := 56) (ok_putfield dX6_moves_56 (fp (own := "GardenChess$State") (idx := 81) (g := 8) (k := 7) (r := (RX6, TX6, 12)) rfl ⟨⟨by decide, by decide⟩, by decide⟩ (Or.inl q459) (Or.inl rfl) rfl (Or.inl rfl) (fp_nil))) 59 rfl ?_
  exact oc_fall rfl
theorem o_221_59 : okL gmt mt_221 59 b_221_59 := by
  refine oc (y := mt_221) (pc := 59) (ok_aload_n dX6_moves_59) 60 rfl ?_
  refine oc (y := mt_221) (pc := 60) (ok_getfield dX6_moves_60 (fg (own := "GardenChess$State") (idx := 15) (g := 8) (k := 3) (r := (RX6, TX6, 12)) rfl ⟨⟨by decide, by decide⟩, by decide⟩ (Or.inl q451) (Or.inl rfl) rfl (fg_nil))) 63 rfl ?_
  refine oc (y := mt_221) (pc := 63) (ok_iload_n dX6_moves_63) 64 rfl ?_
  refine oc (y := mt_221) (pc := 64) (ok_iload_n dX6_moves_64) 65 rfl ?_
  refine oc (y := mt_221) (pc := 65) (ok_iastore dX6_moves_65) 66 rfl ?_
  refine oc (y := mt_221) (pc := 66) (ok_aload_n dX6_moves_66) 67 rfl ?_
  refine oc (y := mt_221) (pc := 67) (ok_getfield dX6_moves_67 (fg (own := "GardenChess$State") (idx := 19) (g := 8) (k := 4) (r := (RX6, TX6, 12)) rfl ⟨⟨by decide, by decide⟩, by decide⟩ (Or.inl q453) (Or.inl rfl) rfl (fg_nil))) 70 rfl ?_
  refine oc (y := mt_221) (pc := 70) (ok_iload_n dX6_moves_70) 71 rfl ?_
  refine oc (y := mt_221) (pc := 71) (ok_iload_n dX6_moves_71) 72 rfl ?_
  refine oc (y := mt_221) (pc := 72) (ok_iastore dX6_moves_72) 73 rfl ?_
  refine oc (y := mt_221) (pc := 73) (ok_aload_n dX6_moves_73) 74 rfl ?_
  refine oc (y := mt_221) (pc := 74) (ok_iconst dX6_moves_74 rfl ⟨by decide, by decide⟩) 75 rfl ?_
  refine oc (y := mt_221) (pc := 75) (ok_aload_n dX6_moves_75) 76 rfl ?_
  refine oc (y := mt_221) (pc := 76) (ok_getfield dX6_moves_76 (fg (own := "GardenChess$State") (idx := 34) (g := 8) (k := 1) (r := (RX6, TX6, 12)) rfl ⟨⟨by decide, by decide⟩, by decide⟩ (Or.inl q447) (Or.inl rfl) rfl (fg_nil))) 79 rfl ?_
  refine oc (y := mt_221) (pc := 79) (ok_isub dX6_moves_79) 80 rfl ?_
  refine oc (y := mt_221) (pc := 80) (ok_putfield dX6_moves_80 (fp (own := "GardenChess$State") (idx := 34) (g := 8) (k := 1) (r := (RX6, TX6, 12)) rfl ⟨⟨by decide, by decide⟩, by decide⟩ (Or.inl q447) (Or.inl rfl) rfl (Or.inl rfl) (fp_nil))) 83 rfl ?_
  refine oc (y := mt_221) (pc := 83) (ok_iload_n dX6_moves_83) 84 rfl ?_
  exact oc_iret dX6_moves_84 rfl
theorem ok_221 : ∀ q ∈ pr_221, okL gmt mt_221 q.1 q.2 := pk_c o_221_0 (pk_c o_221_54 (pk_c o_221_55 (pk_c o_221_59 (pk_n))))
theorem o_222_0 : okL gmt mt_222 0 b_222_0 := by
  refine oc (y := mt_222) (pc := 0) (ok_iconst dX6_isCheck_0 rfl ⟨by decide, by decide⟩) 1 rfl ?_
  refine oc (y := mt_222) (pc := 1) (ok_istore_n dX6_isCheck_1 (by decide)) 2 rfl ?_
  exact oc_fall rfl
theorem o_222_2 : okL gmt mt_222 2 b_222_2 := by
  refine oc (y := mt_222) (pc := 2) (ok_iload_n dX6_isCheck_2) 3 rfl ?_
  refine oc (y := mt_222) (pc := 3) (ok_aload_n dX6_isCheck_3) 4 rfl ?_
  refine oc (y := mt_222) (pc := 4) (ok_getfield dX6_isCheck_4 (fg (own := "GardenChess$State") (idx := 3) (g := 8) (k := 11) (r := (RX6, TX6, 12)) rfl ⟨⟨by decide, by decide⟩, by decide⟩ (Or.inl q464) (Or.inl rfl) rfl (fg_nil))) 7 rfl ?_
  refine oc_V (y := mt_222) (pc := 7) (vcons (y := mt_222) (pc := 7) (len := 3) (n := 1) (M := mt_81) (by decide) rfl (Or.inr rfl) rfl (ck_VN dX6_isCheck_7 ⟨by decide, by decide, by decide, by decide +kernel⟩ q495 q497 qs1 q162 q498) vnil) (hok0 rfl) (by decide) 10 rfl ?_
  refine oc_icmp dX6_isCheck_10 ⟨by decide, by decide⟩ 13 rfl ?_
  refine oc (y := mt_222) (pc := 13) (ok_aload_n dX6_isCheck_13) 14 rfl ?_
  refine oc (y := mt_222) (pc := 14) (ok_getfield dX6_isCheck_14 (fg (own := "GardenChess$State") (idx := 3) (g := 8) (k := 11) (r := (RX6, TX6, 12)) rfl ⟨⟨by decide, by decide⟩, by decide⟩ (Or.inl q464) (Or.inl rfl) rfl (fg_nil))) 17 rfl ?_
  refine oc (y := mt_222) (pc := 17) (ok_iload_n dX6_isCheck_17) 18 rfl ?_
  refine oc_V (y := mt_222) (pc := 18) (vcons (y := mt_222) (pc := 18) (len := 3) (n := 2) (M := mt_82) (by decide) rfl (Or.inr rfl) rfl (ck_VN dX6_isCheck_18 ⟨by decide, by decide, by decide, by decide +kernel⟩ q509 q511 qs2 q162 q512) vnil) (hok0 rfl) (by decide) 21 rfl ?_
  refine oc (y := mt_222) (pc := 21) (ok_getfield dX6_isCheck_21 (fg (own := "GardenChess$State") (idx := 88) (g := 12) (k := 4) (r := (RX9, TX9, 5)) rfl ⟨⟨by decide, by decide⟩, by decide⟩ (Or.inr ⟨_, q909⟩) (Or.inl rfl) rfl (fg_nil))) 24 rfl ?_
  refine oc_if dX6_isCheck_24 ⟨by decide, by decide⟩ 27 rfl ?_
  refine oc (y := mt_222) (pc := 27) (ok_aload_n dX6_isCheck_27) 28 rfl ?_
  refine oc (y := mt_222) (pc := 28) (ok_getfield dX6_isCheck_28 (fg (own := "GardenChess$State") (idx := 3) (g := 8) (k := 11) (r := (RX6, TX6, 12)) rfl ⟨⟨by decide, by decide⟩, by decide⟩ (Or.inl q464) (Or.inl rfl) rfl (fg_nil))) 31 rfl ?_
  refine oc (y := mt_222) (pc := 31) (ok_iload_n dX6_isCheck_31) 32 rfl ?_
  refine oc_V (y := mt_222) (pc := 32) (vcons (y := mt_222) (pc := 32) (len := 3) (n := 2) (M := mt_83) (by decide) rfl (Or.inr rfl) rfl (ck_VN dX6_isCheck_32 ⟨by decide, by decide, by decide, by decide +kernel⟩ q1272 q515 qs3 q162 q516) vnil) (hok0 rfl) (by decide) 35 rfl ?_
  refine oc (y := mt_222) (pc := 35) (ok_getfield dX6_isCheck_35 (fg (own := "GardenChess$State") (idx := 94) (g := 13) (k := 2) (r := (RX10, TX10, 5)) rfl ⟨⟨by decide, by decide⟩, by decide⟩ (Or.inr ⟨_, q1036⟩) (Or.inl rfl) rfl (fg_nil))) 38 rfl ?_
  refine oc (y := mt_222) (pc := 38) (ok_aload_n dX6_isCheck_38) 39 rfl ?_
  refine oc (y := mt_222) (pc := 39) (ok_getfield dX6_isCheck_39 (fg (own := "GardenChess$State") (idx := 34) (g := 8) (k := 1) (r := (RX6, TX6, 12)) rfl ⟨⟨by decide, by decide⟩, by decide⟩ (Or.inl q447) (Or.inl rfl) rfl (fg_nil))) 42 rfl ?_
  refine oc_icmp dX6_isCheck_42 ⟨by decide, by decide⟩ 45 rfl ?_
  refine oc (y := mt_222) (pc := 45) (ok_aload_n dX6_isCheck_45) 46 rfl ?_
  refine oc (y := mt_222) (pc := 46) (ok_getfield dX6_isCheck_46 (fg (own := "GardenChess$State") (idx := 15) (g := 8) (k := 3) (r := (RX6, TX6, 12)) rfl ⟨⟨by decide, by decide⟩, by decide⟩ (Or.inl q451) (Or.inl rfl) rfl (fg_nil))) 49 rfl ?_
  refine oc (y := mt_222) (pc := 49) (ok_iload_n dX6_isCheck_49) 50 rfl ?_
  refine oc (y := mt_222) (pc := 50) (ok_iaload dX6_isCheck_50) 51 rfl ?_
  refine oc (y := mt_222) (pc := 51) (ok_iconst dX6_isCheck_51 rfl ⟨by decide, by decide⟩) 52 rfl ?_
  refine oc_icmp dX6_isCheck_52 ⟨by decide, by decide⟩ 55 rfl ?_
  exact oc_goto dX6_isCheck_55 ⟨by decide, by decide⟩
theorem o_222_58 : okL gmt mt_222 58 b_222_58 := by
  refine oc (y := mt_222) (pc := 58) (ok_iconst dX6_isCheck_58 rfl ⟨by decide, by decide⟩) 59 rfl ?_
  refine oc (y := mt_222) (pc := 59) (ok_istore_n dX6_isCheck_59 (by decide)) 60 rfl ?_
  exact oc_fall rfl
theorem o_222_60 : okL gmt mt_222 60 b_222_60 := by
  refine oc (y := mt_222) (pc := 60) (ok_iload_n dX6_isCheck_60) 61 rfl ?_
  refine oc (y := mt_222) (pc := 61) (ok_aload_n dX6_isCheck_61) 62 rfl ?_
  refine oc (y := mt_222) (pc := 62) (ok_getfield dX6_isCheck_62 (fg (own := "GardenChess$State") (idx := 3) (g := 8) (k := 11) (r := (RX6, TX6, 12)) rfl ⟨⟨by decide, by decide⟩, by decide⟩ (Or.inl q464) (Or.inl rfl) rfl (fg_nil))) 65 rfl ?_
  refine oc_V (y := mt_222) (pc := 65) (vcons (y := mt_222) (pc := 65) (len := 3) (n := 1) (M := mt_81) (by decide) rfl (Or.inr rfl) rfl (ck_VN dX6_isCheck_65 ⟨by decide, by decide, by decide, by decide +kernel⟩ q495 q497 qs1 q162 q498) vnil) (hok0 rfl) (by decide) 68 rfl ?_
  refine oc_icmp dX6_isCheck_68 ⟨by decide, by decide⟩ 71 rfl ?_
  refine oc (y := mt_222) (pc := 71) (ok_aload_n dX6_isCheck_71) 72 rfl ?_
  refine oc (y := mt_222) (pc := 72) (ok_getfield dX6_isCheck_72 (fg (own := "GardenChess$State") (idx := 3) (g := 8) (k := 11) (r := (RX6, TX6, 12)) rfl ⟨⟨by decide, by decide⟩, by decide⟩ (Or.inl q464) (Or.inl rfl) rfl (fg_nil))) 75 rfl ?_
  refine oc (y := mt_222) (pc := 75) (ok_iload_n dX6_isCheck_75) 76 rfl ?_
  refine oc_V (y := mt_222) (pc := 76) (vcons (y := mt_222) (pc := 76) (len := 3) (n := 2) (M := mt_83) (by decide) rfl (Or.inr rfl) rfl (ck_VN dX6_isCheck_76 ⟨by decide, by decide, by decide, by decide +kernel⟩ q1272 q515 qs3 q162 q516) vnil) (hok0 rfl) (by decide) 79 rfl ?_
  refine oc (y := mt_222) (pc := 79) (ok_getfield dX6_isCheck_79 (fg (own := "GardenChess$State") (idx := 94) (g := 13) (k := 2) (r := (RX10, TX10, 5)) rfl ⟨⟨by decide, by decide⟩, by decide⟩ (Or.inr ⟨_, q1036⟩) (Or.inl rfl) rfl (fg_nil))) 82 rfl ?_
  refine oc (y := mt_222) (pc := 82) (ok_aload_n dX6_isCheck_82) 83 rfl ?_
  refine oc (y := mt_222) (pc := 83) (ok_getfield dX6_isCheck_83 (fg (own := "GardenChess$State") (idx := 34) (g := 8) (k := 1) (r := (RX6, TX6, 12)) rfl ⟨⟨by decide, by decide⟩, by decide⟩ (Or.inl q447) (Or.inl rfl) rfl (fg_nil))) 86 rfl ?_
  refine oc_icmp dX6_isCheck_86 ⟨by decide, by decide⟩ 89 rfl ?_
  refine oc (y := mt_222) (pc := 89) (ok_aload_n dX6_isCheck_89) 90 rfl ?_
  refine oc (y := mt_222) (pc := 90) (ok_iload_n dX6_isCheck_90) 91 rfl ?_
  refine oc (y := mt_222) (pc := 91) (ok_aload_n dX6_isCheck_91) 92 rfl ?_
  refine oc (y := mt_222) (pc := 92) (ok_getfield dX6_isCheck_92 (fg (own := "GardenChess$State") (idx := 15) (g := 8) (k := 3) (r := (RX6, TX6, 12)) rfl ⟨⟨by decide, by decide⟩, by decide⟩ (Or.inl q451) (Or.inl rfl) rfl (fg_nil))) 95 rfl ?_
  refine oc (y := mt_222) (pc := 95) (ok_iload_n dX6_isCheck_95) 96 rfl ?_
  refine oc (y := mt_222) (pc := 96) (ok_iaload dX6_isCheck_96) 97 rfl ?_
  refine oc_V (y := mt_222) (pc := 97) (vcons (y := mt_222) (pc := 97) (len := 3) (n := 3) (M := mt_216) (by decide) rfl (Or.inr rfl) rfl (ck_V dX6_isCheck_97 ⟨by decide, by decide, by decide, by decide +kernel⟩ q1303 q1304 q1305 q174 q1306) vnil) (hok0 rfl) (by decide) 100 rfl ?_
  refine oc_if dX6_isCheck_100 ⟨by decide, by decide⟩ 103 rfl ?_
  refine oc (y := mt_222) (pc := 103) (ok_iconst dX6_isCheck_103 rfl ⟨by decide, by decide⟩) 104 rfl ?_
  exact oc_zret dX6_isCheck_104 rfl
theorem o_222_105 : okL gmt mt_222 105 b_222_105 := by
  refine oc (y := mt_222) (pc := 105) (ok_iinc dX6_isCheck_105 (by decide)) 108 rfl ?_
  exact oc_goto dX6_isCheck_108 ⟨by decide, by decide⟩
theorem o_222_111 : okL gmt mt_222 111 b_222_111 := by
  refine oc (y := mt_222) (pc := 111) (ok_iinc dX6_isCheck_111 (by decide)) 114 rfl ?_
  exact oc_goto dX6_isCheck_114 ⟨by decide, by decide⟩
theorem o_222_117 : okL gmt mt_222 117 b_222_117 := by
  refine oc (y := mt_222) (pc := 117) (ok_iconst dX6_isCheck_117 rfl ⟨by decide, by decide⟩) 118 rfl ?_
  exact oc_zret dX6_isCheck_118 rfl
theorem ok_222 : ∀ q ∈ pr_222, okL gmt mt_222 q.1 q.2 := pk_c o_222_0 (pk_c o_222_2 (pk_c o_222_58 (pk_c o_222_60 (pk_c o_222_105 (pk_c o_222_111 (pk_c o_222_117 (pk_n)))))))
theorem o_223_0 : okL gmt mt_223 0 b_223_0 := by
  refine oc (y := mt_223) (pc := 0) (ok_iconst dX6_balance_0 rfl ⟨by decide, by decide⟩) 1 rfl ?_
  refine oc (y := mt_223) (pc := 1) (ok_istore_n dX6_balance_1 (by decide)) 2 rfl ?_
  refine oc (y := mt_223) (pc := 2) (ok_iconst dX6_balance_2 rfl ⟨by decide, by decide⟩) 3 rfl ?_
  refine oc (y := mt_223) (pc := 3) (ok_istore_n dX6_balance_3 (by decide)) 4 rfl ?_
  exact oc_fall rfl
theorem o_223_4 : okL gmt mt_223 4 b_223_4 := by
  refine oc (y := mt_223) (pc := 4) (ok_iload_n dX6_balance_4) 5 rfl ?_
  refine oc (y := mt_223) (pc := 5) (ok_aload_n dX6_balance_5) 6 rfl ?_
  refine oc (y := mt_223) (pc := 6) (ok_getfield dX6_balance_6 (fg (own := "GardenChess$State") (idx := 3) (g := 8) (k := 11) (r := (RX6, TX6, 12)) rfl ⟨⟨by decide, by decide⟩, by decide⟩ (Or.inl q464) (Or.inl rfl) rfl (fg_nil))) 9 rfl ?_
  refine oc_V (y := mt_223) (pc := 9) (vcons (y := mt_223) (pc := 9) (len := 3) (n := 1) (M := mt_81) (by decide) rfl (Or.inr rfl) rfl (ck_VN dX6_balance_9 ⟨by decide, by decide, by decide, by decide +kernel⟩ q495 q497 qs1 q162 q498) vnil) (hok0 rfl) (by decide) 12 rfl ?_
  refine oc_icmp dX6_balance_12 ⟨by decide, by decide⟩ 15 rfl ?_
  refine oc (y := mt_223) (pc := 15) (ok_iload_n dX6_balance_15) 16 rfl ?_
  refine oc (y := mt_223) (pc := 16) (ok_aload_n dX6_balance_16) 17 rfl ?_
  refine oc (y := mt_223) (pc := 17) (ok_getfield dX6_balance_17 (fg (own := "GardenChess$State") (idx := 15) (g := 8) (k := 3) (r := (RX6, TX6, 12)) rfl ⟨⟨by decide, by decide⟩, by decide⟩ (Or.inl q451) (Or.inl rfl) rfl (fg_nil))) 20 rfl ?_
  refine oc (y := mt_223) (pc := 20) (ok_iload_n dX6_balance_20) 21 rfl ?_
  refine oc (y := mt_223) (pc := 21) (ok_iaload dX6_balance_21) 22 rfl ?_
  refine oc (y := mt_223) (pc := 22) (ok_iconst dX6_balance_22 rfl ⟨by decide, by decide⟩) 23 rfl ?_
  refine oc_icmp dX6_balance_23 ⟨by decide, by decide⟩ 26 rfl ?_
  refine oc (y := mt_223) (pc := 26) (ok_iconst dX6_balance_26 rfl ⟨by decide, by decide⟩) 27 rfl ?_
  exact oc_goto dX6_balance_27 ⟨by decide, by decide⟩
theorem o_223_30 : okL gmt mt_223 30 b_223_30 := by
  refine oc (y := mt_223) (pc := 30) (ok_aload_n dX6_balance_30) 31 rfl ?_
  refine oc (y := mt_223) (pc := 31) (ok_getfield dX6_balance_31 (fg (own := "GardenChess$State") (idx := 3) (g := 8) (k := 11) (r := (RX6, TX6, 12)) rfl ⟨⟨by decide, by decide⟩, by decide⟩ (Or.inl q464) (Or.inl rfl) rfl (fg_nil))) 34 rfl ?_
  refine oc (y := mt_223) (pc := 34) (ok_iload_n dX6_balance_34) 35 rfl ?_
  refine oc_V (y := mt_223) (pc := 35) (vcons (y := mt_223) (pc := 35) (len := 3) (n := 2) (M := mt_83) (by decide) rfl (Or.inr rfl) rfl (ck_VN dX6_balance_35 ⟨by decide, by decide, by decide, by decide +kernel⟩ q1272 q515 qs3 q162 q516) vnil) (hok0 rfl) (by decide) 38 rfl ?_
  refine oc (y := mt_223) (pc := 38) (ok_getfield dX6_balance_38 (fg (own := "GardenChess$State") (idx := 94) (g := 13) (k := 2) (r := (RX10, TX10, 5)) rfl ⟨⟨by decide, by decide⟩, by decide⟩ (Or.inr ⟨_, q1036⟩) (Or.inl rfl) rfl (fg_nil))) 41 rfl ?_
  refine oc (y := mt_223) (pc := 41) (ok_iload_n dX6_balance_41) 42 rfl ?_
  refine oc_icmp dX6_balance_42 ⟨by decide, by decide⟩ 45 rfl ?_
  refine oc (y := mt_223) (pc := 45) (ok_aload_n dX6_balance_45) 46 rfl ?_
  refine oc (y := mt_223) (pc := 46) (ok_getfield dX6_balance_46 (fg (own := "GardenChess$State") (idx := 3) (g := 8) (k := 11) (r := (RX6, TX6, 12)) rfl ⟨⟨by decide, by decide⟩, by decide⟩ (Or.inl q464) (Or.inl rfl) rfl (fg_nil))) 49 rfl ?_
  refine oc (y := mt_223) (pc := 49) (ok_iload_n dX6_balance_49) 50 rfl ?_
  refine oc_V (y := mt_223) (pc := 50) (vcons (y := mt_223) (pc := 50) (len := 3) (n := 2) (M := mt_82) (by decide) rfl (Or.inr rfl) rfl (ck_VN dX6_balance_50 ⟨by decide, by decide, by decide, by decide +kernel⟩ q509 q511 qs2 q162 q512) vnil) (hok0 rfl) (by decide) 53 rfl ?_
  refine oc (y := mt_223) (pc := 53) (ok_getfield dX6_balance_53 (fg (own := "GardenChess$State") (idx := 142) (g := 12) (k := 3) (r := (RX9, TX9, 5)) rfl ⟨⟨by decide, by decide⟩, by decide⟩ (Or.inr ⟨_, q907⟩) (Or.inl rfl) rfl (fg_nil))) 56 rfl ?_
  exact oc_goto dX6_balance_56 ⟨by decide, by decide⟩
theorem o_223_59 : okL gmt mt_223 59 b_223_59 := by
  refine oc (y := mt_223) (pc := 59) (ok_aload_n dX6_balance_59) 60 rfl ?_
  refine oc (y := mt_223) (pc := 60) (ok_getfield dX6_balance_60 (fg (own := "GardenChess$State") (idx := 3) (g := 8) (k := 11) (r := (RX6, TX6, 12)) rfl ⟨⟨by decide, by decide⟩, by decide⟩ (Or.inl q464) (Or.inl rfl) rfl (fg_nil))) 63 rfl ?_
  refine oc (y := mt_223) (pc := 63) (ok_iload_n dX6_balance_63) 64 rfl ?_
  refine oc_V (y := mt_223) (pc := 64) (vcons (y := mt_223) (pc := 64) (len := 3) (n := 2) (M := mt_82) (by decide) rfl (Or.inr rfl) rfl (ck_VN dX6_balance_64 ⟨by decide, by decide, by decide, by decide +kernel⟩ q509 q511 qs2 q162 q512) vnil) (hok0 rfl) (by decide) 67 rfl ?_
  refine oc (y := mt_223) (pc := 67) (ok_getfield dX6_balance_67 (fg (own := "GardenChess$State") (idx := 142) (g := 12) (k := 3) (r := (RX9, TX9, 5)) rfl ⟨⟨by decide, by decide⟩, by decide⟩ (Or.inr ⟨_, q907⟩) (Or.inl rfl) rfl (fg_nil))) 70 rfl ?_
  refine oc (y := mt_223) (pc := 70) (ok_ineg dX6_balance_70) 71 rfl ?_
  exact oc_fall rfl
theorem o_223_71 : okL gmt mt_223 71 b_223_71 := by
  refine oc (y := mt_223) (pc := 71) (ok_iadd dX6_balance_71) 72 rfl ?_
  refine oc (y := mt_223) (pc := 72) (ok_istore_n dX6_balance_72 (by decide)) 73 rfl ?_
  refine oc (y := mt_223) (pc := 73) (ok_iinc dX6_balance_73 (by decide)) 76 rfl ?_
  exact oc_goto dX6_balance_76 ⟨by decide, by decide⟩
theorem o_223_79 : okL gmt mt_223 79 b_223_79 := by
  refine oc (y := mt_223) (pc := 79) (ok_iload_n dX6_balance_79) 80 rfl ?_
  exact oc_iret dX6_balance_80 rfl
theorem ok_223 : ∀ q ∈ pr_223, okL gmt mt_223 q.1 q.2 := pk_c o_223_0 (pk_c o_223_4 (pk_c o_223_30 (pk_c o_223_59 (pk_c o_223_71 (pk_c o_223_79 (pk_n))))))
theorem o_224_0 : okL gmt mt_224 0 b_224_0 := by
  refine oc (y := mt_224) (pc := 0) (ok_iload_n dX6_value_0) 1 rfl ?_
  refine oc_if dX6_value_1 ⟨by decide, by decide⟩ 4 rfl ?_
  refine oc (y := mt_224) (pc := 4) (ok_aload_n dX6_value_4) 5 rfl ?_
  refine oc (y := mt_224) (pc := 5) (ok_getfield dX6_value_5 (fg (own := "GardenChess$State") (idx := 81) (g := 8) (k := 7) (r := (RX6, TX6, 12)) rfl ⟨⟨by decide, by decide⟩, by decide⟩ (Or.inl q459) (Or.inl rfl) rfl (fg_nil))) 8 rfl ?_
  refine oc_if dX6_value_8 ⟨by decide, by decide⟩ 11 rfl ?_
  exact oc_fall rfl
theorem o_224_11 : okL gmt mt_224 11 b_224_11 := by
  refine oc (y := mt_224) (pc := 11) (ok_aload_n dX6_value_11) 12 rfl ?_
  refine oc (y := mt_224) (pc := 12) (ok_aload_n dX6_value_12) 13 rfl ?_
  refine oc (y := mt_224) (pc := 13) (ok_getfield dX6_value_13 (fg (own := "GardenChess$State") (idx := 34) (g := 8) (k := 1) (r := (RX6, TX6, 12)) rfl ⟨⟨by decide, by decide⟩, by decide⟩ (Or.inl q447) (Or.inl rfl) rfl (fg_nil))) 16 rfl ?_
  refine oc_V (y := mt_224) (pc := 16) (vcons (y := mt_224) (pc := 16) (len := 3) (n := 2) (M := mt_223) (by decide) rfl (Or.inr rfl) rfl (ck_V dX6_value_16 ⟨by decide, by decide, by decide, by decide +kernel⟩ q1426 q1414 q1415 q174 q1416) vnil) (hok0 rfl) (by decide) 19 rfl ?_
  exact oc_iret dX6_value_19 rfl
theorem o_224_20 : okL gmt mt_224 20 b_224_20 := by
  refine oc (y := mt_224) (pc := 20) (ok_aload_n dX6_value_20) 21 rfl ?_
  refine oc (y := mt_224) (pc := 21) (ok_getfield dX6_value_21 (fg (own := "GardenChess$State") (idx := 3) (g := 8) (k := 11) (r := (RX6, TX6, 12)) rfl ⟨⟨by decide, by decide⟩, by decide⟩ (Or.inl q464) (Or.inl rfl) rfl (fg_nil))) 24 rfl ?_
  refine oc (y := mt_224) (pc := 24) (ok_getfield dX6_value_24 (fg (own := "GardenChess$State") (idx := 148) (g := 1) (k := 9) (r := (RX0, TX0, 25)) rfl ⟨⟨by decide, by decide⟩, by decide⟩ (Or.inr ⟨_, q551⟩) (Or.inl rfl) rfl (fg_nil))) 27 rfl ?_
  refine oc (y := mt_224) (pc := 27) (ok_iload_n dX6_value_27) 28 rfl ?_
  refine oc (y := mt_224) (pc := 28) (ok_aaload (ty := .object "GardenChess$Moves") dX6_value_28 (by decide) (by decide) rfl rfl) 29 rfl ?_
  refine oc (y := mt_224) (pc := 29) (ok_astore_n dX6_value_29 (by decide)) 30 rfl ?_
  refine oc (y := mt_224) (pc := 30) (ok_aload_n dX6_value_30) 31 rfl ?_
  refine oc (y := mt_224) (pc := 31) (ok_aload_n dX6_value_31) 32 rfl ?_
  refine oc (y := mt_224) (pc := 32) (ok_getfield dX6_value_32 (fg (own := "GardenChess$State") (idx := 34) (g := 8) (k := 1) (r := (RX6, TX6, 12)) rfl ⟨⟨by decide, by decide⟩, by decide⟩ (Or.inl q447) (Or.inl rfl) rfl (fg_nil))) 35 rfl ?_
  refine oc (y := mt_224) (pc := 35) (ok_aload_n dX6_value_35) 36 rfl ?_
  refine oc_V (y := mt_224) (pc := 36) (vcons (y := mt_224) (pc := 36) (len := 3) (n := 3) (M := mt_215) (by decide) rfl (Or.inr rfl) rfl (ck_V dX6_value_36 ⟨by decide, by decide, by decide, by decide +kernel⟩ q1299 q1300 q1301 q174 q1302) vnil) (hok0 rfl) (by decide) 39 rfl ?_
  refine oc (y := mt_224) (pc := 39) (ok_aload_n dX6_value_39) 40 rfl ?_
  refine oc (y := mt_224) (pc := 40) (ok_getfield dX6_value_40 (fg (own := "GardenChess$State") (idx := 116) (g := 7) (k := 2) (r := (RX5, TX5, 3)) rfl ⟨⟨by decide, by decide⟩, by decide⟩ (Or.inr ⟨_, q428⟩) (Or.inl rfl) rfl (fg_nil))) 43 rfl ?_
  refine oc_if dX6_value_43 ⟨by decide, by decide⟩ 46 rfl ?_
  refine oc (y := mt_224) (pc := 46) (ok_aload_n dX6_value_46) 47 rfl ?_
  refine oc (y := mt_224) (pc := 47) (ok_aload_n dX6_value_47) 48 rfl ?_
  refine oc (y := mt_224) (pc := 48) (ok_getfield dX6_value_48 (fg (own := "GardenChess$State") (idx := 34) (g := 8) (k := 1) (r := (RX6, TX6, 12)) rfl ⟨⟨by decide, by decide⟩, by decide⟩ (Or.inl q447) (Or.inl rfl) rfl (fg_nil))) 51 rfl ?_
  refine oc_V (y := mt_224) (pc := 51) (vcons (y := mt_224) (pc := 51) (len := 3) (n := 2) (M := mt_223) (by decide) rfl (Or.inr rfl) rfl (ck_V dX6_value_51 ⟨by decide, by decide, by decide, by decide +kernel⟩ q1426 q1414 q1415 q174 q1416) vnil) (hok0 rfl) (by decide) 54 rfl ?_
  exact oc_iret dX6_value_54 rfl
theorem o_224_55 : okL gmt mt_224 55 b_224_55 := by
  refine oc (y := mt_224) (pc := 55) (ok_ldcI dX6_value_55 rfl ⟨by decide, by decide⟩ q1427) 57 rfl ?_
  refine oc (y := mt_224) (pc := 57) (ok_istore_n dX6_value_57 (by decide)) 58 rfl ?_
  refine oc (y := mt_224) (pc := 58) (ok_iconst dX6_value_58 rfl ⟨by decide, by decide⟩) 59 rfl ?_
  refine oc (y := mt_224) (pc := 59) (ok_istore dX6_value_59 (by decide)) 61 rfl ?_
  exact oc_fall rfl
theorem o_224_61 : okL gmt mt_224 61 b_224_61 := by
  refine oc (y := mt_224) (pc := 61) (ok_iload dX6_value_61) 63 rfl ?_
  refine oc (y := mt_224) (pc := 63) (ok_aload_n dX6_value_63) 64 rfl ?_
  refine oc (y := mt_224) (pc := 64) (ok_getfield dX6_value_64 (fg (own := "GardenChess$State") (idx := 116) (g := 7) (k := 2) (r := (RX5, TX5, 3)) rfl ⟨⟨by decide, by decide⟩, by decide⟩ (Or.inr ⟨_, q428⟩) (Or.inl rfl) rfl (fg_nil))) 67 rfl ?_
  refine oc_icmp dX6_value_67 ⟨by decide, by decide⟩ 70 rfl ?_
  refine oc (y := mt_224) (pc := 70) (ok_iload_n dX6_value_70) 71 rfl ?_
  refine oc (y := mt_224) (pc := 71) (ok_aload_n dX6_value_71) 72 rfl ?_
  refine oc (y := mt_224) (pc := 72) (ok_aload_n dX6_value_72) 73 rfl ?_
  refine oc (y := mt_224) (pc := 73) (ok_iload dX6_value_73) 75 rfl ?_
  refine oc (y := mt_224) (pc := 75) (ok_iload_n dX6_value_75) 76 rfl ?_
  refine oc_V (y := mt_224) (pc := 76) (vcons (y := mt_224) (pc := 76) (len := 3) (n := 4) (M := mt_225) (by decide) rfl (Or.inr rfl) rfl (ck_V dX6_value_76 ⟨by decide, by decide, by decide, by decide +kernel⟩ q1428 q1430 qs39 q174 q1431) vnil) (hok0 rfl) (by decide) 79 rfl ?_
  refine oc_S (y := mt_224) (pc := 79) (M := mt_17) rfl (ck_S dX6_value_79 ⟨by decide, by decide, by decide, by decide +kernel⟩ q1310 q956 q184 q957) (hok0 rfl) (by decide) 82 rfl ?_
  refine oc (y := mt_224) (pc := 82) (ok_istore_n dX6_value_82 (by decide)) 83 rfl ?_
  refine oc (y := mt_224) (pc := 83) (ok_iinc dX6_value_83 (by decide)) 86 rfl ?_
  exact oc_goto dX6_value_86 ⟨by decide, by decide⟩
theorem o_224_89 : okL gmt mt_224 89 b_224_89 := by
  refine oc (y := mt_224) (pc := 89) (ok_iload_n dX6_value_89) 90 rfl ?_
  exact oc_iret dX6_value_90 rfl
theorem ok_224 : ∀ q ∈ pr_224, okL gmt mt_224 q.1 q.2 := pk_c o_224_0 (pk_c o_224_11 (pk_c o_224_20 (pk_c o_224_55 (pk_c o_224_61 (pk_c o_224_89 (pk_n))))))
theorem o_225_0 : okL gmt mt_225 0 b_225_0 := by
  refine oc (y := mt_225) (pc := 0) (ok_aload_n dX6_behind_0) 1 rfl ?_
  refine oc (y := mt_225) (pc := 1) (ok_getfield dX6_behind_1 (fg (own := "GardenChess$State") (idx := 157) (g := 7) (k := 0) (r := (RX5, TX5, 3)) rfl ⟨⟨by decide, by decide⟩, by decide⟩ (Or.inr ⟨_, q422⟩) (Or.inl rfl) rfl (fg_nil))) 4 rfl ?_
  refine oc (y := mt_225) (pc := 4) (ok_iload_n dX6_behind_4) 5 rfl ?_
  refine oc (y := mt_225) (pc := 5) (ok_iaload dX6_behind_5) 6 rfl ?_
  refine oc (y := mt_225) (pc := 6) (ok_istore dX6_behind_6 (by decide)) 8 rfl ?_
  refine oc (y := mt_225) (pc := 8) (ok_aload_n dX6_behind_8) 9 rfl ?_
  refine oc (y := mt_225) (pc := 9) (ok_getfield dX6_behind_9 (fg (own := "GardenChess$State") (idx := 15) (g := 8) (k := 3) (r := (RX6, TX6, 12)) rfl ⟨⟨by decide, by decide⟩, by decide⟩ (Or.inl q451) (Or.inl rfl) rfl (fg_nil))) 12 rfl ?_
  refine oc (y := mt_225) (pc := 12) (ok_iload dX6_behind_12) 14 rfl ?_
  refine oc (y := mt_225) (pc := 14) (ok_iaload dX6_behind_14) 15 rfl ?_
  refine oc (y := mt_225) (pc := 15) (ok_istore dX6_behind_15 (by decide)) 17 rfl ?_
  refine oc (y := mt_225) (pc := 17) (ok_aload_n dX6_behind_17) 18 rfl ?_
  refine oc (y := mt_225) (pc := 18) (ok_iload dX6_behind_18) 20 rfl ?_
  refine oc (y := mt_225) (pc := 20) (ok_aload_n dX6_behind_20) 21 rfl ?_
  refine oc (y := mt_225) (pc := 21) (ok_getfield dX6_behind_21 (fg (own := "GardenChess$State") (idx := 160) (g := 7) (k := 1) (r := (RX5, TX5, 3)) rfl ⟨⟨by decide, by decide⟩, by decide⟩ (Or.inr ⟨_, q425⟩) (Or.inl rfl) rfl (fg_nil))) 24 rfl ?_
  refine oc (y := mt_225) (pc := 24) (ok_iload_n dX6_behind_24) 25 rfl ?_
  refine oc (y := mt_225) (pc := 25) (ok_iaload dX6_behind_25) 26 rfl ?_
  refine oc_V (y := mt_225) (pc := 26) (vcons (y := mt_225) (pc := 26) (len := 3) (n := 3) (M := mt_221) (by decide) rfl (Or.inr rfl) rfl (ck_V dX6_behind_26 ⟨by decide, by decide, by decide, by decide +kernel⟩ q1432 q1398 q1399 q174 q1400) vnil) (hok0 rfl) (by decide) 29 rfl ?_
  refine oc (y := mt_225) (pc := 29) (ok_istore dX6_behind_29 (by decide)) 31 rfl ?_
  refine oc (y := mt_225) (pc := 31) (ok_aload_n dX6_behind_31) 32 rfl ?_
  refine oc (y := mt_225) (pc := 32) (ok_iload_n dX6_behind_32) 33 rfl ?_
  refine oc (y := mt_225) (pc := 33) (ok_iconst dX6_behind_33 rfl ⟨by decide, by decide⟩) 34 rfl ?_
  refine oc (y := mt_225) (pc := 34) (ok_isub dX6_behind_34) 35 rfl ?_
  refine oc_V (y := mt_225) (pc := 35) (vcons (y := mt_225) (pc := 35) (len := 3) (n := 2) (M := mt_224) (by decide) rfl (Or.inr rfl) rfl (ck_V dX6_behind_35 ⟨by decide, by decide, by decide, by decide +kernel⟩ q1433 q1423 q1424 q174 q1425) vnil) (hok0 rfl) (by decide) 38 rfl ?_
  refine oc (y := mt_225) (pc := 38) (ok_ineg dX6_behind_38) 39 rfl ?_
  refine oc (y := mt_225) (pc := 39) (ok_istore dX6_behind_39 (by decide)) 41 rfl ?_
  refine oc (y := mt_225) (pc := 41) (ok_aload_n dX6_behind_41) 42 rfl ?_
  refine oc (y := mt_225) (pc := 42) (ok_iload dX6_behind_42) 44 rfl ?_
  refine oc (y := mt_225) (pc := 44) (ok_iload dX6_behind_44) 46 rfl ?_
  refine oc (y := mt_225) (pc := 46) (ok_iload dX6_behind_46) 48 rfl ?_
  refine oc_V (y := mt_225) (pc := 48) (vcons (y := mt_225) (pc := 48) (len := 3) (n := 4) (M := mt_226) (by decide) rfl (Or.inr rfl) rfl (ck_V dX6_behind_48 ⟨by decide, by decide, by decide, by decide +kernel⟩ q1434 q1435 q1436 q174 q1437) vnil) (hok0 rfl) (by decide) 51 rfl ?_
  refine oc (y := mt_225) (pc := 51) (ok_iload dX6_behind_51) 53 rfl ?_
  exact oc_iret dX6_behind_53 rfl
theorem ok_225 : ∀ q ∈ pr_225, okL gmt mt_225 q.1 q.2 := pk_c o_225_0 (pk_n)
theorem o_226_0 : okL gmt mt_226 0 b_226_0 := by
  refine oc (y := mt_226) (pc := 0) (ok_aload_n dX6_movesBack_0) 1 rfl ?_
  refine oc (y := mt_226) (pc := 1) (ok_getfield dX6_movesBack_1 (fg (own := "GardenChess$State") (idx := 15) (g := 8) (k := 3) (r := (RX6, TX6, 12)) rfl ⟨⟨by decide, by decide⟩, by decide⟩ (Or.inl q451) (Or.inl rfl) rfl (fg_nil))) 4 rfl ?_
  refine oc (y := mt_226) (pc := 4) (ok_iload_n dX6_movesBack_4) 5 rfl ?_
  refine oc (y := mt_226) (pc := 5) (ok_iaload dX6_movesBack_5) 6 rfl ?_
  refine oc (y := mt_226) (pc := 6) (ok_istore dX6_movesBack_6 (by decide)) 8 rfl ?_
  refine oc (y := mt_226) (pc := 8) (ok_aload_n dX6_movesBack_8) 9 rfl ?_
  refine oc (y := mt_226) (pc := 9) (ok_getfield dX6_movesBack_9 (fg (own := "GardenChess$State") (idx := 19) (g := 8) (k := 4) (r := (RX6, TX6, 12)) rfl ⟨⟨by decide, by decide⟩, by decide⟩ (Or.inl q453) (Or.inl rfl) rfl (fg_nil))) 12 rfl ?_
  refine oc (y := mt_226) (pc := 12) (ok_iload dX6_movesBack_12) 14 rfl ?_
  refine oc (y := mt_226) (pc := 14) (ok_iload_n dX6_movesBack_14) 15 rfl ?_
  refine oc (y := mt_226) (pc := 15) (ok_iastore dX6_movesBack_15) 16 rfl ?_
  refine oc (y := mt_226) (pc := 16) (ok_iload_n dX6_movesBack_16) 17 rfl ?_
  refine oc (y := mt_226) (pc := 17) (ok_iconst dX6_movesBack_17 rfl ⟨by decide, by decide⟩) 18 rfl ?_
  refine oc_icmp dX6_movesBack_18 ⟨by decide, by decide⟩ 21 rfl ?_
  refine oc (y := mt_226) (pc := 21) (ok_aload_n dX6_movesBack_21) 22 rfl ?_
  refine oc (y := mt_226) (pc := 22) (ok_getfield dX6_movesBack_22 (fg (own := "GardenChess$State") (idx := 15) (g := 8) (k := 3) (r := (RX6, TX6, 12)) rfl ⟨⟨by decide, by decide⟩, by decide⟩ (Or.inl q451) (Or.inl rfl) rfl (fg_nil))) 25 rfl ?_
  refine oc (y := mt_226) (pc := 25) (ok_iload_n dX6_movesBack_25) 26 rfl ?_
  refine oc (y := mt_226) (pc := 26) (ok_iload dX6_movesBack_26) 28 rfl ?_
  refine oc (y := mt_226) (pc := 28) (ok_iastore dX6_movesBack_28) 29 rfl ?_
  refine oc (y := mt_226) (pc := 29) (ok_aload_n dX6_movesBack_29) 30 rfl ?_
  refine oc (y := mt_226) (pc := 30) (ok_dup dX6_movesBack_30) 31 rfl ?_
  refine oc (y := mt_226) (pc := 31) (ok_getfield dX6_movesBack_31 (fg (own := "GardenChess$State") (idx := 81) (g := 8) (k := 7) (r := (RX6, TX6, 12)) rfl ⟨⟨by decide, by decide⟩, by decide⟩ (Or.inl q459) (Or.inl rfl) rfl (fg_nil))) 34 rfl ?_
  refine oc (y := mt_226) (pc := 34) (ok_aload_n dX6_movesBack_34) 35 rfl ?_
  refine oc (y := mt_226) (pc := 35) (ok_getfield dX6_movesBack_35 (fg (own := "GardenChess$State") (idx := 3) (g := 8) (k := 11) (r := (RX6, TX6, 12)) rfl ⟨⟨by decide, by decide⟩, by decide⟩ (Or.inl q464) (Or.inl rfl) rfl (fg_nil))) 38 rfl ?_
  refine oc (y := mt_226) (pc := 38) (ok_iload_n dX6_movesBack_38) 39 rfl ?_
  refine oc_V (y := mt_226) (pc := 39) (vcons (y := mt_226) (pc := 39) (len := 3) (n := 2) (M := mt_82) (by decide) rfl (Or.inr rfl) rfl (ck_VN dX6_movesBack_39 ⟨by decide, by decide, by decide, by decide +kernel⟩ q509 q511 qs2 q162 q512) vnil) (hok0 rfl) (by decide) 42 rfl ?_
  refine oc (y := mt_226) (pc := 42) (ok_getfield dX6_movesBack_42 (fg (own := "GardenChess$State") (idx := 88) (g := 12) (k := 4) (r := (RX9, TX9, 5)) rfl ⟨⟨by decide, by decide⟩, by decide⟩ (Or.inr ⟨_, q909⟩) (Or.inl rfl) rfl (fg_nil))) 45 rfl ?_
  refine oc_if dX6_movesBack_45 ⟨by decide, by decide⟩ 48 rfl ?_
  refine oc (y := mt_226) (pc := 48) (ok_iconst dX6_movesBack_48 rfl ⟨by decide, by decide⟩) 49 rfl ?_
  exact oc_goto dX6_movesBack_49 ⟨by decide, by decide⟩
theorem o_226_52 : okL gmt mt_226 52 b_226_52 := by
  refine oc (y := mt_226) (pc := 52) (ok_iconst dX6_movesBack_52 rfl ⟨by decide, by decide⟩) 53 rfl ?_
  exact oc_fall rfl
theorem o_226_53 : okL gmt mt_226 53 b_226_53 := by
  refine oc (y := mt_226) (pc := 53) (ok_isub dX6_movesBack_53) 54 rfl ?_
  refine oc (y := mt_226) (pc := 54) (ok_putfield dX6_movesBack_54 (fp (own := "GardenChess$State") (idx := 81) (g := 8) (k := 7) (r := (RX6, TX6, 12)) rfl ⟨⟨by decide, by decide⟩, by decide⟩ (Or.inl q459) (Or.inl rfl) rfl (Or.inl rfl) (fp_nil))) 57 rfl ?_
  exact oc_fall rfl
theorem o_226_57 : okL gmt mt_226 57 b_226_57 := by
  refine oc (y := mt_226) (pc := 57) (ok_aload_n dX6_movesBack_57) 58 rfl ?_
  refine oc (y := mt_226) (pc := 58) (ok_getfield dX6_movesBack_58 (fg (own := "GardenChess$State") (idx := 15) (g := 8) (k := 3) (r := (RX6, TX6, 12)) rfl ⟨⟨by decide, by decide⟩, by decide⟩ (Or.inl q451) (Or.inl rfl) rfl (fg_nil))) 61 rfl ?_
  refine oc (y := mt_226) (pc := 61) (ok_iload_n dX6_movesBack_61) 62 rfl ?_
  refine oc (y := mt_226) (pc := 62) (ok_iload_n dX6_movesBack_62) 63 rfl ?_
  refine oc (y := mt_226) (pc := 63) (ok_iastore dX6_movesBack_63) 64 rfl ?_
  refine oc (y := mt_226) (pc := 64) (ok_aload_n dX6_movesBack_64) 65 rfl ?_
  refine oc (y := mt_226) (pc := 65) (ok_getfield dX6_movesBack_65 (fg (own := "GardenChess$State") (idx := 19) (g := 8) (k := 4) (r := (RX6, TX6, 12)) rfl ⟨⟨by decide, by decide⟩, by decide⟩ (Or.inl q453) (Or.inl rfl) rfl (fg_nil))) 68 rfl ?_
  refine oc (y := mt_226) (pc := 68) (ok_iload_n dX6_movesBack_68) 69 rfl ?_
  refine oc (y := mt_226) (pc := 69) (ok_iload_n dX6_movesBack_69) 70 rfl ?_
  refine oc (y := mt_226) (pc := 70) (ok_iastore dX6_movesBack_70) 71 rfl ?_
  refine oc (y := mt_226) (pc := 71) (ok_aload_n dX6_movesBack_71) 72 rfl ?_
  refine oc (y := mt_226) (pc := 72) (ok_iconst dX6_movesBack_72 rfl ⟨by decide, by decide⟩) 73 rfl ?_
  refine oc (y := mt_226) (pc := 73) (ok_aload_n dX6_movesBack_73) 74 rfl ?_
  refine oc (y := mt_226) (pc := 74) (ok_getfield dX6_movesBack_74 (fg (own := "GardenChess$State") (idx := 34) (g := 8) (k := 1) (r := (RX6, TX6, 12)) rfl ⟨⟨by decide, by decide⟩, by decide⟩ (Or.inl q447) (Or.inl rfl) rfl (fg_nil))) 77 rfl ?_
  refine oc (y := mt_226) (pc := 77) (ok_isub dX6_movesBack_77) 78 rfl ?_
  refine oc (y := mt_226) (pc := 78) (ok_putfield dX6_movesBack_78 (fp (own := "GardenChess$State") (idx := 34) (g := 8) (k := 1) (r := (RX6, TX6, 12)) rfl ⟨⟨by decide, by decide⟩, by decide⟩ (Or.inl q447) (Or.inl rfl) rfl (Or.inl rfl) (fp_nil))) 81 rfl ?_
  exact oc_ret dX6_movesBack_81 rfl
theorem ok_226 : ∀ q ∈ pr_226, okL gmt mt_226 q.1 q.2 := pk_c o_226_0 (pk_c o_226_52 (pk_c o_226_53 (pk_c o_226_57 (pk_n))))
theorem o_227_0 : okL gmt mt_227 0 b_227_0 := by
  refine oc (y := mt_227) (pc := 0) (ok_aload_n dX6_best_0) 1 rfl ?_
  refine oc_V (y := mt_227) (pc := 1) (vcons (y := mt_227) (pc := 1) (len := 3) (n := 1) (M := mt_214) (by decide) rfl (Or.inr rfl) rfl (ck_V dX6_best_1 ⟨by decide, by decide, by decide, by decide +kernel⟩ q1446 q1296 q1297 q174 q1298) vnil) (hok0 rfl) (by decide) 4 rfl ?_
  refine oc_if dX6_best_4 ⟨by decide, by decide⟩ 7 rfl ?_
  refine oc (y := mt_227) (pc := 7) (ok_iconst dX6_best_7 rfl ⟨by decide, by decide⟩) 8 rfl ?_
  exact oc_iret dX6_best_8 rfl
theorem o_227_9 : okL gmt mt_227 9 b_227_9 := by
  refine oc (y := mt_227) (pc := 9) (ok_aload_n dX6_best_9) 10 rfl ?_
  refine oc (y := mt_227) (pc := 10) (ok_getfield dX6_best_10 (fg (own := "GardenChess$State") (idx := 3) (g := 8) (k := 11) (r := (RX6, TX6, 12)) rfl ⟨⟨by decide, by decide⟩, by decide⟩ (Or.inl q464) (Or.inl rfl) rfl (fg_nil))) 13 rfl ?_
  refine oc (y := mt_227) (pc := 13) (ok_getfield dX6_best_13 (fg (own := "GardenChess$State") (idx := 148) (g := 1) (k := 9) (r := (RX0, TX0, 25)) rfl ⟨⟨by decide, by decide⟩, by decide⟩ (Or.inr ⟨_, q551⟩) (Or.inl rfl) rfl (fg_nil))) 16 rfl ?_
  refine oc (y := mt_227) (pc := 16) (ok_iload_n dX6_best_16) 17 rfl ?_
  refine oc (y := mt_227) (pc := 17) (ok_aaload (ty := .object "GardenChess$Moves") dX6_best_17 (by decide) (by decide) rfl rfl) 18 rfl ?_
  refine oc (y := mt_227) (pc := 18) (ok_astore_n dX6_best_18 (by decide)) 19 rfl ?_
  refine oc (y := mt_227) (pc := 19) (ok_aload_n dX6_best_19) 20 rfl ?_
  refine oc (y := mt_227) (pc := 20) (ok_aload_n dX6_best_20) 21 rfl ?_
  refine oc (y := mt_227) (pc := 21) (ok_getfield dX6_best_21 (fg (own := "GardenChess$State") (idx := 34) (g := 8) (k := 1) (r := (RX6, TX6, 12)) rfl ⟨⟨by decide, by decide⟩, by decide⟩ (Or.inl q447) (Or.inl rfl) rfl (fg_nil))) 24 rfl ?_
  refine oc (y := mt_227) (pc := 24) (ok_aload_n dX6_best_24) 25 rfl ?_
  refine oc_V (y := mt_227) (pc := 25) (vcons (y := mt_227) (pc := 25) (len := 3) (n := 3) (M := mt_215) (by decide) rfl (Or.inr rfl) rfl (ck_V dX6_best_25 ⟨by decide, by decide, by decide, by decide +kernel⟩ q1299 q1300 q1301 q174 q1302) vnil) (hok0 rfl) (by decide) 28 rfl ?_
  refine oc (y := mt_227) (pc := 28) (ok_iconst dX6_best_28 rfl ⟨by decide, by decide⟩) 29 rfl ?_
  refine oc (y := mt_227) (pc := 29) (ok_istore_n dX6_best_29 (by decide)) 30 rfl ?_
  refine oc (y := mt_227) (pc := 30) (ok_ldcI dX6_best_30 rfl ⟨by decide, by decide⟩ q1427) 32 rfl ?_
  refine oc (y := mt_227) (pc := 32) (ok_istore dX6_best_32 (by decide)) 34 rfl ?_
  refine oc (y := mt_227) (pc := 34) (ok_iconst dX6_best_34 rfl ⟨by decide, by decide⟩) 35 rfl ?_
  refine oc (y := mt_227) (pc := 35) (ok_istore dX6_best_35 (by decide)) 37 rfl ?_
  exact oc_fall rfl
theorem o_227_37 : okL gmt mt_227 37 b_227_37 := by
  refine oc (y := mt_227) (pc := 37) (ok_iload dX6_best_37) 39 rfl ?_
  refine oc (y := mt_227) (pc := 39) (ok_aload_n dX6_best_39) 40 rfl ?_
  refine oc (y := mt_227) (pc := 40) (ok_getfield dX6_best_40 (fg (own := "GardenChess$State") (idx := 116) (g := 7) (k := 2) (r := (RX5, TX5, 3)) rfl ⟨⟨by decide, by decide⟩, by decide⟩ (Or.inr ⟨_, q428⟩) (Or.inl rfl) rfl (fg_nil))) 43 rfl ?_
  refine oc_icmp dX6_best_43 ⟨by decide, by decide⟩ 46 rfl ?_
  refine oc (y := mt_227) (pc := 46) (ok_aload_n dX6_best_46) 47 rfl ?_
  refine oc (y := mt_227) (pc := 47) (ok_aload_n dX6_best_47) 48 rfl ?_
  refine oc (y := mt_227) (pc := 48) (ok_iload dX6_best_48) 50 rfl ?_
  refine oc (y := mt_227) (pc := 50) (ok_iload_n dX6_best_50) 51 rfl ?_
  refine oc_V (y := mt_227) (pc := 51) (vcons (y := mt_227) (pc := 51) (len := 3) (n := 4) (M := mt_225) (by decide) rfl (Or.inr rfl) rfl (ck_V dX6_best_51 ⟨by decide, by decide, by decide, by decide +kernel⟩ q1428 q1430 qs39 q174 q1431) vnil) (hok0 rfl) (by decide) 54 rfl ?_
  refine oc (y := mt_227) (pc := 54) (ok_istore dX6_best_54 (by decide)) 56 rfl ?_
  refine oc (y := mt_227) (pc := 56) (ok_iload dX6_best_56) 58 rfl ?_
  refine oc (y := mt_227) (pc := 58) (ok_iload dX6_best_58) 60 rfl ?_
  refine oc_icmp dX6_best_60 ⟨by decide, by decide⟩ 63 rfl ?_
  exact oc_goto dX6_best_63 ⟨by decide, by decide⟩
theorem o_227_66 : okL gmt mt_227 66 b_227_66 := by
  refine oc (y := mt_227) (pc := 66) (ok_iload dX6_best_66) 68 rfl ?_
  refine oc (y := mt_227) (pc := 68) (ok_istore dX6_best_68 (by decide)) 70 rfl ?_
  refine oc (y := mt_227) (pc := 70) (ok_iload dX6_best_70) 72 rfl ?_
  refine oc (y := mt_227) (pc := 72) (ok_istore_n dX6_best_72 (by decide)) 73 rfl ?_
  exact oc_fall rfl
theorem o_227_73 : okL gmt mt_227 73 b_227_73 := by
  refine oc (y := mt_227) (pc := 73) (ok_iinc dX6_best_73 (by decide)) 76 rfl ?_
  exact oc_goto dX6_best_76 ⟨by decide, by decide⟩
theorem o_227_79 : okL gmt mt_227 79 b_227_79 := by
  refine oc (y := mt_227) (pc := 79) (ok_iload_n dX6_best_79) 80 rfl ?_
  exact oc_iret dX6_best_80 rfl
theorem ok_227 : ∀ q ∈ pr_227, okL gmt mt_227 q.1 q.2 := pk_c o_227_0 (pk_c o_227_9 (pk_c o_227_37 (pk_c o_227_66 (pk_c o_227_73 (pk_c o_227_79 (pk_n))))))
theorem o_228_0 : okL gmt mt_228 0 b_228_0 := by
  refine oc (y := mt_228) (pc := 0) (ok_aload_n dX6_days_0) 1 rfl ?_
  refine oc (y := mt_228) (pc := 1) (ok_iload_n dX6_days_1) 2 rfl ?_
  refine oc (y := mt_228) (pc := 2) (ok_aload_n dX6_days_2) 3 rfl ?_
  refine oc (y := mt_228) (pc := 3) (ok_getfield dX6_days_3 (fg (own := "GardenChess$State") (idx := 3) (g := 8) (k := 11) (r := (RX6, TX6, 12)) rfl ⟨⟨by decide, by decide⟩, by decide⟩ (Or.inl q464) (Or.inl rfl) rfl (fg_nil))) 6 rfl ?_
  refine oc (y := mt_228) (pc := 6) (ok_getfield dX6_days_6 (fg (own := "GardenChess$State") (idx := 59) (g := 1) (k := 0) (r := (RX0, TX0, 25)) rfl ⟨⟨by decide, by decide⟩, by decide⟩ (Or.inr ⟨_, q538⟩) (Or.inl rfl) rfl (fg_nil))) 9 rfl ?_
  refine oc (y := mt_228) (pc := 9) (ok_getfield dX6_days_9 (fg (own := "GardenChess$State") (idx := 234) (g := 2) (k := 5) (r := (RX1, TX1, 10)) rfl ⟨⟨by decide, by decide⟩, by decide⟩ (Or.inr ⟨_, q261⟩) (Or.inl rfl) rfl (fg_nil))) 12 rfl ?_
  refine oc (y := mt_228) (pc := 12) (ok_iconst dX6_days_12 rfl ⟨by decide, by decide⟩) 13 rfl ?_
  refine oc (y := mt_228) (pc := 13) (ok_iaload dX6_days_13) 14 rfl ?_
  refine oc (y := mt_228) (pc := 14) (ok_aload_n dX6_days_14) 15 rfl ?_
  refine oc (y := mt_228) (pc := 15) (ok_getfield dX6_days_15 (fg (own := "GardenChess$State") (idx := 3) (g := 8) (k := 11) (r := (RX6, TX6, 12)) rfl ⟨⟨by decide, by decide⟩, by decide⟩ (Or.inl q464) (Or.inl rfl) rfl (fg_nil))) 18 rfl ?_
  refine oc (y := mt_228) (pc := 18) (ok_getfield dX6_days_18 (fg (own := "GardenChess$State") (idx := 59) (g := 1) (k := 0) (r := (RX0, TX0, 25)) rfl ⟨⟨by decide, by decide⟩, by decide⟩ (Or.inr ⟨_, q538⟩) (Or.inl rfl) rfl (fg_nil))) 21 rfl ?_
  refine oc (y := mt_228) (pc := 21) (ok_getfield dX6_days_21 (fg (own := "GardenChess$State") (idx := 234) (g := 2) (k := 5) (r := (RX1, TX1, 10)) rfl ⟨⟨by decide, by decide⟩, by decide⟩ (Or.inr ⟨_, q261⟩) (Or.inl rfl) rfl (fg_nil))) 24 rfl ?_
  refine oc (y := mt_228) (pc := 24) (ok_iconst dX6_days_24 rfl ⟨by decide, by decide⟩) 25 rfl ?_
  refine oc (y := mt_228) (pc := 25) (ok_iaload dX6_days_25) 26 rfl ?_
  refine oc_V (y := mt_228) (pc := 26) (vcons (y := mt_228) (pc := 26) (len := 3) (n := 4) (M := mt_229) (by decide) rfl (Or.inr rfl) rfl (ck_V dX6_days_26 ⟨by decide, by decide, by decide, by decide +kernel⟩ q1473 q1474 q1475 q174 q1476) vnil) (hok0 rfl) (by decide) 29 rfl ?_
  refine oc (y := mt_228) (pc := 29) (ok_pop dX6_days_29) 30 rfl ?_
  refine oc (y := mt_228) (pc := 30) (ok_aload_n dX6_days_30) 31 rfl ?_
  exact oc_aretO dX6_days_31 rfl
theorem ok_228 : ∀ q ∈ pr_228, okL gmt mt_228 q.1 q.2 := pk_c o_228_0 (pk_n)
theorem o_229_0 : okL gmt mt_229 0 b_229_0 := by
  refine oc (y := mt_229) (pc := 0) (ok_iconst dX6_days_2_0 rfl ⟨by decide, by decide⟩) 1 rfl ?_
  refine oc (y := mt_229) (pc := 1) (ok_istore dX6_days_2_1 (by decide)) 3 rfl ?_
  refine oc (y := mt_229) (pc := 3) (ok_iconst dX6_days_2_3 rfl ⟨by decide, by decide⟩) 4 rfl ?_
  refine oc (y := mt_229) (pc := 4) (ok_istore dX6_days_2_4 (by decide)) 6 rfl ?_
  exact oc_fall rfl
theorem o_229_6 : okL gmt mt_229 6 b_229_6 := by
  refine oc (y := mt_229) (pc := 6) (ok_iload dX6_days_2_6) 8 rfl ?_
  refine oc (y := mt_229) (pc := 8) (ok_iload_n dX6_days_2_8) 9 rfl ?_
  refine oc_icmp dX6_days_2_9 ⟨by decide, by decide⟩ 12 rfl ?_
  refine oc (y := mt_229) (pc := 12) (ok_aload_n dX6_days_2_12) 13 rfl ?_
  refine oc (y := mt_229) (pc := 13) (ok_aload_n dX6_days_2_13) 14 rfl ?_
  refine oc (y := mt_229) (pc := 14) (ok_getfield dX6_days_2_14 (fg (own := "GardenChess$State") (idx := 34) (g := 8) (k := 1) (r := (RX6, TX6, 12)) rfl ⟨⟨by decide, by decide⟩, by decide⟩ (Or.inl q447) (Or.inl rfl) rfl (fg_nil))) 17 rfl ?_
  refine oc_if dX6_days_2_17 ⟨by decide, by decide⟩ 20 rfl ?_
  refine oc (y := mt_229) (pc := 20) (ok_iload_n dX6_days_2_20) 21 rfl ?_
  exact oc_goto dX6_days_2_21 ⟨by decide, by decide⟩
theorem o_229_24 : okL gmt mt_229 24 b_229_24 := by
  refine oc (y := mt_229) (pc := 24) (ok_iload_n dX6_days_2_24) 25 rfl ?_
  exact oc_fall rfl
theorem o_229_25 : okL gmt mt_229 25 b_229_25 := by
  refine oc_V (y := mt_229) (pc := 25) (vcons (y := mt_229) (pc := 25) (len := 3) (n := 2) (M := mt_227) (by decide) rfl (Or.inr rfl) rfl (ck_V dX6_days_2_25 ⟨by decide, by decide, by decide, by decide +kernel⟩ q1477 q1443 q1444 q174 q1445) vnil) (hok0 rfl) (by decide) 28 rfl ?_
  refine oc (y := mt_229) (pc := 28) (ok_istore dX6_days_2_28 (by decide)) 30 rfl ?_
  refine oc (y := mt_229) (pc := 30) (ok_iload dX6_days_2_30) 32 rfl ?_
  refine oc (y := mt_229) (pc := 32) (ok_iload dX6_days_2_32) 34 rfl ?_
  refine oc (y := mt_229) (pc := 34) (ok_iconst dX6_days_2_34 rfl ⟨by decide, by decide⟩) 35 rfl ?_
  refine oc_icmp dX6_days_2_35 ⟨by decide, by decide⟩ 38 rfl ?_
  refine oc (y := mt_229) (pc := 38) (ok_iconst dX6_days_2_38 rfl ⟨by decide, by decide⟩) 39 rfl ?_
  exact oc_goto dX6_days_2_39 ⟨by decide, by decide⟩
theorem o_229_42 : okL gmt mt_229 42 b_229_42 := by
  refine oc (y := mt_229) (pc := 42) (ok_iconst dX6_days_2_42 rfl ⟨by decide, by decide⟩) 43 rfl ?_
  exact oc_fall rfl
theorem o_229_43 : okL gmt mt_229 43 b_229_43 := by
  refine oc (y := mt_229) (pc := 43) (ok_iadd dX6_days_2_43) 44 rfl ?_
  refine oc (y := mt_229) (pc := 44) (ok_istore dX6_days_2_44 (by decide)) 46 rfl ?_
  refine oc (y := mt_229) (pc := 46) (ok_aload_n dX6_days_2_46) 47 rfl ?_
  refine oc (y := mt_229) (pc := 47) (ok_iload dX6_days_2_47) 49 rfl ?_
  refine oc_V (y := mt_229) (pc := 49) (vcons (y := mt_229) (pc := 49) (len := 3) (n := 2) (M := mt_230) (by decide) rfl (Or.inr rfl) rfl (ck_V dX6_days_2_49 ⟨by decide, by decide, by decide, by decide +kernel⟩ q1478 q1479 q1480 q174 q1481) vnil) (hok0 rfl) (by decide) 52 rfl ?_
  refine oc (y := mt_229) (pc := 52) (ok_pop dX6_days_2_52) 53 rfl ?_
  refine oc (y := mt_229) (pc := 53) (ok_iinc dX6_days_2_53 (by decide)) 56 rfl ?_
  exact oc_goto dX6_days_2_56 ⟨by decide, by decide⟩
theorem o_229_59 : okL gmt mt_229 59 b_229_59 := by
  refine oc (y := mt_229) (pc := 59) (ok_iload dX6_days_2_59) 61 rfl ?_
  exact oc_iret dX6_days_2_61 rfl
theorem ok_229 : ∀ q ∈ pr_229, okL gmt mt_229 q.1 q.2 := pk_c o_229_0 (pk_c o_229_6 (pk_c o_229_24 (pk_c o_229_25 (pk_c o_229_42 (pk_c o_229_43 (pk_c o_229_59 (pk_n)))))))
theorem o_230_0 : okL gmt mt_230 0 b_230_0 := by
  refine oc (y := mt_230) (pc := 0) (ok_iconst dX6_passes_0 rfl ⟨by decide, by decide⟩) 1 rfl ?_
  refine oc (y := mt_230) (pc := 1) (ok_istore_n dX6_passes_1 (by decide)) 2 rfl ?_
  refine oc (y := mt_230) (pc := 2) (ok_aload_n dX6_passes_2) 3 rfl ?_
  refine oc (y := mt_230) (pc := 3) (ok_iconst dX6_passes_3 rfl ⟨by decide, by decide⟩) 4 rfl ?_
  refine oc (y := mt_230) (pc := 4) (ok_putfield dX6_passes_4 (fp (own := "GardenChess$State") (idx := 175) (g := 8) (k := 8) (r := (RX6, TX6, 12)) rfl ⟨⟨by decide, by decide⟩, by decide⟩ (Or.inl q461) (Or.inl rfl) rfl (Or.inl rfl) (fp_nil))) 7 rfl ?_
  refine oc (y := mt_230) (pc := 7) (ok_iload_n dX6_passes_7) 8 rfl ?_
  refine oc (y := mt_230) (pc := 8) (ok_iconst dX6_passes_8 rfl ⟨by decide, by decide⟩) 9 rfl ?_
  refine oc_icmp dX6_passes_9 ⟨by decide, by decide⟩ 12 rfl ?_
  refine oc (y := mt_230) (pc := 12) (ok_aload_n dX6_passes_12) 13 rfl ?_
  refine oc (y := mt_230) (pc := 13) (ok_aload_n dX6_passes_13) 14 rfl ?_
  refine oc (y := mt_230) (pc := 14) (ok_getfield dX6_passes_14 (fg (own := "GardenChess$State") (idx := 34) (g := 8) (k := 1) (r := (RX6, TX6, 12)) rfl ⟨⟨by decide, by decide⟩, by decide⟩ (Or.inl q447) (Or.inl rfl) rfl (fg_nil))) 17 rfl ?_
  refine oc (y := mt_230) (pc := 17) (ok_aload_n dX6_passes_17) 18 rfl ?_
  refine oc (y := mt_230) (pc := 18) (ok_getfield dX6_passes_18 (fg (own := "GardenChess$State") (idx := 3) (g := 8) (k := 11) (r := (RX6, TX6, 12)) rfl ⟨⟨by decide, by decide⟩, by decide⟩ (Or.inl q464) (Or.inl rfl) rfl (fg_nil))) 21 rfl ?_
  refine oc (y := mt_230) (pc := 21) (ok_getfield dX6_passes_21 (fg (own := "GardenChess$State") (idx := 134) (g := 1) (k := 10) (r := (RX0, TX0, 25)) rfl ⟨⟨by decide, by decide⟩, by decide⟩ (Or.inr ⟨_, q553⟩) (Or.inl rfl) rfl (fg_nil))) 24 rfl ?_
  refine oc_V (y := mt_230) (pc := 24) (vcons (y := mt_230) (pc := 24) (len := 3) (n := 3) (M := mt_215) (by decide) rfl (Or.inr rfl) rfl (ck_V dX6_passes_24 ⟨by decide, by decide, by decide, by decide +kernel⟩ q1299 q1300 q1301 q174 q1302) vnil) (hok0 rfl) (by decide) 27 rfl ?_
  refine oc (y := mt_230) (pc := 27) (ok_aload_n dX6_passes_27) 28 rfl ?_
  refine oc (y := mt_230) (pc := 28) (ok_getfield dX6_passes_28 (fg (own := "GardenChess$State") (idx := 3) (g := 8) (k := 11) (r := (RX6, TX6, 12)) rfl ⟨⟨by decide, by decide⟩, by decide⟩ (Or.inl q464) (Or.inl rfl) rfl (fg_nil))) 31 rfl ?_
  refine oc (y := mt_230) (pc := 31) (ok_getfield dX6_passes_31 (fg (own := "GardenChess$State") (idx := 134) (g := 1) (k := 10) (r := (RX0, TX0, 25)) rfl ⟨⟨by decide, by decide⟩, by decide⟩ (Or.inr ⟨_, q553⟩) (Or.inl rfl) rfl (fg_nil))) 34 rfl ?_
  refine oc (y := mt_230) (pc := 34) (ok_getfield dX6_passes_34 (fg (own := "GardenChess$State") (idx := 157) (g := 7) (k := 0) (r := (RX5, TX5, 3)) rfl ⟨⟨by decide, by decide⟩, by decide⟩ (Or.inr ⟨_, q422⟩) (Or.inl rfl) rfl (fg_nil))) 37 rfl ?_
  refine oc (y := mt_230) (pc := 37) (ok_iload_n dX6_passes_37) 38 rfl ?_
  refine oc (y := mt_230) (pc := 38) (ok_iaload dX6_passes_38) 39 rfl ?_
  refine oc (y := mt_230) (pc := 39) (ok_istore_n dX6_passes_39 (by decide)) 40 rfl ?_
  refine oc (y := mt_230) (pc := 40) (ok_aload_n dX6_passes_40) 41 rfl ?_
  refine oc (y := mt_230) (pc := 41) (ok_iload_n dX6_passes_41) 42 rfl ?_
  refine oc (y := mt_230) (pc := 42) (ok_aload_n dX6_passes_42) 43 rfl ?_
  refine oc (y := mt_230) (pc := 43) (ok_getfield dX6_passes_43 (fg (own := "GardenChess$State") (idx := 3) (g := 8) (k := 11) (r := (RX6, TX6, 12)) rfl ⟨⟨by decide, by decide⟩, by decide⟩ (Or.inl q464) (Or.inl rfl) rfl (fg_nil))) 46 rfl ?_
  refine oc (y := mt_230) (pc := 46) (ok_getfield dX6_passes_46 (fg (own := "GardenChess$State") (idx := 134) (g := 1) (k := 10) (r := (RX0, TX0, 25)) rfl ⟨⟨by decide, by decide⟩, by decide⟩ (Or.inr ⟨_, q553⟩) (Or.inl rfl) rfl (fg_nil))) 49 rfl ?_
  refine oc (y := mt_230) (pc := 49) (ok_getfield dX6_passes_49 (fg (own := "GardenChess$State") (idx := 160) (g := 7) (k := 1) (r := (RX5, TX5, 3)) rfl ⟨⟨by decide, by decide⟩, by decide⟩ (Or.inr ⟨_, q425⟩) (Or.inl rfl) rfl (fg_nil))) 52 rfl ?_
  refine oc (y := mt_230) (pc := 52) (ok_iload_n dX6_passes_52) 53 rfl ?_
  refine oc (y := mt_230) (pc := 53) (ok_iaload dX6_passes_53) 54 rfl ?_
  refine oc_V (y := mt_230) (pc := 54) (vcons (y := mt_230) (pc := 54) (len := 3) (n := 3) (M := mt_221) (by decide) rfl (Or.inr rfl) rfl (ck_V dX6_passes_54 ⟨by decide, by decide, by decide, by decide +kernel⟩ q1432 q1398 q1399 q174 q1400) vnil) (hok0 rfl) (by decide) 57 rfl ?_
  refine oc (y := mt_230) (pc := 57) (ok_istore_n dX6_passes_57 (by decide)) 58 rfl ?_
  refine oc (y := mt_230) (pc := 58) (ok_aload_n dX6_passes_58) 59 rfl ?_
  refine oc (y := mt_230) (pc := 59) (ok_aload_n dX6_passes_59) 60 rfl ?_
  refine oc (y := mt_230) (pc := 60) (ok_getfield dX6_passes_60 (fg (own := "GardenChess$State") (idx := 15) (g := 8) (k := 3) (r := (RX6, TX6, 12)) rfl ⟨⟨by decide, by decide⟩, by decide⟩ (Or.inl q451) (Or.inl rfl) rfl (fg_nil))) 63 rfl ?_
  refine oc (y := mt_230) (pc := 63) (ok_iload_n dX6_passes_63) 64 rfl ?_
  refine oc (y := mt_230) (pc := 64) (ok_iaload dX6_passes_64) 65 rfl ?_
  refine oc (y := mt_230) (pc := 65) (ok_putfield dX6_passes_65 (fp (own := "GardenChess$State") (idx := 175) (g := 8) (k := 8) (r := (RX6, TX6, 12)) rfl ⟨⟨by decide, by decide⟩, by decide⟩ (Or.inl q461) (Or.inl rfl) rfl (Or.inl rfl) (fp_nil))) 68 rfl ?_
  refine oc (y := mt_230) (pc := 68) (ok_aload_n dX6_passes_68) 69 rfl ?_
  refine oc (y := mt_230) (pc := 69) (ok_iload_n dX6_passes_69) 70 rfl ?_
  refine oc (y := mt_230) (pc := 70) (ok_iconst dX6_passes_70 rfl ⟨by decide, by decide⟩) 71 rfl ?_
  refine oc_icmp dX6_passes_71 ⟨by decide, by decide⟩ 74 rfl ?_
  refine oc (y := mt_230) (pc := 74) (ok_iconst dX6_passes_74 rfl ⟨by decide, by decide⟩) 75 rfl ?_
  exact oc_goto dX6_passes_75 ⟨by decide, by decide⟩
theorem o_230_78 : okL gmt mt_230 78 b_230_78 := by
  refine oc (y := mt_230) (pc := 78) (ok_aload_n dX6_passes_78) 79 rfl ?_
  refine oc (y := mt_230) (pc := 79) (ok_getfield dX6_passes_79 (fg (own := "GardenChess$State") (idx := 3) (g := 8) (k := 11) (r := (RX6, TX6, 12)) rfl ⟨⟨by decide, by decide⟩, by decide⟩ (Or.inl q464) (Or.inl rfl) rfl (fg_nil))) 82 rfl ?_
  refine oc (y := mt_230) (pc := 82) (ok_iload_n dX6_passes_82) 83 rfl ?_
  refine oc_V (y := mt_230) (pc := 83) (vcons (y := mt_230) (pc := 83) (len := 3) (n := 2) (M := mt_82) (by decide) rfl (Or.inr rfl) rfl (ck_VN dX6_passes_83 ⟨by decide, by decide, by decide, by decide +kernel⟩ q509 q511 qs2 q162 q512) vnil) (hok0 rfl) (by decide) 86 rfl ?_
  refine oc (y := mt_230) (pc := 86) (ok_getfield dX6_passes_86 (fg (own := "GardenChess$State") (idx := 142) (g := 12) (k := 3) (r := (RX9, TX9, 5)) rfl ⟨⟨by decide, by decide⟩, by decide⟩ (Or.inr ⟨_, q907⟩) (Or.inl rfl) rfl (fg_nil))) 89 rfl ?_
  exact oc_fall rfl
theorem o_230_89 : okL gmt mt_230 89 b_230_89 := by
  refine oc (y := mt_230) (pc := 89) (ok_putfield dX6_passes_89 (fp (own := "GardenChess$State") (idx := 182) (g := 8) (k := 9) (r := (RX6, TX6, 12)) rfl ⟨⟨by decide, by decide⟩, by decide⟩ (Or.inl q462) (Or.inl rfl) rfl (Or.inl rfl) (fp_nil))) 92 rfl ?_
  refine oc (y := mt_230) (pc := 92) (ok_aload_n dX6_passes_92) 93 rfl ?_
  refine oc (y := mt_230) (pc := 93) (ok_aload_n dX6_passes_93) 94 rfl ?_
  refine oc_V (y := mt_230) (pc := 94) (vcons (y := mt_230) (pc := 94) (len := 3) (n := 1) (M := mt_222) (by decide) rfl (Or.inr rfl) rfl (ck_V dX6_passes_94 ⟨by decide, by decide, by decide, by decide +kernel⟩ q1482 q1402 q1403 q174 q1404) vnil) (hok0 rfl) (by decide) 97 rfl ?_
  refine oc (y := mt_230) (pc := 97) (ok_putfield dX6_passes_97 (fp (own := "GardenChess$State") (idx := 195) (g := 8) (k := 10) (r := (RX6, TX6, 12)) rfl ⟨⟨by decide, by decide⟩, by decide⟩ (Or.inl q463) (Or.inl rfl) rfl (Or.inl rfl) (fp_nil))) 100 rfl ?_
  refine oc (y := mt_230) (pc := 100) (ok_aload_n dX6_passes_100) 101 rfl ?_
  refine oc (y := mt_230) (pc := 101) (ok_iload_n dX6_passes_101) 102 rfl ?_
  refine oc (y := mt_230) (pc := 102) (ok_iload_n dX6_passes_102) 103 rfl ?_
  refine oc_V (y := mt_230) (pc := 103) (vcons (y := mt_230) (pc := 103) (len := 3) (n := 3) (M := mt_231) (by decide) rfl (Or.inr rfl) rfl (ck_V dX6_passes_103 ⟨by decide, by decide, by decide, by decide +kernel⟩ q1483 q1485 qs43 q174 q1486) vnil) (hok0 rfl) (by decide) 106 rfl ?_
  exact oc_goto dX6_passes_106 ⟨by decide, by decide⟩
theorem o_230_109 : okL gmt mt_230 109 b_230_109 := by
  refine oc (y := mt_230) (pc := 109) (ok_aload_n dX6_passes_109) 110 rfl ?_
  refine oc (y := mt_230) (pc := 110) (ok_iconst dX6_passes_110 rfl ⟨by decide, by decide⟩) 111 rfl ?_
  refine oc (y := mt_230) (pc := 111) (ok_aload_n dX6_passes_111) 112 rfl ?_
  refine oc (y := mt_230) (pc := 112) (ok_getfield dX6_passes_112 (fg (own := "GardenChess$State") (idx := 34) (g := 8) (k := 1) (r := (RX6, TX6, 12)) rfl ⟨⟨by decide, by decide⟩, by decide⟩ (Or.inl q447) (Or.inl rfl) rfl (fg_nil))) 115 rfl ?_
  refine oc (y := mt_230) (pc := 115) (ok_isub dX6_passes_115) 116 rfl ?_
  refine oc (y := mt_230) (pc := 116) (ok_putfield dX6_passes_116 (fp (own := "GardenChess$State") (idx := 34) (g := 8) (k := 1) (r := (RX6, TX6, 12)) rfl ⟨⟨by decide, by decide⟩, by decide⟩ (Or.inl q447) (Or.inl rfl) rfl (Or.inl rfl) (fp_nil))) 119 rfl ?_
  exact oc_fall rfl
theorem o_230_119 : okL gmt mt_230 119 b_230_119 := by
  refine oc (y := mt_230) (pc := 119) (ok_aload_n dX6_passes_119) 120 rfl ?_
  refine oc (y := mt_230) (pc := 120) (ok_dup dX6_passes_120) 121 rfl ?_
  refine oc (y := mt_230) (pc := 121) (ok_getfield dX6_passes_121 (fg (own := "GardenChess$State") (idx := 30) (g := 8) (k := 0) (r := (RX6, TX6, 12)) rfl ⟨⟨by decide, by decide⟩, by decide⟩ (Or.inl q445) (Or.inl rfl) rfl (fg_nil))) 124 rfl ?_
  refine oc (y := mt_230) (pc := 124) (ok_iconst dX6_passes_124 rfl ⟨by decide, by decide⟩) 125 rfl ?_
  refine oc (y := mt_230) (pc := 125) (ok_iadd dX6_passes_125) 126 rfl ?_
  refine oc (y := mt_230) (pc := 126) (ok_putfield dX6_passes_126 (fp (own := "GardenChess$State") (idx := 30) (g := 8) (k := 0) (r := (RX6, TX6, 12)) rfl ⟨⟨by decide, by decide⟩, by decide⟩ (Or.inl q445) (Or.inl rfl) rfl (Or.inl rfl) (fp_nil))) 129 rfl ?_
  refine oc (y := mt_230) (pc := 129) (ok_iconst dX6_passes_129 rfl ⟨by decide, by decide⟩) 130 rfl ?_
  refine oc (y := mt_230) (pc := 130) (ok_istore_n dX6_passes_130 (by decide)) 131 rfl ?_
  exact oc_fall rfl
theorem o_230_131 : okL gmt mt_230 131 b_230_131 := by
  refine oc (y := mt_230) (pc := 131) (ok_iload_n dX6_passes_131) 132 rfl ?_
  refine oc (y := mt_230) (pc := 132) (ok_aload_n dX6_passes_132) 133 rfl ?_
  refine oc (y := mt_230) (pc := 133) (ok_getfield dX6_passes_133 (fg (own := "GardenChess$State") (idx := 3) (g := 8) (k := 11) (r := (RX6, TX6, 12)) rfl ⟨⟨by decide, by decide⟩, by decide⟩ (Or.inl q464) (Or.inl rfl) rfl (fg_nil))) 136 rfl ?_
  refine oc_V (y := mt_230) (pc := 136) (vcons (y := mt_230) (pc := 136) (len := 3) (n := 1) (M := mt_95) (by decide) rfl (Or.inr rfl) rfl (ck_VN dX6_passes_136 ⟨by decide, by decide, by decide, by decide +kernel⟩ q1273 q1275 qs33 q162 q1276) vnil) (hok0 rfl) (by decide) 139 rfl ?_
  refine oc_icmp dX6_passes_139 ⟨by decide, by decide⟩ 142 rfl ?_
  refine oc (y := mt_230) (pc := 142) (ok_aload_n dX6_passes_142) 143 rfl ?_
  refine oc (y := mt_230) (pc := 143) (ok_getfield dX6_passes_143 (fg (own := "GardenChess$State") (idx := 3) (g := 8) (k := 11) (r := (RX6, TX6, 12)) rfl ⟨⟨by decide, by decide⟩, by decide⟩ (Or.inl q464) (Or.inl rfl) rfl (fg_nil))) 146 rfl ?_
  refine oc (y := mt_230) (pc := 146) (ok_getfield dX6_passes_146 (fg (own := "GardenChess$State") (idx := 59) (g := 1) (k := 0) (r := (RX0, TX0, 25)) rfl ⟨⟨by decide, by decide⟩, by decide⟩ (Or.inr ⟨_, q538⟩) (Or.inl rfl) rfl (fg_nil))) 149 rfl ?_
  refine oc (y := mt_230) (pc := 149) (ok_getfield dX6_passes_149 (fg (own := "GardenChess$State") (idx := 63) (g := 2) (k := 8) (r := (RX1, TX1, 10)) rfl ⟨⟨by decide, by decide⟩, by decide⟩ (Or.inr ⟨_, q270⟩) (Or.inl rfl) rfl (fg_nil))) 152 rfl ?_
  refine oc (y := mt_230) (pc := 152) (ok_iload_n dX6_passes_152) 153 rfl ?_
  refine oc_F (y := mt_230) (pc := 153) (vcons (y := mt_230) (pc := 153) (len := 5) (n := 2) (M := mt_40) (by decide) rfl (Or.inr rfl) rfl (ck_F (ci := 2) dX6_passes_153 rfl rfl (fun G s h => h.2.2.1.2.1) (by decide) ⟨by decide, by decide, by decide +kernel⟩ q1278 q521 q523 q166 q525) vnil) (hok0 rfl) 158 rfl ?_
  refine oc (y := mt_230) (pc := 158) (ok_checkcast (E := "GardenChess$Field") dX6_passes_158 q1279 (ct (by decide) rfl (Or.inl rfl) (ct_nil))) 161 rfl ?_
  refine oc (y := mt_230) (pc := 161) (ok_astore dX6_passes_161 (by decide)) 163 rfl ?_
  refine oc (y := mt_230) (pc := 163) (ok_aload_n dX6_passes_163) 164 rfl ?_
  refine oc (y := mt_230) (pc := 164) (ok_getfield dX6_passes_164 (fg (own := "GardenChess$State") (idx := 22) (g := 8) (k := 5) (r := (RX6, TX6, 12)) rfl ⟨⟨by decide, by decide⟩, by decide⟩ (Or.inl q455) (Or.inl rfl) rfl (fg_nil))) 167 rfl ?_
  refine oc (y := mt_230) (pc := 167) (ok_iload_n dX6_passes_167) 168 rfl ?_
  refine oc (y := mt_230) (pc := 168) (ok_sipush dX6_passes_168 (by decide) ⟨by decide, by decide⟩) 171 rfl ?_
  refine oc (y := mt_230) (pc := 171) (ok_iconst dX6_passes_171 rfl ⟨by decide, by decide⟩) 172 rfl ?_
  refine oc (y := mt_230) (pc := 172) (ok_aload_n dX6_passes_172) 173 rfl ?_
  refine oc (y := mt_230) (pc := 173) (ok_getfield dX6_passes_173 (fg (own := "GardenChess$State") (idx := 22) (g := 8) (k := 5) (r := (RX6, TX6, 12)) rfl ⟨⟨by decide, by decide⟩, by decide⟩ (Or.inl q455) (Or.inl rfl) rfl (fg_nil))) 176 rfl ?_
  refine oc (y := mt_230) (pc := 176) (ok_iload_n dX6_passes_176) 177 rfl ?_
  refine oc (y := mt_230) (pc := 177) (ok_iaload dX6_passes_177) 178 rfl ?_
  refine oc (y := mt_230) (pc := 178) (ok_aload_n dX6_passes_178) 179 rfl ?_
  refine oc (y := mt_230) (pc := 179) (ok_aload dX6_passes_179) 181 rfl ?_
  refine oc (y := mt_230) (pc := 181) (ok_getfield dX6_passes_181 (fg (own := "GardenChess$State") (idx := 217) (g := 14) (k := 1) (r := (RX11, TX11, 4)) rfl ⟨⟨by decide, by decide⟩, by decide⟩ (Or.inr ⟨_, q1062⟩) (Or.inl rfl) rfl (fg_nil))) 184 rfl ?_
  refine oc (y := mt_230) (pc := 184) (ok_aload dX6_passes_184) 186 rfl ?_
  refine oc (y := mt_230) (pc := 186) (ok_getfield dX6_passes_186 (fg (own := "GardenChess$State") (idx := 218) (g := 14) (k := 2) (r := (RX11, TX11, 4)) rfl ⟨⟨by decide, by decide⟩, by decide⟩ (Or.inr ⟨_, q1065⟩) (Or.inl rfl) rfl (fg_nil))) 189 rfl ?_
  refine oc_V (y := mt_230) (pc := 189) (vcons (y := mt_230) (pc := 189) (len := 3) (n := 3) (M := mt_232) (by decide) rfl (Or.inr rfl) rfl (ck_V dX6_passes_189 ⟨by decide, by decide, by decide, by decide +kernel⟩ q1487 q1488 q1489 q174 q1490) vnil) (hok0 rfl) (by decide) 192 rfl ?_
  refine oc (y := mt_230) (pc := 192) (ok_isub dX6_passes_192) 193 rfl ?_
  refine oc_S (y := mt_230) (pc := 193) (M := mt_17) rfl (ck_S dX6_passes_193 ⟨by decide, by decide, by decide, by decide +kernel⟩ q1310 q956 q184 q957) (hok0 rfl) (by decide) 196 rfl ?_
  refine oc (y := mt_230) (pc := 196) (ok_aload_n dX6_passes_196) 197 rfl ?_
  refine oc (y := mt_230) (pc := 197) (ok_getfield dX6_passes_197 (fg (own := "GardenChess$State") (idx := 3) (g := 8) (k := 11) (r := (RX6, TX6, 12)) rfl ⟨⟨by decide, by decide⟩, by decide⟩ (Or.inl q464) (Or.inl rfl) rfl (fg_nil))) 200 rfl ?_
  refine oc (y := mt_230) (pc := 200) (ok_getfield dX6_passes_200 (fg (own := "GardenChess$State") (idx := 59) (g := 1) (k := 0) (r := (RX0, TX0, 25)) rfl ⟨⟨by decide, by decide⟩, by decide⟩ (Or.inr ⟨_, q538⟩) (Or.inl rfl) rfl (fg_nil))) 203 rfl ?_
  refine oc (y := mt_230) (pc := 203) (ok_getfield dX6_passes_203 (fg (own := "GardenChess$State") (idx := 222) (g := 2) (k := 3) (r := (RX1, TX1, 10)) rfl ⟨⟨by decide, by decide⟩, by decide⟩ (Or.inr ⟨_, q256⟩) (Or.inl rfl) rfl (fg_nil))) 206 rfl ?_
  refine oc (y := mt_230) (pc := 206) (ok_iadd dX6_passes_206) 207 rfl ?_
  refine oc_S (y := mt_230) (pc := 207) (M := mt_18) rfl (ck_S dX6_passes_207 ⟨by decide, by decide, by decide, by decide +kernel⟩ q1557 q1000 q184 q1001) (hok0 rfl) (by decide) 210 rfl ?_
  refine oc (y := mt_230) (pc := 210) (ok_iastore dX6_passes_210) 211 rfl ?_
  refine oc (y := mt_230) (pc := 211) (ok_iinc dX6_passes_211 (by decide)) 214 rfl ?_
  exact oc_goto dX6_passes_214 ⟨by decide, by decide⟩
theorem o_230_217 : okL gmt mt_230 217 b_230_217 := by
  refine oc (y := mt_230) (pc := 217) (ok_iload_n dX6_passes_217) 218 rfl ?_
  exact oc_iret dX6_passes_218 rfl
theorem ok_230 : ∀ q ∈ pr_230, okL gmt mt_230 q.1 q.2 := pk_c o_230_0 (pk_c o_230_78 (pk_c o_230_89 (pk_c o_230_109 (pk_c o_230_119 (pk_c o_230_131 (pk_c o_230_217 (pk_n)))))))
theorem o_231_0 : okL gmt mt_231 0 b_231_0 := by
  refine oc (y := mt_231) (pc := 0) (ok_aload_n dX6_tells_0) 1 rfl ?_
  refine oc (y := mt_231) (pc := 1) (ok_getfield dX6_tells_1 (fg (own := "GardenChess$State") (idx := 37) (g := 8) (k := 2) (r := (RX6, TX6, 12)) rfl ⟨⟨by decide, by decide⟩, by decide⟩ (Or.inl q449) (Or.inl rfl) rfl (fg_nil))) 4 rfl ?_
  refine oc (y := mt_231) (pc := 4) (ok_bipush dX6_tells_4 (by decide) ⟨by decide, by decide⟩) 6 rfl ?_
  refine oc_icmp dX6_tells_6 ⟨by decide, by decide⟩ 9 rfl ?_
  refine oc (y := mt_231) (pc := 9) (ok_aload_n dX6_tells_9) 10 rfl ?_
  refine oc (y := mt_231) (pc := 10) (ok_getfield dX6_tells_10 (fg (own := "GardenChess$State") (idx := 27) (g := 8) (k := 6) (r := (RX6, TX6, 12)) rfl ⟨⟨by decide, by decide⟩, by decide⟩ (Or.inl q457) (Or.inl rfl) rfl (fg_nil))) 13 rfl ?_
  refine oc (y := mt_231) (pc := 13) (ok_iconst dX6_tells_13 rfl ⟨by decide, by decide⟩) 14 rfl ?_
  refine oc (y := mt_231) (pc := 14) (ok_aaload (ty := .array .int) dX6_tells_14 (by decide) (by decide) rfl rfl) 15 rfl ?_
  refine oc (y := mt_231) (pc := 15) (ok_astore_n dX6_tells_15 (by decide)) 16 rfl ?_
  refine oc (y := mt_231) (pc := 16) (ok_iconst dX6_tells_16 rfl ⟨by decide, by decide⟩) 17 rfl ?_
  refine oc (y := mt_231) (pc := 17) (ok_istore dX6_tells_17 (by decide)) 19 rfl ?_
  exact oc_fall rfl
theorem o_231_19 : okL gmt mt_231 19 b_231_19 := by
  refine oc (y := mt_231) (pc := 19) (ok_iload dX6_tells_19) 21 rfl ?_
  refine oc (y := mt_231) (pc := 21) (ok_bipush dX6_tells_21 (by decide) ⟨by decide, by decide⟩) 23 rfl ?_
  refine oc_icmp dX6_tells_23 ⟨by decide, by decide⟩ 26 rfl ?_
  refine oc (y := mt_231) (pc := 26) (ok_aload_n dX6_tells_26) 27 rfl ?_
  refine oc (y := mt_231) (pc := 27) (ok_getfield dX6_tells_27 (fg (own := "GardenChess$State") (idx := 27) (g := 8) (k := 6) (r := (RX6, TX6, 12)) rfl ⟨⟨by decide, by decide⟩, by decide⟩ (Or.inl q457) (Or.inl rfl) rfl (fg_nil))) 30 rfl ?_
  refine oc (y := mt_231) (pc := 30) (ok_iload dX6_tells_30) 32 rfl ?_
  refine oc (y := mt_231) (pc := 32) (ok_iconst dX6_tells_32 rfl ⟨by decide, by decide⟩) 33 rfl ?_
  refine oc (y := mt_231) (pc := 33) (ok_isub dX6_tells_33) 34 rfl ?_
  refine oc (y := mt_231) (pc := 34) (ok_aload_n dX6_tells_34) 35 rfl ?_
  refine oc (y := mt_231) (pc := 35) (ok_getfield dX6_tells_35 (fg (own := "GardenChess$State") (idx := 27) (g := 8) (k := 6) (r := (RX6, TX6, 12)) rfl ⟨⟨by decide, by decide⟩, by decide⟩ (Or.inl q457) (Or.inl rfl) rfl (fg_nil))) 38 rfl ?_
  refine oc (y := mt_231) (pc := 38) (ok_iload dX6_tells_38) 40 rfl ?_
  refine oc (y := mt_231) (pc := 40) (ok_aaload (ty := .array .int) dX6_tells_40 (by decide) (by decide) rfl rfl) 41 rfl ?_
  refine oc (y := mt_231) (pc := 41) (ok_aastore dX6_tells_41 (by decide) rfl (ct (by decide) rfl (Or.inl rfl) (ct_nil))) 42 rfl ?_
  refine oc (y := mt_231) (pc := 42) (ok_iinc dX6_tells_42 (by decide)) 45 rfl ?_
  exact oc_goto dX6_tells_45 ⟨by decide, by decide⟩
theorem o_231_48 : okL gmt mt_231 48 b_231_48 := by
  refine oc (y := mt_231) (pc := 48) (ok_aload_n dX6_tells_48) 49 rfl ?_
  refine oc (y := mt_231) (pc := 49) (ok_getfield dX6_tells_49 (fg (own := "GardenChess$State") (idx := 27) (g := 8) (k := 6) (r := (RX6, TX6, 12)) rfl ⟨⟨by decide, by decide⟩, by decide⟩ (Or.inl q457) (Or.inl rfl) rfl (fg_nil))) 52 rfl ?_
  refine oc (y := mt_231) (pc := 52) (ok_bipush dX6_tells_52 (by decide) ⟨by decide, by decide⟩) 54 rfl ?_
  refine oc (y := mt_231) (pc := 54) (ok_aload_n dX6_tells_54) 55 rfl ?_
  refine oc (y := mt_231) (pc := 55) (ok_aastore dX6_tells_55 (by decide) rfl (ct (by decide) rfl (Or.inl rfl) (ct_nil))) 56 rfl ?_
  refine oc (y := mt_231) (pc := 56) (ok_aload_n dX6_tells_56) 57 rfl ?_
  refine oc (y := mt_231) (pc := 57) (ok_dup dX6_tells_57) 58 rfl ?_
  refine oc (y := mt_231) (pc := 58) (ok_getfield dX6_tells_58 (fg (own := "GardenChess$State") (idx := 37) (g := 8) (k := 2) (r := (RX6, TX6, 12)) rfl ⟨⟨by decide, by decide⟩, by decide⟩ (Or.inl q449) (Or.inl rfl) rfl (fg_nil))) 61 rfl ?_
  refine oc (y := mt_231) (pc := 61) (ok_iconst dX6_tells_61 rfl ⟨by decide, by decide⟩) 62 rfl ?_
  refine oc (y := mt_231) (pc := 62) (ok_isub dX6_tells_62) 63 rfl ?_
  refine oc (y := mt_231) (pc := 63) (ok_putfield dX6_tells_63 (fp (own := "GardenChess$State") (idx := 37) (g := 8) (k := 2) (r := (RX6, TX6, 12)) rfl ⟨⟨by decide, by decide⟩, by decide⟩ (Or.inl q449) (Or.inl rfl) rfl (Or.inl rfl) (fp_nil))) 66 rfl ?_
  exact oc_fall rfl
theorem o_231_66 : okL gmt mt_231 66 b_231_66 := by
  refine oc (y := mt_231) (pc := 66) (ok_aload_n dX6_tells_66) 67 rfl ?_
  refine oc (y := mt_231) (pc := 67) (ok_getfield dX6_tells_67 (fg (own := "GardenChess$State") (idx := 27) (g := 8) (k := 6) (r := (RX6, TX6, 12)) rfl ⟨⟨by decide, by decide⟩, by decide⟩ (Or.inl q457) (Or.inl rfl) rfl (fg_nil))) 70 rfl ?_
  refine oc (y := mt_231) (pc := 70) (ok_aload_n dX6_tells_70) 71 rfl ?_
  refine oc (y := mt_231) (pc := 71) (ok_getfield dX6_tells_71 (fg (own := "GardenChess$State") (idx := 37) (g := 8) (k := 2) (r := (RX6, TX6, 12)) rfl ⟨⟨by decide, by decide⟩, by decide⟩ (Or.inl q449) (Or.inl rfl) rfl (fg_nil))) 74 rfl ?_
  refine oc (y := mt_231) (pc := 74) (ok_aaload (ty := .array .int) dX6_tells_74 (by decide) (by decide) rfl rfl) 75 rfl ?_
  refine oc (y := mt_231) (pc := 75) (ok_iconst dX6_tells_75 rfl ⟨by decide, by decide⟩) 76 rfl ?_
  refine oc (y := mt_231) (pc := 76) (ok_aload_n dX6_tells_76) 77 rfl ?_
  refine oc (y := mt_231) (pc := 77) (ok_getfield dX6_tells_77 (fg (own := "GardenChess$State") (idx := 30) (g := 8) (k := 0) (r := (RX6, TX6, 12)) rfl ⟨⟨by decide, by decide⟩, by decide⟩ (Or.inl q445) (Or.inl rfl) rfl (fg_nil))) 80 rfl ?_
  refine oc (y := mt_231) (pc := 80) (ok_iastore dX6_tells_80) 81 rfl ?_
  refine oc (y := mt_231) (pc := 81) (ok_aload_n dX6_tells_81) 82 rfl ?_
  refine oc (y := mt_231) (pc := 82) (ok_getfield dX6_tells_82 (fg (own := "GardenChess$State") (idx := 27) (g := 8) (k := 6) (r := (RX6, TX6, 12)) rfl ⟨⟨by decide, by decide⟩, by decide⟩ (Or.inl q457) (Or.inl rfl) rfl (fg_nil))) 85 rfl ?_
  refine oc (y := mt_231) (pc := 85) (ok_aload_n dX6_tells_85) 86 rfl ?_
  refine oc (y := mt_231) (pc := 86) (ok_getfield dX6_tells_86 (fg (own := "GardenChess$State") (idx := 37) (g := 8) (k := 2) (r := (RX6, TX6, 12)) rfl ⟨⟨by decide, by decide⟩, by decide⟩ (Or.inl q449) (Or.inl rfl) rfl (fg_nil))) 89 rfl ?_
  refine oc (y := mt_231) (pc := 89) (ok_aaload (ty := .array .int) dX6_tells_89 (by decide) (by decide) rfl rfl) 90 rfl ?_
  refine oc (y := mt_231) (pc := 90) (ok_iconst dX6_tells_90 rfl ⟨by decide, by decide⟩) 91 rfl ?_
  refine oc (y := mt_231) (pc := 91) (ok_iload_n dX6_tells_91) 92 rfl ?_
  refine oc (y := mt_231) (pc := 92) (ok_iastore dX6_tells_92) 93 rfl ?_
  refine oc (y := mt_231) (pc := 93) (ok_aload_n dX6_tells_93) 94 rfl ?_
  refine oc (y := mt_231) (pc := 94) (ok_getfield dX6_tells_94 (fg (own := "GardenChess$State") (idx := 27) (g := 8) (k := 6) (r := (RX6, TX6, 12)) rfl ⟨⟨by decide, by decide⟩, by decide⟩ (Or.inl q457) (Or.inl rfl) rfl (fg_nil))) 97 rfl ?_
  refine oc (y := mt_231) (pc := 97) (ok_aload_n dX6_tells_97) 98 rfl ?_
  refine oc (y := mt_231) (pc := 98) (ok_getfield dX6_tells_98 (fg (own := "GardenChess$State") (idx := 37) (g := 8) (k := 2) (r := (RX6, TX6, 12)) rfl ⟨⟨by decide, by decide⟩, by decide⟩ (Or.inl q449) (Or.inl rfl) rfl (fg_nil))) 101 rfl ?_
  refine oc (y := mt_231) (pc := 101) (ok_aaload (ty := .array .int) dX6_tells_101 (by decide) (by decide) rfl rfl) 102 rfl ?_
  refine oc (y := mt_231) (pc := 102) (ok_iconst dX6_tells_102 rfl ⟨by decide, by decide⟩) 103 rfl ?_
  refine oc (y := mt_231) (pc := 103) (ok_aload_n dX6_tells_103) 104 rfl ?_
  refine oc (y := mt_231) (pc := 104) (ok_getfield dX6_tells_104 (fg (own := "GardenChess$State") (idx := 15) (g := 8) (k := 3) (r := (RX6, TX6, 12)) rfl ⟨⟨by decide, by decide⟩, by decide⟩ (Or.inl q451) (Or.inl rfl) rfl (fg_nil))) 107 rfl ?_
  refine oc (y := mt_231) (pc := 107) (ok_iload_n dX6_tells_107) 108 rfl ?_
  refine oc (y := mt_231) (pc := 108) (ok_iaload dX6_tells_108) 109 rfl ?_
  refine oc (y := mt_231) (pc := 109) (ok_iconst dX6_tells_109 rfl ⟨by decide, by decide⟩) 110 rfl ?_
  refine oc (y := mt_231) (pc := 110) (ok_irem dX6_tells_110) 111 rfl ?_
  refine oc (y := mt_231) (pc := 111) (ok_iastore dX6_tells_111) 112 rfl ?_
  refine oc (y := mt_231) (pc := 112) (ok_aload_n dX6_tells_112) 113 rfl ?_
  refine oc (y := mt_231) (pc := 113) (ok_getfield dX6_tells_113 (fg (own := "GardenChess$State") (idx := 27) (g := 8) (k := 6) (r := (RX6, TX6, 12)) rfl ⟨⟨by decide, by decide⟩, by decide⟩ (Or.inl q457) (Or.inl rfl) rfl (fg_nil))) 116 rfl ?_
  refine oc (y := mt_231) (pc := 116) (ok_aload_n dX6_tells_116) 117 rfl ?_
  refine oc (y := mt_231) (pc := 117) (ok_getfield dX6_tells_117 (fg (own := "GardenChess$State") (idx := 37) (g := 8) (k := 2) (r := (RX6, TX6, 12)) rfl ⟨⟨by decide, by decide⟩, by decide⟩ (Or.inl q449) (Or.inl rfl) rfl (fg_nil))) 120 rfl ?_
  refine oc (y := mt_231) (pc := 120) (ok_aaload (ty := .array .int) dX6_tells_120 (by decide) (by decide) rfl rfl) 121 rfl ?_
  refine oc (y := mt_231) (pc := 121) (ok_iconst dX6_tells_121 rfl ⟨by decide, by decide⟩) 122 rfl ?_
  refine oc (y := mt_231) (pc := 122) (ok_aload_n dX6_tells_122) 123 rfl ?_
  refine oc (y := mt_231) (pc := 123) (ok_getfield dX6_tells_123 (fg (own := "GardenChess$State") (idx := 15) (g := 8) (k := 3) (r := (RX6, TX6, 12)) rfl ⟨⟨by decide, by decide⟩, by decide⟩ (Or.inl q451) (Or.inl rfl) rfl (fg_nil))) 126 rfl ?_
  refine oc (y := mt_231) (pc := 126) (ok_iload_n dX6_tells_126) 127 rfl ?_
  refine oc (y := mt_231) (pc := 127) (ok_iaload dX6_tells_127) 128 rfl ?_
  refine oc (y := mt_231) (pc := 128) (ok_iconst dX6_tells_128 rfl ⟨by decide, by decide⟩) 129 rfl ?_
  refine oc (y := mt_231) (pc := 129) (ok_idiv dX6_tells_129) 130 rfl ?_
  refine oc (y := mt_231) (pc := 130) (ok_iastore dX6_tells_130) 131 rfl ?_
  refine oc (y := mt_231) (pc := 131) (ok_aload_n dX6_tells_131) 132 rfl ?_
  refine oc (y := mt_231) (pc := 132) (ok_getfield dX6_tells_132 (fg (own := "GardenChess$State") (idx := 27) (g := 8) (k := 6) (r := (RX6, TX6, 12)) rfl ⟨⟨by decide, by decide⟩, by decide⟩ (Or.inl q457) (Or.inl rfl) rfl (fg_nil))) 135 rfl ?_
  refine oc (y := mt_231) (pc := 135) (ok_aload_n dX6_tells_135) 136 rfl ?_
  refine oc (y := mt_231) (pc := 136) (ok_getfield dX6_tells_136 (fg (own := "GardenChess$State") (idx := 37) (g := 8) (k := 2) (r := (RX6, TX6, 12)) rfl ⟨⟨by decide, by decide⟩, by decide⟩ (Or.inl q449) (Or.inl rfl) rfl (fg_nil))) 139 rfl ?_
  refine oc (y := mt_231) (pc := 139) (ok_aaload (ty := .array .int) dX6_tells_139 (by decide) (by decide) rfl rfl) 140 rfl ?_
  exact oc_fall rfl
theorem o_231_140 : okL gmt mt_231 140 b_231_140 := by
  refine oc (y := mt_231) (pc := 140) (ok_iconst dX6_tells_140 rfl ⟨by decide, by decide⟩) 141 rfl ?_
  refine oc (y := mt_231) (pc := 141) (ok_iload_n dX6_tells_141) 142 rfl ?_
  refine oc (y := mt_231) (pc := 142) (ok_iconst dX6_tells_142 rfl ⟨by decide, by decide⟩) 143 rfl ?_
  refine oc_icmp dX6_tells_143 ⟨by decide, by decide⟩ 146 rfl ?_
  refine oc (y := mt_231) (pc := 146) (ok_sipush dX6_tells_146 (by decide) ⟨by decide, by decide⟩) 149 rfl ?_
  exact oc_goto dX6_tells_149 ⟨by decide, by decide⟩
theorem o_231_152 : okL gmt mt_231 152 b_231_152 := by
  refine oc (y := mt_231) (pc := 152) (ok_iload_n dX6_tells_152) 153 rfl ?_
  exact oc_fall rfl
theorem o_231_153 : okL gmt mt_231 153 b_231_153 := by
  refine oc (y := mt_231) (pc := 153) (ok_iastore dX6_tells_153) 154 rfl ?_
  refine oc (y := mt_231) (pc := 154) (ok_aload_n dX6_tells_154) 155 rfl ?_
  refine oc (y := mt_231) (pc := 155) (ok_dup dX6_tells_155) 156 rfl ?_
  refine oc (y := mt_231) (pc := 156) (ok_getfield dX6_tells_156 (fg (own := "GardenChess$State") (idx := 37) (g := 8) (k := 2) (r := (RX6, TX6, 12)) rfl ⟨⟨by decide, by decide⟩, by decide⟩ (Or.inl q449) (Or.inl rfl) rfl (fg_nil))) 159 rfl ?_
  refine oc (y := mt_231) (pc := 159) (ok_iconst dX6_tells_159 rfl ⟨by decide, by decide⟩) 160 rfl ?_
  refine oc (y := mt_231) (pc := 160) (ok_iadd dX6_tells_160) 161 rfl ?_
  refine oc (y := mt_231) (pc := 161) (ok_putfield dX6_tells_161 (fp (own := "GardenChess$State") (idx := 37) (g := 8) (k := 2) (r := (RX6, TX6, 12)) rfl ⟨⟨by decide, by decide⟩, by decide⟩ (Or.inl q449) (Or.inl rfl) rfl (Or.inl rfl) (fp_nil))) 164 rfl ?_
  exact oc_ret dX6_tells_164 rfl
theorem ok_231 : ∀ q ∈ pr_231, okL gmt mt_231 q.1 q.2 := pk_c o_231_0 (pk_c o_231_19 (pk_c o_231_48 (pk_c o_231_66 (pk_c o_231_140 (pk_c o_231_152 (pk_c o_231_153 (pk_n)))))))
theorem o_232_0 : okL gmt mt_232 0 b_232_0 := by
  refine oc (y := mt_232) (pc := 0) (ok_aload_n dX6_harmAt_0) 1 rfl ?_
  refine oc (y := mt_232) (pc := 1) (ok_getfield dX6_harmAt_1 (fg (own := "GardenChess$State") (idx := 175) (g := 8) (k := 8) (r := (RX6, TX6, 12)) rfl ⟨⟨by decide, by decide⟩, by decide⟩ (Or.inl q461) (Or.inl rfl) rfl (fg_nil))) 4 rfl ?_
  refine oc (y := mt_232) (pc := 4) (ok_iconst dX6_harmAt_4 rfl ⟨by decide, by decide⟩) 5 rfl ?_
  refine oc_icmp dX6_harmAt_5 ⟨by decide, by decide⟩ 8 rfl ?_
  refine oc (y := mt_232) (pc := 8) (ok_iconst dX6_harmAt_8 rfl ⟨by decide, by decide⟩) 9 rfl ?_
  exact oc_iret dX6_harmAt_9 rfl
theorem o_232_10 : okL gmt mt_232 10 b_232_10 := by
  refine oc (y := mt_232) (pc := 10) (ok_aload_n dX6_harmAt_10) 11 rfl ?_
  refine oc (y := mt_232) (pc := 11) (ok_getfield dX6_harmAt_11 (fg (own := "GardenChess$State") (idx := 3) (g := 8) (k := 11) (r := (RX6, TX6, 12)) rfl ⟨⟨by decide, by decide⟩, by decide⟩ (Or.inl q464) (Or.inl rfl) rfl (fg_nil))) 14 rfl ?_
  refine oc (y := mt_232) (pc := 14) (ok_getfield dX6_harmAt_14 (fg (own := "GardenChess$State") (idx := 59) (g := 1) (k := 0) (r := (RX0, TX0, 25)) rfl ⟨⟨by decide, by decide⟩, by decide⟩ (Or.inr ⟨_, q538⟩) (Or.inl rfl) rfl (fg_nil))) 17 rfl ?_
  refine oc (y := mt_232) (pc := 17) (ok_getfield dX6_harmAt_17 (fg (own := "GardenChess$State") (idx := 178) (g := 2) (k := 9) (r := (RX1, TX1, 10)) rfl ⟨⟨by decide, by decide⟩, by decide⟩ (Or.inr ⟨_, q273⟩) (Or.inl rfl) rfl (fg_nil))) 20 rfl ?_
  refine oc_nonnull dX6_harmAt_20 ⟨by decide, by decide⟩ 23 rfl ?_
  refine oc (y := mt_232) (pc := 23) (ok_aload_n dX6_harmAt_23) 24 rfl ?_
  refine oc (y := mt_232) (pc := 24) (ok_getfield dX6_harmAt_24 (fg (own := "GardenChess$State") (idx := 182) (g := 8) (k := 9) (r := (RX6, TX6, 12)) rfl ⟨⟨by decide, by decide⟩, by decide⟩ (Or.inl q462) (Or.inl rfl) rfl (fg_nil))) 27 rfl ?_
  exact oc_iret dX6_harmAt_27 rfl
theorem o_232_28 : okL gmt mt_232 28 b_232_28 := by
  refine oc (y := mt_232) (pc := 28) (ok_aload_n dX6_harmAt_28) 29 rfl ?_
  refine oc (y := mt_232) (pc := 29) (ok_getfield dX6_harmAt_29 (fg (own := "GardenChess$State") (idx := 3) (g := 8) (k := 11) (r := (RX6, TX6, 12)) rfl ⟨⟨by decide, by decide⟩, by decide⟩ (Or.inl q464) (Or.inl rfl) rfl (fg_nil))) 32 rfl ?_
  refine oc (y := mt_232) (pc := 32) (ok_getfield dX6_harmAt_32 (fg (own := "GardenChess$State") (idx := 185) (g := 1) (k := 6) (r := (RX0, TX0, 25)) rfl ⟨⟨by decide, by decide⟩, by decide⟩ (Or.inr ⟨_, q547⟩) (Or.inl rfl) rfl (fg_nil))) 35 rfl ?_
  refine oc (y := mt_232) (pc := 35) (ok_getfield dX6_harmAt_35 (fg (own := "GardenChess$State") (idx := 189) (g := 6) (k := 0) (r := (RX4, TX4, 1)) rfl ⟨⟨by decide, by decide⟩, by decide⟩ (Or.inr ⟨_, q408⟩) (Or.inl rfl) rfl (fg_nil))) 38 rfl ?_
  refine oc (y := mt_232) (pc := 38) (ok_iconst dX6_harmAt_38 rfl ⟨by decide, by decide⟩) 39 rfl ?_
  refine oc (y := mt_232) (pc := 39) (ok_aload_n dX6_harmAt_39) 40 rfl ?_
  refine oc (y := mt_232) (pc := 40) (ok_getfield dX6_harmAt_40 (fg (own := "GardenChess$State") (idx := 182) (g := 8) (k := 9) (r := (RX6, TX6, 12)) rfl ⟨⟨by decide, by decide⟩, by decide⟩ (Or.inl q462) (Or.inl rfl) rfl (fg_nil))) 43 rfl ?_
  refine oc (y := mt_232) (pc := 43) (ok_i2l dX6_harmAt_43) 44 rfl ?_
  refine oc (y := mt_232) (pc := 44) (ok_lastore dX6_harmAt_44) 45 rfl ?_
  refine oc (y := mt_232) (pc := 45) (ok_aload_n dX6_harmAt_45) 46 rfl ?_
  refine oc (y := mt_232) (pc := 46) (ok_getfield dX6_harmAt_46 (fg (own := "GardenChess$State") (idx := 3) (g := 8) (k := 11) (r := (RX6, TX6, 12)) rfl ⟨⟨by decide, by decide⟩, by decide⟩ (Or.inl q464) (Or.inl rfl) rfl (fg_nil))) 49 rfl ?_
  refine oc (y := mt_232) (pc := 49) (ok_getfield dX6_harmAt_49 (fg (own := "GardenChess$State") (idx := 185) (g := 1) (k := 6) (r := (RX0, TX0, 25)) rfl ⟨⟨by decide, by decide⟩, by decide⟩ (Or.inr ⟨_, q547⟩) (Or.inl rfl) rfl (fg_nil))) 52 rfl ?_
  refine oc (y := mt_232) (pc := 52) (ok_getfield dX6_harmAt_52 (fg (own := "GardenChess$State") (idx := 189) (g := 6) (k := 0) (r := (RX4, TX4, 1)) rfl ⟨⟨by decide, by decide⟩, by decide⟩ (Or.inr ⟨_, q408⟩) (Or.inl rfl) rfl (fg_nil))) 55 rfl ?_
  refine oc (y := mt_232) (pc := 55) (ok_iconst dX6_harmAt_55 rfl ⟨by decide, by decide⟩) 56 rfl ?_
  refine oc (y := mt_232) (pc := 56) (ok_aload_n dX6_harmAt_56) 57 rfl ?_
  refine oc (y := mt_232) (pc := 57) (ok_getfield dX6_harmAt_57 (fg (own := "GardenChess$State") (idx := 195) (g := 8) (k := 10) (r := (RX6, TX6, 12)) rfl ⟨⟨by decide, by decide⟩, by decide⟩ (Or.inl q463) (Or.inl rfl) rfl (fg_nil))) 60 rfl ?_
  refine oc_if dX6_harmAt_60 ⟨by decide, by decide⟩ 63 rfl ?_
  refine oc (y := mt_232) (pc := 63) (ok_lconst dX6_harmAt_63 (by decide) ⟨by decide, by decide⟩) 64 rfl ?_
  exact oc_goto dX6_harmAt_64 ⟨by decide, by decide⟩
theorem o_232_67 : okL gmt mt_232 67 b_232_67 := by
  refine oc (y := mt_232) (pc := 67) (ok_lconst dX6_harmAt_67 (by decide) ⟨by decide, by decide⟩) 68 rfl ?_
  exact oc_fall rfl
theorem o_232_68 : okL gmt mt_232 68 b_232_68 := by
  refine oc (y := mt_232) (pc := 68) (ok_lastore dX6_harmAt_68) 69 rfl ?_
  refine oc (y := mt_232) (pc := 69) (ok_aload_n dX6_harmAt_69) 70 rfl ?_
  refine oc (y := mt_232) (pc := 70) (ok_getfield dX6_harmAt_70 (fg (own := "GardenChess$State") (idx := 3) (g := 8) (k := 11) (r := (RX6, TX6, 12)) rfl ⟨⟨by decide, by decide⟩, by decide⟩ (Or.inl q464) (Or.inl rfl) rfl (fg_nil))) 73 rfl ?_
  refine oc (y := mt_232) (pc := 73) (ok_getfield dX6_harmAt_73 (fg (own := "GardenChess$State") (idx := 185) (g := 1) (k := 6) (r := (RX0, TX0, 25)) rfl ⟨⟨by decide, by decide⟩, by decide⟩ (Or.inr ⟨_, q547⟩) (Or.inl rfl) rfl (fg_nil))) 76 rfl ?_
  refine oc (y := mt_232) (pc := 76) (ok_getfield dX6_harmAt_76 (fg (own := "GardenChess$State") (idx := 189) (g := 6) (k := 0) (r := (RX4, TX4, 1)) rfl ⟨⟨by decide, by decide⟩, by decide⟩ (Or.inr ⟨_, q408⟩) (Or.inl rfl) rfl (fg_nil))) 79 rfl ?_
  refine oc (y := mt_232) (pc := 79) (ok_iconst dX6_harmAt_79 rfl ⟨by decide, by decide⟩) 80 rfl ?_
  refine oc (y := mt_232) (pc := 80) (ok_aload_n dX6_harmAt_80) 81 rfl ?_
  refine oc (y := mt_232) (pc := 81) (ok_getfield dX6_harmAt_81 (fg (own := "GardenChess$State") (idx := 175) (g := 8) (k := 8) (r := (RX6, TX6, 12)) rfl ⟨⟨by decide, by decide⟩, by decide⟩ (Or.inl q461) (Or.inl rfl) rfl (fg_nil))) 84 rfl ?_
  refine oc (y := mt_232) (pc := 84) (ok_iconst dX6_harmAt_84 rfl ⟨by decide, by decide⟩) 85 rfl ?_
  refine oc (y := mt_232) (pc := 85) (ok_irem dX6_harmAt_85) 86 rfl ?_
  refine oc (y := mt_232) (pc := 86) (ok_aload_n dX6_harmAt_86) 87 rfl ?_
  refine oc (y := mt_232) (pc := 87) (ok_getfield dX6_harmAt_87 (fg (own := "GardenChess$State") (idx := 175) (g := 8) (k := 8) (r := (RX6, TX6, 12)) rfl ⟨⟨by decide, by decide⟩, by decide⟩ (Or.inl q461) (Or.inl rfl) rfl (fg_nil))) 90 rfl ?_
  refine oc (y := mt_232) (pc := 90) (ok_iconst dX6_harmAt_90 rfl ⟨by decide, by decide⟩) 91 rfl ?_
  refine oc (y := mt_232) (pc := 91) (ok_idiv dX6_harmAt_91) 92 rfl ?_
  refine oc (y := mt_232) (pc := 92) (ok_iload_n dX6_harmAt_92) 93 rfl ?_
  refine oc (y := mt_232) (pc := 93) (ok_iload_n dX6_harmAt_93) 94 rfl ?_
  refine oc_S (y := mt_232) (pc := 94) (M := mt_118) rfl (ck_SN dX6_harmAt_94 ⟨by decide, by decide, by decide, by decide +kernel⟩ q1491 q1492 q162 q1493) (hok0 rfl) (by decide) 97 rfl ?_
  refine oc (y := mt_232) (pc := 97) (ok_i2l dX6_harmAt_97) 98 rfl ?_
  refine oc (y := mt_232) (pc := 98) (ok_lastore dX6_harmAt_98) 99 rfl ?_
  refine oc (y := mt_232) (pc := 99) (ok_aload_n dX6_harmAt_99) 100 rfl ?_
  refine oc (y := mt_232) (pc := 100) (ok_getfield dX6_harmAt_100 (fg (own := "GardenChess$State") (idx := 3) (g := 8) (k := 11) (r := (RX6, TX6, 12)) rfl ⟨⟨by decide, by decide⟩, by decide⟩ (Or.inl q464) (Or.inl rfl) rfl (fg_nil))) 103 rfl ?_
  refine oc (y := mt_232) (pc := 103) (ok_getfield dX6_harmAt_103 (fg (own := "GardenChess$State") (idx := 185) (g := 1) (k := 6) (r := (RX0, TX0, 25)) rfl ⟨⟨by decide, by decide⟩, by decide⟩ (Or.inr ⟨_, q547⟩) (Or.inl rfl) rfl (fg_nil))) 106 rfl ?_
  refine oc (y := mt_232) (pc := 106) (ok_getfield dX6_harmAt_106 (fg (own := "GardenChess$State") (idx := 189) (g := 6) (k := 0) (r := (RX4, TX4, 1)) rfl ⟨⟨by decide, by decide⟩, by decide⟩ (Or.inr ⟨_, q408⟩) (Or.inl rfl) rfl (fg_nil))) 109 rfl ?_
  refine oc (y := mt_232) (pc := 109) (ok_iconst dX6_harmAt_109 rfl ⟨by decide, by decide⟩) 110 rfl ?_
  refine oc (y := mt_232) (pc := 110) (ok_aload_n dX6_harmAt_110) 111 rfl ?_
  refine oc (y := mt_232) (pc := 111) (ok_getfield dX6_harmAt_111 (fg (own := "GardenChess$State") (idx := 30) (g := 8) (k := 0) (r := (RX6, TX6, 12)) rfl ⟨⟨by decide, by decide⟩, by decide⟩ (Or.inl q445) (Or.inl rfl) rfl (fg_nil))) 114 rfl ?_
  refine oc (y := mt_232) (pc := 114) (ok_iconst dX6_harmAt_114 rfl ⟨by decide, by decide⟩) 115 rfl ?_
  refine oc (y := mt_232) (pc := 115) (ok_isub dX6_harmAt_115) 116 rfl ?_
  refine oc (y := mt_232) (pc := 116) (ok_i2l dX6_harmAt_116) 117 rfl ?_
  refine oc (y := mt_232) (pc := 117) (ok_lastore dX6_harmAt_117) 118 rfl ?_
  refine oc (y := mt_232) (pc := 118) (ok_lconst dX6_harmAt_118 (by decide) ⟨by decide, by decide⟩) 119 rfl ?_
  refine oc (y := mt_232) (pc := 119) (ok_aload_n dX6_harmAt_119) 120 rfl ?_
  refine oc (y := mt_232) (pc := 120) (ok_getfield dX6_harmAt_120 (fg (own := "GardenChess$State") (idx := 3) (g := 8) (k := 11) (r := (RX6, TX6, 12)) rfl ⟨⟨by decide, by decide⟩, by decide⟩ (Or.inl q464) (Or.inl rfl) rfl (fg_nil))) 123 rfl ?_
  refine oc (y := mt_232) (pc := 123) (ok_getfield dX6_harmAt_123 (fg (own := "GardenChess$State") (idx := 59) (g := 1) (k := 0) (r := (RX0, TX0, 25)) rfl ⟨⟨by decide, by decide⟩, by decide⟩ (Or.inr ⟨_, q538⟩) (Or.inl rfl) rfl (fg_nil))) 126 rfl ?_
  refine oc (y := mt_232) (pc := 126) (ok_getfield dX6_harmAt_126 (fg (own := "GardenChess$State") (idx := 178) (g := 2) (k := 9) (r := (RX1, TX1, 10)) rfl ⟨⟨by decide, by decide⟩, by decide⟩ (Or.inr ⟨_, q273⟩) (Or.inl rfl) rfl (fg_nil))) 129 rfl ?_
  refine oc (y := mt_232) (pc := 129) (ok_aload_n dX6_harmAt_129) 130 rfl ?_
  refine oc (y := mt_232) (pc := 130) (ok_getfield dX6_harmAt_130 (fg (own := "GardenChess$State") (idx := 3) (g := 8) (k := 11) (r := (RX6, TX6, 12)) rfl ⟨⟨by decide, by decide⟩, by decide⟩ (Or.inl q464) (Or.inl rfl) rfl (fg_nil))) 133 rfl ?_
  refine oc (y := mt_232) (pc := 133) (ok_getfield dX6_harmAt_133 (fg (own := "GardenChess$State") (idx := 185) (g := 1) (k := 6) (r := (RX0, TX0, 25)) rfl ⟨⟨by decide, by decide⟩, by decide⟩ (Or.inr ⟨_, q547⟩) (Or.inl rfl) rfl (fg_nil))) 136 rfl ?_
  refine oc_V (y := mt_232) (pc := 136) (vcons (y := mt_232) (pc := 136) (len := 3) (n := 2) (M := mt_163) (by decide) rfl (Or.inr rfl) rfl (ck_A (C := "GardenChess$Asked") (x := ⟨"GardenChess$Value", "at", "(LGardenChess$Moment;)J"⟩) dX6_harmAt_136 (by decide) ⟨by decide, by decide, by decide +kernel⟩ q1496 q1498 q1499 q1500 q195 q1497 q1501) (vcons (y := mt_232) (pc := 136) (len := 3) (n := 2) (M := mt_156) (by decide) rfl (Or.inr rfl) rfl (ck_A (C := "GardenChess$Chain") (x := ⟨"GardenChess$Value", "at", "(LGardenChess$Moment;)J"⟩) dX6_harmAt_136 (by decide) ⟨by decide, by decide, by decide +kernel⟩ q1496 q1498 q1513 q1514 q190 q1497 q1515) (vcons (y := mt_232) (pc := 136) (len := 3) (n := 2) (M := mt_161) (by decide) rfl (Or.inr rfl) rfl (ck_A (C := "GardenChess$Fixed") (x := ⟨"GardenChess$Value", "at", "(LGardenChess$Moment;)J"⟩) dX6_harmAt_136 (by decide) ⟨by decide, by decide, by decide +kernel⟩ q1496 q1498 q1553 q1520 q194 q1497 q1521) (vcons (y := mt_232) (pc := 136) (len := 3) (n := 2) (M := mt_165) (by decide) rfl (Or.inr rfl) rfl (ck_A (C := "GardenChess$Looked") (x := ⟨"GardenChess$Value", "at", "(LGardenChess$Moment;)J"⟩) dX6_harmAt_136 (by decide) ⟨by decide, by decide, by decide +kernel⟩ q1496 q1498 q1554 q1522 q196 q1497 q1523) (vcons (y := mt_232) (pc := 136) (len := 3) (n := 2) (M := mt_159) (by decide) rfl (Or.inr rfl) rfl (ck_A (C := "GardenChess$Pair") (x := ⟨"GardenChess$Value", "at", "(LGardenChess$Moment;)J"⟩) dX6_harmAt_136 (by decide) ⟨by decide, by decide, by decide +kernel⟩ q1496 q1498 q1555 q1525 q193 q1497 q1526) (vnil)))))) (hok0 rfl) (by decide) 139 rfl ?_
  refine oc_S (y := mt_232) (pc := 139) (M := mt_21) rfl (ck_S dX6_harmAt_139 ⟨by decide, by decide, by decide, by decide +kernel⟩ q1556 q1511 q184 q1512) (hok0 rfl) (by decide) 142 rfl ?_
  refine oc (y := mt_232) (pc := 142) (ok_l2i dX6_harmAt_142) 143 rfl ?_
  exact oc_iret dX6_harmAt_143 rfl
theorem ok_232 : ∀ q ∈ pr_232, okL gmt mt_232 q.1 q.2 := pk_c o_232_0 (pk_c o_232_10 (pk_c o_232_28 (pk_c o_232_67 (pk_c o_232_68 (pk_n)))))
theorem o_233_0 : okL gmt mt_233 0 b_233_0 := by
  refine oc (y := mt_233) (pc := 0) (ok_aload_n dX7_init_0) 1 rfl ?_
  refine oc_oi (y := mt_233) (pc := 1) dX7_init_1 q1811 q210 q211 4 rfl ?_
  refine oc (y := mt_233) (pc := 4) (ok_aload_n dX7_init_4) 5 rfl ?_
  refine oc (y := mt_233) (pc := 5) (ok_sipush dX7_init_5 (by decide) ⟨by decide, by decide⟩) 8 rfl ?_
  refine oc (y := mt_233) (pc := 8) (ok_newarray dX7_init_8 (by decide) q246) 10 rfl ?_
  refine oc (y := mt_233) (pc := 10) (ok_putfield dX7_init_10 (fp (own := "GardenChessModel") (idx := 7) (g := 9) (k := 0) (r := (RX7, TX7, 122)) rfl ⟨⟨by decide, by decide⟩, by decide⟩ (Or.inl q1812) (Or.inl rfl) rfl (Or.inr ⟨rfl, rfl, rfl, q1812⟩) (fp_nil))) 13 rfl ?_
  refine oc (y := mt_233) (pc := 13) (ok_aload_n dX7_init_13) 14 rfl ?_
  refine oc (y := mt_233) (pc := 14) (ok_iconst dX7_init_14 rfl ⟨by decide, by decide⟩) 15 rfl ?_
  refine oc (y := mt_233) (pc := 15) (ok_putfield dX7_init_15 (fp (own := "GardenChessModel") (idx := 13) (g := 9) (k := 8) (r := (RX7, TX7, 122)) rfl ⟨⟨by decide, by decide⟩, by decide⟩ (Or.inl q1820) (Or.inl rfl) rfl (Or.inl rfl) (fp_nil))) 18 rfl ?_
  refine oc (y := mt_233) (pc := 18) (ok_aload_n dX7_init_18) 19 rfl ?_
  refine oc (y := mt_233) (pc := 19) (ok_bipush dX7_init_19 (by decide) ⟨by decide, by decide⟩) 21 rfl ?_
  refine oc (y := mt_233) (pc := 21) (ok_newarray dX7_init_21 (by decide) q246) 23 rfl ?_
  refine oc (y := mt_233) (pc := 23) (ok_putfield dX7_init_23 (fp (own := "GardenChessModel") (idx := 17) (g := 9) (k := 9) (r := (RX7, TX7, 122)) rfl ⟨⟨by decide, by decide⟩, by decide⟩ (Or.inl q1821) (Or.inl rfl) rfl (Or.inr ⟨rfl, rfl, rfl, q1821⟩) (fp_nil))) 26 rfl ?_
  refine oc (y := mt_233) (pc := 26) (ok_aload_n dX7_init_26) 27 rfl ?_
  refine oc (y := mt_233) (pc := 27) (ok_iconst dX7_init_27 rfl ⟨by decide, by decide⟩) 28 rfl ?_
  refine oc (y := mt_233) (pc := 28) (ok_newarray dX7_init_28 (by decide) q758) 30 rfl ?_
  refine oc (y := mt_233) (pc := 30) (ok_dup dX7_init_30) 31 rfl ?_
  refine oc (y := mt_233) (pc := 31) (ok_iconst dX7_init_31 rfl ⟨by decide, by decide⟩) 32 rfl ?_
  refine oc (y := mt_233) (pc := 32) (ok_bipush dX7_init_32 (by decide) ⟨by decide, by decide⟩) 34 rfl ?_
  refine oc (y := mt_233) (pc := 34) (ok_castore dX7_init_34) 35 rfl ?_
  refine oc (y := mt_233) (pc := 35) (ok_dup dX7_init_35) 36 rfl ?_
  refine oc (y := mt_233) (pc := 36) (ok_iconst dX7_init_36 rfl ⟨by decide, by decide⟩) 37 rfl ?_
  refine oc (y := mt_233) (pc := 37) (ok_bipush dX7_init_37 (by decide) ⟨by decide, by decide⟩) 39 rfl ?_
  refine oc (y := mt_233) (pc := 39) (ok_castore dX7_init_39) 40 rfl ?_
  refine oc (y := mt_233) (pc := 40) (ok_dup dX7_init_40) 41 rfl ?_
  refine oc (y := mt_233) (pc := 41) (ok_iconst dX7_init_41 rfl ⟨by decide, by decide⟩) 42 rfl ?_
  refine oc (y := mt_233) (pc := 42) (ok_bipush dX7_init_42 (by decide) ⟨by decide, by decide⟩) 44 rfl ?_
  refine oc (y := mt_233) (pc := 44) (ok_castore dX7_init_44) 45 rfl ?_
  refine oc (y := mt_233) (pc := 45) (ok_dup dX7_init_45) 46 rfl ?_
  refine oc (y := mt_233) (pc := 46) (ok_iconst dX7_init_46 rfl ⟨by decide, by decide⟩) 47 rfl ?_
  refine oc (y := mt_233) (pc := 47) (ok_bipush dX7_init_47 (by decide) ⟨by decide, by decide⟩) 49 rfl ?_
  refine oc (y := mt_233) (pc := 49) (ok_castore dX7_init_49) 50 rfl ?_
  refine oc (y := mt_233) (pc := 50) (ok_dup dX7_init_50) 51 rfl ?_
  refine oc (y := mt_233) (pc := 51) (ok_iconst dX7_init_51 rfl ⟨by decide, by decide⟩) 52 rfl ?_
  refine oc (y := mt_233) (pc := 52) (ok_bipush dX7_init_52 (by decide) ⟨by decide, by decide⟩) 54 rfl ?_
  refine oc (y := mt_233) (pc := 54) (ok_castore dX7_init_54) 55 rfl ?_
  refine oc (y := mt_233) (pc := 55) (ok_putfield dX7_init_55 (fp (own := "GardenChessModel") (idx := 20) (g := 9) (k := 11) (r := (RX7, TX7, 122)) rfl ⟨⟨by decide, by decide⟩, by decide⟩ (Or.inl q1823) (Or.inl rfl) rfl (Or.inr ⟨rfl, rfl, rfl, q1823⟩) (fp_nil))) 58 rfl ?_
  refine oc (y := mt_233) (pc := 58) (ok_aload_n dX7_init_58) 59 rfl ?_
  refine oc (y := mt_233) (pc := 59) (ok_iconst dX7_init_59 rfl ⟨by decide, by decide⟩) 60 rfl ?_
  refine oc (y := mt_233) (pc := 60) (ok_newarray dX7_init_60 (by decide) q758) 62 rfl ?_
  refine oc (y := mt_233) (pc := 62) (ok_dup dX7_init_62) 63 rfl ?_
  refine oc (y := mt_233) (pc := 63) (ok_iconst dX7_init_63 rfl ⟨by decide, by decide⟩) 64 rfl ?_
  refine oc (y := mt_233) (pc := 64) (ok_bipush dX7_init_64 (by decide) ⟨by decide, by decide⟩) 66 rfl ?_
  refine oc (y := mt_233) (pc := 66) (ok_castore dX7_init_66) 67 rfl ?_
  refine oc (y := mt_233) (pc := 67) (ok_dup dX7_init_67) 68 rfl ?_
  refine oc (y := mt_233) (pc := 68) (ok_iconst dX7_init_68 rfl ⟨by decide, by decide⟩) 69 rfl ?_
  refine oc (y := mt_233) (pc := 69) (ok_bipush dX7_init_69 (by decide) ⟨by decide, by decide⟩) 71 rfl ?_
  refine oc (y := mt_233) (pc := 71) (ok_castore dX7_init_71) 72 rfl ?_
  exact oc_fall rfl
theorem o_233_72 : okL gmt mt_233 72 b_233_72 := by
  refine oc (y := mt_233) (pc := 72) (ok_putfield dX7_init_72 (fp (own := "GardenChessModel") (idx := 24) (g := 9) (k := 12) (r := (RX7, TX7, 122)) rfl ⟨⟨by decide, by decide⟩, by decide⟩ (Or.inl q1824) (Or.inl rfl) rfl (Or.inr ⟨rfl, rfl, rfl, q1824⟩) (fp_nil))) 75 rfl ?_
  refine oc (y := mt_233) (pc := 75) (ok_aload_n dX7_init_75) 76 rfl ?_
  refine oc (y := mt_233) (pc := 76) (ok_iconst dX7_init_76 rfl ⟨by decide, by decide⟩) 77 rfl ?_
  refine oc (y := mt_233) (pc := 77) (ok_newarray dX7_init_77 (by decide) q758) 79 rfl ?_
  refine oc (y := mt_233) (pc := 79) (ok_dup dX7_init_79) 80 rfl ?_
  refine oc (y := mt_233) (pc := 80) (ok_iconst dX7_init_80 rfl ⟨by decide, by decide⟩) 81 rfl ?_
  refine oc (y := mt_233) (pc := 81) (ok_bipush dX7_init_81 (by decide) ⟨by decide, by decide⟩) 83 rfl ?_
  refine oc (y := mt_233) (pc := 83) (ok_castore dX7_init_83) 84 rfl ?_
  refine oc (y := mt_233) (pc := 84) (ok_dup dX7_init_84) 85 rfl ?_
  refine oc (y := mt_233) (pc := 85) (ok_iconst dX7_init_85 rfl ⟨by decide, by decide⟩) 86 rfl ?_
  refine oc (y := mt_233) (pc := 86) (ok_bipush dX7_init_86 (by decide) ⟨by decide, by decide⟩) 88 rfl ?_
  refine oc (y := mt_233) (pc := 88) (ok_castore dX7_init_88) 89 rfl ?_
  refine oc (y := mt_233) (pc := 89) (ok_dup dX7_init_89) 90 rfl ?_
  refine oc (y := mt_233) (pc := 90) (ok_iconst dX7_init_90 rfl ⟨by decide, by decide⟩) 91 rfl ?_
  refine oc (y := mt_233) (pc := 91) (ok_bipush dX7_init_91 (by decide) ⟨by decide, by decide⟩) 93 rfl ?_
  refine oc (y := mt_233) (pc := 93) (ok_castore dX7_init_93) 94 rfl ?_
  refine oc (y := mt_233) (pc := 94) (ok_dup dX7_init_94) 95 rfl ?_
  refine oc (y := mt_233) (pc := 95) (ok_iconst dX7_init_95 rfl ⟨by decide, by decide⟩) 96 rfl ?_
  refine oc (y := mt_233) (pc := 96) (ok_bipush dX7_init_96 (by decide) ⟨by decide, by decide⟩) 98 rfl ?_
  refine oc (y := mt_233) (pc := 98) (ok_castore dX7_init_98) 99 rfl ?_
  refine oc (y := mt_233) (pc := 99) (ok_dup dX7_init_99) 100 rfl ?_
  refine oc (y := mt_233) (pc := 100) (ok_iconst dX7_init_100 rfl ⟨by decide, by decide⟩) 101 rfl ?_
  refine oc (y := mt_233) (pc := 101) (ok_bipush dX7_init_101 (by decide) ⟨by decide, by decide⟩) 103 rfl ?_
  refine oc (y := mt_233) (pc := 103) (ok_castore dX7_init_103) 104 rfl ?_
  refine oc (y := mt_233) (pc := 104) (ok_putfield dX7_init_104 (fp (own := "GardenChessModel") (idx := 27) (g := 9) (k := 13) (r := (RX7, TX7, 122)) rfl ⟨⟨by decide, by decide⟩, by decide⟩ (Or.inl q1825) (Or.inl rfl) rfl (Or.inr ⟨rfl, rfl, rfl, q1825⟩) (fp_nil))) 107 rfl ?_
  refine oc (y := mt_233) (pc := 107) (ok_aload_n dX7_init_107) 108 rfl ?_
  refine oc (y := mt_233) (pc := 108) (ok_iconst dX7_init_108 rfl ⟨by decide, by decide⟩) 109 rfl ?_
  refine oc (y := mt_233) (pc := 109) (ok_newarray dX7_init_109 (by decide) q758) 111 rfl ?_
  refine oc (y := mt_233) (pc := 111) (ok_dup dX7_init_111) 112 rfl ?_
  refine oc (y := mt_233) (pc := 112) (ok_iconst dX7_init_112 rfl ⟨by decide, by decide⟩) 113 rfl ?_
  refine oc (y := mt_233) (pc := 113) (ok_bipush dX7_init_113 (by decide) ⟨by decide, by decide⟩) 115 rfl ?_
  refine oc (y := mt_233) (pc := 115) (ok_castore dX7_init_115) 116 rfl ?_
  refine oc (y := mt_233) (pc := 116) (ok_dup dX7_init_116) 117 rfl ?_
  refine oc (y := mt_233) (pc := 117) (ok_iconst dX7_init_117 rfl ⟨by decide, by decide⟩) 118 rfl ?_
  refine oc (y := mt_233) (pc := 118) (ok_bipush dX7_init_118 (by decide) ⟨by decide, by decide⟩) 120 rfl ?_
  refine oc (y := mt_233) (pc := 120) (ok_castore dX7_init_120) 121 rfl ?_
  refine oc (y := mt_233) (pc := 121) (ok_dup dX7_init_121) 122 rfl ?_
  refine oc (y := mt_233) (pc := 122) (ok_iconst dX7_init_122 rfl ⟨by decide, by decide⟩) 123 rfl ?_
  refine oc (y := mt_233) (pc := 123) (ok_bipush dX7_init_123 (by decide) ⟨by decide, by decide⟩) 125 rfl ?_
  refine oc (y := mt_233) (pc := 125) (ok_castore dX7_init_125) 126 rfl ?_
  refine oc (y := mt_233) (pc := 126) (ok_dup dX7_init_126) 127 rfl ?_
  refine oc (y := mt_233) (pc := 127) (ok_iconst dX7_init_127 rfl ⟨by decide, by decide⟩) 128 rfl ?_
  refine oc (y := mt_233) (pc := 128) (ok_bipush dX7_init_128 (by decide) ⟨by decide, by decide⟩) 130 rfl ?_
  refine oc (y := mt_233) (pc := 130) (ok_castore dX7_init_130) 131 rfl ?_
  refine oc (y := mt_233) (pc := 131) (ok_dup dX7_init_131) 132 rfl ?_
  refine oc (y := mt_233) (pc := 132) (ok_iconst dX7_init_132 rfl ⟨by decide, by decide⟩) 133 rfl ?_
  refine oc (y := mt_233) (pc := 133) (ok_bipush dX7_init_133 (by decide) ⟨by decide, by decide⟩) 135 rfl ?_
  refine oc (y := mt_233) (pc := 135) (ok_castore dX7_init_135) 136 rfl ?_
  exact oc_fall rfl
theorem o_233_136 : okL gmt mt_233 136 b_233_136 := by
  refine oc (y := mt_233) (pc := 136) (ok_putfield dX7_init_136 (fp (own := "GardenChessModel") (idx := 30) (g := 9) (k := 14) (r := (RX7, TX7, 122)) rfl ⟨⟨by decide, by decide⟩, by decide⟩ (Or.inl q1826) (Or.inl rfl) rfl (Or.inr ⟨rfl, rfl, rfl, q1826⟩) (fp_nil))) 139 rfl ?_
  refine oc (y := mt_233) (pc := 139) (ok_aload_n dX7_init_139) 140 rfl ?_
  refine oc (y := mt_233) (pc := 140) (ok_iconst dX7_init_140 rfl ⟨by decide, by decide⟩) 141 rfl ?_
  refine oc (y := mt_233) (pc := 141) (ok_newarray dX7_init_141 (by decide) q758) 143 rfl ?_
  refine oc (y := mt_233) (pc := 143) (ok_dup dX7_init_143) 144 rfl ?_
  refine oc (y := mt_233) (pc := 144) (ok_iconst dX7_init_144 rfl ⟨by decide, by decide⟩) 145 rfl ?_
  refine oc (y := mt_233) (pc := 145) (ok_bipush dX7_init_145 (by decide) ⟨by decide, by decide⟩) 147 rfl ?_
  refine oc (y := mt_233) (pc := 147) (ok_castore dX7_init_147) 148 rfl ?_
  refine oc (y := mt_233) (pc := 148) (ok_dup dX7_init_148) 149 rfl ?_
  refine oc (y := mt_233) (pc := 149) (ok_iconst dX7_init_149 rfl ⟨by decide, by decide⟩) 150 rfl ?_
  refine oc (y := mt_233) (pc := 150) (ok_bipush dX7_init_150 (by decide) ⟨by decide, by decide⟩) 152 rfl ?_
  refine oc (y := mt_233) (pc := 152) (ok_castore dX7_init_152) 153 rfl ?_
  refine oc (y := mt_233) (pc := 153) (ok_dup dX7_init_153) 154 rfl ?_
  refine oc (y := mt_233) (pc := 154) (ok_iconst dX7_init_154 rfl ⟨by decide, by decide⟩) 155 rfl ?_
  refine oc (y := mt_233) (pc := 155) (ok_bipush dX7_init_155 (by decide) ⟨by decide, by decide⟩) 157 rfl ?_
  refine oc (y := mt_233) (pc := 157) (ok_castore dX7_init_157) 158 rfl ?_
  refine oc (y := mt_233) (pc := 158) (ok_dup dX7_init_158) 159 rfl ?_
  refine oc (y := mt_233) (pc := 159) (ok_iconst dX7_init_159 rfl ⟨by decide, by decide⟩) 160 rfl ?_
  refine oc (y := mt_233) (pc := 160) (ok_bipush dX7_init_160 (by decide) ⟨by decide, by decide⟩) 162 rfl ?_
  refine oc (y := mt_233) (pc := 162) (ok_castore dX7_init_162) 163 rfl ?_
  refine oc (y := mt_233) (pc := 163) (ok_putfield dX7_init_163 (fp (own := "GardenChessModel") (idx := 33) (g := 9) (k := 15) (r := (RX7, TX7, 122)) rfl ⟨⟨by decide, by decide⟩, by decide⟩ (Or.inl q1827) (Or.inl rfl) rfl (Or.inr ⟨rfl, rfl, rfl, q1827⟩) (fp_nil))) 166 rfl ?_
  refine oc (y := mt_233) (pc := 166) (ok_aload_n dX7_init_166) 167 rfl ?_
  refine oc (y := mt_233) (pc := 167) (ok_iconst dX7_init_167 rfl ⟨by decide, by decide⟩) 168 rfl ?_
  refine oc (y := mt_233) (pc := 168) (ok_newarray dX7_init_168 (by decide) q758) 170 rfl ?_
  refine oc (y := mt_233) (pc := 170) (ok_dup dX7_init_170) 171 rfl ?_
  refine oc (y := mt_233) (pc := 171) (ok_iconst dX7_init_171 rfl ⟨by decide, by decide⟩) 172 rfl ?_
  refine oc (y := mt_233) (pc := 172) (ok_bipush dX7_init_172 (by decide) ⟨by decide, by decide⟩) 174 rfl ?_
  refine oc (y := mt_233) (pc := 174) (ok_castore dX7_init_174) 175 rfl ?_
  refine oc (y := mt_233) (pc := 175) (ok_dup dX7_init_175) 176 rfl ?_
  refine oc (y := mt_233) (pc := 176) (ok_iconst dX7_init_176 rfl ⟨by decide, by decide⟩) 177 rfl ?_
  refine oc (y := mt_233) (pc := 177) (ok_bipush dX7_init_177 (by decide) ⟨by decide, by decide⟩) 179 rfl ?_
  refine oc (y := mt_233) (pc := 179) (ok_castore dX7_init_179) 180 rfl ?_
  refine oc (y := mt_233) (pc := 180) (ok_dup dX7_init_180) 181 rfl ?_
  refine oc (y := mt_233) (pc := 181) (ok_iconst dX7_init_181 rfl ⟨by decide, by decide⟩) 182 rfl ?_
  refine oc (y := mt_233) (pc := 182) (ok_bipush dX7_init_182 (by decide) ⟨by decide, by decide⟩) 184 rfl ?_
  refine oc (y := mt_233) (pc := 184) (ok_castore dX7_init_184) 185 rfl ?_
  refine oc (y := mt_233) (pc := 185) (ok_dup dX7_init_185) 186 rfl ?_
  refine oc (y := mt_233) (pc := 186) (ok_iconst dX7_init_186 rfl ⟨by decide, by decide⟩) 187 rfl ?_
  refine oc (y := mt_233) (pc := 187) (ok_bipush dX7_init_187 (by decide) ⟨by decide, by decide⟩) 189 rfl ?_
  refine oc (y := mt_233) (pc := 189) (ok_castore dX7_init_189) 190 rfl ?_
  refine oc (y := mt_233) (pc := 190) (ok_putfield dX7_init_190 (fp (own := "GardenChessModel") (idx := 36) (g := 9) (k := 16) (r := (RX7, TX7, 122)) rfl ⟨⟨by decide, by decide⟩, by decide⟩ (Or.inl q1828) (Or.inl rfl) rfl (Or.inr ⟨rfl, rfl, rfl, q1828⟩) (fp_nil))) 193 rfl ?_
  refine oc (y := mt_233) (pc := 193) (ok_aload_n dX7_init_193) 194 rfl ?_
  refine oc (y := mt_233) (pc := 194) (ok_iconst dX7_init_194 rfl ⟨by decide, by decide⟩) 195 rfl ?_
  refine oc (y := mt_233) (pc := 195) (ok_newarray dX7_init_195 (by decide) q758) 197 rfl ?_
  refine oc (y := mt_233) (pc := 197) (ok_dup dX7_init_197) 198 rfl ?_
  refine oc (y := mt_233) (pc := 198) (ok_iconst dX7_init_198 rfl ⟨by decide, by decide⟩) 199 rfl ?_
  refine oc (y := mt_233) (pc := 199) (ok_bipush dX7_init_199 (by decide) ⟨by decide, by decide⟩) 201 rfl ?_
  refine oc (y := mt_233) (pc := 201) (ok_castore dX7_init_201) 202 rfl ?_
  exact oc_fall rfl
theorem o_233_202 : okL gmt mt_233 202 b_233_202 := by
  refine oc (y := mt_233) (pc := 202) (ok_dup dX7_init_202) 203 rfl ?_
  refine oc (y := mt_233) (pc := 203) (ok_iconst dX7_init_203 rfl ⟨by decide, by decide⟩) 204 rfl ?_
  refine oc (y := mt_233) (pc := 204) (ok_bipush dX7_init_204 (by decide) ⟨by decide, by decide⟩) 206 rfl ?_
  refine oc (y := mt_233) (pc := 206) (ok_castore dX7_init_206) 207 rfl ?_
  refine oc (y := mt_233) (pc := 207) (ok_dup dX7_init_207) 208 rfl ?_
  refine oc (y := mt_233) (pc := 208) (ok_iconst dX7_init_208 rfl ⟨by decide, by decide⟩) 209 rfl ?_
  refine oc (y := mt_233) (pc := 209) (ok_bipush dX7_init_209 (by decide) ⟨by decide, by decide⟩) 211 rfl ?_
  refine oc (y := mt_233) (pc := 211) (ok_castore dX7_init_211) 212 rfl ?_
  refine oc (y := mt_233) (pc := 212) (ok_dup dX7_init_212) 213 rfl ?_
  refine oc (y := mt_233) (pc := 213) (ok_iconst dX7_init_213 rfl ⟨by decide, by decide⟩) 214 rfl ?_
  refine oc (y := mt_233) (pc := 214) (ok_bipush dX7_init_214 (by decide) ⟨by decide, by decide⟩) 216 rfl ?_
  refine oc (y := mt_233) (pc := 216) (ok_castore dX7_init_216) 217 rfl ?_
  refine oc (y := mt_233) (pc := 217) (ok_dup dX7_init_217) 218 rfl ?_
  refine oc (y := mt_233) (pc := 218) (ok_iconst dX7_init_218 rfl ⟨by decide, by decide⟩) 219 rfl ?_
  refine oc (y := mt_233) (pc := 219) (ok_bipush dX7_init_219 (by decide) ⟨by decide, by decide⟩) 221 rfl ?_
  refine oc (y := mt_233) (pc := 221) (ok_castore dX7_init_221) 222 rfl ?_
  refine oc (y := mt_233) (pc := 222) (ok_putfield dX7_init_222 (fp (own := "GardenChessModel") (idx := 39) (g := 9) (k := 17) (r := (RX7, TX7, 122)) rfl ⟨⟨by decide, by decide⟩, by decide⟩ (Or.inl q1829) (Or.inl rfl) rfl (Or.inr ⟨rfl, rfl, rfl, q1829⟩) (fp_nil))) 225 rfl ?_
  refine oc (y := mt_233) (pc := 225) (ok_aload_n dX7_init_225) 226 rfl ?_
  refine oc (y := mt_233) (pc := 226) (ok_iconst dX7_init_226 rfl ⟨by decide, by decide⟩) 227 rfl ?_
  refine oc (y := mt_233) (pc := 227) (ok_newarray dX7_init_227 (by decide) q758) 229 rfl ?_
  refine oc (y := mt_233) (pc := 229) (ok_dup dX7_init_229) 230 rfl ?_
  refine oc (y := mt_233) (pc := 230) (ok_iconst dX7_init_230 rfl ⟨by decide, by decide⟩) 231 rfl ?_
  refine oc (y := mt_233) (pc := 231) (ok_bipush dX7_init_231 (by decide) ⟨by decide, by decide⟩) 233 rfl ?_
  refine oc (y := mt_233) (pc := 233) (ok_castore dX7_init_233) 234 rfl ?_
  refine oc (y := mt_233) (pc := 234) (ok_dup dX7_init_234) 235 rfl ?_
  refine oc (y := mt_233) (pc := 235) (ok_iconst dX7_init_235 rfl ⟨by decide, by decide⟩) 236 rfl ?_
  refine oc (y := mt_233) (pc := 236) (ok_bipush dX7_init_236 (by decide) ⟨by decide, by decide⟩) 238 rfl ?_
  refine oc (y := mt_233) (pc := 238) (ok_castore dX7_init_238) 239 rfl ?_
  refine oc (y := mt_233) (pc := 239) (ok_dup dX7_init_239) 240 rfl ?_
  refine oc (y := mt_233) (pc := 240) (ok_iconst dX7_init_240 rfl ⟨by decide, by decide⟩) 241 rfl ?_
  refine oc (y := mt_233) (pc := 241) (ok_bipush dX7_init_241 (by decide) ⟨by decide, by decide⟩) 243 rfl ?_
  refine oc (y := mt_233) (pc := 243) (ok_castore dX7_init_243) 244 rfl ?_
  refine oc (y := mt_233) (pc := 244) (ok_dup dX7_init_244) 245 rfl ?_
  refine oc (y := mt_233) (pc := 245) (ok_iconst dX7_init_245 rfl ⟨by decide, by decide⟩) 246 rfl ?_
  refine oc (y := mt_233) (pc := 246) (ok_bipush dX7_init_246 (by decide) ⟨by decide, by decide⟩) 248 rfl ?_
  refine oc (y := mt_233) (pc := 248) (ok_castore dX7_init_248) 249 rfl ?_
  refine oc (y := mt_233) (pc := 249) (ok_dup dX7_init_249) 250 rfl ?_
  refine oc (y := mt_233) (pc := 250) (ok_iconst dX7_init_250 rfl ⟨by decide, by decide⟩) 251 rfl ?_
  refine oc (y := mt_233) (pc := 251) (ok_bipush dX7_init_251 (by decide) ⟨by decide, by decide⟩) 253 rfl ?_
  refine oc (y := mt_233) (pc := 253) (ok_castore dX7_init_253) 254 rfl ?_
  refine oc (y := mt_233) (pc := 254) (ok_putfield dX7_init_254 (fp (own := "GardenChessModel") (idx := 42) (g := 9) (k := 18) (r := (RX7, TX7, 122)) rfl ⟨⟨by decide, by decide⟩, by decide⟩ (Or.inl q1830) (Or.inl rfl) rfl (Or.inr ⟨rfl, rfl, rfl, q1830⟩) (fp_nil))) 257 rfl ?_
  refine oc (y := mt_233) (pc := 257) (ok_aload_n dX7_init_257) 258 rfl ?_
  refine oc (y := mt_233) (pc := 258) (ok_iconst dX7_init_258 rfl ⟨by decide, by decide⟩) 259 rfl ?_
  refine oc (y := mt_233) (pc := 259) (ok_newarray dX7_init_259 (by decide) q758) 261 rfl ?_
  refine oc (y := mt_233) (pc := 261) (ok_dup dX7_init_261) 262 rfl ?_
  refine oc (y := mt_233) (pc := 262) (ok_iconst dX7_init_262 rfl ⟨by decide, by decide⟩) 263 rfl ?_
  refine oc (y := mt_233) (pc := 263) (ok_bipush dX7_init_263 (by decide) ⟨by decide, by decide⟩) 265 rfl ?_
  refine oc (y := mt_233) (pc := 265) (ok_castore dX7_init_265) 266 rfl ?_
  exact oc_fall rfl
theorem o_233_266 : okL gmt mt_233 266 b_233_266 := by
  refine oc (y := mt_233) (pc := 266) (ok_dup dX7_init_266) 267 rfl ?_
  refine oc (y := mt_233) (pc := 267) (ok_iconst dX7_init_267 rfl ⟨by decide, by decide⟩) 268 rfl ?_
  refine oc (y := mt_233) (pc := 268) (ok_bipush dX7_init_268 (by decide) ⟨by decide, by decide⟩) 270 rfl ?_
  refine oc (y := mt_233) (pc := 270) (ok_castore dX7_init_270) 271 rfl ?_
  refine oc (y := mt_233) (pc := 271) (ok_dup dX7_init_271) 272 rfl ?_
  refine oc (y := mt_233) (pc := 272) (ok_iconst dX7_init_272 rfl ⟨by decide, by decide⟩) 273 rfl ?_
  refine oc (y := mt_233) (pc := 273) (ok_bipush dX7_init_273 (by decide) ⟨by decide, by decide⟩) 275 rfl ?_
  refine oc (y := mt_233) (pc := 275) (ok_castore dX7_init_275) 276 rfl ?_
  refine oc (y := mt_233) (pc := 276) (ok_dup dX7_init_276) 277 rfl ?_
  refine oc (y := mt_233) (pc := 277) (ok_iconst dX7_init_277 rfl ⟨by decide, by decide⟩) 278 rfl ?_
  refine oc (y := mt_233) (pc := 278) (ok_bipush dX7_init_278 (by decide) ⟨by decide, by decide⟩) 280 rfl ?_
  refine oc (y := mt_233) (pc := 280) (ok_castore dX7_init_280) 281 rfl ?_
  refine oc (y := mt_233) (pc := 281) (ok_dup dX7_init_281) 282 rfl ?_
  refine oc (y := mt_233) (pc := 282) (ok_iconst dX7_init_282 rfl ⟨by decide, by decide⟩) 283 rfl ?_
  refine oc (y := mt_233) (pc := 283) (ok_bipush dX7_init_283 (by decide) ⟨by decide, by decide⟩) 285 rfl ?_
  refine oc (y := mt_233) (pc := 285) (ok_castore dX7_init_285) 286 rfl ?_
  refine oc (y := mt_233) (pc := 286) (ok_putfield dX7_init_286 (fp (own := "GardenChessModel") (idx := 45) (g := 9) (k := 19) (r := (RX7, TX7, 122)) rfl ⟨⟨by decide, by decide⟩, by decide⟩ (Or.inl q1831) (Or.inl rfl) rfl (Or.inr ⟨rfl, rfl, rfl, q1831⟩) (fp_nil))) 289 rfl ?_
  refine oc (y := mt_233) (pc := 289) (ok_aload_n dX7_init_289) 290 rfl ?_
  refine oc (y := mt_233) (pc := 290) (ok_iconst dX7_init_290 rfl ⟨by decide, by decide⟩) 291 rfl ?_
  refine oc (y := mt_233) (pc := 291) (ok_newarray dX7_init_291 (by decide) q758) 293 rfl ?_
  refine oc (y := mt_233) (pc := 293) (ok_dup dX7_init_293) 294 rfl ?_
  refine oc (y := mt_233) (pc := 294) (ok_iconst dX7_init_294 rfl ⟨by decide, by decide⟩) 295 rfl ?_
  refine oc (y := mt_233) (pc := 295) (ok_bipush dX7_init_295 (by decide) ⟨by decide, by decide⟩) 297 rfl ?_
  refine oc (y := mt_233) (pc := 297) (ok_castore dX7_init_297) 298 rfl ?_
  refine oc (y := mt_233) (pc := 298) (ok_dup dX7_init_298) 299 rfl ?_
  refine oc (y := mt_233) (pc := 299) (ok_iconst dX7_init_299 rfl ⟨by decide, by decide⟩) 300 rfl ?_
  refine oc (y := mt_233) (pc := 300) (ok_bipush dX7_init_300 (by decide) ⟨by decide, by decide⟩) 302 rfl ?_
  refine oc (y := mt_233) (pc := 302) (ok_castore dX7_init_302) 303 rfl ?_
  refine oc (y := mt_233) (pc := 303) (ok_dup dX7_init_303) 304 rfl ?_
  refine oc (y := mt_233) (pc := 304) (ok_iconst dX7_init_304 rfl ⟨by decide, by decide⟩) 305 rfl ?_
  refine oc (y := mt_233) (pc := 305) (ok_bipush dX7_init_305 (by decide) ⟨by decide, by decide⟩) 307 rfl ?_
  refine oc (y := mt_233) (pc := 307) (ok_castore dX7_init_307) 308 rfl ?_
  refine oc (y := mt_233) (pc := 308) (ok_putfield dX7_init_308 (fp (own := "GardenChessModel") (idx := 48) (g := 9) (k := 20) (r := (RX7, TX7, 122)) rfl ⟨⟨by decide, by decide⟩, by decide⟩ (Or.inl q1832) (Or.inl rfl) rfl (Or.inr ⟨rfl, rfl, rfl, q1832⟩) (fp_nil))) 311 rfl ?_
  refine oc (y := mt_233) (pc := 311) (ok_aload_n dX7_init_311) 312 rfl ?_
  refine oc (y := mt_233) (pc := 312) (ok_iconst dX7_init_312 rfl ⟨by decide, by decide⟩) 313 rfl ?_
  refine oc (y := mt_233) (pc := 313) (ok_newarray dX7_init_313 (by decide) q758) 315 rfl ?_
  refine oc (y := mt_233) (pc := 315) (ok_dup dX7_init_315) 316 rfl ?_
  refine oc (y := mt_233) (pc := 316) (ok_iconst dX7_init_316 rfl ⟨by decide, by decide⟩) 317 rfl ?_
  refine oc (y := mt_233) (pc := 317) (ok_bipush dX7_init_317 (by decide) ⟨by decide, by decide⟩) 319 rfl ?_
  refine oc (y := mt_233) (pc := 319) (ok_castore dX7_init_319) 320 rfl ?_
  refine oc (y := mt_233) (pc := 320) (ok_dup dX7_init_320) 321 rfl ?_
  refine oc (y := mt_233) (pc := 321) (ok_iconst dX7_init_321 rfl ⟨by decide, by decide⟩) 322 rfl ?_
  refine oc (y := mt_233) (pc := 322) (ok_bipush dX7_init_322 (by decide) ⟨by decide, by decide⟩) 324 rfl ?_
  refine oc (y := mt_233) (pc := 324) (ok_castore dX7_init_324) 325 rfl ?_
  refine oc (y := mt_233) (pc := 325) (ok_putfield dX7_init_325 (fp (own := "GardenChessModel") (idx := 51) (g := 9) (k := 21) (r := (RX7, TX7, 122)) rfl ⟨⟨by decide, by decide⟩, by decide⟩ (Or.inl q1833) (Or.inl rfl) rfl (Or.inr ⟨rfl, rfl, rfl, q1833⟩) (fp_nil))) 328 rfl ?_
  refine oc (y := mt_233) (pc := 328) (ok_aload_n dX7_init_328) 329 rfl ?_
  refine oc (y := mt_233) (pc := 329) (ok_iconst dX7_init_329 rfl ⟨by decide, by decide⟩) 330 rfl ?_
  refine oc (y := mt_233) (pc := 330) (ok_newarray dX7_init_330 (by decide) q758) 332 rfl ?_
  exact oc_fall rfl
theorem o_233_332 : okL gmt mt_233 332 b_233_332 := by
  refine oc (y := mt_233) (pc := 332) (ok_dup dX7_init_332) 333 rfl ?_
  refine oc (y := mt_233) (pc := 333) (ok_iconst dX7_init_333 rfl ⟨by decide, by decide⟩) 334 rfl ?_
  refine oc (y := mt_233) (pc := 334) (ok_bipush dX7_init_334 (by decide) ⟨by decide, by decide⟩) 336 rfl ?_
  refine oc (y := mt_233) (pc := 336) (ok_castore dX7_init_336) 337 rfl ?_
  refine oc (y := mt_233) (pc := 337) (ok_dup dX7_init_337) 338 rfl ?_
  refine oc (y := mt_233) (pc := 338) (ok_iconst dX7_init_338 rfl ⟨by decide, by decide⟩) 339 rfl ?_
  refine oc (y := mt_233) (pc := 339) (ok_bipush dX7_init_339 (by decide) ⟨by decide, by decide⟩) 341 rfl ?_
  refine oc (y := mt_233) (pc := 341) (ok_castore dX7_init_341) 342 rfl ?_
  refine oc (y := mt_233) (pc := 342) (ok_putfield dX7_init_342 (fp (own := "GardenChessModel") (idx := 54) (g := 9) (k := 22) (r := (RX7, TX7, 122)) rfl ⟨⟨by decide, by decide⟩, by decide⟩ (Or.inl q1834) (Or.inl rfl) rfl (Or.inr ⟨rfl, rfl, rfl, q1834⟩) (fp_nil))) 345 rfl ?_
  refine oc (y := mt_233) (pc := 345) (ok_aload_n dX7_init_345) 346 rfl ?_
  refine oc (y := mt_233) (pc := 346) (ok_iconst dX7_init_346 rfl ⟨by decide, by decide⟩) 347 rfl ?_
  refine oc (y := mt_233) (pc := 347) (ok_newarray dX7_init_347 (by decide) q758) 349 rfl ?_
  refine oc (y := mt_233) (pc := 349) (ok_dup dX7_init_349) 350 rfl ?_
  refine oc (y := mt_233) (pc := 350) (ok_iconst dX7_init_350 rfl ⟨by decide, by decide⟩) 351 rfl ?_
  refine oc (y := mt_233) (pc := 351) (ok_bipush dX7_init_351 (by decide) ⟨by decide, by decide⟩) 353 rfl ?_
  refine oc (y := mt_233) (pc := 353) (ok_castore dX7_init_353) 354 rfl ?_
  refine oc (y := mt_233) (pc := 354) (ok_dup dX7_init_354) 355 rfl ?_
  refine oc (y := mt_233) (pc := 355) (ok_iconst dX7_init_355 rfl ⟨by decide, by decide⟩) 356 rfl ?_
  refine oc (y := mt_233) (pc := 356) (ok_bipush dX7_init_356 (by decide) ⟨by decide, by decide⟩) 358 rfl ?_
  refine oc (y := mt_233) (pc := 358) (ok_castore dX7_init_358) 359 rfl ?_
  refine oc (y := mt_233) (pc := 359) (ok_putfield dX7_init_359 (fp (own := "GardenChessModel") (idx := 57) (g := 9) (k := 23) (r := (RX7, TX7, 122)) rfl ⟨⟨by decide, by decide⟩, by decide⟩ (Or.inl q1835) (Or.inl rfl) rfl (Or.inr ⟨rfl, rfl, rfl, q1835⟩) (fp_nil))) 362 rfl ?_
  refine oc (y := mt_233) (pc := 362) (ok_aload_n dX7_init_362) 363 rfl ?_
  refine oc (y := mt_233) (pc := 363) (ok_iconst dX7_init_363 rfl ⟨by decide, by decide⟩) 364 rfl ?_
  refine oc (y := mt_233) (pc := 364) (ok_newarray dX7_init_364 (by decide) q758) 366 rfl ?_
  refine oc (y := mt_233) (pc := 366) (ok_dup dX7_init_366) 367 rfl ?_
  refine oc (y := mt_233) (pc := 367) (ok_iconst dX7_init_367 rfl ⟨by decide, by decide⟩) 368 rfl ?_
  refine oc (y := mt_233) (pc := 368) (ok_bipush dX7_init_368 (by decide) ⟨by decide, by decide⟩) 370 rfl ?_
  refine oc (y := mt_233) (pc := 370) (ok_castore dX7_init_370) 371 rfl ?_
  refine oc (y := mt_233) (pc := 371) (ok_dup dX7_init_371) 372 rfl ?_
  refine oc (y := mt_233) (pc := 372) (ok_iconst dX7_init_372 rfl ⟨by decide, by decide⟩) 373 rfl ?_
  refine oc (y := mt_233) (pc := 373) (ok_bipush dX7_init_373 (by decide) ⟨by decide, by decide⟩) 375 rfl ?_
  refine oc (y := mt_233) (pc := 375) (ok_castore dX7_init_375) 376 rfl ?_
  refine oc (y := mt_233) (pc := 376) (ok_dup dX7_init_376) 377 rfl ?_
  refine oc (y := mt_233) (pc := 377) (ok_iconst dX7_init_377 rfl ⟨by decide, by decide⟩) 378 rfl ?_
  refine oc (y := mt_233) (pc := 378) (ok_bipush dX7_init_378 (by decide) ⟨by decide, by decide⟩) 380 rfl ?_
  refine oc (y := mt_233) (pc := 380) (ok_castore dX7_init_380) 381 rfl ?_
  refine oc (y := mt_233) (pc := 381) (ok_dup dX7_init_381) 382 rfl ?_
  refine oc (y := mt_233) (pc := 382) (ok_iconst dX7_init_382 rfl ⟨by decide, by decide⟩) 383 rfl ?_
  refine oc (y := mt_233) (pc := 383) (ok_bipush dX7_init_383 (by decide) ⟨by decide, by decide⟩) 385 rfl ?_
  refine oc (y := mt_233) (pc := 385) (ok_castore dX7_init_385) 386 rfl ?_
  refine oc (y := mt_233) (pc := 386) (ok_dup dX7_init_386) 387 rfl ?_
  refine oc (y := mt_233) (pc := 387) (ok_iconst dX7_init_387 rfl ⟨by decide, by decide⟩) 388 rfl ?_
  refine oc (y := mt_233) (pc := 388) (ok_bipush dX7_init_388 (by decide) ⟨by decide, by decide⟩) 390 rfl ?_
  refine oc (y := mt_233) (pc := 390) (ok_castore dX7_init_390) 391 rfl ?_
  refine oc (y := mt_233) (pc := 391) (ok_putfield dX7_init_391 (fp (own := "GardenChessModel") (idx := 60) (g := 9) (k := 24) (r := (RX7, TX7, 122)) rfl ⟨⟨by decide, by decide⟩, by decide⟩ (Or.inl q1836) (Or.inl rfl) rfl (Or.inr ⟨rfl, rfl, rfl, q1836⟩) (fp_nil))) 394 rfl ?_
  refine oc (y := mt_233) (pc := 394) (ok_aload_n dX7_init_394) 395 rfl ?_
  refine oc (y := mt_233) (pc := 395) (ok_iconst dX7_init_395 rfl ⟨by decide, by decide⟩) 396 rfl ?_
  refine oc (y := mt_233) (pc := 396) (ok_newarray dX7_init_396 (by decide) q758) 398 rfl ?_
  exact oc_fall rfl
theorem o_233_398 : okL gmt mt_233 398 b_233_398 := by
  refine oc (y := mt_233) (pc := 398) (ok_dup dX7_init_398) 399 rfl ?_
  refine oc (y := mt_233) (pc := 399) (ok_iconst dX7_init_399 rfl ⟨by decide, by decide⟩) 400 rfl ?_
  refine oc (y := mt_233) (pc := 400) (ok_bipush dX7_init_400 (by decide) ⟨by decide, by decide⟩) 402 rfl ?_
  refine oc (y := mt_233) (pc := 402) (ok_castore dX7_init_402) 403 rfl ?_
  refine oc (y := mt_233) (pc := 403) (ok_dup dX7_init_403) 404 rfl ?_
  refine oc (y := mt_233) (pc := 404) (ok_iconst dX7_init_404 rfl ⟨by decide, by decide⟩) 405 rfl ?_
  refine oc (y := mt_233) (pc := 405) (ok_bipush dX7_init_405 (by decide) ⟨by decide, by decide⟩) 407 rfl ?_
  refine oc (y := mt_233) (pc := 407) (ok_castore dX7_init_407) 408 rfl ?_
  refine oc (y := mt_233) (pc := 408) (ok_dup dX7_init_408) 409 rfl ?_
  refine oc (y := mt_233) (pc := 409) (ok_iconst dX7_init_409 rfl ⟨by decide, by decide⟩) 410 rfl ?_
  refine oc (y := mt_233) (pc := 410) (ok_bipush dX7_init_410 (by decide) ⟨by decide, by decide⟩) 412 rfl ?_
  refine oc (y := mt_233) (pc := 412) (ok_castore dX7_init_412) 413 rfl ?_
  refine oc (y := mt_233) (pc := 413) (ok_dup dX7_init_413) 414 rfl ?_
  refine oc (y := mt_233) (pc := 414) (ok_iconst dX7_init_414 rfl ⟨by decide, by decide⟩) 415 rfl ?_
  refine oc (y := mt_233) (pc := 415) (ok_bipush dX7_init_415 (by decide) ⟨by decide, by decide⟩) 417 rfl ?_
  refine oc (y := mt_233) (pc := 417) (ok_castore dX7_init_417) 418 rfl ?_
  refine oc (y := mt_233) (pc := 418) (ok_dup dX7_init_418) 419 rfl ?_
  refine oc (y := mt_233) (pc := 419) (ok_iconst dX7_init_419 rfl ⟨by decide, by decide⟩) 420 rfl ?_
  refine oc (y := mt_233) (pc := 420) (ok_bipush dX7_init_420 (by decide) ⟨by decide, by decide⟩) 422 rfl ?_
  refine oc (y := mt_233) (pc := 422) (ok_castore dX7_init_422) 423 rfl ?_
  refine oc (y := mt_233) (pc := 423) (ok_putfield dX7_init_423 (fp (own := "GardenChessModel") (idx := 63) (g := 9) (k := 25) (r := (RX7, TX7, 122)) rfl ⟨⟨by decide, by decide⟩, by decide⟩ (Or.inl q1837) (Or.inl rfl) rfl (Or.inr ⟨rfl, rfl, rfl, q1837⟩) (fp_nil))) 426 rfl ?_
  refine oc (y := mt_233) (pc := 426) (ok_aload_n dX7_init_426) 427 rfl ?_
  refine oc (y := mt_233) (pc := 427) (ok_iconst dX7_init_427 rfl ⟨by decide, by decide⟩) 428 rfl ?_
  refine oc (y := mt_233) (pc := 428) (ok_newarray dX7_init_428 (by decide) q758) 430 rfl ?_
  refine oc (y := mt_233) (pc := 430) (ok_dup dX7_init_430) 431 rfl ?_
  refine oc (y := mt_233) (pc := 431) (ok_iconst dX7_init_431 rfl ⟨by decide, by decide⟩) 432 rfl ?_
  refine oc (y := mt_233) (pc := 432) (ok_bipush dX7_init_432 (by decide) ⟨by decide, by decide⟩) 434 rfl ?_
  refine oc (y := mt_233) (pc := 434) (ok_castore dX7_init_434) 435 rfl ?_
  refine oc (y := mt_233) (pc := 435) (ok_dup dX7_init_435) 436 rfl ?_
  refine oc (y := mt_233) (pc := 436) (ok_iconst dX7_init_436 rfl ⟨by decide, by decide⟩) 437 rfl ?_
  refine oc (y := mt_233) (pc := 437) (ok_bipush dX7_init_437 (by decide) ⟨by decide, by decide⟩) 439 rfl ?_
  refine oc (y := mt_233) (pc := 439) (ok_castore dX7_init_439) 440 rfl ?_
  refine oc (y := mt_233) (pc := 440) (ok_dup dX7_init_440) 441 rfl ?_
  refine oc (y := mt_233) (pc := 441) (ok_iconst dX7_init_441 rfl ⟨by decide, by decide⟩) 442 rfl ?_
  refine oc (y := mt_233) (pc := 442) (ok_bipush dX7_init_442 (by decide) ⟨by decide, by decide⟩) 444 rfl ?_
  refine oc (y := mt_233) (pc := 444) (ok_castore dX7_init_444) 445 rfl ?_
  refine oc (y := mt_233) (pc := 445) (ok_dup dX7_init_445) 446 rfl ?_
  refine oc (y := mt_233) (pc := 446) (ok_iconst dX7_init_446 rfl ⟨by decide, by decide⟩) 447 rfl ?_
  refine oc (y := mt_233) (pc := 447) (ok_bipush dX7_init_447 (by decide) ⟨by decide, by decide⟩) 449 rfl ?_
  refine oc (y := mt_233) (pc := 449) (ok_castore dX7_init_449) 450 rfl ?_
  refine oc (y := mt_233) (pc := 450) (ok_putfield dX7_init_450 (fp (own := "GardenChessModel") (idx := 66) (g := 9) (k := 26) (r := (RX7, TX7, 122)) rfl ⟨⟨by decide, by decide⟩, by decide⟩ (Or.inl q1838) (Or.inl rfl) rfl (Or.inr ⟨rfl, rfl, rfl, q1838⟩) (fp_nil))) 453 rfl ?_
  refine oc (y := mt_233) (pc := 453) (ok_aload_n dX7_init_453) 454 rfl ?_
  refine oc (y := mt_233) (pc := 454) (ok_iconst dX7_init_454 rfl ⟨by decide, by decide⟩) 455 rfl ?_
  refine oc (y := mt_233) (pc := 455) (ok_newarray dX7_init_455 (by decide) q758) 457 rfl ?_
  refine oc (y := mt_233) (pc := 457) (ok_dup dX7_init_457) 458 rfl ?_
  refine oc (y := mt_233) (pc := 458) (ok_iconst dX7_init_458 rfl ⟨by decide, by decide⟩) 459 rfl ?_
  refine oc (y := mt_233) (pc := 459) (ok_bipush dX7_init_459 (by decide) ⟨by decide, by decide⟩) 461 rfl ?_
  refine oc (y := mt_233) (pc := 461) (ok_castore dX7_init_461) 462 rfl ?_
  exact oc_fall rfl
theorem o_233_462 : okL gmt mt_233 462 b_233_462 := by
  refine oc (y := mt_233) (pc := 462) (ok_dup dX7_init_462) 463 rfl ?_
  refine oc (y := mt_233) (pc := 463) (ok_iconst dX7_init_463 rfl ⟨by decide, by decide⟩) 464 rfl ?_
  refine oc (y := mt_233) (pc := 464) (ok_bipush dX7_init_464 (by decide) ⟨by decide, by decide⟩) 466 rfl ?_
  refine oc (y := mt_233) (pc := 466) (ok_castore dX7_init_466) 467 rfl ?_
  refine oc (y := mt_233) (pc := 467) (ok_dup dX7_init_467) 468 rfl ?_
  refine oc (y := mt_233) (pc := 468) (ok_iconst dX7_init_468 rfl ⟨by decide, by decide⟩) 469 rfl ?_
  refine oc (y := mt_233) (pc := 469) (ok_bipush dX7_init_469 (by decide) ⟨by decide, by decide⟩) 471 rfl ?_
  refine oc (y := mt_233) (pc := 471) (ok_castore dX7_init_471) 472 rfl ?_
  refine oc (y := mt_233) (pc := 472) (ok_dup dX7_init_472) 473 rfl ?_
  refine oc (y := mt_233) (pc := 473) (ok_iconst dX7_init_473 rfl ⟨by decide, by decide⟩) 474 rfl ?_
  refine oc (y := mt_233) (pc := 474) (ok_bipush dX7_init_474 (by decide) ⟨by decide, by decide⟩) 476 rfl ?_
  refine oc (y := mt_233) (pc := 476) (ok_castore dX7_init_476) 477 rfl ?_
  refine oc (y := mt_233) (pc := 477) (ok_dup dX7_init_477) 478 rfl ?_
  refine oc (y := mt_233) (pc := 478) (ok_iconst dX7_init_478 rfl ⟨by decide, by decide⟩) 479 rfl ?_
  refine oc (y := mt_233) (pc := 479) (ok_bipush dX7_init_479 (by decide) ⟨by decide, by decide⟩) 481 rfl ?_
  refine oc (y := mt_233) (pc := 481) (ok_castore dX7_init_481) 482 rfl ?_
  refine oc (y := mt_233) (pc := 482) (ok_putfield dX7_init_482 (fp (own := "GardenChessModel") (idx := 69) (g := 9) (k := 27) (r := (RX7, TX7, 122)) rfl ⟨⟨by decide, by decide⟩, by decide⟩ (Or.inl q1839) (Or.inl rfl) rfl (Or.inr ⟨rfl, rfl, rfl, q1839⟩) (fp_nil))) 485 rfl ?_
  refine oc (y := mt_233) (pc := 485) (ok_aload_n dX7_init_485) 486 rfl ?_
  refine oc (y := mt_233) (pc := 486) (ok_bipush dX7_init_486 (by decide) ⟨by decide, by decide⟩) 488 rfl ?_
  refine oc (y := mt_233) (pc := 488) (ok_newarray dX7_init_488 (by decide) q758) 490 rfl ?_
  refine oc (y := mt_233) (pc := 490) (ok_dup dX7_init_490) 491 rfl ?_
  refine oc (y := mt_233) (pc := 491) (ok_iconst dX7_init_491 rfl ⟨by decide, by decide⟩) 492 rfl ?_
  refine oc (y := mt_233) (pc := 492) (ok_bipush dX7_init_492 (by decide) ⟨by decide, by decide⟩) 494 rfl ?_
  refine oc (y := mt_233) (pc := 494) (ok_castore dX7_init_494) 495 rfl ?_
  refine oc (y := mt_233) (pc := 495) (ok_dup dX7_init_495) 496 rfl ?_
  refine oc (y := mt_233) (pc := 496) (ok_iconst dX7_init_496 rfl ⟨by decide, by decide⟩) 497 rfl ?_
  refine oc (y := mt_233) (pc := 497) (ok_bipush dX7_init_497 (by decide) ⟨by decide, by decide⟩) 499 rfl ?_
  refine oc (y := mt_233) (pc := 499) (ok_castore dX7_init_499) 500 rfl ?_
  refine oc (y := mt_233) (pc := 500) (ok_dup dX7_init_500) 501 rfl ?_
  refine oc (y := mt_233) (pc := 501) (ok_iconst dX7_init_501 rfl ⟨by decide, by decide⟩) 502 rfl ?_
  refine oc (y := mt_233) (pc := 502) (ok_bipush dX7_init_502 (by decide) ⟨by decide, by decide⟩) 504 rfl ?_
  refine oc (y := mt_233) (pc := 504) (ok_castore dX7_init_504) 505 rfl ?_
  refine oc (y := mt_233) (pc := 505) (ok_dup dX7_init_505) 506 rfl ?_
  refine oc (y := mt_233) (pc := 506) (ok_iconst dX7_init_506 rfl ⟨by decide, by decide⟩) 507 rfl ?_
  refine oc (y := mt_233) (pc := 507) (ok_bipush dX7_init_507 (by decide) ⟨by decide, by decide⟩) 509 rfl ?_
  refine oc (y := mt_233) (pc := 509) (ok_castore dX7_init_509) 510 rfl ?_
  refine oc (y := mt_233) (pc := 510) (ok_dup dX7_init_510) 511 rfl ?_
  refine oc (y := mt_233) (pc := 511) (ok_iconst dX7_init_511 rfl ⟨by decide, by decide⟩) 512 rfl ?_
  refine oc (y := mt_233) (pc := 512) (ok_bipush dX7_init_512 (by decide) ⟨by decide, by decide⟩) 514 rfl ?_
  refine oc (y := mt_233) (pc := 514) (ok_castore dX7_init_514) 515 rfl ?_
  refine oc (y := mt_233) (pc := 515) (ok_dup dX7_init_515) 516 rfl ?_
  refine oc (y := mt_233) (pc := 516) (ok_iconst dX7_init_516 rfl ⟨by decide, by decide⟩) 517 rfl ?_
  refine oc (y := mt_233) (pc := 517) (ok_bipush dX7_init_517 (by decide) ⟨by decide, by decide⟩) 519 rfl ?_
  refine oc (y := mt_233) (pc := 519) (ok_castore dX7_init_519) 520 rfl ?_
  refine oc (y := mt_233) (pc := 520) (ok_putfield dX7_init_520 (fp (own := "GardenChessModel") (idx := 72) (g := 9) (k := 28) (r := (RX7, TX7, 122)) rfl ⟨⟨by decide, by decide⟩, by decide⟩ (Or.inl q1840) (Or.inl rfl) rfl (Or.inr ⟨rfl, rfl, rfl, q1840⟩) (fp_nil))) 523 rfl ?_
  refine oc (y := mt_233) (pc := 523) (ok_aload_n dX7_init_523) 524 rfl ?_
  refine oc (y := mt_233) (pc := 524) (ok_iconst dX7_init_524 rfl ⟨by decide, by decide⟩) 525 rfl ?_
  refine oc (y := mt_233) (pc := 525) (ok_newarray dX7_init_525 (by decide) q758) 527 rfl ?_
  exact oc_fall rfl
theorem o_233_527 : okL gmt mt_233 527 b_233_527 := by
  refine oc (y := mt_233) (pc := 527) (ok_dup dX7_init_527) 528 rfl ?_
  refine oc (y := mt_233) (pc := 528) (ok_iconst dX7_init_528 rfl ⟨by decide, by decide⟩) 529 rfl ?_
  refine oc (y := mt_233) (pc := 529) (ok_bipush dX7_init_529 (by decide) ⟨by decide, by decide⟩) 531 rfl ?_
  refine oc (y := mt_233) (pc := 531) (ok_castore dX7_init_531) 532 rfl ?_
  refine oc (y := mt_233) (pc := 532) (ok_dup dX7_init_532) 533 rfl ?_
  refine oc (y := mt_233) (pc := 533) (ok_iconst dX7_init_533 rfl ⟨by decide, by decide⟩) 534 rfl ?_
  refine oc (y := mt_233) (pc := 534) (ok_bipush dX7_init_534 (by decide) ⟨by decide, by decide⟩) 536 rfl ?_
  refine oc (y := mt_233) (pc := 536) (ok_castore dX7_init_536) 537 rfl ?_
  refine oc (y := mt_233) (pc := 537) (ok_dup dX7_init_537) 538 rfl ?_
  refine oc (y := mt_233) (pc := 538) (ok_iconst dX7_init_538 rfl ⟨by decide, by decide⟩) 539 rfl ?_
  refine oc (y := mt_233) (pc := 539) (ok_bipush dX7_init_539 (by decide) ⟨by decide, by decide⟩) 541 rfl ?_
  refine oc (y := mt_233) (pc := 541) (ok_castore dX7_init_541) 542 rfl ?_
  refine oc (y := mt_233) (pc := 542) (ok_dup dX7_init_542) 543 rfl ?_
  refine oc (y := mt_233) (pc := 543) (ok_iconst dX7_init_543 rfl ⟨by decide, by decide⟩) 544 rfl ?_
  refine oc (y := mt_233) (pc := 544) (ok_bipush dX7_init_544 (by decide) ⟨by decide, by decide⟩) 546 rfl ?_
  refine oc (y := mt_233) (pc := 546) (ok_castore dX7_init_546) 547 rfl ?_
  refine oc (y := mt_233) (pc := 547) (ok_dup dX7_init_547) 548 rfl ?_
  refine oc (y := mt_233) (pc := 548) (ok_iconst dX7_init_548 rfl ⟨by decide, by decide⟩) 549 rfl ?_
  refine oc (y := mt_233) (pc := 549) (ok_bipush dX7_init_549 (by decide) ⟨by decide, by decide⟩) 551 rfl ?_
  refine oc (y := mt_233) (pc := 551) (ok_castore dX7_init_551) 552 rfl ?_
  refine oc (y := mt_233) (pc := 552) (ok_putfield dX7_init_552 (fp (own := "GardenChessModel") (idx := 75) (g := 9) (k := 29) (r := (RX7, TX7, 122)) rfl ⟨⟨by decide, by decide⟩, by decide⟩ (Or.inl q1841) (Or.inl rfl) rfl (Or.inr ⟨rfl, rfl, rfl, q1841⟩) (fp_nil))) 555 rfl ?_
  refine oc (y := mt_233) (pc := 555) (ok_aload_n dX7_init_555) 556 rfl ?_
  refine oc (y := mt_233) (pc := 556) (ok_iconst dX7_init_556 rfl ⟨by decide, by decide⟩) 557 rfl ?_
  refine oc (y := mt_233) (pc := 557) (ok_newarray dX7_init_557 (by decide) q758) 559 rfl ?_
  refine oc (y := mt_233) (pc := 559) (ok_dup dX7_init_559) 560 rfl ?_
  refine oc (y := mt_233) (pc := 560) (ok_iconst dX7_init_560 rfl ⟨by decide, by decide⟩) 561 rfl ?_
  refine oc (y := mt_233) (pc := 561) (ok_bipush dX7_init_561 (by decide) ⟨by decide, by decide⟩) 563 rfl ?_
  refine oc (y := mt_233) (pc := 563) (ok_castore dX7_init_563) 564 rfl ?_
  refine oc (y := mt_233) (pc := 564) (ok_dup dX7_init_564) 565 rfl ?_
  refine oc (y := mt_233) (pc := 565) (ok_iconst dX7_init_565 rfl ⟨by decide, by decide⟩) 566 rfl ?_
  refine oc (y := mt_233) (pc := 566) (ok_bipush dX7_init_566 (by decide) ⟨by decide, by decide⟩) 568 rfl ?_
  refine oc (y := mt_233) (pc := 568) (ok_castore dX7_init_568) 569 rfl ?_
  refine oc (y := mt_233) (pc := 569) (ok_dup dX7_init_569) 570 rfl ?_
  refine oc (y := mt_233) (pc := 570) (ok_iconst dX7_init_570 rfl ⟨by decide, by decide⟩) 571 rfl ?_
  refine oc (y := mt_233) (pc := 571) (ok_bipush dX7_init_571 (by decide) ⟨by decide, by decide⟩) 573 rfl ?_
  refine oc (y := mt_233) (pc := 573) (ok_castore dX7_init_573) 574 rfl ?_
  refine oc (y := mt_233) (pc := 574) (ok_dup dX7_init_574) 575 rfl ?_
  refine oc (y := mt_233) (pc := 575) (ok_iconst dX7_init_575 rfl ⟨by decide, by decide⟩) 576 rfl ?_
  refine oc (y := mt_233) (pc := 576) (ok_bipush dX7_init_576 (by decide) ⟨by decide, by decide⟩) 578 rfl ?_
  refine oc (y := mt_233) (pc := 578) (ok_castore dX7_init_578) 579 rfl ?_
  refine oc (y := mt_233) (pc := 579) (ok_dup dX7_init_579) 580 rfl ?_
  refine oc (y := mt_233) (pc := 580) (ok_iconst dX7_init_580 rfl ⟨by decide, by decide⟩) 581 rfl ?_
  refine oc (y := mt_233) (pc := 581) (ok_bipush dX7_init_581 (by decide) ⟨by decide, by decide⟩) 583 rfl ?_
  refine oc (y := mt_233) (pc := 583) (ok_castore dX7_init_583) 584 rfl ?_
  refine oc (y := mt_233) (pc := 584) (ok_putfield dX7_init_584 (fp (own := "GardenChessModel") (idx := 78) (g := 9) (k := 30) (r := (RX7, TX7, 122)) rfl ⟨⟨by decide, by decide⟩, by decide⟩ (Or.inl q1842) (Or.inl rfl) rfl (Or.inr ⟨rfl, rfl, rfl, q1842⟩) (fp_nil))) 587 rfl ?_
  refine oc (y := mt_233) (pc := 587) (ok_aload_n dX7_init_587) 588 rfl ?_
  refine oc (y := mt_233) (pc := 588) (ok_iconst dX7_init_588 rfl ⟨by decide, by decide⟩) 589 rfl ?_
  refine oc (y := mt_233) (pc := 589) (ok_newarray dX7_init_589 (by decide) q758) 591 rfl ?_
  exact oc_fall rfl
theorem o_233_591 : okL gmt mt_233 591 b_233_591 := by
  refine oc (y := mt_233) (pc := 591) (ok_dup dX7_init_591) 592 rfl ?_
  refine oc (y := mt_233) (pc := 592) (ok_iconst dX7_init_592 rfl ⟨by decide, by decide⟩) 593 rfl ?_
  refine oc (y := mt_233) (pc := 593) (ok_bipush dX7_init_593 (by decide) ⟨by decide, by decide⟩) 595 rfl ?_
  refine oc (y := mt_233) (pc := 595) (ok_castore dX7_init_595) 596 rfl ?_
  refine oc (y := mt_233) (pc := 596) (ok_dup dX7_init_596) 597 rfl ?_
  refine oc (y := mt_233) (pc := 597) (ok_iconst dX7_init_597 rfl ⟨by decide, by decide⟩) 598 rfl ?_
  refine oc (y := mt_233) (pc := 598) (ok_bipush dX7_init_598 (by decide) ⟨by decide, by decide⟩) 600 rfl ?_
  refine oc (y := mt_233) (pc := 600) (ok_castore dX7_init_600) 601 rfl ?_
  refine oc (y := mt_233) (pc := 601) (ok_dup dX7_init_601) 602 rfl ?_
  refine oc (y := mt_233) (pc := 602) (ok_iconst dX7_init_602 rfl ⟨by decide, by decide⟩) 603 rfl ?_
  refine oc (y := mt_233) (pc := 603) (ok_bipush dX7_init_603 (by decide) ⟨by decide, by decide⟩) 605 rfl ?_
  refine oc (y := mt_233) (pc := 605) (ok_castore dX7_init_605) 606 rfl ?_
  refine oc (y := mt_233) (pc := 606) (ok_putfield dX7_init_606 (fp (own := "GardenChessModel") (idx := 81) (g := 9) (k := 31) (r := (RX7, TX7, 122)) rfl ⟨⟨by decide, by decide⟩, by decide⟩ (Or.inl q1843) (Or.inl rfl) rfl (Or.inr ⟨rfl, rfl, rfl, q1843⟩) (fp_nil))) 609 rfl ?_
  refine oc (y := mt_233) (pc := 609) (ok_aload_n dX7_init_609) 610 rfl ?_
  refine oc (y := mt_233) (pc := 610) (ok_iconst dX7_init_610 rfl ⟨by decide, by decide⟩) 611 rfl ?_
  refine oc (y := mt_233) (pc := 611) (ok_newarray dX7_init_611 (by decide) q758) 613 rfl ?_
  refine oc (y := mt_233) (pc := 613) (ok_dup dX7_init_613) 614 rfl ?_
  refine oc (y := mt_233) (pc := 614) (ok_iconst dX7_init_614 rfl ⟨by decide, by decide⟩) 615 rfl ?_
  refine oc (y := mt_233) (pc := 615) (ok_bipush dX7_init_615 (by decide) ⟨by decide, by decide⟩) 617 rfl ?_
  refine oc (y := mt_233) (pc := 617) (ok_castore dX7_init_617) 618 rfl ?_
  refine oc (y := mt_233) (pc := 618) (ok_dup dX7_init_618) 619 rfl ?_
  refine oc (y := mt_233) (pc := 619) (ok_iconst dX7_init_619 rfl ⟨by decide, by decide⟩) 620 rfl ?_
  refine oc (y := mt_233) (pc := 620) (ok_bipush dX7_init_620 (by decide) ⟨by decide, by decide⟩) 622 rfl ?_
  refine oc (y := mt_233) (pc := 622) (ok_castore dX7_init_622) 623 rfl ?_
  refine oc (y := mt_233) (pc := 623) (ok_dup dX7_init_623) 624 rfl ?_
  refine oc (y := mt_233) (pc := 624) (ok_iconst dX7_init_624 rfl ⟨by decide, by decide⟩) 625 rfl ?_
  refine oc (y := mt_233) (pc := 625) (ok_bipush dX7_init_625 (by decide) ⟨by decide, by decide⟩) 627 rfl ?_
  refine oc (y := mt_233) (pc := 627) (ok_castore dX7_init_627) 628 rfl ?_
  refine oc (y := mt_233) (pc := 628) (ok_putfield dX7_init_628 (fp (own := "GardenChessModel") (idx := 84) (g := 9) (k := 32) (r := (RX7, TX7, 122)) rfl ⟨⟨by decide, by decide⟩, by decide⟩ (Or.inl q1844) (Or.inl rfl) rfl (Or.inr ⟨rfl, rfl, rfl, q1844⟩) (fp_nil))) 631 rfl ?_
  refine oc (y := mt_233) (pc := 631) (ok_aload_n dX7_init_631) 632 rfl ?_
  refine oc (y := mt_233) (pc := 632) (ok_bipush dX7_init_632 (by decide) ⟨by decide, by decide⟩) 634 rfl ?_
  refine oc (y := mt_233) (pc := 634) (ok_newarray dX7_init_634 (by decide) q758) 636 rfl ?_
  refine oc (y := mt_233) (pc := 636) (ok_dup dX7_init_636) 637 rfl ?_
  refine oc (y := mt_233) (pc := 637) (ok_iconst dX7_init_637 rfl ⟨by decide, by decide⟩) 638 rfl ?_
  refine oc (y := mt_233) (pc := 638) (ok_bipush dX7_init_638 (by decide) ⟨by decide, by decide⟩) 640 rfl ?_
  refine oc (y := mt_233) (pc := 640) (ok_castore dX7_init_640) 641 rfl ?_
  refine oc (y := mt_233) (pc := 641) (ok_dup dX7_init_641) 642 rfl ?_
  refine oc (y := mt_233) (pc := 642) (ok_iconst dX7_init_642 rfl ⟨by decide, by decide⟩) 643 rfl ?_
  refine oc (y := mt_233) (pc := 643) (ok_bipush dX7_init_643 (by decide) ⟨by decide, by decide⟩) 645 rfl ?_
  refine oc (y := mt_233) (pc := 645) (ok_castore dX7_init_645) 646 rfl ?_
  refine oc (y := mt_233) (pc := 646) (ok_dup dX7_init_646) 647 rfl ?_
  refine oc (y := mt_233) (pc := 647) (ok_iconst dX7_init_647 rfl ⟨by decide, by decide⟩) 648 rfl ?_
  refine oc (y := mt_233) (pc := 648) (ok_bipush dX7_init_648 (by decide) ⟨by decide, by decide⟩) 650 rfl ?_
  refine oc (y := mt_233) (pc := 650) (ok_castore dX7_init_650) 651 rfl ?_
  refine oc (y := mt_233) (pc := 651) (ok_dup dX7_init_651) 652 rfl ?_
  refine oc (y := mt_233) (pc := 652) (ok_iconst dX7_init_652 rfl ⟨by decide, by decide⟩) 653 rfl ?_
  refine oc (y := mt_233) (pc := 653) (ok_bipush dX7_init_653 (by decide) ⟨by decide, by decide⟩) 655 rfl ?_
  refine oc (y := mt_233) (pc := 655) (ok_castore dX7_init_655) 656 rfl ?_
  exact oc_fall rfl
theorem o_233_656 : okL gmt mt_233 656 b_233_656 := by
  refine oc (y := mt_233) (pc := 656) (ok_dup dX7_init_656) 657 rfl ?_
  refine oc (y := mt_233) (pc := 657) (ok_iconst dX7_init_657 rfl ⟨by decide, by decide⟩) 658 rfl ?_
  refine oc (y := mt_233) (pc := 658) (ok_bipush dX7_init_658 (by decide) ⟨by decide, by decide⟩) 660 rfl ?_
  refine oc (y := mt_233) (pc := 660) (ok_castore dX7_init_660) 661 rfl ?_
  refine oc (y := mt_233) (pc := 661) (ok_dup dX7_init_661) 662 rfl ?_
  refine oc (y := mt_233) (pc := 662) (ok_iconst dX7_init_662 rfl ⟨by decide, by decide⟩) 663 rfl ?_
  refine oc (y := mt_233) (pc := 663) (ok_bipush dX7_init_663 (by decide) ⟨by decide, by decide⟩) 665 rfl ?_
  refine oc (y := mt_233) (pc := 665) (ok_castore dX7_init_665) 666 rfl ?_
  refine oc (y := mt_233) (pc := 666) (ok_putfield dX7_init_666 (fp (own := "GardenChessModel") (idx := 87) (g := 9) (k := 33) (r := (RX7, TX7, 122)) rfl ⟨⟨by decide, by decide⟩, by decide⟩ (Or.inl q1845) (Or.inl rfl) rfl (Or.inr ⟨rfl, rfl, rfl, q1845⟩) (fp_nil))) 669 rfl ?_
  refine oc (y := mt_233) (pc := 669) (ok_aload_n dX7_init_669) 670 rfl ?_
  refine oc (y := mt_233) (pc := 670) (ok_bipush dX7_init_670 (by decide) ⟨by decide, by decide⟩) 672 rfl ?_
  refine oc (y := mt_233) (pc := 672) (ok_newarray dX7_init_672 (by decide) q758) 674 rfl ?_
  refine oc (y := mt_233) (pc := 674) (ok_dup dX7_init_674) 675 rfl ?_
  refine oc (y := mt_233) (pc := 675) (ok_iconst dX7_init_675 rfl ⟨by decide, by decide⟩) 676 rfl ?_
  refine oc (y := mt_233) (pc := 676) (ok_bipush dX7_init_676 (by decide) ⟨by decide, by decide⟩) 678 rfl ?_
  refine oc (y := mt_233) (pc := 678) (ok_castore dX7_init_678) 679 rfl ?_
  refine oc (y := mt_233) (pc := 679) (ok_dup dX7_init_679) 680 rfl ?_
  refine oc (y := mt_233) (pc := 680) (ok_iconst dX7_init_680 rfl ⟨by decide, by decide⟩) 681 rfl ?_
  refine oc (y := mt_233) (pc := 681) (ok_bipush dX7_init_681 (by decide) ⟨by decide, by decide⟩) 683 rfl ?_
  refine oc (y := mt_233) (pc := 683) (ok_castore dX7_init_683) 684 rfl ?_
  refine oc (y := mt_233) (pc := 684) (ok_dup dX7_init_684) 685 rfl ?_
  refine oc (y := mt_233) (pc := 685) (ok_iconst dX7_init_685 rfl ⟨by decide, by decide⟩) 686 rfl ?_
  refine oc (y := mt_233) (pc := 686) (ok_bipush dX7_init_686 (by decide) ⟨by decide, by decide⟩) 688 rfl ?_
  refine oc (y := mt_233) (pc := 688) (ok_castore dX7_init_688) 689 rfl ?_
  refine oc (y := mt_233) (pc := 689) (ok_dup dX7_init_689) 690 rfl ?_
  refine oc (y := mt_233) (pc := 690) (ok_iconst dX7_init_690 rfl ⟨by decide, by decide⟩) 691 rfl ?_
  refine oc (y := mt_233) (pc := 691) (ok_bipush dX7_init_691 (by decide) ⟨by decide, by decide⟩) 693 rfl ?_
  refine oc (y := mt_233) (pc := 693) (ok_castore dX7_init_693) 694 rfl ?_
  refine oc (y := mt_233) (pc := 694) (ok_dup dX7_init_694) 695 rfl ?_
  refine oc (y := mt_233) (pc := 695) (ok_iconst dX7_init_695 rfl ⟨by decide, by decide⟩) 696 rfl ?_
  refine oc (y := mt_233) (pc := 696) (ok_bipush dX7_init_696 (by decide) ⟨by decide, by decide⟩) 698 rfl ?_
  refine oc (y := mt_233) (pc := 698) (ok_castore dX7_init_698) 699 rfl ?_
  refine oc (y := mt_233) (pc := 699) (ok_dup dX7_init_699) 700 rfl ?_
  refine oc (y := mt_233) (pc := 700) (ok_iconst dX7_init_700 rfl ⟨by decide, by decide⟩) 701 rfl ?_
  refine oc (y := mt_233) (pc := 701) (ok_bipush dX7_init_701 (by decide) ⟨by decide, by decide⟩) 703 rfl ?_
  refine oc (y := mt_233) (pc := 703) (ok_castore dX7_init_703) 704 rfl ?_
  refine oc (y := mt_233) (pc := 704) (ok_putfield dX7_init_704 (fp (own := "GardenChessModel") (idx := 90) (g := 9) (k := 34) (r := (RX7, TX7, 122)) rfl ⟨⟨by decide, by decide⟩, by decide⟩ (Or.inl q1846) (Or.inl rfl) rfl (Or.inr ⟨rfl, rfl, rfl, q1846⟩) (fp_nil))) 707 rfl ?_
  refine oc (y := mt_233) (pc := 707) (ok_aload_n dX7_init_707) 708 rfl ?_
  refine oc (y := mt_233) (pc := 708) (ok_iconst dX7_init_708 rfl ⟨by decide, by decide⟩) 709 rfl ?_
  refine oc (y := mt_233) (pc := 709) (ok_newarray dX7_init_709 (by decide) q758) 711 rfl ?_
  refine oc (y := mt_233) (pc := 711) (ok_dup dX7_init_711) 712 rfl ?_
  refine oc (y := mt_233) (pc := 712) (ok_iconst dX7_init_712 rfl ⟨by decide, by decide⟩) 713 rfl ?_
  refine oc (y := mt_233) (pc := 713) (ok_bipush dX7_init_713 (by decide) ⟨by decide, by decide⟩) 715 rfl ?_
  refine oc (y := mt_233) (pc := 715) (ok_castore dX7_init_715) 716 rfl ?_
  refine oc (y := mt_233) (pc := 716) (ok_dup dX7_init_716) 717 rfl ?_
  refine oc (y := mt_233) (pc := 717) (ok_iconst dX7_init_717 rfl ⟨by decide, by decide⟩) 718 rfl ?_
  refine oc (y := mt_233) (pc := 718) (ok_bipush dX7_init_718 (by decide) ⟨by decide, by decide⟩) 720 rfl ?_
  refine oc (y := mt_233) (pc := 720) (ok_castore dX7_init_720) 721 rfl ?_
  exact oc_fall rfl
theorem o_233_721 : okL gmt mt_233 721 b_233_721 := by
  refine oc (y := mt_233) (pc := 721) (ok_dup dX7_init_721) 722 rfl ?_
  refine oc (y := mt_233) (pc := 722) (ok_iconst dX7_init_722 rfl ⟨by decide, by decide⟩) 723 rfl ?_
  refine oc (y := mt_233) (pc := 723) (ok_bipush dX7_init_723 (by decide) ⟨by decide, by decide⟩) 725 rfl ?_
  refine oc (y := mt_233) (pc := 725) (ok_castore dX7_init_725) 726 rfl ?_
  refine oc (y := mt_233) (pc := 726) (ok_putfield dX7_init_726 (fp (own := "GardenChessModel") (idx := 93) (g := 9) (k := 35) (r := (RX7, TX7, 122)) rfl ⟨⟨by decide, by decide⟩, by decide⟩ (Or.inl q1847) (Or.inl rfl) rfl (Or.inr ⟨rfl, rfl, rfl, q1847⟩) (fp_nil))) 729 rfl ?_
  refine oc (y := mt_233) (pc := 729) (ok_aload_n dX7_init_729) 730 rfl ?_
  refine oc (y := mt_233) (pc := 730) (ok_iconst dX7_init_730 rfl ⟨by decide, by decide⟩) 731 rfl ?_
  refine oc (y := mt_233) (pc := 731) (ok_newarray dX7_init_731 (by decide) q758) 733 rfl ?_
  refine oc (y := mt_233) (pc := 733) (ok_dup dX7_init_733) 734 rfl ?_
  refine oc (y := mt_233) (pc := 734) (ok_iconst dX7_init_734 rfl ⟨by decide, by decide⟩) 735 rfl ?_
  refine oc (y := mt_233) (pc := 735) (ok_bipush dX7_init_735 (by decide) ⟨by decide, by decide⟩) 737 rfl ?_
  refine oc (y := mt_233) (pc := 737) (ok_castore dX7_init_737) 738 rfl ?_
  refine oc (y := mt_233) (pc := 738) (ok_dup dX7_init_738) 739 rfl ?_
  refine oc (y := mt_233) (pc := 739) (ok_iconst dX7_init_739 rfl ⟨by decide, by decide⟩) 740 rfl ?_
  refine oc (y := mt_233) (pc := 740) (ok_bipush dX7_init_740 (by decide) ⟨by decide, by decide⟩) 742 rfl ?_
  refine oc (y := mt_233) (pc := 742) (ok_castore dX7_init_742) 743 rfl ?_
  refine oc (y := mt_233) (pc := 743) (ok_dup dX7_init_743) 744 rfl ?_
  refine oc (y := mt_233) (pc := 744) (ok_iconst dX7_init_744 rfl ⟨by decide, by decide⟩) 745 rfl ?_
  refine oc (y := mt_233) (pc := 745) (ok_bipush dX7_init_745 (by decide) ⟨by decide, by decide⟩) 747 rfl ?_
  refine oc (y := mt_233) (pc := 747) (ok_castore dX7_init_747) 748 rfl ?_
  refine oc (y := mt_233) (pc := 748) (ok_dup dX7_init_748) 749 rfl ?_
  refine oc (y := mt_233) (pc := 749) (ok_iconst dX7_init_749 rfl ⟨by decide, by decide⟩) 750 rfl ?_
  refine oc (y := mt_233) (pc := 750) (ok_bipush dX7_init_750 (by decide) ⟨by decide, by decide⟩) 752 rfl ?_
  refine oc (y := mt_233) (pc := 752) (ok_castore dX7_init_752) 753 rfl ?_
  refine oc (y := mt_233) (pc := 753) (ok_putfield dX7_init_753 (fp (own := "GardenChessModel") (idx := 96) (g := 9) (k := 36) (r := (RX7, TX7, 122)) rfl ⟨⟨by decide, by decide⟩, by decide⟩ (Or.inl q1848) (Or.inl rfl) rfl (Or.inr ⟨rfl, rfl, rfl, q1848⟩) (fp_nil))) 756 rfl ?_
  refine oc (y := mt_233) (pc := 756) (ok_aload_n dX7_init_756) 757 rfl ?_
  refine oc (y := mt_233) (pc := 757) (ok_iconst dX7_init_757 rfl ⟨by decide, by decide⟩) 758 rfl ?_
  refine oc (y := mt_233) (pc := 758) (ok_newarray dX7_init_758 (by decide) q758) 760 rfl ?_
  refine oc (y := mt_233) (pc := 760) (ok_dup dX7_init_760) 761 rfl ?_
  refine oc (y := mt_233) (pc := 761) (ok_iconst dX7_init_761 rfl ⟨by decide, by decide⟩) 762 rfl ?_
  refine oc (y := mt_233) (pc := 762) (ok_bipush dX7_init_762 (by decide) ⟨by decide, by decide⟩) 764 rfl ?_
  refine oc (y := mt_233) (pc := 764) (ok_castore dX7_init_764) 765 rfl ?_
  refine oc (y := mt_233) (pc := 765) (ok_dup dX7_init_765) 766 rfl ?_
  refine oc (y := mt_233) (pc := 766) (ok_iconst dX7_init_766 rfl ⟨by decide, by decide⟩) 767 rfl ?_
  refine oc (y := mt_233) (pc := 767) (ok_bipush dX7_init_767 (by decide) ⟨by decide, by decide⟩) 769 rfl ?_
  refine oc (y := mt_233) (pc := 769) (ok_castore dX7_init_769) 770 rfl ?_
  refine oc (y := mt_233) (pc := 770) (ok_dup dX7_init_770) 771 rfl ?_
  refine oc (y := mt_233) (pc := 771) (ok_iconst dX7_init_771 rfl ⟨by decide, by decide⟩) 772 rfl ?_
  refine oc (y := mt_233) (pc := 772) (ok_bipush dX7_init_772 (by decide) ⟨by decide, by decide⟩) 774 rfl ?_
  refine oc (y := mt_233) (pc := 774) (ok_castore dX7_init_774) 775 rfl ?_
  refine oc (y := mt_233) (pc := 775) (ok_dup dX7_init_775) 776 rfl ?_
  refine oc (y := mt_233) (pc := 776) (ok_iconst dX7_init_776 rfl ⟨by decide, by decide⟩) 777 rfl ?_
  refine oc (y := mt_233) (pc := 777) (ok_bipush dX7_init_777 (by decide) ⟨by decide, by decide⟩) 779 rfl ?_
  refine oc (y := mt_233) (pc := 779) (ok_castore dX7_init_779) 780 rfl ?_
  refine oc (y := mt_233) (pc := 780) (ok_dup dX7_init_780) 781 rfl ?_
  refine oc (y := mt_233) (pc := 781) (ok_iconst dX7_init_781 rfl ⟨by decide, by decide⟩) 782 rfl ?_
  refine oc (y := mt_233) (pc := 782) (ok_bipush dX7_init_782 (by decide) ⟨by decide, by decide⟩) 784 rfl ?_
  refine oc (y := mt_233) (pc := 784) (ok_castore dX7_init_784) 785 rfl ?_
  exact oc_fall rfl
theorem o_233_785 : okL gmt mt_233 785 b_233_785 := by
  refine oc (y := mt_233) (pc := 785) (ok_putfield dX7_init_785 (fp (own := "GardenChessModel") (idx := 99) (g := 9) (k := 37) (r := (RX7, TX7, 122)) rfl ⟨⟨by decide, by decide⟩, by decide⟩ (Or.inl q1849) (Or.inl rfl) rfl (Or.inr ⟨rfl, rfl, rfl, q1849⟩) (fp_nil))) 788 rfl ?_
  refine oc (y := mt_233) (pc := 788) (ok_aload_n dX7_init_788) 789 rfl ?_
  refine oc (y := mt_233) (pc := 789) (ok_iconst dX7_init_789 rfl ⟨by decide, by decide⟩) 790 rfl ?_
  refine oc (y := mt_233) (pc := 790) (ok_newarray dX7_init_790 (by decide) q758) 792 rfl ?_
  refine oc (y := mt_233) (pc := 792) (ok_dup dX7_init_792) 793 rfl ?_
  refine oc (y := mt_233) (pc := 793) (ok_iconst dX7_init_793 rfl ⟨by decide, by decide⟩) 794 rfl ?_
  refine oc (y := mt_233) (pc := 794) (ok_bipush dX7_init_794 (by decide) ⟨by decide, by decide⟩) 796 rfl ?_
  refine oc (y := mt_233) (pc := 796) (ok_castore dX7_init_796) 797 rfl ?_
  refine oc (y := mt_233) (pc := 797) (ok_dup dX7_init_797) 798 rfl ?_
  refine oc (y := mt_233) (pc := 798) (ok_iconst dX7_init_798 rfl ⟨by decide, by decide⟩) 799 rfl ?_
  refine oc (y := mt_233) (pc := 799) (ok_bipush dX7_init_799 (by decide) ⟨by decide, by decide⟩) 801 rfl ?_
  refine oc (y := mt_233) (pc := 801) (ok_castore dX7_init_801) 802 rfl ?_
  refine oc (y := mt_233) (pc := 802) (ok_putfield dX7_init_802 (fp (own := "GardenChessModel") (idx := 102) (g := 9) (k := 38) (r := (RX7, TX7, 122)) rfl ⟨⟨by decide, by decide⟩, by decide⟩ (Or.inl q1850) (Or.inl rfl) rfl (Or.inr ⟨rfl, rfl, rfl, q1850⟩) (fp_nil))) 805 rfl ?_
  refine oc (y := mt_233) (pc := 805) (ok_aload_n dX7_init_805) 806 rfl ?_
  refine oc (y := mt_233) (pc := 806) (ok_iconst dX7_init_806 rfl ⟨by decide, by decide⟩) 807 rfl ?_
  refine oc (y := mt_233) (pc := 807) (ok_newarray dX7_init_807 (by decide) q758) 809 rfl ?_
  refine oc (y := mt_233) (pc := 809) (ok_dup dX7_init_809) 810 rfl ?_
  refine oc (y := mt_233) (pc := 810) (ok_iconst dX7_init_810 rfl ⟨by decide, by decide⟩) 811 rfl ?_
  refine oc (y := mt_233) (pc := 811) (ok_bipush dX7_init_811 (by decide) ⟨by decide, by decide⟩) 813 rfl ?_
  refine oc (y := mt_233) (pc := 813) (ok_castore dX7_init_813) 814 rfl ?_
  refine oc (y := mt_233) (pc := 814) (ok_dup dX7_init_814) 815 rfl ?_
  refine oc (y := mt_233) (pc := 815) (ok_iconst dX7_init_815 rfl ⟨by decide, by decide⟩) 816 rfl ?_
  refine oc (y := mt_233) (pc := 816) (ok_bipush dX7_init_816 (by decide) ⟨by decide, by decide⟩) 818 rfl ?_
  refine oc (y := mt_233) (pc := 818) (ok_castore dX7_init_818) 819 rfl ?_
  refine oc (y := mt_233) (pc := 819) (ok_dup dX7_init_819) 820 rfl ?_
  refine oc (y := mt_233) (pc := 820) (ok_iconst dX7_init_820 rfl ⟨by decide, by decide⟩) 821 rfl ?_
  refine oc (y := mt_233) (pc := 821) (ok_bipush dX7_init_821 (by decide) ⟨by decide, by decide⟩) 823 rfl ?_
  refine oc (y := mt_233) (pc := 823) (ok_castore dX7_init_823) 824 rfl ?_
  refine oc (y := mt_233) (pc := 824) (ok_putfield dX7_init_824 (fp (own := "GardenChessModel") (idx := 105) (g := 9) (k := 39) (r := (RX7, TX7, 122)) rfl ⟨⟨by decide, by decide⟩, by decide⟩ (Or.inl q1851) (Or.inl rfl) rfl (Or.inr ⟨rfl, rfl, rfl, q1851⟩) (fp_nil))) 827 rfl ?_
  refine oc (y := mt_233) (pc := 827) (ok_aload_n dX7_init_827) 828 rfl ?_
  refine oc (y := mt_233) (pc := 828) (ok_iconst dX7_init_828 rfl ⟨by decide, by decide⟩) 829 rfl ?_
  refine oc (y := mt_233) (pc := 829) (ok_newarray dX7_init_829 (by decide) q758) 831 rfl ?_
  refine oc (y := mt_233) (pc := 831) (ok_dup dX7_init_831) 832 rfl ?_
  refine oc (y := mt_233) (pc := 832) (ok_iconst dX7_init_832 rfl ⟨by decide, by decide⟩) 833 rfl ?_
  refine oc (y := mt_233) (pc := 833) (ok_bipush dX7_init_833 (by decide) ⟨by decide, by decide⟩) 835 rfl ?_
  refine oc (y := mt_233) (pc := 835) (ok_castore dX7_init_835) 836 rfl ?_
  refine oc (y := mt_233) (pc := 836) (ok_dup dX7_init_836) 837 rfl ?_
  refine oc (y := mt_233) (pc := 837) (ok_iconst dX7_init_837 rfl ⟨by decide, by decide⟩) 838 rfl ?_
  refine oc (y := mt_233) (pc := 838) (ok_bipush dX7_init_838 (by decide) ⟨by decide, by decide⟩) 840 rfl ?_
  refine oc (y := mt_233) (pc := 840) (ok_castore dX7_init_840) 841 rfl ?_
  refine oc (y := mt_233) (pc := 841) (ok_dup dX7_init_841) 842 rfl ?_
  refine oc (y := mt_233) (pc := 842) (ok_iconst dX7_init_842 rfl ⟨by decide, by decide⟩) 843 rfl ?_
  refine oc (y := mt_233) (pc := 843) (ok_bipush dX7_init_843 (by decide) ⟨by decide, by decide⟩) 845 rfl ?_
  refine oc (y := mt_233) (pc := 845) (ok_castore dX7_init_845) 846 rfl ?_
  refine oc (y := mt_233) (pc := 846) (ok_putfield dX7_init_846 (fp (own := "GardenChessModel") (idx := 108) (g := 9) (k := 40) (r := (RX7, TX7, 122)) rfl ⟨⟨by decide, by decide⟩, by decide⟩ (Or.inl q1852) (Or.inl rfl) rfl (Or.inr ⟨rfl, rfl, rfl, q1852⟩) (fp_nil))) 849 rfl ?_
  refine oc (y := mt_233) (pc := 849) (ok_aload_n dX7_init_849) 850 rfl ?_
  refine oc (y := mt_233) (pc := 850) (ok_iconst dX7_init_850 rfl ⟨by decide, by decide⟩) 851 rfl ?_
  refine oc (y := mt_233) (pc := 851) (ok_newarray dX7_init_851 (by decide) q758) 853 rfl ?_
  exact oc_fall rfl
theorem o_233_853 : okL gmt mt_233 853 b_233_853 := by
  refine oc (y := mt_233) (pc := 853) (ok_dup dX7_init_853) 854 rfl ?_
  refine oc (y := mt_233) (pc := 854) (ok_iconst dX7_init_854 rfl ⟨by decide, by decide⟩) 855 rfl ?_
  refine oc (y := mt_233) (pc := 855) (ok_bipush dX7_init_855 (by decide) ⟨by decide, by decide⟩) 857 rfl ?_
  refine oc (y := mt_233) (pc := 857) (ok_castore dX7_init_857) 858 rfl ?_
  refine oc (y := mt_233) (pc := 858) (ok_dup dX7_init_858) 859 rfl ?_
  refine oc (y := mt_233) (pc := 859) (ok_iconst dX7_init_859 rfl ⟨by decide, by decide⟩) 860 rfl ?_
  refine oc (y := mt_233) (pc := 860) (ok_bipush dX7_init_860 (by decide) ⟨by decide, by decide⟩) 862 rfl ?_
  refine oc (y := mt_233) (pc := 862) (ok_castore dX7_init_862) 863 rfl ?_
  refine oc (y := mt_233) (pc := 863) (ok_dup dX7_init_863) 864 rfl ?_
  refine oc (y := mt_233) (pc := 864) (ok_iconst dX7_init_864 rfl ⟨by decide, by decide⟩) 865 rfl ?_
  refine oc (y := mt_233) (pc := 865) (ok_bipush dX7_init_865 (by decide) ⟨by decide, by decide⟩) 867 rfl ?_
  refine oc (y := mt_233) (pc := 867) (ok_castore dX7_init_867) 868 rfl ?_
  refine oc (y := mt_233) (pc := 868) (ok_putfield dX7_init_868 (fp (own := "GardenChessModel") (idx := 111) (g := 9) (k := 41) (r := (RX7, TX7, 122)) rfl ⟨⟨by decide, by decide⟩, by decide⟩ (Or.inl q1853) (Or.inl rfl) rfl (Or.inr ⟨rfl, rfl, rfl, q1853⟩) (fp_nil))) 871 rfl ?_
  refine oc (y := mt_233) (pc := 871) (ok_aload_n dX7_init_871) 872 rfl ?_
  refine oc (y := mt_233) (pc := 872) (ok_iconst dX7_init_872 rfl ⟨by decide, by decide⟩) 873 rfl ?_
  refine oc (y := mt_233) (pc := 873) (ok_newarray dX7_init_873 (by decide) q758) 875 rfl ?_
  refine oc (y := mt_233) (pc := 875) (ok_dup dX7_init_875) 876 rfl ?_
  refine oc (y := mt_233) (pc := 876) (ok_iconst dX7_init_876 rfl ⟨by decide, by decide⟩) 877 rfl ?_
  refine oc (y := mt_233) (pc := 877) (ok_bipush dX7_init_877 (by decide) ⟨by decide, by decide⟩) 879 rfl ?_
  refine oc (y := mt_233) (pc := 879) (ok_castore dX7_init_879) 880 rfl ?_
  refine oc (y := mt_233) (pc := 880) (ok_dup dX7_init_880) 881 rfl ?_
  refine oc (y := mt_233) (pc := 881) (ok_iconst dX7_init_881 rfl ⟨by decide, by decide⟩) 882 rfl ?_
  refine oc (y := mt_233) (pc := 882) (ok_bipush dX7_init_882 (by decide) ⟨by decide, by decide⟩) 884 rfl ?_
  refine oc (y := mt_233) (pc := 884) (ok_castore dX7_init_884) 885 rfl ?_
  refine oc (y := mt_233) (pc := 885) (ok_dup dX7_init_885) 886 rfl ?_
  refine oc (y := mt_233) (pc := 886) (ok_iconst dX7_init_886 rfl ⟨by decide, by decide⟩) 887 rfl ?_
  refine oc (y := mt_233) (pc := 887) (ok_bipush dX7_init_887 (by decide) ⟨by decide, by decide⟩) 889 rfl ?_
  refine oc (y := mt_233) (pc := 889) (ok_castore dX7_init_889) 890 rfl ?_
  refine oc (y := mt_233) (pc := 890) (ok_putfield dX7_init_890 (fp (own := "GardenChessModel") (idx := 114) (g := 9) (k := 42) (r := (RX7, TX7, 122)) rfl ⟨⟨by decide, by decide⟩, by decide⟩ (Or.inl q1854) (Or.inl rfl) rfl (Or.inr ⟨rfl, rfl, rfl, q1854⟩) (fp_nil))) 893 rfl ?_
  refine oc (y := mt_233) (pc := 893) (ok_aload_n dX7_init_893) 894 rfl ?_
  refine oc (y := mt_233) (pc := 894) (ok_iconst dX7_init_894 rfl ⟨by decide, by decide⟩) 895 rfl ?_
  refine oc (y := mt_233) (pc := 895) (ok_newarray dX7_init_895 (by decide) q758) 897 rfl ?_
  refine oc (y := mt_233) (pc := 897) (ok_dup dX7_init_897) 898 rfl ?_
  refine oc (y := mt_233) (pc := 898) (ok_iconst dX7_init_898 rfl ⟨by decide, by decide⟩) 899 rfl ?_
  refine oc (y := mt_233) (pc := 899) (ok_bipush dX7_init_899 (by decide) ⟨by decide, by decide⟩) 901 rfl ?_
  refine oc (y := mt_233) (pc := 901) (ok_castore dX7_init_901) 902 rfl ?_
  refine oc (y := mt_233) (pc := 902) (ok_dup dX7_init_902) 903 rfl ?_
  refine oc (y := mt_233) (pc := 903) (ok_iconst dX7_init_903 rfl ⟨by decide, by decide⟩) 904 rfl ?_
  refine oc (y := mt_233) (pc := 904) (ok_bipush dX7_init_904 (by decide) ⟨by decide, by decide⟩) 906 rfl ?_
  refine oc (y := mt_233) (pc := 906) (ok_castore dX7_init_906) 907 rfl ?_
  refine oc (y := mt_233) (pc := 907) (ok_dup dX7_init_907) 908 rfl ?_
  refine oc (y := mt_233) (pc := 908) (ok_iconst dX7_init_908 rfl ⟨by decide, by decide⟩) 909 rfl ?_
  refine oc (y := mt_233) (pc := 909) (ok_bipush dX7_init_909 (by decide) ⟨by decide, by decide⟩) 911 rfl ?_
  refine oc (y := mt_233) (pc := 911) (ok_castore dX7_init_911) 912 rfl ?_
  refine oc (y := mt_233) (pc := 912) (ok_putfield dX7_init_912 (fp (own := "GardenChessModel") (idx := 117) (g := 9) (k := 43) (r := (RX7, TX7, 122)) rfl ⟨⟨by decide, by decide⟩, by decide⟩ (Or.inl q1855) (Or.inl rfl) rfl (Or.inr ⟨rfl, rfl, rfl, q1855⟩) (fp_nil))) 915 rfl ?_
  refine oc (y := mt_233) (pc := 915) (ok_aload_n dX7_init_915) 916 rfl ?_
  refine oc (y := mt_233) (pc := 916) (ok_bipush dX7_init_916 (by decide) ⟨by decide, by decide⟩) 918 rfl ?_
  refine oc (y := mt_233) (pc := 918) (ok_newarray dX7_init_918 (by decide) q246) 920 rfl ?_
  exact oc_fall rfl
theorem o_233_920 : okL gmt mt_233 920 b_233_920 := by
  refine oc (y := mt_233) (pc := 920) (ok_putfield dX7_init_920 (fp (own := "GardenChessModel") (idx := 120) (g := 9) (k := 45) (r := (RX7, TX7, 122)) rfl ⟨⟨by decide, by decide⟩, by decide⟩ (Or.inl q1857) (Or.inl rfl) rfl (Or.inr ⟨rfl, rfl, rfl, q1857⟩) (fp_nil))) 923 rfl ?_
  refine oc (y := mt_233) (pc := 923) (ok_aload_n dX7_init_923) 924 rfl ?_
  refine oc (y := mt_233) (pc := 924) (ok_bipush dX7_init_924 (by decide) ⟨by decide, by decide⟩) 926 rfl ?_
  refine oc (y := mt_233) (pc := 926) (ok_newarray dX7_init_926 (by decide) q413) 928 rfl ?_
  refine oc (y := mt_233) (pc := 928) (ok_putfield dX7_init_928 (fp (own := "GardenChessModel") (idx := 123) (g := 9) (k := 46) (r := (RX7, TX7, 122)) rfl ⟨⟨by decide, by decide⟩, by decide⟩ (Or.inl q1858) (Or.inl rfl) rfl (Or.inr ⟨rfl, rfl, rfl, q1858⟩) (fp_nil))) 931 rfl ?_
  refine oc (y := mt_233) (pc := 931) (ok_aload_n dX7_init_931) 932 rfl ?_
  refine oc (y := mt_233) (pc := 932) (ok_bipush dX7_init_932 (by decide) ⟨by decide, by decide⟩) 934 rfl ?_
  refine oc (y := mt_233) (pc := 934) (ok_newarray dX7_init_934 (by decide) q246) 936 rfl ?_
  refine oc (y := mt_233) (pc := 936) (ok_putfield dX7_init_936 (fp (own := "GardenChessModel") (idx := 127) (g := 9) (k := 47) (r := (RX7, TX7, 122)) rfl ⟨⟨by decide, by decide⟩, by decide⟩ (Or.inl q1859) (Or.inl rfl) rfl (Or.inr ⟨rfl, rfl, rfl, q1859⟩) (fp_nil))) 939 rfl ?_
  refine oc (y := mt_233) (pc := 939) (ok_aload_n dX7_init_939) 940 rfl ?_
  refine oc (y := mt_233) (pc := 940) (ok_bipush dX7_init_940 (by decide) ⟨by decide, by decide⟩) 942 rfl ?_
  refine oc (y := mt_233) (pc := 942) (ok_newarray dX7_init_942 (by decide) q246) 944 rfl ?_
  refine oc (y := mt_233) (pc := 944) (ok_putfield dX7_init_944 (fp (own := "GardenChessModel") (idx := 130) (g := 9) (k := 48) (r := (RX7, TX7, 122)) rfl ⟨⟨by decide, by decide⟩, by decide⟩ (Or.inl q1860) (Or.inl rfl) rfl (Or.inr ⟨rfl, rfl, rfl, q1860⟩) (fp_nil))) 947 rfl ?_
  refine oc (y := mt_233) (pc := 947) (ok_aload_n dX7_init_947) 948 rfl ?_
  refine oc (y := mt_233) (pc := 948) (ok_bipush dX7_init_948 (by decide) ⟨by decide, by decide⟩) 950 rfl ?_
  refine oc (y := mt_233) (pc := 950) (ok_newarray dX7_init_950 (by decide) q246) 952 rfl ?_
  refine oc (y := mt_233) (pc := 952) (ok_putfield dX7_init_952 (fp (own := "GardenChessModel") (idx := 133) (g := 9) (k := 49) (r := (RX7, TX7, 122)) rfl ⟨⟨by decide, by decide⟩, by decide⟩ (Or.inl q1861) (Or.inl rfl) rfl (Or.inr ⟨rfl, rfl, rfl, q1861⟩) (fp_nil))) 955 rfl ?_
  refine oc (y := mt_233) (pc := 955) (ok_aload_n dX7_init_955) 956 rfl ?_
  refine oc (y := mt_233) (pc := 956) (ok_bipush dX7_init_956 (by decide) ⟨by decide, by decide⟩) 958 rfl ?_
  refine oc (y := mt_233) (pc := 958) (ok_newarray dX7_init_958 (by decide) q246) 960 rfl ?_
  refine oc (y := mt_233) (pc := 960) (ok_putfield dX7_init_960 (fp (own := "GardenChessModel") (idx := 136) (g := 9) (k := 50) (r := (RX7, TX7, 122)) rfl ⟨⟨by decide, by decide⟩, by decide⟩ (Or.inl q1862) (Or.inl rfl) rfl (Or.inr ⟨rfl, rfl, rfl, q1862⟩) (fp_nil))) 963 rfl ?_
  refine oc (y := mt_233) (pc := 963) (ok_aload_n dX7_init_963) 964 rfl ?_
  refine oc (y := mt_233) (pc := 964) (ok_bipush dX7_init_964 (by decide) ⟨by decide, by decide⟩) 966 rfl ?_
  refine oc (y := mt_233) (pc := 966) (ok_newarray dX7_init_966 (by decide) q246) 968 rfl ?_
  refine oc (y := mt_233) (pc := 968) (ok_putfield dX7_init_968 (fp (own := "GardenChessModel") (idx := 139) (g := 9) (k := 51) (r := (RX7, TX7, 122)) rfl ⟨⟨by decide, by decide⟩, by decide⟩ (Or.inl q1863) (Or.inl rfl) rfl (Or.inr ⟨rfl, rfl, rfl, q1863⟩) (fp_nil))) 971 rfl ?_
  refine oc (y := mt_233) (pc := 971) (ok_aload_n dX7_init_971) 972 rfl ?_
  refine oc (y := mt_233) (pc := 972) (ok_iconst dX7_init_972 rfl ⟨by decide, by decide⟩) 973 rfl ?_
  refine oc (y := mt_233) (pc := 973) (ok_newarray dX7_init_973 (by decide) q246) 975 rfl ?_
  refine oc (y := mt_233) (pc := 975) (ok_putfield dX7_init_975 (fp (own := "GardenChessModel") (idx := 142) (g := 9) (k := 52) (r := (RX7, TX7, 122)) rfl ⟨⟨by decide, by decide⟩, by decide⟩ (Or.inl q1864) (Or.inl rfl) rfl (Or.inr ⟨rfl, rfl, rfl, q1864⟩) (fp_nil))) 978 rfl ?_
  refine oc (y := mt_233) (pc := 978) (ok_aload_n dX7_init_978) 979 rfl ?_
  refine oc (y := mt_233) (pc := 979) (ok_iconst dX7_init_979 rfl ⟨by decide, by decide⟩) 980 rfl ?_
  refine oc (y := mt_233) (pc := 980) (ok_newarray dX7_init_980 (by decide) q246) 982 rfl ?_
  refine oc (y := mt_233) (pc := 982) (ok_dup dX7_init_982) 983 rfl ?_
  refine oc (y := mt_233) (pc := 983) (ok_iconst dX7_init_983 rfl ⟨by decide, by decide⟩) 984 rfl ?_
  refine oc (y := mt_233) (pc := 984) (ok_iconst dX7_init_984 rfl ⟨by decide, by decide⟩) 985 rfl ?_
  refine oc (y := mt_233) (pc := 985) (ok_iastore dX7_init_985) 986 rfl ?_
  refine oc (y := mt_233) (pc := 986) (ok_dup dX7_init_986) 987 rfl ?_
  refine oc (y := mt_233) (pc := 987) (ok_iconst dX7_init_987 rfl ⟨by decide, by decide⟩) 988 rfl ?_
  refine oc (y := mt_233) (pc := 988) (ok_iconst dX7_init_988 rfl ⟨by decide, by decide⟩) 989 rfl ?_
  refine oc (y := mt_233) (pc := 989) (ok_iastore dX7_init_989) 990 rfl ?_
  refine oc (y := mt_233) (pc := 990) (ok_putfield dX7_init_990 (fp (own := "GardenChessModel") (idx := 145) (g := 9) (k := 53) (r := (RX7, TX7, 122)) rfl ⟨⟨by decide, by decide⟩, by decide⟩ (Or.inl q1865) (Or.inl rfl) rfl (Or.inr ⟨rfl, rfl, rfl, q1865⟩) (fp_nil))) 993 rfl ?_
  refine oc (y := mt_233) (pc := 993) (ok_aload_n dX7_init_993) 994 rfl ?_
  refine oc (y := mt_233) (pc := 994) (ok_iconst dX7_init_994 rfl ⟨by decide, by decide⟩) 995 rfl ?_
  refine oc (y := mt_233) (pc := 995) (ok_newarray dX7_init_995 (by decide) q246) 997 rfl ?_
  refine oc (y := mt_233) (pc := 997) (ok_putfield dX7_init_997 (fp (own := "GardenChessModel") (idx := 148) (g := 9) (k := 54) (r := (RX7, TX7, 122)) rfl ⟨⟨by decide, by decide⟩, by decide⟩ (Or.inl q1866) (Or.inl rfl) rfl (Or.inr ⟨rfl, rfl, rfl, q1866⟩) (fp_nil))) 1000 rfl ?_
  refine oc (y := mt_233) (pc := 1000) (ok_aload_n dX7_init_1000) 1001 rfl ?_
  refine oc (y := mt_233) (pc := 1001) (ok_sipush dX7_init_1001 (by decide) ⟨by decide, by decide⟩) 1004 rfl ?_
  refine oc (y := mt_233) (pc := 1004) (ok_newarray dX7_init_1004 (by decide) q246) 1006 rfl ?_
  exact oc_fall rfl
theorem o_233_1006 : okL gmt mt_233 1006 b_233_1006 := by
  refine oc (y := mt_233) (pc := 1006) (ok_putfield dX7_init_1006 (fp (own := "GardenChessModel") (idx := 151) (g := 9) (k := 55) (r := (RX7, TX7, 122)) rfl ⟨⟨by decide, by decide⟩, by decide⟩ (Or.inl q1867) (Or.inl rfl) rfl (Or.inr ⟨rfl, rfl, rfl, q1867⟩) (fp_nil))) 1009 rfl ?_
  refine oc (y := mt_233) (pc := 1009) (ok_aload_n dX7_init_1009) 1010 rfl ?_
  refine oc (y := mt_233) (pc := 1010) (ok_sipush dX7_init_1010 (by decide) ⟨by decide, by decide⟩) 1013 rfl ?_
  refine oc (y := mt_233) (pc := 1013) (ok_newarray dX7_init_1013 (by decide) q246) 1015 rfl ?_
  refine oc (y := mt_233) (pc := 1015) (ok_putfield dX7_init_1015 (fp (own := "GardenChessModel") (idx := 154) (g := 9) (k := 62) (r := (RX7, TX7, 122)) rfl ⟨⟨by decide, by decide⟩, by decide⟩ (Or.inl q1874) (Or.inl rfl) rfl (Or.inr ⟨rfl, rfl, rfl, q1874⟩) (fp_nil))) 1018 rfl ?_
  refine oc (y := mt_233) (pc := 1018) (ok_aload_n dX7_init_1018) 1019 rfl ?_
  refine oc (y := mt_233) (pc := 1019) (ok_bipush dX7_init_1019 (by decide) ⟨by decide, by decide⟩) 1021 rfl ?_
  refine oc (y := mt_233) (pc := 1021) (ok_newarray dX7_init_1021 (by decide) q246) 1023 rfl ?_
  refine oc (y := mt_233) (pc := 1023) (ok_putfield dX7_init_1023 (fp (own := "GardenChessModel") (idx := 157) (g := 9) (k := 63) (r := (RX7, TX7, 122)) rfl ⟨⟨by decide, by decide⟩, by decide⟩ (Or.inl q1875) (Or.inl rfl) rfl (Or.inr ⟨rfl, rfl, rfl, q1875⟩) (fp_nil))) 1026 rfl ?_
  refine oc (y := mt_233) (pc := 1026) (ok_aload_n dX7_init_1026) 1027 rfl ?_
  refine oc (y := mt_233) (pc := 1027) (ok_iconst dX7_init_1027 rfl ⟨by decide, by decide⟩) 1028 rfl ?_
  refine oc (y := mt_233) (pc := 1028) (ok_newarray dX7_init_1028 (by decide) q246) 1030 rfl ?_
  refine oc (y := mt_233) (pc := 1030) (ok_putfield dX7_init_1030 (fp (own := "GardenChessModel") (idx := 160) (g := 9) (k := 64) (r := (RX7, TX7, 122)) rfl ⟨⟨by decide, by decide⟩, by decide⟩ (Or.inl q1876) (Or.inl rfl) rfl (Or.inr ⟨rfl, rfl, rfl, q1876⟩) (fp_nil))) 1033 rfl ?_
  refine oc (y := mt_233) (pc := 1033) (ok_aload_n dX7_init_1033) 1034 rfl ?_
  refine oc (y := mt_233) (pc := 1034) (ok_iconst dX7_init_1034 rfl ⟨by decide, by decide⟩) 1035 rfl ?_
  refine oc (y := mt_233) (pc := 1035) (ok_newarray dX7_init_1035 (by decide) q246) 1037 rfl ?_
  refine oc (y := mt_233) (pc := 1037) (ok_putfield dX7_init_1037 (fp (own := "GardenChessModel") (idx := 163) (g := 9) (k := 65) (r := (RX7, TX7, 122)) rfl ⟨⟨by decide, by decide⟩, by decide⟩ (Or.inl q1877) (Or.inl rfl) rfl (Or.inr ⟨rfl, rfl, rfl, q1877⟩) (fp_nil))) 1040 rfl ?_
  refine oc (y := mt_233) (pc := 1040) (ok_aload_n dX7_init_1040) 1041 rfl ?_
  refine oc (y := mt_233) (pc := 1041) (ok_iconst dX7_init_1041 rfl ⟨by decide, by decide⟩) 1042 rfl ?_
  refine oc (y := mt_233) (pc := 1042) (ok_newarray dX7_init_1042 (by decide) q246) 1044 rfl ?_
  refine oc (y := mt_233) (pc := 1044) (ok_putfield dX7_init_1044 (fp (own := "GardenChessModel") (idx := 166) (g := 9) (k := 66) (r := (RX7, TX7, 122)) rfl ⟨⟨by decide, by decide⟩, by decide⟩ (Or.inl q1878) (Or.inl rfl) rfl (Or.inr ⟨rfl, rfl, rfl, q1878⟩) (fp_nil))) 1047 rfl ?_
  refine oc (y := mt_233) (pc := 1047) (ok_aload_n dX7_init_1047) 1048 rfl ?_
  refine oc (y := mt_233) (pc := 1048) (ok_iconst dX7_init_1048 rfl ⟨by decide, by decide⟩) 1049 rfl ?_
  refine oc (y := mt_233) (pc := 1049) (ok_newarray dX7_init_1049 (by decide) q246) 1051 rfl ?_
  refine oc (y := mt_233) (pc := 1051) (ok_putfield dX7_init_1051 (fp (own := "GardenChessModel") (idx := 169) (g := 9) (k := 67) (r := (RX7, TX7, 122)) rfl ⟨⟨by decide, by decide⟩, by decide⟩ (Or.inl q1879) (Or.inl rfl) rfl (Or.inr ⟨rfl, rfl, rfl, q1879⟩) (fp_nil))) 1054 rfl ?_
  refine oc (y := mt_233) (pc := 1054) (ok_aload_n dX7_init_1054) 1055 rfl ?_
  refine oc (y := mt_233) (pc := 1055) (ok_bipush dX7_init_1055 (by decide) ⟨by decide, by decide⟩) 1057 rfl ?_
  refine oc (y := mt_233) (pc := 1057) (ok_newarray dX7_init_1057 (by decide) q246) 1059 rfl ?_
  refine oc (y := mt_233) (pc := 1059) (ok_putfield dX7_init_1059 (fp (own := "GardenChessModel") (idx := 172) (g := 9) (k := 74) (r := (RX7, TX7, 122)) rfl ⟨⟨by decide, by decide⟩, by decide⟩ (Or.inl q1886) (Or.inl rfl) rfl (Or.inr ⟨rfl, rfl, rfl, q1886⟩) (fp_nil))) 1062 rfl ?_
  refine oc (y := mt_233) (pc := 1062) (ok_aload_n dX7_init_1062) 1063 rfl ?_
  refine oc (y := mt_233) (pc := 1063) (ok_bipush dX7_init_1063 (by decide) ⟨by decide, by decide⟩) 1065 rfl ?_
  refine oc (y := mt_233) (pc := 1065) (ok_newarray dX7_init_1065 (by decide) q413) 1067 rfl ?_
  refine oc (y := mt_233) (pc := 1067) (ok_putfield dX7_init_1067 (fp (own := "GardenChessModel") (idx := 175) (g := 9) (k := 76) (r := (RX7, TX7, 122)) rfl ⟨⟨by decide, by decide⟩, by decide⟩ (Or.inl q1888) (Or.inl rfl) rfl (Or.inr ⟨rfl, rfl, rfl, q1888⟩) (fp_nil))) 1070 rfl ?_
  refine oc (y := mt_233) (pc := 1070) (ok_aload_n dX7_init_1070) 1071 rfl ?_
  refine oc (y := mt_233) (pc := 1071) (ok_iconst dX7_init_1071 rfl ⟨by decide, by decide⟩) 1072 rfl ?_
  refine oc (y := mt_233) (pc := 1072) (ok_putfield dX7_init_1072 (fp (own := "GardenChessModel") (idx := 178) (g := 9) (k := 78) (r := (RX7, TX7, 122)) rfl ⟨⟨by decide, by decide⟩, by decide⟩ (Or.inl q1890) (Or.inl rfl) rfl (Or.inl rfl) (fp_nil))) 1075 rfl ?_
  refine oc (y := mt_233) (pc := 1075) (ok_aload_n dX7_init_1075) 1076 rfl ?_
  refine oc (y := mt_233) (pc := 1076) (ok_bipush dX7_init_1076 (by decide) ⟨by decide, by decide⟩) 1078 rfl ?_
  refine oc (y := mt_233) (pc := 1078) (ok_newarray dX7_init_1078 (by decide) q246) 1080 rfl ?_
  refine oc (y := mt_233) (pc := 1080) (ok_putfield dX7_init_1080 (fp (own := "GardenChessModel") (idx := 181) (g := 9) (k := 81) (r := (RX7, TX7, 122)) rfl ⟨⟨by decide, by decide⟩, by decide⟩ (Or.inl q1893) (Or.inl rfl) rfl (Or.inr ⟨rfl, rfl, rfl, q1893⟩) (fp_nil))) 1083 rfl ?_
  refine oc (y := mt_233) (pc := 1083) (ok_aload_n dX7_init_1083) 1084 rfl ?_
  refine oc (y := mt_233) (pc := 1084) (ok_bipush dX7_init_1084 (by decide) ⟨by decide, by decide⟩) 1086 rfl ?_
  refine oc (y := mt_233) (pc := 1086) (ok_newarray dX7_init_1086 (by decide) q246) 1088 rfl ?_
  refine oc (y := mt_233) (pc := 1088) (ok_putfield dX7_init_1088 (fp (own := "GardenChessModel") (idx := 184) (g := 9) (k := 82) (r := (RX7, TX7, 122)) rfl ⟨⟨by decide, by decide⟩, by decide⟩ (Or.inl q1894) (Or.inl rfl) rfl (Or.inr ⟨rfl, rfl, rfl, q1894⟩) (fp_nil))) 1091 rfl ?_
  refine oc (y := mt_233) (pc := 1091) (ok_aload_n dX7_init_1091) 1092 rfl ?_
  refine oc (y := mt_233) (pc := 1092) (ok_sipush dX7_init_1092 (by decide) ⟨by decide, by decide⟩) 1095 rfl ?_
  refine oc (y := mt_233) (pc := 1095) (ok_newarray dX7_init_1095 (by decide) q246) 1097 rfl ?_
  refine oc (y := mt_233) (pc := 1097) (ok_putfield dX7_init_1097 (fp (own := "GardenChessModel") (idx := 187) (g := 9) (k := 83) (r := (RX7, TX7, 122)) rfl ⟨⟨by decide, by decide⟩, by decide⟩ (Or.inl q1895) (Or.inl rfl) rfl (Or.inr ⟨rfl, rfl, rfl, q1895⟩) (fp_nil))) 1100 rfl ?_
  exact oc_fall rfl
theorem o_233_1100 : okL gmt mt_233 1100 b_233_1100 := by
  refine oc (y := mt_233) (pc := 1100) (ok_aload_n dX7_init_1100) 1101 rfl ?_
  refine oc (y := mt_233) (pc := 1101) (ok_lconst dX7_init_1101 (by decide) ⟨by decide, by decide⟩) 1102 rfl ?_
  refine oc (y := mt_233) (pc := 1102) (ok_putfield dX7_init_1102 (fp (own := "GardenChessModel") (idx := 190) (g := 9) (k := 86) (r := (RX7, TX7, 122)) rfl ⟨⟨by decide, by decide⟩, by decide⟩ (Or.inl q1898) (Or.inl rfl) rfl (Or.inl rfl) (fp_nil))) 1105 rfl ?_
  refine oc (y := mt_233) (pc := 1105) (ok_aload_n dX7_init_1105) 1106 rfl ?_
  refine oc (y := mt_233) (pc := 1106) (ok_iconst dX7_init_1106 rfl ⟨by decide, by decide⟩) 1107 rfl ?_
  refine oc (y := mt_233) (pc := 1107) (ok_newarray dX7_init_1107 (by decide) q758) 1109 rfl ?_
  refine oc (y := mt_233) (pc := 1109) (ok_dup dX7_init_1109) 1110 rfl ?_
  refine oc (y := mt_233) (pc := 1110) (ok_iconst dX7_init_1110 rfl ⟨by decide, by decide⟩) 1111 rfl ?_
  refine oc (y := mt_233) (pc := 1111) (ok_bipush dX7_init_1111 (by decide) ⟨by decide, by decide⟩) 1113 rfl ?_
  refine oc (y := mt_233) (pc := 1113) (ok_castore dX7_init_1113) 1114 rfl ?_
  refine oc (y := mt_233) (pc := 1114) (ok_dup dX7_init_1114) 1115 rfl ?_
  refine oc (y := mt_233) (pc := 1115) (ok_iconst dX7_init_1115 rfl ⟨by decide, by decide⟩) 1116 rfl ?_
  refine oc (y := mt_233) (pc := 1116) (ok_bipush dX7_init_1116 (by decide) ⟨by decide, by decide⟩) 1118 rfl ?_
  refine oc (y := mt_233) (pc := 1118) (ok_castore dX7_init_1118) 1119 rfl ?_
  refine oc (y := mt_233) (pc := 1119) (ok_dup dX7_init_1119) 1120 rfl ?_
  refine oc (y := mt_233) (pc := 1120) (ok_iconst dX7_init_1120 rfl ⟨by decide, by decide⟩) 1121 rfl ?_
  refine oc (y := mt_233) (pc := 1121) (ok_bipush dX7_init_1121 (by decide) ⟨by decide, by decide⟩) 1123 rfl ?_
  refine oc (y := mt_233) (pc := 1123) (ok_castore dX7_init_1123) 1124 rfl ?_
  refine oc (y := mt_233) (pc := 1124) (ok_dup dX7_init_1124) 1125 rfl ?_
  refine oc (y := mt_233) (pc := 1125) (ok_iconst dX7_init_1125 rfl ⟨by decide, by decide⟩) 1126 rfl ?_
  refine oc (y := mt_233) (pc := 1126) (ok_bipush dX7_init_1126 (by decide) ⟨by decide, by decide⟩) 1128 rfl ?_
  refine oc (y := mt_233) (pc := 1128) (ok_castore dX7_init_1128) 1129 rfl ?_
  refine oc (y := mt_233) (pc := 1129) (ok_dup dX7_init_1129) 1130 rfl ?_
  refine oc (y := mt_233) (pc := 1130) (ok_iconst dX7_init_1130 rfl ⟨by decide, by decide⟩) 1131 rfl ?_
  refine oc (y := mt_233) (pc := 1131) (ok_bipush dX7_init_1131 (by decide) ⟨by decide, by decide⟩) 1133 rfl ?_
  refine oc (y := mt_233) (pc := 1133) (ok_castore dX7_init_1133) 1134 rfl ?_
  refine oc (y := mt_233) (pc := 1134) (ok_putfield dX7_init_1134 (fp (own := "GardenChessModel") (idx := 194) (g := 9) (k := 87) (r := (RX7, TX7, 122)) rfl ⟨⟨by decide, by decide⟩, by decide⟩ (Or.inl q1899) (Or.inl rfl) rfl (Or.inr ⟨rfl, rfl, rfl, q1899⟩) (fp_nil))) 1137 rfl ?_
  refine oc (y := mt_233) (pc := 1137) (ok_aload_n dX7_init_1137) 1138 rfl ?_
  refine oc (y := mt_233) (pc := 1138) (ok_iconst dX7_init_1138 rfl ⟨by decide, by decide⟩) 1139 rfl ?_
  refine oc (y := mt_233) (pc := 1139) (ok_newarray dX7_init_1139 (by decide) q758) 1141 rfl ?_
  refine oc (y := mt_233) (pc := 1141) (ok_dup dX7_init_1141) 1142 rfl ?_
  refine oc (y := mt_233) (pc := 1142) (ok_iconst dX7_init_1142 rfl ⟨by decide, by decide⟩) 1143 rfl ?_
  refine oc (y := mt_233) (pc := 1143) (ok_bipush dX7_init_1143 (by decide) ⟨by decide, by decide⟩) 1145 rfl ?_
  refine oc (y := mt_233) (pc := 1145) (ok_castore dX7_init_1145) 1146 rfl ?_
  refine oc (y := mt_233) (pc := 1146) (ok_dup dX7_init_1146) 1147 rfl ?_
  refine oc (y := mt_233) (pc := 1147) (ok_iconst dX7_init_1147 rfl ⟨by decide, by decide⟩) 1148 rfl ?_
  refine oc (y := mt_233) (pc := 1148) (ok_bipush dX7_init_1148 (by decide) ⟨by decide, by decide⟩) 1150 rfl ?_
  refine oc (y := mt_233) (pc := 1150) (ok_castore dX7_init_1150) 1151 rfl ?_
  refine oc (y := mt_233) (pc := 1151) (ok_dup dX7_init_1151) 1152 rfl ?_
  refine oc (y := mt_233) (pc := 1152) (ok_iconst dX7_init_1152 rfl ⟨by decide, by decide⟩) 1153 rfl ?_
  refine oc (y := mt_233) (pc := 1153) (ok_bipush dX7_init_1153 (by decide) ⟨by decide, by decide⟩) 1155 rfl ?_
  refine oc (y := mt_233) (pc := 1155) (ok_castore dX7_init_1155) 1156 rfl ?_
  refine oc (y := mt_233) (pc := 1156) (ok_dup dX7_init_1156) 1157 rfl ?_
  refine oc (y := mt_233) (pc := 1157) (ok_iconst dX7_init_1157 rfl ⟨by decide, by decide⟩) 1158 rfl ?_
  refine oc (y := mt_233) (pc := 1158) (ok_bipush dX7_init_1158 (by decide) ⟨by decide, by decide⟩) 1160 rfl ?_
  refine oc (y := mt_233) (pc := 1160) (ok_castore dX7_init_1160) 1161 rfl ?_
  refine oc (y := mt_233) (pc := 1161) (ok_putfield dX7_init_1161 (fp (own := "GardenChessModel") (idx := 197) (g := 9) (k := 88) (r := (RX7, TX7, 122)) rfl ⟨⟨by decide, by decide⟩, by decide⟩ (Or.inl q1900) (Or.inl rfl) rfl (Or.inr ⟨rfl, rfl, rfl, q1900⟩) (fp_nil))) 1164 rfl ?_
  refine oc (y := mt_233) (pc := 1164) (ok_aload_n dX7_init_1164) 1165 rfl ?_
  exact oc_fall rfl
theorem o_233_1165 : okL gmt mt_233 1165 b_233_1165 := by
  refine oc (y := mt_233) (pc := 1165) (ok_iconst dX7_init_1165 rfl ⟨by decide, by decide⟩) 1166 rfl ?_
  refine oc (y := mt_233) (pc := 1166) (ok_newarray dX7_init_1166 (by decide) q758) 1168 rfl ?_
  refine oc (y := mt_233) (pc := 1168) (ok_dup dX7_init_1168) 1169 rfl ?_
  refine oc (y := mt_233) (pc := 1169) (ok_iconst dX7_init_1169 rfl ⟨by decide, by decide⟩) 1170 rfl ?_
  refine oc (y := mt_233) (pc := 1170) (ok_bipush dX7_init_1170 (by decide) ⟨by decide, by decide⟩) 1172 rfl ?_
  refine oc (y := mt_233) (pc := 1172) (ok_castore dX7_init_1172) 1173 rfl ?_
  refine oc (y := mt_233) (pc := 1173) (ok_dup dX7_init_1173) 1174 rfl ?_
  refine oc (y := mt_233) (pc := 1174) (ok_iconst dX7_init_1174 rfl ⟨by decide, by decide⟩) 1175 rfl ?_
  refine oc (y := mt_233) (pc := 1175) (ok_bipush dX7_init_1175 (by decide) ⟨by decide, by decide⟩) 1177 rfl ?_
  refine oc (y := mt_233) (pc := 1177) (ok_castore dX7_init_1177) 1178 rfl ?_
  refine oc (y := mt_233) (pc := 1178) (ok_dup dX7_init_1178) 1179 rfl ?_
  refine oc (y := mt_233) (pc := 1179) (ok_iconst dX7_init_1179 rfl ⟨by decide, by decide⟩) 1180 rfl ?_
  refine oc (y := mt_233) (pc := 1180) (ok_bipush dX7_init_1180 (by decide) ⟨by decide, by decide⟩) 1182 rfl ?_
  refine oc (y := mt_233) (pc := 1182) (ok_castore dX7_init_1182) 1183 rfl ?_
  refine oc (y := mt_233) (pc := 1183) (ok_dup dX7_init_1183) 1184 rfl ?_
  refine oc (y := mt_233) (pc := 1184) (ok_iconst dX7_init_1184 rfl ⟨by decide, by decide⟩) 1185 rfl ?_
  refine oc (y := mt_233) (pc := 1185) (ok_bipush dX7_init_1185 (by decide) ⟨by decide, by decide⟩) 1187 rfl ?_
  refine oc (y := mt_233) (pc := 1187) (ok_castore dX7_init_1187) 1188 rfl ?_
  refine oc (y := mt_233) (pc := 1188) (ok_dup dX7_init_1188) 1189 rfl ?_
  refine oc (y := mt_233) (pc := 1189) (ok_iconst dX7_init_1189 rfl ⟨by decide, by decide⟩) 1190 rfl ?_
  refine oc (y := mt_233) (pc := 1190) (ok_bipush dX7_init_1190 (by decide) ⟨by decide, by decide⟩) 1192 rfl ?_
  refine oc (y := mt_233) (pc := 1192) (ok_castore dX7_init_1192) 1193 rfl ?_
  refine oc (y := mt_233) (pc := 1193) (ok_putfield dX7_init_1193 (fp (own := "GardenChessModel") (idx := 200) (g := 9) (k := 89) (r := (RX7, TX7, 122)) rfl ⟨⟨by decide, by decide⟩, by decide⟩ (Or.inl q1901) (Or.inl rfl) rfl (Or.inr ⟨rfl, rfl, rfl, q1901⟩) (fp_nil))) 1196 rfl ?_
  refine oc (y := mt_233) (pc := 1196) (ok_aload_n dX7_init_1196) 1197 rfl ?_
  refine oc (y := mt_233) (pc := 1197) (ok_iconst dX7_init_1197 rfl ⟨by decide, by decide⟩) 1198 rfl ?_
  refine oc (y := mt_233) (pc := 1198) (ok_newarray dX7_init_1198 (by decide) q758) 1200 rfl ?_
  refine oc (y := mt_233) (pc := 1200) (ok_dup dX7_init_1200) 1201 rfl ?_
  refine oc (y := mt_233) (pc := 1201) (ok_iconst dX7_init_1201 rfl ⟨by decide, by decide⟩) 1202 rfl ?_
  refine oc (y := mt_233) (pc := 1202) (ok_bipush dX7_init_1202 (by decide) ⟨by decide, by decide⟩) 1204 rfl ?_
  refine oc (y := mt_233) (pc := 1204) (ok_castore dX7_init_1204) 1205 rfl ?_
  refine oc (y := mt_233) (pc := 1205) (ok_dup dX7_init_1205) 1206 rfl ?_
  refine oc (y := mt_233) (pc := 1206) (ok_iconst dX7_init_1206 rfl ⟨by decide, by decide⟩) 1207 rfl ?_
  refine oc (y := mt_233) (pc := 1207) (ok_bipush dX7_init_1207 (by decide) ⟨by decide, by decide⟩) 1209 rfl ?_
  refine oc (y := mt_233) (pc := 1209) (ok_castore dX7_init_1209) 1210 rfl ?_
  refine oc (y := mt_233) (pc := 1210) (ok_dup dX7_init_1210) 1211 rfl ?_
  refine oc (y := mt_233) (pc := 1211) (ok_iconst dX7_init_1211 rfl ⟨by decide, by decide⟩) 1212 rfl ?_
  refine oc (y := mt_233) (pc := 1212) (ok_bipush dX7_init_1212 (by decide) ⟨by decide, by decide⟩) 1214 rfl ?_
  refine oc (y := mt_233) (pc := 1214) (ok_castore dX7_init_1214) 1215 rfl ?_
  refine oc (y := mt_233) (pc := 1215) (ok_dup dX7_init_1215) 1216 rfl ?_
  refine oc (y := mt_233) (pc := 1216) (ok_iconst dX7_init_1216 rfl ⟨by decide, by decide⟩) 1217 rfl ?_
  refine oc (y := mt_233) (pc := 1217) (ok_bipush dX7_init_1217 (by decide) ⟨by decide, by decide⟩) 1219 rfl ?_
  refine oc (y := mt_233) (pc := 1219) (ok_castore dX7_init_1219) 1220 rfl ?_
  refine oc (y := mt_233) (pc := 1220) (ok_dup dX7_init_1220) 1221 rfl ?_
  refine oc (y := mt_233) (pc := 1221) (ok_iconst dX7_init_1221 rfl ⟨by decide, by decide⟩) 1222 rfl ?_
  refine oc (y := mt_233) (pc := 1222) (ok_bipush dX7_init_1222 (by decide) ⟨by decide, by decide⟩) 1224 rfl ?_
  refine oc (y := mt_233) (pc := 1224) (ok_castore dX7_init_1224) 1225 rfl ?_
  refine oc (y := mt_233) (pc := 1225) (ok_putfield dX7_init_1225 (fp (own := "GardenChessModel") (idx := 203) (g := 9) (k := 90) (r := (RX7, TX7, 122)) rfl ⟨⟨by decide, by decide⟩, by decide⟩ (Or.inl q1902) (Or.inl rfl) rfl (Or.inr ⟨rfl, rfl, rfl, q1902⟩) (fp_nil))) 1228 rfl ?_
  refine oc (y := mt_233) (pc := 1228) (ok_aload_n dX7_init_1228) 1229 rfl ?_
  exact oc_fall rfl
theorem o_233_1229 : okL gmt mt_233 1229 b_233_1229 := by
  refine oc (y := mt_233) (pc := 1229) (ok_iconst dX7_init_1229 rfl ⟨by decide, by decide⟩) 1230 rfl ?_
  refine oc (y := mt_233) (pc := 1230) (ok_newarray dX7_init_1230 (by decide) q758) 1232 rfl ?_
  refine oc (y := mt_233) (pc := 1232) (ok_dup dX7_init_1232) 1233 rfl ?_
  refine oc (y := mt_233) (pc := 1233) (ok_iconst dX7_init_1233 rfl ⟨by decide, by decide⟩) 1234 rfl ?_
  refine oc (y := mt_233) (pc := 1234) (ok_bipush dX7_init_1234 (by decide) ⟨by decide, by decide⟩) 1236 rfl ?_
  refine oc (y := mt_233) (pc := 1236) (ok_castore dX7_init_1236) 1237 rfl ?_
  refine oc (y := mt_233) (pc := 1237) (ok_dup dX7_init_1237) 1238 rfl ?_
  refine oc (y := mt_233) (pc := 1238) (ok_iconst dX7_init_1238 rfl ⟨by decide, by decide⟩) 1239 rfl ?_
  refine oc (y := mt_233) (pc := 1239) (ok_bipush dX7_init_1239 (by decide) ⟨by decide, by decide⟩) 1241 rfl ?_
  refine oc (y := mt_233) (pc := 1241) (ok_castore dX7_init_1241) 1242 rfl ?_
  refine oc (y := mt_233) (pc := 1242) (ok_dup dX7_init_1242) 1243 rfl ?_
  refine oc (y := mt_233) (pc := 1243) (ok_iconst dX7_init_1243 rfl ⟨by decide, by decide⟩) 1244 rfl ?_
  refine oc (y := mt_233) (pc := 1244) (ok_bipush dX7_init_1244 (by decide) ⟨by decide, by decide⟩) 1246 rfl ?_
  refine oc (y := mt_233) (pc := 1246) (ok_castore dX7_init_1246) 1247 rfl ?_
  refine oc (y := mt_233) (pc := 1247) (ok_dup dX7_init_1247) 1248 rfl ?_
  refine oc (y := mt_233) (pc := 1248) (ok_iconst dX7_init_1248 rfl ⟨by decide, by decide⟩) 1249 rfl ?_
  refine oc (y := mt_233) (pc := 1249) (ok_bipush dX7_init_1249 (by decide) ⟨by decide, by decide⟩) 1251 rfl ?_
  refine oc (y := mt_233) (pc := 1251) (ok_castore dX7_init_1251) 1252 rfl ?_
  refine oc (y := mt_233) (pc := 1252) (ok_putfield dX7_init_1252 (fp (own := "GardenChessModel") (idx := 206) (g := 9) (k := 91) (r := (RX7, TX7, 122)) rfl ⟨⟨by decide, by decide⟩, by decide⟩ (Or.inl q1903) (Or.inl rfl) rfl (Or.inr ⟨rfl, rfl, rfl, q1903⟩) (fp_nil))) 1255 rfl ?_
  refine oc (y := mt_233) (pc := 1255) (ok_aload_n dX7_init_1255) 1256 rfl ?_
  refine oc (y := mt_233) (pc := 1256) (ok_iconst dX7_init_1256 rfl ⟨by decide, by decide⟩) 1257 rfl ?_
  refine oc (y := mt_233) (pc := 1257) (ok_newarray dX7_init_1257 (by decide) q758) 1259 rfl ?_
  refine oc (y := mt_233) (pc := 1259) (ok_dup dX7_init_1259) 1260 rfl ?_
  refine oc (y := mt_233) (pc := 1260) (ok_iconst dX7_init_1260 rfl ⟨by decide, by decide⟩) 1261 rfl ?_
  refine oc (y := mt_233) (pc := 1261) (ok_bipush dX7_init_1261 (by decide) ⟨by decide, by decide⟩) 1263 rfl ?_
  refine oc (y := mt_233) (pc := 1263) (ok_castore dX7_init_1263) 1264 rfl ?_
  refine oc (y := mt_233) (pc := 1264) (ok_dup dX7_init_1264) 1265 rfl ?_
  refine oc (y := mt_233) (pc := 1265) (ok_iconst dX7_init_1265 rfl ⟨by decide, by decide⟩) 1266 rfl ?_
  refine oc (y := mt_233) (pc := 1266) (ok_bipush dX7_init_1266 (by decide) ⟨by decide, by decide⟩) 1268 rfl ?_
  refine oc (y := mt_233) (pc := 1268) (ok_castore dX7_init_1268) 1269 rfl ?_
  refine oc (y := mt_233) (pc := 1269) (ok_dup dX7_init_1269) 1270 rfl ?_
  refine oc (y := mt_233) (pc := 1270) (ok_iconst dX7_init_1270 rfl ⟨by decide, by decide⟩) 1271 rfl ?_
  refine oc (y := mt_233) (pc := 1271) (ok_bipush dX7_init_1271 (by decide) ⟨by decide, by decide⟩) 1273 rfl ?_
  refine oc (y := mt_233) (pc := 1273) (ok_castore dX7_init_1273) 1274 rfl ?_
  refine oc (y := mt_233) (pc := 1274) (ok_dup dX7_init_1274) 1275 rfl ?_
  refine oc (y := mt_233) (pc := 1275) (ok_iconst dX7_init_1275 rfl ⟨by decide, by decide⟩) 1276 rfl ?_
  refine oc (y := mt_233) (pc := 1276) (ok_bipush dX7_init_1276 (by decide) ⟨by decide, by decide⟩) 1278 rfl ?_
  refine oc (y := mt_233) (pc := 1278) (ok_castore dX7_init_1278) 1279 rfl ?_
  refine oc (y := mt_233) (pc := 1279) (ok_dup dX7_init_1279) 1280 rfl ?_
  refine oc (y := mt_233) (pc := 1280) (ok_iconst dX7_init_1280 rfl ⟨by decide, by decide⟩) 1281 rfl ?_
  refine oc (y := mt_233) (pc := 1281) (ok_bipush dX7_init_1281 (by decide) ⟨by decide, by decide⟩) 1283 rfl ?_
  refine oc (y := mt_233) (pc := 1283) (ok_castore dX7_init_1283) 1284 rfl ?_
  refine oc (y := mt_233) (pc := 1284) (ok_putfield dX7_init_1284 (fp (own := "GardenChessModel") (idx := 209) (g := 9) (k := 92) (r := (RX7, TX7, 122)) rfl ⟨⟨by decide, by decide⟩, by decide⟩ (Or.inl q1904) (Or.inl rfl) rfl (Or.inr ⟨rfl, rfl, rfl, q1904⟩) (fp_nil))) 1287 rfl ?_
  refine oc (y := mt_233) (pc := 1287) (ok_aload_n dX7_init_1287) 1288 rfl ?_
  refine oc (y := mt_233) (pc := 1288) (ok_iconst dX7_init_1288 rfl ⟨by decide, by decide⟩) 1289 rfl ?_
  refine oc (y := mt_233) (pc := 1289) (ok_newarray dX7_init_1289 (by decide) q758) 1291 rfl ?_
  refine oc (y := mt_233) (pc := 1291) (ok_dup dX7_init_1291) 1292 rfl ?_
  refine oc (y := mt_233) (pc := 1292) (ok_iconst dX7_init_1292 rfl ⟨by decide, by decide⟩) 1293 rfl ?_
  exact oc_fall rfl
theorem o_233_1293 : okL gmt mt_233 1293 b_233_1293 := by
  refine oc (y := mt_233) (pc := 1293) (ok_bipush dX7_init_1293 (by decide) ⟨by decide, by decide⟩) 1295 rfl ?_
  refine oc (y := mt_233) (pc := 1295) (ok_castore dX7_init_1295) 1296 rfl ?_
  refine oc (y := mt_233) (pc := 1296) (ok_dup dX7_init_1296) 1297 rfl ?_
  refine oc (y := mt_233) (pc := 1297) (ok_iconst dX7_init_1297 rfl ⟨by decide, by decide⟩) 1298 rfl ?_
  refine oc (y := mt_233) (pc := 1298) (ok_bipush dX7_init_1298 (by decide) ⟨by decide, by decide⟩) 1300 rfl ?_
  refine oc (y := mt_233) (pc := 1300) (ok_castore dX7_init_1300) 1301 rfl ?_
  refine oc (y := mt_233) (pc := 1301) (ok_dup dX7_init_1301) 1302 rfl ?_
  refine oc (y := mt_233) (pc := 1302) (ok_iconst dX7_init_1302 rfl ⟨by decide, by decide⟩) 1303 rfl ?_
  refine oc (y := mt_233) (pc := 1303) (ok_bipush dX7_init_1303 (by decide) ⟨by decide, by decide⟩) 1305 rfl ?_
  refine oc (y := mt_233) (pc := 1305) (ok_castore dX7_init_1305) 1306 rfl ?_
  refine oc (y := mt_233) (pc := 1306) (ok_putfield dX7_init_1306 (fp (own := "GardenChessModel") (idx := 212) (g := 9) (k := 93) (r := (RX7, TX7, 122)) rfl ⟨⟨by decide, by decide⟩, by decide⟩ (Or.inl q1905) (Or.inl rfl) rfl (Or.inr ⟨rfl, rfl, rfl, q1905⟩) (fp_nil))) 1309 rfl ?_
  refine oc (y := mt_233) (pc := 1309) (ok_aload_n dX7_init_1309) 1310 rfl ?_
  refine oc (y := mt_233) (pc := 1310) (ok_iconst dX7_init_1310 rfl ⟨by decide, by decide⟩) 1311 rfl ?_
  refine oc (y := mt_233) (pc := 1311) (ok_newarray dX7_init_1311 (by decide) q758) 1313 rfl ?_
  refine oc (y := mt_233) (pc := 1313) (ok_dup dX7_init_1313) 1314 rfl ?_
  refine oc (y := mt_233) (pc := 1314) (ok_iconst dX7_init_1314 rfl ⟨by decide, by decide⟩) 1315 rfl ?_
  refine oc (y := mt_233) (pc := 1315) (ok_bipush dX7_init_1315 (by decide) ⟨by decide, by decide⟩) 1317 rfl ?_
  refine oc (y := mt_233) (pc := 1317) (ok_castore dX7_init_1317) 1318 rfl ?_
  refine oc (y := mt_233) (pc := 1318) (ok_dup dX7_init_1318) 1319 rfl ?_
  refine oc (y := mt_233) (pc := 1319) (ok_iconst dX7_init_1319 rfl ⟨by decide, by decide⟩) 1320 rfl ?_
  refine oc (y := mt_233) (pc := 1320) (ok_bipush dX7_init_1320 (by decide) ⟨by decide, by decide⟩) 1322 rfl ?_
  refine oc (y := mt_233) (pc := 1322) (ok_castore dX7_init_1322) 1323 rfl ?_
  refine oc (y := mt_233) (pc := 1323) (ok_dup dX7_init_1323) 1324 rfl ?_
  refine oc (y := mt_233) (pc := 1324) (ok_iconst dX7_init_1324 rfl ⟨by decide, by decide⟩) 1325 rfl ?_
  refine oc (y := mt_233) (pc := 1325) (ok_bipush dX7_init_1325 (by decide) ⟨by decide, by decide⟩) 1327 rfl ?_
  refine oc (y := mt_233) (pc := 1327) (ok_castore dX7_init_1327) 1328 rfl ?_
  refine oc (y := mt_233) (pc := 1328) (ok_putfield dX7_init_1328 (fp (own := "GardenChessModel") (idx := 215) (g := 9) (k := 94) (r := (RX7, TX7, 122)) rfl ⟨⟨by decide, by decide⟩, by decide⟩ (Or.inl q1906) (Or.inl rfl) rfl (Or.inr ⟨rfl, rfl, rfl, q1906⟩) (fp_nil))) 1331 rfl ?_
  refine oc (y := mt_233) (pc := 1331) (ok_aload_n dX7_init_1331) 1332 rfl ?_
  refine oc (y := mt_233) (pc := 1332) (ok_iconst dX7_init_1332 rfl ⟨by decide, by decide⟩) 1333 rfl ?_
  refine oc (y := mt_233) (pc := 1333) (ok_newarray dX7_init_1333 (by decide) q758) 1335 rfl ?_
  refine oc (y := mt_233) (pc := 1335) (ok_dup dX7_init_1335) 1336 rfl ?_
  refine oc (y := mt_233) (pc := 1336) (ok_iconst dX7_init_1336 rfl ⟨by decide, by decide⟩) 1337 rfl ?_
  refine oc (y := mt_233) (pc := 1337) (ok_bipush dX7_init_1337 (by decide) ⟨by decide, by decide⟩) 1339 rfl ?_
  refine oc (y := mt_233) (pc := 1339) (ok_castore dX7_init_1339) 1340 rfl ?_
  refine oc (y := mt_233) (pc := 1340) (ok_dup dX7_init_1340) 1341 rfl ?_
  refine oc (y := mt_233) (pc := 1341) (ok_iconst dX7_init_1341 rfl ⟨by decide, by decide⟩) 1342 rfl ?_
  refine oc (y := mt_233) (pc := 1342) (ok_bipush dX7_init_1342 (by decide) ⟨by decide, by decide⟩) 1344 rfl ?_
  refine oc (y := mt_233) (pc := 1344) (ok_castore dX7_init_1344) 1345 rfl ?_
  refine oc (y := mt_233) (pc := 1345) (ok_putfield dX7_init_1345 (fp (own := "GardenChessModel") (idx := 218) (g := 9) (k := 95) (r := (RX7, TX7, 122)) rfl ⟨⟨by decide, by decide⟩, by decide⟩ (Or.inl q1907) (Or.inl rfl) rfl (Or.inr ⟨rfl, rfl, rfl, q1907⟩) (fp_nil))) 1348 rfl ?_
  refine oc (y := mt_233) (pc := 1348) (ok_aload_n dX7_init_1348) 1349 rfl ?_
  refine oc (y := mt_233) (pc := 1349) (ok_iconst dX7_init_1349 rfl ⟨by decide, by decide⟩) 1350 rfl ?_
  refine oc (y := mt_233) (pc := 1350) (ok_newarray dX7_init_1350 (by decide) q758) 1352 rfl ?_
  refine oc (y := mt_233) (pc := 1352) (ok_dup dX7_init_1352) 1353 rfl ?_
  refine oc (y := mt_233) (pc := 1353) (ok_iconst dX7_init_1353 rfl ⟨by decide, by decide⟩) 1354 rfl ?_
  refine oc (y := mt_233) (pc := 1354) (ok_bipush dX7_init_1354 (by decide) ⟨by decide, by decide⟩) 1356 rfl ?_
  refine oc (y := mt_233) (pc := 1356) (ok_castore dX7_init_1356) 1357 rfl ?_
  refine oc (y := mt_233) (pc := 1357) (ok_dup dX7_init_1357) 1358 rfl ?_
  refine oc (y := mt_233) (pc := 1358) (ok_iconst dX7_init_1358 rfl ⟨by decide, by decide⟩) 1359 rfl ?_
  exact oc_fall rfl
theorem o_233_1359 : okL gmt mt_233 1359 b_233_1359 := by
  refine oc (y := mt_233) (pc := 1359) (ok_bipush dX7_init_1359 (by decide) ⟨by decide, by decide⟩) 1361 rfl ?_
  refine oc (y := mt_233) (pc := 1361) (ok_castore dX7_init_1361) 1362 rfl ?_
  refine oc (y := mt_233) (pc := 1362) (ok_dup dX7_init_1362) 1363 rfl ?_
  refine oc (y := mt_233) (pc := 1363) (ok_iconst dX7_init_1363 rfl ⟨by decide, by decide⟩) 1364 rfl ?_
  refine oc (y := mt_233) (pc := 1364) (ok_bipush dX7_init_1364 (by decide) ⟨by decide, by decide⟩) 1366 rfl ?_
  refine oc (y := mt_233) (pc := 1366) (ok_castore dX7_init_1366) 1367 rfl ?_
  refine oc (y := mt_233) (pc := 1367) (ok_putfield dX7_init_1367 (fp (own := "GardenChessModel") (idx := 221) (g := 9) (k := 96) (r := (RX7, TX7, 122)) rfl ⟨⟨by decide, by decide⟩, by decide⟩ (Or.inl q1908) (Or.inl rfl) rfl (Or.inr ⟨rfl, rfl, rfl, q1908⟩) (fp_nil))) 1370 rfl ?_
  refine oc (y := mt_233) (pc := 1370) (ok_aload_n dX7_init_1370) 1371 rfl ?_
  refine oc (y := mt_233) (pc := 1371) (ok_iconst dX7_init_1371 rfl ⟨by decide, by decide⟩) 1372 rfl ?_
  refine oc (y := mt_233) (pc := 1372) (ok_newarray dX7_init_1372 (by decide) q758) 1374 rfl ?_
  refine oc (y := mt_233) (pc := 1374) (ok_dup dX7_init_1374) 1375 rfl ?_
  refine oc (y := mt_233) (pc := 1375) (ok_iconst dX7_init_1375 rfl ⟨by decide, by decide⟩) 1376 rfl ?_
  refine oc (y := mt_233) (pc := 1376) (ok_bipush dX7_init_1376 (by decide) ⟨by decide, by decide⟩) 1378 rfl ?_
  refine oc (y := mt_233) (pc := 1378) (ok_castore dX7_init_1378) 1379 rfl ?_
  refine oc (y := mt_233) (pc := 1379) (ok_dup dX7_init_1379) 1380 rfl ?_
  refine oc (y := mt_233) (pc := 1380) (ok_iconst dX7_init_1380 rfl ⟨by decide, by decide⟩) 1381 rfl ?_
  refine oc (y := mt_233) (pc := 1381) (ok_bipush dX7_init_1381 (by decide) ⟨by decide, by decide⟩) 1383 rfl ?_
  refine oc (y := mt_233) (pc := 1383) (ok_castore dX7_init_1383) 1384 rfl ?_
  refine oc (y := mt_233) (pc := 1384) (ok_dup dX7_init_1384) 1385 rfl ?_
  refine oc (y := mt_233) (pc := 1385) (ok_iconst dX7_init_1385 rfl ⟨by decide, by decide⟩) 1386 rfl ?_
  refine oc (y := mt_233) (pc := 1386) (ok_bipush dX7_init_1386 (by decide) ⟨by decide, by decide⟩) 1388 rfl ?_
  refine oc (y := mt_233) (pc := 1388) (ok_castore dX7_init_1388) 1389 rfl ?_
  refine oc (y := mt_233) (pc := 1389) (ok_putfield dX7_init_1389 (fp (own := "GardenChessModel") (idx := 224) (g := 9) (k := 97) (r := (RX7, TX7, 122)) rfl ⟨⟨by decide, by decide⟩, by decide⟩ (Or.inl q1909) (Or.inl rfl) rfl (Or.inr ⟨rfl, rfl, rfl, q1909⟩) (fp_nil))) 1392 rfl ?_
  refine oc (y := mt_233) (pc := 1392) (ok_aload_n dX7_init_1392) 1393 rfl ?_
  refine oc (y := mt_233) (pc := 1393) (ok_iconst dX7_init_1393 rfl ⟨by decide, by decide⟩) 1394 rfl ?_
  refine oc (y := mt_233) (pc := 1394) (ok_newarray dX7_init_1394 (by decide) q758) 1396 rfl ?_
  refine oc (y := mt_233) (pc := 1396) (ok_dup dX7_init_1396) 1397 rfl ?_
  refine oc (y := mt_233) (pc := 1397) (ok_iconst dX7_init_1397 rfl ⟨by decide, by decide⟩) 1398 rfl ?_
  refine oc (y := mt_233) (pc := 1398) (ok_bipush dX7_init_1398 (by decide) ⟨by decide, by decide⟩) 1400 rfl ?_
  refine oc (y := mt_233) (pc := 1400) (ok_castore dX7_init_1400) 1401 rfl ?_
  refine oc (y := mt_233) (pc := 1401) (ok_dup dX7_init_1401) 1402 rfl ?_
  refine oc (y := mt_233) (pc := 1402) (ok_iconst dX7_init_1402 rfl ⟨by decide, by decide⟩) 1403 rfl ?_
  refine oc (y := mt_233) (pc := 1403) (ok_bipush dX7_init_1403 (by decide) ⟨by decide, by decide⟩) 1405 rfl ?_
  refine oc (y := mt_233) (pc := 1405) (ok_castore dX7_init_1405) 1406 rfl ?_
  refine oc (y := mt_233) (pc := 1406) (ok_dup dX7_init_1406) 1407 rfl ?_
  refine oc (y := mt_233) (pc := 1407) (ok_iconst dX7_init_1407 rfl ⟨by decide, by decide⟩) 1408 rfl ?_
  refine oc (y := mt_233) (pc := 1408) (ok_bipush dX7_init_1408 (by decide) ⟨by decide, by decide⟩) 1410 rfl ?_
  refine oc (y := mt_233) (pc := 1410) (ok_castore dX7_init_1410) 1411 rfl ?_
  refine oc (y := mt_233) (pc := 1411) (ok_putfield dX7_init_1411 (fp (own := "GardenChessModel") (idx := 227) (g := 9) (k := 98) (r := (RX7, TX7, 122)) rfl ⟨⟨by decide, by decide⟩, by decide⟩ (Or.inl q1910) (Or.inl rfl) rfl (Or.inr ⟨rfl, rfl, rfl, q1910⟩) (fp_nil))) 1414 rfl ?_
  refine oc (y := mt_233) (pc := 1414) (ok_aload_n dX7_init_1414) 1415 rfl ?_
  refine oc (y := mt_233) (pc := 1415) (ok_iconst dX7_init_1415 rfl ⟨by decide, by decide⟩) 1416 rfl ?_
  refine oc (y := mt_233) (pc := 1416) (ok_newarray dX7_init_1416 (by decide) q758) 1418 rfl ?_
  refine oc (y := mt_233) (pc := 1418) (ok_dup dX7_init_1418) 1419 rfl ?_
  refine oc (y := mt_233) (pc := 1419) (ok_iconst dX7_init_1419 rfl ⟨by decide, by decide⟩) 1420 rfl ?_
  refine oc (y := mt_233) (pc := 1420) (ok_bipush dX7_init_1420 (by decide) ⟨by decide, by decide⟩) 1422 rfl ?_
  refine oc (y := mt_233) (pc := 1422) (ok_castore dX7_init_1422) 1423 rfl ?_
  refine oc (y := mt_233) (pc := 1423) (ok_dup dX7_init_1423) 1424 rfl ?_
  refine oc (y := mt_233) (pc := 1424) (ok_iconst dX7_init_1424 rfl ⟨by decide, by decide⟩) 1425 rfl ?_
  exact oc_fall rfl
theorem o_233_1425 : okL gmt mt_233 1425 b_233_1425 := by
  refine oc (y := mt_233) (pc := 1425) (ok_bipush dX7_init_1425 (by decide) ⟨by decide, by decide⟩) 1427 rfl ?_
  refine oc (y := mt_233) (pc := 1427) (ok_castore dX7_init_1427) 1428 rfl ?_
  refine oc (y := mt_233) (pc := 1428) (ok_dup dX7_init_1428) 1429 rfl ?_
  refine oc (y := mt_233) (pc := 1429) (ok_iconst dX7_init_1429 rfl ⟨by decide, by decide⟩) 1430 rfl ?_
  refine oc (y := mt_233) (pc := 1430) (ok_bipush dX7_init_1430 (by decide) ⟨by decide, by decide⟩) 1432 rfl ?_
  refine oc (y := mt_233) (pc := 1432) (ok_castore dX7_init_1432) 1433 rfl ?_
  refine oc (y := mt_233) (pc := 1433) (ok_dup dX7_init_1433) 1434 rfl ?_
  refine oc (y := mt_233) (pc := 1434) (ok_iconst dX7_init_1434 rfl ⟨by decide, by decide⟩) 1435 rfl ?_
  refine oc (y := mt_233) (pc := 1435) (ok_bipush dX7_init_1435 (by decide) ⟨by decide, by decide⟩) 1437 rfl ?_
  refine oc (y := mt_233) (pc := 1437) (ok_castore dX7_init_1437) 1438 rfl ?_
  refine oc (y := mt_233) (pc := 1438) (ok_dup dX7_init_1438) 1439 rfl ?_
  refine oc (y := mt_233) (pc := 1439) (ok_iconst dX7_init_1439 rfl ⟨by decide, by decide⟩) 1440 rfl ?_
  refine oc (y := mt_233) (pc := 1440) (ok_bipush dX7_init_1440 (by decide) ⟨by decide, by decide⟩) 1442 rfl ?_
  refine oc (y := mt_233) (pc := 1442) (ok_castore dX7_init_1442) 1443 rfl ?_
  refine oc (y := mt_233) (pc := 1443) (ok_putfield dX7_init_1443 (fp (own := "GardenChessModel") (idx := 230) (g := 9) (k := 99) (r := (RX7, TX7, 122)) rfl ⟨⟨by decide, by decide⟩, by decide⟩ (Or.inl q1911) (Or.inl rfl) rfl (Or.inr ⟨rfl, rfl, rfl, q1911⟩) (fp_nil))) 1446 rfl ?_
  refine oc (y := mt_233) (pc := 1446) (ok_aload_n dX7_init_1446) 1447 rfl ?_
  refine oc (y := mt_233) (pc := 1447) (ok_iconst dX7_init_1447 rfl ⟨by decide, by decide⟩) 1448 rfl ?_
  refine oc (y := mt_233) (pc := 1448) (ok_newarray dX7_init_1448 (by decide) q758) 1450 rfl ?_
  refine oc (y := mt_233) (pc := 1450) (ok_dup dX7_init_1450) 1451 rfl ?_
  refine oc (y := mt_233) (pc := 1451) (ok_iconst dX7_init_1451 rfl ⟨by decide, by decide⟩) 1452 rfl ?_
  refine oc (y := mt_233) (pc := 1452) (ok_bipush dX7_init_1452 (by decide) ⟨by decide, by decide⟩) 1454 rfl ?_
  refine oc (y := mt_233) (pc := 1454) (ok_castore dX7_init_1454) 1455 rfl ?_
  refine oc (y := mt_233) (pc := 1455) (ok_dup dX7_init_1455) 1456 rfl ?_
  refine oc (y := mt_233) (pc := 1456) (ok_iconst dX7_init_1456 rfl ⟨by decide, by decide⟩) 1457 rfl ?_
  refine oc (y := mt_233) (pc := 1457) (ok_bipush dX7_init_1457 (by decide) ⟨by decide, by decide⟩) 1459 rfl ?_
  refine oc (y := mt_233) (pc := 1459) (ok_castore dX7_init_1459) 1460 rfl ?_
  refine oc (y := mt_233) (pc := 1460) (ok_dup dX7_init_1460) 1461 rfl ?_
  refine oc (y := mt_233) (pc := 1461) (ok_iconst dX7_init_1461 rfl ⟨by decide, by decide⟩) 1462 rfl ?_
  refine oc (y := mt_233) (pc := 1462) (ok_bipush dX7_init_1462 (by decide) ⟨by decide, by decide⟩) 1464 rfl ?_
  refine oc (y := mt_233) (pc := 1464) (ok_castore dX7_init_1464) 1465 rfl ?_
  refine oc (y := mt_233) (pc := 1465) (ok_dup dX7_init_1465) 1466 rfl ?_
  refine oc (y := mt_233) (pc := 1466) (ok_iconst dX7_init_1466 rfl ⟨by decide, by decide⟩) 1467 rfl ?_
  refine oc (y := mt_233) (pc := 1467) (ok_bipush dX7_init_1467 (by decide) ⟨by decide, by decide⟩) 1469 rfl ?_
  refine oc (y := mt_233) (pc := 1469) (ok_castore dX7_init_1469) 1470 rfl ?_
  refine oc (y := mt_233) (pc := 1470) (ok_dup dX7_init_1470) 1471 rfl ?_
  refine oc (y := mt_233) (pc := 1471) (ok_iconst dX7_init_1471 rfl ⟨by decide, by decide⟩) 1472 rfl ?_
  refine oc (y := mt_233) (pc := 1472) (ok_bipush dX7_init_1472 (by decide) ⟨by decide, by decide⟩) 1474 rfl ?_
  refine oc (y := mt_233) (pc := 1474) (ok_castore dX7_init_1474) 1475 rfl ?_
  refine oc (y := mt_233) (pc := 1475) (ok_putfield dX7_init_1475 (fp (own := "GardenChessModel") (idx := 233) (g := 9) (k := 100) (r := (RX7, TX7, 122)) rfl ⟨⟨by decide, by decide⟩, by decide⟩ (Or.inl q1912) (Or.inl rfl) rfl (Or.inr ⟨rfl, rfl, rfl, q1912⟩) (fp_nil))) 1478 rfl ?_
  refine oc (y := mt_233) (pc := 1478) (ok_aload_n dX7_init_1478) 1479 rfl ?_
  refine oc (y := mt_233) (pc := 1479) (ok_iconst dX7_init_1479 rfl ⟨by decide, by decide⟩) 1480 rfl ?_
  refine oc (y := mt_233) (pc := 1480) (ok_newarray dX7_init_1480 (by decide) q758) 1482 rfl ?_
  refine oc (y := mt_233) (pc := 1482) (ok_dup dX7_init_1482) 1483 rfl ?_
  refine oc (y := mt_233) (pc := 1483) (ok_iconst dX7_init_1483 rfl ⟨by decide, by decide⟩) 1484 rfl ?_
  refine oc (y := mt_233) (pc := 1484) (ok_bipush dX7_init_1484 (by decide) ⟨by decide, by decide⟩) 1486 rfl ?_
  refine oc (y := mt_233) (pc := 1486) (ok_castore dX7_init_1486) 1487 rfl ?_
  refine oc (y := mt_233) (pc := 1487) (ok_dup dX7_init_1487) 1488 rfl ?_
  refine oc (y := mt_233) (pc := 1488) (ok_iconst dX7_init_1488 rfl ⟨by decide, by decide⟩) 1489 rfl ?_
  exact oc_fall rfl
theorem o_233_1489 : okL gmt mt_233 1489 b_233_1489 := by
  refine oc (y := mt_233) (pc := 1489) (ok_bipush dX7_init_1489 (by decide) ⟨by decide, by decide⟩) 1491 rfl ?_
  refine oc (y := mt_233) (pc := 1491) (ok_castore dX7_init_1491) 1492 rfl ?_
  refine oc (y := mt_233) (pc := 1492) (ok_dup dX7_init_1492) 1493 rfl ?_
  refine oc (y := mt_233) (pc := 1493) (ok_iconst dX7_init_1493 rfl ⟨by decide, by decide⟩) 1494 rfl ?_
  refine oc (y := mt_233) (pc := 1494) (ok_bipush dX7_init_1494 (by decide) ⟨by decide, by decide⟩) 1496 rfl ?_
  refine oc (y := mt_233) (pc := 1496) (ok_castore dX7_init_1496) 1497 rfl ?_
  refine oc (y := mt_233) (pc := 1497) (ok_putfield dX7_init_1497 (fp (own := "GardenChessModel") (idx := 236) (g := 9) (k := 101) (r := (RX7, TX7, 122)) rfl ⟨⟨by decide, by decide⟩, by decide⟩ (Or.inl q1913) (Or.inl rfl) rfl (Or.inr ⟨rfl, rfl, rfl, q1913⟩) (fp_nil))) 1500 rfl ?_
  refine oc (y := mt_233) (pc := 1500) (ok_aload_n dX7_init_1500) 1501 rfl ?_
  refine oc (y := mt_233) (pc := 1501) (ok_iconst dX7_init_1501 rfl ⟨by decide, by decide⟩) 1502 rfl ?_
  refine oc (y := mt_233) (pc := 1502) (ok_newarray dX7_init_1502 (by decide) q758) 1504 rfl ?_
  refine oc (y := mt_233) (pc := 1504) (ok_dup dX7_init_1504) 1505 rfl ?_
  refine oc (y := mt_233) (pc := 1505) (ok_iconst dX7_init_1505 rfl ⟨by decide, by decide⟩) 1506 rfl ?_
  refine oc (y := mt_233) (pc := 1506) (ok_bipush dX7_init_1506 (by decide) ⟨by decide, by decide⟩) 1508 rfl ?_
  refine oc (y := mt_233) (pc := 1508) (ok_castore dX7_init_1508) 1509 rfl ?_
  refine oc (y := mt_233) (pc := 1509) (ok_dup dX7_init_1509) 1510 rfl ?_
  refine oc (y := mt_233) (pc := 1510) (ok_iconst dX7_init_1510 rfl ⟨by decide, by decide⟩) 1511 rfl ?_
  refine oc (y := mt_233) (pc := 1511) (ok_bipush dX7_init_1511 (by decide) ⟨by decide, by decide⟩) 1513 rfl ?_
  refine oc (y := mt_233) (pc := 1513) (ok_castore dX7_init_1513) 1514 rfl ?_
  refine oc (y := mt_233) (pc := 1514) (ok_dup dX7_init_1514) 1515 rfl ?_
  refine oc (y := mt_233) (pc := 1515) (ok_iconst dX7_init_1515 rfl ⟨by decide, by decide⟩) 1516 rfl ?_
  refine oc (y := mt_233) (pc := 1516) (ok_bipush dX7_init_1516 (by decide) ⟨by decide, by decide⟩) 1518 rfl ?_
  refine oc (y := mt_233) (pc := 1518) (ok_castore dX7_init_1518) 1519 rfl ?_
  refine oc (y := mt_233) (pc := 1519) (ok_putfield dX7_init_1519 (fp (own := "GardenChessModel") (idx := 239) (g := 9) (k := 102) (r := (RX7, TX7, 122)) rfl ⟨⟨by decide, by decide⟩, by decide⟩ (Or.inl q1914) (Or.inl rfl) rfl (Or.inr ⟨rfl, rfl, rfl, q1914⟩) (fp_nil))) 1522 rfl ?_
  refine oc (y := mt_233) (pc := 1522) (ok_aload_n dX7_init_1522) 1523 rfl ?_
  refine oc (y := mt_233) (pc := 1523) (ok_bipush dX7_init_1523 (by decide) ⟨by decide, by decide⟩) 1525 rfl ?_
  refine oc (y := mt_233) (pc := 1525) (ok_newarray dX7_init_1525 (by decide) q758) 1527 rfl ?_
  refine oc (y := mt_233) (pc := 1527) (ok_dup dX7_init_1527) 1528 rfl ?_
  refine oc (y := mt_233) (pc := 1528) (ok_iconst dX7_init_1528 rfl ⟨by decide, by decide⟩) 1529 rfl ?_
  refine oc (y := mt_233) (pc := 1529) (ok_bipush dX7_init_1529 (by decide) ⟨by decide, by decide⟩) 1531 rfl ?_
  refine oc (y := mt_233) (pc := 1531) (ok_castore dX7_init_1531) 1532 rfl ?_
  refine oc (y := mt_233) (pc := 1532) (ok_dup dX7_init_1532) 1533 rfl ?_
  refine oc (y := mt_233) (pc := 1533) (ok_iconst dX7_init_1533 rfl ⟨by decide, by decide⟩) 1534 rfl ?_
  refine oc (y := mt_233) (pc := 1534) (ok_bipush dX7_init_1534 (by decide) ⟨by decide, by decide⟩) 1536 rfl ?_
  refine oc (y := mt_233) (pc := 1536) (ok_castore dX7_init_1536) 1537 rfl ?_
  refine oc (y := mt_233) (pc := 1537) (ok_dup dX7_init_1537) 1538 rfl ?_
  refine oc (y := mt_233) (pc := 1538) (ok_iconst dX7_init_1538 rfl ⟨by decide, by decide⟩) 1539 rfl ?_
  refine oc (y := mt_233) (pc := 1539) (ok_bipush dX7_init_1539 (by decide) ⟨by decide, by decide⟩) 1541 rfl ?_
  refine oc (y := mt_233) (pc := 1541) (ok_castore dX7_init_1541) 1542 rfl ?_
  refine oc (y := mt_233) (pc := 1542) (ok_dup dX7_init_1542) 1543 rfl ?_
  refine oc (y := mt_233) (pc := 1543) (ok_iconst dX7_init_1543 rfl ⟨by decide, by decide⟩) 1544 rfl ?_
  refine oc (y := mt_233) (pc := 1544) (ok_bipush dX7_init_1544 (by decide) ⟨by decide, by decide⟩) 1546 rfl ?_
  refine oc (y := mt_233) (pc := 1546) (ok_castore dX7_init_1546) 1547 rfl ?_
  refine oc (y := mt_233) (pc := 1547) (ok_dup dX7_init_1547) 1548 rfl ?_
  refine oc (y := mt_233) (pc := 1548) (ok_iconst dX7_init_1548 rfl ⟨by decide, by decide⟩) 1549 rfl ?_
  refine oc (y := mt_233) (pc := 1549) (ok_bipush dX7_init_1549 (by decide) ⟨by decide, by decide⟩) 1551 rfl ?_
  refine oc (y := mt_233) (pc := 1551) (ok_castore dX7_init_1551) 1552 rfl ?_
  refine oc (y := mt_233) (pc := 1552) (ok_dup dX7_init_1552) 1553 rfl ?_
  refine oc (y := mt_233) (pc := 1553) (ok_iconst dX7_init_1553 rfl ⟨by decide, by decide⟩) 1554 rfl ?_
  exact oc_fall rfl
theorem o_233_1554 : okL gmt mt_233 1554 b_233_1554 := by
  refine oc (y := mt_233) (pc := 1554) (ok_bipush dX7_init_1554 (by decide) ⟨by decide, by decide⟩) 1556 rfl ?_
  refine oc (y := mt_233) (pc := 1556) (ok_castore dX7_init_1556) 1557 rfl ?_
  refine oc (y := mt_233) (pc := 1557) (ok_putfield dX7_init_1557 (fp (own := "GardenChessModel") (idx := 242) (g := 9) (k := 103) (r := (RX7, TX7, 122)) rfl ⟨⟨by decide, by decide⟩, by decide⟩ (Or.inl q1915) (Or.inl rfl) rfl (Or.inr ⟨rfl, rfl, rfl, q1915⟩) (fp_nil))) 1560 rfl ?_
  refine oc (y := mt_233) (pc := 1560) (ok_aload_n dX7_init_1560) 1561 rfl ?_
  refine oc (y := mt_233) (pc := 1561) (ok_bipush dX7_init_1561 (by decide) ⟨by decide, by decide⟩) 1563 rfl ?_
  refine oc (y := mt_233) (pc := 1563) (ok_newarray dX7_init_1563 (by decide) q758) 1565 rfl ?_
  refine oc (y := mt_233) (pc := 1565) (ok_dup dX7_init_1565) 1566 rfl ?_
  refine oc (y := mt_233) (pc := 1566) (ok_iconst dX7_init_1566 rfl ⟨by decide, by decide⟩) 1567 rfl ?_
  refine oc (y := mt_233) (pc := 1567) (ok_bipush dX7_init_1567 (by decide) ⟨by decide, by decide⟩) 1569 rfl ?_
  refine oc (y := mt_233) (pc := 1569) (ok_castore dX7_init_1569) 1570 rfl ?_
  refine oc (y := mt_233) (pc := 1570) (ok_dup dX7_init_1570) 1571 rfl ?_
  refine oc (y := mt_233) (pc := 1571) (ok_iconst dX7_init_1571 rfl ⟨by decide, by decide⟩) 1572 rfl ?_
  refine oc (y := mt_233) (pc := 1572) (ok_bipush dX7_init_1572 (by decide) ⟨by decide, by decide⟩) 1574 rfl ?_
  refine oc (y := mt_233) (pc := 1574) (ok_castore dX7_init_1574) 1575 rfl ?_
  refine oc (y := mt_233) (pc := 1575) (ok_dup dX7_init_1575) 1576 rfl ?_
  refine oc (y := mt_233) (pc := 1576) (ok_iconst dX7_init_1576 rfl ⟨by decide, by decide⟩) 1577 rfl ?_
  refine oc (y := mt_233) (pc := 1577) (ok_bipush dX7_init_1577 (by decide) ⟨by decide, by decide⟩) 1579 rfl ?_
  refine oc (y := mt_233) (pc := 1579) (ok_castore dX7_init_1579) 1580 rfl ?_
  refine oc (y := mt_233) (pc := 1580) (ok_dup dX7_init_1580) 1581 rfl ?_
  refine oc (y := mt_233) (pc := 1581) (ok_iconst dX7_init_1581 rfl ⟨by decide, by decide⟩) 1582 rfl ?_
  refine oc (y := mt_233) (pc := 1582) (ok_bipush dX7_init_1582 (by decide) ⟨by decide, by decide⟩) 1584 rfl ?_
  refine oc (y := mt_233) (pc := 1584) (ok_castore dX7_init_1584) 1585 rfl ?_
  refine oc (y := mt_233) (pc := 1585) (ok_dup dX7_init_1585) 1586 rfl ?_
  refine oc (y := mt_233) (pc := 1586) (ok_iconst dX7_init_1586 rfl ⟨by decide, by decide⟩) 1587 rfl ?_
  refine oc (y := mt_233) (pc := 1587) (ok_bipush dX7_init_1587 (by decide) ⟨by decide, by decide⟩) 1589 rfl ?_
  refine oc (y := mt_233) (pc := 1589) (ok_castore dX7_init_1589) 1590 rfl ?_
  refine oc (y := mt_233) (pc := 1590) (ok_dup dX7_init_1590) 1591 rfl ?_
  refine oc (y := mt_233) (pc := 1591) (ok_iconst dX7_init_1591 rfl ⟨by decide, by decide⟩) 1592 rfl ?_
  refine oc (y := mt_233) (pc := 1592) (ok_bipush dX7_init_1592 (by decide) ⟨by decide, by decide⟩) 1594 rfl ?_
  refine oc (y := mt_233) (pc := 1594) (ok_castore dX7_init_1594) 1595 rfl ?_
  refine oc (y := mt_233) (pc := 1595) (ok_putfield dX7_init_1595 (fp (own := "GardenChessModel") (idx := 245) (g := 9) (k := 104) (r := (RX7, TX7, 122)) rfl ⟨⟨by decide, by decide⟩, by decide⟩ (Or.inl q1916) (Or.inl rfl) rfl (Or.inr ⟨rfl, rfl, rfl, q1916⟩) (fp_nil))) 1598 rfl ?_
  refine oc (y := mt_233) (pc := 1598) (ok_aload_n dX7_init_1598) 1599 rfl ?_
  refine oc (y := mt_233) (pc := 1599) (ok_iconst dX7_init_1599 rfl ⟨by decide, by decide⟩) 1600 rfl ?_
  refine oc (y := mt_233) (pc := 1600) (ok_newarray dX7_init_1600 (by decide) q758) 1602 rfl ?_
  refine oc (y := mt_233) (pc := 1602) (ok_dup dX7_init_1602) 1603 rfl ?_
  refine oc (y := mt_233) (pc := 1603) (ok_iconst dX7_init_1603 rfl ⟨by decide, by decide⟩) 1604 rfl ?_
  refine oc (y := mt_233) (pc := 1604) (ok_bipush dX7_init_1604 (by decide) ⟨by decide, by decide⟩) 1606 rfl ?_
  refine oc (y := mt_233) (pc := 1606) (ok_castore dX7_init_1606) 1607 rfl ?_
  refine oc (y := mt_233) (pc := 1607) (ok_dup dX7_init_1607) 1608 rfl ?_
  refine oc (y := mt_233) (pc := 1608) (ok_iconst dX7_init_1608 rfl ⟨by decide, by decide⟩) 1609 rfl ?_
  refine oc (y := mt_233) (pc := 1609) (ok_bipush dX7_init_1609 (by decide) ⟨by decide, by decide⟩) 1611 rfl ?_
  refine oc (y := mt_233) (pc := 1611) (ok_castore dX7_init_1611) 1612 rfl ?_
  refine oc (y := mt_233) (pc := 1612) (ok_dup dX7_init_1612) 1613 rfl ?_
  refine oc (y := mt_233) (pc := 1613) (ok_iconst dX7_init_1613 rfl ⟨by decide, by decide⟩) 1614 rfl ?_
  refine oc (y := mt_233) (pc := 1614) (ok_bipush dX7_init_1614 (by decide) ⟨by decide, by decide⟩) 1616 rfl ?_
  refine oc (y := mt_233) (pc := 1616) (ok_castore dX7_init_1616) 1617 rfl ?_
  refine oc (y := mt_233) (pc := 1617) (ok_putfield dX7_init_1617 (fp (own := "GardenChessModel") (idx := 248) (g := 9) (k := 105) (r := (RX7, TX7, 122)) rfl ⟨⟨by decide, by decide⟩, by decide⟩ (Or.inl q1917) (Or.inl rfl) rfl (Or.inr ⟨rfl, rfl, rfl, q1917⟩) (fp_nil))) 1620 rfl ?_
  refine oc (y := mt_233) (pc := 1620) (ok_aload_n dX7_init_1620) 1621 rfl ?_
  exact oc_fall rfl
theorem o_233_1621 : okL gmt mt_233 1621 b_233_1621 := by
  refine oc (y := mt_233) (pc := 1621) (ok_iconst dX7_init_1621 rfl ⟨by decide, by decide⟩) 1622 rfl ?_
  refine oc (y := mt_233) (pc := 1622) (ok_newarray dX7_init_1622 (by decide) q758) 1624 rfl ?_
  refine oc (y := mt_233) (pc := 1624) (ok_dup dX7_init_1624) 1625 rfl ?_
  refine oc (y := mt_233) (pc := 1625) (ok_iconst dX7_init_1625 rfl ⟨by decide, by decide⟩) 1626 rfl ?_
  refine oc (y := mt_233) (pc := 1626) (ok_bipush dX7_init_1626 (by decide) ⟨by decide, by decide⟩) 1628 rfl ?_
  refine oc (y := mt_233) (pc := 1628) (ok_castore dX7_init_1628) 1629 rfl ?_
  refine oc (y := mt_233) (pc := 1629) (ok_dup dX7_init_1629) 1630 rfl ?_
  refine oc (y := mt_233) (pc := 1630) (ok_iconst dX7_init_1630 rfl ⟨by decide, by decide⟩) 1631 rfl ?_
  refine oc (y := mt_233) (pc := 1631) (ok_bipush dX7_init_1631 (by decide) ⟨by decide, by decide⟩) 1633 rfl ?_
  refine oc (y := mt_233) (pc := 1633) (ok_castore dX7_init_1633) 1634 rfl ?_
  refine oc (y := mt_233) (pc := 1634) (ok_dup dX7_init_1634) 1635 rfl ?_
  refine oc (y := mt_233) (pc := 1635) (ok_iconst dX7_init_1635 rfl ⟨by decide, by decide⟩) 1636 rfl ?_
  refine oc (y := mt_233) (pc := 1636) (ok_bipush dX7_init_1636 (by decide) ⟨by decide, by decide⟩) 1638 rfl ?_
  refine oc (y := mt_233) (pc := 1638) (ok_castore dX7_init_1638) 1639 rfl ?_
  refine oc (y := mt_233) (pc := 1639) (ok_dup dX7_init_1639) 1640 rfl ?_
  refine oc (y := mt_233) (pc := 1640) (ok_iconst dX7_init_1640 rfl ⟨by decide, by decide⟩) 1641 rfl ?_
  refine oc (y := mt_233) (pc := 1641) (ok_bipush dX7_init_1641 (by decide) ⟨by decide, by decide⟩) 1643 rfl ?_
  refine oc (y := mt_233) (pc := 1643) (ok_castore dX7_init_1643) 1644 rfl ?_
  refine oc (y := mt_233) (pc := 1644) (ok_putfield dX7_init_1644 (fp (own := "GardenChessModel") (idx := 251) (g := 9) (k := 106) (r := (RX7, TX7, 122)) rfl ⟨⟨by decide, by decide⟩, by decide⟩ (Or.inl q1918) (Or.inl rfl) rfl (Or.inr ⟨rfl, rfl, rfl, q1918⟩) (fp_nil))) 1647 rfl ?_
  refine oc (y := mt_233) (pc := 1647) (ok_aload_n dX7_init_1647) 1648 rfl ?_
  refine oc (y := mt_233) (pc := 1648) (ok_iconst dX7_init_1648 rfl ⟨by decide, by decide⟩) 1649 rfl ?_
  refine oc (y := mt_233) (pc := 1649) (ok_newarray dX7_init_1649 (by decide) q758) 1651 rfl ?_
  refine oc (y := mt_233) (pc := 1651) (ok_dup dX7_init_1651) 1652 rfl ?_
  refine oc (y := mt_233) (pc := 1652) (ok_iconst dX7_init_1652 rfl ⟨by decide, by decide⟩) 1653 rfl ?_
  refine oc (y := mt_233) (pc := 1653) (ok_bipush dX7_init_1653 (by decide) ⟨by decide, by decide⟩) 1655 rfl ?_
  refine oc (y := mt_233) (pc := 1655) (ok_castore dX7_init_1655) 1656 rfl ?_
  refine oc (y := mt_233) (pc := 1656) (ok_dup dX7_init_1656) 1657 rfl ?_
  refine oc (y := mt_233) (pc := 1657) (ok_iconst dX7_init_1657 rfl ⟨by decide, by decide⟩) 1658 rfl ?_
  refine oc (y := mt_233) (pc := 1658) (ok_bipush dX7_init_1658 (by decide) ⟨by decide, by decide⟩) 1660 rfl ?_
  refine oc (y := mt_233) (pc := 1660) (ok_castore dX7_init_1660) 1661 rfl ?_
  refine oc (y := mt_233) (pc := 1661) (ok_dup dX7_init_1661) 1662 rfl ?_
  refine oc (y := mt_233) (pc := 1662) (ok_iconst dX7_init_1662 rfl ⟨by decide, by decide⟩) 1663 rfl ?_
  refine oc (y := mt_233) (pc := 1663) (ok_bipush dX7_init_1663 (by decide) ⟨by decide, by decide⟩) 1665 rfl ?_
  refine oc (y := mt_233) (pc := 1665) (ok_castore dX7_init_1665) 1666 rfl ?_
  refine oc (y := mt_233) (pc := 1666) (ok_dup dX7_init_1666) 1667 rfl ?_
  refine oc (y := mt_233) (pc := 1667) (ok_iconst dX7_init_1667 rfl ⟨by decide, by decide⟩) 1668 rfl ?_
  refine oc (y := mt_233) (pc := 1668) (ok_bipush dX7_init_1668 (by decide) ⟨by decide, by decide⟩) 1670 rfl ?_
  refine oc (y := mt_233) (pc := 1670) (ok_castore dX7_init_1670) 1671 rfl ?_
  refine oc (y := mt_233) (pc := 1671) (ok_dup dX7_init_1671) 1672 rfl ?_
  refine oc (y := mt_233) (pc := 1672) (ok_iconst dX7_init_1672 rfl ⟨by decide, by decide⟩) 1673 rfl ?_
  refine oc (y := mt_233) (pc := 1673) (ok_bipush dX7_init_1673 (by decide) ⟨by decide, by decide⟩) 1675 rfl ?_
  refine oc (y := mt_233) (pc := 1675) (ok_castore dX7_init_1675) 1676 rfl ?_
  refine oc (y := mt_233) (pc := 1676) (ok_putfield dX7_init_1676 (fp (own := "GardenChessModel") (idx := 254) (g := 9) (k := 107) (r := (RX7, TX7, 122)) rfl ⟨⟨by decide, by decide⟩, by decide⟩ (Or.inl q1919) (Or.inl rfl) rfl (Or.inr ⟨rfl, rfl, rfl, q1919⟩) (fp_nil))) 1679 rfl ?_
  refine oc (y := mt_233) (pc := 1679) (ok_aload_n dX7_init_1679) 1680 rfl ?_
  refine oc (y := mt_233) (pc := 1680) (ok_iconst dX7_init_1680 rfl ⟨by decide, by decide⟩) 1681 rfl ?_
  refine oc (y := mt_233) (pc := 1681) (ok_newarray dX7_init_1681 (by decide) q758) 1683 rfl ?_
  refine oc (y := mt_233) (pc := 1683) (ok_dup dX7_init_1683) 1684 rfl ?_
  refine oc (y := mt_233) (pc := 1684) (ok_iconst dX7_init_1684 rfl ⟨by decide, by decide⟩) 1685 rfl ?_
  exact oc_fall rfl
theorem o_233_1685 : okL gmt mt_233 1685 b_233_1685 := by
  refine oc (y := mt_233) (pc := 1685) (ok_bipush dX7_init_1685 (by decide) ⟨by decide, by decide⟩) 1687 rfl ?_
  refine oc (y := mt_233) (pc := 1687) (ok_castore dX7_init_1687) 1688 rfl ?_
  refine oc (y := mt_233) (pc := 1688) (ok_dup dX7_init_1688) 1689 rfl ?_
  refine oc (y := mt_233) (pc := 1689) (ok_iconst dX7_init_1689 rfl ⟨by decide, by decide⟩) 1690 rfl ?_
  refine oc (y := mt_233) (pc := 1690) (ok_bipush dX7_init_1690 (by decide) ⟨by decide, by decide⟩) 1692 rfl ?_
  refine oc (y := mt_233) (pc := 1692) (ok_castore dX7_init_1692) 1693 rfl ?_
  refine oc (y := mt_233) (pc := 1693) (ok_dup dX7_init_1693) 1694 rfl ?_
  refine oc (y := mt_233) (pc := 1694) (ok_iconst dX7_init_1694 rfl ⟨by decide, by decide⟩) 1695 rfl ?_
  refine oc (y := mt_233) (pc := 1695) (ok_bipush dX7_init_1695 (by decide) ⟨by decide, by decide⟩) 1697 rfl ?_
  refine oc (y := mt_233) (pc := 1697) (ok_castore dX7_init_1697) 1698 rfl ?_
  refine oc (y := mt_233) (pc := 1698) (ok_dup dX7_init_1698) 1699 rfl ?_
  refine oc (y := mt_233) (pc := 1699) (ok_iconst dX7_init_1699 rfl ⟨by decide, by decide⟩) 1700 rfl ?_
  refine oc (y := mt_233) (pc := 1700) (ok_bipush dX7_init_1700 (by decide) ⟨by decide, by decide⟩) 1702 rfl ?_
  refine oc (y := mt_233) (pc := 1702) (ok_castore dX7_init_1702) 1703 rfl ?_
  refine oc (y := mt_233) (pc := 1703) (ok_dup dX7_init_1703) 1704 rfl ?_
  refine oc (y := mt_233) (pc := 1704) (ok_iconst dX7_init_1704 rfl ⟨by decide, by decide⟩) 1705 rfl ?_
  refine oc (y := mt_233) (pc := 1705) (ok_bipush dX7_init_1705 (by decide) ⟨by decide, by decide⟩) 1707 rfl ?_
  refine oc (y := mt_233) (pc := 1707) (ok_castore dX7_init_1707) 1708 rfl ?_
  refine oc (y := mt_233) (pc := 1708) (ok_putfield dX7_init_1708 (fp (own := "GardenChessModel") (idx := 257) (g := 9) (k := 108) (r := (RX7, TX7, 122)) rfl ⟨⟨by decide, by decide⟩, by decide⟩ (Or.inl q1920) (Or.inl rfl) rfl (Or.inr ⟨rfl, rfl, rfl, q1920⟩) (fp_nil))) 1711 rfl ?_
  refine oc (y := mt_233) (pc := 1711) (ok_aload_n dX7_init_1711) 1712 rfl ?_
  refine oc (y := mt_233) (pc := 1712) (ok_iconst dX7_init_1712 rfl ⟨by decide, by decide⟩) 1713 rfl ?_
  refine oc (y := mt_233) (pc := 1713) (ok_newarray dX7_init_1713 (by decide) q758) 1715 rfl ?_
  refine oc (y := mt_233) (pc := 1715) (ok_dup dX7_init_1715) 1716 rfl ?_
  refine oc (y := mt_233) (pc := 1716) (ok_iconst dX7_init_1716 rfl ⟨by decide, by decide⟩) 1717 rfl ?_
  refine oc (y := mt_233) (pc := 1717) (ok_bipush dX7_init_1717 (by decide) ⟨by decide, by decide⟩) 1719 rfl ?_
  refine oc (y := mt_233) (pc := 1719) (ok_castore dX7_init_1719) 1720 rfl ?_
  refine oc (y := mt_233) (pc := 1720) (ok_dup dX7_init_1720) 1721 rfl ?_
  refine oc (y := mt_233) (pc := 1721) (ok_iconst dX7_init_1721 rfl ⟨by decide, by decide⟩) 1722 rfl ?_
  refine oc (y := mt_233) (pc := 1722) (ok_bipush dX7_init_1722 (by decide) ⟨by decide, by decide⟩) 1724 rfl ?_
  refine oc (y := mt_233) (pc := 1724) (ok_castore dX7_init_1724) 1725 rfl ?_
  refine oc (y := mt_233) (pc := 1725) (ok_dup dX7_init_1725) 1726 rfl ?_
  refine oc (y := mt_233) (pc := 1726) (ok_iconst dX7_init_1726 rfl ⟨by decide, by decide⟩) 1727 rfl ?_
  refine oc (y := mt_233) (pc := 1727) (ok_bipush dX7_init_1727 (by decide) ⟨by decide, by decide⟩) 1729 rfl ?_
  refine oc (y := mt_233) (pc := 1729) (ok_castore dX7_init_1729) 1730 rfl ?_
  refine oc (y := mt_233) (pc := 1730) (ok_dup dX7_init_1730) 1731 rfl ?_
  refine oc (y := mt_233) (pc := 1731) (ok_iconst dX7_init_1731 rfl ⟨by decide, by decide⟩) 1732 rfl ?_
  refine oc (y := mt_233) (pc := 1732) (ok_bipush dX7_init_1732 (by decide) ⟨by decide, by decide⟩) 1734 rfl ?_
  refine oc (y := mt_233) (pc := 1734) (ok_castore dX7_init_1734) 1735 rfl ?_
  refine oc (y := mt_233) (pc := 1735) (ok_dup dX7_init_1735) 1736 rfl ?_
  refine oc (y := mt_233) (pc := 1736) (ok_iconst dX7_init_1736 rfl ⟨by decide, by decide⟩) 1737 rfl ?_
  refine oc (y := mt_233) (pc := 1737) (ok_bipush dX7_init_1737 (by decide) ⟨by decide, by decide⟩) 1739 rfl ?_
  refine oc (y := mt_233) (pc := 1739) (ok_castore dX7_init_1739) 1740 rfl ?_
  refine oc (y := mt_233) (pc := 1740) (ok_putfield dX7_init_1740 (fp (own := "GardenChessModel") (idx := 260) (g := 9) (k := 109) (r := (RX7, TX7, 122)) rfl ⟨⟨by decide, by decide⟩, by decide⟩ (Or.inl q1921) (Or.inl rfl) rfl (Or.inr ⟨rfl, rfl, rfl, q1921⟩) (fp_nil))) 1743 rfl ?_
  refine oc (y := mt_233) (pc := 1743) (ok_aload_n dX7_init_1743) 1744 rfl ?_
  refine oc (y := mt_233) (pc := 1744) (ok_sipush dX7_init_1744 (by decide) ⟨by decide, by decide⟩) 1747 rfl ?_
  refine oc (y := mt_233) (pc := 1747) (ok_newarray dX7_init_1747 (by decide) q246) 1749 rfl ?_
  refine oc (y := mt_233) (pc := 1749) (ok_putfield dX7_init_1749 (fp (own := "GardenChessModel") (idx := 263) (g := 9) (k := 110) (r := (RX7, TX7, 122)) rfl ⟨⟨by decide, by decide⟩, by decide⟩ (Or.inl q1922) (Or.inl rfl) rfl (Or.inr ⟨rfl, rfl, rfl, q1922⟩) (fp_nil))) 1752 rfl ?_
  refine oc (y := mt_233) (pc := 1752) (ok_aload_n dX7_init_1752) 1753 rfl ?_
  exact oc_fall rfl
theorem o_233_1753 : okL gmt mt_233 1753 b_233_1753 := by
  refine oc (y := mt_233) (pc := 1753) (ok_sipush dX7_init_1753 (by decide) ⟨by decide, by decide⟩) 1756 rfl ?_
  refine oc (y := mt_233) (pc := 1756) (ok_newarray dX7_init_1756 (by decide) q246) 1758 rfl ?_
  refine oc (y := mt_233) (pc := 1758) (ok_putfield dX7_init_1758 (fp (own := "GardenChessModel") (idx := 266) (g := 9) (k := 112) (r := (RX7, TX7, 122)) rfl ⟨⟨by decide, by decide⟩, by decide⟩ (Or.inl q1924) (Or.inl rfl) rfl (Or.inr ⟨rfl, rfl, rfl, q1924⟩) (fp_nil))) 1761 rfl ?_
  refine oc (y := mt_233) (pc := 1761) (ok_aload_n dX7_init_1761) 1762 rfl ?_
  refine oc (y := mt_233) (pc := 1762) (ok_sipush dX7_init_1762 (by decide) ⟨by decide, by decide⟩) 1765 rfl ?_
  refine oc (y := mt_233) (pc := 1765) (ok_newarray dX7_init_1765 (by decide) q413) 1767 rfl ?_
  refine oc (y := mt_233) (pc := 1767) (ok_putfield dX7_init_1767 (fp (own := "GardenChessModel") (idx := 269) (g := 9) (k := 116) (r := (RX7, TX7, 122)) rfl ⟨⟨by decide, by decide⟩, by decide⟩ (Or.inl q1928) (Or.inl rfl) rfl (Or.inr ⟨rfl, rfl, rfl, q1928⟩) (fp_nil))) 1770 rfl ?_
  refine oc (y := mt_233) (pc := 1770) (ok_aload_n dX7_init_1770) 1771 rfl ?_
  refine oc (y := mt_233) (pc := 1771) (ok_bipush dX7_init_1771 (by decide) ⟨by decide, by decide⟩) 1773 rfl ?_
  refine oc (y := mt_233) (pc := 1773) (ok_newarray dX7_init_1773 (by decide) q246) 1775 rfl ?_
  refine oc (y := mt_233) (pc := 1775) (ok_putfield dX7_init_1775 (fp (own := "GardenChessModel") (idx := 272) (g := 9) (k := 120) (r := (RX7, TX7, 122)) rfl ⟨⟨by decide, by decide⟩, by decide⟩ (Or.inl q1932) (Or.inl rfl) rfl (Or.inr ⟨rfl, rfl, rfl, q1932⟩) (fp_nil))) 1778 rfl ?_
  exact oc_ret dX7_init_1778 rfl
theorem ok_233 : ∀ q ∈ pr_233, okL gmt mt_233 q.1 q.2 := pk_c o_233_0 (pk_c o_233_72 (pk_c o_233_136 (pk_c o_233_202 (pk_c o_233_266 (pk_c o_233_332 (pk_c o_233_398 (pk_c o_233_462 (pk_c o_233_527 (pk_c o_233_591 (pk_c o_233_656 (pk_c o_233_721 (pk_c o_233_785 (pk_c o_233_853 (pk_c o_233_920 (pk_c o_233_1006 (pk_c o_233_1100 (pk_c o_233_1165 (pk_c o_233_1229 (pk_c o_233_1293 (pk_c o_233_1359 (pk_c o_233_1425 (pk_c o_233_1489 (pk_c o_233_1554 (pk_c o_233_1621 (pk_c o_233_1685 (pk_c o_233_1753 (pk_n)))))))))))))))))))))))))))
theorem o_234_0 : okL gmt mt_234 0 b_234_0 := by
  refine oc (y := mt_234) (pc := 0) (ok_aload_n dX7_feed_0) 1 rfl ?_
  refine oc (y := mt_234) (pc := 1) (ok_getfield dX7_feed_1 (fg (own := "GardenChessModel") (idx := 275) (g := 9) (k := 1) (r := (RX7, TX7, 122)) rfl ⟨⟨by decide, by decide⟩, by decide⟩ (Or.inl q1813) (Or.inl rfl) rfl (fg_nil))) 4 rfl ?_
  refine oc (y := mt_234) (pc := 4) (ok_bipush dX7_feed_4 (by decide) ⟨by decide, by decide⟩) 6 rfl ?_
  refine oc (y := mt_234) (pc := 6) (ok_iadd dX7_feed_6) 7 rfl ?_
  refine oc (y := mt_234) (pc := 7) (ok_sipush dX7_feed_7 (by decide) ⟨by decide, by decide⟩) 10 rfl ?_
  refine oc_icmp dX7_feed_10 ⟨by decide, by decide⟩ 13 rfl ?_
  refine oc (y := mt_234) (pc := 13) (ok_aload_n dX7_feed_13) 14 rfl ?_
  refine oc (y := mt_234) (pc := 14) (ok_getfield dX7_feed_14 (fg (own := "GardenChessModel") (idx := 17) (g := 9) (k := 9) (r := (RX7, TX7, 122)) rfl ⟨⟨by decide, by decide⟩, by decide⟩ (Or.inl q1821) (Or.inl rfl) rfl (fg_nil))) 17 rfl ?_
  refine oc (y := mt_234) (pc := 17) (ok_iconst dX7_feed_17 rfl ⟨by decide, by decide⟩) 18 rfl ?_
  refine oc (y := mt_234) (pc := 18) (ok_dup2 dX7_feed_18) 19 rfl ?_
  refine oc (y := mt_234) (pc := 19) (ok_iaload dX7_feed_19) 20 rfl ?_
  refine oc (y := mt_234) (pc := 20) (ok_iconst dX7_feed_20 rfl ⟨by decide, by decide⟩) 21 rfl ?_
  refine oc (y := mt_234) (pc := 21) (ok_iadd dX7_feed_21) 22 rfl ?_
  refine oc (y := mt_234) (pc := 22) (ok_iastore dX7_feed_22) 23 rfl ?_
  refine oc (y := mt_234) (pc := 23) (ok_iconst dX7_feed_23 rfl ⟨by decide, by decide⟩) 24 rfl ?_
  exact oc_iret dX7_feed_24 rfl
theorem o_234_25 : okL gmt mt_234 25 b_234_25 := by
  refine oc (y := mt_234) (pc := 25) (ok_iconst dX7_feed_25 rfl ⟨by decide, by decide⟩) 26 rfl ?_
  refine oc (y := mt_234) (pc := 26) (ok_istore dX7_feed_26 (by decide)) 28 rfl ?_
  exact oc_fall rfl
theorem o_234_28 : okL gmt mt_234 28 b_234_28 := by
  refine oc (y := mt_234) (pc := 28) (ok_iload dX7_feed_28) 30 rfl ?_
  refine oc (y := mt_234) (pc := 30) (ok_bipush dX7_feed_30 (by decide) ⟨by decide, by decide⟩) 32 rfl ?_
  refine oc_icmp dX7_feed_32 ⟨by decide, by decide⟩ 35 rfl ?_
  refine oc (y := mt_234) (pc := 35) (ok_iload dX7_feed_35) 37 rfl ?_
  refine oc (y := mt_234) (pc := 37) (ok_iconst dX7_feed_37 rfl ⟨by decide, by decide⟩) 38 rfl ?_
  refine oc_icmp dX7_feed_38 ⟨by decide, by decide⟩ 41 rfl ?_
  refine oc (y := mt_234) (pc := 41) (ok_iload_n dX7_feed_41) 42 rfl ?_
  exact oc_goto dX7_feed_42 ⟨by decide, by decide⟩
theorem o_234_45 : okL gmt mt_234 45 b_234_45 := by
  refine oc (y := mt_234) (pc := 45) (ok_iload dX7_feed_45) 47 rfl ?_
  refine oc (y := mt_234) (pc := 47) (ok_bipush dX7_feed_47 (by decide) ⟨by decide, by decide⟩) 49 rfl ?_
  refine oc_icmp dX7_feed_49 ⟨by decide, by decide⟩ 52 rfl ?_
  refine oc (y := mt_234) (pc := 52) (ok_iload_n dX7_feed_52) 53 rfl ?_
  exact oc_goto dX7_feed_53 ⟨by decide, by decide⟩
theorem o_234_56 : okL gmt mt_234 56 b_234_56 := by
  refine oc (y := mt_234) (pc := 56) (ok_iload dX7_feed_56) 58 rfl ?_
  refine oc (y := mt_234) (pc := 58) (ok_bipush dX7_feed_58 (by decide) ⟨by decide, by decide⟩) 60 rfl ?_
  refine oc_icmp dX7_feed_60 ⟨by decide, by decide⟩ 63 rfl ?_
  refine oc (y := mt_234) (pc := 63) (ok_iload_n dX7_feed_63) 64 rfl ?_
  exact oc_goto dX7_feed_64 ⟨by decide, by decide⟩
theorem o_234_67 : okL gmt mt_234 67 b_234_67 := by
  refine oc (y := mt_234) (pc := 67) (ok_iload dX7_feed_67) 69 rfl ?_
  refine oc (y := mt_234) (pc := 69) (ok_bipush dX7_feed_69 (by decide) ⟨by decide, by decide⟩) 71 rfl ?_
  refine oc_icmp dX7_feed_71 ⟨by decide, by decide⟩ 74 rfl ?_
  refine oc (y := mt_234) (pc := 74) (ok_iload dX7_feed_74) 76 rfl ?_
  exact oc_goto dX7_feed_76 ⟨by decide, by decide⟩
theorem o_234_79 : okL gmt mt_234 79 b_234_79 := by
  refine oc (y := mt_234) (pc := 79) (ok_iload dX7_feed_79) 81 rfl ?_
  exact oc_fall rfl
theorem o_234_81 : okL gmt mt_234 81 b_234_81 := by
  refine oc (y := mt_234) (pc := 81) (ok_istore dX7_feed_81 (by decide)) 83 rfl ?_
  refine oc (y := mt_234) (pc := 83) (ok_aload_n dX7_feed_83) 84 rfl ?_
  refine oc (y := mt_234) (pc := 84) (ok_getfield dX7_feed_84 (fg (own := "GardenChessModel") (idx := 7) (g := 9) (k := 0) (r := (RX7, TX7, 122)) rfl ⟨⟨by decide, by decide⟩, by decide⟩ (Or.inl q1812) (Or.inl rfl) rfl (fg_nil))) 87 rfl ?_
  refine oc (y := mt_234) (pc := 87) (ok_aload_n dX7_feed_87) 88 rfl ?_
  refine oc (y := mt_234) (pc := 88) (ok_getfield dX7_feed_88 (fg (own := "GardenChessModel") (idx := 275) (g := 9) (k := 1) (r := (RX7, TX7, 122)) rfl ⟨⟨by decide, by decide⟩, by decide⟩ (Or.inl q1813) (Or.inl rfl) rfl (fg_nil))) 91 rfl ?_
  refine oc (y := mt_234) (pc := 91) (ok_iload dX7_feed_91) 93 rfl ?_
  refine oc (y := mt_234) (pc := 93) (ok_bipush dX7_feed_93 (by decide) ⟨by decide, by decide⟩) 95 rfl ?_
  refine oc (y := mt_234) (pc := 95) (ok_iconst dX7_feed_95 rfl ⟨by decide, by decide⟩) 96 rfl ?_
  refine oc (y := mt_234) (pc := 96) (ok_iload dX7_feed_96) 98 rfl ?_
  refine oc (y := mt_234) (pc := 98) (ok_iconst dX7_feed_98 rfl ⟨by decide, by decide⟩) 99 rfl ?_
  refine oc (y := mt_234) (pc := 99) (ok_irem dX7_feed_99) 100 rfl ?_
  refine oc (y := mt_234) (pc := 100) (ok_isub dX7_feed_100) 101 rfl ?_
  refine oc (y := mt_234) (pc := 101) (ok_imul dX7_feed_101) 102 rfl ?_
  refine oc (y := mt_234) (pc := 102) (ok_ishr dX7_feed_102) 103 rfl ?_
  refine oc (y := mt_234) (pc := 103) (ok_sipush dX7_feed_103 (by decide) ⟨by decide, by decide⟩) 106 rfl ?_
  refine oc (y := mt_234) (pc := 106) (ok_iand dX7_feed_106) 107 rfl ?_
  refine oc (y := mt_234) (pc := 107) (ok_iastore dX7_feed_107) 108 rfl ?_
  refine oc (y := mt_234) (pc := 108) (ok_aload_n dX7_feed_108) 109 rfl ?_
  refine oc (y := mt_234) (pc := 109) (ok_dup dX7_feed_109) 110 rfl ?_
  refine oc (y := mt_234) (pc := 110) (ok_getfield dX7_feed_110 (fg (own := "GardenChessModel") (idx := 275) (g := 9) (k := 1) (r := (RX7, TX7, 122)) rfl ⟨⟨by decide, by decide⟩, by decide⟩ (Or.inl q1813) (Or.inl rfl) rfl (fg_nil))) 113 rfl ?_
  refine oc (y := mt_234) (pc := 113) (ok_iconst dX7_feed_113 rfl ⟨by decide, by decide⟩) 114 rfl ?_
  refine oc (y := mt_234) (pc := 114) (ok_iadd dX7_feed_114) 115 rfl ?_
  refine oc (y := mt_234) (pc := 115) (ok_putfield dX7_feed_115 (fp (own := "GardenChessModel") (idx := 275) (g := 9) (k := 1) (r := (RX7, TX7, 122)) rfl ⟨⟨by decide, by decide⟩, by decide⟩ (Or.inl q1813) (Or.inl rfl) rfl (Or.inl rfl) (fp_nil))) 118 rfl ?_
  refine oc (y := mt_234) (pc := 118) (ok_iinc dX7_feed_118 (by decide)) 121 rfl ?_
  exact oc_goto dX7_feed_121 ⟨by decide, by decide⟩
theorem o_234_124 : okL gmt mt_234 124 b_234_124 := by
  refine oc (y := mt_234) (pc := 124) (ok_aload_n dX7_feed_124) 125 rfl ?_
  refine oc (y := mt_234) (pc := 125) (ok_getfield dX7_feed_125 (fg (own := "GardenChessModel") (idx := 275) (g := 9) (k := 1) (r := (RX7, TX7, 122)) rfl ⟨⟨by decide, by decide⟩, by decide⟩ (Or.inl q1813) (Or.inl rfl) rfl (fg_nil))) 128 rfl ?_
  exact oc_iret dX7_feed_128 rfl
theorem ok_234 : ∀ q ∈ pr_234, okL gmt mt_234 q.1 q.2 := pk_c o_234_0 (pk_c o_234_25 (pk_c o_234_28 (pk_c o_234_45 (pk_c o_234_56 (pk_c o_234_67 (pk_c o_234_79 (pk_c o_234_81 (pk_c o_234_124 (pk_n)))))))))
theorem o_235_0 : okL gmt mt_235 0 b_235_0 := by
  refine oc (y := mt_235) (pc := 0) (ok_iload_n dX7_end_0) 1 rfl ?_
  refine oc_if dX7_end_1 ⟨by decide, by decide⟩ 4 rfl ?_
  refine oc (y := mt_235) (pc := 4) (ok_iload_n dX7_end_4) 5 rfl ?_
  refine oc (y := mt_235) (pc := 5) (ok_aload_n dX7_end_5) 6 rfl ?_
  refine oc (y := mt_235) (pc := 6) (ok_getfield dX7_end_6 (fg (own := "GardenChessModel") (idx := 275) (g := 9) (k := 1) (r := (RX7, TX7, 122)) rfl ⟨⟨by decide, by decide⟩, by decide⟩ (Or.inl q1813) (Or.inl rfl) rfl (fg_nil))) 9 rfl ?_
  refine oc_icmp dX7_end_9 ⟨by decide, by decide⟩ 12 rfl ?_
  exact oc_fall rfl
theorem o_235_12 : okL gmt mt_235 12 b_235_12 := by
  refine oc (y := mt_235) (pc := 12) (ok_aload_n dX7_end_12) 13 rfl ?_
  refine oc (y := mt_235) (pc := 13) (ok_getfield dX7_end_13 (fg (own := "GardenChessModel") (idx := 17) (g := 9) (k := 9) (r := (RX7, TX7, 122)) rfl ⟨⟨by decide, by decide⟩, by decide⟩ (Or.inl q1821) (Or.inl rfl) rfl (fg_nil))) 16 rfl ?_
  refine oc (y := mt_235) (pc := 16) (ok_iconst dX7_end_16 rfl ⟨by decide, by decide⟩) 17 rfl ?_
  refine oc (y := mt_235) (pc := 17) (ok_dup2 dX7_end_17) 18 rfl ?_
  refine oc (y := mt_235) (pc := 18) (ok_iaload dX7_end_18) 19 rfl ?_
  refine oc (y := mt_235) (pc := 19) (ok_iconst dX7_end_19 rfl ⟨by decide, by decide⟩) 20 rfl ?_
  refine oc (y := mt_235) (pc := 20) (ok_iadd dX7_end_20) 21 rfl ?_
  refine oc (y := mt_235) (pc := 21) (ok_iastore dX7_end_21) 22 rfl ?_
  refine oc (y := mt_235) (pc := 22) (ok_iconst dX7_end_22 rfl ⟨by decide, by decide⟩) 23 rfl ?_
  exact oc_zret dX7_end_23 rfl
theorem o_235_24 : okL gmt mt_235 24 b_235_24 := by
  refine oc (y := mt_235) (pc := 24) (ok_aload_n dX7_end_24) 25 rfl ?_
  refine oc (y := mt_235) (pc := 25) (ok_iload_n dX7_end_25) 26 rfl ?_
  refine oc (y := mt_235) (pc := 26) (ok_putfield dX7_end_26 (fp (own := "GardenChessModel") (idx := 275) (g := 9) (k := 1) (r := (RX7, TX7, 122)) rfl ⟨⟨by decide, by decide⟩, by decide⟩ (Or.inl q1813) (Or.inl rfl) rfl (Or.inl rfl) (fp_nil))) 29 rfl ?_
  refine oc (y := mt_235) (pc := 29) (ok_iconst dX7_end_29 rfl ⟨by decide, by decide⟩) 30 rfl ?_
  exact oc_zret dX7_end_30 rfl
theorem ok_235 : ∀ q ∈ pr_235, okL gmt mt_235 q.1 q.2 := pk_c o_235_0 (pk_c o_235_12 (pk_c o_235_24 (pk_n)))
theorem o_236_0 : okL gmt mt_236 0 b_236_0 := by
  refine oc (y := mt_236) (pc := 0) (ok_aload_n dX7_board_0) 1 rfl ?_
  refine oc (y := mt_236) (pc := 1) (ok_aload_n dX7_board_1) 2 rfl ?_
  refine oc (y := mt_236) (pc := 2) (ok_getfield dX7_board_2 (fg (own := "GardenChessModel") (idx := 275) (g := 9) (k := 1) (r := (RX7, TX7, 122)) rfl ⟨⟨by decide, by decide⟩, by decide⟩ (Or.inl q1813) (Or.inl rfl) rfl (fg_nil))) 5 rfl ?_
  refine oc (y := mt_236) (pc := 5) (ok_putfield dX7_board_5 (fp (own := "GardenChessModel") (idx := 287) (g := 9) (k := 3) (r := (RX7, TX7, 122)) rfl ⟨⟨by decide, by decide⟩, by decide⟩ (Or.inl q1815) (Or.inl rfl) rfl (Or.inl rfl) (fp_nil))) 8 rfl ?_
  refine oc (y := mt_236) (pc := 8) (ok_aload_n dX7_board_8) 9 rfl ?_
  refine oc (y := mt_236) (pc := 9) (ok_iconst dX7_board_9 rfl ⟨by decide, by decide⟩) 10 rfl ?_
  refine oc (y := mt_236) (pc := 10) (ok_putfield dX7_board_10 (fp (own := "GardenChessModel") (idx := 275) (g := 9) (k := 1) (r := (RX7, TX7, 122)) rfl ⟨⟨by decide, by decide⟩, by decide⟩ (Or.inl q1813) (Or.inl rfl) rfl (Or.inl rfl) (fp_nil))) 13 rfl ?_
  refine oc (y := mt_236) (pc := 13) (ok_aload_n dX7_board_13) 14 rfl ?_
  refine oc (y := mt_236) (pc := 14) (ok_iconst dX7_board_14 rfl ⟨by decide, by decide⟩) 15 rfl ?_
  refine oc (y := mt_236) (pc := 15) (ok_putfield dX7_board_15 (fp (own := "GardenChessModel") (idx := 284) (g := 9) (k := 2) (r := (RX7, TX7, 122)) rfl ⟨⟨by decide, by decide⟩, by decide⟩ (Or.inl q1814) (Or.inl rfl) rfl (Or.inl rfl) (fp_nil))) 18 rfl ?_
  refine oc (y := mt_236) (pc := 18) (ok_aload_n dX7_board_18) 19 rfl ?_
  refine oc (y := mt_236) (pc := 19) (ok_iconst dX7_board_19 rfl ⟨by decide, by decide⟩) 20 rfl ?_
  refine oc (y := mt_236) (pc := 20) (ok_putfield dX7_board_20 (fp (own := "GardenChessModel") (idx := 298) (g := 9) (k := 4) (r := (RX7, TX7, 122)) rfl ⟨⟨by decide, by decide⟩, by decide⟩ (Or.inl q1816) (Or.inl rfl) rfl (Or.inl rfl) (fp_nil))) 23 rfl ?_
  refine oc (y := mt_236) (pc := 23) (ok_aload_n dX7_board_23) 24 rfl ?_
  refine oc (y := mt_236) (pc := 24) (ok_iconst dX7_board_24 rfl ⟨by decide, by decide⟩) 25 rfl ?_
  refine oc (y := mt_236) (pc := 25) (ok_putfield dX7_board_25 (fp (own := "GardenChessModel") (idx := 278) (g := 9) (k := 5) (r := (RX7, TX7, 122)) rfl ⟨⟨by decide, by decide⟩, by decide⟩ (Or.inl q1817) (Or.inl rfl) rfl (Or.inl rfl) (fp_nil))) 28 rfl ?_
  refine oc (y := mt_236) (pc := 28) (ok_aload_n dX7_board_28) 29 rfl ?_
  refine oc (y := mt_236) (pc := 29) (ok_iconst dX7_board_29 rfl ⟨by decide, by decide⟩) 30 rfl ?_
  refine oc (y := mt_236) (pc := 30) (ok_putfield dX7_board_30 (fp (own := "GardenChessModel") (idx := 281) (g := 9) (k := 6) (r := (RX7, TX7, 122)) rfl ⟨⟨by decide, by decide⟩, by decide⟩ (Or.inl q1818) (Or.inl rfl) rfl (Or.inl rfl) (fp_nil))) 33 rfl ?_
  refine oc (y := mt_236) (pc := 33) (ok_aload_n dX7_board_33) 34 rfl ?_
  refine oc (y := mt_236) (pc := 34) (ok_iconst dX7_board_34 rfl ⟨by decide, by decide⟩) 35 rfl ?_
  refine oc (y := mt_236) (pc := 35) (ok_putfield dX7_board_35 (fp (own := "GardenChessModel") (idx := 394) (g := 9) (k := 56) (r := (RX7, TX7, 122)) rfl ⟨⟨by decide, by decide⟩, by decide⟩ (Or.inl q1868) (Or.inl rfl) rfl (Or.inl rfl) (fp_nil))) 38 rfl ?_
  refine oc (y := mt_236) (pc := 38) (ok_iconst dX7_board_38 rfl ⟨by decide, by decide⟩) 39 rfl ?_
  refine oc (y := mt_236) (pc := 39) (ok_istore_n dX7_board_39 (by decide)) 40 rfl ?_
  exact oc_fall rfl
theorem o_236_40 : okL gmt mt_236 40 b_236_40 := by
  refine oc (y := mt_236) (pc := 40) (ok_iload_n dX7_board_40) 41 rfl ?_
  refine oc (y := mt_236) (pc := 41) (ok_iconst dX7_board_41 rfl ⟨by decide, by decide⟩) 42 rfl ?_
  refine oc_icmp dX7_board_42 ⟨by decide, by decide⟩ 45 rfl ?_
  refine oc (y := mt_236) (pc := 45) (ok_aload_n dX7_board_45) 46 rfl ?_
  refine oc (y := mt_236) (pc := 46) (ok_getfield dX7_board_46 (fg (own := "GardenChessModel") (idx := 120) (g := 9) (k := 45) (r := (RX7, TX7, 122)) rfl ⟨⟨by decide, by decide⟩, by decide⟩ (Or.inl q1857) (Or.inl rfl) rfl (fg_nil))) 49 rfl ?_
  refine oc (y := mt_236) (pc := 49) (ok_iload_n dX7_board_49) 50 rfl ?_
  refine oc (y := mt_236) (pc := 50) (ok_iconst dX7_board_50 rfl ⟨by decide, by decide⟩) 51 rfl ?_
  refine oc (y := mt_236) (pc := 51) (ok_iastore dX7_board_51) 52 rfl ?_
  refine oc (y := mt_236) (pc := 52) (ok_iinc dX7_board_52 (by decide)) 55 rfl ?_
  exact oc_goto dX7_board_55 ⟨by decide, by decide⟩
theorem o_236_58 : okL gmt mt_236 58 b_236_58 := by
  refine oc (y := mt_236) (pc := 58) (ok_aload_n dX7_board_58) 59 rfl ?_
  refine oc (y := mt_236) (pc := 59) (ok_getfield dX7_board_59 (fg (own := "GardenChessModel") (idx := 142) (g := 9) (k := 52) (r := (RX7, TX7, 122)) rfl ⟨⟨by decide, by decide⟩, by decide⟩ (Or.inl q1864) (Or.inl rfl) rfl (fg_nil))) 62 rfl ?_
  refine oc (y := mt_236) (pc := 62) (ok_iconst dX7_board_62 rfl ⟨by decide, by decide⟩) 63 rfl ?_
  refine oc (y := mt_236) (pc := 63) (ok_iconst dX7_board_63 rfl ⟨by decide, by decide⟩) 64 rfl ?_
  refine oc (y := mt_236) (pc := 64) (ok_iastore dX7_board_64) 65 rfl ?_
  refine oc (y := mt_236) (pc := 65) (ok_aload_n dX7_board_65) 66 rfl ?_
  refine oc (y := mt_236) (pc := 66) (ok_getfield dX7_board_66 (fg (own := "GardenChessModel") (idx := 142) (g := 9) (k := 52) (r := (RX7, TX7, 122)) rfl ⟨⟨by decide, by decide⟩, by decide⟩ (Or.inl q1864) (Or.inl rfl) rfl (fg_nil))) 69 rfl ?_
  refine oc (y := mt_236) (pc := 69) (ok_iconst dX7_board_69 rfl ⟨by decide, by decide⟩) 70 rfl ?_
  refine oc (y := mt_236) (pc := 70) (ok_iconst dX7_board_70 rfl ⟨by decide, by decide⟩) 71 rfl ?_
  refine oc (y := mt_236) (pc := 71) (ok_iastore dX7_board_71) 72 rfl ?_
  refine oc (y := mt_236) (pc := 72) (ok_aload_n dX7_board_72) 73 rfl ?_
  refine oc (y := mt_236) (pc := 73) (ok_getfield dX7_board_73 (fg (own := "GardenChessModel") (idx := 145) (g := 9) (k := 53) (r := (RX7, TX7, 122)) rfl ⟨⟨by decide, by decide⟩, by decide⟩ (Or.inl q1865) (Or.inl rfl) rfl (fg_nil))) 76 rfl ?_
  refine oc (y := mt_236) (pc := 76) (ok_iconst dX7_board_76 rfl ⟨by decide, by decide⟩) 77 rfl ?_
  refine oc (y := mt_236) (pc := 77) (ok_iconst dX7_board_77 rfl ⟨by decide, by decide⟩) 78 rfl ?_
  refine oc (y := mt_236) (pc := 78) (ok_iastore dX7_board_78) 79 rfl ?_
  refine oc (y := mt_236) (pc := 79) (ok_aload_n dX7_board_79) 80 rfl ?_
  refine oc_V (y := mt_236) (pc := 80) (vcons (y := mt_236) (pc := 80) (len := 3) (n := 1) (M := mt_237) (by decide) rfl (Or.inr rfl) rfl (ck_V dX7_board_80 ⟨by decide, by decide, by decide, by decide +kernel⟩ q2191 q2193 qs56 q177 q2194) vnil) (hok0 rfl) (by decide) 83 rfl ?_
  refine oc (y := mt_236) (pc := 83) (ok_aload_n dX7_board_83) 84 rfl ?_
  refine oc (y := mt_236) (pc := 84) (ok_iconst dX7_board_84 rfl ⟨by decide, by decide⟩) 85 rfl ?_
  refine oc (y := mt_236) (pc := 85) (ok_putfield dX7_board_85 (fp (own := "GardenChessModel") (idx := 397) (g := 9) (k := 57) (r := (RX7, TX7, 122)) rfl ⟨⟨by decide, by decide⟩, by decide⟩ (Or.inl q1869) (Or.inl rfl) rfl (Or.inl rfl) (fp_nil))) 88 rfl ?_
  exact oc_fall rfl
theorem o_236_88 : okL gmt mt_236 88 b_236_88 := by
  refine oc (y := mt_236) (pc := 88) (ok_aload_n dX7_board_88) 89 rfl ?_
  refine oc (y := mt_236) (pc := 89) (ok_getfield dX7_board_89 (fg (own := "GardenChessModel") (idx := 278) (g := 9) (k := 5) (r := (RX7, TX7, 122)) rfl ⟨⟨by decide, by decide⟩, by decide⟩ (Or.inl q1817) (Or.inl rfl) rfl (fg_nil))) 92 rfl ?_
  refine oc_if dX7_board_92 ⟨by decide, by decide⟩ 95 rfl ?_
  refine oc (y := mt_236) (pc := 95) (ok_aload_n dX7_board_95) 96 rfl ?_
  refine oc_V (y := mt_236) (pc := 96) (vcons (y := mt_236) (pc := 96) (len := 3) (n := 1) (M := mt_241) (by decide) rfl (Or.inr rfl) rfl (ck_V dX7_board_96 ⟨by decide, by decide, by decide, by decide +kernel⟩ q2207 q2209 qs60 q177 q2210) vnil) (hok0 rfl) (by decide) 99 rfl ?_
  refine oc (y := mt_236) (pc := 99) (ok_iconst dX7_board_99 rfl ⟨by decide, by decide⟩) 100 rfl ?_
  refine oc_icmp dX7_board_100 ⟨by decide, by decide⟩ 103 rfl ?_
  refine oc (y := mt_236) (pc := 103) (ok_aload_n dX7_board_103) 104 rfl ?_
  refine oc_V (y := mt_236) (pc := 104) (vcons (y := mt_236) (pc := 104) (len := 3) (n := 1) (M := mt_249) (by decide) rfl (Or.inr rfl) rfl (ck_V dX7_board_104 ⟨by decide, by decide, by decide, by decide +kernel⟩ q2236 q2238 qs65 q177 q2239) vnil) (hok0 rfl) (by decide) 107 rfl ?_
  exact oc_goto dX7_board_107 ⟨by decide, by decide⟩
theorem o_236_110 : okL gmt mt_236 110 b_236_110 := by
  refine oc (y := mt_236) (pc := 110) (ok_aload_n dX7_board_110) 111 rfl ?_
  refine oc (y := mt_236) (pc := 111) (ok_aload_n dX7_board_111) 112 rfl ?_
  refine oc (y := mt_236) (pc := 112) (ok_getfield dX7_board_112 (fg (own := "GardenChessModel") (idx := 278) (g := 9) (k := 5) (r := (RX7, TX7, 122)) rfl ⟨⟨by decide, by decide⟩, by decide⟩ (Or.inl q1817) (Or.inl rfl) rfl (fg_nil))) 115 rfl ?_
  refine oc (y := mt_236) (pc := 115) (ok_putfield dX7_board_115 (fp (own := "GardenChessModel") (idx := 418) (g := 9) (k := 7) (r := (RX7, TX7, 122)) rfl ⟨⟨by decide, by decide⟩, by decide⟩ (Or.inl q1819) (Or.inl rfl) rfl (Or.inl rfl) (fp_nil))) 118 rfl ?_
  refine oc (y := mt_236) (pc := 118) (ok_aload_n dX7_board_118) 119 rfl ?_
  refine oc (y := mt_236) (pc := 119) (ok_aload_n dX7_board_119) 120 rfl ?_
  refine oc (y := mt_236) (pc := 120) (ok_getfield dX7_board_120 (fg (own := "GardenChessModel") (idx := 281) (g := 9) (k := 6) (r := (RX7, TX7, 122)) rfl ⟨⟨by decide, by decide⟩, by decide⟩ (Or.inl q1818) (Or.inl rfl) rfl (fg_nil))) 123 rfl ?_
  refine oc (y := mt_236) (pc := 123) (ok_putfield dX7_board_123 (fp (own := "GardenChessModel") (idx := 13) (g := 9) (k := 8) (r := (RX7, TX7, 122)) rfl ⟨⟨by decide, by decide⟩, by decide⟩ (Or.inl q1820) (Or.inl rfl) rfl (Or.inl rfl) (fp_nil))) 126 rfl ?_
  refine oc (y := mt_236) (pc := 126) (ok_aload_n dX7_board_126) 127 rfl ?_
  refine oc (y := mt_236) (pc := 127) (ok_getfield dX7_board_127 (fg (own := "GardenChessModel") (idx := 278) (g := 9) (k := 5) (r := (RX7, TX7, 122)) rfl ⟨⟨by decide, by decide⟩, by decide⟩ (Or.inl q1817) (Or.inl rfl) rfl (fg_nil))) 130 rfl ?_
  refine oc_if dX7_board_130 ⟨by decide, by decide⟩ 133 rfl ?_
  refine oc (y := mt_236) (pc := 133) (ok_aload_n dX7_board_133) 134 rfl ?_
  refine oc (y := mt_236) (pc := 134) (ok_getfield dX7_board_134 (fg (own := "GardenChessModel") (idx := 17) (g := 9) (k := 9) (r := (RX7, TX7, 122)) rfl ⟨⟨by decide, by decide⟩, by decide⟩ (Or.inl q1821) (Or.inl rfl) rfl (fg_nil))) 137 rfl ?_
  refine oc (y := mt_236) (pc := 137) (ok_iconst dX7_board_137 rfl ⟨by decide, by decide⟩) 138 rfl ?_
  refine oc (y := mt_236) (pc := 138) (ok_dup2 dX7_board_138) 139 rfl ?_
  refine oc (y := mt_236) (pc := 139) (ok_iaload dX7_board_139) 140 rfl ?_
  refine oc (y := mt_236) (pc := 140) (ok_iconst dX7_board_140 rfl ⟨by decide, by decide⟩) 141 rfl ?_
  refine oc (y := mt_236) (pc := 141) (ok_iadd dX7_board_141) 142 rfl ?_
  refine oc (y := mt_236) (pc := 142) (ok_iastore dX7_board_142) 143 rfl ?_
  refine oc (y := mt_236) (pc := 143) (ok_iconst dX7_board_143 rfl ⟨by decide, by decide⟩) 144 rfl ?_
  exact oc_iret dX7_board_144 rfl
theorem o_236_145 : okL gmt mt_236 145 b_236_145 := by
  refine oc (y := mt_236) (pc := 145) (ok_aload_n dX7_board_145) 146 rfl ?_
  refine oc_V (y := mt_236) (pc := 146) (vcons (y := mt_236) (pc := 146) (len := 3) (n := 1) (M := mt_276) (by decide) rfl (Or.inr rfl) rfl (ck_V dX7_board_146 ⟨by decide, by decide, by decide, by decide +kernel⟩ q2345 q2347 qs91 q177 q2348) vnil) (hok0 rfl) (by decide) 149 rfl ?_
  refine oc (y := mt_236) (pc := 149) (ok_aload_n dX7_board_149) 150 rfl ?_
  refine oc (y := mt_236) (pc := 150) (ok_getfield dX7_board_150 (fg (own := "GardenChessModel") (idx := 397) (g := 9) (k := 57) (r := (RX7, TX7, 122)) rfl ⟨⟨by decide, by decide⟩, by decide⟩ (Or.inl q1869) (Or.inl rfl) rfl (fg_nil))) 153 rfl ?_
  exact oc_iret dX7_board_153 rfl
theorem ok_236 : ∀ q ∈ pr_236, okL gmt mt_236 q.1 q.2 := pk_c o_236_0 (pk_c o_236_40 (pk_c o_236_58 (pk_c o_236_88 (pk_c o_236_110 (pk_c o_236_145 (pk_n))))))
