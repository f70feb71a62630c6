set_option maxRecDepth 100000
theorem o_89_0 : okL gmt mt_89 0 b_89_0 := by
  refine oc (y := mt_89) (pc := 0) (ok_aload_n dX0_taken_0) 1 rfl ?_
  refine oc (y := mt_89) (pc := 1) (ok_getfield dX0_taken_1 (fg (own := "GardenChess") (idx := 117) (g := 1) (k := 2) (r := (RX0, TX0, 25)) rfl ⟨⟨by decide, by decide⟩, by decide⟩ (Or.inl q542) (Or.inl rfl) rfl (fg_nil))) 4 rfl ?_
  refine oc (y := mt_89) (pc := 4) (ok_istore_n dX0_taken_4 (by decide)) 5 rfl ?_
  refine oc (y := mt_89) (pc := 5) (ok_aload_n dX0_taken_5) 6 rfl ?_
  refine oc (y := mt_89) (pc := 6) (ok_iconst dX0_taken_6 rfl ⟨by decide, by decide⟩) 7 rfl ?_
  refine oc (y := mt_89) (pc := 7) (ok_putfield dX0_taken_7 (fp (own := "GardenChess") (idx := 117) (g := 1) (k := 2) (r := (RX0, TX0, 25)) rfl ⟨⟨by decide, by decide⟩, by decide⟩ (Or.inl q542) (Or.inl rfl) rfl (Or.inl rfl) (fp_nil))) 10 rfl ?_
  refine oc (y := mt_89) (pc := 10) (ok_iload_n dX0_taken_10) 11 rfl ?_
  exact oc_iret dX0_taken_11 rfl
theorem ok_89 : ∀ q ∈ pr_89, okL gmt mt_89 q.1 q.2 := pk_c o_89_0 (pk_n)
theorem o_90_0 : okL gmt mt_90 0 b_90_0 := by
  refine oc (y := mt_90) (pc := 0) (ok_iload_n dX0_isLetter_0) 1 rfl ?_
  refine oc (y := mt_90) (pc := 1) (ok_bipush dX0_isLetter_1 (by decide) ⟨by decide, by decide⟩) 3 rfl ?_
  refine oc_icmp dX0_isLetter_3 ⟨by decide, by decide⟩ 6 rfl ?_
  refine oc (y := mt_90) (pc := 6) (ok_iload_n dX0_isLetter_6) 7 rfl ?_
  refine oc (y := mt_90) (pc := 7) (ok_bipush dX0_isLetter_7 (by decide) ⟨by decide, by decide⟩) 9 rfl ?_
  refine oc_icmp dX0_isLetter_9 ⟨by decide, by decide⟩ 12 rfl ?_
  refine oc (y := mt_90) (pc := 12) (ok_iconst dX0_isLetter_12 rfl ⟨by decide, by decide⟩) 13 rfl ?_
  exact oc_goto dX0_isLetter_13 ⟨by decide, by decide⟩
theorem o_90_16 : okL gmt mt_90 16 b_90_16 := by
  refine oc (y := mt_90) (pc := 16) (ok_iconst dX0_isLetter_16 rfl ⟨by decide, by decide⟩) 17 rfl ?_
  exact oc_fall rfl
theorem o_90_17 : okL gmt mt_90 17 b_90_17 := by
  exact oc_zret dX0_isLetter_17 rfl
theorem ok_90 : ∀ q ∈ pr_90, okL gmt mt_90 q.1 q.2 := pk_c o_90_0 (pk_c o_90_16 (pk_c o_90_17 (pk_n)))
theorem o_91_0 : okL gmt mt_91 0 b_91_0 := by
  refine oc (y := mt_91) (pc := 0) (ok_iload_n dX0_isDigit_0) 1 rfl ?_
  refine oc (y := mt_91) (pc := 1) (ok_bipush dX0_isDigit_1 (by decide) ⟨by decide, by decide⟩) 3 rfl ?_
  refine oc_icmp dX0_isDigit_3 ⟨by decide, by decide⟩ 6 rfl ?_
  refine oc (y := mt_91) (pc := 6) (ok_iload_n dX0_isDigit_6) 7 rfl ?_
  refine oc (y := mt_91) (pc := 7) (ok_bipush dX0_isDigit_7 (by decide) ⟨by decide, by decide⟩) 9 rfl ?_
  refine oc_icmp dX0_isDigit_9 ⟨by decide, by decide⟩ 12 rfl ?_
  refine oc (y := mt_91) (pc := 12) (ok_iconst dX0_isDigit_12 rfl ⟨by decide, by decide⟩) 13 rfl ?_
  exact oc_goto dX0_isDigit_13 ⟨by decide, by decide⟩
theorem o_91_16 : okL gmt mt_91 16 b_91_16 := by
  refine oc (y := mt_91) (pc := 16) (ok_iconst dX0_isDigit_16 rfl ⟨by decide, by decide⟩) 17 rfl ?_
  exact oc_fall rfl
theorem o_91_17 : okL gmt mt_91 17 b_91_17 := by
  exact oc_zret dX0_isDigit_17 rfl
theorem ok_91 : ∀ q ∈ pr_91, okL gmt mt_91 q.1 q.2 := pk_c o_91_0 (pk_c o_91_16 (pk_c o_91_17 (pk_n)))
theorem o_92_0 : okL gmt mt_92 0 b_92_0 := by
  refine oc (y := mt_92) (pc := 0) (ok_iload_n dX0_is_0) 1 rfl ?_
  refine oc (y := mt_92) (pc := 1) (ok_iload_n dX0_is_1) 2 rfl ?_
  refine oc_icmp dX0_is_2 ⟨by decide, by decide⟩ 5 rfl ?_
  refine oc (y := mt_92) (pc := 5) (ok_iload_n dX0_is_5) 6 rfl ?_
  refine oc (y := mt_92) (pc := 6) (ok_iload_n dX0_is_6) 7 rfl ?_
  refine oc_icmp dX0_is_7 ⟨by decide, by decide⟩ 10 rfl ?_
  refine oc (y := mt_92) (pc := 10) (ok_iconst dX0_is_10 rfl ⟨by decide, by decide⟩) 11 rfl ?_
  exact oc_goto dX0_is_11 ⟨by decide, by decide⟩
theorem o_92_14 : okL gmt mt_92 14 b_92_14 := by
  refine oc (y := mt_92) (pc := 14) (ok_iconst dX0_is_14 rfl ⟨by decide, by decide⟩) 15 rfl ?_
  exact oc_fall rfl
theorem o_92_15 : okL gmt mt_92 15 b_92_15 := by
  exact oc_zret dX0_is_15 rfl
theorem ok_92 : ∀ q ∈ pr_92, okL gmt mt_92 q.1 q.2 := pk_c o_92_0 (pk_c o_92_14 (pk_c o_92_15 (pk_n)))
theorem o_93_0 : okL gmt mt_93 0 b_93_0 := by
  refine oc (y := mt_93) (pc := 0) (ok_iconst dX0_find_0 rfl ⟨by decide, by decide⟩) 1 rfl ?_
  refine oc (y := mt_93) (pc := 1) (ok_istore_n dX0_find_1 (by decide)) 2 rfl ?_
  exact oc_fall rfl
theorem o_93_2 : okL gmt mt_93 2 b_93_2 := by
  refine oc (y := mt_93) (pc := 2) (ok_iload_n dX0_find_2) 3 rfl ?_
  refine oc (y := mt_93) (pc := 3) (ok_aload_n dX0_find_3) 4 rfl ?_
  refine oc (y := mt_93) (pc := 4) (ok_alen dX0_find_4) 5 rfl ?_
  refine oc_icmp dX0_find_5 ⟨by decide, by decide⟩ 8 rfl ?_
  refine oc (y := mt_93) (pc := 8) (ok_aload_n dX0_find_8) 9 rfl ?_
  refine oc (y := mt_93) (pc := 9) (ok_iload_n dX0_find_9) 10 rfl ?_
  refine oc (y := mt_93) (pc := 10) (ok_aaload (ty := .object "java/lang/String") dX0_find_10 (by decide) (by decide) rfl rfl) 11 rfl ?_
  refine oc (y := mt_93) (pc := 11) (ok_aload_n dX0_find_11) 12 rfl ?_
  refine oc_V (y := mt_93) (pc := 12) (vcons (y := mt_93) (pc := 12) (len := 3) (n := 2) (M := mt_57) (by decide) rfl (Or.inr rfl) rfl (ck_V dX0_find_12 ⟨by decide, by decide, by decide, by decide +kernel⟩ q866 q760 q761 q178 q762) vnil) (hok0 rfl) (by decide) 15 rfl ?_
  refine oc_if dX0_find_15 ⟨by decide, by decide⟩ 18 rfl ?_
  refine oc (y := mt_93) (pc := 18) (ok_iload_n dX0_find_18) 19 rfl ?_
  exact oc_iret dX0_find_19 rfl
theorem o_93_20 : okL gmt mt_93 20 b_93_20 := by
  refine oc (y := mt_93) (pc := 20) (ok_iinc dX0_find_20 (by decide)) 23 rfl ?_
  exact oc_goto dX0_find_23 ⟨by decide, by decide⟩
theorem o_93_26 : okL gmt mt_93 26 b_93_26 := by
  refine oc (y := mt_93) (pc := 26) (ok_iconst dX0_find_26 rfl ⟨by decide, by decide⟩) 27 rfl ?_
  exact oc_iret dX0_find_27 rfl
theorem ok_93 : ∀ q ∈ pr_93, okL gmt mt_93 q.1 q.2 := pk_c o_93_0 (pk_c o_93_2 (pk_c o_93_20 (pk_c o_93_26 (pk_n))))
theorem o_94_0 : okL gmt mt_94 0 b_94_0 := by
  refine oc (y := mt_94) (pc := 0) (ok_iload_n dX0_has_0) 1 rfl ?_
  refine oc (y := mt_94) (pc := 1) (ok_iload_n dX0_has_1) 2 rfl ?_
  refine oc (y := mt_94) (pc := 2) (ok_ishr dX0_has_2) 3 rfl ?_
  refine oc (y := mt_94) (pc := 3) (ok_iconst dX0_has_3 rfl ⟨by decide, by decide⟩) 4 rfl ?_
  refine oc (y := mt_94) (pc := 4) (ok_iand dX0_has_4) 5 rfl ?_
  refine oc (y := mt_94) (pc := 5) (ok_iconst dX0_has_5 rfl ⟨by decide, by decide⟩) 6 rfl ?_
  refine oc_icmp dX0_has_6 ⟨by decide, by decide⟩ 9 rfl ?_
  refine oc (y := mt_94) (pc := 9) (ok_iconst dX0_has_9 rfl ⟨by decide, by decide⟩) 10 rfl ?_
  exact oc_goto dX0_has_10 ⟨by decide, by decide⟩
theorem o_94_13 : okL gmt mt_94 13 b_94_13 := by
  refine oc (y := mt_94) (pc := 13) (ok_iconst dX0_has_13 rfl ⟨by decide, by decide⟩) 14 rfl ?_
  exact oc_fall rfl
theorem o_94_14 : okL gmt mt_94 14 b_94_14 := by
  exact oc_zret dX0_has_14 rfl
theorem ok_94 : ∀ q ∈ pr_94, okL gmt mt_94 q.1 q.2 := pk_c o_94_0 (pk_c o_94_13 (pk_c o_94_14 (pk_n)))
theorem o_95_0 : okL gmt mt_95 0 b_95_0 := by
  refine oc (y := mt_95) (pc := 0) (ok_aload_n dX0_fields_0) 1 rfl ?_
  refine oc (y := mt_95) (pc := 1) (ok_getfield dX0_fields_1 (fg (own := "GardenChess") (idx := 31) (g := 1) (k := 0) (r := (RX0, TX0, 25)) rfl ⟨⟨by decide, by decide⟩, by decide⟩ (Or.inl q539) (Or.inl rfl) rfl (fg_nil))) 4 rfl ?_
  refine oc (y := mt_95) (pc := 4) (ok_getfield dX0_fields_4 (fg (own := "GardenChess") (idx := 171) (g := 2) (k := 8) (r := (RX1, TX1, 10)) rfl ⟨⟨by decide, by decide⟩, by decide⟩ (Or.inr ⟨_, q271⟩) (Or.inl rfl) rfl (fg_nil))) 7 rfl ?_
  refine oc_F (y := mt_95) (pc := 7) (vcons (y := mt_95) (pc := 7) (len := 5) (n := 1) (M := mt_39) (by decide) rfl (Or.inr rfl) rfl (ck_F (ci := 2) dX0_fields_7 rfl rfl (fun G s h => h.2.2.1.1) (by decide) ⟨by decide, by decide, by decide +kernel⟩ q500 q504 q506 q166 q508) vnil) (hok0 rfl) 12 rfl ?_
  exact oc_iret dX0_fields_12 rfl
theorem ok_95 : ∀ q ∈ pr_95, okL gmt mt_95 q.1 q.2 := pk_c o_95_0 (pk_n)
theorem o_96_0 : okL gmt mt_96 0 b_96_0 := by
  refine oc (y := mt_96) (pc := 0) (ok_iload_n dX0_fault_0) 1 rfl ?_
  refine oc_if dX0_fault_1 ⟨by decide, by decide⟩ 4 rfl ?_
  refine oc (y := mt_96) (pc := 4) (ok_aload_n dX0_fault_4) 5 rfl ?_
  refine oc (y := mt_96) (pc := 5) (ok_getfield dX0_fault_5 (fg (own := "GardenChess") (idx := 128) (g := 1) (k := 3) (r := (RX0, TX0, 25)) rfl ⟨⟨by decide, by decide⟩, by decide⟩ (Or.inl q543) (Or.inl rfl) rfl (fg_nil))) 8 rfl ?_
  exact oc_goto dX0_fault_8 ⟨by decide, by decide⟩
theorem o_96_11 : okL gmt mt_96 11 b_96_11 := by
  refine oc (y := mt_96) (pc := 11) (ok_iload_n dX0_fault_11) 12 rfl ?_
  refine oc (y := mt_96) (pc := 12) (ok_iconst dX0_fault_12 rfl ⟨by decide, by decide⟩) 13 rfl ?_
  refine oc_icmp dX0_fault_13 ⟨by decide, by decide⟩ 16 rfl ?_
  refine oc (y := mt_96) (pc := 16) (ok_aload_n dX0_fault_16) 17 rfl ?_
  refine oc (y := mt_96) (pc := 17) (ok_getfield dX0_fault_17 (fg (own := "GardenChess") (idx := 39) (g := 1) (k := 4) (r := (RX0, TX0, 25)) rfl ⟨⟨by decide, by decide⟩, by decide⟩ (Or.inl q544) (Or.inl rfl) rfl (fg_nil))) 20 rfl ?_
  exact oc_goto dX0_fault_20 ⟨by decide, by decide⟩
theorem o_96_23 : okL gmt mt_96 23 b_96_23 := by
  refine oc (y := mt_96) (pc := 23) (ok_iconst dX0_fault_23 rfl ⟨by decide, by decide⟩) 24 rfl ?_
  exact oc_fall rfl
theorem o_96_24 : okL gmt mt_96 24 b_96_24 := by
  exact oc_iret dX0_fault_24 rfl
theorem ok_96 : ∀ q ∈ pr_96, okL gmt mt_96 q.1 q.2 := pk_c o_96_0 (pk_c o_96_11 (pk_c o_96_23 (pk_c o_96_24 (pk_n))))
theorem o_97_0 : okL gmt mt_97 0 b_97_0 := by
  refine oc (y := mt_97) (pc := 0) (ok_iload_n dX0_has_2_0) 1 rfl ?_
  exact oc_tsw dX0_has_2_1 (by decide) (by decide +kernel)
theorem o_97_68 : okL gmt mt_97 68 b_97_68 := by
  refine oc (y := mt_97) (pc := 68) (ok_aload_n dX0_has_2_68) 69 rfl ?_
  refine oc (y := mt_97) (pc := 69) (ok_getfield dX0_has_2_69 (fg (own := "GardenChess") (idx := 31) (g := 1) (k := 0) (r := (RX0, TX0, 25)) rfl ⟨⟨by decide, by decide⟩, by decide⟩ (Or.inl q539) (Or.inl rfl) rfl (fg_nil))) 72 rfl ?_
  refine oc (y := mt_97) (pc := 72) (ok_getfield dX0_has_2_72 (fg (own := "GardenChess") (idx := 159) (g := 2) (k := 1) (r := (RX1, TX1, 10)) rfl ⟨⟨by decide, by decide⟩, by decide⟩ (Or.inr ⟨_, q250⟩) (Or.inl rfl) rfl (fg_nil))) 75 rfl ?_
  exact oc_iret dX0_has_2_75 rfl
theorem o_97_76 : okL gmt mt_97 76 b_97_76 := by
  refine oc (y := mt_97) (pc := 76) (ok_aload_n dX0_has_2_76) 77 rfl ?_
  refine oc (y := mt_97) (pc := 77) (ok_getfield dX0_has_2_77 (fg (own := "GardenChess") (idx := 31) (g := 1) (k := 0) (r := (RX0, TX0, 25)) rfl ⟨⟨by decide, by decide⟩, by decide⟩ (Or.inl q539) (Or.inl rfl) rfl (fg_nil))) 80 rfl ?_
  refine oc (y := mt_97) (pc := 80) (ok_getfield dX0_has_2_80 (fg (own := "GardenChess") (idx := 182) (g := 2) (k := 2) (r := (RX1, TX1, 10)) rfl ⟨⟨by decide, by decide⟩, by decide⟩ (Or.inr ⟨_, q254⟩) (Or.inl rfl) rfl (fg_nil))) 83 rfl ?_
  exact oc_iret dX0_has_2_83 rfl
theorem o_97_84 : okL gmt mt_97 84 b_97_84 := by
  refine oc (y := mt_97) (pc := 84) (ok_aload_n dX0_has_2_84) 85 rfl ?_
  refine oc (y := mt_97) (pc := 85) (ok_getfield dX0_has_2_85 (fg (own := "GardenChess") (idx := 31) (g := 1) (k := 0) (r := (RX0, TX0, 25)) rfl ⟨⟨by decide, by decide⟩, by decide⟩ (Or.inl q539) (Or.inl rfl) rfl (fg_nil))) 88 rfl ?_
  refine oc (y := mt_97) (pc := 88) (ok_getfield dX0_has_2_88 (fg (own := "GardenChess") (idx := 189) (g := 2) (k := 6) (r := (RX1, TX1, 10)) rfl ⟨⟨by decide, by decide⟩, by decide⟩ (Or.inr ⟨_, q265⟩) (Or.inl rfl) rfl (fg_nil))) 91 rfl ?_
  refine oc_F (y := mt_97) (pc := 91) (vcons (y := mt_97) (pc := 91) (len := 5) (n := 1) (M := mt_39) (by decide) rfl (Or.inr rfl) rfl (ck_F (ci := 2) dX0_has_2_91 rfl rfl (fun G s h => h.2.2.1.1) (by decide) ⟨by decide, by decide, by decide +kernel⟩ q500 q504 q506 q166 q508) vnil) (hok0 rfl) 96 rfl ?_
  exact oc_iret dX0_has_2_96 rfl
theorem o_97_97 : okL gmt mt_97 97 b_97_97 := by
  refine oc (y := mt_97) (pc := 97) (ok_aload_n dX0_has_2_97) 98 rfl ?_
  refine oc_V (y := mt_97) (pc := 98) (vcons (y := mt_97) (pc := 98) (len := 3) (n := 1) (M := mt_81) (by decide) rfl (Or.inr rfl) rfl (ck_V dX0_has_2_98 ⟨by decide, by decide, by decide, by decide +kernel⟩ q1289 q497 qs1 q162 q498) vnil) (hok0 rfl) (by decide) 101 rfl ?_
  exact oc_iret dX0_has_2_101 rfl
theorem o_97_102 : okL gmt mt_97 102 b_97_102 := by
  refine oc (y := mt_97) (pc := 102) (ok_aload_n dX0_has_2_102) 103 rfl ?_
  refine oc_V (y := mt_97) (pc := 103) (vcons (y := mt_97) (pc := 103) (len := 3) (n := 1) (M := mt_95) (by decide) rfl (Or.inr rfl) rfl (ck_V dX0_has_2_103 ⟨by decide, by decide, by decide, by decide +kernel⟩ q1290 q1275 qs33 q162 q1276) vnil) (hok0 rfl) (by decide) 106 rfl ?_
  exact oc_iret dX0_has_2_106 rfl
theorem o_97_107 : okL gmt mt_97 107 b_97_107 := by
  refine oc (y := mt_97) (pc := 107) (ok_aload_n dX0_has_2_107) 108 rfl ?_
  refine oc (y := mt_97) (pc := 108) (ok_getfield dX0_has_2_108 (fg (own := "GardenChess") (idx := 83) (g := 1) (k := 12) (r := (RX0, TX0, 25)) rfl ⟨⟨by decide, by decide⟩, by decide⟩ (Or.inl q555) (Or.inl rfl) rfl (fg_nil))) 111 rfl ?_
  refine oc (y := mt_97) (pc := 111) (ok_getfield dX0_has_2_111 (fg (own := "GardenChess") (idx := 205) (g := 8) (k := 0) (r := (RX6, TX6, 12)) rfl ⟨⟨by decide, by decide⟩, by decide⟩ (Or.inr ⟨_, q446⟩) (Or.inl rfl) rfl (fg_nil))) 114 rfl ?_
  exact oc_iret dX0_has_2_114 rfl
theorem o_97_115 : okL gmt mt_97 115 b_97_115 := by
  refine oc (y := mt_97) (pc := 115) (ok_aload_n dX0_has_2_115) 116 rfl ?_
  refine oc (y := mt_97) (pc := 116) (ok_getfield dX0_has_2_116 (fg (own := "GardenChess") (idx := 83) (g := 1) (k := 12) (r := (RX0, TX0, 25)) rfl ⟨⟨by decide, by decide⟩, by decide⟩ (Or.inl q555) (Or.inl rfl) rfl (fg_nil))) 119 rfl ?_
  refine oc (y := mt_97) (pc := 119) (ok_getfield dX0_has_2_119 (fg (own := "GardenChess") (idx := 208) (g := 8) (k := 1) (r := (RX6, TX6, 12)) rfl ⟨⟨by decide, by decide⟩, by decide⟩ (Or.inr ⟨_, q448⟩) (Or.inl rfl) rfl (fg_nil))) 122 rfl ?_
  exact oc_iret dX0_has_2_122 rfl
theorem o_97_123 : okL gmt mt_97 123 b_97_123 := by
  refine oc (y := mt_97) (pc := 123) (ok_aload_n dX0_has_2_123) 124 rfl ?_
  refine oc_V (y := mt_97) (pc := 124) (vcons (y := mt_97) (pc := 124) (len := 3) (n := 1) (M := mt_98) (by decide) rfl (Or.inr rfl) rfl (ck_V dX0_has_2_124 ⟨by decide, by decide, by decide, by decide +kernel⟩ q1291 q1293 qs34 q162 q1294) vnil) (hok0 rfl) (by decide) 127 rfl ?_
  refine oc_if dX0_has_2_127 ⟨by decide, by decide⟩ 130 rfl ?_
  refine oc (y := mt_97) (pc := 130) (ok_aload_n dX0_has_2_130) 131 rfl ?_
  refine oc (y := mt_97) (pc := 131) (ok_getfield dX0_has_2_131 (fg (own := "GardenChess") (idx := 83) (g := 1) (k := 12) (r := (RX0, TX0, 25)) rfl ⟨⟨by decide, by decide⟩, by decide⟩ (Or.inl q555) (Or.inl rfl) rfl (fg_nil))) 134 rfl ?_
  refine oc_V (y := mt_97) (pc := 134) (vcons (y := mt_97) (pc := 134) (len := 3) (n := 1) (M := mt_214) (by decide) rfl (Or.inr rfl) rfl (ck_V dX0_has_2_134 ⟨by decide, by decide, by decide, by decide +kernel⟩ q1295 q1296 q1297 q174 q1298) vnil) (hok0 rfl) (by decide) 137 rfl ?_
  refine oc_if dX0_has_2_137 ⟨by decide, by decide⟩ 140 rfl ?_
  refine oc (y := mt_97) (pc := 140) (ok_iconst dX0_has_2_140 rfl ⟨by decide, by decide⟩) 141 rfl ?_
  exact oc_goto dX0_has_2_141 ⟨by decide, by decide⟩
theorem o_97_144 : okL gmt mt_97 144 b_97_144 := by
  refine oc (y := mt_97) (pc := 144) (ok_iconst dX0_has_2_144 rfl ⟨by decide, by decide⟩) 145 rfl ?_
  exact oc_fall rfl
theorem o_97_145 : okL gmt mt_97 145 b_97_145 := by
  exact oc_iret dX0_has_2_145 rfl
theorem o_97_146 : okL gmt mt_97 146 b_97_146 := by
  refine oc (y := mt_97) (pc := 146) (ok_aload_n dX0_has_2_146) 147 rfl ?_
  refine oc_V (y := mt_97) (pc := 147) (vcons (y := mt_97) (pc := 147) (len := 3) (n := 1) (M := mt_81) (by decide) rfl (Or.inr rfl) rfl (ck_V dX0_has_2_147 ⟨by decide, by decide, by decide, by decide +kernel⟩ q1289 q497 qs1 q162 q498) vnil) (hok0 rfl) (by decide) 150 rfl ?_
  refine oc (y := mt_97) (pc := 150) (ok_aload_n dX0_has_2_150) 151 rfl ?_
  refine oc (y := mt_97) (pc := 151) (ok_getfield dX0_has_2_151 (fg (own := "GardenChess") (idx := 83) (g := 1) (k := 12) (r := (RX0, TX0, 25)) rfl ⟨⟨by decide, by decide⟩, by decide⟩ (Or.inl q555) (Or.inl rfl) rfl (fg_nil))) 154 rfl ?_
  refine oc (y := mt_97) (pc := 154) (ok_iconst dX0_has_2_154 rfl ⟨by decide, by decide⟩) 155 rfl ?_
  refine oc_V (y := mt_97) (pc := 155) (vcons (y := mt_97) (pc := 155) (len := 3) (n := 2) (M := mt_217) (by decide) rfl (Or.inr rfl) rfl (ck_V dX0_has_2_155 ⟨by decide, by decide, by decide, by decide +kernel⟩ q1318 q1319 q1320 q174 q1321) vnil) (hok0 rfl) (by decide) 158 rfl ?_
  refine oc (y := mt_97) (pc := 158) (ok_isub dX0_has_2_158) 159 rfl ?_
  refine oc (y := mt_97) (pc := 159) (ok_aload_n dX0_has_2_159) 160 rfl ?_
  refine oc (y := mt_97) (pc := 160) (ok_getfield dX0_has_2_160 (fg (own := "GardenChess") (idx := 83) (g := 1) (k := 12) (r := (RX0, TX0, 25)) rfl ⟨⟨by decide, by decide⟩, by decide⟩ (Or.inl q555) (Or.inl rfl) rfl (fg_nil))) 163 rfl ?_
  refine oc (y := mt_97) (pc := 163) (ok_iconst dX0_has_2_163 rfl ⟨by decide, by decide⟩) 164 rfl ?_
  refine oc_V (y := mt_97) (pc := 164) (vcons (y := mt_97) (pc := 164) (len := 3) (n := 2) (M := mt_217) (by decide) rfl (Or.inr rfl) rfl (ck_V dX0_has_2_164 ⟨by decide, by decide, by decide, by decide +kernel⟩ q1318 q1319 q1320 q174 q1321) vnil) (hok0 rfl) (by decide) 167 rfl ?_
  refine oc (y := mt_97) (pc := 167) (ok_isub dX0_has_2_167) 168 rfl ?_
  exact oc_iret dX0_has_2_168 rfl
theorem o_97_169 : okL gmt mt_97 169 b_97_169 := by
  refine oc (y := mt_97) (pc := 169) (ok_aload_n dX0_has_2_169) 170 rfl ?_
  refine oc (y := mt_97) (pc := 170) (ok_getfield dX0_has_2_170 (fg (own := "GardenChess") (idx := 83) (g := 1) (k := 12) (r := (RX0, TX0, 25)) rfl ⟨⟨by decide, by decide⟩, by decide⟩ (Or.inl q555) (Or.inl rfl) rfl (fg_nil))) 173 rfl ?_
  refine oc_V (y := mt_97) (pc := 173) (vcons (y := mt_97) (pc := 173) (len := 3) (n := 1) (M := mt_218) (by decide) rfl (Or.inr rfl) rfl (ck_V dX0_has_2_173 ⟨by decide, by decide, by decide, by decide +kernel⟩ q1322 q1323 q1324 q174 q1325) vnil) (hok0 rfl) (by decide) 176 rfl ?_
  exact oc_iret dX0_has_2_176 rfl
theorem o_97_177 : okL gmt mt_97 177 b_97_177 := by
  refine oc (y := mt_97) (pc := 177) (ok_aload_n dX0_has_2_177) 178 rfl ?_
  refine oc (y := mt_97) (pc := 178) (ok_getfield dX0_has_2_178 (fg (own := "GardenChess") (idx := 83) (g := 1) (k := 12) (r := (RX0, TX0, 25)) rfl ⟨⟨by decide, by decide⟩, by decide⟩ (Or.inl q555) (Or.inl rfl) rfl (fg_nil))) 181 rfl ?_
  refine oc (y := mt_97) (pc := 181) (ok_getfield dX0_has_2_181 (fg (own := "GardenChess") (idx := 224) (g := 8) (k := 2) (r := (RX6, TX6, 12)) rfl ⟨⟨by decide, by decide⟩, by decide⟩ (Or.inr ⟨_, q450⟩) (Or.inl rfl) rfl (fg_nil))) 184 rfl ?_
  exact oc_iret dX0_has_2_184 rfl
theorem o_97_185 : okL gmt mt_97 185 b_97_185 := by
  refine oc (y := mt_97) (pc := 185) (ok_aload_n dX0_has_2_185) 186 rfl ?_
  refine oc (y := mt_97) (pc := 186) (ok_getfield dX0_has_2_186 (fg (own := "GardenChess") (idx := 153) (g := 1) (k := 17) (r := (RX0, TX0, 25)) rfl ⟨⟨by decide, by decide⟩, by decide⟩ (Or.inl q560) (Or.inl rfl) rfl (fg_nil))) 189 rfl ?_
  exact oc_iret dX0_has_2_189 rfl
theorem o_97_190 : okL gmt mt_97 190 b_97_190 := by
  refine oc (y := mt_97) (pc := 190) (ok_aload_n dX0_has_2_190) 191 rfl ?_
  refine oc (y := mt_97) (pc := 191) (ok_getfield dX0_has_2_191 (fg (own := "GardenChess") (idx := 150) (g := 1) (k := 20) (r := (RX0, TX0, 25)) rfl ⟨⟨by decide, by decide⟩, by decide⟩ (Or.inl q563) (Or.inl rfl) rfl (fg_nil))) 194 rfl ?_
  exact oc_iret dX0_has_2_194 rfl
theorem o_97_195 : okL gmt mt_97 195 b_97_195 := by
  refine oc (y := mt_97) (pc := 195) (ok_iconst dX0_has_2_195 rfl ⟨by decide, by decide⟩) 196 rfl ?_
  exact oc_iret dX0_has_2_196 rfl
theorem ok_97 : ∀ q ∈ pr_97, okL gmt mt_97 q.1 q.2 := pk_c o_97_0 (pk_c o_97_68 (pk_c o_97_76 (pk_c o_97_84 (pk_c o_97_97 (pk_c o_97_102 (pk_c o_97_107 (pk_c o_97_115 (pk_c o_97_123 (pk_c o_97_144 (pk_c o_97_145 (pk_c o_97_146 (pk_c o_97_169 (pk_c o_97_177 (pk_c o_97_185 (pk_c o_97_190 (pk_c o_97_195 (pk_n)))))))))))))))))
theorem o_98_0 : okL gmt mt_98 0 b_98_0 := by
  refine oc (y := mt_98) (pc := 0) (ok_aload_n dX0_isBoard_0) 1 rfl ?_
  refine oc (y := mt_98) (pc := 1) (ok_getfield dX0_isBoard_1 (fg (own := "GardenChess") (idx := 31) (g := 1) (k := 0) (r := (RX0, TX0, 25)) rfl ⟨⟨by decide, by decide⟩, by decide⟩ (Or.inl q539) (Or.inl rfl) rfl (fg_nil))) 4 rfl ?_
  refine oc (y := mt_98) (pc := 4) (ok_getfield dX0_isBoard_4 (fg (own := "GardenChess") (idx := 159) (g := 2) (k := 1) (r := (RX1, TX1, 10)) rfl ⟨⟨by decide, by decide⟩, by decide⟩ (Or.inr ⟨_, q250⟩) (Or.inl rfl) rfl (fg_nil))) 7 rfl ?_
  refine oc_if dX0_isBoard_7 ⟨by decide, by decide⟩ 10 rfl ?_
  refine oc (y := mt_98) (pc := 10) (ok_iconst dX0_isBoard_10 rfl ⟨by decide, by decide⟩) 11 rfl ?_
  exact oc_goto dX0_isBoard_11 ⟨by decide, by decide⟩
theorem o_98_14 : okL gmt mt_98 14 b_98_14 := by
  refine oc (y := mt_98) (pc := 14) (ok_iconst dX0_isBoard_14 rfl ⟨by decide, by decide⟩) 15 rfl ?_
  exact oc_fall rfl
theorem o_98_15 : okL gmt mt_98 15 b_98_15 := by
  exact oc_zret dX0_isBoard_15 rfl
theorem ok_98 : ∀ q ∈ pr_98, okL gmt mt_98 q.1 q.2 := pk_c o_98_0 (pk_c o_98_14 (pk_c o_98_15 (pk_n)))
theorem o_99_0 : okL gmt mt_99 0 b_99_0 := by
  refine oc (y := mt_99) (pc := 0) (ok_iload_n dX0_letter_0) 1 rfl ?_
  refine oc (y := mt_99) (pc := 1) (ok_iconst dX0_letter_1 rfl ⟨by decide, by decide⟩) 2 rfl ?_
  refine oc (y := mt_99) (pc := 2) (ok_iconst dX0_letter_2 rfl ⟨by decide, by decide⟩) 3 rfl ?_
  refine oc_S (y := mt_99) (pc := 3) (M := mt_92) rfl (ck_S dX0_letter_3 ⟨by decide, by decide, by decide, by decide +kernel⟩ q1330 q771 q162 q772) (hok0 rfl) (by decide) 6 rfl ?_
  refine oc_if dX0_letter_6 ⟨by decide, by decide⟩ 9 rfl ?_
  refine oc (y := mt_99) (pc := 9) (ok_iload_n dX0_letter_9) 10 rfl ?_
  refine oc (y := mt_99) (pc := 10) (ok_iconst dX0_letter_10 rfl ⟨by decide, by decide⟩) 11 rfl ?_
  refine oc (y := mt_99) (pc := 11) (ok_iconst dX0_letter_11 rfl ⟨by decide, by decide⟩) 12 rfl ?_
  refine oc_S (y := mt_99) (pc := 12) (M := mt_92) rfl (ck_S dX0_letter_12 ⟨by decide, by decide, by decide, by decide +kernel⟩ q1330 q771 q162 q772) (hok0 rfl) (by decide) 15 rfl ?_
  refine oc_if dX0_letter_15 ⟨by decide, by decide⟩ 18 rfl ?_
  refine oc (y := mt_99) (pc := 18) (ok_iload_n dX0_letter_18) 19 rfl ?_
  refine oc_if dX0_letter_19 ⟨by decide, by decide⟩ 22 rfl ?_
  exact oc_fall rfl
theorem o_99_22 : okL gmt mt_99 22 b_99_22 := by
  refine oc (y := mt_99) (pc := 22) (ok_iconst dX0_letter_22 rfl ⟨by decide, by decide⟩) 23 rfl ?_
  exact oc_iret dX0_letter_23 rfl
theorem o_99_24 : okL gmt mt_99 24 b_99_24 := by
  refine oc (y := mt_99) (pc := 24) (ok_iload_n dX0_letter_24) 25 rfl ?_
  refine oc_if dX0_letter_25 ⟨by decide, by decide⟩ 28 rfl ?_
  refine oc (y := mt_99) (pc := 28) (ok_aload_n dX0_letter_28) 29 rfl ?_
  refine oc (y := mt_99) (pc := 29) (ok_getfield dX0_letter_29 (fg (own := "GardenChess") (idx := 31) (g := 1) (k := 0) (r := (RX0, TX0, 25)) rfl ⟨⟨by decide, by decide⟩, by decide⟩ (Or.inl q539) (Or.inl rfl) rfl (fg_nil))) 32 rfl ?_
  refine oc (y := mt_99) (pc := 32) (ok_getfield dX0_letter_32 (fg (own := "GardenChess") (idx := 189) (g := 2) (k := 6) (r := (RX1, TX1, 10)) rfl ⟨⟨by decide, by decide⟩, by decide⟩ (Or.inr ⟨_, q265⟩) (Or.inl rfl) rfl (fg_nil))) 35 rfl ?_
  exact oc_goto dX0_letter_35 ⟨by decide, by decide⟩
theorem o_99_38 : okL gmt mt_99 38 b_99_38 := by
  refine oc (y := mt_99) (pc := 38) (ok_iload_n dX0_letter_38) 39 rfl ?_
  refine oc (y := mt_99) (pc := 39) (ok_iconst dX0_letter_39 rfl ⟨by decide, by decide⟩) 40 rfl ?_
  refine oc_icmp dX0_letter_40 ⟨by decide, by decide⟩ 43 rfl ?_
  refine oc (y := mt_99) (pc := 43) (ok_aload_n dX0_letter_43) 44 rfl ?_
  refine oc (y := mt_99) (pc := 44) (ok_getfield dX0_letter_44 (fg (own := "GardenChess") (idx := 31) (g := 1) (k := 0) (r := (RX0, TX0, 25)) rfl ⟨⟨by decide, by decide⟩, by decide⟩ (Or.inl q539) (Or.inl rfl) rfl (fg_nil))) 47 rfl ?_
  refine oc (y := mt_99) (pc := 47) (ok_getfield dX0_letter_47 (fg (own := "GardenChess") (idx := 162) (g := 2) (k := 7) (r := (RX1, TX1, 10)) rfl ⟨⟨by decide, by decide⟩, by decide⟩ (Or.inr ⟨_, q267⟩) (Or.inl rfl) rfl (fg_nil))) 50 rfl ?_
  exact oc_goto dX0_letter_50 ⟨by decide, by decide⟩
theorem o_99_53 : okL gmt mt_99 53 b_99_53 := by
  refine oc (y := mt_99) (pc := 53) (ok_aload_n dX0_letter_53) 54 rfl ?_
  refine oc (y := mt_99) (pc := 54) (ok_getfield dX0_letter_54 (fg (own := "GardenChess") (idx := 31) (g := 1) (k := 0) (r := (RX0, TX0, 25)) rfl ⟨⟨by decide, by decide⟩, by decide⟩ (Or.inl q539) (Or.inl rfl) rfl (fg_nil))) 57 rfl ?_
  refine oc (y := mt_99) (pc := 57) (ok_getfield dX0_letter_57 (fg (own := "GardenChess") (idx := 171) (g := 2) (k := 8) (r := (RX1, TX1, 10)) rfl ⟨⟨by decide, by decide⟩, by decide⟩ (Or.inr ⟨_, q271⟩) (Or.inl rfl) rfl (fg_nil))) 60 rfl ?_
  exact oc_fall rfl
theorem o_99_60 : okL gmt mt_99 60 b_99_60 := by
  refine oc (y := mt_99) (pc := 60) (ok_astore dX0_letter_60 (by decide)) 62 rfl ?_
  refine oc (y := mt_99) (pc := 62) (ok_iload_n dX0_letter_62) 63 rfl ?_
  refine oc (y := mt_99) (pc := 63) (ok_aload dX0_letter_63) 65 rfl ?_
  refine oc_F (y := mt_99) (pc := 65) (vcons (y := mt_99) (pc := 65) (len := 5) (n := 1) (M := mt_39) (by decide) rfl (Or.inr rfl) rfl (ck_F (ci := 2) dX0_letter_65 rfl rfl (fun G s h => h.2.2.1.1) (by decide) ⟨by decide, by decide, by decide +kernel⟩ q500 q504 q506 q166 q508) vnil) (hok0 rfl) 70 rfl ?_
  refine oc_icmp dX0_letter_70 ⟨by decide, by decide⟩ 73 rfl ?_
  refine oc (y := mt_99) (pc := 73) (ok_aload dX0_letter_73) 75 rfl ?_
  refine oc (y := mt_99) (pc := 75) (ok_iload_n dX0_letter_75) 76 rfl ?_
  refine oc_F (y := mt_99) (pc := 76) (vcons (y := mt_99) (pc := 76) (len := 5) (n := 2) (M := mt_40) (by decide) rfl (Or.inr rfl) rfl (ck_F (ci := 2) dX0_letter_76 rfl rfl (fun G s h => h.2.2.1.2.1) (by decide) ⟨by decide, by decide, by decide +kernel⟩ q518 q521 q523 q166 q525) vnil) (hok0 rfl) 81 rfl ?_
  refine oc (y := mt_99) (pc := 81) (ok_checkcast (E := "GardenChess$Named") dX0_letter_81 q1331 (ct (by decide) rfl (Or.inr q2794) (ct (by decide) rfl (Or.inr q2795) (ct (by decide) rfl (Or.inr q2793) (ct_nil))))) 84 rfl ?_
  refine oc (y := mt_99) (pc := 84) (ok_iload_n dX0_letter_84) 85 rfl ?_
  refine oc_V (y := mt_99) (pc := 85) (vcons (y := mt_99) (pc := 85) (len := 3) (n := 2) (M := mt_386) (by decide) rfl (Or.inr rfl) rfl (ck_U (C := "GardenChess$Field") (x := yX8_letter) dX0_letter_85 rfl ⟨by decide, by decide, by decide, by decide +kernel⟩ q1332 q1334 q1335 q1333 q182 q1338) (vcons (y := mt_99) (pc := 85) (len := 3) (n := 2) (M := mt_386) (by decide) rfl (Or.inr rfl) rfl (ck_U (C := "GardenChess$Kind") (x := yX8_letter) dX0_letter_85 rfl ⟨by decide, by decide, by decide, by decide +kernel⟩ q1332 q1334 q1336 q1333 q182 q1338) (vcons (y := mt_99) (pc := 85) (len := 3) (n := 2) (M := mt_386) (by decide) rfl (Or.inr rfl) rfl (ck_U (C := "GardenChess$Man") (x := yX8_letter) dX0_letter_85 rfl ⟨by decide, by decide, by decide, by decide +kernel⟩ q1332 q1334 q1337 q1333 q182 q1338) (vnil)))) (hok0 rfl) (by decide) 88 rfl ?_
  exact oc_goto dX0_letter_88 ⟨by decide, by decide⟩
theorem o_99_91 : okL gmt mt_99 91 b_99_91 := by
  refine oc (y := mt_99) (pc := 91) (ok_iconst dX0_letter_91 rfl ⟨by decide, by decide⟩) 92 rfl ?_
  exact oc_fall rfl
theorem o_99_92 : okL gmt mt_99 92 b_99_92 := by
  exact oc_iret dX0_letter_92 rfl
theorem ok_99 : ∀ q ∈ pr_99, okL gmt mt_99 q.1 q.2 := pk_c o_99_0 (pk_c o_99_22 (pk_c o_99_24 (pk_c o_99_38 (pk_c o_99_53 (pk_c o_99_60 (pk_c o_99_91 (pk_c o_99_92 (pk_n))))))))
theorem o_100_0 : okL gmt mt_100 0 b_100_0 := by
  refine oc (y := mt_100) (pc := 0) (ok_iload_n dX0_kind_0) 1 rfl ?_
  refine oc (y := mt_100) (pc := 1) (ok_iconst dX0_kind_1 rfl ⟨by decide, by decide⟩) 2 rfl ?_
  refine oc (y := mt_100) (pc := 2) (ok_aload_n dX0_kind_2) 3 rfl ?_
  refine oc (y := mt_100) (pc := 3) (ok_getfield dX0_kind_3 (fg (own := "GardenChess") (idx := 31) (g := 1) (k := 0) (r := (RX0, TX0, 25)) rfl ⟨⟨by decide, by decide⟩, by decide⟩ (Or.inl q539) (Or.inl rfl) rfl (fg_nil))) 6 rfl ?_
  refine oc (y := mt_100) (pc := 6) (ok_getfield dX0_kind_6 (fg (own := "GardenChess") (idx := 189) (g := 2) (k := 6) (r := (RX1, TX1, 10)) rfl ⟨⟨by decide, by decide⟩, by decide⟩ (Or.inr ⟨_, q265⟩) (Or.inl rfl) rfl (fg_nil))) 9 rfl ?_
  refine oc_F (y := mt_100) (pc := 9) (vcons (y := mt_100) (pc := 9) (len := 5) (n := 1) (M := mt_39) (by decide) rfl (Or.inr rfl) rfl (ck_F (ci := 2) dX0_kind_9 rfl rfl (fun G s h => h.2.2.1.1) (by decide) ⟨by decide, by decide, by decide +kernel⟩ q500 q504 q506 q166 q508) vnil) (hok0 rfl) 14 rfl ?_
  refine oc (y := mt_100) (pc := 14) (ok_iconst dX0_kind_14 rfl ⟨by decide, by decide⟩) 15 rfl ?_
  refine oc (y := mt_100) (pc := 15) (ok_isub dX0_kind_15) 16 rfl ?_
  refine oc_S (y := mt_100) (pc := 16) (M := mt_92) rfl (ck_S dX0_kind_16 ⟨by decide, by decide, by decide, by decide +kernel⟩ q1330 q771 q162 q772) (hok0 rfl) (by decide) 19 rfl ?_
  refine oc_if dX0_kind_19 ⟨by decide, by decide⟩ 22 rfl ?_
  refine oc (y := mt_100) (pc := 22) (ok_iconst dX0_kind_22 rfl ⟨by decide, by decide⟩) 23 rfl ?_
  exact oc_iret dX0_kind_23 rfl
theorem o_100_24 : okL gmt mt_100 24 b_100_24 := by
  refine oc (y := mt_100) (pc := 24) (ok_aload_n dX0_kind_24) 25 rfl ?_
  refine oc (y := mt_100) (pc := 25) (ok_getfield dX0_kind_25 (fg (own := "GardenChess") (idx := 31) (g := 1) (k := 0) (r := (RX0, TX0, 25)) rfl ⟨⟨by decide, by decide⟩, by decide⟩ (Or.inl q539) (Or.inl rfl) rfl (fg_nil))) 28 rfl ?_
  refine oc (y := mt_100) (pc := 28) (ok_getfield dX0_kind_28 (fg (own := "GardenChess") (idx := 189) (g := 2) (k := 6) (r := (RX1, TX1, 10)) rfl ⟨⟨by decide, by decide⟩, by decide⟩ (Or.inr ⟨_, q265⟩) (Or.inl rfl) rfl (fg_nil))) 31 rfl ?_
  refine oc (y := mt_100) (pc := 31) (ok_iload_n dX0_kind_31) 32 rfl ?_
  refine oc_F (y := mt_100) (pc := 32) (vcons (y := mt_100) (pc := 32) (len := 5) (n := 2) (M := mt_40) (by decide) rfl (Or.inr rfl) rfl (ck_F (ci := 2) dX0_kind_32 rfl rfl (fun G s h => h.2.2.1.2.1) (by decide) ⟨by decide, by decide, by decide +kernel⟩ q518 q521 q523 q166 q525) vnil) (hok0 rfl) 37 rfl ?_
  refine oc (y := mt_100) (pc := 37) (ok_checkcast (E := "GardenChess$Kind") dX0_kind_37 q537 (ct (by decide) rfl (Or.inl rfl) (ct_nil))) 40 rfl ?_
  refine oc (y := mt_100) (pc := 40) (ok_astore_n dX0_kind_40 (by decide)) 41 rfl ?_
  refine oc (y := mt_100) (pc := 41) (ok_iload_n dX0_kind_41) 42 rfl ?_
  refine oc_if dX0_kind_42 ⟨by decide, by decide⟩ 45 rfl ?_
  refine oc (y := mt_100) (pc := 45) (ok_aload_n dX0_kind_45) 46 rfl ?_
  refine oc (y := mt_100) (pc := 46) (ok_getfield dX0_kind_46 (fg (own := "GardenChess") (idx := 232) (g := 12) (k := 1) (r := (RX9, TX9, 5)) rfl ⟨⟨by decide, by decide⟩, by decide⟩ (Or.inr ⟨_, q902⟩) (Or.inl rfl) rfl (fg_nil))) 49 rfl ?_
  exact oc_goto dX0_kind_49 ⟨by decide, by decide⟩
theorem o_100_52 : okL gmt mt_100 52 b_100_52 := by
  refine oc (y := mt_100) (pc := 52) (ok_iload_n dX0_kind_52) 53 rfl ?_
  refine oc (y := mt_100) (pc := 53) (ok_iconst dX0_kind_53 rfl ⟨by decide, by decide⟩) 54 rfl ?_
  refine oc_icmp dX0_kind_54 ⟨by decide, by decide⟩ 57 rfl ?_
  refine oc (y := mt_100) (pc := 57) (ok_aload_n dX0_kind_57) 58 rfl ?_
  refine oc (y := mt_100) (pc := 58) (ok_getfield dX0_kind_58 (fg (own := "GardenChess") (idx := 235) (g := 12) (k := 2) (r := (RX9, TX9, 5)) rfl ⟨⟨by decide, by decide⟩, by decide⟩ (Or.inr ⟨_, q905⟩) (Or.inl rfl) rfl (fg_nil))) 61 rfl ?_
  exact oc_goto dX0_kind_61 ⟨by decide, by decide⟩
theorem o_100_64 : okL gmt mt_100 64 b_100_64 := by
  refine oc (y := mt_100) (pc := 64) (ok_iload_n dX0_kind_64) 65 rfl ?_
  refine oc (y := mt_100) (pc := 65) (ok_iconst dX0_kind_65 rfl ⟨by decide, by decide⟩) 66 rfl ?_
  refine oc_icmp dX0_kind_66 ⟨by decide, by decide⟩ 69 rfl ?_
  refine oc (y := mt_100) (pc := 69) (ok_aload_n dX0_kind_69) 70 rfl ?_
  refine oc (y := mt_100) (pc := 70) (ok_getfield dX0_kind_70 (fg (own := "GardenChess") (idx := 238) (g := 12) (k := 3) (r := (RX9, TX9, 5)) rfl ⟨⟨by decide, by decide⟩, by decide⟩ (Or.inr ⟨_, q908⟩) (Or.inl rfl) rfl (fg_nil))) 73 rfl ?_
  exact oc_goto dX0_kind_73 ⟨by decide, by decide⟩
theorem o_100_76 : okL gmt mt_100 76 b_100_76 := by
  refine oc (y := mt_100) (pc := 76) (ok_iload_n dX0_kind_76) 77 rfl ?_
  refine oc (y := mt_100) (pc := 77) (ok_iconst dX0_kind_77 rfl ⟨by decide, by decide⟩) 78 rfl ?_
  refine oc_icmp dX0_kind_78 ⟨by decide, by decide⟩ 81 rfl ?_
  refine oc (y := mt_100) (pc := 81) (ok_aload_n dX0_kind_81) 82 rfl ?_
  refine oc (y := mt_100) (pc := 82) (ok_getfield dX0_kind_82 (fg (own := "GardenChess") (idx := 241) (g := 12) (k := 4) (r := (RX9, TX9, 5)) rfl ⟨⟨by decide, by decide⟩, by decide⟩ (Or.inr ⟨_, q911⟩) (Or.inl rfl) rfl (fg_nil))) 85 rfl ?_
  refine oc_if dX0_kind_85 ⟨by decide, by decide⟩ 88 rfl ?_
  refine oc (y := mt_100) (pc := 88) (ok_iconst dX0_kind_88 rfl ⟨by decide, by decide⟩) 89 rfl ?_
  exact oc_goto dX0_kind_89 ⟨by decide, by decide⟩
theorem o_100_92 : okL gmt mt_100 92 b_100_92 := by
  refine oc (y := mt_100) (pc := 92) (ok_iconst dX0_kind_92 rfl ⟨by decide, by decide⟩) 93 rfl ?_
  exact oc_goto dX0_kind_93 ⟨by decide, by decide⟩
theorem o_100_96 : okL gmt mt_100 96 b_100_96 := by
  refine oc (y := mt_100) (pc := 96) (ok_iconst dX0_kind_96 rfl ⟨by decide, by decide⟩) 97 rfl ?_
  exact oc_fall rfl
theorem o_100_97 : okL gmt mt_100 97 b_100_97 := by
  exact oc_iret dX0_kind_97 rfl
theorem ok_100 : ∀ q ∈ pr_100, okL gmt mt_100 q.1 q.2 := pk_c o_100_0 (pk_c o_100_24 (pk_c o_100_52 (pk_c o_100_64 (pk_c o_100_76 (pk_c o_100_92 (pk_c o_100_96 (pk_c o_100_97 (pk_n))))))))
theorem o_101_0 : okL gmt mt_101 0 b_101_0 := by
  refine oc (y := mt_101) (pc := 0) (ok_aload_n dX0_man_0) 1 rfl ?_
  refine oc (y := mt_101) (pc := 1) (ok_iload_n dX0_man_1) 2 rfl ?_
  refine oc_V (y := mt_101) (pc := 2) (vcons (y := mt_101) (pc := 2) (len := 3) (n := 2) (M := mt_102) (by decide) rfl (Or.inr rfl) rfl (ck_V dX0_man_2 ⟨by decide, by decide, by decide, by decide +kernel⟩ q1359 q1361 qs35 q162 q1362) vnil) (hok0 rfl) (by decide) 5 rfl ?_
  refine oc_if dX0_man_5 ⟨by decide, by decide⟩ 8 rfl ?_
  refine oc (y := mt_101) (pc := 8) (ok_iconst dX0_man_8 rfl ⟨by decide, by decide⟩) 9 rfl ?_
  exact oc_iret dX0_man_9 rfl
theorem o_101_10 : okL gmt mt_101 10 b_101_10 := by
  refine oc (y := mt_101) (pc := 10) (ok_aload_n dX0_man_10) 11 rfl ?_
  refine oc (y := mt_101) (pc := 11) (ok_getfield dX0_man_11 (fg (own := "GardenChess") (idx := 83) (g := 1) (k := 12) (r := (RX0, TX0, 25)) rfl ⟨⟨by decide, by decide⟩, by decide⟩ (Or.inl q555) (Or.inl rfl) rfl (fg_nil))) 14 rfl ?_
  refine oc (y := mt_101) (pc := 14) (ok_getfield dX0_man_14 (fg (own := "GardenChess") (idx := 249) (g := 8) (k := 3) (r := (RX6, TX6, 12)) rfl ⟨⟨by decide, by decide⟩, by decide⟩ (Or.inr ⟨_, q452⟩) (Or.inl rfl) rfl (fg_nil))) 17 rfl ?_
  refine oc (y := mt_101) (pc := 17) (ok_iload_n dX0_man_17) 18 rfl ?_
  refine oc (y := mt_101) (pc := 18) (ok_iaload dX0_man_18) 19 rfl ?_
  refine oc (y := mt_101) (pc := 19) (ok_istore_n dX0_man_19 (by decide)) 20 rfl ?_
  refine oc (y := mt_101) (pc := 20) (ok_iload_n dX0_man_20) 21 rfl ?_
  exact oc_tsw dX0_man_21 (by decide) (by decide +kernel)
theorem o_101_56 : okL gmt mt_101 56 b_101_56 := by
  refine oc (y := mt_101) (pc := 56) (ok_iload_n dX0_man_56) 57 rfl ?_
  refine oc (y := mt_101) (pc := 57) (ok_iconst dX0_man_57 rfl ⟨by decide, by decide⟩) 58 rfl ?_
  refine oc_icmp dX0_man_58 ⟨by decide, by decide⟩ 61 rfl ?_
  refine oc (y := mt_101) (pc := 61) (ok_iconst dX0_man_61 rfl ⟨by decide, by decide⟩) 62 rfl ?_
  exact oc_goto dX0_man_62 ⟨by decide, by decide⟩
theorem o_101_65 : okL gmt mt_101 65 b_101_65 := by
  refine oc (y := mt_101) (pc := 65) (ok_iload_n dX0_man_65) 66 rfl ?_
  refine oc (y := mt_101) (pc := 66) (ok_iconst dX0_man_66 rfl ⟨by decide, by decide⟩) 67 rfl ?_
  refine oc (y := mt_101) (pc := 67) (ok_irem dX0_man_67) 68 rfl ?_
  exact oc_fall rfl
theorem o_101_68 : okL gmt mt_101 68 b_101_68 := by
  exact oc_iret dX0_man_68 rfl
theorem o_101_69 : okL gmt mt_101 69 b_101_69 := by
  refine oc (y := mt_101) (pc := 69) (ok_iload_n dX0_man_69) 70 rfl ?_
  refine oc (y := mt_101) (pc := 70) (ok_iconst dX0_man_70 rfl ⟨by decide, by decide⟩) 71 rfl ?_
  refine oc_icmp dX0_man_71 ⟨by decide, by decide⟩ 74 rfl ?_
  refine oc (y := mt_101) (pc := 74) (ok_iconst dX0_man_74 rfl ⟨by decide, by decide⟩) 75 rfl ?_
  exact oc_goto dX0_man_75 ⟨by decide, by decide⟩
theorem o_101_78 : okL gmt mt_101 78 b_101_78 := by
  refine oc (y := mt_101) (pc := 78) (ok_iload_n dX0_man_78) 79 rfl ?_
  refine oc (y := mt_101) (pc := 79) (ok_iconst dX0_man_79 rfl ⟨by decide, by decide⟩) 80 rfl ?_
  refine oc (y := mt_101) (pc := 80) (ok_idiv dX0_man_80) 81 rfl ?_
  exact oc_fall rfl
theorem o_101_81 : okL gmt mt_101 81 b_101_81 := by
  exact oc_iret dX0_man_81 rfl
theorem o_101_82 : okL gmt mt_101 82 b_101_82 := by
  refine oc (y := mt_101) (pc := 82) (ok_aload_n dX0_man_82) 83 rfl ?_
  refine oc (y := mt_101) (pc := 83) (ok_iload_n dX0_man_83) 84 rfl ?_
  refine oc_V (y := mt_101) (pc := 84) (vcons (y := mt_101) (pc := 84) (len := 3) (n := 2) (M := mt_83) (by decide) rfl (Or.inr rfl) rfl (ck_V dX0_man_84 ⟨by decide, by decide, by decide, by decide +kernel⟩ q513 q515 qs3 q162 q516) vnil) (hok0 rfl) (by decide) 87 rfl ?_
  refine oc (y := mt_101) (pc := 87) (ok_getfield dX0_man_87 (fg (own := "GardenChess") (idx := 196) (g := 13) (k := 1) (r := (RX10, TX10, 5)) rfl ⟨⟨by decide, by decide⟩, by decide⟩ (Or.inr ⟨_, q1034⟩) (Or.inl rfl) rfl (fg_nil))) 90 rfl ?_
  exact oc_iret dX0_man_90 rfl
theorem o_101_91 : okL gmt mt_101 91 b_101_91 := by
  refine oc (y := mt_101) (pc := 91) (ok_aload_n dX0_man_91) 92 rfl ?_
  refine oc (y := mt_101) (pc := 92) (ok_iload_n dX0_man_92) 93 rfl ?_
  refine oc_V (y := mt_101) (pc := 93) (vcons (y := mt_101) (pc := 93) (len := 3) (n := 2) (M := mt_83) (by decide) rfl (Or.inr rfl) rfl (ck_V dX0_man_93 ⟨by decide, by decide, by decide, by decide +kernel⟩ q513 q515 qs3 q162 q516) vnil) (hok0 rfl) (by decide) 96 rfl ?_
  refine oc (y := mt_101) (pc := 96) (ok_getfield dX0_man_96 (fg (own := "GardenChess") (idx := 251) (g := 13) (k := 2) (r := (RX10, TX10, 5)) rfl ⟨⟨by decide, by decide⟩, by decide⟩ (Or.inr ⟨_, q1037⟩) (Or.inl rfl) rfl (fg_nil))) 99 rfl ?_
  exact oc_iret dX0_man_99 rfl
theorem o_101_100 : okL gmt mt_101 100 b_101_100 := by
  refine oc (y := mt_101) (pc := 100) (ok_aload_n dX0_man_100) 101 rfl ?_
  refine oc (y := mt_101) (pc := 101) (ok_getfield dX0_man_101 (fg (own := "GardenChess") (idx := 83) (g := 1) (k := 12) (r := (RX0, TX0, 25)) rfl ⟨⟨by decide, by decide⟩, by decide⟩ (Or.inl q555) (Or.inl rfl) rfl (fg_nil))) 104 rfl ?_
  refine oc (y := mt_101) (pc := 104) (ok_iload_n dX0_man_104) 105 rfl ?_
  refine oc_V (y := mt_101) (pc := 105) (vcons (y := mt_101) (pc := 105) (len := 3) (n := 2) (M := mt_219) (by decide) rfl (Or.inr rfl) rfl (ck_V dX0_man_105 ⟨by decide, by decide, by decide, by decide +kernel⟩ q1363 q1364 q1365 q174 q1366) vnil) (hok0 rfl) (by decide) 108 rfl ?_
  exact oc_iret dX0_man_108 rfl
theorem o_101_109 : okL gmt mt_101 109 b_101_109 := by
  refine oc (y := mt_101) (pc := 109) (ok_iconst dX0_man_109 rfl ⟨by decide, by decide⟩) 110 rfl ?_
  exact oc_iret dX0_man_110 rfl
theorem ok_101 : ∀ q ∈ pr_101, okL gmt mt_101 q.1 q.2 := pk_c o_101_0 (pk_c o_101_10 (pk_c o_101_56 (pk_c o_101_65 (pk_c o_101_68 (pk_c o_101_69 (pk_c o_101_78 (pk_c o_101_81 (pk_c o_101_82 (pk_c o_101_91 (pk_c o_101_100 (pk_c o_101_109 (pk_n))))))))))))
theorem o_102_0 : okL gmt mt_102 0 b_102_0 := by
  refine oc (y := mt_102) (pc := 0) (ok_iload_n dX0_isMan_0) 1 rfl ?_
  refine oc_if dX0_isMan_1 ⟨by decide, by decide⟩ 4 rfl ?_
  refine oc (y := mt_102) (pc := 4) (ok_iload_n dX0_isMan_4) 5 rfl ?_
  refine oc (y := mt_102) (pc := 5) (ok_aload_n dX0_isMan_5) 6 rfl ?_
  refine oc_V (y := mt_102) (pc := 6) (vcons (y := mt_102) (pc := 6) (len := 3) (n := 1) (M := mt_81) (by decide) rfl (Or.inr rfl) rfl (ck_V dX0_isMan_6 ⟨by decide, by decide, by decide, by decide +kernel⟩ q1289 q497 qs1 q162 q498) vnil) (hok0 rfl) (by decide) 9 rfl ?_
  refine oc_icmp dX0_isMan_9 ⟨by decide, by decide⟩ 12 rfl ?_
  refine oc (y := mt_102) (pc := 12) (ok_iconst dX0_isMan_12 rfl ⟨by decide, by decide⟩) 13 rfl ?_
  exact oc_goto dX0_isMan_13 ⟨by decide, by decide⟩
theorem o_102_16 : okL gmt mt_102 16 b_102_16 := by
  refine oc (y := mt_102) (pc := 16) (ok_iconst dX0_isMan_16 rfl ⟨by decide, by decide⟩) 17 rfl ?_
  exact oc_fall rfl
theorem o_102_17 : okL gmt mt_102 17 b_102_17 := by
  exact oc_zret dX0_isMan_17 rfl
theorem ok_102 : ∀ q ∈ pr_102, okL gmt mt_102 q.1 q.2 := pk_c o_102_0 (pk_c o_102_16 (pk_c o_102_17 (pk_n)))
theorem o_103_0 : okL gmt mt_103 0 b_103_0 := by
  refine oc (y := mt_103) (pc := 0) (ok_aload_n dX0_field_0) 1 rfl ?_
  refine oc (y := mt_103) (pc := 1) (ok_iload_n dX0_field_1) 2 rfl ?_
  refine oc_V (y := mt_103) (pc := 2) (vcons (y := mt_103) (pc := 2) (len := 3) (n := 2) (M := mt_104) (by decide) rfl (Or.inr rfl) rfl (ck_V dX0_field_2 ⟨by decide, by decide, by decide, by decide +kernel⟩ q1371 q1373 qs36 q162 q1374) vnil) (hok0 rfl) (by decide) 5 rfl ?_
  refine oc_if dX0_field_5 ⟨by decide, by decide⟩ 8 rfl ?_
  refine oc (y := mt_103) (pc := 8) (ok_iconst dX0_field_8 rfl ⟨by decide, by decide⟩) 9 rfl ?_
  exact oc_iret dX0_field_9 rfl
theorem o_103_10 : okL gmt mt_103 10 b_103_10 := by
  refine oc (y := mt_103) (pc := 10) (ok_aload_n dX0_field_10) 11 rfl ?_
  refine oc (y := mt_103) (pc := 11) (ok_getfield dX0_field_11 (fg (own := "GardenChess") (idx := 31) (g := 1) (k := 0) (r := (RX0, TX0, 25)) rfl ⟨⟨by decide, by decide⟩, by decide⟩ (Or.inl q539) (Or.inl rfl) rfl (fg_nil))) 14 rfl ?_
  refine oc (y := mt_103) (pc := 14) (ok_getfield dX0_field_14 (fg (own := "GardenChess") (idx := 171) (g := 2) (k := 8) (r := (RX1, TX1, 10)) rfl ⟨⟨by decide, by decide⟩, by decide⟩ (Or.inr ⟨_, q271⟩) (Or.inl rfl) rfl (fg_nil))) 17 rfl ?_
  refine oc (y := mt_103) (pc := 17) (ok_iload_n dX0_field_17) 18 rfl ?_
  refine oc_F (y := mt_103) (pc := 18) (vcons (y := mt_103) (pc := 18) (len := 5) (n := 2) (M := mt_40) (by decide) rfl (Or.inr rfl) rfl (ck_F (ci := 2) dX0_field_18 rfl rfl (fun G s h => h.2.2.1.2.1) (by decide) ⟨by decide, by decide, by decide +kernel⟩ q518 q521 q523 q166 q525) vnil) (hok0 rfl) 23 rfl ?_
  refine oc (y := mt_103) (pc := 23) (ok_checkcast (E := "GardenChess$Field") dX0_field_23 q1375 (ct (by decide) rfl (Or.inl rfl) (ct_nil))) 26 rfl ?_
  refine oc (y := mt_103) (pc := 26) (ok_astore_n dX0_field_26 (by decide)) 27 rfl ?_
  refine oc (y := mt_103) (pc := 27) (ok_iload_n dX0_field_27) 28 rfl ?_
  refine oc_if dX0_field_28 ⟨by decide, by decide⟩ 31 rfl ?_
  refine oc (y := mt_103) (pc := 31) (ok_aload_n dX0_field_31) 32 rfl ?_
  refine oc (y := mt_103) (pc := 32) (ok_getfield dX0_field_32 (fg (own := "GardenChess") (idx := 260) (g := 14) (k := 1) (r := (RX11, TX11, 4)) rfl ⟨⟨by decide, by decide⟩, by decide⟩ (Or.inr ⟨_, q1063⟩) (Or.inl rfl) rfl (fg_nil))) 35 rfl ?_
  exact oc_goto dX0_field_35 ⟨by decide, by decide⟩
theorem o_103_38 : okL gmt mt_103 38 b_103_38 := by
  refine oc (y := mt_103) (pc := 38) (ok_iload_n dX0_field_38) 39 rfl ?_
  refine oc (y := mt_103) (pc := 39) (ok_iconst dX0_field_39 rfl ⟨by decide, by decide⟩) 40 rfl ?_
  refine oc_icmp dX0_field_40 ⟨by decide, by decide⟩ 43 rfl ?_
  refine oc (y := mt_103) (pc := 43) (ok_aload_n dX0_field_43) 44 rfl ?_
  refine oc (y := mt_103) (pc := 44) (ok_getfield dX0_field_44 (fg (own := "GardenChess") (idx := 263) (g := 14) (k := 2) (r := (RX11, TX11, 4)) rfl ⟨⟨by decide, by decide⟩, by decide⟩ (Or.inr ⟨_, q1066⟩) (Or.inl rfl) rfl (fg_nil))) 47 rfl ?_
  exact oc_goto dX0_field_47 ⟨by decide, by decide⟩
theorem o_103_50 : okL gmt mt_103 50 b_103_50 := by
  refine oc (y := mt_103) (pc := 50) (ok_iload_n dX0_field_50) 51 rfl ?_
  refine oc (y := mt_103) (pc := 51) (ok_iconst dX0_field_51 rfl ⟨by decide, by decide⟩) 52 rfl ?_
  refine oc_icmp dX0_field_52 ⟨by decide, by decide⟩ 55 rfl ?_
  refine oc (y := mt_103) (pc := 55) (ok_aload_n dX0_field_55) 56 rfl ?_
  refine oc (y := mt_103) (pc := 56) (ok_getfield dX0_field_56 (fg (own := "GardenChess") (idx := 83) (g := 1) (k := 12) (r := (RX0, TX0, 25)) rfl ⟨⟨by decide, by decide⟩, by decide⟩ (Or.inl q555) (Or.inl rfl) rfl (fg_nil))) 59 rfl ?_
  refine oc (y := mt_103) (pc := 59) (ok_getfield dX0_field_59 (fg (own := "GardenChess") (idx := 266) (g := 8) (k := 5) (r := (RX6, TX6, 12)) rfl ⟨⟨by decide, by decide⟩, by decide⟩ (Or.inr ⟨_, q456⟩) (Or.inl rfl) rfl (fg_nil))) 62 rfl ?_
  refine oc (y := mt_103) (pc := 62) (ok_iload_n dX0_field_62) 63 rfl ?_
  refine oc (y := mt_103) (pc := 63) (ok_iaload dX0_field_63) 64 rfl ?_
  exact oc_goto dX0_field_64 ⟨by decide, by decide⟩
theorem o_103_67 : okL gmt mt_103 67 b_103_67 := by
  refine oc (y := mt_103) (pc := 67) (ok_iconst dX0_field_67 rfl ⟨by decide, by decide⟩) 68 rfl ?_
  exact oc_fall rfl
theorem o_103_68 : okL gmt mt_103 68 b_103_68 := by
  exact oc_iret dX0_field_68 rfl
theorem ok_103 : ∀ q ∈ pr_103, okL gmt mt_103 q.1 q.2 := pk_c o_103_0 (pk_c o_103_10 (pk_c o_103_38 (pk_c o_103_50 (pk_c o_103_67 (pk_c o_103_68 (pk_n))))))
theorem o_104_0 : okL gmt mt_104 0 b_104_0 := by
  refine oc (y := mt_104) (pc := 0) (ok_iload_n dX0_isField_0) 1 rfl ?_
  refine oc_if dX0_isField_1 ⟨by decide, by decide⟩ 4 rfl ?_
  refine oc (y := mt_104) (pc := 4) (ok_iload_n dX0_isField_4) 5 rfl ?_
  refine oc (y := mt_104) (pc := 5) (ok_aload_n dX0_isField_5) 6 rfl ?_
  refine oc_V (y := mt_104) (pc := 6) (vcons (y := mt_104) (pc := 6) (len := 3) (n := 1) (M := mt_95) (by decide) rfl (Or.inr rfl) rfl (ck_V dX0_isField_6 ⟨by decide, by decide, by decide, by decide +kernel⟩ q1290 q1275 qs33 q162 q1276) vnil) (hok0 rfl) (by decide) 9 rfl ?_
  refine oc_icmp dX0_isField_9 ⟨by decide, by decide⟩ 12 rfl ?_
  refine oc (y := mt_104) (pc := 12) (ok_iconst dX0_isField_12 rfl ⟨by decide, by decide⟩) 13 rfl ?_
  exact oc_goto dX0_isField_13 ⟨by decide, by decide⟩
theorem o_104_16 : okL gmt mt_104 16 b_104_16 := by
  refine oc (y := mt_104) (pc := 16) (ok_iconst dX0_isField_16 rfl ⟨by decide, by decide⟩) 17 rfl ?_
  exact oc_fall rfl
theorem o_104_17 : okL gmt mt_104 17 b_104_17 := by
  exact oc_zret dX0_isField_17 rfl
theorem ok_104 : ∀ q ∈ pr_104, okL gmt mt_104 q.1 q.2 := pk_c o_104_0 (pk_c o_104_16 (pk_c o_104_17 (pk_n)))
theorem o_105_0 : okL gmt mt_105 0 b_105_0 := by
  refine oc (y := mt_105) (pc := 0) (ok_aload_n dX0_at_0) 1 rfl ?_
  refine oc (y := mt_105) (pc := 1) (ok_iload_n dX0_at_1) 2 rfl ?_
  refine oc (y := mt_105) (pc := 2) (ok_iload_n dX0_at_2) 3 rfl ?_
  refine oc_V (y := mt_105) (pc := 3) (vcons (y := mt_105) (pc := 3) (len := 3) (n := 3) (M := mt_106) (by decide) rfl (Or.inr rfl) rfl (ck_V dX0_at_3 ⟨by decide, by decide, by decide, by decide +kernel⟩ q1380 q1382 qs37 q162 q1383) vnil) (hok0 rfl) (by decide) 6 rfl ?_
  refine oc_if dX0_at_6 ⟨by decide, by decide⟩ 9 rfl ?_
  refine oc (y := mt_105) (pc := 9) (ok_aload_n dX0_at_9) 10 rfl ?_
  refine oc (y := mt_105) (pc := 10) (ok_getfield dX0_at_10 (fg (own := "GardenChess") (idx := 83) (g := 1) (k := 12) (r := (RX0, TX0, 25)) rfl ⟨⟨by decide, by decide⟩, by decide⟩ (Or.inl q555) (Or.inl rfl) rfl (fg_nil))) 13 rfl ?_
  refine oc (y := mt_105) (pc := 13) (ok_getfield dX0_at_13 (fg (own := "GardenChess") (idx := 273) (g := 8) (k := 4) (r := (RX6, TX6, 12)) rfl ⟨⟨by decide, by decide⟩, by decide⟩ (Or.inr ⟨_, q454⟩) (Or.inl rfl) rfl (fg_nil))) 16 rfl ?_
  refine oc (y := mt_105) (pc := 16) (ok_iconst dX0_at_16 rfl ⟨by decide, by decide⟩) 17 rfl ?_
  refine oc (y := mt_105) (pc := 17) (ok_iload_n dX0_at_17) 18 rfl ?_
  refine oc (y := mt_105) (pc := 18) (ok_imul dX0_at_18) 19 rfl ?_
  refine oc (y := mt_105) (pc := 19) (ok_iload_n dX0_at_19) 20 rfl ?_
  refine oc (y := mt_105) (pc := 20) (ok_iadd dX0_at_20) 21 rfl ?_
  refine oc (y := mt_105) (pc := 21) (ok_iaload dX0_at_21) 22 rfl ?_
  exact oc_goto dX0_at_22 ⟨by decide, by decide⟩
theorem o_105_25 : okL gmt mt_105 25 b_105_25 := by
  refine oc (y := mt_105) (pc := 25) (ok_iconst dX0_at_25 rfl ⟨by decide, by decide⟩) 26 rfl ?_
  exact oc_fall rfl
theorem o_105_26 : okL gmt mt_105 26 b_105_26 := by
  exact oc_iret dX0_at_26 rfl
theorem ok_105 : ∀ q ∈ pr_105, okL gmt mt_105 q.1 q.2 := pk_c o_105_0 (pk_c o_105_25 (pk_c o_105_26 (pk_n)))
theorem o_106_0 : okL gmt mt_106 0 b_106_0 := by
  refine oc (y := mt_106) (pc := 0) (ok_iload_n dX0_isIn_0) 1 rfl ?_
  refine oc (y := mt_106) (pc := 1) (ok_iconst dX0_isIn_1 rfl ⟨by decide, by decide⟩) 2 rfl ?_
  refine oc (y := mt_106) (pc := 2) (ok_aload_n dX0_isIn_2) 3 rfl ?_
  refine oc (y := mt_106) (pc := 3) (ok_getfield dX0_isIn_3 (fg (own := "GardenChess") (idx := 31) (g := 1) (k := 0) (r := (RX0, TX0, 25)) rfl ⟨⟨by decide, by decide⟩, by decide⟩ (Or.inl q539) (Or.inl rfl) rfl (fg_nil))) 6 rfl ?_
  refine oc (y := mt_106) (pc := 6) (ok_getfield dX0_isIn_6 (fg (own := "GardenChess") (idx := 159) (g := 2) (k := 1) (r := (RX1, TX1, 10)) rfl ⟨⟨by decide, by decide⟩, by decide⟩ (Or.inr ⟨_, q250⟩) (Or.inl rfl) rfl (fg_nil))) 9 rfl ?_
  refine oc (y := mt_106) (pc := 9) (ok_iconst dX0_isIn_9 rfl ⟨by decide, by decide⟩) 10 rfl ?_
  refine oc (y := mt_106) (pc := 10) (ok_isub dX0_isIn_10) 11 rfl ?_
  refine oc_S (y := mt_106) (pc := 11) (M := mt_92) rfl (ck_S dX0_isIn_11 ⟨by decide, by decide, by decide, by decide +kernel⟩ q1330 q771 q162 q772) (hok0 rfl) (by decide) 14 rfl ?_
  refine oc_if dX0_isIn_14 ⟨by decide, by decide⟩ 17 rfl ?_
  refine oc (y := mt_106) (pc := 17) (ok_iload_n dX0_isIn_17) 18 rfl ?_
  refine oc (y := mt_106) (pc := 18) (ok_iconst dX0_isIn_18 rfl ⟨by decide, by decide⟩) 19 rfl ?_
  refine oc (y := mt_106) (pc := 19) (ok_aload_n dX0_isIn_19) 20 rfl ?_
  refine oc (y := mt_106) (pc := 20) (ok_getfield dX0_isIn_20 (fg (own := "GardenChess") (idx := 31) (g := 1) (k := 0) (r := (RX0, TX0, 25)) rfl ⟨⟨by decide, by decide⟩, by decide⟩ (Or.inl q539) (Or.inl rfl) rfl (fg_nil))) 23 rfl ?_
  refine oc (y := mt_106) (pc := 23) (ok_getfield dX0_isIn_23 (fg (own := "GardenChess") (idx := 182) (g := 2) (k := 2) (r := (RX1, TX1, 10)) rfl ⟨⟨by decide, by decide⟩, by decide⟩ (Or.inr ⟨_, q254⟩) (Or.inl rfl) rfl (fg_nil))) 26 rfl ?_
  refine oc (y := mt_106) (pc := 26) (ok_iconst dX0_isIn_26 rfl ⟨by decide, by decide⟩) 27 rfl ?_
  refine oc (y := mt_106) (pc := 27) (ok_isub dX0_isIn_27) 28 rfl ?_
  refine oc_S (y := mt_106) (pc := 28) (M := mt_92) rfl (ck_S dX0_isIn_28 ⟨by decide, by decide, by decide, by decide +kernel⟩ q1330 q771 q162 q772) (hok0 rfl) (by decide) 31 rfl ?_
  refine oc_if dX0_isIn_31 ⟨by decide, by decide⟩ 34 rfl ?_
  refine oc (y := mt_106) (pc := 34) (ok_iconst dX0_isIn_34 rfl ⟨by decide, by decide⟩) 35 rfl ?_
  exact oc_goto dX0_isIn_35 ⟨by decide, by decide⟩
theorem o_106_38 : okL gmt mt_106 38 b_106_38 := by
  refine oc (y := mt_106) (pc := 38) (ok_iconst dX0_isIn_38 rfl ⟨by decide, by decide⟩) 39 rfl ?_
  exact oc_fall rfl
theorem o_106_39 : okL gmt mt_106 39 b_106_39 := by
  exact oc_zret dX0_isIn_39 rfl
theorem ok_106 : ∀ q ∈ pr_106, okL gmt mt_106 q.1 q.2 := pk_c o_106_0 (pk_c o_106_38 (pk_c o_106_39 (pk_n)))
theorem o_107_0 : okL gmt mt_107 0 b_107_0 := by
  refine oc (y := mt_107) (pc := 0) (ok_iload_n dX0_option_0) 1 rfl ?_
  refine oc (y := mt_107) (pc := 1) (ok_iconst dX0_option_1 rfl ⟨by decide, by decide⟩) 2 rfl ?_
  refine oc (y := mt_107) (pc := 2) (ok_aload_n dX0_option_2) 3 rfl ?_
  refine oc_V (y := mt_107) (pc := 3) (vcons (y := mt_107) (pc := 3) (len := 3) (n := 1) (M := mt_108) (by decide) rfl (Or.inr rfl) rfl (ck_V dX0_option_3 ⟨by decide, by decide, by decide, by decide +kernel⟩ q1388 q1390 qs38 q162 q1391) vnil) (hok0 rfl) (by decide) 6 rfl ?_
  refine oc (y := mt_107) (pc := 6) (ok_iconst dX0_option_6 rfl ⟨by decide, by decide⟩) 7 rfl ?_
  refine oc (y := mt_107) (pc := 7) (ok_isub dX0_option_7) 8 rfl ?_
  refine oc_S (y := mt_107) (pc := 8) (M := mt_92) rfl (ck_S dX0_option_8 ⟨by decide, by decide, by decide, by decide +kernel⟩ q1330 q771 q162 q772) (hok0 rfl) (by decide) 11 rfl ?_
  refine oc_if dX0_option_11 ⟨by decide, by decide⟩ 14 rfl ?_
  refine oc (y := mt_107) (pc := 14) (ok_iload_n dX0_option_14) 15 rfl ?_
  refine oc (y := mt_107) (pc := 15) (ok_iconst dX0_option_15 rfl ⟨by decide, by decide⟩) 16 rfl ?_
  refine oc (y := mt_107) (pc := 16) (ok_iconst dX0_option_16 rfl ⟨by decide, by decide⟩) 17 rfl ?_
  refine oc_S (y := mt_107) (pc := 17) (M := mt_92) rfl (ck_S dX0_option_17 ⟨by decide, by decide, by decide, by decide +kernel⟩ q1330 q771 q162 q772) (hok0 rfl) (by decide) 20 rfl ?_
  refine oc_if dX0_option_20 ⟨by decide, by decide⟩ 23 rfl ?_
  exact oc_fall rfl
theorem o_107_23 : okL gmt mt_107 23 b_107_23 := by
  refine oc (y := mt_107) (pc := 23) (ok_iconst dX0_option_23 rfl ⟨by decide, by decide⟩) 24 rfl ?_
  exact oc_iret dX0_option_24 rfl
theorem o_107_25 : okL gmt mt_107 25 b_107_25 := by
  refine oc (y := mt_107) (pc := 25) (ok_aload_n dX0_option_25) 26 rfl ?_
  refine oc (y := mt_107) (pc := 26) (ok_getfield dX0_option_26 (fg (own := "GardenChess") (idx := 77) (g := 1) (k := 11) (r := (RX0, TX0, 25)) rfl ⟨⟨by decide, by decide⟩, by decide⟩ (Or.inl q554) (Or.inl rfl) rfl (fg_nil))) 29 rfl ?_
  refine oc (y := mt_107) (pc := 29) (ok_getfield dX0_option_29 (fg (own := "GardenChess") (idx := 287) (g := 7) (k := 1) (r := (RX5, TX5, 3)) rfl ⟨⟨by decide, by decide⟩, by decide⟩ (Or.inr ⟨_, q426⟩) (Or.inl rfl) rfl (fg_nil))) 32 rfl ?_
  refine oc (y := mt_107) (pc := 32) (ok_iload_n dX0_option_32) 33 rfl ?_
  refine oc (y := mt_107) (pc := 33) (ok_iaload dX0_option_33) 34 rfl ?_
  refine oc (y := mt_107) (pc := 34) (ok_istore_n dX0_option_34 (by decide)) 35 rfl ?_
  refine oc (y := mt_107) (pc := 35) (ok_iload_n dX0_option_35) 36 rfl ?_
  refine oc (y := mt_107) (pc := 36) (ok_iconst dX0_option_36 rfl ⟨by decide, by decide⟩) 37 rfl ?_
  refine oc_icmp dX0_option_37 ⟨by decide, by decide⟩ 40 rfl ?_
  refine oc (y := mt_107) (pc := 40) (ok_iload_n dX0_option_40) 41 rfl ?_
  refine oc_if dX0_option_41 ⟨by decide, by decide⟩ 44 rfl ?_
  refine oc (y := mt_107) (pc := 44) (ok_aload_n dX0_option_44) 45 rfl ?_
  refine oc (y := mt_107) (pc := 45) (ok_getfield dX0_option_45 (fg (own := "GardenChess") (idx := 77) (g := 1) (k := 11) (r := (RX0, TX0, 25)) rfl ⟨⟨by decide, by decide⟩, by decide⟩ (Or.inl q554) (Or.inl rfl) rfl (fg_nil))) 48 rfl ?_
  refine oc (y := mt_107) (pc := 48) (ok_getfield dX0_option_48 (fg (own := "GardenChess") (idx := 288) (g := 7) (k := 0) (r := (RX5, TX5, 3)) rfl ⟨⟨by decide, by decide⟩, by decide⟩ (Or.inr ⟨_, q423⟩) (Or.inl rfl) rfl (fg_nil))) 51 rfl ?_
  refine oc (y := mt_107) (pc := 51) (ok_iload_n dX0_option_51) 52 rfl ?_
  refine oc (y := mt_107) (pc := 52) (ok_iaload dX0_option_52) 53 rfl ?_
  exact oc_goto dX0_option_53 ⟨by decide, by decide⟩
theorem o_107_56 : okL gmt mt_107 56 b_107_56 := by
  refine oc (y := mt_107) (pc := 56) (ok_iload_n dX0_option_56) 57 rfl ?_
  refine oc (y := mt_107) (pc := 57) (ok_iconst dX0_option_57 rfl ⟨by decide, by decide⟩) 58 rfl ?_
  refine oc_icmp dX0_option_58 ⟨by decide, by decide⟩ 61 rfl ?_
  refine oc (y := mt_107) (pc := 61) (ok_iload_n dX0_option_61) 62 rfl ?_
  refine oc (y := mt_107) (pc := 62) (ok_iconst dX0_option_62 rfl ⟨by decide, by decide⟩) 63 rfl ?_
  refine oc (y := mt_107) (pc := 63) (ok_irem dX0_option_63) 64 rfl ?_
  exact oc_goto dX0_option_64 ⟨by decide, by decide⟩
theorem o_107_67 : okL gmt mt_107 67 b_107_67 := by
  refine oc (y := mt_107) (pc := 67) (ok_iload_n dX0_option_67) 68 rfl ?_
  refine oc (y := mt_107) (pc := 68) (ok_iconst dX0_option_68 rfl ⟨by decide, by decide⟩) 69 rfl ?_
  refine oc (y := mt_107) (pc := 69) (ok_idiv dX0_option_69) 70 rfl ?_
  exact oc_fall rfl
theorem o_107_70 : okL gmt mt_107 70 b_107_70 := by
  exact oc_iret dX0_option_70 rfl
theorem o_107_71 : okL gmt mt_107 71 b_107_71 := by
  refine oc (y := mt_107) (pc := 71) (ok_iload_n dX0_option_71) 72 rfl ?_
  refine oc (y := mt_107) (pc := 72) (ok_iconst dX0_option_72 rfl ⟨by decide, by decide⟩) 73 rfl ?_
  refine oc_icmp dX0_option_73 ⟨by decide, by decide⟩ 76 rfl ?_
  refine oc (y := mt_107) (pc := 76) (ok_aload_n dX0_option_76) 77 rfl ?_
  refine oc (y := mt_107) (pc := 77) (ok_getfield dX0_option_77 (fg (own := "GardenChess") (idx := 83) (g := 1) (k := 12) (r := (RX0, TX0, 25)) rfl ⟨⟨by decide, by decide⟩, by decide⟩ (Or.inl q555) (Or.inl rfl) rfl (fg_nil))) 80 rfl ?_
  refine oc (y := mt_107) (pc := 80) (ok_getfield dX0_option_80 (fg (own := "GardenChess") (idx := 273) (g := 8) (k := 4) (r := (RX6, TX6, 12)) rfl ⟨⟨by decide, by decide⟩, by decide⟩ (Or.inr ⟨_, q454⟩) (Or.inl rfl) rfl (fg_nil))) 83 rfl ?_
  refine oc (y := mt_107) (pc := 83) (ok_iload_n dX0_option_83) 84 rfl ?_
  refine oc (y := mt_107) (pc := 84) (ok_iaload dX0_option_84) 85 rfl ?_
  refine oc (y := mt_107) (pc := 85) (ok_iconst dX0_option_85 rfl ⟨by decide, by decide⟩) 86 rfl ?_
  refine oc_icmp dX0_option_86 ⟨by decide, by decide⟩ 89 rfl ?_
  refine oc (y := mt_107) (pc := 89) (ok_sipush dX0_option_89 (by decide) ⟨by decide, by decide⟩) 92 rfl ?_
  exact oc_goto dX0_option_92 ⟨by decide, by decide⟩
theorem o_107_95 : okL gmt mt_107 95 b_107_95 := by
  refine oc (y := mt_107) (pc := 95) (ok_aload_n dX0_option_95) 96 rfl ?_
  refine oc (y := mt_107) (pc := 96) (ok_getfield dX0_option_96 (fg (own := "GardenChess") (idx := 83) (g := 1) (k := 12) (r := (RX0, TX0, 25)) rfl ⟨⟨by decide, by decide⟩, by decide⟩ (Or.inl q555) (Or.inl rfl) rfl (fg_nil))) 99 rfl ?_
  refine oc (y := mt_107) (pc := 99) (ok_getfield dX0_option_99 (fg (own := "GardenChess") (idx := 273) (g := 8) (k := 4) (r := (RX6, TX6, 12)) rfl ⟨⟨by decide, by decide⟩, by decide⟩ (Or.inr ⟨_, q454⟩) (Or.inl rfl) rfl (fg_nil))) 102 rfl ?_
  refine oc (y := mt_107) (pc := 102) (ok_iload_n dX0_option_102) 103 rfl ?_
  refine oc (y := mt_107) (pc := 103) (ok_iaload dX0_option_103) 104 rfl ?_
  exact oc_fall rfl
theorem o_107_104 : okL gmt mt_107 104 b_107_104 := by
  exact oc_iret dX0_option_104 rfl
theorem o_107_105 : okL gmt mt_107 105 b_107_105 := by
  refine oc (y := mt_107) (pc := 105) (ok_aload_n dX0_option_105) 106 rfl ?_
  refine oc (y := mt_107) (pc := 106) (ok_getfield dX0_option_106 (fg (own := "GardenChess") (idx := 87) (g := 1) (k := 13) (r := (RX0, TX0, 25)) rfl ⟨⟨by decide, by decide⟩, by decide⟩ (Or.inl q556) (Or.inl rfl) rfl (fg_nil))) 109 rfl ?_
  refine oc (y := mt_107) (pc := 109) (ok_aload_n dX0_option_109) 110 rfl ?_
  refine oc (y := mt_107) (pc := 110) (ok_getfield dX0_option_110 (fg (own := "GardenChess") (idx := 83) (g := 1) (k := 12) (r := (RX0, TX0, 25)) rfl ⟨⟨by decide, by decide⟩, by decide⟩ (Or.inl q555) (Or.inl rfl) rfl (fg_nil))) 113 rfl ?_
  refine oc_V (y := mt_107) (pc := 113) (vcons (y := mt_107) (pc := 113) (len := 3) (n := 2) (M := mt_220) (by decide) rfl (Or.inr rfl) rfl (ck_V dX0_option_113 ⟨by decide, by decide, by decide, by decide +kernel⟩ q1393 q1394 q1395 q174 q1396) vnil) (hok0 rfl) (by decide) 116 rfl ?_
  refine oc (y := mt_107) (pc := 116) (ok_aload_n dX0_option_116) 117 rfl ?_
  refine oc (y := mt_107) (pc := 117) (ok_getfield dX0_option_117 (fg (own := "GardenChess") (idx := 77) (g := 1) (k := 11) (r := (RX0, TX0, 25)) rfl ⟨⟨by decide, by decide⟩, by decide⟩ (Or.inl q554) (Or.inl rfl) rfl (fg_nil))) 120 rfl ?_
  refine oc (y := mt_107) (pc := 120) (ok_getfield dX0_option_120 (fg (own := "GardenChess") (idx := 288) (g := 7) (k := 0) (r := (RX5, TX5, 3)) rfl ⟨⟨by decide, by decide⟩, by decide⟩ (Or.inr ⟨_, q423⟩) (Or.inl rfl) rfl (fg_nil))) 123 rfl ?_
  refine oc (y := mt_107) (pc := 123) (ok_iload_n dX0_option_123) 124 rfl ?_
  refine oc (y := mt_107) (pc := 124) (ok_iaload dX0_option_124) 125 rfl ?_
  refine oc (y := mt_107) (pc := 125) (ok_iload_n dX0_option_125) 126 rfl ?_
  refine oc_V (y := mt_107) (pc := 126) (vcons (y := mt_107) (pc := 126) (len := 3) (n := 3) (M := mt_221) (by decide) rfl (Or.inr rfl) rfl (ck_V dX0_option_126 ⟨by decide, by decide, by decide, by decide +kernel⟩ q1397 q1398 q1399 q174 q1400) vnil) (hok0 rfl) (by decide) 129 rfl ?_
  refine oc (y := mt_107) (pc := 129) (ok_pop dX0_option_129) 130 rfl ?_
  refine oc (y := mt_107) (pc := 130) (ok_aload_n dX0_option_130) 131 rfl ?_
  refine oc (y := mt_107) (pc := 131) (ok_getfield dX0_option_131 (fg (own := "GardenChess") (idx := 87) (g := 1) (k := 13) (r := (RX0, TX0, 25)) rfl ⟨⟨by decide, by decide⟩, by decide⟩ (Or.inl q556) (Or.inl rfl) rfl (fg_nil))) 134 rfl ?_
  refine oc_V (y := mt_107) (pc := 134) (vcons (y := mt_107) (pc := 134) (len := 3) (n := 1) (M := mt_222) (by decide) rfl (Or.inr rfl) rfl (ck_V dX0_option_134 ⟨by decide, by decide, by decide, by decide +kernel⟩ q1401 q1402 q1403 q174 q1404) vnil) (hok0 rfl) (by decide) 137 rfl ?_
  refine oc_if dX0_option_137 ⟨by decide, by decide⟩ 140 rfl ?_
  refine oc (y := mt_107) (pc := 140) (ok_iconst dX0_option_140 rfl ⟨by decide, by decide⟩) 141 rfl ?_
  exact oc_goto dX0_option_141 ⟨by decide, by decide⟩
theorem o_107_144 : okL gmt mt_107 144 b_107_144 := by
  refine oc (y := mt_107) (pc := 144) (ok_iconst dX0_option_144 rfl ⟨by decide, by decide⟩) 145 rfl ?_
  exact oc_fall rfl
theorem o_107_145 : okL gmt mt_107 145 b_107_145 := by
  exact oc_iret dX0_option_145 rfl
theorem ok_107 : ∀ q ∈ pr_107, okL gmt mt_107 q.1 q.2 := pk_c o_107_0 (pk_c o_107_23 (pk_c o_107_25 (pk_c o_107_56 (pk_c o_107_67 (pk_c o_107_70 (pk_c o_107_71 (pk_c o_107_95 (pk_c o_107_104 (pk_c o_107_105 (pk_c o_107_144 (pk_c o_107_145 (pk_n))))))))))))
theorem o_108_0 : okL gmt mt_108 0 b_108_0 := by
  refine oc (y := mt_108) (pc := 0) (ok_aload_n dX0_finds_0) 1 rfl ?_
  refine oc (y := mt_108) (pc := 1) (ok_getfield dX0_finds_1 (fg (own := "GardenChess") (idx := 77) (g := 1) (k := 11) (r := (RX0, TX0, 25)) rfl ⟨⟨by decide, by decide⟩, by decide⟩ (Or.inl q554) (Or.inl rfl) rfl (fg_nil))) 4 rfl ?_
  refine oc (y := mt_108) (pc := 4) (ok_iconst dX0_finds_4 rfl ⟨by decide, by decide⟩) 5 rfl ?_
  refine oc (y := mt_108) (pc := 5) (ok_putfield dX0_finds_5 (fp (own := "GardenChess") (idx := 276) (g := 7) (k := 2) (r := (RX5, TX5, 3)) rfl ⟨⟨by decide, by decide⟩, by decide⟩ (Or.inr ⟨_, q429⟩) (Or.inl rfl) rfl (Or.inl rfl) (fp_nil))) 8 rfl ?_
  refine oc (y := mt_108) (pc := 8) (ok_aload_n dX0_finds_8) 9 rfl ?_
  refine oc_V (y := mt_108) (pc := 9) (vcons (y := mt_108) (pc := 9) (len := 3) (n := 1) (M := mt_98) (by decide) rfl (Or.inr rfl) rfl (ck_V dX0_finds_9 ⟨by decide, by decide, by decide, by decide +kernel⟩ q1291 q1293 qs34 q162 q1294) vnil) (hok0 rfl) (by decide) 12 rfl ?_
  refine oc_if dX0_finds_12 ⟨by decide, by decide⟩ 15 rfl ?_
  refine oc (y := mt_108) (pc := 15) (ok_aload_n dX0_finds_15) 16 rfl ?_
  refine oc (y := mt_108) (pc := 16) (ok_getfield dX0_finds_16 (fg (own := "GardenChess") (idx := 83) (g := 1) (k := 12) (r := (RX0, TX0, 25)) rfl ⟨⟨by decide, by decide⟩, by decide⟩ (Or.inl q555) (Or.inl rfl) rfl (fg_nil))) 19 rfl ?_
  refine oc (y := mt_108) (pc := 19) (ok_getfield dX0_finds_19 (fg (own := "GardenChess") (idx := 278) (g := 8) (k := 7) (r := (RX6, TX6, 12)) rfl ⟨⟨by decide, by decide⟩, by decide⟩ (Or.inr ⟨_, q460⟩) (Or.inl rfl) rfl (fg_nil))) 22 rfl ?_
  refine oc_if dX0_finds_22 ⟨by decide, by decide⟩ 25 rfl ?_
  refine oc (y := mt_108) (pc := 25) (ok_aload_n dX0_finds_25) 26 rfl ?_
  refine oc (y := mt_108) (pc := 26) (ok_getfield dX0_finds_26 (fg (own := "GardenChess") (idx := 83) (g := 1) (k := 12) (r := (RX0, TX0, 25)) rfl ⟨⟨by decide, by decide⟩, by decide⟩ (Or.inl q555) (Or.inl rfl) rfl (fg_nil))) 29 rfl ?_
  refine oc (y := mt_108) (pc := 29) (ok_aload_n dX0_finds_29) 30 rfl ?_
  refine oc (y := mt_108) (pc := 30) (ok_getfield dX0_finds_30 (fg (own := "GardenChess") (idx := 83) (g := 1) (k := 12) (r := (RX0, TX0, 25)) rfl ⟨⟨by decide, by decide⟩, by decide⟩ (Or.inl q555) (Or.inl rfl) rfl (fg_nil))) 33 rfl ?_
  refine oc (y := mt_108) (pc := 33) (ok_getfield dX0_finds_33 (fg (own := "GardenChess") (idx := 208) (g := 8) (k := 1) (r := (RX6, TX6, 12)) rfl ⟨⟨by decide, by decide⟩, by decide⟩ (Or.inr ⟨_, q448⟩) (Or.inl rfl) rfl (fg_nil))) 36 rfl ?_
  refine oc (y := mt_108) (pc := 36) (ok_aload_n dX0_finds_36) 37 rfl ?_
  refine oc (y := mt_108) (pc := 37) (ok_getfield dX0_finds_37 (fg (own := "GardenChess") (idx := 77) (g := 1) (k := 11) (r := (RX0, TX0, 25)) rfl ⟨⟨by decide, by decide⟩, by decide⟩ (Or.inl q554) (Or.inl rfl) rfl (fg_nil))) 40 rfl ?_
  refine oc_V (y := mt_108) (pc := 40) (vcons (y := mt_108) (pc := 40) (len := 3) (n := 3) (M := mt_215) (by decide) rfl (Or.inr rfl) rfl (ck_V dX0_finds_40 ⟨by decide, by decide, by decide, by decide +kernel⟩ q1392 q1300 q1301 q174 q1302) vnil) (hok0 rfl) (by decide) 43 rfl ?_
  exact oc_fall rfl
theorem o_108_43 : okL gmt mt_108 43 b_108_43 := by
  refine oc (y := mt_108) (pc := 43) (ok_aload_n dX0_finds_43) 44 rfl ?_
  refine oc (y := mt_108) (pc := 44) (ok_getfield dX0_finds_44 (fg (own := "GardenChess") (idx := 77) (g := 1) (k := 11) (r := (RX0, TX0, 25)) rfl ⟨⟨by decide, by decide⟩, by decide⟩ (Or.inl q554) (Or.inl rfl) rfl (fg_nil))) 47 rfl ?_
  refine oc (y := mt_108) (pc := 47) (ok_getfield dX0_finds_47 (fg (own := "GardenChess") (idx := 276) (g := 7) (k := 2) (r := (RX5, TX5, 3)) rfl ⟨⟨by decide, by decide⟩, by decide⟩ (Or.inr ⟨_, q429⟩) (Or.inl rfl) rfl (fg_nil))) 50 rfl ?_
  exact oc_iret dX0_finds_50 rfl
theorem ok_108 : ∀ q ∈ pr_108, okL gmt mt_108 q.1 q.2 := pk_c o_108_0 (pk_c o_108_43 (pk_n))
theorem o_109_0 : okL gmt mt_109 0 b_109_0 := by
  refine oc (y := mt_109) (pc := 0) (ok_iload_n dX0_kept_0) 1 rfl ?_
  refine oc (y := mt_109) (pc := 1) (ok_iconst dX0_kept_1 rfl ⟨by decide, by decide⟩) 2 rfl ?_
  refine oc (y := mt_109) (pc := 2) (ok_aload_n dX0_kept_2) 3 rfl ?_
  refine oc (y := mt_109) (pc := 3) (ok_getfield dX0_kept_3 (fg (own := "GardenChess") (idx := 83) (g := 1) (k := 12) (r := (RX0, TX0, 25)) rfl ⟨⟨by decide, by decide⟩, by decide⟩ (Or.inl q555) (Or.inl rfl) rfl (fg_nil))) 6 rfl ?_
  refine oc (y := mt_109) (pc := 6) (ok_getfield dX0_kept_6 (fg (own := "GardenChess") (idx := 224) (g := 8) (k := 2) (r := (RX6, TX6, 12)) rfl ⟨⟨by decide, by decide⟩, by decide⟩ (Or.inr ⟨_, q450⟩) (Or.inl rfl) rfl (fg_nil))) 9 rfl ?_
  refine oc (y := mt_109) (pc := 9) (ok_iconst dX0_kept_9 rfl ⟨by decide, by decide⟩) 10 rfl ?_
  refine oc (y := mt_109) (pc := 10) (ok_isub dX0_kept_10) 11 rfl ?_
  refine oc_S (y := mt_109) (pc := 11) (M := mt_92) rfl (ck_S dX0_kept_11 ⟨by decide, by decide, by decide, by decide +kernel⟩ q1330 q771 q162 q772) (hok0 rfl) (by decide) 14 rfl ?_
  refine oc_if dX0_kept_14 ⟨by decide, by decide⟩ 17 rfl ?_
  refine oc (y := mt_109) (pc := 17) (ok_iload_n dX0_kept_17) 18 rfl ?_
  refine oc (y := mt_109) (pc := 18) (ok_iconst dX0_kept_18 rfl ⟨by decide, by decide⟩) 19 rfl ?_
  refine oc (y := mt_109) (pc := 19) (ok_iconst dX0_kept_19 rfl ⟨by decide, by decide⟩) 20 rfl ?_
  refine oc_S (y := mt_109) (pc := 20) (M := mt_92) rfl (ck_S dX0_kept_20 ⟨by decide, by decide, by decide, by decide +kernel⟩ q1330 q771 q162 q772) (hok0 rfl) (by decide) 23 rfl ?_
  refine oc_if dX0_kept_23 ⟨by decide, by decide⟩ 26 rfl ?_
  refine oc (y := mt_109) (pc := 26) (ok_aload_n dX0_kept_26) 27 rfl ?_
  refine oc (y := mt_109) (pc := 27) (ok_getfield dX0_kept_27 (fg (own := "GardenChess") (idx := 83) (g := 1) (k := 12) (r := (RX0, TX0, 25)) rfl ⟨⟨by decide, by decide⟩, by decide⟩ (Or.inl q555) (Or.inl rfl) rfl (fg_nil))) 30 rfl ?_
  refine oc (y := mt_109) (pc := 30) (ok_getfield dX0_kept_30 (fg (own := "GardenChess") (idx := 301) (g := 8) (k := 6) (r := (RX6, TX6, 12)) rfl ⟨⟨by decide, by decide⟩, by decide⟩ (Or.inr ⟨_, q458⟩) (Or.inl rfl) rfl (fg_nil))) 33 rfl ?_
  refine oc (y := mt_109) (pc := 33) (ok_iload_n dX0_kept_33) 34 rfl ?_
  refine oc (y := mt_109) (pc := 34) (ok_aaload (ty := .array .int) dX0_kept_34 (by decide) (by decide) rfl rfl) 35 rfl ?_
  refine oc (y := mt_109) (pc := 35) (ok_iload_n dX0_kept_35) 36 rfl ?_
  refine oc (y := mt_109) (pc := 36) (ok_iaload dX0_kept_36) 37 rfl ?_
  exact oc_goto dX0_kept_37 ⟨by decide, by decide⟩
theorem o_109_40 : okL gmt mt_109 40 b_109_40 := by
  refine oc (y := mt_109) (pc := 40) (ok_iconst dX0_kept_40 rfl ⟨by decide, by decide⟩) 41 rfl ?_
  exact oc_fall rfl
theorem o_109_41 : okL gmt mt_109 41 b_109_41 := by
  exact oc_iret dX0_kept_41 rfl
theorem ok_109 : ∀ q ∈ pr_109, okL gmt mt_109 q.1 q.2 := pk_c o_109_0 (pk_c o_109_40 (pk_c o_109_41 (pk_n)))
theorem o_110_0 : okL gmt mt_110 0 b_110_0 := by
  refine oc (y := mt_110) (pc := 0) (ok_aload_n dX0_balance_0) 1 rfl ?_
  refine oc_V (y := mt_110) (pc := 1) (vcons (y := mt_110) (pc := 1) (len := 3) (n := 1) (M := mt_98) (by decide) rfl (Or.inr rfl) rfl (ck_V dX0_balance_1 ⟨by decide, by decide, by decide, by decide +kernel⟩ q1291 q1293 qs34 q162 q1294) vnil) (hok0 rfl) (by decide) 4 rfl ?_
  refine oc_if dX0_balance_4 ⟨by decide, by decide⟩ 7 rfl ?_
  refine oc (y := mt_110) (pc := 7) (ok_iload_n dX0_balance_7) 8 rfl ?_
  refine oc (y := mt_110) (pc := 8) (ok_iconst dX0_balance_8 rfl ⟨by decide, by decide⟩) 9 rfl ?_
  refine oc (y := mt_110) (pc := 9) (ok_iconst dX0_balance_9 rfl ⟨by decide, by decide⟩) 10 rfl ?_
  refine oc_S (y := mt_110) (pc := 10) (M := mt_92) rfl (ck_S dX0_balance_10 ⟨by decide, by decide, by decide, by decide +kernel⟩ q1330 q771 q162 q772) (hok0 rfl) (by decide) 13 rfl ?_
  refine oc_if dX0_balance_13 ⟨by decide, by decide⟩ 16 rfl ?_
  refine oc (y := mt_110) (pc := 16) (ok_aload_n dX0_balance_16) 17 rfl ?_
  refine oc (y := mt_110) (pc := 17) (ok_getfield dX0_balance_17 (fg (own := "GardenChess") (idx := 83) (g := 1) (k := 12) (r := (RX0, TX0, 25)) rfl ⟨⟨by decide, by decide⟩, by decide⟩ (Or.inl q555) (Or.inl rfl) rfl (fg_nil))) 20 rfl ?_
  refine oc (y := mt_110) (pc := 20) (ok_iload_n dX0_balance_20) 21 rfl ?_
  refine oc_V (y := mt_110) (pc := 21) (vcons (y := mt_110) (pc := 21) (len := 3) (n := 2) (M := mt_223) (by decide) rfl (Or.inr rfl) rfl (ck_V dX0_balance_21 ⟨by decide, by decide, by decide, by decide +kernel⟩ q1413 q1414 q1415 q174 q1416) vnil) (hok0 rfl) (by decide) 24 rfl ?_
  refine oc (y := mt_110) (pc := 24) (ok_i2l dX0_balance_24) 25 rfl ?_
  exact oc_goto dX0_balance_25 ⟨by decide, by decide⟩
theorem o_110_28 : okL gmt mt_110 28 b_110_28 := by
  refine oc (y := mt_110) (pc := 28) (ok_ldc2 dX0_balance_28 ⟨by decide, by decide⟩ (show Cond.constantLong _ _ (Int64.ofInt (-1000000000000000)) ∈ lw_all from q1417)) 31 rfl ?_
  exact oc_fall rfl
theorem o_110_31 : okL gmt mt_110 31 b_110_31 := by
  exact oc_lret dX0_balance_31 rfl
theorem ok_110 : ∀ q ∈ pr_110, okL gmt mt_110 q.1 q.2 := pk_c o_110_0 (pk_c o_110_28 (pk_c o_110_31 (pk_n)))
theorem o_111_0 : okL gmt mt_111 0 b_111_0 := by
  refine oc (y := mt_111) (pc := 0) (ok_aload_n dX0_value_0) 1 rfl ?_
  refine oc_V (y := mt_111) (pc := 1) (vcons (y := mt_111) (pc := 1) (len := 3) (n := 1) (M := mt_98) (by decide) rfl (Or.inr rfl) rfl (ck_V dX0_value_1 ⟨by decide, by decide, by decide, by decide +kernel⟩ q1291 q1293 qs34 q162 q1294) vnil) (hok0 rfl) (by decide) 4 rfl ?_
  refine oc_if dX0_value_4 ⟨by decide, by decide⟩ 7 rfl ?_
  refine oc (y := mt_111) (pc := 7) (ok_iload_n dX0_value_7) 8 rfl ?_
  refine oc (y := mt_111) (pc := 8) (ok_iconst dX0_value_8 rfl ⟨by decide, by decide⟩) 9 rfl ?_
  refine oc (y := mt_111) (pc := 9) (ok_iconst dX0_value_9 rfl ⟨by decide, by decide⟩) 10 rfl ?_
  refine oc_S (y := mt_111) (pc := 10) (M := mt_92) rfl (ck_S dX0_value_10 ⟨by decide, by decide, by decide, by decide +kernel⟩ q1330 q771 q162 q772) (hok0 rfl) (by decide) 13 rfl ?_
  refine oc_if dX0_value_13 ⟨by decide, by decide⟩ 16 rfl ?_
  refine oc (y := mt_111) (pc := 16) (ok_aload_n dX0_value_16) 17 rfl ?_
  refine oc (y := mt_111) (pc := 17) (ok_getfield dX0_value_17 (fg (own := "GardenChess") (idx := 87) (g := 1) (k := 13) (r := (RX0, TX0, 25)) rfl ⟨⟨by decide, by decide⟩, by decide⟩ (Or.inl q556) (Or.inl rfl) rfl (fg_nil))) 20 rfl ?_
  refine oc (y := mt_111) (pc := 20) (ok_aload_n dX0_value_20) 21 rfl ?_
  refine oc (y := mt_111) (pc := 21) (ok_getfield dX0_value_21 (fg (own := "GardenChess") (idx := 83) (g := 1) (k := 12) (r := (RX0, TX0, 25)) rfl ⟨⟨by decide, by decide⟩, by decide⟩ (Or.inl q555) (Or.inl rfl) rfl (fg_nil))) 24 rfl ?_
  refine oc_V (y := mt_111) (pc := 24) (vcons (y := mt_111) (pc := 24) (len := 3) (n := 2) (M := mt_220) (by decide) rfl (Or.inr rfl) rfl (ck_V dX0_value_24 ⟨by decide, by decide, by decide, by decide +kernel⟩ q1393 q1394 q1395 q174 q1396) vnil) (hok0 rfl) (by decide) 27 rfl ?_
  refine oc (y := mt_111) (pc := 27) (ok_iload_n dX0_value_27) 28 rfl ?_
  refine oc_V (y := mt_111) (pc := 28) (vcons (y := mt_111) (pc := 28) (len := 3) (n := 2) (M := mt_224) (by decide) rfl (Or.inr rfl) rfl (ck_V dX0_value_28 ⟨by decide, by decide, by decide, by decide +kernel⟩ q1422 q1423 q1424 q174 q1425) vnil) (hok0 rfl) (by decide) 31 rfl ?_
  refine oc (y := mt_111) (pc := 31) (ok_i2l dX0_value_31) 32 rfl ?_
  exact oc_goto dX0_value_32 ⟨by decide, by decide⟩
theorem o_111_35 : okL gmt mt_111 35 b_111_35 := by
  refine oc (y := mt_111) (pc := 35) (ok_ldc2 dX0_value_35 ⟨by decide, by decide⟩ (show Cond.constantLong _ _ (Int64.ofInt (-1000000000000000)) ∈ lw_all from q1417)) 38 rfl ?_
  exact oc_fall rfl
theorem o_111_38 : okL gmt mt_111 38 b_111_38 := by
  exact oc_lret dX0_value_38 rfl
theorem ok_111 : ∀ q ∈ pr_111, okL gmt mt_111 q.1 q.2 := pk_c o_111_0 (pk_c o_111_35 (pk_c o_111_38 (pk_n)))
theorem o_112_0 : okL gmt mt_112 0 b_112_0 := by
  refine oc (y := mt_112) (pc := 0) (ok_aload_n dX0_best_0) 1 rfl ?_
  refine oc_V (y := mt_112) (pc := 1) (vcons (y := mt_112) (pc := 1) (len := 3) (n := 1) (M := mt_98) (by decide) rfl (Or.inr rfl) rfl (ck_V dX0_best_1 ⟨by decide, by decide, by decide, by decide +kernel⟩ q1291 q1293 qs34 q162 q1294) vnil) (hok0 rfl) (by decide) 4 rfl ?_
  refine oc_if dX0_best_4 ⟨by decide, by decide⟩ 7 rfl ?_
  refine oc (y := mt_112) (pc := 7) (ok_iload_n dX0_best_7) 8 rfl ?_
  refine oc (y := mt_112) (pc := 8) (ok_iconst dX0_best_8 rfl ⟨by decide, by decide⟩) 9 rfl ?_
  refine oc (y := mt_112) (pc := 9) (ok_iconst dX0_best_9 rfl ⟨by decide, by decide⟩) 10 rfl ?_
  refine oc_S (y := mt_112) (pc := 10) (M := mt_92) rfl (ck_S dX0_best_10 ⟨by decide, by decide, by decide, by decide +kernel⟩ q1330 q771 q162 q772) (hok0 rfl) (by decide) 13 rfl ?_
  refine oc_if dX0_best_13 ⟨by decide, by decide⟩ 16 rfl ?_
  refine oc (y := mt_112) (pc := 16) (ok_aload_n dX0_best_16) 17 rfl ?_
  refine oc (y := mt_112) (pc := 17) (ok_getfield dX0_best_17 (fg (own := "GardenChess") (idx := 87) (g := 1) (k := 13) (r := (RX0, TX0, 25)) rfl ⟨⟨by decide, by decide⟩, by decide⟩ (Or.inl q556) (Or.inl rfl) rfl (fg_nil))) 20 rfl ?_
  refine oc (y := mt_112) (pc := 20) (ok_aload_n dX0_best_20) 21 rfl ?_
  refine oc (y := mt_112) (pc := 21) (ok_getfield dX0_best_21 (fg (own := "GardenChess") (idx := 83) (g := 1) (k := 12) (r := (RX0, TX0, 25)) rfl ⟨⟨by decide, by decide⟩, by decide⟩ (Or.inl q555) (Or.inl rfl) rfl (fg_nil))) 24 rfl ?_
  refine oc_V (y := mt_112) (pc := 24) (vcons (y := mt_112) (pc := 24) (len := 3) (n := 2) (M := mt_220) (by decide) rfl (Or.inr rfl) rfl (ck_V dX0_best_24 ⟨by decide, by decide, by decide, by decide +kernel⟩ q1393 q1394 q1395 q174 q1396) vnil) (hok0 rfl) (by decide) 27 rfl ?_
  refine oc (y := mt_112) (pc := 27) (ok_iload_n dX0_best_27) 28 rfl ?_
  refine oc_V (y := mt_112) (pc := 28) (vcons (y := mt_112) (pc := 28) (len := 3) (n := 2) (M := mt_227) (by decide) rfl (Or.inr rfl) rfl (ck_V dX0_best_28 ⟨by decide, by decide, by decide, by decide +kernel⟩ q1442 q1443 q1444 q174 q1445) vnil) (hok0 rfl) (by decide) 31 rfl ?_
  exact oc_goto dX0_best_31 ⟨by decide, by decide⟩
theorem o_112_34 : okL gmt mt_112 34 b_112_34 := by
  refine oc (y := mt_112) (pc := 34) (ok_iconst dX0_best_34 rfl ⟨by decide, by decide⟩) 35 rfl ?_
  exact oc_fall rfl
theorem o_112_35 : okL gmt mt_112 35 b_112_35 := by
  exact oc_iret dX0_best_35 rfl
theorem ok_112 : ∀ q ∈ pr_112, okL gmt mt_112 q.1 q.2 := pk_c o_112_0 (pk_c o_112_34 (pk_c o_112_35 (pk_n)))
theorem o_113_0 : okL gmt mt_113 0 b_113_0 := by
  refine oc (y := mt_113) (pc := 0) (ok_aload_n dX0_forced_0) 1 rfl ?_
  refine oc_V (y := mt_113) (pc := 1) (vcons (y := mt_113) (pc := 1) (len := 3) (n := 1) (M := mt_108) (by decide) rfl (Or.inr rfl) rfl (ck_V dX0_forced_1 ⟨by decide, by decide, by decide, by decide +kernel⟩ q1388 q1390 qs38 q162 q1391) vnil) (hok0 rfl) (by decide) 4 rfl ?_
  refine oc_if dX0_forced_4 ⟨by decide, by decide⟩ 7 rfl ?_
  refine oc (y := mt_113) (pc := 7) (ok_iconst dX0_forced_7 rfl ⟨by decide, by decide⟩) 8 rfl ?_
  exact oc_iret dX0_forced_8 rfl
theorem o_113_9 : okL gmt mt_113 9 b_113_9 := by
  refine oc (y := mt_113) (pc := 9) (ok_aload_n dX0_forced_9) 10 rfl ?_
  refine oc (y := mt_113) (pc := 10) (ok_aload_n dX0_forced_10) 11 rfl ?_
  refine oc (y := mt_113) (pc := 11) (ok_getfield dX0_forced_11 (fg (own := "GardenChess") (idx := 83) (g := 1) (k := 12) (r := (RX0, TX0, 25)) rfl ⟨⟨by decide, by decide⟩, by decide⟩ (Or.inl q555) (Or.inl rfl) rfl (fg_nil))) 14 rfl ?_
  refine oc (y := mt_113) (pc := 14) (ok_aload_n dX0_forced_14) 15 rfl ?_
  refine oc (y := mt_113) (pc := 15) (ok_getfield dX0_forced_15 (fg (own := "GardenChess") (idx := 68) (g := 1) (k := 9) (r := (RX0, TX0, 25)) rfl ⟨⟨by decide, by decide⟩, by decide⟩ (Or.inl q550) (Or.inl rfl) rfl (fg_nil))) 18 rfl ?_
  refine oc (y := mt_113) (pc := 18) (ok_iconst dX0_forced_18 rfl ⟨by decide, by decide⟩) 19 rfl ?_
  refine oc (y := mt_113) (pc := 19) (ok_aaload (ty := .object "GardenChess$Moves") dX0_forced_19 (by decide) (by decide) rfl rfl) 20 rfl ?_
  refine oc_V (y := mt_113) (pc := 20) (vcons (y := mt_113) (pc := 20) (len := 3) (n := 3) (M := mt_114) (by decide) rfl (Or.inr rfl) rfl (ck_V dX0_forced_20 ⟨by decide, by decide, by decide, by decide +kernel⟩ q1451 q1453 qs40 q162 q1454) vnil) (hok0 rfl) (by decide) 23 rfl ?_
  refine oc_if dX0_forced_23 ⟨by decide, by decide⟩ 26 rfl ?_
  refine oc (y := mt_113) (pc := 26) (ok_iconst dX0_forced_26 rfl ⟨by decide, by decide⟩) 27 rfl ?_
  exact oc_iret dX0_forced_27 rfl
theorem o_113_28 : okL gmt mt_113 28 b_113_28 := by
  refine oc (y := mt_113) (pc := 28) (ok_iconst dX0_forced_28 rfl ⟨by decide, by decide⟩) 29 rfl ?_
  refine oc (y := mt_113) (pc := 29) (ok_istore_n dX0_forced_29 (by decide)) 30 rfl ?_
  exact oc_fall rfl
theorem o_113_30 : okL gmt mt_113 30 b_113_30 := by
  refine oc (y := mt_113) (pc := 30) (ok_iload_n dX0_forced_30) 31 rfl ?_
  refine oc (y := mt_113) (pc := 31) (ok_aload_n dX0_forced_31) 32 rfl ?_
  refine oc (y := mt_113) (pc := 32) (ok_getfield dX0_forced_32 (fg (own := "GardenChess") (idx := 77) (g := 1) (k := 11) (r := (RX0, TX0, 25)) rfl ⟨⟨by decide, by decide⟩, by decide⟩ (Or.inl q554) (Or.inl rfl) rfl (fg_nil))) 35 rfl ?_
  refine oc (y := mt_113) (pc := 35) (ok_getfield dX0_forced_35 (fg (own := "GardenChess") (idx := 276) (g := 7) (k := 2) (r := (RX5, TX5, 3)) rfl ⟨⟨by decide, by decide⟩, by decide⟩ (Or.inr ⟨_, q429⟩) (Or.inl rfl) rfl (fg_nil))) 38 rfl ?_
  refine oc_icmp dX0_forced_38 ⟨by decide, by decide⟩ 41 rfl ?_
  refine oc (y := mt_113) (pc := 41) (ok_aload_n dX0_forced_41) 42 rfl ?_
  refine oc (y := mt_113) (pc := 42) (ok_iload_n dX0_forced_42) 43 rfl ?_
  refine oc_V (y := mt_113) (pc := 43) (vcons (y := mt_113) (pc := 43) (len := 3) (n := 2) (M := mt_115) (by decide) rfl (Or.inr rfl) rfl (ck_V dX0_forced_43 ⟨by decide, by decide, by decide, by decide +kernel⟩ q1456 q1458 qs41 q162 q1459) vnil) (hok0 rfl) (by decide) 46 rfl ?_
  refine oc_if dX0_forced_46 ⟨by decide, by decide⟩ 49 rfl ?_
  refine oc (y := mt_113) (pc := 49) (ok_iconst dX0_forced_49 rfl ⟨by decide, by decide⟩) 50 rfl ?_
  exact oc_iret dX0_forced_50 rfl
theorem o_113_51 : okL gmt mt_113 51 b_113_51 := by
  refine oc (y := mt_113) (pc := 51) (ok_iinc dX0_forced_51 (by decide)) 54 rfl ?_
  exact oc_goto dX0_forced_54 ⟨by decide, by decide⟩
theorem o_113_57 : okL gmt mt_113 57 b_113_57 := by
  refine oc (y := mt_113) (pc := 57) (ok_iconst dX0_forced_57 rfl ⟨by decide, by decide⟩) 58 rfl ?_
  exact oc_iret dX0_forced_58 rfl
theorem ok_113 : ∀ q ∈ pr_113, okL gmt mt_113 q.1 q.2 := pk_c o_113_0 (pk_c o_113_9 (pk_c o_113_28 (pk_c o_113_30 (pk_c o_113_51 (pk_c o_113_57 (pk_n))))))
theorem o_114_0 : okL gmt mt_114 0 b_114_0 := by
  refine oc (y := mt_114) (pc := 0) (ok_aload_n dX0_takes_0) 1 rfl ?_
  refine oc (y := mt_114) (pc := 1) (ok_aload_n dX0_takes_1) 2 rfl ?_
  refine oc (y := mt_114) (pc := 2) (ok_getfield dX0_takes_2 (fg (own := "GardenChess") (idx := 208) (g := 8) (k := 1) (r := (RX6, TX6, 12)) rfl ⟨⟨by decide, by decide⟩, by decide⟩ (Or.inr ⟨_, q448⟩) (Or.inl rfl) rfl (fg_nil))) 5 rfl ?_
  refine oc (y := mt_114) (pc := 5) (ok_aload_n dX0_takes_5) 6 rfl ?_
  refine oc_V (y := mt_114) (pc := 6) (vcons (y := mt_114) (pc := 6) (len := 3) (n := 3) (M := mt_215) (by decide) rfl (Or.inr rfl) rfl (ck_V dX0_takes_6 ⟨by decide, by decide, by decide, by decide +kernel⟩ q1392 q1300 q1301 q174 q1302) vnil) (hok0 rfl) (by decide) 9 rfl ?_
  refine oc (y := mt_114) (pc := 9) (ok_iconst dX0_takes_9 rfl ⟨by decide, by decide⟩) 10 rfl ?_
  refine oc (y := mt_114) (pc := 10) (ok_istore_n dX0_takes_10 (by decide)) 11 rfl ?_
  exact oc_fall rfl
theorem o_114_11 : okL gmt mt_114 11 b_114_11 := by
  refine oc (y := mt_114) (pc := 11) (ok_iload_n dX0_takes_11) 12 rfl ?_
  refine oc (y := mt_114) (pc := 12) (ok_aload_n dX0_takes_12) 13 rfl ?_
  refine oc (y := mt_114) (pc := 13) (ok_getfield dX0_takes_13 (fg (own := "GardenChess") (idx := 276) (g := 7) (k := 2) (r := (RX5, TX5, 3)) rfl ⟨⟨by decide, by decide⟩, by decide⟩ (Or.inr ⟨_, q429⟩) (Or.inl rfl) rfl (fg_nil))) 16 rfl ?_
  refine oc_icmp dX0_takes_16 ⟨by decide, by decide⟩ 19 rfl ?_
  refine oc (y := mt_114) (pc := 19) (ok_aload_n dX0_takes_19) 20 rfl ?_
  refine oc (y := mt_114) (pc := 20) (ok_getfield dX0_takes_20 (fg (own := "GardenChess") (idx := 273) (g := 8) (k := 4) (r := (RX6, TX6, 12)) rfl ⟨⟨by decide, by decide⟩, by decide⟩ (Or.inr ⟨_, q454⟩) (Or.inl rfl) rfl (fg_nil))) 23 rfl ?_
  refine oc (y := mt_114) (pc := 23) (ok_aload_n dX0_takes_23) 24 rfl ?_
  refine oc (y := mt_114) (pc := 24) (ok_getfield dX0_takes_24 (fg (own := "GardenChess") (idx := 287) (g := 7) (k := 1) (r := (RX5, TX5, 3)) rfl ⟨⟨by decide, by decide⟩, by decide⟩ (Or.inr ⟨_, q426⟩) (Or.inl rfl) rfl (fg_nil))) 27 rfl ?_
  refine oc (y := mt_114) (pc := 27) (ok_iload_n dX0_takes_27) 28 rfl ?_
  refine oc (y := mt_114) (pc := 28) (ok_iaload dX0_takes_28) 29 rfl ?_
  refine oc (y := mt_114) (pc := 29) (ok_iaload dX0_takes_29) 30 rfl ?_
  refine oc (y := mt_114) (pc := 30) (ok_istore dX0_takes_30 (by decide)) 32 rfl ?_
  refine oc (y := mt_114) (pc := 32) (ok_iload dX0_takes_32) 34 rfl ?_
  refine oc (y := mt_114) (pc := 34) (ok_iconst dX0_takes_34 rfl ⟨by decide, by decide⟩) 35 rfl ?_
  refine oc_icmp dX0_takes_35 ⟨by decide, by decide⟩ 38 rfl ?_
  refine oc (y := mt_114) (pc := 38) (ok_aload_n dX0_takes_38) 39 rfl ?_
  refine oc (y := mt_114) (pc := 39) (ok_iload dX0_takes_39) 41 rfl ?_
  refine oc_V (y := mt_114) (pc := 41) (vcons (y := mt_114) (pc := 41) (len := 3) (n := 2) (M := mt_82) (by decide) rfl (Or.inr rfl) rfl (ck_V dX0_takes_41 ⟨by decide, by decide, by decide, by decide +kernel⟩ q1455 q511 qs2 q162 q512) vnil) (hok0 rfl) (by decide) 44 rfl ?_
  refine oc (y := mt_114) (pc := 44) (ok_getfield dX0_takes_44 (fg (own := "GardenChess") (idx := 241) (g := 12) (k := 4) (r := (RX9, TX9, 5)) rfl ⟨⟨by decide, by decide⟩, by decide⟩ (Or.inr ⟨_, q911⟩) (Or.inl rfl) rfl (fg_nil))) 47 rfl ?_
  refine oc_if dX0_takes_47 ⟨by decide, by decide⟩ 50 rfl ?_
  refine oc (y := mt_114) (pc := 50) (ok_iconst dX0_takes_50 rfl ⟨by decide, by decide⟩) 51 rfl ?_
  exact oc_zret dX0_takes_51 rfl
theorem o_114_52 : okL gmt mt_114 52 b_114_52 := by
  refine oc (y := mt_114) (pc := 52) (ok_iinc dX0_takes_52 (by decide)) 55 rfl ?_
  exact oc_goto dX0_takes_55 ⟨by decide, by decide⟩
theorem o_114_58 : okL gmt mt_114 58 b_114_58 := by
  refine oc (y := mt_114) (pc := 58) (ok_iconst dX0_takes_58 rfl ⟨by decide, by decide⟩) 59 rfl ?_
  exact oc_zret dX0_takes_59 rfl
theorem ok_114 : ∀ q ∈ pr_114, okL gmt mt_114 q.1 q.2 := pk_c o_114_0 (pk_c o_114_11 (pk_c o_114_52 (pk_c o_114_58 (pk_n))))
theorem o_115_0 : okL gmt mt_115 0 b_115_0 := by
  refine oc (y := mt_115) (pc := 0) (ok_aload_n dX0_isForcedBy_0) 1 rfl ?_
  refine oc (y := mt_115) (pc := 1) (ok_getfield dX0_isForcedBy_1 (fg (own := "GardenChess") (idx := 87) (g := 1) (k := 13) (r := (RX0, TX0, 25)) rfl ⟨⟨by decide, by decide⟩, by decide⟩ (Or.inl q556) (Or.inl rfl) rfl (fg_nil))) 4 rfl ?_
  refine oc (y := mt_115) (pc := 4) (ok_aload_n dX0_isForcedBy_4) 5 rfl ?_
  refine oc (y := mt_115) (pc := 5) (ok_getfield dX0_isForcedBy_5 (fg (own := "GardenChess") (idx := 83) (g := 1) (k := 12) (r := (RX0, TX0, 25)) rfl ⟨⟨by decide, by decide⟩, by decide⟩ (Or.inl q555) (Or.inl rfl) rfl (fg_nil))) 8 rfl ?_
  refine oc_V (y := mt_115) (pc := 8) (vcons (y := mt_115) (pc := 8) (len := 3) (n := 2) (M := mt_220) (by decide) rfl (Or.inr rfl) rfl (ck_V dX0_isForcedBy_8 ⟨by decide, by decide, by decide, by decide +kernel⟩ q1393 q1394 q1395 q174 q1396) vnil) (hok0 rfl) (by decide) 11 rfl ?_
  refine oc (y := mt_115) (pc := 11) (ok_aload_n dX0_isForcedBy_11) 12 rfl ?_
  refine oc (y := mt_115) (pc := 12) (ok_getfield dX0_isForcedBy_12 (fg (own := "GardenChess") (idx := 77) (g := 1) (k := 11) (r := (RX0, TX0, 25)) rfl ⟨⟨by decide, by decide⟩, by decide⟩ (Or.inl q554) (Or.inl rfl) rfl (fg_nil))) 15 rfl ?_
  refine oc (y := mt_115) (pc := 15) (ok_getfield dX0_isForcedBy_15 (fg (own := "GardenChess") (idx := 288) (g := 7) (k := 0) (r := (RX5, TX5, 3)) rfl ⟨⟨by decide, by decide⟩, by decide⟩ (Or.inr ⟨_, q423⟩) (Or.inl rfl) rfl (fg_nil))) 18 rfl ?_
  refine oc (y := mt_115) (pc := 18) (ok_iload_n dX0_isForcedBy_18) 19 rfl ?_
  refine oc (y := mt_115) (pc := 19) (ok_iaload dX0_isForcedBy_19) 20 rfl ?_
  refine oc (y := mt_115) (pc := 20) (ok_aload_n dX0_isForcedBy_20) 21 rfl ?_
  refine oc (y := mt_115) (pc := 21) (ok_getfield dX0_isForcedBy_21 (fg (own := "GardenChess") (idx := 77) (g := 1) (k := 11) (r := (RX0, TX0, 25)) rfl ⟨⟨by decide, by decide⟩, by decide⟩ (Or.inl q554) (Or.inl rfl) rfl (fg_nil))) 24 rfl ?_
  refine oc (y := mt_115) (pc := 24) (ok_getfield dX0_isForcedBy_24 (fg (own := "GardenChess") (idx := 287) (g := 7) (k := 1) (r := (RX5, TX5, 3)) rfl ⟨⟨by decide, by decide⟩, by decide⟩ (Or.inr ⟨_, q426⟩) (Or.inl rfl) rfl (fg_nil))) 27 rfl ?_
  refine oc (y := mt_115) (pc := 27) (ok_iload_n dX0_isForcedBy_27) 28 rfl ?_
  refine oc (y := mt_115) (pc := 28) (ok_iaload dX0_isForcedBy_28) 29 rfl ?_
  refine oc_V (y := mt_115) (pc := 29) (vcons (y := mt_115) (pc := 29) (len := 3) (n := 3) (M := mt_221) (by decide) rfl (Or.inr rfl) rfl (ck_V dX0_isForcedBy_29 ⟨by decide, by decide, by decide, by decide +kernel⟩ q1397 q1398 q1399 q174 q1400) vnil) (hok0 rfl) (by decide) 32 rfl ?_
  refine oc (y := mt_115) (pc := 32) (ok_pop dX0_isForcedBy_32) 33 rfl ?_
  refine oc (y := mt_115) (pc := 33) (ok_aload_n dX0_isForcedBy_33) 34 rfl ?_
  refine oc (y := mt_115) (pc := 34) (ok_getfield dX0_isForcedBy_34 (fg (own := "GardenChess") (idx := 87) (g := 1) (k := 13) (r := (RX0, TX0, 25)) rfl ⟨⟨by decide, by decide⟩, by decide⟩ (Or.inl q556) (Or.inl rfl) rfl (fg_nil))) 37 rfl ?_
  refine oc_V (y := mt_115) (pc := 37) (vcons (y := mt_115) (pc := 37) (len := 3) (n := 1) (M := mt_214) (by decide) rfl (Or.inr rfl) rfl (ck_V dX0_isForcedBy_37 ⟨by decide, by decide, by decide, by decide +kernel⟩ q1295 q1296 q1297 q174 q1298) vnil) (hok0 rfl) (by decide) 40 rfl ?_
  refine oc_if dX0_isForcedBy_40 ⟨by decide, by decide⟩ 43 rfl ?_
  refine oc (y := mt_115) (pc := 43) (ok_iconst dX0_isForcedBy_43 rfl ⟨by decide, by decide⟩) 44 rfl ?_
  exact oc_zret dX0_isForcedBy_44 rfl
theorem o_115_45 : okL gmt mt_115 45 b_115_45 := by
  refine oc (y := mt_115) (pc := 45) (ok_aload_n dX0_isForcedBy_45) 46 rfl ?_
  refine oc (y := mt_115) (pc := 46) (ok_getfield dX0_isForcedBy_46 (fg (own := "GardenChess") (idx := 68) (g := 1) (k := 9) (r := (RX0, TX0, 25)) rfl ⟨⟨by decide, by decide⟩, by decide⟩ (Or.inl q550) (Or.inl rfl) rfl (fg_nil))) 49 rfl ?_
  refine oc (y := mt_115) (pc := 49) (ok_iconst dX0_isForcedBy_49 rfl ⟨by decide, by decide⟩) 50 rfl ?_
  refine oc (y := mt_115) (pc := 50) (ok_aaload (ty := .object "GardenChess$Moves") dX0_isForcedBy_50 (by decide) (by decide) rfl rfl) 51 rfl ?_
  refine oc (y := mt_115) (pc := 51) (ok_astore_n dX0_isForcedBy_51 (by decide)) 52 rfl ?_
  refine oc (y := mt_115) (pc := 52) (ok_aload_n dX0_isForcedBy_52) 53 rfl ?_
  refine oc (y := mt_115) (pc := 53) (ok_getfield dX0_isForcedBy_53 (fg (own := "GardenChess") (idx := 87) (g := 1) (k := 13) (r := (RX0, TX0, 25)) rfl ⟨⟨by decide, by decide⟩, by decide⟩ (Or.inl q556) (Or.inl rfl) rfl (fg_nil))) 56 rfl ?_
  refine oc (y := mt_115) (pc := 56) (ok_aload_n dX0_isForcedBy_56) 57 rfl ?_
  refine oc (y := mt_115) (pc := 57) (ok_getfield dX0_isForcedBy_57 (fg (own := "GardenChess") (idx := 87) (g := 1) (k := 13) (r := (RX0, TX0, 25)) rfl ⟨⟨by decide, by decide⟩, by decide⟩ (Or.inl q556) (Or.inl rfl) rfl (fg_nil))) 60 rfl ?_
  refine oc (y := mt_115) (pc := 60) (ok_getfield dX0_isForcedBy_60 (fg (own := "GardenChess") (idx := 208) (g := 8) (k := 1) (r := (RX6, TX6, 12)) rfl ⟨⟨by decide, by decide⟩, by decide⟩ (Or.inr ⟨_, q448⟩) (Or.inl rfl) rfl (fg_nil))) 63 rfl ?_
  refine oc (y := mt_115) (pc := 63) (ok_aload_n dX0_isForcedBy_63) 64 rfl ?_
  refine oc_V (y := mt_115) (pc := 64) (vcons (y := mt_115) (pc := 64) (len := 3) (n := 3) (M := mt_215) (by decide) rfl (Or.inr rfl) rfl (ck_V dX0_isForcedBy_64 ⟨by decide, by decide, by decide, by decide +kernel⟩ q1392 q1300 q1301 q174 q1302) vnil) (hok0 rfl) (by decide) 67 rfl ?_
  refine oc (y := mt_115) (pc := 67) (ok_iconst dX0_isForcedBy_67 rfl ⟨by decide, by decide⟩) 68 rfl ?_
  refine oc (y := mt_115) (pc := 68) (ok_istore_n dX0_isForcedBy_68 (by decide)) 69 rfl ?_
  exact oc_fall rfl
theorem o_115_69 : okL gmt mt_115 69 b_115_69 := by
  refine oc (y := mt_115) (pc := 69) (ok_iload_n dX0_isForcedBy_69) 70 rfl ?_
  refine oc (y := mt_115) (pc := 70) (ok_aload_n dX0_isForcedBy_70) 71 rfl ?_
  refine oc (y := mt_115) (pc := 71) (ok_getfield dX0_isForcedBy_71 (fg (own := "GardenChess") (idx := 276) (g := 7) (k := 2) (r := (RX5, TX5, 3)) rfl ⟨⟨by decide, by decide⟩, by decide⟩ (Or.inr ⟨_, q429⟩) (Or.inl rfl) rfl (fg_nil))) 74 rfl ?_
  refine oc_icmp dX0_isForcedBy_74 ⟨by decide, by decide⟩ 77 rfl ?_
  refine oc (y := mt_115) (pc := 77) (ok_aload_n dX0_isForcedBy_77) 78 rfl ?_
  refine oc (y := mt_115) (pc := 78) (ok_getfield dX0_isForcedBy_78 (fg (own := "GardenChess") (idx := 288) (g := 7) (k := 0) (r := (RX5, TX5, 3)) rfl ⟨⟨by decide, by decide⟩, by decide⟩ (Or.inr ⟨_, q423⟩) (Or.inl rfl) rfl (fg_nil))) 81 rfl ?_
  refine oc (y := mt_115) (pc := 81) (ok_iload_n dX0_isForcedBy_81) 82 rfl ?_
  refine oc (y := mt_115) (pc := 82) (ok_iaload dX0_isForcedBy_82) 83 rfl ?_
  refine oc (y := mt_115) (pc := 83) (ok_istore dX0_isForcedBy_83 (by decide)) 85 rfl ?_
  refine oc (y := mt_115) (pc := 85) (ok_aload_n dX0_isForcedBy_85) 86 rfl ?_
  refine oc (y := mt_115) (pc := 86) (ok_getfield dX0_isForcedBy_86 (fg (own := "GardenChess") (idx := 87) (g := 1) (k := 13) (r := (RX0, TX0, 25)) rfl ⟨⟨by decide, by decide⟩, by decide⟩ (Or.inl q556) (Or.inl rfl) rfl (fg_nil))) 89 rfl ?_
  refine oc (y := mt_115) (pc := 89) (ok_getfield dX0_isForcedBy_89 (fg (own := "GardenChess") (idx := 249) (g := 8) (k := 3) (r := (RX6, TX6, 12)) rfl ⟨⟨by decide, by decide⟩, by decide⟩ (Or.inr ⟨_, q452⟩) (Or.inl rfl) rfl (fg_nil))) 92 rfl ?_
  refine oc (y := mt_115) (pc := 92) (ok_iload dX0_isForcedBy_92) 94 rfl ?_
  refine oc (y := mt_115) (pc := 94) (ok_iaload dX0_isForcedBy_94) 95 rfl ?_
  refine oc (y := mt_115) (pc := 95) (ok_istore dX0_isForcedBy_95 (by decide)) 97 rfl ?_
  refine oc (y := mt_115) (pc := 97) (ok_aload_n dX0_isForcedBy_97) 98 rfl ?_
  refine oc (y := mt_115) (pc := 98) (ok_getfield dX0_isForcedBy_98 (fg (own := "GardenChess") (idx := 87) (g := 1) (k := 13) (r := (RX0, TX0, 25)) rfl ⟨⟨by decide, by decide⟩, by decide⟩ (Or.inl q556) (Or.inl rfl) rfl (fg_nil))) 101 rfl ?_
  refine oc (y := mt_115) (pc := 101) (ok_iload dX0_isForcedBy_101) 103 rfl ?_
  refine oc (y := mt_115) (pc := 103) (ok_aload_n dX0_isForcedBy_103) 104 rfl ?_
  refine oc (y := mt_115) (pc := 104) (ok_getfield dX0_isForcedBy_104 (fg (own := "GardenChess") (idx := 287) (g := 7) (k := 1) (r := (RX5, TX5, 3)) rfl ⟨⟨by decide, by decide⟩, by decide⟩ (Or.inr ⟨_, q426⟩) (Or.inl rfl) rfl (fg_nil))) 107 rfl ?_
  refine oc (y := mt_115) (pc := 107) (ok_iload_n dX0_isForcedBy_107) 108 rfl ?_
  refine oc (y := mt_115) (pc := 108) (ok_iaload dX0_isForcedBy_108) 109 rfl ?_
  refine oc_V (y := mt_115) (pc := 109) (vcons (y := mt_115) (pc := 109) (len := 3) (n := 3) (M := mt_221) (by decide) rfl (Or.inr rfl) rfl (ck_V dX0_isForcedBy_109 ⟨by decide, by decide, by decide, by decide +kernel⟩ q1397 q1398 q1399 q174 q1400) vnil) (hok0 rfl) (by decide) 112 rfl ?_
  refine oc (y := mt_115) (pc := 112) (ok_istore dX0_isForcedBy_112 (by decide)) 114 rfl ?_
  refine oc (y := mt_115) (pc := 114) (ok_aload_n dX0_isForcedBy_114) 115 rfl ?_
  refine oc (y := mt_115) (pc := 115) (ok_getfield dX0_isForcedBy_115 (fg (own := "GardenChess") (idx := 87) (g := 1) (k := 13) (r := (RX0, TX0, 25)) rfl ⟨⟨by decide, by decide⟩, by decide⟩ (Or.inl q556) (Or.inl rfl) rfl (fg_nil))) 118 rfl ?_
  refine oc (y := mt_115) (pc := 118) (ok_getfield dX0_isForcedBy_118 (fg (own := "GardenChess") (idx := 278) (g := 8) (k := 7) (r := (RX6, TX6, 12)) rfl ⟨⟨by decide, by decide⟩, by decide⟩ (Or.inr ⟨_, q460⟩) (Or.inl rfl) rfl (fg_nil))) 121 rfl ?_
  refine oc_if dX0_isForcedBy_121 ⟨by decide, by decide⟩ 124 rfl ?_
  refine oc (y := mt_115) (pc := 124) (ok_aload_n dX0_isForcedBy_124) 125 rfl ?_
  refine oc (y := mt_115) (pc := 125) (ok_aload_n dX0_isForcedBy_125) 126 rfl ?_
  refine oc (y := mt_115) (pc := 126) (ok_getfield dX0_isForcedBy_126 (fg (own := "GardenChess") (idx := 87) (g := 1) (k := 13) (r := (RX0, TX0, 25)) rfl ⟨⟨by decide, by decide⟩, by decide⟩ (Or.inl q556) (Or.inl rfl) rfl (fg_nil))) 129 rfl ?_
  refine oc (y := mt_115) (pc := 129) (ok_aload_n dX0_isForcedBy_129) 130 rfl ?_
  refine oc (y := mt_115) (pc := 130) (ok_getfield dX0_isForcedBy_130 (fg (own := "GardenChess") (idx := 68) (g := 1) (k := 9) (r := (RX0, TX0, 25)) rfl ⟨⟨by decide, by decide⟩, by decide⟩ (Or.inl q550) (Or.inl rfl) rfl (fg_nil))) 133 rfl ?_
  refine oc (y := mt_115) (pc := 133) (ok_iconst dX0_isForcedBy_133 rfl ⟨by decide, by decide⟩) 134 rfl ?_
  refine oc (y := mt_115) (pc := 134) (ok_aaload (ty := .object "GardenChess$Moves") dX0_isForcedBy_134 (by decide) (by decide) rfl rfl) 135 rfl ?_
  refine oc_V (y := mt_115) (pc := 135) (vcons (y := mt_115) (pc := 135) (len := 3) (n := 3) (M := mt_114) (by decide) rfl (Or.inr rfl) rfl (ck_V dX0_isForcedBy_135 ⟨by decide, by decide, by decide, by decide +kernel⟩ q1451 q1453 qs40 q162 q1454) vnil) (hok0 rfl) (by decide) 138 rfl ?_
  refine oc_if dX0_isForcedBy_138 ⟨by decide, by decide⟩ 141 rfl ?_
  refine oc (y := mt_115) (pc := 141) (ok_iconst dX0_isForcedBy_141 rfl ⟨by decide, by decide⟩) 142 rfl ?_
  exact oc_goto dX0_isForcedBy_142 ⟨by decide, by decide⟩
theorem o_115_145 : okL gmt mt_115 145 b_115_145 := by
  refine oc (y := mt_115) (pc := 145) (ok_iconst dX0_isForcedBy_145 rfl ⟨by decide, by decide⟩) 146 rfl ?_
  exact oc_fall rfl
theorem o_115_146 : okL gmt mt_115 146 b_115_146 := by
  refine oc (y := mt_115) (pc := 146) (ok_istore dX0_isForcedBy_146 (by decide)) 148 rfl ?_
  refine oc (y := mt_115) (pc := 148) (ok_aload_n dX0_isForcedBy_148) 149 rfl ?_
  refine oc (y := mt_115) (pc := 149) (ok_getfield dX0_isForcedBy_149 (fg (own := "GardenChess") (idx := 87) (g := 1) (k := 13) (r := (RX0, TX0, 25)) rfl ⟨⟨by decide, by decide⟩, by decide⟩ (Or.inl q556) (Or.inl rfl) rfl (fg_nil))) 152 rfl ?_
  refine oc (y := mt_115) (pc := 152) (ok_iload dX0_isForcedBy_152) 154 rfl ?_
  refine oc (y := mt_115) (pc := 154) (ok_iload dX0_isForcedBy_154) 156 rfl ?_
  refine oc (y := mt_115) (pc := 156) (ok_iload dX0_isForcedBy_156) 158 rfl ?_
  refine oc_V (y := mt_115) (pc := 158) (vcons (y := mt_115) (pc := 158) (len := 3) (n := 4) (M := mt_226) (by decide) rfl (Or.inr rfl) rfl (ck_V dX0_isForcedBy_158 ⟨by decide, by decide, by decide, by decide +kernel⟩ q1460 q1435 q1436 q174 q1437) vnil) (hok0 rfl) (by decide) 161 rfl ?_
  refine oc (y := mt_115) (pc := 161) (ok_iload dX0_isForcedBy_161) 163 rfl ?_
  refine oc_if dX0_isForcedBy_163 ⟨by decide, by decide⟩ 166 rfl ?_
  refine oc (y := mt_115) (pc := 166) (ok_iconst dX0_isForcedBy_166 rfl ⟨by decide, by decide⟩) 167 rfl ?_
  exact oc_zret dX0_isForcedBy_167 rfl
theorem o_115_168 : okL gmt mt_115 168 b_115_168 := by
  refine oc (y := mt_115) (pc := 168) (ok_iinc dX0_isForcedBy_168 (by decide)) 171 rfl ?_
  exact oc_goto dX0_isForcedBy_171 ⟨by decide, by decide⟩
theorem o_115_174 : okL gmt mt_115 174 b_115_174 := by
  refine oc (y := mt_115) (pc := 174) (ok_iconst dX0_isForcedBy_174 rfl ⟨by decide, by decide⟩) 175 rfl ?_
  exact oc_zret dX0_isForcedBy_175 rfl
theorem ok_115 : ∀ q ∈ pr_115, okL gmt mt_115 q.1 q.2 := pk_c o_115_0 (pk_c o_115_45 (pk_c o_115_69 (pk_c o_115_145 (pk_c o_115_146 (pk_c o_115_168 (pk_c o_115_174 (pk_n)))))))
theorem o_116_0 : okL gmt mt_116 0 b_116_0 := by
  refine oc (y := mt_116) (pc := 0) (ok_aload_n dX0_later_0) 1 rfl ?_
  refine oc (y := mt_116) (pc := 1) (ok_iload_n dX0_later_1) 2 rfl ?_
  refine oc (y := mt_116) (pc := 2) (ok_iconst dX0_later_2 rfl ⟨by decide, by decide⟩) 3 rfl ?_
  refine oc (y := mt_116) (pc := 3) (ok_bipush dX0_later_3 (by decide) ⟨by decide, by decide⟩) 5 rfl ?_
  refine oc_V (y := mt_116) (pc := 5) (vcons (y := mt_116) (pc := 5) (len := 3) (n := 4) (M := mt_117) (by decide) rfl (Or.inr rfl) rfl (ck_V dX0_later_5 ⟨by decide, by decide, by decide, by decide +kernel⟩ q1465 q1467 qs42 q162 q1468) vnil) (hok0 rfl) (by decide) 8 rfl ?_
  refine oc_if dX0_later_8 ⟨by decide, by decide⟩ 11 rfl ?_
  refine oc (y := mt_116) (pc := 11) (ok_iload_n dX0_later_11) 12 rfl ?_
  refine oc (y := mt_116) (pc := 12) (ok_iconst dX0_later_12 rfl ⟨by decide, by decide⟩) 13 rfl ?_
  refine oc (y := mt_116) (pc := 13) (ok_iconst dX0_later_13 rfl ⟨by decide, by decide⟩) 14 rfl ?_
  refine oc_S (y := mt_116) (pc := 14) (M := mt_92) rfl (ck_S dX0_later_14 ⟨by decide, by decide, by decide, by decide +kernel⟩ q1330 q771 q162 q772) (hok0 rfl) (by decide) 17 rfl ?_
  refine oc_if dX0_later_17 ⟨by decide, by decide⟩ 20 rfl ?_
  exact oc_fall rfl
theorem o_116_20 : okL gmt mt_116 20 b_116_20 := by
  refine oc (y := mt_116) (pc := 20) (ok_iconst dX0_later_20 rfl ⟨by decide, by decide⟩) 21 rfl ?_
  exact oc_iret dX0_later_21 rfl
theorem o_116_22 : okL gmt mt_116 22 b_116_22 := by
  refine oc (y := mt_116) (pc := 22) (ok_aload_n dX0_later_22) 23 rfl ?_
  refine oc (y := mt_116) (pc := 23) (ok_getfield dX0_later_23 (fg (own := "GardenChess") (idx := 87) (g := 1) (k := 13) (r := (RX0, TX0, 25)) rfl ⟨⟨by decide, by decide⟩, by decide⟩ (Or.inl q556) (Or.inl rfl) rfl (fg_nil))) 26 rfl ?_
  refine oc (y := mt_116) (pc := 26) (ok_aload_n dX0_later_26) 27 rfl ?_
  refine oc (y := mt_116) (pc := 27) (ok_getfield dX0_later_27 (fg (own := "GardenChess") (idx := 83) (g := 1) (k := 12) (r := (RX0, TX0, 25)) rfl ⟨⟨by decide, by decide⟩, by decide⟩ (Or.inl q555) (Or.inl rfl) rfl (fg_nil))) 30 rfl ?_
  refine oc_V (y := mt_116) (pc := 30) (vcons (y := mt_116) (pc := 30) (len := 3) (n := 2) (M := mt_220) (by decide) rfl (Or.inr rfl) rfl (ck_V dX0_later_30 ⟨by decide, by decide, by decide, by decide +kernel⟩ q1393 q1394 q1395 q174 q1396) vnil) (hok0 rfl) (by decide) 33 rfl ?_
  refine oc (y := mt_116) (pc := 33) (ok_iload_n dX0_later_33) 34 rfl ?_
  refine oc_V (y := mt_116) (pc := 34) (vcons (y := mt_116) (pc := 34) (len := 3) (n := 2) (M := mt_228) (by decide) rfl (Or.inr rfl) rfl (ck_V dX0_later_34 ⟨by decide, by decide, by decide, by decide +kernel⟩ q1469 q1470 q1471 q174 q1472) vnil) (hok0 rfl) (by decide) 37 rfl ?_
  refine oc (y := mt_116) (pc := 37) (ok_pop dX0_later_37) 38 rfl ?_
  refine oc (y := mt_116) (pc := 38) (ok_iload_n dX0_later_38) 39 rfl ?_
  refine oc (y := mt_116) (pc := 39) (ok_iconst dX0_later_39 rfl ⟨by decide, by decide⟩) 40 rfl ?_
  refine oc_icmp dX0_later_40 ⟨by decide, by decide⟩ 43 rfl ?_
  refine oc (y := mt_116) (pc := 43) (ok_aload_n dX0_later_43) 44 rfl ?_
  refine oc (y := mt_116) (pc := 44) (ok_getfield dX0_later_44 (fg (own := "GardenChess") (idx := 87) (g := 1) (k := 13) (r := (RX0, TX0, 25)) rfl ⟨⟨by decide, by decide⟩, by decide⟩ (Or.inl q556) (Or.inl rfl) rfl (fg_nil))) 47 rfl ?_
  refine oc (y := mt_116) (pc := 47) (ok_iload_n dX0_later_47) 48 rfl ?_
  refine oc_V (y := mt_116) (pc := 48) (vcons (y := mt_116) (pc := 48) (len := 3) (n := 2) (M := mt_217) (by decide) rfl (Or.inr rfl) rfl (ck_V dX0_later_48 ⟨by decide, by decide, by decide, by decide +kernel⟩ q1318 q1319 q1320 q174 q1321) vnil) (hok0 rfl) (by decide) 51 rfl ?_
  exact oc_goto dX0_later_51 ⟨by decide, by decide⟩
theorem o_116_54 : okL gmt mt_116 54 b_116_54 := by
  refine oc (y := mt_116) (pc := 54) (ok_iload_n dX0_later_54) 55 rfl ?_
  refine oc (y := mt_116) (pc := 55) (ok_iconst dX0_later_55 rfl ⟨by decide, by decide⟩) 56 rfl ?_
  refine oc_icmp dX0_later_56 ⟨by decide, by decide⟩ 59 rfl ?_
  refine oc (y := mt_116) (pc := 59) (ok_aload_n dX0_later_59) 60 rfl ?_
  refine oc (y := mt_116) (pc := 60) (ok_getfield dX0_later_60 (fg (own := "GardenChess") (idx := 87) (g := 1) (k := 13) (r := (RX0, TX0, 25)) rfl ⟨⟨by decide, by decide⟩, by decide⟩ (Or.inl q556) (Or.inl rfl) rfl (fg_nil))) 63 rfl ?_
  refine oc_V (y := mt_116) (pc := 63) (vcons (y := mt_116) (pc := 63) (len := 3) (n := 1) (M := mt_218) (by decide) rfl (Or.inr rfl) rfl (ck_V dX0_later_63 ⟨by decide, by decide, by decide, by decide +kernel⟩ q1322 q1323 q1324 q174 q1325) vnil) (hok0 rfl) (by decide) 66 rfl ?_
  exact oc_goto dX0_later_66 ⟨by decide, by decide⟩
theorem o_116_69 : okL gmt mt_116 69 b_116_69 := by
  refine oc (y := mt_116) (pc := 69) (ok_aload_n dX0_later_69) 70 rfl ?_
  refine oc (y := mt_116) (pc := 70) (ok_getfield dX0_later_70 (fg (own := "GardenChess") (idx := 87) (g := 1) (k := 13) (r := (RX0, TX0, 25)) rfl ⟨⟨by decide, by decide⟩, by decide⟩ (Or.inl q556) (Or.inl rfl) rfl (fg_nil))) 73 rfl ?_
  refine oc_V (y := mt_116) (pc := 73) (vcons (y := mt_116) (pc := 73) (len := 3) (n := 1) (M := mt_214) (by decide) rfl (Or.inr rfl) rfl (ck_V dX0_later_73 ⟨by decide, by decide, by decide, by decide +kernel⟩ q1295 q1296 q1297 q174 q1298) vnil) (hok0 rfl) (by decide) 76 rfl ?_
  refine oc_if dX0_later_76 ⟨by decide, by decide⟩ 79 rfl ?_
  refine oc (y := mt_116) (pc := 79) (ok_iconst dX0_later_79 rfl ⟨by decide, by decide⟩) 80 rfl ?_
  exact oc_goto dX0_later_80 ⟨by decide, by decide⟩
theorem o_116_83 : okL gmt mt_116 83 b_116_83 := by
  refine oc (y := mt_116) (pc := 83) (ok_iconst dX0_later_83 rfl ⟨by decide, by decide⟩) 84 rfl ?_
  exact oc_fall rfl
theorem o_116_84 : okL gmt mt_116 84 b_116_84 := by
  exact oc_iret dX0_later_84 rfl
theorem ok_116 : ∀ q ∈ pr_116, okL gmt mt_116 q.1 q.2 := pk_c o_116_0 (pk_c o_116_20 (pk_c o_116_22 (pk_c o_116_54 (pk_c o_116_69 (pk_c o_116_83 (pk_c o_116_84 (pk_n)))))))
theorem o_117_0 : okL gmt mt_117 0 b_117_0 := by
  refine oc (y := mt_117) (pc := 0) (ok_aload_n dX0_isAhead_0) 1 rfl ?_
  refine oc_V (y := mt_117) (pc := 1) (vcons (y := mt_117) (pc := 1) (len := 3) (n := 1) (M := mt_98) (by decide) rfl (Or.inr rfl) rfl (ck_V dX0_isAhead_1 ⟨by decide, by decide, by decide, by decide +kernel⟩ q1291 q1293 qs34 q162 q1294) vnil) (hok0 rfl) (by decide) 4 rfl ?_
  refine oc_if dX0_isAhead_4 ⟨by decide, by decide⟩ 7 rfl ?_
  refine oc (y := mt_117) (pc := 7) (ok_iload_n dX0_isAhead_7) 8 rfl ?_
  refine oc (y := mt_117) (pc := 8) (ok_iload_n dX0_isAhead_8) 9 rfl ?_
  refine oc (y := mt_117) (pc := 9) (ok_iload_n dX0_isAhead_9) 10 rfl ?_
  refine oc_S (y := mt_117) (pc := 10) (M := mt_92) rfl (ck_S dX0_isAhead_10 ⟨by decide, by decide, by decide, by decide +kernel⟩ q1330 q771 q162 q772) (hok0 rfl) (by decide) 13 rfl ?_
  refine oc_if dX0_isAhead_13 ⟨by decide, by decide⟩ 16 rfl ?_
  refine oc (y := mt_117) (pc := 16) (ok_aload_n dX0_isAhead_16) 17 rfl ?_
  refine oc (y := mt_117) (pc := 17) (ok_getfield dX0_isAhead_17 (fg (own := "GardenChess") (idx := 83) (g := 1) (k := 12) (r := (RX0, TX0, 25)) rfl ⟨⟨by decide, by decide⟩, by decide⟩ (Or.inl q555) (Or.inl rfl) rfl (fg_nil))) 20 rfl ?_
  refine oc (y := mt_117) (pc := 20) (ok_getfield dX0_isAhead_20 (fg (own := "GardenChess") (idx := 205) (g := 8) (k := 0) (r := (RX6, TX6, 12)) rfl ⟨⟨by decide, by decide⟩, by decide⟩ (Or.inr ⟨_, q446⟩) (Or.inl rfl) rfl (fg_nil))) 23 rfl ?_
  refine oc (y := mt_117) (pc := 23) (ok_iload_n dX0_isAhead_23) 24 rfl ?_
  refine oc (y := mt_117) (pc := 24) (ok_iadd dX0_isAhead_24) 25 rfl ?_
  refine oc (y := mt_117) (pc := 25) (ok_sipush dX0_isAhead_25 (by decide) ⟨by decide, by decide⟩) 28 rfl ?_
  refine oc_icmp dX0_isAhead_28 ⟨by decide, by decide⟩ 31 rfl ?_
  refine oc (y := mt_117) (pc := 31) (ok_iconst dX0_isAhead_31 rfl ⟨by decide, by decide⟩) 32 rfl ?_
  exact oc_goto dX0_isAhead_32 ⟨by decide, by decide⟩
theorem o_117_35 : okL gmt mt_117 35 b_117_35 := by
  refine oc (y := mt_117) (pc := 35) (ok_iconst dX0_isAhead_35 rfl ⟨by decide, by decide⟩) 36 rfl ?_
  exact oc_fall rfl
theorem o_117_36 : okL gmt mt_117 36 b_117_36 := by
  exact oc_zret dX0_isAhead_36 rfl
theorem ok_117 : ∀ q ∈ pr_117, okL gmt mt_117 q.1 q.2 := pk_c o_117_0 (pk_c o_117_35 (pk_c o_117_36 (pk_n)))
theorem o_118_0 : okL gmt mt_118 0 b_118_0 := by
  refine oc (y := mt_118) (pc := 0) (ok_iload_n dX0_off_0) 1 rfl ?_
  refine oc (y := mt_118) (pc := 1) (ok_iload_n dX0_off_1) 2 rfl ?_
  refine oc (y := mt_118) (pc := 2) (ok_isub dX0_off_2) 3 rfl ?_
  refine oc_S (y := mt_118) (pc := 3) (M := mt_19) rfl (ck_S dX0_off_3 ⟨by decide, by decide, by decide, by decide +kernel⟩ q1494 q1308 q184 q1309) (hok0 rfl) (by decide) 6 rfl ?_
  refine oc (y := mt_118) (pc := 6) (ok_iload_n dX0_off_6) 7 rfl ?_
  refine oc (y := mt_118) (pc := 7) (ok_iload_n dX0_off_7) 8 rfl ?_
  refine oc (y := mt_118) (pc := 8) (ok_isub dX0_off_8) 9 rfl ?_
  refine oc_S (y := mt_118) (pc := 9) (M := mt_19) rfl (ck_S dX0_off_9 ⟨by decide, by decide, by decide, by decide +kernel⟩ q1494 q1308 q184 q1309) (hok0 rfl) (by decide) 12 rfl ?_
  refine oc_S (y := mt_118) (pc := 12) (M := mt_17) rfl (ck_S dX0_off_12 ⟨by decide, by decide, by decide, by decide +kernel⟩ q1495 q956 q184 q957) (hok0 rfl) (by decide) 15 rfl ?_
  exact oc_iret dX0_off_15 rfl
theorem ok_118 : ∀ q ∈ pr_118, okL gmt mt_118 q.1 q.2 := pk_c o_118_0 (pk_n)
theorem o_119_0 : okL gmt mt_119 0 b_119_0 := by
  refine oc (y := mt_119) (pc := 0) (ok_ldc2 dX0_held_0 ⟨by decide, by decide⟩ (show Cond.constantLong _ _ (Int64.ofInt (-1000000)) ∈ lw_all from q1505)) 3 rfl ?_
  refine oc (y := mt_119) (pc := 3) (ok_ldc2 dX0_held_3 ⟨by decide, by decide⟩ (show Cond.constantLong _ _ (Int64.ofInt 1000000) ∈ lw_all from q1506)) 6 rfl ?_
  refine oc (y := mt_119) (pc := 6) (ok_lload_n dX0_held_6) 7 rfl ?_
  refine oc_S (y := mt_119) (pc := 7) (M := mt_20) rfl (ck_S dX0_held_7 ⟨by decide, by decide, by decide, by decide +kernel⟩ q1507 q1508 q184 q1509) (hok0 rfl) (by decide) 10 rfl ?_
  refine oc_S (y := mt_119) (pc := 10) (M := mt_21) rfl (ck_S dX0_held_10 ⟨by decide, by decide, by decide, by decide +kernel⟩ q1510 q1511 q184 q1512) (hok0 rfl) (by decide) 13 rfl ?_
  exact oc_lret dX0_held_13 rfl
theorem ok_119 : ∀ q ∈ pr_119, okL gmt mt_119 q.1 q.2 := pk_c o_119_0 (pk_n)
theorem o_120_0 : okL gmt mt_120 0 b_120_0 := by
  refine oc (y := mt_120) (pc := 0) (ok_iload_n dX0_looked_0) 1 rfl ?_
  refine oc_if dX0_looked_1 ⟨by decide, by decide⟩ 4 rfl ?_
  refine oc (y := mt_120) (pc := 4) (ok_lload_n dX0_looked_4) 5 rfl ?_
  refine oc (y := mt_120) (pc := 5) (ok_lconst dX0_looked_5 (by decide) ⟨by decide, by decide⟩) 6 rfl ?_
  refine oc (y := mt_120) (pc := 6) (ok_lcmp dX0_looked_6) 7 rfl ?_
  refine oc_if dX0_looked_7 ⟨by decide, by decide⟩ 10 rfl ?_
  refine oc (y := mt_120) (pc := 10) (ok_lload_n dX0_looked_10) 11 rfl ?_
  refine oc (y := mt_120) (pc := 11) (ok_aload_n dX0_looked_11) 12 rfl ?_
  refine oc_V (y := mt_120) (pc := 12) (vcons (y := mt_120) (pc := 12) (len := 3) (n := 1) (M := mt_95) (by decide) rfl (Or.inr rfl) rfl (ck_V dX0_looked_12 ⟨by decide, by decide, by decide, by decide +kernel⟩ q1290 q1275 qs33 q162 q1276) vnil) (hok0 rfl) (by decide) 15 rfl ?_
  refine oc (y := mt_120) (pc := 15) (ok_i2l dX0_looked_15) 16 rfl ?_
  refine oc (y := mt_120) (pc := 16) (ok_lcmp dX0_looked_16) 17 rfl ?_
  refine oc_if dX0_looked_17 ⟨by decide, by decide⟩ 20 rfl ?_
  exact oc_fall rfl
theorem o_120_20 : okL gmt mt_120 20 b_120_20 := by
  refine oc (y := mt_120) (pc := 20) (ok_lconst dX0_looked_20 (by decide) ⟨by decide, by decide⟩) 21 rfl ?_
  exact oc_lret dX0_looked_21 rfl
theorem o_120_22 : okL gmt mt_120 22 b_120_22 := by
  refine oc (y := mt_120) (pc := 22) (ok_aload_n dX0_looked_22) 23 rfl ?_
  refine oc (y := mt_120) (pc := 23) (ok_getfield dX0_looked_23 (fg (own := "GardenChess") (idx := 31) (g := 1) (k := 0) (r := (RX0, TX0, 25)) rfl ⟨⟨by decide, by decide⟩, by decide⟩ (Or.inl q539) (Or.inl rfl) rfl (fg_nil))) 26 rfl ?_
  refine oc (y := mt_120) (pc := 26) (ok_getfield dX0_looked_26 (fg (own := "GardenChess") (idx := 171) (g := 2) (k := 8) (r := (RX1, TX1, 10)) rfl ⟨⟨by decide, by decide⟩, by decide⟩ (Or.inr ⟨_, q271⟩) (Or.inl rfl) rfl (fg_nil))) 29 rfl ?_
  refine oc (y := mt_120) (pc := 29) (ok_lload_n dX0_looked_29) 30 rfl ?_
  refine oc (y := mt_120) (pc := 30) (ok_l2i dX0_looked_30) 31 rfl ?_
  refine oc_F (y := mt_120) (pc := 31) (vcons (y := mt_120) (pc := 31) (len := 5) (n := 2) (M := mt_40) (by decide) rfl (Or.inr rfl) rfl (ck_F (ci := 2) dX0_looked_31 rfl rfl (fun G s h => h.2.2.1.2.1) (by decide) ⟨by decide, by decide, by decide +kernel⟩ q518 q521 q523 q166 q525) vnil) (hok0 rfl) 36 rfl ?_
  refine oc (y := mt_120) (pc := 36) (ok_checkcast (E := "GardenChess$Field") dX0_looked_36 q1375 (ct (by decide) rfl (Or.inl rfl) (ct_nil))) 39 rfl ?_
  refine oc (y := mt_120) (pc := 39) (ok_astore dX0_looked_39 (by decide)) 41 rfl ?_
  refine oc (y := mt_120) (pc := 41) (ok_aload_n dX0_looked_41) 42 rfl ?_
  refine oc (y := mt_120) (pc := 42) (ok_getfield dX0_looked_42 (fg (own := "GardenChess") (idx := 83) (g := 1) (k := 12) (r := (RX0, TX0, 25)) rfl ⟨⟨by decide, by decide⟩, by decide⟩ (Or.inl q555) (Or.inl rfl) rfl (fg_nil))) 45 rfl ?_
  refine oc (y := mt_120) (pc := 45) (ok_getfield dX0_looked_45 (fg (own := "GardenChess") (idx := 249) (g := 8) (k := 3) (r := (RX6, TX6, 12)) rfl ⟨⟨by decide, by decide⟩, by decide⟩ (Or.inr ⟨_, q452⟩) (Or.inl rfl) rfl (fg_nil))) 48 rfl ?_
  refine oc (y := mt_120) (pc := 48) (ok_aload_n dX0_looked_48) 49 rfl ?_
  refine oc (y := mt_120) (pc := 49) (ok_getfield dX0_looked_49 (fg (own := "GardenChess") (idx := 387) (g := 1) (k := 22) (r := (RX0, TX0, 25)) rfl ⟨⟨by decide, by decide⟩, by decide⟩ (Or.inl q565) (Or.inl rfl) rfl (fg_nil))) 52 rfl ?_
  refine oc (y := mt_120) (pc := 52) (ok_iaload dX0_looked_52) 53 rfl ?_
  refine oc (y := mt_120) (pc := 53) (ok_iconst dX0_looked_53 rfl ⟨by decide, by decide⟩) 54 rfl ?_
  refine oc (y := mt_120) (pc := 54) (ok_irem dX0_looked_54) 55 rfl ?_
  refine oc (y := mt_120) (pc := 55) (ok_aload_n dX0_looked_55) 56 rfl ?_
  refine oc (y := mt_120) (pc := 56) (ok_getfield dX0_looked_56 (fg (own := "GardenChess") (idx := 83) (g := 1) (k := 12) (r := (RX0, TX0, 25)) rfl ⟨⟨by decide, by decide⟩, by decide⟩ (Or.inl q555) (Or.inl rfl) rfl (fg_nil))) 59 rfl ?_
  refine oc (y := mt_120) (pc := 59) (ok_getfield dX0_looked_59 (fg (own := "GardenChess") (idx := 249) (g := 8) (k := 3) (r := (RX6, TX6, 12)) rfl ⟨⟨by decide, by decide⟩, by decide⟩ (Or.inr ⟨_, q452⟩) (Or.inl rfl) rfl (fg_nil))) 62 rfl ?_
  refine oc (y := mt_120) (pc := 62) (ok_aload_n dX0_looked_62) 63 rfl ?_
  refine oc (y := mt_120) (pc := 63) (ok_getfield dX0_looked_63 (fg (own := "GardenChess") (idx := 387) (g := 1) (k := 22) (r := (RX0, TX0, 25)) rfl ⟨⟨by decide, by decide⟩, by decide⟩ (Or.inl q565) (Or.inl rfl) rfl (fg_nil))) 66 rfl ?_
  refine oc (y := mt_120) (pc := 66) (ok_iaload dX0_looked_66) 67 rfl ?_
  refine oc (y := mt_120) (pc := 67) (ok_iconst dX0_looked_67 rfl ⟨by decide, by decide⟩) 68 rfl ?_
  refine oc (y := mt_120) (pc := 68) (ok_idiv dX0_looked_68) 69 rfl ?_
  refine oc (y := mt_120) (pc := 69) (ok_aload dX0_looked_69) 71 rfl ?_
  refine oc (y := mt_120) (pc := 71) (ok_getfield dX0_looked_71 (fg (own := "GardenChess") (idx := 260) (g := 14) (k := 1) (r := (RX11, TX11, 4)) rfl ⟨⟨by decide, by decide⟩, by decide⟩ (Or.inr ⟨_, q1063⟩) (Or.inl rfl) rfl (fg_nil))) 74 rfl ?_
  refine oc (y := mt_120) (pc := 74) (ok_aload dX0_looked_74) 76 rfl ?_
  refine oc (y := mt_120) (pc := 76) (ok_getfield dX0_looked_76 (fg (own := "GardenChess") (idx := 263) (g := 14) (k := 2) (r := (RX11, TX11, 4)) rfl ⟨⟨by decide, by decide⟩, by decide⟩ (Or.inr ⟨_, q1066⟩) (Or.inl rfl) rfl (fg_nil))) 79 rfl ?_
  refine oc_S (y := mt_120) (pc := 79) (M := mt_118) rfl (ck_S dX0_looked_79 ⟨by decide, by decide, by decide, by decide +kernel⟩ q1532 q1492 q162 q1493) (hok0 rfl) (by decide) 82 rfl ?_
  refine oc (y := mt_120) (pc := 82) (ok_i2l dX0_looked_82) 83 rfl ?_
  exact oc_lret dX0_looked_83 rfl
theorem ok_120 : ∀ q ∈ pr_120, okL gmt mt_120 q.1 q.2 := pk_c o_120_0 (pk_c o_120_20 (pk_c o_120_22 (pk_n)))
theorem o_121_0 : okL gmt mt_121 0 b_121_0 := by
  refine oc (y := mt_121) (pc := 0) (ok_aload_n dX0_crop_0) 1 rfl ?_
  refine oc (y := mt_121) (pc := 1) (ok_iload_n dX0_crop_1) 2 rfl ?_
  refine oc_V (y := mt_121) (pc := 2) (vcons (y := mt_121) (pc := 2) (len := 3) (n := 2) (M := mt_104) (by decide) rfl (Or.inr rfl) rfl (ck_V dX0_crop_2 ⟨by decide, by decide, by decide, by decide +kernel⟩ q1371 q1373 qs36 q162 q1374) vnil) (hok0 rfl) (by decide) 5 rfl ?_
  refine oc_if dX0_crop_5 ⟨by decide, by decide⟩ 8 rfl ?_
  refine oc (y := mt_121) (pc := 8) (ok_aload_n dX0_crop_8) 9 rfl ?_
  refine oc (y := mt_121) (pc := 9) (ok_iload_n dX0_crop_9) 10 rfl ?_
  refine oc (y := mt_121) (pc := 10) (ok_iconst dX0_crop_10 rfl ⟨by decide, by decide⟩) 11 rfl ?_
  refine oc (y := mt_121) (pc := 11) (ok_bipush dX0_crop_11 (by decide) ⟨by decide, by decide⟩) 13 rfl ?_
  refine oc_V (y := mt_121) (pc := 13) (vcons (y := mt_121) (pc := 13) (len := 3) (n := 4) (M := mt_117) (by decide) rfl (Or.inr rfl) rfl (ck_V dX0_crop_13 ⟨by decide, by decide, by decide, by decide +kernel⟩ q1465 q1467 qs42 q162 q1468) vnil) (hok0 rfl) (by decide) 16 rfl ?_
  refine oc_if dX0_crop_16 ⟨by decide, by decide⟩ 19 rfl ?_
  refine oc (y := mt_121) (pc := 19) (ok_aload_n dX0_crop_19) 20 rfl ?_
  refine oc (y := mt_121) (pc := 20) (ok_getfield dX0_crop_20 (fg (own := "GardenChess") (idx := 87) (g := 1) (k := 13) (r := (RX0, TX0, 25)) rfl ⟨⟨by decide, by decide⟩, by decide⟩ (Or.inl q556) (Or.inl rfl) rfl (fg_nil))) 23 rfl ?_
  refine oc (y := mt_121) (pc := 23) (ok_aload_n dX0_crop_23) 24 rfl ?_
  refine oc (y := mt_121) (pc := 24) (ok_getfield dX0_crop_24 (fg (own := "GardenChess") (idx := 83) (g := 1) (k := 12) (r := (RX0, TX0, 25)) rfl ⟨⟨by decide, by decide⟩, by decide⟩ (Or.inl q555) (Or.inl rfl) rfl (fg_nil))) 27 rfl ?_
  refine oc_V (y := mt_121) (pc := 27) (vcons (y := mt_121) (pc := 27) (len := 3) (n := 2) (M := mt_220) (by decide) rfl (Or.inr rfl) rfl (ck_V dX0_crop_27 ⟨by decide, by decide, by decide, by decide +kernel⟩ q1393 q1394 q1395 q174 q1396) vnil) (hok0 rfl) (by decide) 30 rfl ?_
  refine oc (y := mt_121) (pc := 30) (ok_iload_n dX0_crop_30) 31 rfl ?_
  refine oc_V (y := mt_121) (pc := 31) (vcons (y := mt_121) (pc := 31) (len := 3) (n := 2) (M := mt_228) (by decide) rfl (Or.inr rfl) rfl (ck_V dX0_crop_31 ⟨by decide, by decide, by decide, by decide +kernel⟩ q1469 q1470 q1471 q174 q1472) vnil) (hok0 rfl) (by decide) 34 rfl ?_
  refine oc (y := mt_121) (pc := 34) (ok_getfield dX0_crop_34 (fg (own := "GardenChess") (idx := 266) (g := 8) (k := 5) (r := (RX6, TX6, 12)) rfl ⟨⟨by decide, by decide⟩, by decide⟩ (Or.inr ⟨_, q456⟩) (Or.inl rfl) rfl (fg_nil))) 37 rfl ?_
  refine oc (y := mt_121) (pc := 37) (ok_iload_n dX0_crop_37) 38 rfl ?_
  refine oc (y := mt_121) (pc := 38) (ok_iaload dX0_crop_38) 39 rfl ?_
  exact oc_goto dX0_crop_39 ⟨by decide, by decide⟩
theorem o_121_42 : okL gmt mt_121 42 b_121_42 := by
  refine oc (y := mt_121) (pc := 42) (ok_iconst dX0_crop_42 rfl ⟨by decide, by decide⟩) 43 rfl ?_
  exact oc_fall rfl
theorem o_121_43 : okL gmt mt_121 43 b_121_43 := by
  exact oc_iret dX0_crop_43 rfl
theorem ok_121 : ∀ q ∈ pr_121, okL gmt mt_121 q.1 q.2 := pk_c o_121_0 (pk_c o_121_42 (pk_c o_121_43 (pk_n)))
theorem o_122_0 : okL gmt mt_122 0 b_122_0 := by
  refine oc (y := mt_122) (pc := 0) (ok_aload_n dX0_spare_0) 1 rfl ?_
  refine oc (y := mt_122) (pc := 1) (ok_iload_n dX0_spare_1) 2 rfl ?_
  refine oc_V (y := mt_122) (pc := 2) (vcons (y := mt_122) (pc := 2) (len := 3) (n := 2) (M := mt_104) (by decide) rfl (Or.inr rfl) rfl (ck_V dX0_spare_2 ⟨by decide, by decide, by decide, by decide +kernel⟩ q1371 q1373 qs36 q162 q1374) vnil) (hok0 rfl) (by decide) 5 rfl ?_
  refine oc_if dX0_spare_5 ⟨by decide, by decide⟩ 8 rfl ?_
  refine oc (y := mt_122) (pc := 8) (ok_aload_n dX0_spare_8) 9 rfl ?_
  refine oc (y := mt_122) (pc := 9) (ok_iload_n dX0_spare_9) 10 rfl ?_
  refine oc (y := mt_122) (pc := 10) (ok_iconst dX0_spare_10 rfl ⟨by decide, by decide⟩) 11 rfl ?_
  refine oc (y := mt_122) (pc := 11) (ok_bipush dX0_spare_11 (by decide) ⟨by decide, by decide⟩) 13 rfl ?_
  refine oc_V (y := mt_122) (pc := 13) (vcons (y := mt_122) (pc := 13) (len := 3) (n := 4) (M := mt_117) (by decide) rfl (Or.inr rfl) rfl (ck_V dX0_spare_13 ⟨by decide, by decide, by decide, by decide +kernel⟩ q1465 q1467 qs42 q162 q1468) vnil) (hok0 rfl) (by decide) 16 rfl ?_
  refine oc_if dX0_spare_16 ⟨by decide, by decide⟩ 19 rfl ?_
  refine oc (y := mt_122) (pc := 19) (ok_iload_n dX0_spare_19) 20 rfl ?_
  refine oc (y := mt_122) (pc := 20) (ok_iconst dX0_spare_20 rfl ⟨by decide, by decide⟩) 21 rfl ?_
  refine oc (y := mt_122) (pc := 21) (ok_iconst dX0_spare_21 rfl ⟨by decide, by decide⟩) 22 rfl ?_
  refine oc_S (y := mt_122) (pc := 22) (M := mt_92) rfl (ck_S dX0_spare_22 ⟨by decide, by decide, by decide, by decide +kernel⟩ q1330 q771 q162 q772) (hok0 rfl) (by decide) 25 rfl ?_
  refine oc_if dX0_spare_25 ⟨by decide, by decide⟩ 28 rfl ?_
  exact oc_fall rfl
theorem o_122_28 : okL gmt mt_122 28 b_122_28 := by
  refine oc (y := mt_122) (pc := 28) (ok_iconst dX0_spare_28 rfl ⟨by decide, by decide⟩) 29 rfl ?_
  exact oc_iret dX0_spare_29 rfl
theorem o_122_30 : okL gmt mt_122 30 b_122_30 := by
  refine oc (y := mt_122) (pc := 30) (ok_iconst dX0_spare_30 rfl ⟨by decide, by decide⟩) 31 rfl ?_
  refine oc (y := mt_122) (pc := 31) (ok_istore dX0_spare_31 (by decide)) 33 rfl ?_
  refine oc (y := mt_122) (pc := 33) (ok_iconst dX0_spare_33 rfl ⟨by decide, by decide⟩) 34 rfl ?_
  refine oc (y := mt_122) (pc := 34) (ok_istore dX0_spare_34 (by decide)) 36 rfl ?_
  refine oc (y := mt_122) (pc := 36) (ok_iconst dX0_spare_36 rfl ⟨by decide, by decide⟩) 37 rfl ?_
  refine oc (y := mt_122) (pc := 37) (ok_istore dX0_spare_37 (by decide)) 39 rfl ?_
  exact oc_fall rfl
theorem o_122_39 : okL gmt mt_122 39 b_122_39 := by
  refine oc (y := mt_122) (pc := 39) (ok_iload dX0_spare_39) 41 rfl ?_
  refine oc (y := mt_122) (pc := 41) (ok_aload_n dX0_spare_41) 42 rfl ?_
  refine oc_V (y := mt_122) (pc := 42) (vcons (y := mt_122) (pc := 42) (len := 3) (n := 1) (M := mt_108) (by decide) rfl (Or.inr rfl) rfl (ck_V dX0_spare_42 ⟨by decide, by decide, by decide, by decide +kernel⟩ q1388 q1390 qs38 q162 q1391) vnil) (hok0 rfl) (by decide) 45 rfl ?_
  refine oc_icmp dX0_spare_45 ⟨by decide, by decide⟩ 48 rfl ?_
  refine oc (y := mt_122) (pc := 48) (ok_aload_n dX0_spare_48) 49 rfl ?_
  refine oc (y := mt_122) (pc := 49) (ok_getfield dX0_spare_49 (fg (own := "GardenChess") (idx := 87) (g := 1) (k := 13) (r := (RX0, TX0, 25)) rfl ⟨⟨by decide, by decide⟩, by decide⟩ (Or.inl q556) (Or.inl rfl) rfl (fg_nil))) 52 rfl ?_
  refine oc (y := mt_122) (pc := 52) (ok_aload_n dX0_spare_52) 53 rfl ?_
  refine oc (y := mt_122) (pc := 53) (ok_getfield dX0_spare_53 (fg (own := "GardenChess") (idx := 83) (g := 1) (k := 12) (r := (RX0, TX0, 25)) rfl ⟨⟨by decide, by decide⟩, by decide⟩ (Or.inl q555) (Or.inl rfl) rfl (fg_nil))) 56 rfl ?_
  refine oc_V (y := mt_122) (pc := 56) (vcons (y := mt_122) (pc := 56) (len := 3) (n := 2) (M := mt_220) (by decide) rfl (Or.inr rfl) rfl (ck_V dX0_spare_56 ⟨by decide, by decide, by decide, by decide +kernel⟩ q1393 q1394 q1395 q174 q1396) vnil) (hok0 rfl) (by decide) 59 rfl ?_
  refine oc (y := mt_122) (pc := 59) (ok_iload dX0_spare_59) 61 rfl ?_
  refine oc_V (y := mt_122) (pc := 61) (vcons (y := mt_122) (pc := 61) (len := 3) (n := 2) (M := mt_230) (by decide) rfl (Or.inr rfl) rfl (ck_V dX0_spare_61 ⟨by decide, by decide, by decide, by decide +kernel⟩ q1566 q1479 q1480 q174 q1481) vnil) (hok0 rfl) (by decide) 64 rfl ?_
  refine oc (y := mt_122) (pc := 64) (ok_pop dX0_spare_64) 65 rfl ?_
  refine oc (y := mt_122) (pc := 65) (ok_aload_n dX0_spare_65) 66 rfl ?_
  refine oc (y := mt_122) (pc := 66) (ok_getfield dX0_spare_66 (fg (own := "GardenChess") (idx := 87) (g := 1) (k := 13) (r := (RX0, TX0, 25)) rfl ⟨⟨by decide, by decide⟩, by decide⟩ (Or.inl q556) (Or.inl rfl) rfl (fg_nil))) 69 rfl ?_
  refine oc (y := mt_122) (pc := 69) (ok_iload_n dX0_spare_69) 70 rfl ?_
  refine oc (y := mt_122) (pc := 70) (ok_iconst dX0_spare_70 rfl ⟨by decide, by decide⟩) 71 rfl ?_
  refine oc (y := mt_122) (pc := 71) (ok_isub dX0_spare_71) 72 rfl ?_
  refine oc_V (y := mt_122) (pc := 72) (vcons (y := mt_122) (pc := 72) (len := 3) (n := 2) (M := mt_228) (by decide) rfl (Or.inr rfl) rfl (ck_V dX0_spare_72 ⟨by decide, by decide, by decide, by decide +kernel⟩ q1469 q1470 q1471 q174 q1472) vnil) (hok0 rfl) (by decide) 75 rfl ?_
  refine oc (y := mt_122) (pc := 75) (ok_pop dX0_spare_75) 76 rfl ?_
  refine oc (y := mt_122) (pc := 76) (ok_aload_n dX0_spare_76) 77 rfl ?_
  refine oc (y := mt_122) (pc := 77) (ok_getfield dX0_spare_77 (fg (own := "GardenChess") (idx := 87) (g := 1) (k := 13) (r := (RX0, TX0, 25)) rfl ⟨⟨by decide, by decide⟩, by decide⟩ (Or.inl q556) (Or.inl rfl) rfl (fg_nil))) 80 rfl ?_
  refine oc (y := mt_122) (pc := 80) (ok_getfield dX0_spare_80 (fg (own := "GardenChess") (idx := 266) (g := 8) (k := 5) (r := (RX6, TX6, 12)) rfl ⟨⟨by decide, by decide⟩, by decide⟩ (Or.inr ⟨_, q456⟩) (Or.inl rfl) rfl (fg_nil))) 83 rfl ?_
  refine oc (y := mt_122) (pc := 83) (ok_iload_n dX0_spare_83) 84 rfl ?_
  refine oc (y := mt_122) (pc := 84) (ok_iaload dX0_spare_84) 85 rfl ?_
  refine oc (y := mt_122) (pc := 85) (ok_iload dX0_spare_85) 87 rfl ?_
  refine oc_icmp dX0_spare_87 ⟨by decide, by decide⟩ 90 rfl ?_
  exact oc_goto dX0_spare_90 ⟨by decide, by decide⟩
theorem o_122_93 : okL gmt mt_122 93 b_122_93 := by
  refine oc (y := mt_122) (pc := 93) (ok_aload_n dX0_spare_93) 94 rfl ?_
  refine oc (y := mt_122) (pc := 94) (ok_getfield dX0_spare_94 (fg (own := "GardenChess") (idx := 87) (g := 1) (k := 13) (r := (RX0, TX0, 25)) rfl ⟨⟨by decide, by decide⟩, by decide⟩ (Or.inl q556) (Or.inl rfl) rfl (fg_nil))) 97 rfl ?_
  refine oc (y := mt_122) (pc := 97) (ok_getfield dX0_spare_97 (fg (own := "GardenChess") (idx := 266) (g := 8) (k := 5) (r := (RX6, TX6, 12)) rfl ⟨⟨by decide, by decide⟩, by decide⟩ (Or.inr ⟨_, q456⟩) (Or.inl rfl) rfl (fg_nil))) 100 rfl ?_
  refine oc (y := mt_122) (pc := 100) (ok_iload_n dX0_spare_100) 101 rfl ?_
  refine oc (y := mt_122) (pc := 101) (ok_iaload dX0_spare_101) 102 rfl ?_
  refine oc (y := mt_122) (pc := 102) (ok_istore dX0_spare_102 (by decide)) 104 rfl ?_
  refine oc (y := mt_122) (pc := 104) (ok_iload dX0_spare_104) 106 rfl ?_
  refine oc (y := mt_122) (pc := 106) (ok_istore dX0_spare_106 (by decide)) 108 rfl ?_
  exact oc_fall rfl
theorem o_122_108 : okL gmt mt_122 108 b_122_108 := by
  refine oc (y := mt_122) (pc := 108) (ok_iinc dX0_spare_108 (by decide)) 111 rfl ?_
  exact oc_goto dX0_spare_111 ⟨by decide, by decide⟩
theorem o_122_114 : okL gmt mt_122 114 b_122_114 := by
  refine oc (y := mt_122) (pc := 114) (ok_iload_n dX0_spare_114) 115 rfl ?_
  refine oc_if dX0_spare_115 ⟨by decide, by decide⟩ 118 rfl ?_
  refine oc (y := mt_122) (pc := 118) (ok_iload dX0_spare_118) 120 rfl ?_
  exact oc_goto dX0_spare_120 ⟨by decide, by decide⟩
theorem o_122_123 : okL gmt mt_122 123 b_122_123 := by
  refine oc (y := mt_122) (pc := 123) (ok_iload dX0_spare_123) 125 rfl ?_
  exact oc_fall rfl
theorem o_122_125 : okL gmt mt_122 125 b_122_125 := by
  exact oc_iret dX0_spare_125 rfl
theorem ok_122 : ∀ q ∈ pr_122, okL gmt mt_122 q.1 q.2 := pk_c o_122_0 (pk_c o_122_28 (pk_c o_122_30 (pk_c o_122_39 (pk_c o_122_93 (pk_c o_122_108 (pk_c o_122_114 (pk_c o_122_123 (pk_c o_122_125 (pk_n)))))))))
theorem o_123_0 : okL gmt mt_123 0 b_123_0 := by
  refine oc (y := mt_123) (pc := 0) (ok_aload_n dX0_sow_0) 1 rfl ?_
  refine oc (y := mt_123) (pc := 1) (ok_iload_n dX0_sow_1) 2 rfl ?_
  refine oc (y := mt_123) (pc := 2) (ok_iconst dX0_sow_2 rfl ⟨by decide, by decide⟩) 3 rfl ?_
  refine oc (y := mt_123) (pc := 3) (ok_bipush dX0_sow_3 (by decide) ⟨by decide, by decide⟩) 5 rfl ?_
  refine oc_V (y := mt_123) (pc := 5) (vcons (y := mt_123) (pc := 5) (len := 3) (n := 4) (M := mt_117) (by decide) rfl (Or.inr rfl) rfl (ck_V dX0_sow_5 ⟨by decide, by decide, by decide, by decide +kernel⟩ q1465 q1467 qs42 q162 q1468) vnil) (hok0 rfl) (by decide) 8 rfl ?_
  refine oc_if dX0_sow_8 ⟨by decide, by decide⟩ 11 rfl ?_
  refine oc (y := mt_123) (pc := 11) (ok_iload_n dX0_sow_11) 12 rfl ?_
  refine oc (y := mt_123) (pc := 12) (ok_iconst dX0_sow_12 rfl ⟨by decide, by decide⟩) 13 rfl ?_
  refine oc (y := mt_123) (pc := 13) (ok_iconst dX0_sow_13 rfl ⟨by decide, by decide⟩) 14 rfl ?_
  refine oc_S (y := mt_123) (pc := 14) (M := mt_92) rfl (ck_S dX0_sow_14 ⟨by decide, by decide, by decide, by decide +kernel⟩ q1330 q771 q162 q772) (hok0 rfl) (by decide) 17 rfl ?_
  refine oc_if dX0_sow_17 ⟨by decide, by decide⟩ 20 rfl ?_
  exact oc_fall rfl
theorem o_123_20 : okL gmt mt_123 20 b_123_20 := by
  refine oc (y := mt_123) (pc := 20) (ok_iconst dX0_sow_20 rfl ⟨by decide, by decide⟩) 21 rfl ?_
  exact oc_iret dX0_sow_21 rfl
theorem o_123_22 : okL gmt mt_123 22 b_123_22 := by
  refine oc (y := mt_123) (pc := 22) (ok_iconst dX0_sow_22 rfl ⟨by decide, by decide⟩) 23 rfl ?_
  refine oc (y := mt_123) (pc := 23) (ok_istore_n dX0_sow_23 (by decide)) 24 rfl ?_
  exact oc_fall rfl
theorem o_123_24 : okL gmt mt_123 24 b_123_24 := by
  refine oc (y := mt_123) (pc := 24) (ok_iload_n dX0_sow_24) 25 rfl ?_
  refine oc (y := mt_123) (pc := 25) (ok_bipush dX0_sow_25 (by decide) ⟨by decide, by decide⟩) 27 rfl ?_
  refine oc_icmp dX0_sow_27 ⟨by decide, by decide⟩ 30 rfl ?_
  refine oc (y := mt_123) (pc := 30) (ok_aload_n dX0_sow_30) 31 rfl ?_
  refine oc (y := mt_123) (pc := 31) (ok_getfield dX0_sow_31 (fg (own := "GardenChess") (idx := 90) (g := 1) (k := 14) (r := (RX0, TX0, 25)) rfl ⟨⟨by decide, by decide⟩, by decide⟩ (Or.inl q557) (Or.inl rfl) rfl (fg_nil))) 34 rfl ?_
  refine oc (y := mt_123) (pc := 34) (ok_iload_n dX0_sow_34) 35 rfl ?_
  refine oc (y := mt_123) (pc := 35) (ok_lconst dX0_sow_35 (by decide) ⟨by decide, by decide⟩) 36 rfl ?_
  refine oc (y := mt_123) (pc := 36) (ok_lastore dX0_sow_36) 37 rfl ?_
  refine oc (y := mt_123) (pc := 37) (ok_iinc dX0_sow_37 (by decide)) 40 rfl ?_
  exact oc_goto dX0_sow_40 ⟨by decide, by decide⟩
theorem o_123_43 : okL gmt mt_123 43 b_123_43 := by
  refine oc (y := mt_123) (pc := 43) (ok_aload_n dX0_sow_43) 44 rfl ?_
  refine oc (y := mt_123) (pc := 44) (ok_getfield dX0_sow_44 (fg (own := "GardenChess") (idx := 87) (g := 1) (k := 13) (r := (RX0, TX0, 25)) rfl ⟨⟨by decide, by decide⟩, by decide⟩ (Or.inl q556) (Or.inl rfl) rfl (fg_nil))) 47 rfl ?_
  refine oc (y := mt_123) (pc := 47) (ok_aload_n dX0_sow_47) 48 rfl ?_
  refine oc (y := mt_123) (pc := 48) (ok_getfield dX0_sow_48 (fg (own := "GardenChess") (idx := 83) (g := 1) (k := 12) (r := (RX0, TX0, 25)) rfl ⟨⟨by decide, by decide⟩, by decide⟩ (Or.inl q555) (Or.inl rfl) rfl (fg_nil))) 51 rfl ?_
  refine oc_V (y := mt_123) (pc := 51) (vcons (y := mt_123) (pc := 51) (len := 3) (n := 2) (M := mt_220) (by decide) rfl (Or.inr rfl) rfl (ck_V dX0_sow_51 ⟨by decide, by decide, by decide, by decide +kernel⟩ q1393 q1394 q1395 q174 q1396) vnil) (hok0 rfl) (by decide) 54 rfl ?_
  refine oc (y := mt_123) (pc := 54) (ok_pop dX0_sow_54) 55 rfl ?_
  refine oc (y := mt_123) (pc := 55) (ok_iconst dX0_sow_55 rfl ⟨by decide, by decide⟩) 56 rfl ?_
  refine oc (y := mt_123) (pc := 56) (ok_istore_n dX0_sow_56 (by decide)) 57 rfl ?_
  exact oc_fall rfl
theorem o_123_57 : okL gmt mt_123 57 b_123_57 := by
  refine oc (y := mt_123) (pc := 57) (ok_iload_n dX0_sow_57) 58 rfl ?_
  refine oc (y := mt_123) (pc := 58) (ok_iload_n dX0_sow_58) 59 rfl ?_
  refine oc_icmp dX0_sow_59 ⟨by decide, by decide⟩ 62 rfl ?_
  refine oc (y := mt_123) (pc := 62) (ok_aload_n dX0_sow_62) 63 rfl ?_
  refine oc (y := mt_123) (pc := 63) (ok_getfield dX0_sow_63 (fg (own := "GardenChess") (idx := 87) (g := 1) (k := 13) (r := (RX0, TX0, 25)) rfl ⟨⟨by decide, by decide⟩, by decide⟩ (Or.inl q556) (Or.inl rfl) rfl (fg_nil))) 66 rfl ?_
  refine oc (y := mt_123) (pc := 66) (ok_iconst dX0_sow_66 rfl ⟨by decide, by decide⟩) 67 rfl ?_
  refine oc_V (y := mt_123) (pc := 67) (vcons (y := mt_123) (pc := 67) (len := 3) (n := 2) (M := mt_228) (by decide) rfl (Or.inr rfl) rfl (ck_V dX0_sow_67 ⟨by decide, by decide, by decide, by decide +kernel⟩ q1469 q1470 q1471 q174 q1472) vnil) (hok0 rfl) (by decide) 70 rfl ?_
  refine oc (y := mt_123) (pc := 70) (ok_pop dX0_sow_70) 71 rfl ?_
  refine oc (y := mt_123) (pc := 71) (ok_iconst dX0_sow_71 rfl ⟨by decide, by decide⟩) 72 rfl ?_
  refine oc (y := mt_123) (pc := 72) (ok_istore dX0_sow_72 (by decide)) 74 rfl ?_
  exact oc_fall rfl
theorem o_123_74 : okL gmt mt_123 74 b_123_74 := by
  refine oc (y := mt_123) (pc := 74) (ok_iload dX0_sow_74) 76 rfl ?_
  refine oc (y := mt_123) (pc := 76) (ok_bipush dX0_sow_76 (by decide) ⟨by decide, by decide⟩) 78 rfl ?_
  refine oc_icmp dX0_sow_78 ⟨by decide, by decide⟩ 81 rfl ?_
  refine oc (y := mt_123) (pc := 81) (ok_aload_n dX0_sow_81) 82 rfl ?_
  refine oc (y := mt_123) (pc := 82) (ok_getfield dX0_sow_82 (fg (own := "GardenChess") (idx := 90) (g := 1) (k := 14) (r := (RX0, TX0, 25)) rfl ⟨⟨by decide, by decide⟩, by decide⟩ (Or.inl q557) (Or.inl rfl) rfl (fg_nil))) 85 rfl ?_
  refine oc (y := mt_123) (pc := 85) (ok_iload dX0_sow_85) 87 rfl ?_
  refine oc (y := mt_123) (pc := 87) (ok_dup2 dX0_sow_87) 88 rfl ?_
  refine oc (y := mt_123) (pc := 88) (ok_laload dX0_sow_88) 89 rfl ?_
  refine oc (y := mt_123) (pc := 89) (ok_aload_n dX0_sow_89) 90 rfl ?_
  refine oc (y := mt_123) (pc := 90) (ok_getfield dX0_sow_90 (fg (own := "GardenChess") (idx := 87) (g := 1) (k := 13) (r := (RX0, TX0, 25)) rfl ⟨⟨by decide, by decide⟩, by decide⟩ (Or.inl q556) (Or.inl rfl) rfl (fg_nil))) 93 rfl ?_
  refine oc (y := mt_123) (pc := 93) (ok_iload dX0_sow_93) 95 rfl ?_
  refine oc (y := mt_123) (pc := 95) (ok_iconst dX0_sow_95 rfl ⟨by decide, by decide⟩) 96 rfl ?_
  refine oc (y := mt_123) (pc := 96) (ok_irem dX0_sow_96) 97 rfl ?_
  refine oc (y := mt_123) (pc := 97) (ok_iload dX0_sow_97) 99 rfl ?_
  refine oc (y := mt_123) (pc := 99) (ok_iconst dX0_sow_99 rfl ⟨by decide, by decide⟩) 100 rfl ?_
  refine oc (y := mt_123) (pc := 100) (ok_idiv dX0_sow_100) 101 rfl ?_
  refine oc_V (y := mt_123) (pc := 101) (vcons (y := mt_123) (pc := 101) (len := 3) (n := 3) (M := mt_232) (by decide) rfl (Or.inr rfl) rfl (ck_V dX0_sow_101 ⟨by decide, by decide, by decide, by decide +kernel⟩ q1571 q1488 q1489 q174 q1490) vnil) (hok0 rfl) (by decide) 104 rfl ?_
  refine oc (y := mt_123) (pc := 104) (ok_i2l dX0_sow_104) 105 rfl ?_
  refine oc (y := mt_123) (pc := 105) (ok_ladd dX0_sow_105) 106 rfl ?_
  refine oc (y := mt_123) (pc := 106) (ok_lastore dX0_sow_106) 107 rfl ?_
  refine oc (y := mt_123) (pc := 107) (ok_iinc dX0_sow_107 (by decide)) 110 rfl ?_
  exact oc_goto dX0_sow_110 ⟨by decide, by decide⟩
theorem o_123_113 : okL gmt mt_123 113 b_123_113 := by
  refine oc (y := mt_123) (pc := 113) (ok_iinc dX0_sow_113 (by decide)) 116 rfl ?_
  exact oc_goto dX0_sow_116 ⟨by decide, by decide⟩
theorem o_123_119 : okL gmt mt_123 119 b_123_119 := by
  refine oc (y := mt_123) (pc := 119) (ok_iconst dX0_sow_119 rfl ⟨by decide, by decide⟩) 120 rfl ?_
  refine oc (y := mt_123) (pc := 120) (ok_istore_n dX0_sow_120 (by decide)) 121 rfl ?_
  refine oc (y := mt_123) (pc := 121) (ok_iconst dX0_sow_121 rfl ⟨by decide, by decide⟩) 122 rfl ?_
  refine oc (y := mt_123) (pc := 122) (ok_istore dX0_sow_122 (by decide)) 124 rfl ?_
  exact oc_fall rfl
theorem o_123_124 : okL gmt mt_123 124 b_123_124 := by
  refine oc (y := mt_123) (pc := 124) (ok_iload dX0_sow_124) 126 rfl ?_
  refine oc (y := mt_123) (pc := 126) (ok_iconst dX0_sow_126 rfl ⟨by decide, by decide⟩) 127 rfl ?_
  refine oc (y := mt_123) (pc := 127) (ok_aload_n dX0_sow_127) 128 rfl ?_
  refine oc (y := mt_123) (pc := 128) (ok_getfield dX0_sow_128 (fg (own := "GardenChess") (idx := 31) (g := 1) (k := 0) (r := (RX0, TX0, 25)) rfl ⟨⟨by decide, by decide⟩, by decide⟩ (Or.inl q539) (Or.inl rfl) rfl (fg_nil))) 131 rfl ?_
  refine oc (y := mt_123) (pc := 131) (ok_getfield dX0_sow_131 (fg (own := "GardenChess") (idx := 182) (g := 2) (k := 2) (r := (RX1, TX1, 10)) rfl ⟨⟨by decide, by decide⟩, by decide⟩ (Or.inr ⟨_, q254⟩) (Or.inl rfl) rfl (fg_nil))) 134 rfl ?_
  refine oc (y := mt_123) (pc := 134) (ok_imul dX0_sow_134) 135 rfl ?_
  refine oc_icmp dX0_sow_135 ⟨by decide, by decide⟩ 138 rfl ?_
  refine oc (y := mt_123) (pc := 138) (ok_iload dX0_sow_138) 140 rfl ?_
  refine oc (y := mt_123) (pc := 140) (ok_iconst dX0_sow_140 rfl ⟨by decide, by decide⟩) 141 rfl ?_
  refine oc (y := mt_123) (pc := 141) (ok_irem dX0_sow_141) 142 rfl ?_
  refine oc (y := mt_123) (pc := 142) (ok_aload_n dX0_sow_142) 143 rfl ?_
  refine oc (y := mt_123) (pc := 143) (ok_getfield dX0_sow_143 (fg (own := "GardenChess") (idx := 31) (g := 1) (k := 0) (r := (RX0, TX0, 25)) rfl ⟨⟨by decide, by decide⟩, by decide⟩ (Or.inl q539) (Or.inl rfl) rfl (fg_nil))) 146 rfl ?_
  refine oc (y := mt_123) (pc := 146) (ok_getfield dX0_sow_146 (fg (own := "GardenChess") (idx := 159) (g := 2) (k := 1) (r := (RX1, TX1, 10)) rfl ⟨⟨by decide, by decide⟩, by decide⟩ (Or.inr ⟨_, q250⟩) (Or.inl rfl) rfl (fg_nil))) 149 rfl ?_
  refine oc_icmp dX0_sow_149 ⟨by decide, by decide⟩ 152 rfl ?_
  refine oc (y := mt_123) (pc := 152) (ok_aload_n dX0_sow_152) 153 rfl ?_
  refine oc (y := mt_123) (pc := 153) (ok_getfield dX0_sow_153 (fg (own := "GardenChess") (idx := 90) (g := 1) (k := 14) (r := (RX0, TX0, 25)) rfl ⟨⟨by decide, by decide⟩, by decide⟩ (Or.inl q557) (Or.inl rfl) rfl (fg_nil))) 156 rfl ?_
  refine oc (y := mt_123) (pc := 156) (ok_iload dX0_sow_156) 158 rfl ?_
  refine oc (y := mt_123) (pc := 158) (ok_laload dX0_sow_158) 159 rfl ?_
  refine oc (y := mt_123) (pc := 159) (ok_aload_n dX0_sow_159) 160 rfl ?_
  refine oc (y := mt_123) (pc := 160) (ok_getfield dX0_sow_160 (fg (own := "GardenChess") (idx := 90) (g := 1) (k := 14) (r := (RX0, TX0, 25)) rfl ⟨⟨by decide, by decide⟩, by decide⟩ (Or.inl q557) (Or.inl rfl) rfl (fg_nil))) 163 rfl ?_
  refine oc (y := mt_123) (pc := 163) (ok_iload_n dX0_sow_163) 164 rfl ?_
  refine oc (y := mt_123) (pc := 164) (ok_laload dX0_sow_164) 165 rfl ?_
  refine oc (y := mt_123) (pc := 165) (ok_lcmp dX0_sow_165) 166 rfl ?_
  refine oc_if dX0_sow_166 ⟨by decide, by decide⟩ 169 rfl ?_
  refine oc (y := mt_123) (pc := 169) (ok_iload dX0_sow_169) 171 rfl ?_
  refine oc (y := mt_123) (pc := 171) (ok_istore_n dX0_sow_171 (by decide)) 172 rfl ?_
  exact oc_fall rfl
theorem o_123_172 : okL gmt mt_123 172 b_123_172 := by
  refine oc (y := mt_123) (pc := 172) (ok_iinc dX0_sow_172 (by decide)) 175 rfl ?_
  exact oc_goto dX0_sow_175 ⟨by decide, by decide⟩
theorem o_123_178 : okL gmt mt_123 178 b_123_178 := by
  refine oc (y := mt_123) (pc := 178) (ok_iload_n dX0_sow_178) 179 rfl ?_
  refine oc_if dX0_sow_179 ⟨by decide, by decide⟩ 182 rfl ?_
  refine oc (y := mt_123) (pc := 182) (ok_iload_n dX0_sow_182) 183 rfl ?_
  refine oc (y := mt_123) (pc := 183) (ok_iconst dX0_sow_183 rfl ⟨by decide, by decide⟩) 184 rfl ?_
  refine oc (y := mt_123) (pc := 184) (ok_irem dX0_sow_184) 185 rfl ?_
  exact oc_goto dX0_sow_185 ⟨by decide, by decide⟩
theorem o_123_188 : okL gmt mt_123 188 b_123_188 := by
  refine oc (y := mt_123) (pc := 188) (ok_iload_n dX0_sow_188) 189 rfl ?_
  refine oc (y := mt_123) (pc := 189) (ok_iconst dX0_sow_189 rfl ⟨by decide, by decide⟩) 190 rfl ?_
  refine oc_icmp dX0_sow_190 ⟨by decide, by decide⟩ 193 rfl ?_
  refine oc (y := mt_123) (pc := 193) (ok_iload_n dX0_sow_193) 194 rfl ?_
  refine oc (y := mt_123) (pc := 194) (ok_iconst dX0_sow_194 rfl ⟨by decide, by decide⟩) 195 rfl ?_
  refine oc (y := mt_123) (pc := 195) (ok_idiv dX0_sow_195) 196 rfl ?_
  exact oc_goto dX0_sow_196 ⟨by decide, by decide⟩
theorem o_123_199 : okL gmt mt_123 199 b_123_199 := by
  refine oc (y := mt_123) (pc := 199) (ok_ldc2 dX0_sow_199 ⟨by decide, by decide⟩ (show Cond.constantLong _ _ (Int64.ofInt 999999) ∈ lw_all from q1572)) 202 rfl ?_
  refine oc (y := mt_123) (pc := 202) (ok_aload_n dX0_sow_202) 203 rfl ?_
  refine oc (y := mt_123) (pc := 203) (ok_getfield dX0_sow_203 (fg (own := "GardenChess") (idx := 90) (g := 1) (k := 14) (r := (RX0, TX0, 25)) rfl ⟨⟨by decide, by decide⟩, by decide⟩ (Or.inl q557) (Or.inl rfl) rfl (fg_nil))) 206 rfl ?_
  refine oc (y := mt_123) (pc := 206) (ok_iload_n dX0_sow_206) 207 rfl ?_
  refine oc (y := mt_123) (pc := 207) (ok_laload dX0_sow_207) 208 rfl ?_
  refine oc_S (y := mt_123) (pc := 208) (M := mt_20) rfl (ck_S dX0_sow_208 ⟨by decide, by decide, by decide, by decide +kernel⟩ q1507 q1508 q184 q1509) (hok0 rfl) (by decide) 211 rfl ?_
  refine oc (y := mt_123) (pc := 211) (ok_l2i dX0_sow_211) 212 rfl ?_
  exact oc_fall rfl
theorem o_123_212 : okL gmt mt_123 212 b_123_212 := by
  exact oc_iret dX0_sow_212 rfl
theorem ok_123 : ∀ q ∈ pr_123, okL gmt mt_123 q.1 q.2 := pk_c o_123_0 (pk_c o_123_20 (pk_c o_123_22 (pk_c o_123_24 (pk_c o_123_43 (pk_c o_123_57 (pk_c o_123_74 (pk_c o_123_113 (pk_c o_123_119 (pk_c o_123_124 (pk_c o_123_172 (pk_c o_123_178 (pk_c o_123_188 (pk_c o_123_199 (pk_c o_123_212 (pk_n)))))))))))))))
theorem o_124_0 : okL gmt mt_124 0 b_124_0 := by
  refine oc (y := mt_124) (pc := 0) (ok_iload_n dX0_deeper_0) 1 rfl ?_
  refine oc (y := mt_124) (pc := 1) (ok_iconst dX0_deeper_1 rfl ⟨by decide, by decide⟩) 2 rfl ?_
  refine oc (y := mt_124) (pc := 2) (ok_iconst dX0_deeper_2 rfl ⟨by decide, by decide⟩) 3 rfl ?_
  refine oc_S (y := mt_124) (pc := 3) (M := mt_92) rfl (ck_S dX0_deeper_3 ⟨by decide, by decide, by decide, by decide +kernel⟩ q1330 q771 q162 q772) (hok0 rfl) (by decide) 6 rfl ?_
  refine oc_if dX0_deeper_6 ⟨by decide, by decide⟩ 9 rfl ?_
  refine oc (y := mt_124) (pc := 9) (ok_iload_n dX0_deeper_9) 10 rfl ?_
  refine oc (y := mt_124) (pc := 10) (ok_iconst dX0_deeper_10 rfl ⟨by decide, by decide⟩) 11 rfl ?_
  refine oc (y := mt_124) (pc := 11) (ok_iconst dX0_deeper_11 rfl ⟨by decide, by decide⟩) 12 rfl ?_
  refine oc_S (y := mt_124) (pc := 12) (M := mt_92) rfl (ck_S dX0_deeper_12 ⟨by decide, by decide, by decide, by decide +kernel⟩ q1330 q771 q162 q772) (hok0 rfl) (by decide) 15 rfl ?_
  refine oc_if dX0_deeper_15 ⟨by decide, by decide⟩ 18 rfl ?_
  refine oc (y := mt_124) (pc := 18) (ok_aload_n dX0_deeper_18) 19 rfl ?_
  refine oc (y := mt_124) (pc := 19) (ok_iload_n dX0_deeper_19) 20 rfl ?_
  refine oc (y := mt_124) (pc := 20) (ok_iconst dX0_deeper_20 rfl ⟨by decide, by decide⟩) 21 rfl ?_
  refine oc (y := mt_124) (pc := 21) (ok_bipush dX0_deeper_21 (by decide) ⟨by decide, by decide⟩) 23 rfl ?_
  refine oc_V (y := mt_124) (pc := 23) (vcons (y := mt_124) (pc := 23) (len := 3) (n := 4) (M := mt_117) (by decide) rfl (Or.inr rfl) rfl (ck_V dX0_deeper_23 ⟨by decide, by decide, by decide, by decide +kernel⟩ q1465 q1467 qs42 q162 q1468) vnil) (hok0 rfl) (by decide) 26 rfl ?_
  refine oc_if dX0_deeper_26 ⟨by decide, by decide⟩ 29 rfl ?_
  exact oc_fall rfl
theorem o_124_29 : okL gmt mt_124 29 b_124_29 := by
  refine oc (y := mt_124) (pc := 29) (ok_ldc2 dX0_deeper_29 ⟨by decide, by decide⟩ (show Cond.constantLong _ _ (Int64.ofInt (-1000000000000000)) ∈ lw_all from q1417)) 32 rfl ?_
  exact oc_lret dX0_deeper_32 rfl
theorem o_124_33 : okL gmt mt_124 33 b_124_33 := by
  refine oc (y := mt_124) (pc := 33) (ok_aload_n dX0_deeper_33) 34 rfl ?_
  refine oc (y := mt_124) (pc := 34) (ok_getfield dX0_deeper_34 (fg (own := "GardenChess") (idx := 87) (g := 1) (k := 13) (r := (RX0, TX0, 25)) rfl ⟨⟨by decide, by decide⟩, by decide⟩ (Or.inl q556) (Or.inl rfl) rfl (fg_nil))) 37 rfl ?_
  refine oc (y := mt_124) (pc := 37) (ok_aload_n dX0_deeper_37) 38 rfl ?_
  refine oc (y := mt_124) (pc := 38) (ok_getfield dX0_deeper_38 (fg (own := "GardenChess") (idx := 83) (g := 1) (k := 12) (r := (RX0, TX0, 25)) rfl ⟨⟨by decide, by decide⟩, by decide⟩ (Or.inl q555) (Or.inl rfl) rfl (fg_nil))) 41 rfl ?_
  refine oc_V (y := mt_124) (pc := 41) (vcons (y := mt_124) (pc := 41) (len := 3) (n := 2) (M := mt_220) (by decide) rfl (Or.inr rfl) rfl (ck_V dX0_deeper_41 ⟨by decide, by decide, by decide, by decide +kernel⟩ q1393 q1394 q1395 q174 q1396) vnil) (hok0 rfl) (by decide) 44 rfl ?_
  refine oc (y := mt_124) (pc := 44) (ok_iload_n dX0_deeper_44) 45 rfl ?_
  refine oc_V (y := mt_124) (pc := 45) (vcons (y := mt_124) (pc := 45) (len := 3) (n := 2) (M := mt_228) (by decide) rfl (Or.inr rfl) rfl (ck_V dX0_deeper_45 ⟨by decide, by decide, by decide, by decide +kernel⟩ q1469 q1470 q1471 q174 q1472) vnil) (hok0 rfl) (by decide) 48 rfl ?_
  refine oc_V (y := mt_124) (pc := 48) (vcons (y := mt_124) (pc := 48) (len := 3) (n := 1) (M := mt_218) (by decide) rfl (Or.inr rfl) rfl (ck_V dX0_deeper_48 ⟨by decide, by decide, by decide, by decide +kernel⟩ q1322 q1323 q1324 q174 q1325) vnil) (hok0 rfl) (by decide) 51 rfl ?_
  refine oc (y := mt_124) (pc := 51) (ok_istore dX0_deeper_51 (by decide)) 53 rfl ?_
  refine oc (y := mt_124) (pc := 53) (ok_aload_n dX0_deeper_53) 54 rfl ?_
  refine oc (y := mt_124) (pc := 54) (ok_getfield dX0_deeper_54 (fg (own := "GardenChess") (idx := 87) (g := 1) (k := 13) (r := (RX0, TX0, 25)) rfl ⟨⟨by decide, by decide⟩, by decide⟩ (Or.inl q556) (Or.inl rfl) rfl (fg_nil))) 57 rfl ?_
  refine oc (y := mt_124) (pc := 57) (ok_aload_n dX0_deeper_57) 58 rfl ?_
  refine oc (y := mt_124) (pc := 58) (ok_getfield dX0_deeper_58 (fg (own := "GardenChess") (idx := 83) (g := 1) (k := 12) (r := (RX0, TX0, 25)) rfl ⟨⟨by decide, by decide⟩, by decide⟩ (Or.inl q555) (Or.inl rfl) rfl (fg_nil))) 61 rfl ?_
  refine oc_V (y := mt_124) (pc := 61) (vcons (y := mt_124) (pc := 61) (len := 3) (n := 2) (M := mt_220) (by decide) rfl (Or.inr rfl) rfl (ck_V dX0_deeper_61 ⟨by decide, by decide, by decide, by decide +kernel⟩ q1393 q1394 q1395 q174 q1396) vnil) (hok0 rfl) (by decide) 64 rfl ?_
  refine oc (y := mt_124) (pc := 64) (ok_iload_n dX0_deeper_64) 65 rfl ?_
  refine oc (y := mt_124) (pc := 65) (ok_iload_n dX0_deeper_65) 66 rfl ?_
  refine oc_if dX0_deeper_66 ⟨by decide, by decide⟩ 69 rfl ?_
  refine oc (y := mt_124) (pc := 69) (ok_iload_n dX0_deeper_69) 70 rfl ?_
  exact oc_goto dX0_deeper_70 ⟨by decide, by decide⟩
theorem o_124_73 : okL gmt mt_124 73 b_124_73 := by
  refine oc (y := mt_124) (pc := 73) (ok_aload_n dX0_deeper_73) 74 rfl ?_
  refine oc (y := mt_124) (pc := 74) (ok_getfield dX0_deeper_74 (fg (own := "GardenChess") (idx := 31) (g := 1) (k := 0) (r := (RX0, TX0, 25)) rfl ⟨⟨by decide, by decide⟩, by decide⟩ (Or.inl q539) (Or.inl rfl) rfl (fg_nil))) 77 rfl ?_
  refine oc (y := mt_124) (pc := 77) (ok_getfield dX0_deeper_77 (fg (own := "GardenChess") (idx := 345) (g := 2) (k := 5) (r := (RX1, TX1, 10)) rfl ⟨⟨by decide, by decide⟩, by decide⟩ (Or.inr ⟨_, q262⟩) (Or.inl rfl) rfl (fg_nil))) 80 rfl ?_
  refine oc (y := mt_124) (pc := 80) (ok_iconst dX0_deeper_80 rfl ⟨by decide, by decide⟩) 81 rfl ?_
  refine oc (y := mt_124) (pc := 81) (ok_iaload dX0_deeper_81) 82 rfl ?_
  exact oc_fall rfl
theorem o_124_82 : okL gmt mt_124 82 b_124_82 := by
  refine oc (y := mt_124) (pc := 82) (ok_iload_n dX0_deeper_82) 83 rfl ?_
  refine oc (y := mt_124) (pc := 83) (ok_iconst dX0_deeper_83 rfl ⟨by decide, by decide⟩) 84 rfl ?_
  refine oc_icmp dX0_deeper_84 ⟨by decide, by decide⟩ 87 rfl ?_
  refine oc (y := mt_124) (pc := 87) (ok_iload_n dX0_deeper_87) 88 rfl ?_
  exact oc_goto dX0_deeper_88 ⟨by decide, by decide⟩
theorem o_124_91 : okL gmt mt_124 91 b_124_91 := by
  refine oc (y := mt_124) (pc := 91) (ok_aload_n dX0_deeper_91) 92 rfl ?_
  refine oc (y := mt_124) (pc := 92) (ok_getfield dX0_deeper_92 (fg (own := "GardenChess") (idx := 31) (g := 1) (k := 0) (r := (RX0, TX0, 25)) rfl ⟨⟨by decide, by decide⟩, by decide⟩ (Or.inl q539) (Or.inl rfl) rfl (fg_nil))) 95 rfl ?_
  refine oc (y := mt_124) (pc := 95) (ok_getfield dX0_deeper_95 (fg (own := "GardenChess") (idx := 345) (g := 2) (k := 5) (r := (RX1, TX1, 10)) rfl ⟨⟨by decide, by decide⟩, by decide⟩ (Or.inr ⟨_, q262⟩) (Or.inl rfl) rfl (fg_nil))) 98 rfl ?_
  refine oc (y := mt_124) (pc := 98) (ok_iconst dX0_deeper_98 rfl ⟨by decide, by decide⟩) 99 rfl ?_
  refine oc (y := mt_124) (pc := 99) (ok_iaload dX0_deeper_99) 100 rfl ?_
  exact oc_fall rfl
theorem o_124_100 : okL gmt mt_124 100 b_124_100 := by
  refine oc_V (y := mt_124) (pc := 100) (vcons (y := mt_124) (pc := 100) (len := 3) (n := 4) (M := mt_229) (by decide) rfl (Or.inr rfl) rfl (ck_V dX0_deeper_100 ⟨by decide, by decide, by decide, by decide +kernel⟩ q1577 q1474 q1475 q174 q1476) vnil) (hok0 rfl) (by decide) 103 rfl ?_
  refine oc (y := mt_124) (pc := 103) (ok_pop dX0_deeper_103) 104 rfl ?_
  refine oc (y := mt_124) (pc := 104) (ok_aload_n dX0_deeper_104) 105 rfl ?_
  refine oc (y := mt_124) (pc := 105) (ok_getfield dX0_deeper_105 (fg (own := "GardenChess") (idx := 87) (g := 1) (k := 13) (r := (RX0, TX0, 25)) rfl ⟨⟨by decide, by decide⟩, by decide⟩ (Or.inl q556) (Or.inl rfl) rfl (fg_nil))) 108 rfl ?_
  refine oc_V (y := mt_124) (pc := 108) (vcons (y := mt_124) (pc := 108) (len := 3) (n := 1) (M := mt_218) (by decide) rfl (Or.inr rfl) rfl (ck_V dX0_deeper_108 ⟨by decide, by decide, by decide, by decide +kernel⟩ q1322 q1323 q1324 q174 q1325) vnil) (hok0 rfl) (by decide) 111 rfl ?_
  refine oc (y := mt_124) (pc := 111) (ok_iload dX0_deeper_111) 113 rfl ?_
  refine oc (y := mt_124) (pc := 113) (ok_isub dX0_deeper_113) 114 rfl ?_
  refine oc (y := mt_124) (pc := 114) (ok_i2l dX0_deeper_114) 115 rfl ?_
  exact oc_lret dX0_deeper_115 rfl
theorem ok_124 : ∀ q ∈ pr_124, okL gmt mt_124 q.1 q.2 := pk_c o_124_0 (pk_c o_124_29 (pk_c o_124_33 (pk_c o_124_73 (pk_c o_124_82 (pk_c o_124_91 (pk_c o_124_100 (pk_n)))))))
theorem o_125_0 : okL gmt mt_125 0 b_125_0 := by
  refine oc (y := mt_125) (pc := 0) (ok_aload_n dX0_see_0) 1 rfl ?_
  refine oc_V (y := mt_125) (pc := 1) (vcons (y := mt_125) (pc := 1) (len := 3) (n := 1) (M := mt_89) (by decide) rfl (Or.inr rfl) rfl (ck_V dX0_see_1 ⟨by decide, by decide, by decide, by decide +kernel⟩ q640 q642 qs6 q162 q643) vnil) (hok0 rfl) (by decide) 4 rfl ?_
  refine oc (y := mt_125) (pc := 4) (ok_istore_n dX0_see_4 (by decide)) 5 rfl ?_
  refine oc (y := mt_125) (pc := 5) (ok_iload_n dX0_see_5) 6 rfl ?_
  refine oc_if dX0_see_6 ⟨by decide, by decide⟩ 9 rfl ?_
  refine oc (y := mt_125) (pc := 9) (ok_iload_n dX0_see_9) 10 rfl ?_
  refine oc (y := mt_125) (pc := 10) (ok_iconst dX0_see_10 rfl ⟨by decide, by decide⟩) 11 rfl ?_
  refine oc (y := mt_125) (pc := 11) (ok_irem dX0_see_11) 12 rfl ?_
  refine oc_if dX0_see_12 ⟨by decide, by decide⟩ 15 rfl ?_
  refine oc (y := mt_125) (pc := 15) (ok_iload_n dX0_see_15) 16 rfl ?_
  refine oc (y := mt_125) (pc := 16) (ok_bipush dX0_see_16 (by decide) ⟨by decide, by decide⟩) 18 rfl ?_
  refine oc_icmp dX0_see_18 ⟨by decide, by decide⟩ 21 rfl ?_
  refine oc (y := mt_125) (pc := 21) (ok_iconst dX0_see_21 rfl ⟨by decide, by decide⟩) 22 rfl ?_
  exact oc_goto dX0_see_22 ⟨by decide, by decide⟩
theorem o_125_25 : okL gmt mt_125 25 b_125_25 := by
  refine oc (y := mt_125) (pc := 25) (ok_iconst dX0_see_25 rfl ⟨by decide, by decide⟩) 26 rfl ?_
  exact oc_fall rfl
theorem o_125_26 : okL gmt mt_125 26 b_125_26 := by
  refine oc (y := mt_125) (pc := 26) (ok_istore_n dX0_see_26 (by decide)) 27 rfl ?_
  refine oc (y := mt_125) (pc := 27) (ok_iconst dX0_see_27 rfl ⟨by decide, by decide⟩) 28 rfl ?_
  refine oc (y := mt_125) (pc := 28) (ok_istore_n dX0_see_28 (by decide)) 29 rfl ?_
  exact oc_fall rfl
theorem o_125_29 : okL gmt mt_125 29 b_125_29 := by
  refine oc (y := mt_125) (pc := 29) (ok_iload_n dX0_see_29) 30 rfl ?_
  refine oc (y := mt_125) (pc := 30) (ok_iload_n dX0_see_30) 31 rfl ?_
  refine oc_icmp dX0_see_31 ⟨by decide, by decide⟩ 34 rfl ?_
  refine oc (y := mt_125) (pc := 34) (ok_iload_n dX0_see_34) 35 rfl ?_
  refine oc_if dX0_see_35 ⟨by decide, by decide⟩ 38 rfl ?_
  refine oc (y := mt_125) (pc := 38) (ok_aload_n dX0_see_38) 39 rfl ?_
  refine oc (y := mt_125) (pc := 39) (ok_aload_n dX0_see_39) 40 rfl ?_
  refine oc (y := mt_125) (pc := 40) (ok_iload_n dX0_see_40) 41 rfl ?_
  refine oc_V (y := mt_125) (pc := 41) (vcons (y := mt_125) (pc := 41) (len := 3) (n := 2) (M := mt_126) (by decide) rfl (Or.inr rfl) rfl (ck_V dX0_see_41 ⟨by decide, by decide, by decide, by decide +kernel⟩ q1582 q1584 qs45 q162 q1585) vnil) (hok0 rfl) (by decide) 44 rfl ?_
  refine oc_V (y := mt_125) (pc := 44) (vcons (y := mt_125) (pc := 44) (len := 3) (n := 2) (M := mt_104) (by decide) rfl (Or.inr rfl) rfl (ck_V dX0_see_44 ⟨by decide, by decide, by decide, by decide +kernel⟩ q1371 q1373 qs36 q162 q1374) vnil) (hok0 rfl) (by decide) 47 rfl ?_
  refine oc (y := mt_125) (pc := 47) (ok_istore_n dX0_see_47 (by decide)) 48 rfl ?_
  refine oc (y := mt_125) (pc := 48) (ok_iinc dX0_see_48 (by decide)) 51 rfl ?_
  exact oc_goto dX0_see_51 ⟨by decide, by decide⟩
theorem o_125_54 : okL gmt mt_125 54 b_125_54 := by
  refine oc (y := mt_125) (pc := 54) (ok_iload_n dX0_see_54) 55 rfl ?_
  refine oc_if dX0_see_55 ⟨by decide, by decide⟩ 58 rfl ?_
  refine oc (y := mt_125) (pc := 58) (ok_aload_n dX0_see_58) 59 rfl ?_
  refine oc (y := mt_125) (pc := 59) (ok_iconst dX0_see_59 rfl ⟨by decide, by decide⟩) 60 rfl ?_
  refine oc_V (y := mt_125) (pc := 60) (vcons (y := mt_125) (pc := 60) (len := 3) (n := 2) (M := mt_85) (by decide) rfl (Or.inr rfl) rfl (ck_V dX0_see_60 ⟨by decide, by decide, by decide, by decide +kernel⟩ q623 q625 qs4 q162 q626) vnil) (hok0 rfl) (by decide) 63 rfl ?_
  exact oc_iret dX0_see_63 rfl
theorem o_125_64 : okL gmt mt_125 64 b_125_64 := by
  refine oc (y := mt_125) (pc := 64) (ok_aload_n dX0_see_64) 65 rfl ?_
  refine oc (y := mt_125) (pc := 65) (ok_iload_n dX0_see_65) 66 rfl ?_
  refine oc (y := mt_125) (pc := 66) (ok_iconst dX0_see_66 rfl ⟨by decide, by decide⟩) 67 rfl ?_
  refine oc (y := mt_125) (pc := 67) (ok_idiv dX0_see_67) 68 rfl ?_
  refine oc (y := mt_125) (pc := 68) (ok_putfield dX0_see_68 (fp (own := "GardenChess") (idx := 153) (g := 1) (k := 17) (r := (RX0, TX0, 25)) rfl ⟨⟨by decide, by decide⟩, by decide⟩ (Or.inl q560) (Or.inl rfl) rfl (Or.inl rfl) (fp_nil))) 71 rfl ?_
  refine oc (y := mt_125) (pc := 71) (ok_iconst dX0_see_71 rfl ⟨by decide, by decide⟩) 72 rfl ?_
  refine oc (y := mt_125) (pc := 72) (ok_istore_n dX0_see_72 (by decide)) 73 rfl ?_
  exact oc_fall rfl
theorem o_125_73 : okL gmt mt_125 73 b_125_73 := by
  refine oc (y := mt_125) (pc := 73) (ok_iload_n dX0_see_73) 74 rfl ?_
  refine oc (y := mt_125) (pc := 74) (ok_aload_n dX0_see_74) 75 rfl ?_
  refine oc (y := mt_125) (pc := 75) (ok_getfield dX0_see_75 (fg (own := "GardenChess") (idx := 153) (g := 1) (k := 17) (r := (RX0, TX0, 25)) rfl ⟨⟨by decide, by decide⟩, by decide⟩ (Or.inl q560) (Or.inl rfl) rfl (fg_nil))) 78 rfl ?_
  refine oc_icmp dX0_see_78 ⟨by decide, by decide⟩ 81 rfl ?_
  refine oc (y := mt_125) (pc := 81) (ok_aload_n dX0_see_81) 82 rfl ?_
  refine oc (y := mt_125) (pc := 82) (ok_getfield dX0_see_82 (fg (own := "GardenChess") (idx := 94) (g := 1) (k := 15) (r := (RX0, TX0, 25)) rfl ⟨⟨by decide, by decide⟩, by decide⟩ (Or.inl q558) (Or.inl rfl) rfl (fg_nil))) 85 rfl ?_
  refine oc (y := mt_125) (pc := 85) (ok_iload_n dX0_see_85) 86 rfl ?_
  refine oc (y := mt_125) (pc := 86) (ok_aload_n dX0_see_86) 87 rfl ?_
  refine oc (y := mt_125) (pc := 87) (ok_iconst dX0_see_87 rfl ⟨by decide, by decide⟩) 88 rfl ?_
  refine oc (y := mt_125) (pc := 88) (ok_iload_n dX0_see_88) 89 rfl ?_
  refine oc (y := mt_125) (pc := 89) (ok_imul dX0_see_89) 90 rfl ?_
  refine oc_V (y := mt_125) (pc := 90) (vcons (y := mt_125) (pc := 90) (len := 3) (n := 2) (M := mt_126) (by decide) rfl (Or.inr rfl) rfl (ck_V dX0_see_90 ⟨by decide, by decide, by decide, by decide +kernel⟩ q1582 q1584 qs45 q162 q1585) vnil) (hok0 rfl) (by decide) 93 rfl ?_
  refine oc (y := mt_125) (pc := 93) (ok_iastore dX0_see_93) 94 rfl ?_
  refine oc (y := mt_125) (pc := 94) (ok_aload_n dX0_see_94) 95 rfl ?_
  refine oc (y := mt_125) (pc := 95) (ok_getfield dX0_see_95 (fg (own := "GardenChess") (idx := 97) (g := 1) (k := 16) (r := (RX0, TX0, 25)) rfl ⟨⟨by decide, by decide⟩, by decide⟩ (Or.inl q559) (Or.inl rfl) rfl (fg_nil))) 98 rfl ?_
  refine oc (y := mt_125) (pc := 98) (ok_iload_n dX0_see_98) 99 rfl ?_
  refine oc (y := mt_125) (pc := 99) (ok_aload_n dX0_see_99) 100 rfl ?_
  refine oc (y := mt_125) (pc := 100) (ok_iconst dX0_see_100 rfl ⟨by decide, by decide⟩) 101 rfl ?_
  refine oc (y := mt_125) (pc := 101) (ok_iload_n dX0_see_101) 102 rfl ?_
  refine oc (y := mt_125) (pc := 102) (ok_imul dX0_see_102) 103 rfl ?_
  refine oc (y := mt_125) (pc := 103) (ok_iconst dX0_see_103 rfl ⟨by decide, by decide⟩) 104 rfl ?_
  refine oc (y := mt_125) (pc := 104) (ok_iadd dX0_see_104) 105 rfl ?_
  refine oc_V (y := mt_125) (pc := 105) (vcons (y := mt_125) (pc := 105) (len := 3) (n := 2) (M := mt_127) (by decide) rfl (Or.inr rfl) rfl (ck_V dX0_see_105 ⟨by decide, by decide, by decide, by decide +kernel⟩ q1586 q1588 qs46 q162 q1589) vnil) (hok0 rfl) (by decide) 108 rfl ?_
  refine oc (y := mt_125) (pc := 108) (ok_iastore dX0_see_108) 109 rfl ?_
  refine oc (y := mt_125) (pc := 109) (ok_iinc dX0_see_109 (by decide)) 112 rfl ?_
  exact oc_goto dX0_see_112 ⟨by decide, by decide⟩
theorem o_125_115 : okL gmt mt_125 115 b_125_115 := by
  refine oc (y := mt_125) (pc := 115) (ok_aload_n dX0_see_115) 116 rfl ?_
  refine oc (y := mt_125) (pc := 116) (ok_getfield dX0_see_116 (fg (own := "GardenChess") (idx := 153) (g := 1) (k := 17) (r := (RX0, TX0, 25)) rfl ⟨⟨by decide, by decide⟩, by decide⟩ (Or.inl q560) (Or.inl rfl) rfl (fg_nil))) 119 rfl ?_
  exact oc_iret dX0_see_119 rfl
theorem ok_125 : ∀ q ∈ pr_125, okL gmt mt_125 q.1 q.2 := pk_c o_125_0 (pk_c o_125_25 (pk_c o_125_26 (pk_c o_125_29 (pk_c o_125_54 (pk_c o_125_64 (pk_c o_125_73 (pk_c o_125_115 (pk_n))))))))
theorem o_126_0 : okL gmt mt_126 0 b_126_0 := by
  refine oc (y := mt_126) (pc := 0) (ok_aload_n dX0_byteAt_0) 1 rfl ?_
  refine oc (y := mt_126) (pc := 1) (ok_getfield dX0_byteAt_1 (fg (own := "GardenChess") (idx := 35) (g := 1) (k := 1) (r := (RX0, TX0, 25)) rfl ⟨⟨by decide, by decide⟩, by decide⟩ (Or.inl q541) (Or.inl rfl) rfl (fg_nil))) 4 rfl ?_
  refine oc (y := mt_126) (pc := 4) (ok_iload_n dX0_byteAt_4) 5 rfl ?_
  refine oc (y := mt_126) (pc := 5) (ok_baload dX0_byteAt_5) 6 rfl ?_
  refine oc (y := mt_126) (pc := 6) (ok_sipush dX0_byteAt_6 (by decide) ⟨by decide, by decide⟩) 9 rfl ?_
  refine oc (y := mt_126) (pc := 9) (ok_iand dX0_byteAt_9) 10 rfl ?_
  exact oc_iret dX0_byteAt_10 rfl
theorem ok_126 : ∀ q ∈ pr_126, okL gmt mt_126 q.1 q.2 := pk_c o_126_0 (pk_n)
theorem o_127_0 : okL gmt mt_127 0 b_127_0 := by
  refine oc (y := mt_127) (pc := 0) (ok_aload_n dX0_twoAt_0) 1 rfl ?_
  refine oc (y := mt_127) (pc := 1) (ok_iload_n dX0_twoAt_1) 2 rfl ?_
  refine oc_V (y := mt_127) (pc := 2) (vcons (y := mt_127) (pc := 2) (len := 3) (n := 2) (M := mt_126) (by decide) rfl (Or.inr rfl) rfl (ck_V dX0_twoAt_2 ⟨by decide, by decide, by decide, by decide +kernel⟩ q1582 q1584 qs45 q162 q1585) vnil) (hok0 rfl) (by decide) 5 rfl ?_
  refine oc (y := mt_127) (pc := 5) (ok_bipush dX0_twoAt_5 (by decide) ⟨by decide, by decide⟩) 7 rfl ?_
  refine oc (y := mt_127) (pc := 7) (ok_ishl dX0_twoAt_7) 8 rfl ?_
  refine oc (y := mt_127) (pc := 8) (ok_aload_n dX0_twoAt_8) 9 rfl ?_
  refine oc (y := mt_127) (pc := 9) (ok_iload_n dX0_twoAt_9) 10 rfl ?_
  refine oc (y := mt_127) (pc := 10) (ok_iconst dX0_twoAt_10 rfl ⟨by decide, by decide⟩) 11 rfl ?_
  refine oc (y := mt_127) (pc := 11) (ok_iadd dX0_twoAt_11) 12 rfl ?_
  refine oc_V (y := mt_127) (pc := 12) (vcons (y := mt_127) (pc := 12) (len := 3) (n := 2) (M := mt_126) (by decide) rfl (Or.inr rfl) rfl (ck_V dX0_twoAt_12 ⟨by decide, by decide, by decide, by decide +kernel⟩ q1582 q1584 qs45 q162 q1585) vnil) (hok0 rfl) (by decide) 15 rfl ?_
  refine oc (y := mt_127) (pc := 15) (ok_ior dX0_twoAt_15) 16 rfl ?_
  exact oc_iret dX0_twoAt_16 rfl
theorem ok_127 : ∀ q ∈ pr_127, okL gmt mt_127 q.1 q.2 := pk_c o_127_0 (pk_n)
theorem o_128_0 : okL gmt mt_128 0 b_128_0 := by
  refine oc (y := mt_128) (pc := 0) (ok_iload_n dX0_played_0) 1 rfl ?_
  refine oc (y := mt_128) (pc := 1) (ok_iconst dX0_played_1 rfl ⟨by decide, by decide⟩) 2 rfl ?_
  refine oc (y := mt_128) (pc := 2) (ok_iconst dX0_played_2 rfl ⟨by decide, by decide⟩) 3 rfl ?_
  refine oc_S (y := mt_128) (pc := 3) (M := mt_92) rfl (ck_S dX0_played_3 ⟨by decide, by decide, by decide, by decide +kernel⟩ q1330 q771 q162 q772) (hok0 rfl) (by decide) 6 rfl ?_
  refine oc_if dX0_played_6 ⟨by decide, by decide⟩ 9 rfl ?_
  refine oc (y := mt_128) (pc := 9) (ok_iconst dX0_played_9 rfl ⟨by decide, by decide⟩) 10 rfl ?_
  exact oc_iret dX0_played_10 rfl
theorem o_128_11 : okL gmt mt_128 11 b_128_11 := by
  refine oc (y := mt_128) (pc := 11) (ok_iconst dX0_played_11 rfl ⟨by decide, by decide⟩) 12 rfl ?_
  refine oc (y := mt_128) (pc := 12) (ok_istore_n dX0_played_12 (by decide)) 13 rfl ?_
  refine oc (y := mt_128) (pc := 13) (ok_iconst dX0_played_13 rfl ⟨by decide, by decide⟩) 14 rfl ?_
  refine oc (y := mt_128) (pc := 14) (ok_istore_n dX0_played_14 (by decide)) 15 rfl ?_
  refine oc (y := mt_128) (pc := 15) (ok_iconst dX0_played_15 rfl ⟨by decide, by decide⟩) 16 rfl ?_
  refine oc (y := mt_128) (pc := 16) (ok_istore dX0_played_16 (by decide)) 18 rfl ?_
  refine oc (y := mt_128) (pc := 18) (ok_aload_n dX0_played_18) 19 rfl ?_
  refine oc_V (y := mt_128) (pc := 19) (vcons (y := mt_128) (pc := 19) (len := 3) (n := 1) (M := mt_108) (by decide) rfl (Or.inr rfl) rfl (ck_V dX0_played_19 ⟨by decide, by decide, by decide, by decide +kernel⟩ q1388 q1390 qs38 q162 q1391) vnil) (hok0 rfl) (by decide) 22 rfl ?_
  refine oc (y := mt_128) (pc := 22) (ok_istore dX0_played_22 (by decide)) 24 rfl ?_
  refine oc (y := mt_128) (pc := 24) (ok_iconst dX0_played_24 rfl ⟨by decide, by decide⟩) 25 rfl ?_
  refine oc (y := mt_128) (pc := 25) (ok_istore dX0_played_25 (by decide)) 27 rfl ?_
  exact oc_fall rfl
theorem o_128_27 : okL gmt mt_128 27 b_128_27 := by
  refine oc (y := mt_128) (pc := 27) (ok_iload dX0_played_27) 29 rfl ?_
  refine oc (y := mt_128) (pc := 29) (ok_iload dX0_played_29) 31 rfl ?_
  refine oc_icmp dX0_played_31 ⟨by decide, by decide⟩ 34 rfl ?_
  refine oc (y := mt_128) (pc := 34) (ok_aload_n dX0_played_34) 35 rfl ?_
  refine oc (y := mt_128) (pc := 35) (ok_iload dX0_played_35) 37 rfl ?_
  refine oc_V (y := mt_128) (pc := 37) (vcons (y := mt_128) (pc := 37) (len := 3) (n := 2) (M := mt_129) (by decide) rfl (Or.inr rfl) rfl (ck_V dX0_played_37 ⟨by decide, by decide, by decide, by decide +kernel⟩ q1594 q1596 qs47 q162 q1597) vnil) (hok0 rfl) (by decide) 40 rfl ?_
  refine oc_if dX0_played_40 ⟨by decide, by decide⟩ 43 rfl ?_
  exact oc_goto dX0_played_43 ⟨by decide, by decide⟩
theorem o_128_46 : okL gmt mt_128 46 b_128_46 := by
  refine oc (y := mt_128) (pc := 46) (ok_iload_n dX0_played_46) 47 rfl ?_
  refine oc_if dX0_played_47 ⟨by decide, by decide⟩ 50 rfl ?_
  refine oc (y := mt_128) (pc := 50) (ok_iload dX0_played_50) 52 rfl ?_
  exact oc_goto dX0_played_52 ⟨by decide, by decide⟩
theorem o_128_55 : okL gmt mt_128 55 b_128_55 := by
  refine oc (y := mt_128) (pc := 55) (ok_iload_n dX0_played_55) 56 rfl ?_
  exact oc_fall rfl
theorem o_128_56 : okL gmt mt_128 56 b_128_56 := by
  refine oc (y := mt_128) (pc := 56) (ok_istore_n dX0_played_56 (by decide)) 57 rfl ?_
  refine oc (y := mt_128) (pc := 57) (ok_iload dX0_played_57) 59 rfl ?_
  refine oc (y := mt_128) (pc := 59) (ok_istore dX0_played_59 (by decide)) 61 rfl ?_
  refine oc (y := mt_128) (pc := 61) (ok_iinc dX0_played_61 (by decide)) 64 rfl ?_
  exact oc_fall rfl
theorem o_128_64 : okL gmt mt_128 64 b_128_64 := by
  refine oc (y := mt_128) (pc := 64) (ok_iinc dX0_played_64 (by decide)) 67 rfl ?_
  exact oc_goto dX0_played_67 ⟨by decide, by decide⟩
theorem o_128_70 : okL gmt mt_128 70 b_128_70 := by
  refine oc (y := mt_128) (pc := 70) (ok_iload_n dX0_played_70) 71 rfl ?_
  refine oc_if dX0_played_71 ⟨by decide, by decide⟩ 74 rfl ?_
  refine oc (y := mt_128) (pc := 74) (ok_iload_n dX0_played_74) 75 rfl ?_
  exact oc_goto dX0_played_75 ⟨by decide, by decide⟩
theorem o_128_78 : okL gmt mt_128 78 b_128_78 := by
  refine oc (y := mt_128) (pc := 78) (ok_iload_n dX0_played_78) 79 rfl ?_
  refine oc (y := mt_128) (pc := 79) (ok_iconst dX0_played_79 rfl ⟨by decide, by decide⟩) 80 rfl ?_
  refine oc_icmp dX0_played_80 ⟨by decide, by decide⟩ 83 rfl ?_
  refine oc (y := mt_128) (pc := 83) (ok_iload_n dX0_played_83) 84 rfl ?_
  exact oc_goto dX0_played_84 ⟨by decide, by decide⟩
theorem o_128_87 : okL gmt mt_128 87 b_128_87 := by
  refine oc (y := mt_128) (pc := 87) (ok_iload dX0_played_87) 89 rfl ?_
  exact oc_fall rfl
theorem o_128_89 : okL gmt mt_128 89 b_128_89 := by
  exact oc_iret dX0_played_89 rfl
theorem ok_128 : ∀ q ∈ pr_128, okL gmt mt_128 q.1 q.2 := pk_c o_128_0 (pk_c o_128_11 (pk_c o_128_27 (pk_c o_128_46 (pk_c o_128_55 (pk_c o_128_56 (pk_c o_128_64 (pk_c o_128_70 (pk_c o_128_78 (pk_c o_128_87 (pk_c o_128_89 (pk_n)))))))))))
theorem o_129_0 : okL gmt mt_129 0 b_129_0 := by
  refine oc (y := mt_129) (pc := 0) (ok_aload_n dX0_isAsSeen_0) 1 rfl ?_
  refine oc (y := mt_129) (pc := 1) (ok_getfield dX0_isAsSeen_1 (fg (own := "GardenChess") (idx := 87) (g := 1) (k := 13) (r := (RX0, TX0, 25)) rfl ⟨⟨by decide, by decide⟩, by decide⟩ (Or.inl q556) (Or.inl rfl) rfl (fg_nil))) 4 rfl ?_
  refine oc (y := mt_129) (pc := 4) (ok_aload_n dX0_isAsSeen_4) 5 rfl ?_
  refine oc (y := mt_129) (pc := 5) (ok_getfield dX0_isAsSeen_5 (fg (own := "GardenChess") (idx := 83) (g := 1) (k := 12) (r := (RX0, TX0, 25)) rfl ⟨⟨by decide, by decide⟩, by decide⟩ (Or.inl q555) (Or.inl rfl) rfl (fg_nil))) 8 rfl ?_
  refine oc_V (y := mt_129) (pc := 8) (vcons (y := mt_129) (pc := 8) (len := 3) (n := 2) (M := mt_220) (by decide) rfl (Or.inr rfl) rfl (ck_V dX0_isAsSeen_8 ⟨by decide, by decide, by decide, by decide +kernel⟩ q1393 q1394 q1395 q174 q1396) vnil) (hok0 rfl) (by decide) 11 rfl ?_
  refine oc (y := mt_129) (pc := 11) (ok_iload_n dX0_isAsSeen_11) 12 rfl ?_
  refine oc_V (y := mt_129) (pc := 12) (vcons (y := mt_129) (pc := 12) (len := 3) (n := 2) (M := mt_230) (by decide) rfl (Or.inr rfl) rfl (ck_V dX0_isAsSeen_12 ⟨by decide, by decide, by decide, by decide +kernel⟩ q1566 q1479 q1480 q174 q1481) vnil) (hok0 rfl) (by decide) 15 rfl ?_
  refine oc (y := mt_129) (pc := 15) (ok_pop dX0_isAsSeen_15) 16 rfl ?_
  refine oc (y := mt_129) (pc := 16) (ok_iconst dX0_isAsSeen_16 rfl ⟨by decide, by decide⟩) 17 rfl ?_
  refine oc (y := mt_129) (pc := 17) (ok_istore_n dX0_isAsSeen_17 (by decide)) 18 rfl ?_
  exact oc_fall rfl
theorem o_129_18 : okL gmt mt_129 18 b_129_18 := by
  refine oc (y := mt_129) (pc := 18) (ok_iload_n dX0_isAsSeen_18) 19 rfl ?_
  refine oc (y := mt_129) (pc := 19) (ok_aload_n dX0_isAsSeen_19) 20 rfl ?_
  refine oc (y := mt_129) (pc := 20) (ok_getfield dX0_isAsSeen_20 (fg (own := "GardenChess") (idx := 153) (g := 1) (k := 17) (r := (RX0, TX0, 25)) rfl ⟨⟨by decide, by decide⟩, by decide⟩ (Or.inl q560) (Or.inl rfl) rfl (fg_nil))) 23 rfl ?_
  refine oc_icmp dX0_isAsSeen_23 ⟨by decide, by decide⟩ 26 rfl ?_
  refine oc (y := mt_129) (pc := 26) (ok_aload_n dX0_isAsSeen_26) 27 rfl ?_
  refine oc (y := mt_129) (pc := 27) (ok_getfield dX0_isAsSeen_27 (fg (own := "GardenChess") (idx := 87) (g := 1) (k := 13) (r := (RX0, TX0, 25)) rfl ⟨⟨by decide, by decide⟩, by decide⟩ (Or.inl q556) (Or.inl rfl) rfl (fg_nil))) 30 rfl ?_
  refine oc (y := mt_129) (pc := 30) (ok_getfield dX0_isAsSeen_30 (fg (own := "GardenChess") (idx := 266) (g := 8) (k := 5) (r := (RX6, TX6, 12)) rfl ⟨⟨by decide, by decide⟩, by decide⟩ (Or.inr ⟨_, q456⟩) (Or.inl rfl) rfl (fg_nil))) 33 rfl ?_
  refine oc (y := mt_129) (pc := 33) (ok_aload_n dX0_isAsSeen_33) 34 rfl ?_
  refine oc (y := mt_129) (pc := 34) (ok_getfield dX0_isAsSeen_34 (fg (own := "GardenChess") (idx := 94) (g := 1) (k := 15) (r := (RX0, TX0, 25)) rfl ⟨⟨by decide, by decide⟩, by decide⟩ (Or.inl q558) (Or.inl rfl) rfl (fg_nil))) 37 rfl ?_
  refine oc (y := mt_129) (pc := 37) (ok_iload_n dX0_isAsSeen_37) 38 rfl ?_
  refine oc (y := mt_129) (pc := 38) (ok_iaload dX0_isAsSeen_38) 39 rfl ?_
  refine oc (y := mt_129) (pc := 39) (ok_iaload dX0_isAsSeen_39) 40 rfl ?_
  refine oc (y := mt_129) (pc := 40) (ok_aload_n dX0_isAsSeen_40) 41 rfl ?_
  refine oc (y := mt_129) (pc := 41) (ok_getfield dX0_isAsSeen_41 (fg (own := "GardenChess") (idx := 97) (g := 1) (k := 16) (r := (RX0, TX0, 25)) rfl ⟨⟨by decide, by decide⟩, by decide⟩ (Or.inl q559) (Or.inl rfl) rfl (fg_nil))) 44 rfl ?_
  refine oc (y := mt_129) (pc := 44) (ok_iload_n dX0_isAsSeen_44) 45 rfl ?_
  refine oc (y := mt_129) (pc := 45) (ok_iaload dX0_isAsSeen_45) 46 rfl ?_
  refine oc_icmp dX0_isAsSeen_46 ⟨by decide, by decide⟩ 49 rfl ?_
  refine oc (y := mt_129) (pc := 49) (ok_iconst dX0_isAsSeen_49 rfl ⟨by decide, by decide⟩) 50 rfl ?_
  exact oc_zret dX0_isAsSeen_50 rfl
theorem o_129_51 : okL gmt mt_129 51 b_129_51 := by
  refine oc (y := mt_129) (pc := 51) (ok_iinc dX0_isAsSeen_51 (by decide)) 54 rfl ?_
  exact oc_goto dX0_isAsSeen_54 ⟨by decide, by decide⟩
theorem o_129_57 : okL gmt mt_129 57 b_129_57 := by
  refine oc (y := mt_129) (pc := 57) (ok_iconst dX0_isAsSeen_57 rfl ⟨by decide, by decide⟩) 58 rfl ?_
  exact oc_zret dX0_isAsSeen_58 rfl
theorem ok_129 : ∀ q ∈ pr_129, okL gmt mt_129 q.1 q.2 := pk_c o_129_0 (pk_c o_129_18 (pk_c o_129_51 (pk_c o_129_57 (pk_n))))
theorem o_130_0 : okL gmt mt_130 0 b_130_0 := by
  refine oc (y := mt_130) (pc := 0) (ok_aload_n dX0_reached_0) 1 rfl ?_
  refine oc_V (y := mt_130) (pc := 1) (vcons (y := mt_130) (pc := 1) (len := 3) (n := 1) (M := mt_89) (by decide) rfl (Or.inr rfl) rfl (ck_V dX0_reached_1 ⟨by decide, by decide, by decide, by decide +kernel⟩ q640 q642 qs6 q162 q643) vnil) (hok0 rfl) (by decide) 4 rfl ?_
  refine oc (y := mt_130) (pc := 4) (ok_istore_n dX0_reached_4 (by decide)) 5 rfl ?_
  refine oc (y := mt_130) (pc := 5) (ok_aload_n dX0_reached_5) 6 rfl ?_
  refine oc_V (y := mt_130) (pc := 6) (vcons (y := mt_130) (pc := 6) (len := 3) (n := 1) (M := mt_98) (by decide) rfl (Or.inr rfl) rfl (ck_V dX0_reached_6 ⟨by decide, by decide, by decide, by decide +kernel⟩ q1291 q1293 qs34 q162 q1294) vnil) (hok0 rfl) (by decide) 9 rfl ?_
  refine oc_if dX0_reached_9 ⟨by decide, by decide⟩ 12 rfl ?_
  refine oc (y := mt_130) (pc := 12) (ok_iload_n dX0_reached_12) 13 rfl ?_
  refine oc (y := mt_130) (pc := 13) (ok_iconst dX0_reached_13 rfl ⟨by decide, by decide⟩) 14 rfl ?_
  refine oc (y := mt_130) (pc := 14) (ok_iconst dX0_reached_14 rfl ⟨by decide, by decide⟩) 15 rfl ?_
  refine oc_S (y := mt_130) (pc := 15) (M := mt_92) rfl (ck_S dX0_reached_15 ⟨by decide, by decide, by decide, by decide +kernel⟩ q1330 q771 q162 q772) (hok0 rfl) (by decide) 18 rfl ?_
  refine oc_if dX0_reached_18 ⟨by decide, by decide⟩ 21 rfl ?_
  refine oc (y := mt_130) (pc := 21) (ok_iload_n dX0_reached_21) 22 rfl ?_
  refine oc (y := mt_130) (pc := 22) (ok_iconst dX0_reached_22 rfl ⟨by decide, by decide⟩) 23 rfl ?_
  refine oc (y := mt_130) (pc := 23) (ok_aload_n dX0_reached_23) 24 rfl ?_
  refine oc_V (y := mt_130) (pc := 24) (vcons (y := mt_130) (pc := 24) (len := 3) (n := 1) (M := mt_81) (by decide) rfl (Or.inr rfl) rfl (ck_V dX0_reached_24 ⟨by decide, by decide, by decide, by decide +kernel⟩ q1289 q497 qs1 q162 q498) vnil) (hok0 rfl) (by decide) 27 rfl ?_
  refine oc (y := mt_130) (pc := 27) (ok_imul dX0_reached_27) 28 rfl ?_
  refine oc_icmp dX0_reached_28 ⟨by decide, by decide⟩ 31 rfl ?_
  refine oc (y := mt_130) (pc := 31) (ok_aload_n dX0_reached_31) 32 rfl ?_
  refine oc (y := mt_130) (pc := 32) (ok_iconst dX0_reached_32 rfl ⟨by decide, by decide⟩) 33 rfl ?_
  refine oc (y := mt_130) (pc := 33) (ok_aload_n dX0_reached_33) 34 rfl ?_
  refine oc (y := mt_130) (pc := 34) (ok_getfield dX0_reached_34 (fg (own := "GardenChess") (idx := 100) (g := 1) (k := 18) (r := (RX0, TX0, 25)) rfl ⟨⟨by decide, by decide⟩, by decide⟩ (Or.inl q561) (Or.inl rfl) rfl (fg_nil))) 37 rfl ?_
  refine oc_V (y := mt_130) (pc := 37) (vcons (y := mt_130) (pc := 37) (len := 3) (n := 3) (M := mt_131) (by decide) rfl (Or.inr rfl) rfl (ck_V dX0_reached_37 ⟨by decide, by decide, by decide, by decide +kernel⟩ q1602 q1604 qs48 q162 q1605) vnil) (hok0 rfl) (by decide) 40 rfl ?_
  refine oc_if dX0_reached_40 ⟨by decide, by decide⟩ 43 rfl ?_
  exact oc_fall rfl
theorem o_130_43 : okL gmt mt_130 43 b_130_43 := by
  refine oc (y := mt_130) (pc := 43) (ok_aload_n dX0_reached_43) 44 rfl ?_
  refine oc (y := mt_130) (pc := 44) (ok_iconst dX0_reached_44 rfl ⟨by decide, by decide⟩) 45 rfl ?_
  refine oc_V (y := mt_130) (pc := 45) (vcons (y := mt_130) (pc := 45) (len := 3) (n := 2) (M := mt_85) (by decide) rfl (Or.inr rfl) rfl (ck_V dX0_reached_45 ⟨by decide, by decide, by decide, by decide +kernel⟩ q623 q625 qs4 q162 q626) vnil) (hok0 rfl) (by decide) 48 rfl ?_
  exact oc_iret dX0_reached_48 rfl
theorem o_130_49 : okL gmt mt_130 49 b_130_49 := by
  refine oc (y := mt_130) (pc := 49) (ok_aload_n dX0_reached_49) 50 rfl ?_
  refine oc (y := mt_130) (pc := 50) (ok_getfield dX0_reached_50 (fg (own := "GardenChess") (idx := 87) (g := 1) (k := 13) (r := (RX0, TX0, 25)) rfl ⟨⟨by decide, by decide⟩, by decide⟩ (Or.inl q556) (Or.inl rfl) rfl (fg_nil))) 53 rfl ?_
  refine oc (y := mt_130) (pc := 53) (ok_aload_n dX0_reached_53) 54 rfl ?_
  refine oc (y := mt_130) (pc := 54) (ok_getfield dX0_reached_54 (fg (own := "GardenChess") (idx := 83) (g := 1) (k := 12) (r := (RX0, TX0, 25)) rfl ⟨⟨by decide, by decide⟩, by decide⟩ (Or.inl q555) (Or.inl rfl) rfl (fg_nil))) 57 rfl ?_
  refine oc_V (y := mt_130) (pc := 57) (vcons (y := mt_130) (pc := 57) (len := 3) (n := 2) (M := mt_220) (by decide) rfl (Or.inr rfl) rfl (ck_V dX0_reached_57 ⟨by decide, by decide, by decide, by decide +kernel⟩ q1393 q1394 q1395 q174 q1396) vnil) (hok0 rfl) (by decide) 60 rfl ?_
  refine oc (y := mt_130) (pc := 60) (ok_pop dX0_reached_60) 61 rfl ?_
  refine oc (y := mt_130) (pc := 61) (ok_aload_n dX0_reached_61) 62 rfl ?_
  refine oc (y := mt_130) (pc := 62) (ok_iload_n dX0_reached_62) 63 rfl ?_
  refine oc_V (y := mt_130) (pc := 63) (vcons (y := mt_130) (pc := 63) (len := 3) (n := 2) (M := mt_132) (by decide) rfl (Or.inr rfl) rfl (ck_V dX0_reached_63 ⟨by decide, by decide, by decide, by decide +kernel⟩ q1607 q1609 qs49 q162 q1610) vnil) (hok0 rfl) (by decide) 66 rfl ?_
  exact oc_iret dX0_reached_66 rfl
theorem ok_130 : ∀ q ∈ pr_130, okL gmt mt_130 q.1 q.2 := pk_c o_130_0 (pk_c o_130_43 (pk_c o_130_49 (pk_n)))
theorem o_131_0 : okL gmt mt_131 0 b_131_0 := by
  refine oc (y := mt_131) (pc := 0) (ok_iconst dX0_readsMen_0 rfl ⟨by decide, by decide⟩) 1 rfl ?_
  refine oc (y := mt_131) (pc := 1) (ok_istore_n dX0_readsMen_1 (by decide)) 2 rfl ?_
  refine oc (y := mt_131) (pc := 2) (ok_iconst dX0_readsMen_2 rfl ⟨by decide, by decide⟩) 3 rfl ?_
  refine oc (y := mt_131) (pc := 3) (ok_istore dX0_readsMen_3 (by decide)) 5 rfl ?_
  exact oc_fall rfl
theorem o_131_5 : okL gmt mt_131 5 b_131_5 := by
  refine oc (y := mt_131) (pc := 5) (ok_iload dX0_readsMen_5) 7 rfl ?_
  refine oc (y := mt_131) (pc := 7) (ok_aload_n dX0_readsMen_7) 8 rfl ?_
  refine oc_V (y := mt_131) (pc := 8) (vcons (y := mt_131) (pc := 8) (len := 3) (n := 1) (M := mt_81) (by decide) rfl (Or.inr rfl) rfl (ck_V dX0_readsMen_8 ⟨by decide, by decide, by decide, by decide +kernel⟩ q1289 q497 qs1 q162 q498) vnil) (hok0 rfl) (by decide) 11 rfl ?_
  refine oc_icmp dX0_readsMen_11 ⟨by decide, by decide⟩ 14 rfl ?_
  refine oc (y := mt_131) (pc := 14) (ok_aload_n dX0_readsMen_14) 15 rfl ?_
  refine oc (y := mt_131) (pc := 15) (ok_iload_n dX0_readsMen_15) 16 rfl ?_
  refine oc (y := mt_131) (pc := 16) (ok_iconst dX0_readsMen_16 rfl ⟨by decide, by decide⟩) 17 rfl ?_
  refine oc (y := mt_131) (pc := 17) (ok_iload dX0_readsMen_17) 19 rfl ?_
  refine oc (y := mt_131) (pc := 19) (ok_imul dX0_readsMen_19) 20 rfl ?_
  refine oc (y := mt_131) (pc := 20) (ok_iadd dX0_readsMen_20) 21 rfl ?_
  refine oc_V (y := mt_131) (pc := 21) (vcons (y := mt_131) (pc := 21) (len := 3) (n := 2) (M := mt_126) (by decide) rfl (Or.inr rfl) rfl (ck_V dX0_readsMen_21 ⟨by decide, by decide, by decide, by decide +kernel⟩ q1582 q1584 qs45 q162 q1585) vnil) (hok0 rfl) (by decide) 24 rfl ?_
  refine oc (y := mt_131) (pc := 24) (ok_istore dX0_readsMen_24 (by decide)) 26 rfl ?_
  refine oc (y := mt_131) (pc := 26) (ok_aload_n dX0_readsMen_26) 27 rfl ?_
  refine oc (y := mt_131) (pc := 27) (ok_iload_n dX0_readsMen_27) 28 rfl ?_
  refine oc (y := mt_131) (pc := 28) (ok_iconst dX0_readsMen_28 rfl ⟨by decide, by decide⟩) 29 rfl ?_
  refine oc (y := mt_131) (pc := 29) (ok_iload dX0_readsMen_29) 31 rfl ?_
  refine oc (y := mt_131) (pc := 31) (ok_imul dX0_readsMen_31) 32 rfl ?_
  refine oc (y := mt_131) (pc := 32) (ok_iadd dX0_readsMen_32) 33 rfl ?_
  refine oc (y := mt_131) (pc := 33) (ok_iconst dX0_readsMen_33 rfl ⟨by decide, by decide⟩) 34 rfl ?_
  refine oc (y := mt_131) (pc := 34) (ok_iadd dX0_readsMen_34) 35 rfl ?_
  refine oc_V (y := mt_131) (pc := 35) (vcons (y := mt_131) (pc := 35) (len := 3) (n := 2) (M := mt_126) (by decide) rfl (Or.inr rfl) rfl (ck_V dX0_readsMen_35 ⟨by decide, by decide, by decide, by decide +kernel⟩ q1582 q1584 qs45 q162 q1585) vnil) (hok0 rfl) (by decide) 38 rfl ?_
  refine oc (y := mt_131) (pc := 38) (ok_istore dX0_readsMen_38 (by decide)) 40 rfl ?_
  refine oc (y := mt_131) (pc := 40) (ok_aload_n dX0_readsMen_40) 41 rfl ?_
  refine oc (y := mt_131) (pc := 41) (ok_iload dX0_readsMen_41) 43 rfl ?_
  refine oc (y := mt_131) (pc := 43) (ok_iconst dX0_readsMen_43 rfl ⟨by decide, by decide⟩) 44 rfl ?_
  refine oc (y := mt_131) (pc := 44) (ok_iastore dX0_readsMen_44) 45 rfl ?_
  refine oc (y := mt_131) (pc := 45) (ok_iload dX0_readsMen_45) 47 rfl ?_
  refine oc (y := mt_131) (pc := 47) (ok_sipush dX0_readsMen_47 (by decide) ⟨by decide, by decide⟩) 50 rfl ?_
  refine oc_icmp dX0_readsMen_50 ⟨by decide, by decide⟩ 53 rfl ?_
  refine oc (y := mt_131) (pc := 53) (ok_iload dX0_readsMen_53) 55 rfl ?_
  refine oc (y := mt_131) (pc := 55) (ok_sipush dX0_readsMen_55 (by decide) ⟨by decide, by decide⟩) 58 rfl ?_
  refine oc_icmp dX0_readsMen_58 ⟨by decide, by decide⟩ 61 rfl ?_
  exact oc_goto dX0_readsMen_61 ⟨by decide, by decide⟩
theorem o_131_64 : okL gmt mt_131 64 b_131_64 := by
  refine oc (y := mt_131) (pc := 64) (ok_aload_n dX0_readsMen_64) 65 rfl ?_
  refine oc (y := mt_131) (pc := 65) (ok_iload dX0_readsMen_65) 67 rfl ?_
  refine oc (y := mt_131) (pc := 67) (ok_iload dX0_readsMen_67) 69 rfl ?_
  refine oc_V (y := mt_131) (pc := 69) (vcons (y := mt_131) (pc := 69) (len := 3) (n := 3) (M := mt_106) (by decide) rfl (Or.inr rfl) rfl (ck_V dX0_readsMen_69 ⟨by decide, by decide, by decide, by decide +kernel⟩ q1380 q1382 qs37 q162 q1383) vnil) (hok0 rfl) (by decide) 72 rfl ?_
  refine oc_if dX0_readsMen_72 ⟨by decide, by decide⟩ 75 rfl ?_
  refine oc (y := mt_131) (pc := 75) (ok_iload_n dX0_readsMen_75) 76 rfl ?_
  refine oc (y := mt_131) (pc := 76) (ok_iconst dX0_readsMen_76 rfl ⟨by decide, by decide⟩) 77 rfl ?_
  refine oc (y := mt_131) (pc := 77) (ok_iload dX0_readsMen_77) 79 rfl ?_
  refine oc (y := mt_131) (pc := 79) (ok_imul dX0_readsMen_79) 80 rfl ?_
  refine oc (y := mt_131) (pc := 80) (ok_iload dX0_readsMen_80) 82 rfl ?_
  refine oc (y := mt_131) (pc := 82) (ok_iadd dX0_readsMen_82) 83 rfl ?_
  refine oc_S (y := mt_131) (pc := 83) (M := mt_94) rfl (ck_S dX0_readsMen_83 ⟨by decide, by decide, by decide, by decide +kernel⟩ q1606 q1167 q162 q1168) (hok0 rfl) (by decide) 86 rfl ?_
  refine oc_if dX0_readsMen_86 ⟨by decide, by decide⟩ 89 rfl ?_
  exact oc_fall rfl
theorem o_131_89 : okL gmt mt_131 89 b_131_89 := by
  refine oc (y := mt_131) (pc := 89) (ok_iconst dX0_readsMen_89 rfl ⟨by decide, by decide⟩) 90 rfl ?_
  exact oc_zret dX0_readsMen_90 rfl
theorem o_131_91 : okL gmt mt_131 91 b_131_91 := by
  refine oc (y := mt_131) (pc := 91) (ok_aload_n dX0_readsMen_91) 92 rfl ?_
  refine oc (y := mt_131) (pc := 92) (ok_iload dX0_readsMen_92) 94 rfl ?_
  refine oc (y := mt_131) (pc := 94) (ok_iconst dX0_readsMen_94 rfl ⟨by decide, by decide⟩) 95 rfl ?_
  refine oc (y := mt_131) (pc := 95) (ok_iload dX0_readsMen_95) 97 rfl ?_
  refine oc (y := mt_131) (pc := 97) (ok_imul dX0_readsMen_97) 98 rfl ?_
  refine oc (y := mt_131) (pc := 98) (ok_iload dX0_readsMen_98) 100 rfl ?_
  refine oc (y := mt_131) (pc := 100) (ok_iadd dX0_readsMen_100) 101 rfl ?_
  refine oc (y := mt_131) (pc := 101) (ok_iastore dX0_readsMen_101) 102 rfl ?_
  refine oc (y := mt_131) (pc := 102) (ok_iload_n dX0_readsMen_102) 103 rfl ?_
  refine oc (y := mt_131) (pc := 103) (ok_iconst dX0_readsMen_103 rfl ⟨by decide, by decide⟩) 104 rfl ?_
  refine oc (y := mt_131) (pc := 104) (ok_aload_n dX0_readsMen_104) 105 rfl ?_
  refine oc (y := mt_131) (pc := 105) (ok_iload dX0_readsMen_105) 107 rfl ?_
  refine oc (y := mt_131) (pc := 107) (ok_iaload dX0_readsMen_107) 108 rfl ?_
  refine oc (y := mt_131) (pc := 108) (ok_ishl dX0_readsMen_108) 109 rfl ?_
  refine oc (y := mt_131) (pc := 109) (ok_ior dX0_readsMen_109) 110 rfl ?_
  refine oc (y := mt_131) (pc := 110) (ok_istore_n dX0_readsMen_110 (by decide)) 111 rfl ?_
  exact oc_fall rfl
theorem o_131_111 : okL gmt mt_131 111 b_131_111 := by
  refine oc (y := mt_131) (pc := 111) (ok_iinc dX0_readsMen_111 (by decide)) 114 rfl ?_
  exact oc_goto dX0_readsMen_114 ⟨by decide, by decide⟩
theorem o_131_117 : okL gmt mt_131 117 b_131_117 := by
  refine oc (y := mt_131) (pc := 117) (ok_iconst dX0_readsMen_117 rfl ⟨by decide, by decide⟩) 118 rfl ?_
  exact oc_zret dX0_readsMen_118 rfl
theorem ok_131 : ∀ q ∈ pr_131, okL gmt mt_131 q.1 q.2 := pk_c o_131_0 (pk_c o_131_5 (pk_c o_131_64 (pk_c o_131_89 (pk_c o_131_91 (pk_c o_131_111 (pk_c o_131_117 (pk_n)))))))
theorem o_132_0 : okL gmt mt_132 0 b_132_0 := by
  refine oc (y := mt_132) (pc := 0) (ok_iload_n dX0_ways_0) 1 rfl ?_
  refine oc_if dX0_ways_1 ⟨by decide, by decide⟩ 4 rfl ?_
  refine oc (y := mt_132) (pc := 4) (ok_iconst dX0_ways_4 rfl ⟨by decide, by decide⟩) 5 rfl ?_
  refine oc (y := mt_132) (pc := 5) (ok_istore_n dX0_ways_5 (by decide)) 6 rfl ?_
  exact oc_fall rfl
theorem o_132_6 : okL gmt mt_132 6 b_132_6 := by
  refine oc (y := mt_132) (pc := 6) (ok_iload_n dX0_ways_6) 7 rfl ?_
  refine oc (y := mt_132) (pc := 7) (ok_aload_n dX0_ways_7) 8 rfl ?_
  refine oc_V (y := mt_132) (pc := 8) (vcons (y := mt_132) (pc := 8) (len := 3) (n := 1) (M := mt_81) (by decide) rfl (Or.inr rfl) rfl (ck_V dX0_ways_8 ⟨by decide, by decide, by decide, by decide +kernel⟩ q1289 q497 qs1 q162 q498) vnil) (hok0 rfl) (by decide) 11 rfl ?_
  refine oc_icmp dX0_ways_11 ⟨by decide, by decide⟩ 14 rfl ?_
  refine oc (y := mt_132) (pc := 14) (ok_aload_n dX0_ways_14) 15 rfl ?_
  refine oc (y := mt_132) (pc := 15) (ok_getfield dX0_ways_15 (fg (own := "GardenChess") (idx := 87) (g := 1) (k := 13) (r := (RX0, TX0, 25)) rfl ⟨⟨by decide, by decide⟩, by decide⟩ (Or.inl q556) (Or.inl rfl) rfl (fg_nil))) 18 rfl ?_
  refine oc (y := mt_132) (pc := 18) (ok_getfield dX0_ways_18 (fg (own := "GardenChess") (idx := 249) (g := 8) (k := 3) (r := (RX6, TX6, 12)) rfl ⟨⟨by decide, by decide⟩, by decide⟩ (Or.inr ⟨_, q452⟩) (Or.inl rfl) rfl (fg_nil))) 21 rfl ?_
  refine oc (y := mt_132) (pc := 21) (ok_iload_n dX0_ways_21) 22 rfl ?_
  refine oc (y := mt_132) (pc := 22) (ok_iaload dX0_ways_22) 23 rfl ?_
  refine oc (y := mt_132) (pc := 23) (ok_aload_n dX0_ways_23) 24 rfl ?_
  refine oc (y := mt_132) (pc := 24) (ok_getfield dX0_ways_24 (fg (own := "GardenChess") (idx := 100) (g := 1) (k := 18) (r := (RX0, TX0, 25)) rfl ⟨⟨by decide, by decide⟩, by decide⟩ (Or.inl q561) (Or.inl rfl) rfl (fg_nil))) 27 rfl ?_
  refine oc (y := mt_132) (pc := 27) (ok_iload_n dX0_ways_27) 28 rfl ?_
  refine oc (y := mt_132) (pc := 28) (ok_iaload dX0_ways_28) 29 rfl ?_
  refine oc_icmp dX0_ways_29 ⟨by decide, by decide⟩ 32 rfl ?_
  refine oc (y := mt_132) (pc := 32) (ok_iconst dX0_ways_32 rfl ⟨by decide, by decide⟩) 33 rfl ?_
  exact oc_iret dX0_ways_33 rfl
theorem o_132_34 : okL gmt mt_132 34 b_132_34 := by
  refine oc (y := mt_132) (pc := 34) (ok_iinc dX0_ways_34 (by decide)) 37 rfl ?_
  exact oc_goto dX0_ways_37 ⟨by decide, by decide⟩
theorem o_132_40 : okL gmt mt_132 40 b_132_40 := by
  refine oc (y := mt_132) (pc := 40) (ok_iconst dX0_ways_40 rfl ⟨by decide, by decide⟩) 41 rfl ?_
  exact oc_iret dX0_ways_41 rfl
theorem o_132_42 : okL gmt mt_132 42 b_132_42 := by
  refine oc (y := mt_132) (pc := 42) (ok_aload_n dX0_ways_42) 43 rfl ?_
  refine oc (y := mt_132) (pc := 43) (ok_getfield dX0_ways_43 (fg (own := "GardenChess") (idx := 87) (g := 1) (k := 13) (r := (RX0, TX0, 25)) rfl ⟨⟨by decide, by decide⟩, by decide⟩ (Or.inl q556) (Or.inl rfl) rfl (fg_nil))) 46 rfl ?_
  refine oc (y := mt_132) (pc := 46) (ok_getfield dX0_ways_46 (fg (own := "GardenChess") (idx := 278) (g := 8) (k := 7) (r := (RX6, TX6, 12)) rfl ⟨⟨by decide, by decide⟩, by decide⟩ (Or.inr ⟨_, q460⟩) (Or.inl rfl) rfl (fg_nil))) 49 rfl ?_
  refine oc_if dX0_ways_49 ⟨by decide, by decide⟩ 52 rfl ?_
  refine oc (y := mt_132) (pc := 52) (ok_iconst dX0_ways_52 rfl ⟨by decide, by decide⟩) 53 rfl ?_
  exact oc_iret dX0_ways_53 rfl
theorem o_132_54 : okL gmt mt_132 54 b_132_54 := by
  refine oc (y := mt_132) (pc := 54) (ok_aload_n dX0_ways_54) 55 rfl ?_
  refine oc (y := mt_132) (pc := 55) (ok_getfield dX0_ways_55 (fg (own := "GardenChess") (idx := 68) (g := 1) (k := 9) (r := (RX0, TX0, 25)) rfl ⟨⟨by decide, by decide⟩, by decide⟩ (Or.inl q550) (Or.inl rfl) rfl (fg_nil))) 58 rfl ?_
  refine oc (y := mt_132) (pc := 58) (ok_iload_n dX0_ways_58) 59 rfl ?_
  refine oc (y := mt_132) (pc := 59) (ok_aaload (ty := .object "GardenChess$Moves") dX0_ways_59 (by decide) (by decide) rfl rfl) 60 rfl ?_
  refine oc (y := mt_132) (pc := 60) (ok_astore_n dX0_ways_60 (by decide)) 61 rfl ?_
  refine oc (y := mt_132) (pc := 61) (ok_aload_n dX0_ways_61) 62 rfl ?_
  refine oc (y := mt_132) (pc := 62) (ok_getfield dX0_ways_62 (fg (own := "GardenChess") (idx := 87) (g := 1) (k := 13) (r := (RX0, TX0, 25)) rfl ⟨⟨by decide, by decide⟩, by decide⟩ (Or.inl q556) (Or.inl rfl) rfl (fg_nil))) 65 rfl ?_
  refine oc (y := mt_132) (pc := 65) (ok_aload_n dX0_ways_65) 66 rfl ?_
  refine oc (y := mt_132) (pc := 66) (ok_getfield dX0_ways_66 (fg (own := "GardenChess") (idx := 87) (g := 1) (k := 13) (r := (RX0, TX0, 25)) rfl ⟨⟨by decide, by decide⟩, by decide⟩ (Or.inl q556) (Or.inl rfl) rfl (fg_nil))) 69 rfl ?_
  refine oc (y := mt_132) (pc := 69) (ok_getfield dX0_ways_69 (fg (own := "GardenChess") (idx := 208) (g := 8) (k := 1) (r := (RX6, TX6, 12)) rfl ⟨⟨by decide, by decide⟩, by decide⟩ (Or.inr ⟨_, q448⟩) (Or.inl rfl) rfl (fg_nil))) 72 rfl ?_
  refine oc (y := mt_132) (pc := 72) (ok_aload_n dX0_ways_72) 73 rfl ?_
  refine oc_V (y := mt_132) (pc := 73) (vcons (y := mt_132) (pc := 73) (len := 3) (n := 3) (M := mt_215) (by decide) rfl (Or.inr rfl) rfl (ck_V dX0_ways_73 ⟨by decide, by decide, by decide, by decide +kernel⟩ q1392 q1300 q1301 q174 q1302) vnil) (hok0 rfl) (by decide) 76 rfl ?_
  refine oc (y := mt_132) (pc := 76) (ok_iconst dX0_ways_76 rfl ⟨by decide, by decide⟩) 77 rfl ?_
  refine oc (y := mt_132) (pc := 77) (ok_istore_n dX0_ways_77 (by decide)) 78 rfl ?_
  refine oc (y := mt_132) (pc := 78) (ok_iconst dX0_ways_78 rfl ⟨by decide, by decide⟩) 79 rfl ?_
  refine oc (y := mt_132) (pc := 79) (ok_istore dX0_ways_79 (by decide)) 81 rfl ?_
  exact oc_fall rfl
theorem o_132_81 : okL gmt mt_132 81 b_132_81 := by
  refine oc (y := mt_132) (pc := 81) (ok_iload dX0_ways_81) 83 rfl ?_
  refine oc (y := mt_132) (pc := 83) (ok_aload_n dX0_ways_83) 84 rfl ?_
  refine oc (y := mt_132) (pc := 84) (ok_getfield dX0_ways_84 (fg (own := "GardenChess") (idx := 276) (g := 7) (k := 2) (r := (RX5, TX5, 3)) rfl ⟨⟨by decide, by decide⟩, by decide⟩ (Or.inr ⟨_, q429⟩) (Or.inl rfl) rfl (fg_nil))) 87 rfl ?_
  refine oc_icmp dX0_ways_87 ⟨by decide, by decide⟩ 90 rfl ?_
  refine oc (y := mt_132) (pc := 90) (ok_aload_n dX0_ways_90) 91 rfl ?_
  refine oc (y := mt_132) (pc := 91) (ok_getfield dX0_ways_91 (fg (own := "GardenChess") (idx := 288) (g := 7) (k := 0) (r := (RX5, TX5, 3)) rfl ⟨⟨by decide, by decide⟩, by decide⟩ (Or.inr ⟨_, q423⟩) (Or.inl rfl) rfl (fg_nil))) 94 rfl ?_
  refine oc (y := mt_132) (pc := 94) (ok_iload dX0_ways_94) 96 rfl ?_
  refine oc (y := mt_132) (pc := 96) (ok_iaload dX0_ways_96) 97 rfl ?_
  refine oc (y := mt_132) (pc := 97) (ok_istore dX0_ways_97 (by decide)) 99 rfl ?_
  refine oc (y := mt_132) (pc := 99) (ok_aload_n dX0_ways_99) 100 rfl ?_
  refine oc (y := mt_132) (pc := 100) (ok_getfield dX0_ways_100 (fg (own := "GardenChess") (idx := 87) (g := 1) (k := 13) (r := (RX0, TX0, 25)) rfl ⟨⟨by decide, by decide⟩, by decide⟩ (Or.inl q556) (Or.inl rfl) rfl (fg_nil))) 103 rfl ?_
  refine oc (y := mt_132) (pc := 103) (ok_getfield dX0_ways_103 (fg (own := "GardenChess") (idx := 249) (g := 8) (k := 3) (r := (RX6, TX6, 12)) rfl ⟨⟨by decide, by decide⟩, by decide⟩ (Or.inr ⟨_, q452⟩) (Or.inl rfl) rfl (fg_nil))) 106 rfl ?_
  refine oc (y := mt_132) (pc := 106) (ok_iload dX0_ways_106) 108 rfl ?_
  refine oc (y := mt_132) (pc := 108) (ok_iaload dX0_ways_108) 109 rfl ?_
  refine oc (y := mt_132) (pc := 109) (ok_istore dX0_ways_109 (by decide)) 111 rfl ?_
  refine oc (y := mt_132) (pc := 111) (ok_aload_n dX0_ways_111) 112 rfl ?_
  refine oc (y := mt_132) (pc := 112) (ok_getfield dX0_ways_112 (fg (own := "GardenChess") (idx := 87) (g := 1) (k := 13) (r := (RX0, TX0, 25)) rfl ⟨⟨by decide, by decide⟩, by decide⟩ (Or.inl q556) (Or.inl rfl) rfl (fg_nil))) 115 rfl ?_
  refine oc (y := mt_132) (pc := 115) (ok_iload dX0_ways_115) 117 rfl ?_
  refine oc (y := mt_132) (pc := 117) (ok_aload_n dX0_ways_117) 118 rfl ?_
  refine oc (y := mt_132) (pc := 118) (ok_getfield dX0_ways_118 (fg (own := "GardenChess") (idx := 287) (g := 7) (k := 1) (r := (RX5, TX5, 3)) rfl ⟨⟨by decide, by decide⟩, by decide⟩ (Or.inr ⟨_, q426⟩) (Or.inl rfl) rfl (fg_nil))) 121 rfl ?_
  refine oc (y := mt_132) (pc := 121) (ok_iload dX0_ways_121) 123 rfl ?_
  refine oc (y := mt_132) (pc := 123) (ok_iaload dX0_ways_123) 124 rfl ?_
  refine oc_V (y := mt_132) (pc := 124) (vcons (y := mt_132) (pc := 124) (len := 3) (n := 3) (M := mt_221) (by decide) rfl (Or.inr rfl) rfl (ck_V dX0_ways_124 ⟨by decide, by decide, by decide, by decide +kernel⟩ q1397 q1398 q1399 q174 q1400) vnil) (hok0 rfl) (by decide) 127 rfl ?_
  refine oc (y := mt_132) (pc := 127) (ok_istore dX0_ways_127 (by decide)) 129 rfl ?_
  refine oc (y := mt_132) (pc := 129) (ok_iload_n dX0_ways_129) 130 rfl ?_
  refine oc (y := mt_132) (pc := 130) (ok_aload_n dX0_ways_130) 131 rfl ?_
  refine oc (y := mt_132) (pc := 131) (ok_iload_n dX0_ways_131) 132 rfl ?_
  refine oc (y := mt_132) (pc := 132) (ok_iconst dX0_ways_132 rfl ⟨by decide, by decide⟩) 133 rfl ?_
  refine oc (y := mt_132) (pc := 133) (ok_isub dX0_ways_133) 134 rfl ?_
  refine oc_V (y := mt_132) (pc := 134) (vcons (y := mt_132) (pc := 134) (len := 3) (n := 2) (M := mt_132) (by decide) rfl (Or.inr rfl) rfl (ck_V dX0_ways_134 ⟨by decide, by decide, by decide, by decide +kernel⟩ q1607 q1609 qs49 q162 q1610) vnil) (hok0 rfl) (by decide) 137 rfl ?_
  refine oc (y := mt_132) (pc := 137) (ok_iadd dX0_ways_137) 138 rfl ?_
  refine oc (y := mt_132) (pc := 138) (ok_istore_n dX0_ways_138 (by decide)) 139 rfl ?_
  refine oc (y := mt_132) (pc := 139) (ok_aload_n dX0_ways_139) 140 rfl ?_
  refine oc (y := mt_132) (pc := 140) (ok_getfield dX0_ways_140 (fg (own := "GardenChess") (idx := 87) (g := 1) (k := 13) (r := (RX0, TX0, 25)) rfl ⟨⟨by decide, by decide⟩, by decide⟩ (Or.inl q556) (Or.inl rfl) rfl (fg_nil))) 143 rfl ?_
  refine oc (y := mt_132) (pc := 143) (ok_iload dX0_ways_143) 145 rfl ?_
  refine oc (y := mt_132) (pc := 145) (ok_iload dX0_ways_145) 147 rfl ?_
  refine oc (y := mt_132) (pc := 147) (ok_iload dX0_ways_147) 149 rfl ?_
  refine oc_V (y := mt_132) (pc := 149) (vcons (y := mt_132) (pc := 149) (len := 3) (n := 4) (M := mt_226) (by decide) rfl (Or.inr rfl) rfl (ck_V dX0_ways_149 ⟨by decide, by decide, by decide, by decide +kernel⟩ q1460 q1435 q1436 q174 q1437) vnil) (hok0 rfl) (by decide) 152 rfl ?_
  refine oc (y := mt_132) (pc := 152) (ok_iinc dX0_ways_152 (by decide)) 155 rfl ?_
  exact oc_goto dX0_ways_155 ⟨by decide, by decide⟩
theorem o_132_158 : okL gmt mt_132 158 b_132_158 := by
  refine oc (y := mt_132) (pc := 158) (ok_iload_n dX0_ways_158) 159 rfl ?_
  exact oc_iret dX0_ways_159 rfl
theorem ok_132 : ∀ q ∈ pr_132, okL gmt mt_132 q.1 q.2 := pk_c o_132_0 (pk_c o_132_6 (pk_c o_132_34 (pk_c o_132_40 (pk_c o_132_42 (pk_c o_132_54 (pk_c o_132_81 (pk_c o_132_158 (pk_n))))))))
theorem o_133_0 : okL gmt mt_133 0 b_133_0 := by
  refine oc (y := mt_133) (pc := 0) (ok_aload_n dX0_undo_0) 1 rfl ?_
  refine oc (y := mt_133) (pc := 1) (ok_getfield dX0_undo_1 (fg (own := "GardenChess") (idx := 150) (g := 1) (k := 20) (r := (RX0, TX0, 25)) rfl ⟨⟨by decide, by decide⟩, by decide⟩ (Or.inl q563) (Or.inl rfl) rfl (fg_nil))) 4 rfl ?_
  refine oc_if dX0_undo_4 ⟨by decide, by decide⟩ 7 rfl ?_
  refine oc (y := mt_133) (pc := 7) (ok_aload_n dX0_undo_7) 8 rfl ?_
  refine oc (y := mt_133) (pc := 8) (ok_iconst dX0_undo_8 rfl ⟨by decide, by decide⟩) 9 rfl ?_
  refine oc_V (y := mt_133) (pc := 9) (vcons (y := mt_133) (pc := 9) (len := 3) (n := 2) (M := mt_85) (by decide) rfl (Or.inr rfl) rfl (ck_V dX0_undo_9 ⟨by decide, by decide, by decide, by decide +kernel⟩ q623 q625 qs4 q162 q626) vnil) (hok0 rfl) (by decide) 12 rfl ?_
  refine oc_if dX0_undo_12 ⟨by decide, by decide⟩ 15 rfl ?_
  refine oc (y := mt_133) (pc := 15) (ok_iconst dX0_undo_15 rfl ⟨by decide, by decide⟩) 16 rfl ?_
  exact oc_goto dX0_undo_16 ⟨by decide, by decide⟩
theorem o_133_19 : okL gmt mt_133 19 b_133_19 := by
  refine oc (y := mt_133) (pc := 19) (ok_iconst dX0_undo_19 rfl ⟨by decide, by decide⟩) 20 rfl ?_
  exact oc_fall rfl
theorem o_133_20 : okL gmt mt_133 20 b_133_20 := by
  exact oc_zret dX0_undo_20 rfl
theorem o_133_21 : okL gmt mt_133 21 b_133_21 := by
  refine oc (y := mt_133) (pc := 21) (ok_aload_n dX0_undo_21) 22 rfl ?_
  refine oc (y := mt_133) (pc := 22) (ok_dup dX0_undo_22) 23 rfl ?_
  refine oc (y := mt_133) (pc := 23) (ok_getfield dX0_undo_23 (fg (own := "GardenChess") (idx := 150) (g := 1) (k := 20) (r := (RX0, TX0, 25)) rfl ⟨⟨by decide, by decide⟩, by decide⟩ (Or.inl q563) (Or.inl rfl) rfl (fg_nil))) 26 rfl ?_
  refine oc (y := mt_133) (pc := 26) (ok_iconst dX0_undo_26 rfl ⟨by decide, by decide⟩) 27 rfl ?_
  refine oc (y := mt_133) (pc := 27) (ok_isub dX0_undo_27) 28 rfl ?_
  refine oc (y := mt_133) (pc := 28) (ok_putfield dX0_undo_28 (fp (own := "GardenChess") (idx := 150) (g := 1) (k := 20) (r := (RX0, TX0, 25)) rfl ⟨⟨by decide, by decide⟩, by decide⟩ (Or.inl q563) (Or.inl rfl) rfl (Or.inl rfl) (fp_nil))) 31 rfl ?_
  refine oc (y := mt_133) (pc := 31) (ok_aload_n dX0_undo_31) 32 rfl ?_
  refine oc (y := mt_133) (pc := 32) (ok_getfield dX0_undo_32 (fg (own := "GardenChess") (idx := 83) (g := 1) (k := 12) (r := (RX0, TX0, 25)) rfl ⟨⟨by decide, by decide⟩, by decide⟩ (Or.inl q555) (Or.inl rfl) rfl (fg_nil))) 35 rfl ?_
  refine oc (y := mt_133) (pc := 35) (ok_aload_n dX0_undo_35) 36 rfl ?_
  refine oc (y := mt_133) (pc := 36) (ok_getfield dX0_undo_36 (fg (own := "GardenChess") (idx := 103) (g := 1) (k := 19) (r := (RX0, TX0, 25)) rfl ⟨⟨by decide, by decide⟩, by decide⟩ (Or.inl q562) (Or.inl rfl) rfl (fg_nil))) 39 rfl ?_
  refine oc (y := mt_133) (pc := 39) (ok_aload_n dX0_undo_39) 40 rfl ?_
  refine oc (y := mt_133) (pc := 40) (ok_getfield dX0_undo_40 (fg (own := "GardenChess") (idx := 150) (g := 1) (k := 20) (r := (RX0, TX0, 25)) rfl ⟨⟨by decide, by decide⟩, by decide⟩ (Or.inl q563) (Or.inl rfl) rfl (fg_nil))) 43 rfl ?_
  refine oc (y := mt_133) (pc := 43) (ok_aaload (ty := .object "GardenChess$State") dX0_undo_43 (by decide) (by decide) rfl rfl) 44 rfl ?_
  refine oc_V (y := mt_133) (pc := 44) (vcons (y := mt_133) (pc := 44) (len := 3) (n := 2) (M := mt_220) (by decide) rfl (Or.inr rfl) rfl (ck_V dX0_undo_44 ⟨by decide, by decide, by decide, by decide +kernel⟩ q1393 q1394 q1395 q174 q1396) vnil) (hok0 rfl) (by decide) 47 rfl ?_
  refine oc (y := mt_133) (pc := 47) (ok_pop dX0_undo_47) 48 rfl ?_
  refine oc (y := mt_133) (pc := 48) (ok_iconst dX0_undo_48 rfl ⟨by decide, by decide⟩) 49 rfl ?_
  exact oc_zret dX0_undo_49 rfl
theorem ok_133 : ∀ q ∈ pr_133, okL gmt mt_133 q.1 q.2 := pk_c o_133_0 (pk_c o_133_19 (pk_c o_133_20 (pk_c o_133_21 (pk_n))))
theorem o_134_0 : okL gmt mt_134 0 b_134_0 := by
  refine oc (y := mt_134) (pc := 0) (ok_iload_n dX0_play_0) 1 rfl ?_
  refine oc (y := mt_134) (pc := 1) (ok_iconst dX0_play_1 rfl ⟨by decide, by decide⟩) 2 rfl ?_
  refine oc (y := mt_134) (pc := 2) (ok_aload_n dX0_play_2) 3 rfl ?_
  refine oc_V (y := mt_134) (pc := 3) (vcons (y := mt_134) (pc := 3) (len := 3) (n := 1) (M := mt_108) (by decide) rfl (Or.inr rfl) rfl (ck_V dX0_play_3 ⟨by decide, by decide, by decide, by decide +kernel⟩ q1388 q1390 qs38 q162 q1391) vnil) (hok0 rfl) (by decide) 6 rfl ?_
  refine oc (y := mt_134) (pc := 6) (ok_iconst dX0_play_6 rfl ⟨by decide, by decide⟩) 7 rfl ?_
  refine oc (y := mt_134) (pc := 7) (ok_isub dX0_play_7) 8 rfl ?_
  refine oc_S (y := mt_134) (pc := 8) (M := mt_92) rfl (ck_S dX0_play_8 ⟨by decide, by decide, by decide, by decide +kernel⟩ q1330 q771 q162 q772) (hok0 rfl) (by decide) 11 rfl ?_
  refine oc_if dX0_play_11 ⟨by decide, by decide⟩ 14 rfl ?_
  refine oc (y := mt_134) (pc := 14) (ok_aload_n dX0_play_14) 15 rfl ?_
  refine oc (y := mt_134) (pc := 15) (ok_iconst dX0_play_15 rfl ⟨by decide, by decide⟩) 16 rfl ?_
  refine oc (y := mt_134) (pc := 16) (ok_iconst dX0_play_16 rfl ⟨by decide, by decide⟩) 17 rfl ?_
  refine oc (y := mt_134) (pc := 17) (ok_iconst dX0_play_17 rfl ⟨by decide, by decide⟩) 18 rfl ?_
  refine oc_V (y := mt_134) (pc := 18) (vcons (y := mt_134) (pc := 18) (len := 3) (n := 4) (M := mt_117) (by decide) rfl (Or.inr rfl) rfl (ck_V dX0_play_18 ⟨by decide, by decide, by decide, by decide +kernel⟩ q1465 q1467 qs42 q162 q1468) vnil) (hok0 rfl) (by decide) 21 rfl ?_
  refine oc_if dX0_play_21 ⟨by decide, by decide⟩ 24 rfl ?_
  exact oc_fall rfl
theorem o_134_24 : okL gmt mt_134 24 b_134_24 := by
  refine oc (y := mt_134) (pc := 24) (ok_aload_n dX0_play_24) 25 rfl ?_
  refine oc (y := mt_134) (pc := 25) (ok_iconst dX0_play_25 rfl ⟨by decide, by decide⟩) 26 rfl ?_
  refine oc_V (y := mt_134) (pc := 26) (vcons (y := mt_134) (pc := 26) (len := 3) (n := 2) (M := mt_85) (by decide) rfl (Or.inr rfl) rfl (ck_V dX0_play_26 ⟨by decide, by decide, by decide, by decide +kernel⟩ q623 q625 qs4 q162 q626) vnil) (hok0 rfl) (by decide) 29 rfl ?_
  exact oc_iret dX0_play_29 rfl
theorem o_134_30 : okL gmt mt_134 30 b_134_30 := by
  refine oc (y := mt_134) (pc := 30) (ok_aload_n dX0_play_30) 31 rfl ?_
  refine oc_V (y := mt_134) (pc := 31) (vcons (y := mt_134) (pc := 31) (len := 3) (n := 1) (M := mt_135) (by decide) rfl (Or.inr rfl) rfl (ck_V dX0_play_31 ⟨by decide, by decide, by decide, by decide +kernel⟩ q1619 q1621 qs50 q162 q1622) vnil) (hok0 rfl) (by decide) 34 rfl ?_
  refine oc (y := mt_134) (pc := 34) (ok_aload_n dX0_play_34) 35 rfl ?_
  refine oc (y := mt_134) (pc := 35) (ok_getfield dX0_play_35 (fg (own := "GardenChess") (idx := 83) (g := 1) (k := 12) (r := (RX0, TX0, 25)) rfl ⟨⟨by decide, by decide⟩, by decide⟩ (Or.inl q555) (Or.inl rfl) rfl (fg_nil))) 38 rfl ?_
  refine oc (y := mt_134) (pc := 38) (ok_iload_n dX0_play_38) 39 rfl ?_
  refine oc_V (y := mt_134) (pc := 39) (vcons (y := mt_134) (pc := 39) (len := 3) (n := 2) (M := mt_230) (by decide) rfl (Or.inr rfl) rfl (ck_V dX0_play_39 ⟨by decide, by decide, by decide, by decide +kernel⟩ q1566 q1479 q1480 q174 q1481) vnil) (hok0 rfl) (by decide) 42 rfl ?_
  refine oc (y := mt_134) (pc := 42) (ok_istore_n dX0_play_42 (by decide)) 43 rfl ?_
  refine oc (y := mt_134) (pc := 43) (ok_iload_n dX0_play_43) 44 rfl ?_
  refine oc (y := mt_134) (pc := 44) (ok_iconst dX0_play_44 rfl ⟨by decide, by decide⟩) 45 rfl ?_
  refine oc_icmp dX0_play_45 ⟨by decide, by decide⟩ 48 rfl ?_
  refine oc (y := mt_134) (pc := 48) (ok_sipush dX0_play_48 (by decide) ⟨by decide, by decide⟩) 51 rfl ?_
  exact oc_goto dX0_play_51 ⟨by decide, by decide⟩
theorem o_134_54 : okL gmt mt_134 54 b_134_54 := by
  refine oc (y := mt_134) (pc := 54) (ok_iload_n dX0_play_54) 55 rfl ?_
  exact oc_fall rfl
theorem o_134_55 : okL gmt mt_134 55 b_134_55 := by
  exact oc_iret dX0_play_55 rfl
theorem ok_134 : ∀ q ∈ pr_134, okL gmt mt_134 q.1 q.2 := pk_c o_134_0 (pk_c o_134_24 (pk_c o_134_30 (pk_c o_134_54 (pk_c o_134_55 (pk_n)))))
theorem o_135_0 : okL gmt mt_135 0 b_135_0 := by
  refine oc (y := mt_135) (pc := 0) (ok_aload_n dX0_keeps_0) 1 rfl ?_
  refine oc (y := mt_135) (pc := 1) (ok_getfield dX0_keeps_1 (fg (own := "GardenChess") (idx := 150) (g := 1) (k := 20) (r := (RX0, TX0, 25)) rfl ⟨⟨by decide, by decide⟩, by decide⟩ (Or.inl q563) (Or.inl rfl) rfl (fg_nil))) 4 rfl ?_
  refine oc (y := mt_135) (pc := 4) (ok_bipush dX0_keeps_4 (by decide) ⟨by decide, by decide⟩) 6 rfl ?_
  refine oc_icmp dX0_keeps_6 ⟨by decide, by decide⟩ 9 rfl ?_
  refine oc (y := mt_135) (pc := 9) (ok_aload_n dX0_keeps_9) 10 rfl ?_
  refine oc (y := mt_135) (pc := 10) (ok_getfield dX0_keeps_10 (fg (own := "GardenChess") (idx := 103) (g := 1) (k := 19) (r := (RX0, TX0, 25)) rfl ⟨⟨by decide, by decide⟩, by decide⟩ (Or.inl q562) (Or.inl rfl) rfl (fg_nil))) 13 rfl ?_
  refine oc (y := mt_135) (pc := 13) (ok_iconst dX0_keeps_13 rfl ⟨by decide, by decide⟩) 14 rfl ?_
  refine oc (y := mt_135) (pc := 14) (ok_aaload (ty := .object "GardenChess$State") dX0_keeps_14 (by decide) (by decide) rfl rfl) 15 rfl ?_
  refine oc (y := mt_135) (pc := 15) (ok_astore_n dX0_keeps_15 (by decide)) 16 rfl ?_
  refine oc (y := mt_135) (pc := 16) (ok_iconst dX0_keeps_16 rfl ⟨by decide, by decide⟩) 17 rfl ?_
  refine oc (y := mt_135) (pc := 17) (ok_istore_n dX0_keeps_17 (by decide)) 18 rfl ?_
  exact oc_fall rfl
theorem o_135_18 : okL gmt mt_135 18 b_135_18 := by
  refine oc (y := mt_135) (pc := 18) (ok_iload_n dX0_keeps_18) 19 rfl ?_
  refine oc (y := mt_135) (pc := 19) (ok_bipush dX0_keeps_19 (by decide) ⟨by decide, by decide⟩) 21 rfl ?_
  refine oc_icmp dX0_keeps_21 ⟨by decide, by decide⟩ 24 rfl ?_
  refine oc (y := mt_135) (pc := 24) (ok_aload_n dX0_keeps_24) 25 rfl ?_
  refine oc (y := mt_135) (pc := 25) (ok_getfield dX0_keeps_25 (fg (own := "GardenChess") (idx := 103) (g := 1) (k := 19) (r := (RX0, TX0, 25)) rfl ⟨⟨by decide, by decide⟩, by decide⟩ (Or.inl q562) (Or.inl rfl) rfl (fg_nil))) 28 rfl ?_
  refine oc (y := mt_135) (pc := 28) (ok_iload_n dX0_keeps_28) 29 rfl ?_
  refine oc (y := mt_135) (pc := 29) (ok_iconst dX0_keeps_29 rfl ⟨by decide, by decide⟩) 30 rfl ?_
  refine oc (y := mt_135) (pc := 30) (ok_isub dX0_keeps_30) 31 rfl ?_
  refine oc (y := mt_135) (pc := 31) (ok_aload_n dX0_keeps_31) 32 rfl ?_
  refine oc (y := mt_135) (pc := 32) (ok_getfield dX0_keeps_32 (fg (own := "GardenChess") (idx := 103) (g := 1) (k := 19) (r := (RX0, TX0, 25)) rfl ⟨⟨by decide, by decide⟩, by decide⟩ (Or.inl q562) (Or.inl rfl) rfl (fg_nil))) 35 rfl ?_
  refine oc (y := mt_135) (pc := 35) (ok_iload_n dX0_keeps_35) 36 rfl ?_
  refine oc (y := mt_135) (pc := 36) (ok_aaload (ty := .object "GardenChess$State") dX0_keeps_36 (by decide) (by decide) rfl rfl) 37 rfl ?_
  refine oc (y := mt_135) (pc := 37) (ok_aastore dX0_keeps_37 (by decide) rfl (ct (by decide) rfl (Or.inl rfl) (ct_nil))) 38 rfl ?_
  refine oc (y := mt_135) (pc := 38) (ok_iinc dX0_keeps_38 (by decide)) 41 rfl ?_
  exact oc_goto dX0_keeps_41 ⟨by decide, by decide⟩
theorem o_135_44 : okL gmt mt_135 44 b_135_44 := by
  refine oc (y := mt_135) (pc := 44) (ok_aload_n dX0_keeps_44) 45 rfl ?_
  refine oc (y := mt_135) (pc := 45) (ok_getfield dX0_keeps_45 (fg (own := "GardenChess") (idx := 103) (g := 1) (k := 19) (r := (RX0, TX0, 25)) rfl ⟨⟨by decide, by decide⟩, by decide⟩ (Or.inl q562) (Or.inl rfl) rfl (fg_nil))) 48 rfl ?_
  refine oc (y := mt_135) (pc := 48) (ok_bipush dX0_keeps_48 (by decide) ⟨by decide, by decide⟩) 50 rfl ?_
  refine oc (y := mt_135) (pc := 50) (ok_aload_n dX0_keeps_50) 51 rfl ?_
  refine oc (y := mt_135) (pc := 51) (ok_aastore dX0_keeps_51 (by decide) rfl (ct (by decide) rfl (Or.inl rfl) (ct_nil))) 52 rfl ?_
  refine oc (y := mt_135) (pc := 52) (ok_aload_n dX0_keeps_52) 53 rfl ?_
  refine oc (y := mt_135) (pc := 53) (ok_dup dX0_keeps_53) 54 rfl ?_
  refine oc (y := mt_135) (pc := 54) (ok_getfield dX0_keeps_54 (fg (own := "GardenChess") (idx := 150) (g := 1) (k := 20) (r := (RX0, TX0, 25)) rfl ⟨⟨by decide, by decide⟩, by decide⟩ (Or.inl q563) (Or.inl rfl) rfl (fg_nil))) 57 rfl ?_
  refine oc (y := mt_135) (pc := 57) (ok_iconst dX0_keeps_57 rfl ⟨by decide, by decide⟩) 58 rfl ?_
  refine oc (y := mt_135) (pc := 58) (ok_isub dX0_keeps_58) 59 rfl ?_
  refine oc (y := mt_135) (pc := 59) (ok_putfield dX0_keeps_59 (fp (own := "GardenChess") (idx := 150) (g := 1) (k := 20) (r := (RX0, TX0, 25)) rfl ⟨⟨by decide, by decide⟩, by decide⟩ (Or.inl q563) (Or.inl rfl) rfl (Or.inl rfl) (fp_nil))) 62 rfl ?_
  exact oc_fall rfl
theorem o_135_62 : okL gmt mt_135 62 b_135_62 := by
  refine oc (y := mt_135) (pc := 62) (ok_aload_n dX0_keeps_62) 63 rfl ?_
  refine oc (y := mt_135) (pc := 63) (ok_getfield dX0_keeps_63 (fg (own := "GardenChess") (idx := 103) (g := 1) (k := 19) (r := (RX0, TX0, 25)) rfl ⟨⟨by decide, by decide⟩, by decide⟩ (Or.inl q562) (Or.inl rfl) rfl (fg_nil))) 66 rfl ?_
  refine oc (y := mt_135) (pc := 66) (ok_aload_n dX0_keeps_66) 67 rfl ?_
  refine oc (y := mt_135) (pc := 67) (ok_getfield dX0_keeps_67 (fg (own := "GardenChess") (idx := 150) (g := 1) (k := 20) (r := (RX0, TX0, 25)) rfl ⟨⟨by decide, by decide⟩, by decide⟩ (Or.inl q563) (Or.inl rfl) rfl (fg_nil))) 70 rfl ?_
  refine oc (y := mt_135) (pc := 70) (ok_aaload (ty := .object "GardenChess$State") dX0_keeps_70 (by decide) (by decide) rfl rfl) 71 rfl ?_
  refine oc (y := mt_135) (pc := 71) (ok_aload_n dX0_keeps_71) 72 rfl ?_
  refine oc (y := mt_135) (pc := 72) (ok_getfield dX0_keeps_72 (fg (own := "GardenChess") (idx := 83) (g := 1) (k := 12) (r := (RX0, TX0, 25)) rfl ⟨⟨by decide, by decide⟩, by decide⟩ (Or.inl q555) (Or.inl rfl) rfl (fg_nil))) 75 rfl ?_
  refine oc_V (y := mt_135) (pc := 75) (vcons (y := mt_135) (pc := 75) (len := 3) (n := 2) (M := mt_220) (by decide) rfl (Or.inr rfl) rfl (ck_V dX0_keeps_75 ⟨by decide, by decide, by decide, by decide +kernel⟩ q1393 q1394 q1395 q174 q1396) vnil) (hok0 rfl) (by decide) 78 rfl ?_
  refine oc (y := mt_135) (pc := 78) (ok_pop dX0_keeps_78) 79 rfl ?_
  refine oc (y := mt_135) (pc := 79) (ok_aload_n dX0_keeps_79) 80 rfl ?_
  refine oc (y := mt_135) (pc := 80) (ok_dup dX0_keeps_80) 81 rfl ?_
  refine oc (y := mt_135) (pc := 81) (ok_getfield dX0_keeps_81 (fg (own := "GardenChess") (idx := 150) (g := 1) (k := 20) (r := (RX0, TX0, 25)) rfl ⟨⟨by decide, by decide⟩, by decide⟩ (Or.inl q563) (Or.inl rfl) rfl (fg_nil))) 84 rfl ?_
  refine oc (y := mt_135) (pc := 84) (ok_iconst dX0_keeps_84 rfl ⟨by decide, by decide⟩) 85 rfl ?_
  refine oc (y := mt_135) (pc := 85) (ok_iadd dX0_keeps_85) 86 rfl ?_
  refine oc (y := mt_135) (pc := 86) (ok_putfield dX0_keeps_86 (fp (own := "GardenChess") (idx := 150) (g := 1) (k := 20) (r := (RX0, TX0, 25)) rfl ⟨⟨by decide, by decide⟩, by decide⟩ (Or.inl q563) (Or.inl rfl) rfl (Or.inl rfl) (fp_nil))) 89 rfl ?_
  exact oc_ret dX0_keeps_89 rfl
theorem ok_135 : ∀ q ∈ pr_135, okL gmt mt_135 q.1 q.2 := pk_c o_135_0 (pk_c o_135_18 (pk_c o_135_44 (pk_c o_135_62 (pk_n))))
theorem o_136_0 : okL gmt mt_136 0 b_136_0 := by
  refine oc (y := mt_136) (pc := 0) (ok_aload_n dX0_tend_0) 1 rfl ?_
  refine oc (y := mt_136) (pc := 1) (ok_iload_n dX0_tend_1) 2 rfl ?_
  refine oc_V (y := mt_136) (pc := 2) (vcons (y := mt_136) (pc := 2) (len := 3) (n := 2) (M := mt_104) (by decide) rfl (Or.inr rfl) rfl (ck_V dX0_tend_2 ⟨by decide, by decide, by decide, by decide +kernel⟩ q1371 q1373 qs36 q162 q1374) vnil) (hok0 rfl) (by decide) 5 rfl ?_
  refine oc_if dX0_tend_5 ⟨by decide, by decide⟩ 8 rfl ?_
  refine oc (y := mt_136) (pc := 8) (ok_iload_n dX0_tend_8) 9 rfl ?_
  refine oc (y := mt_136) (pc := 9) (ok_iconst dX0_tend_9 rfl ⟨by decide, by decide⟩) 10 rfl ?_
  refine oc (y := mt_136) (pc := 10) (ok_bipush dX0_tend_10 (by decide) ⟨by decide, by decide⟩) 12 rfl ?_
  refine oc_S (y := mt_136) (pc := 12) (M := mt_92) rfl (ck_S dX0_tend_12 ⟨by decide, by decide, by decide, by decide +kernel⟩ q1330 q771 q162 q772) (hok0 rfl) (by decide) 15 rfl ?_
  refine oc_if dX0_tend_15 ⟨by decide, by decide⟩ 18 rfl ?_
  exact oc_fall rfl
theorem o_136_18 : okL gmt mt_136 18 b_136_18 := by
  refine oc (y := mt_136) (pc := 18) (ok_aload_n dX0_tend_18) 19 rfl ?_
  refine oc (y := mt_136) (pc := 19) (ok_iconst dX0_tend_19 rfl ⟨by decide, by decide⟩) 20 rfl ?_
  refine oc_V (y := mt_136) (pc := 20) (vcons (y := mt_136) (pc := 20) (len := 3) (n := 2) (M := mt_85) (by decide) rfl (Or.inr rfl) rfl (ck_V dX0_tend_20 ⟨by decide, by decide, by decide, by decide +kernel⟩ q623 q625 qs4 q162 q626) vnil) (hok0 rfl) (by decide) 23 rfl ?_
  exact oc_iret dX0_tend_23 rfl
theorem o_136_24 : okL gmt mt_136 24 b_136_24 := by
  refine oc (y := mt_136) (pc := 24) (ok_aload_n dX0_tend_24) 25 rfl ?_
  refine oc_V (y := mt_136) (pc := 25) (vcons (y := mt_136) (pc := 25) (len := 3) (n := 1) (M := mt_135) (by decide) rfl (Or.inr rfl) rfl (ck_V dX0_tend_25 ⟨by decide, by decide, by decide, by decide +kernel⟩ q1619 q1621 qs50 q162 q1622) vnil) (hok0 rfl) (by decide) 28 rfl ?_
  refine oc (y := mt_136) (pc := 28) (ok_aload_n dX0_tend_28) 29 rfl ?_
  refine oc (y := mt_136) (pc := 29) (ok_getfield dX0_tend_29 (fg (own := "GardenChess") (idx := 83) (g := 1) (k := 12) (r := (RX0, TX0, 25)) rfl ⟨⟨by decide, by decide⟩, by decide⟩ (Or.inl q555) (Or.inl rfl) rfl (fg_nil))) 32 rfl ?_
  refine oc (y := mt_136) (pc := 32) (ok_getfield dX0_tend_32 (fg (own := "GardenChess") (idx := 266) (g := 8) (k := 5) (r := (RX6, TX6, 12)) rfl ⟨⟨by decide, by decide⟩, by decide⟩ (Or.inr ⟨_, q456⟩) (Or.inl rfl) rfl (fg_nil))) 35 rfl ?_
  refine oc (y := mt_136) (pc := 35) (ok_iload_n dX0_tend_35) 36 rfl ?_
  refine oc (y := mt_136) (pc := 36) (ok_sipush dX0_tend_36 (by decide) ⟨by decide, by decide⟩) 39 rfl ?_
  refine oc (y := mt_136) (pc := 39) (ok_aload_n dX0_tend_39) 40 rfl ?_
  refine oc (y := mt_136) (pc := 40) (ok_getfield dX0_tend_40 (fg (own := "GardenChess") (idx := 83) (g := 1) (k := 12) (r := (RX0, TX0, 25)) rfl ⟨⟨by decide, by decide⟩, by decide⟩ (Or.inl q555) (Or.inl rfl) rfl (fg_nil))) 43 rfl ?_
  refine oc (y := mt_136) (pc := 43) (ok_getfield dX0_tend_43 (fg (own := "GardenChess") (idx := 266) (g := 8) (k := 5) (r := (RX6, TX6, 12)) rfl ⟨⟨by decide, by decide⟩, by decide⟩ (Or.inr ⟨_, q456⟩) (Or.inl rfl) rfl (fg_nil))) 46 rfl ?_
  refine oc (y := mt_136) (pc := 46) (ok_iload_n dX0_tend_46) 47 rfl ?_
  refine oc (y := mt_136) (pc := 47) (ok_iaload dX0_tend_47) 48 rfl ?_
  refine oc (y := mt_136) (pc := 48) (ok_iload_n dX0_tend_48) 49 rfl ?_
  refine oc (y := mt_136) (pc := 49) (ok_iadd dX0_tend_49) 50 rfl ?_
  refine oc_S (y := mt_136) (pc := 50) (M := mt_18) rfl (ck_S dX0_tend_50 ⟨by decide, by decide, by decide, by decide +kernel⟩ q1627 q1000 q184 q1001) (hok0 rfl) (by decide) 53 rfl ?_
  refine oc (y := mt_136) (pc := 53) (ok_iastore dX0_tend_53) 54 rfl ?_
  refine oc (y := mt_136) (pc := 54) (ok_aload_n dX0_tend_54) 55 rfl ?_
  refine oc (y := mt_136) (pc := 55) (ok_getfield dX0_tend_55 (fg (own := "GardenChess") (idx := 83) (g := 1) (k := 12) (r := (RX0, TX0, 25)) rfl ⟨⟨by decide, by decide⟩, by decide⟩ (Or.inl q555) (Or.inl rfl) rfl (fg_nil))) 58 rfl ?_
  refine oc (y := mt_136) (pc := 58) (ok_getfield dX0_tend_58 (fg (own := "GardenChess") (idx := 266) (g := 8) (k := 5) (r := (RX6, TX6, 12)) rfl ⟨⟨by decide, by decide⟩, by decide⟩ (Or.inr ⟨_, q456⟩) (Or.inl rfl) rfl (fg_nil))) 61 rfl ?_
  refine oc (y := mt_136) (pc := 61) (ok_iload_n dX0_tend_61) 62 rfl ?_
  refine oc (y := mt_136) (pc := 62) (ok_iaload dX0_tend_62) 63 rfl ?_
  exact oc_iret dX0_tend_63 rfl
theorem ok_136 : ∀ q ∈ pr_136, okL gmt mt_136 q.1 q.2 := pk_c o_136_0 (pk_c o_136_18 (pk_c o_136_24 (pk_n)))
theorem o_137_0 : okL gmt mt_137 0 b_137_0 := by
  refine oc (y := mt_137) (pc := 0) (ok_aload_n dX0_days_0) 1 rfl ?_
  refine oc (y := mt_137) (pc := 1) (ok_iload_n dX0_days_1) 2 rfl ?_
  refine oc (y := mt_137) (pc := 2) (ok_iconst dX0_days_2 rfl ⟨by decide, by decide⟩) 3 rfl ?_
  refine oc (y := mt_137) (pc := 3) (ok_bipush dX0_days_3 (by decide) ⟨by decide, by decide⟩) 5 rfl ?_
  refine oc_V (y := mt_137) (pc := 5) (vcons (y := mt_137) (pc := 5) (len := 3) (n := 4) (M := mt_117) (by decide) rfl (Or.inr rfl) rfl (ck_V dX0_days_5 ⟨by decide, by decide, by decide, by decide +kernel⟩ q1465 q1467 qs42 q162 q1468) vnil) (hok0 rfl) (by decide) 8 rfl ?_
  refine oc_if dX0_days_8 ⟨by decide, by decide⟩ 11 rfl ?_
  refine oc (y := mt_137) (pc := 11) (ok_aload_n dX0_days_11) 12 rfl ?_
  refine oc (y := mt_137) (pc := 12) (ok_iconst dX0_days_12 rfl ⟨by decide, by decide⟩) 13 rfl ?_
  refine oc_V (y := mt_137) (pc := 13) (vcons (y := mt_137) (pc := 13) (len := 3) (n := 2) (M := mt_85) (by decide) rfl (Or.inr rfl) rfl (ck_V dX0_days_13 ⟨by decide, by decide, by decide, by decide +kernel⟩ q623 q625 qs4 q162 q626) vnil) (hok0 rfl) (by decide) 16 rfl ?_
  exact oc_iret dX0_days_16 rfl
theorem o_137_17 : okL gmt mt_137 17 b_137_17 := by
  refine oc (y := mt_137) (pc := 17) (ok_aload_n dX0_days_17) 18 rfl ?_
  refine oc_V (y := mt_137) (pc := 18) (vcons (y := mt_137) (pc := 18) (len := 3) (n := 1) (M := mt_135) (by decide) rfl (Or.inr rfl) rfl (ck_V dX0_days_18 ⟨by decide, by decide, by decide, by decide +kernel⟩ q1619 q1621 qs50 q162 q1622) vnil) (hok0 rfl) (by decide) 21 rfl ?_
  refine oc (y := mt_137) (pc := 21) (ok_aload_n dX0_days_21) 22 rfl ?_
  refine oc (y := mt_137) (pc := 22) (ok_getfield dX0_days_22 (fg (own := "GardenChess") (idx := 83) (g := 1) (k := 12) (r := (RX0, TX0, 25)) rfl ⟨⟨by decide, by decide⟩, by decide⟩ (Or.inl q555) (Or.inl rfl) rfl (fg_nil))) 25 rfl ?_
  refine oc (y := mt_137) (pc := 25) (ok_iload_n dX0_days_25) 26 rfl ?_
  refine oc (y := mt_137) (pc := 26) (ok_aload_n dX0_days_26) 27 rfl ?_
  refine oc (y := mt_137) (pc := 27) (ok_getfield dX0_days_27 (fg (own := "GardenChess") (idx := 31) (g := 1) (k := 0) (r := (RX0, TX0, 25)) rfl ⟨⟨by decide, by decide⟩, by decide⟩ (Or.inl q539) (Or.inl rfl) rfl (fg_nil))) 30 rfl ?_
  refine oc (y := mt_137) (pc := 30) (ok_getfield dX0_days_30 (fg (own := "GardenChess") (idx := 345) (g := 2) (k := 5) (r := (RX1, TX1, 10)) rfl ⟨⟨by decide, by decide⟩, by decide⟩ (Or.inr ⟨_, q262⟩) (Or.inl rfl) rfl (fg_nil))) 33 rfl ?_
  refine oc (y := mt_137) (pc := 33) (ok_iconst dX0_days_33 rfl ⟨by decide, by decide⟩) 34 rfl ?_
  refine oc (y := mt_137) (pc := 34) (ok_iaload dX0_days_34) 35 rfl ?_
  refine oc (y := mt_137) (pc := 35) (ok_aload_n dX0_days_35) 36 rfl ?_
  refine oc (y := mt_137) (pc := 36) (ok_getfield dX0_days_36 (fg (own := "GardenChess") (idx := 31) (g := 1) (k := 0) (r := (RX0, TX0, 25)) rfl ⟨⟨by decide, by decide⟩, by decide⟩ (Or.inl q539) (Or.inl rfl) rfl (fg_nil))) 39 rfl ?_
  refine oc (y := mt_137) (pc := 39) (ok_getfield dX0_days_39 (fg (own := "GardenChess") (idx := 345) (g := 2) (k := 5) (r := (RX1, TX1, 10)) rfl ⟨⟨by decide, by decide⟩, by decide⟩ (Or.inr ⟨_, q262⟩) (Or.inl rfl) rfl (fg_nil))) 42 rfl ?_
  refine oc (y := mt_137) (pc := 42) (ok_iconst dX0_days_42 rfl ⟨by decide, by decide⟩) 43 rfl ?_
  refine oc (y := mt_137) (pc := 43) (ok_iaload dX0_days_43) 44 rfl ?_
  refine oc_V (y := mt_137) (pc := 44) (vcons (y := mt_137) (pc := 44) (len := 3) (n := 4) (M := mt_229) (by decide) rfl (Or.inr rfl) rfl (ck_V dX0_days_44 ⟨by decide, by decide, by decide, by decide +kernel⟩ q1577 q1474 q1475 q174 q1476) vnil) (hok0 rfl) (by decide) 47 rfl ?_
  exact oc_iret dX0_days_47 rfl
theorem ok_137 : ∀ q ∈ pr_137, okL gmt mt_137 q.1 q.2 := pk_c o_137_0 (pk_c o_137_17 (pk_n))
theorem o_138_0 : okL gmt mt_138 0 b_138_0 := by
  refine oc (y := mt_138) (pc := 0) (ok_aload_n dX0_chance_0) 1 rfl ?_
  refine oc (y := mt_138) (pc := 1) (ok_iload_n dX0_chance_1) 2 rfl ?_
  refine oc (y := mt_138) (pc := 2) (ok_iconst dX0_chance_2 rfl ⟨by decide, by decide⟩) 3 rfl ?_
  refine oc (y := mt_138) (pc := 3) (ok_bipush dX0_chance_3 (by decide) ⟨by decide, by decide⟩) 5 rfl ?_
  refine oc_V (y := mt_138) (pc := 5) (vcons (y := mt_138) (pc := 5) (len := 3) (n := 4) (M := mt_117) (by decide) rfl (Or.inr rfl) rfl (ck_V dX0_chance_5 ⟨by decide, by decide, by decide, by decide +kernel⟩ q1465 q1467 qs42 q162 q1468) vnil) (hok0 rfl) (by decide) 8 rfl ?_
  refine oc_if dX0_chance_8 ⟨by decide, by decide⟩ 11 rfl ?_
  refine oc (y := mt_138) (pc := 11) (ok_aload_n dX0_chance_11) 12 rfl ?_
  refine oc (y := mt_138) (pc := 12) (ok_iconst dX0_chance_12 rfl ⟨by decide, by decide⟩) 13 rfl ?_
  refine oc_V (y := mt_138) (pc := 13) (vcons (y := mt_138) (pc := 13) (len := 3) (n := 2) (M := mt_85) (by decide) rfl (Or.inr rfl) rfl (ck_V dX0_chance_13 ⟨by decide, by decide, by decide, by decide +kernel⟩ q623 q625 qs4 q162 q626) vnil) (hok0 rfl) (by decide) 16 rfl ?_
  exact oc_iret dX0_chance_16 rfl
theorem o_138_17 : okL gmt mt_138 17 b_138_17 := by
  refine oc (y := mt_138) (pc := 17) (ok_aload_n dX0_chance_17) 18 rfl ?_
  refine oc_V (y := mt_138) (pc := 18) (vcons (y := mt_138) (pc := 18) (len := 3) (n := 1) (M := mt_135) (by decide) rfl (Or.inr rfl) rfl (ck_V dX0_chance_18 ⟨by decide, by decide, by decide, by decide +kernel⟩ q1619 q1621 qs50 q162 q1622) vnil) (hok0 rfl) (by decide) 21 rfl ?_
  refine oc (y := mt_138) (pc := 21) (ok_iconst dX0_chance_21 rfl ⟨by decide, by decide⟩) 22 rfl ?_
  refine oc (y := mt_138) (pc := 22) (ok_istore_n dX0_chance_22 (by decide)) 23 rfl ?_
  refine oc (y := mt_138) (pc := 23) (ok_iconst dX0_chance_23 rfl ⟨by decide, by decide⟩) 24 rfl ?_
  refine oc (y := mt_138) (pc := 24) (ok_istore_n dX0_chance_24 (by decide)) 25 rfl ?_
  exact oc_fall rfl
theorem o_138_25 : okL gmt mt_138 25 b_138_25 := by
  refine oc (y := mt_138) (pc := 25) (ok_iload_n dX0_chance_25) 26 rfl ?_
  refine oc (y := mt_138) (pc := 26) (ok_iload_n dX0_chance_26) 27 rfl ?_
  refine oc_icmp dX0_chance_27 ⟨by decide, by decide⟩ 30 rfl ?_
  refine oc (y := mt_138) (pc := 30) (ok_iconst dX0_chance_30 rfl ⟨by decide, by decide⟩) 31 rfl ?_
  refine oc (y := mt_138) (pc := 31) (ok_istore dX0_chance_31 (by decide)) 33 rfl ?_
  refine oc (y := mt_138) (pc := 33) (ok_aload_n dX0_chance_33) 34 rfl ?_
  refine oc (y := mt_138) (pc := 34) (ok_getfield dX0_chance_34 (fg (own := "GardenChess") (idx := 83) (g := 1) (k := 12) (r := (RX0, TX0, 25)) rfl ⟨⟨by decide, by decide⟩, by decide⟩ (Or.inl q555) (Or.inl rfl) rfl (fg_nil))) 37 rfl ?_
  refine oc_V (y := mt_138) (pc := 37) (vcons (y := mt_138) (pc := 37) (len := 3) (n := 1) (M := mt_214) (by decide) rfl (Or.inr rfl) rfl (ck_V dX0_chance_37 ⟨by decide, by decide, by decide, by decide +kernel⟩ q1295 q1296 q1297 q174 q1298) vnil) (hok0 rfl) (by decide) 40 rfl ?_
  refine oc_if dX0_chance_40 ⟨by decide, by decide⟩ 43 rfl ?_
  refine oc (y := mt_138) (pc := 43) (ok_aload_n dX0_chance_43) 44 rfl ?_
  refine oc (y := mt_138) (pc := 44) (ok_bipush dX0_chance_44 (by decide) ⟨by decide, by decide⟩) 46 rfl ?_
  refine oc_V (y := mt_138) (pc := 46) (vcons (y := mt_138) (pc := 46) (len := 3) (n := 2) (M := mt_139) (by decide) rfl (Or.inr rfl) rfl (ck_V dX0_chance_46 ⟨by decide, by decide, by decide, by decide +kernel⟩ q1636 q1638 qs51 q162 q1639) vnil) (hok0 rfl) (by decide) 49 rfl ?_
  refine oc (y := mt_138) (pc := 49) (ok_aload_n dX0_chance_49) 50 rfl ?_
  refine oc (y := mt_138) (pc := 50) (ok_getfield dX0_chance_50 (fg (own := "GardenChess") (idx := 31) (g := 1) (k := 0) (r := (RX0, TX0, 25)) rfl ⟨⟨by decide, by decide⟩, by decide⟩ (Or.inl q539) (Or.inl rfl) rfl (fg_nil))) 53 rfl ?_
  refine oc (y := mt_138) (pc := 53) (ok_getfield dX0_chance_53 (fg (own := "GardenChess") (idx := 384) (g := 2) (k := 4) (r := (RX1, TX1, 10)) rfl ⟨⟨by decide, by decide⟩, by decide⟩ (Or.inr ⟨_, q258⟩) (Or.inl rfl) rfl (fg_nil))) 56 rfl ?_
  refine oc_icmp dX0_chance_56 ⟨by decide, by decide⟩ 59 rfl ?_
  refine oc (y := mt_138) (pc := 59) (ok_iinc dX0_chance_59 (by decide)) 62 rfl ?_
  refine oc (y := mt_138) (pc := 62) (ok_aload_n dX0_chance_62) 63 rfl ?_
  refine oc (y := mt_138) (pc := 63) (ok_aload_n dX0_chance_63) 64 rfl ?_
  refine oc_V (y := mt_138) (pc := 64) (vcons (y := mt_138) (pc := 64) (len := 3) (n := 1) (M := mt_108) (by decide) rfl (Or.inr rfl) rfl (ck_V dX0_chance_64 ⟨by decide, by decide, by decide, by decide +kernel⟩ q1388 q1390 qs38 q162 q1391) vnil) (hok0 rfl) (by decide) 67 rfl ?_
  refine oc_V (y := mt_138) (pc := 67) (vcons (y := mt_138) (pc := 67) (len := 3) (n := 2) (M := mt_139) (by decide) rfl (Or.inr rfl) rfl (ck_V dX0_chance_67 ⟨by decide, by decide, by decide, by decide +kernel⟩ q1636 q1638 qs51 q162 q1639) vnil) (hok0 rfl) (by decide) 70 rfl ?_
  refine oc (y := mt_138) (pc := 70) (ok_istore dX0_chance_70 (by decide)) 72 rfl ?_
  exact oc_goto dX0_chance_72 ⟨by decide, by decide⟩
theorem o_138_75 : okL gmt mt_138 75 b_138_75 := by
  refine oc (y := mt_138) (pc := 75) (ok_aload_n dX0_chance_75) 76 rfl ?_
  refine oc (y := mt_138) (pc := 76) (ok_getfield dX0_chance_76 (fg (own := "GardenChess") (idx := 83) (g := 1) (k := 12) (r := (RX0, TX0, 25)) rfl ⟨⟨by decide, by decide⟩, by decide⟩ (Or.inl q555) (Or.inl rfl) rfl (fg_nil))) 79 rfl ?_
  refine oc (y := mt_138) (pc := 79) (ok_aload_n dX0_chance_79) 80 rfl ?_
  refine oc (y := mt_138) (pc := 80) (ok_getfield dX0_chance_80 (fg (own := "GardenChess") (idx := 31) (g := 1) (k := 0) (r := (RX0, TX0, 25)) rfl ⟨⟨by decide, by decide⟩, by decide⟩ (Or.inl q539) (Or.inl rfl) rfl (fg_nil))) 83 rfl ?_
  refine oc (y := mt_138) (pc := 83) (ok_getfield dX0_chance_83 (fg (own := "GardenChess") (idx := 345) (g := 2) (k := 5) (r := (RX1, TX1, 10)) rfl ⟨⟨by decide, by decide⟩, by decide⟩ (Or.inr ⟨_, q262⟩) (Or.inl rfl) rfl (fg_nil))) 86 rfl ?_
  refine oc (y := mt_138) (pc := 86) (ok_aload_n dX0_chance_86) 87 rfl ?_
  refine oc (y := mt_138) (pc := 87) (ok_getfield dX0_chance_87 (fg (own := "GardenChess") (idx := 83) (g := 1) (k := 12) (r := (RX0, TX0, 25)) rfl ⟨⟨by decide, by decide⟩, by decide⟩ (Or.inl q555) (Or.inl rfl) rfl (fg_nil))) 90 rfl ?_
  refine oc (y := mt_138) (pc := 90) (ok_getfield dX0_chance_90 (fg (own := "GardenChess") (idx := 208) (g := 8) (k := 1) (r := (RX6, TX6, 12)) rfl ⟨⟨by decide, by decide⟩, by decide⟩ (Or.inr ⟨_, q448⟩) (Or.inl rfl) rfl (fg_nil))) 93 rfl ?_
  refine oc (y := mt_138) (pc := 93) (ok_iaload dX0_chance_93) 94 rfl ?_
  refine oc_V (y := mt_138) (pc := 94) (vcons (y := mt_138) (pc := 94) (len := 3) (n := 2) (M := mt_227) (by decide) rfl (Or.inr rfl) rfl (ck_V dX0_chance_94 ⟨by decide, by decide, by decide, by decide +kernel⟩ q1442 q1443 q1444 q174 q1445) vnil) (hok0 rfl) (by decide) 97 rfl ?_
  refine oc (y := mt_138) (pc := 97) (ok_istore dX0_chance_97 (by decide)) 99 rfl ?_
  exact oc_fall rfl
theorem o_138_99 : okL gmt mt_138 99 b_138_99 := by
  refine oc (y := mt_138) (pc := 99) (ok_aload_n dX0_chance_99) 100 rfl ?_
  refine oc (y := mt_138) (pc := 100) (ok_getfield dX0_chance_100 (fg (own := "GardenChess") (idx := 83) (g := 1) (k := 12) (r := (RX0, TX0, 25)) rfl ⟨⟨by decide, by decide⟩, by decide⟩ (Or.inl q555) (Or.inl rfl) rfl (fg_nil))) 103 rfl ?_
  refine oc (y := mt_138) (pc := 103) (ok_iload dX0_chance_103) 105 rfl ?_
  refine oc_V (y := mt_138) (pc := 105) (vcons (y := mt_138) (pc := 105) (len := 3) (n := 2) (M := mt_230) (by decide) rfl (Or.inr rfl) rfl (ck_V dX0_chance_105 ⟨by decide, by decide, by decide, by decide +kernel⟩ q1566 q1479 q1480 q174 q1481) vnil) (hok0 rfl) (by decide) 108 rfl ?_
  refine oc (y := mt_138) (pc := 108) (ok_pop dX0_chance_108) 109 rfl ?_
  refine oc (y := mt_138) (pc := 109) (ok_iinc dX0_chance_109 (by decide)) 112 rfl ?_
  exact oc_goto dX0_chance_112 ⟨by decide, by decide⟩
theorem o_138_115 : okL gmt mt_138 115 b_138_115 := by
  refine oc (y := mt_138) (pc := 115) (ok_iload_n dX0_chance_115) 116 rfl ?_
  exact oc_iret dX0_chance_116 rfl
theorem ok_138 : ∀ q ∈ pr_138, okL gmt mt_138 q.1 q.2 := pk_c o_138_0 (pk_c o_138_17 (pk_c o_138_25 (pk_c o_138_75 (pk_c o_138_99 (pk_c o_138_115 (pk_n))))))
theorem o_139_0 : okL gmt mt_139 0 b_139_0 := by
  refine oc (y := mt_139) (pc := 0) (ok_aload_n dX0_draw_0) 1 rfl ?_
  refine oc (y := mt_139) (pc := 1) (ok_ldc2 dX0_draw_1 ⟨by decide, by decide⟩ (show Cond.constantLong _ _ (Int64.ofInt 1103515245) ∈ lw_all from q1640)) 4 rfl ?_
  refine oc (y := mt_139) (pc := 4) (ok_aload_n dX0_draw_4) 5 rfl ?_
  refine oc (y := mt_139) (pc := 5) (ok_getfield dX0_draw_5 (fg (own := "GardenChess") (idx := 110) (g := 1) (k := 21) (r := (RX0, TX0, 25)) rfl ⟨⟨by decide, by decide⟩, by decide⟩ (Or.inl q564) (Or.inl rfl) rfl (fg_nil))) 8 rfl ?_
  refine oc (y := mt_139) (pc := 8) (ok_lmul dX0_draw_8) 9 rfl ?_
  refine oc (y := mt_139) (pc := 9) (ok_ldc2 dX0_draw_9 ⟨by decide, by decide⟩ (show Cond.constantLong _ _ (Int64.ofInt 12345) ∈ lw_all from q1641)) 12 rfl ?_
  refine oc (y := mt_139) (pc := 12) (ok_ladd dX0_draw_12) 13 rfl ?_
  refine oc (y := mt_139) (pc := 13) (ok_ldc2 dX0_draw_13 ⟨by decide, by decide⟩ (show Cond.constantLong _ _ (Int64.ofInt 2147483648) ∈ lw_all from q1642)) 16 rfl ?_
  refine oc (y := mt_139) (pc := 16) (ok_lrem dX0_draw_16) 17 rfl ?_
  refine oc (y := mt_139) (pc := 17) (ok_putfield dX0_draw_17 (fp (own := "GardenChess") (idx := 110) (g := 1) (k := 21) (r := (RX0, TX0, 25)) rfl ⟨⟨by decide, by decide⟩, by decide⟩ (Or.inl q564) (Or.inl rfl) rfl (Or.inl rfl) (fp_nil))) 20 rfl ?_
  refine oc (y := mt_139) (pc := 20) (ok_aload_n dX0_draw_20) 21 rfl ?_
  refine oc (y := mt_139) (pc := 21) (ok_getfield dX0_draw_21 (fg (own := "GardenChess") (idx := 110) (g := 1) (k := 21) (r := (RX0, TX0, 25)) rfl ⟨⟨by decide, by decide⟩, by decide⟩ (Or.inl q564) (Or.inl rfl) rfl (fg_nil))) 24 rfl ?_
  refine oc (y := mt_139) (pc := 24) (ok_ldc2 dX0_draw_24 ⟨by decide, by decide⟩ (show Cond.constantLong _ _ (Int64.ofInt 64) ∈ lw_all from q1643)) 27 rfl ?_
  refine oc (y := mt_139) (pc := 27) (ok_ldiv dX0_draw_27) 28 rfl ?_
  refine oc (y := mt_139) (pc := 28) (ok_iload_n dX0_draw_28) 29 rfl ?_
  refine oc (y := mt_139) (pc := 29) (ok_i2l dX0_draw_29) 30 rfl ?_
  refine oc (y := mt_139) (pc := 30) (ok_lrem dX0_draw_30) 31 rfl ?_
  refine oc (y := mt_139) (pc := 31) (ok_l2i dX0_draw_31) 32 rfl ?_
  exact oc_iret dX0_draw_32 rfl
theorem ok_139 : ∀ q ∈ pr_139, okL gmt mt_139 q.1 q.2 := pk_c o_139_0 (pk_n)
theorem o_140_0 : okL gmt mt_140 0 b_140_0 := by
  refine oc (y := mt_140) (pc := 0) (ok_iload_n dX0_seed_0) 1 rfl ?_
  refine oc_if dX0_seed_1 ⟨by decide, by decide⟩ 4 rfl ?_
  refine oc (y := mt_140) (pc := 4) (ok_aload_n dX0_seed_4) 5 rfl ?_
  refine oc (y := mt_140) (pc := 5) (ok_iconst dX0_seed_5 rfl ⟨by decide, by decide⟩) 6 rfl ?_
  refine oc_V (y := mt_140) (pc := 6) (vcons (y := mt_140) (pc := 6) (len := 3) (n := 2) (M := mt_85) (by decide) rfl (Or.inr rfl) rfl (ck_V dX0_seed_6 ⟨by decide, by decide, by decide, by decide +kernel⟩ q623 q625 qs4 q162 q626) vnil) (hok0 rfl) (by decide) 9 rfl ?_
  refine oc_if dX0_seed_9 ⟨by decide, by decide⟩ 12 rfl ?_
  refine oc (y := mt_140) (pc := 12) (ok_iconst dX0_seed_12 rfl ⟨by decide, by decide⟩) 13 rfl ?_
  exact oc_goto dX0_seed_13 ⟨by decide, by decide⟩
theorem o_140_16 : okL gmt mt_140 16 b_140_16 := by
  refine oc (y := mt_140) (pc := 16) (ok_iconst dX0_seed_16 rfl ⟨by decide, by decide⟩) 17 rfl ?_
  exact oc_fall rfl
theorem o_140_17 : okL gmt mt_140 17 b_140_17 := by
  exact oc_zret dX0_seed_17 rfl
theorem o_140_18 : okL gmt mt_140 18 b_140_18 := by
  refine oc (y := mt_140) (pc := 18) (ok_aload_n dX0_seed_18) 19 rfl ?_
  refine oc (y := mt_140) (pc := 19) (ok_iload_n dX0_seed_19) 20 rfl ?_
  refine oc (y := mt_140) (pc := 20) (ok_i2l dX0_seed_20) 21 rfl ?_
  refine oc (y := mt_140) (pc := 21) (ok_putfield dX0_seed_21 (fp (own := "GardenChess") (idx := 110) (g := 1) (k := 21) (r := (RX0, TX0, 25)) rfl ⟨⟨by decide, by decide⟩, by decide⟩ (Or.inl q564) (Or.inl rfl) rfl (Or.inl rfl) (fp_nil))) 24 rfl ?_
  refine oc (y := mt_140) (pc := 24) (ok_iconst dX0_seed_24 rfl ⟨by decide, by decide⟩) 25 rfl ?_
  exact oc_zret dX0_seed_25 rfl
theorem ok_140 : ∀ q ∈ pr_140, okL gmt mt_140 q.1 q.2 := pk_c o_140_0 (pk_c o_140_16 (pk_c o_140_17 (pk_c o_140_18 (pk_n))))
theorem hk_141_1 : HOk mt_141 1 0 := ⟨fun _ => by decide, fun h => absurd h (by decide)⟩
theorem hk_141_6 : HOk mt_141 6 0 := ⟨fun _ => by decide, fun h => absurd h (by decide)⟩
theorem hk_141_31 : HOk mt_141 31 38 := ⟨fun h => absurd h (by decide), fun _ => ⟨⟨26, 35, 38, 139⟩, rfl, rfl, by decide, rfl, q639, q304⟩⟩
theorem hk_141_69 : HOk mt_141 69 0 := ⟨fun _ => by decide, fun h => absurd h (by decide)⟩
theorem hk_141_188 : HOk mt_141 188 0 := ⟨fun _ => by decide, fun h => absurd h (by decide)⟩
theorem hk_141_210 : HOk mt_141 210 0 := ⟨fun _ => by decide, fun h => absurd h (by decide)⟩
theorem hk_141_232 : HOk mt_141 232 0 := ⟨fun _ => by decide, fun h => absurd h (by decide)⟩
theorem hk_141_257 : HOk mt_141 257 0 := ⟨fun _ => by decide, fun h => absurd h (by decide)⟩
theorem hk_141_271 : HOk mt_141 271 0 := ⟨fun _ => by decide, fun h => absurd h (by decide)⟩
theorem hk_141_288 : HOk mt_141 288 0 := ⟨fun _ => by decide, fun h => absurd h (by decide)⟩
theorem o_141_0 : okL gmt mt_141 0 b_141_0 := by
  refine oc (y := mt_141) (pc := 0) (ok_aload_n dX0_ask_0) 1 rfl ?_
  refine oc_V (y := mt_141) (pc := 1) (vcons (y := mt_141) (pc := 1) (len := 3) (n := 1) (M := mt_89) (by decide) rfl (Or.inr rfl) rfl (ck_V dX0_ask_1 ⟨by decide, by decide, by decide, by decide +kernel⟩ q640 q642 qs6 q162 q643) vnil) (hk_141_1) (by decide) 4 rfl ?_
  refine oc (y := mt_141) (pc := 4) (ok_istore_n dX0_ask_4 (by decide)) 5 rfl ?_
  refine oc (y := mt_141) (pc := 5) (ok_aload_n dX0_ask_5) 6 rfl ?_
  refine oc_V (y := mt_141) (pc := 6) (vcons (y := mt_141) (pc := 6) (len := 3) (n := 1) (M := mt_98) (by decide) rfl (Or.inr rfl) rfl (ck_V dX0_ask_6 ⟨by decide, by decide, by decide, by decide +kernel⟩ q1291 q1293 qs34 q162 q1294) vnil) (hk_141_6) (by decide) 9 rfl ?_
  refine oc_if dX0_ask_9 ⟨by decide, by decide⟩ 12 rfl ?_
  refine oc (y := mt_141) (pc := 12) (ok_ldc2 dX0_ask_12 ⟨by decide, by decide⟩ (show Cond.constantLong _ _ (Int64.ofInt (-1000000000000000)) ∈ lw_all from q1417)) 15 rfl ?_
  exact oc_lret dX0_ask_15 rfl
theorem o_141_16 : okL gmt mt_141 16 b_141_16 := by
  refine oc (y := mt_141) (pc := 16) (ok_aload_n dX0_ask_16) 17 rfl ?_
  refine oc (y := mt_141) (pc := 17) (ok_iconst dX0_ask_17 rfl ⟨by decide, by decide⟩) 18 rfl ?_
  refine oc (y := mt_141) (pc := 18) (ok_putfield dX0_ask_18 (fp (own := "GardenChess") (idx := 128) (g := 1) (k := 3) (r := (RX0, TX0, 25)) rfl ⟨⟨by decide, by decide⟩, by decide⟩ (Or.inl q543) (Or.inl rfl) rfl (Or.inl rfl) (fp_nil))) 21 rfl ?_
  refine oc (y := mt_141) (pc := 21) (ok_aload_n dX0_ask_21) 22 rfl ?_
  refine oc (y := mt_141) (pc := 22) (ok_iconst dX0_ask_22 rfl ⟨by decide, by decide⟩) 23 rfl ?_
  refine oc (y := mt_141) (pc := 23) (ok_putfield dX0_ask_23 (fp (own := "GardenChess") (idx := 39) (g := 1) (k := 4) (r := (RX0, TX0, 25)) rfl ⟨⟨by decide, by decide⟩, by decide⟩ (Or.inl q544) (Or.inl rfl) rfl (Or.inl rfl) (fp_nil))) 26 rfl ?_
  refine oc (y := mt_141) (pc := 26) (ok_aload_n dX0_ask_26) 27 rfl ?_
  refine oc (y := mt_141) (pc := 27) (ok_getfield dX0_ask_27 (fg (own := "GardenChess") (idx := 48) (g := 1) (k := 5) (r := (RX0, TX0, 25)) rfl ⟨⟨by decide, by decide⟩, by decide⟩ (Or.inl q545) (Or.inl rfl) rfl (fg_nil))) 30 rfl ?_
  refine oc (y := mt_141) (pc := 30) (ok_iload_n dX0_ask_30) 31 rfl ?_
  refine oc_V (y := mt_141) (pc := 31) (vcons (y := mt_141) (pc := 31) (len := 3) (n := 2) (M := mt_195) (by decide) rfl (Or.inr rfl) rfl (ck_V dX0_ask_31 ⟨by decide, by decide, by decide, by decide +kernel⟩ q1652 q1653 q1654 q167 q1655) vnil) (hk_141_31) (by decide) 34 rfl ?_
  refine oc (y := mt_141) (pc := 34) (ok_astore_n dX0_ask_34 (by decide)) 35 rfl ?_
  exact oc_goto dX0_ask_35 ⟨by decide, by decide⟩
theorem o_141_38 : okL gmt mt_141 38 b_141_38 := by
  refine oc (y := mt_141) (pc := 38) (ok_astore_n dX0_ask_38 (by decide)) 39 rfl ?_
  refine oc (y := mt_141) (pc := 39) (ok_aload_n dX0_ask_39) 40 rfl ?_
  refine oc (y := mt_141) (pc := 40) (ok_aload_n dX0_ask_40) 41 rfl ?_
  refine oc (y := mt_141) (pc := 41) (ok_getfield dX0_ask_41 (fg (own := "GardenChess") (idx := 141) (g := 5) (k := 6) (r := (RX3, TX3, 8)) rfl ⟨⟨by decide, by decide⟩, by decide⟩ (Or.inr ⟨_, q354⟩) (Or.inl rfl) rfl (fg_nil))) 44 rfl ?_
  refine oc (y := mt_141) (pc := 44) (ok_putfield dX0_ask_44 (fp (own := "GardenChess") (idx := 128) (g := 1) (k := 3) (r := (RX0, TX0, 25)) rfl ⟨⟨by decide, by decide⟩, by decide⟩ (Or.inl q543) (Or.inl rfl) rfl (Or.inl rfl) (fp_nil))) 47 rfl ?_
  refine oc (y := mt_141) (pc := 47) (ok_aload_n dX0_ask_47) 48 rfl ?_
  refine oc (y := mt_141) (pc := 48) (ok_aload_n dX0_ask_48) 49 rfl ?_
  refine oc (y := mt_141) (pc := 49) (ok_getfield dX0_ask_49 (fg (own := "GardenChess") (idx := 144) (g := 5) (k := 7) (r := (RX3, TX3, 8)) rfl ⟨⟨by decide, by decide⟩, by decide⟩ (Or.inr ⟨_, q356⟩) (Or.inl rfl) rfl (fg_nil))) 52 rfl ?_
  refine oc (y := mt_141) (pc := 52) (ok_putfield dX0_ask_52 (fp (own := "GardenChess") (idx := 39) (g := 1) (k := 4) (r := (RX0, TX0, 25)) rfl ⟨⟨by decide, by decide⟩, by decide⟩ (Or.inl q544) (Or.inl rfl) rfl (Or.inl rfl) (fp_nil))) 55 rfl ?_
  refine oc (y := mt_141) (pc := 55) (ok_ldc2 dX0_ask_55 ⟨by decide, by decide⟩ (show Cond.constantLong _ _ (Int64.ofInt (-1000000000000000)) ∈ lw_all from q1417)) 58 rfl ?_
  exact oc_lret dX0_ask_58 rfl
theorem o_141_59 : okL gmt mt_141 59 b_141_59 := by
  refine oc (y := mt_141) (pc := 59) (ok_aload_n dX0_ask_59) 60 rfl ?_
  refine oc (y := mt_141) (pc := 60) (ok_iconst dX0_ask_60 rfl ⟨by decide, by decide⟩) 61 rfl ?_
  refine oc (y := mt_141) (pc := 61) (ok_putfield dX0_ask_61 (fp (own := "GardenChess") (idx := 387) (g := 1) (k := 22) (r := (RX0, TX0, 25)) rfl ⟨⟨by decide, by decide⟩, by decide⟩ (Or.inl q565) (Or.inl rfl) rfl (Or.inl rfl) (fp_nil))) 64 rfl ?_
  exact oc_fall rfl
theorem o_141_64 : okL gmt mt_141 64 b_141_64 := by
  refine oc (y := mt_141) (pc := 64) (ok_aload_n dX0_ask_64) 65 rfl ?_
  refine oc (y := mt_141) (pc := 65) (ok_getfield dX0_ask_65 (fg (own := "GardenChess") (idx := 387) (g := 1) (k := 22) (r := (RX0, TX0, 25)) rfl ⟨⟨by decide, by decide⟩, by decide⟩ (Or.inl q565) (Or.inl rfl) rfl (fg_nil))) 68 rfl ?_
  refine oc (y := mt_141) (pc := 68) (ok_aload_n dX0_ask_68) 69 rfl ?_
  refine oc_V (y := mt_141) (pc := 69) (vcons (y := mt_141) (pc := 69) (len := 3) (n := 1) (M := mt_81) (by decide) rfl (Or.inr rfl) rfl (ck_V dX0_ask_69 ⟨by decide, by decide, by decide, by decide +kernel⟩ q1289 q497 qs1 q162 q498) vnil) (hk_141_69) (by decide) 72 rfl ?_
  refine oc_icmp dX0_ask_72 ⟨by decide, by decide⟩ 75 rfl ?_
  refine oc (y := mt_141) (pc := 75) (ok_aload_n dX0_ask_75) 76 rfl ?_
  refine oc (y := mt_141) (pc := 76) (ok_getfield dX0_ask_76 (fg (own := "GardenChess") (idx := 83) (g := 1) (k := 12) (r := (RX0, TX0, 25)) rfl ⟨⟨by decide, by decide⟩, by decide⟩ (Or.inl q555) (Or.inl rfl) rfl (fg_nil))) 79 rfl ?_
  refine oc (y := mt_141) (pc := 79) (ok_getfield dX0_ask_79 (fg (own := "GardenChess") (idx := 249) (g := 8) (k := 3) (r := (RX6, TX6, 12)) rfl ⟨⟨by decide, by decide⟩, by decide⟩ (Or.inr ⟨_, q452⟩) (Or.inl rfl) rfl (fg_nil))) 82 rfl ?_
  refine oc (y := mt_141) (pc := 82) (ok_aload_n dX0_ask_82) 83 rfl ?_
  refine oc (y := mt_141) (pc := 83) (ok_getfield dX0_ask_83 (fg (own := "GardenChess") (idx := 387) (g := 1) (k := 22) (r := (RX0, TX0, 25)) rfl ⟨⟨by decide, by decide⟩, by decide⟩ (Or.inl q565) (Or.inl rfl) rfl (fg_nil))) 86 rfl ?_
  refine oc (y := mt_141) (pc := 86) (ok_iaload dX0_ask_86) 87 rfl ?_
  refine oc (y := mt_141) (pc := 87) (ok_iconst dX0_ask_87 rfl ⟨by decide, by decide⟩) 88 rfl ?_
  refine oc_icmp dX0_ask_88 ⟨by decide, by decide⟩ 91 rfl ?_
  exact oc_goto dX0_ask_91 ⟨by decide, by decide⟩
theorem o_141_94 : okL gmt mt_141 94 b_141_94 := by
  refine oc (y := mt_141) (pc := 94) (ok_aload_n dX0_ask_94) 95 rfl ?_
  refine oc (y := mt_141) (pc := 95) (ok_getfield dX0_ask_95 (fg (own := "GardenChess") (idx := 59) (g := 1) (k := 7) (r := (RX0, TX0, 25)) rfl ⟨⟨by decide, by decide⟩, by decide⟩ (Or.inl q548) (Or.inl rfl) rfl (fg_nil))) 98 rfl ?_
  refine oc (y := mt_141) (pc := 98) (ok_getfield dX0_ask_98 (fg (own := "GardenChess") (idx := 398) (g := 6) (k := 0) (r := (RX4, TX4, 1)) rfl ⟨⟨by decide, by decide⟩, by decide⟩ (Or.inr ⟨_, q409⟩) (Or.inl rfl) rfl (fg_nil))) 101 rfl ?_
  refine oc (y := mt_141) (pc := 101) (ok_iconst dX0_ask_101 rfl ⟨by decide, by decide⟩) 102 rfl ?_
  refine oc (y := mt_141) (pc := 102) (ok_aload_n dX0_ask_102) 103 rfl ?_
  refine oc (y := mt_141) (pc := 103) (ok_getfield dX0_ask_103 (fg (own := "GardenChess") (idx := 83) (g := 1) (k := 12) (r := (RX0, TX0, 25)) rfl ⟨⟨by decide, by decide⟩, by decide⟩ (Or.inl q555) (Or.inl rfl) rfl (fg_nil))) 106 rfl ?_
  refine oc (y := mt_141) (pc := 106) (ok_getfield dX0_ask_106 (fg (own := "GardenChess") (idx := 205) (g := 8) (k := 0) (r := (RX6, TX6, 12)) rfl ⟨⟨by decide, by decide⟩, by decide⟩ (Or.inr ⟨_, q446⟩) (Or.inl rfl) rfl (fg_nil))) 109 rfl ?_
  refine oc (y := mt_141) (pc := 109) (ok_i2l dX0_ask_109) 110 rfl ?_
  refine oc (y := mt_141) (pc := 110) (ok_lastore dX0_ask_110) 111 rfl ?_
  refine oc (y := mt_141) (pc := 111) (ok_aload_n dX0_ask_111) 112 rfl ?_
  refine oc (y := mt_141) (pc := 112) (ok_getfield dX0_ask_112 (fg (own := "GardenChess") (idx := 59) (g := 1) (k := 7) (r := (RX0, TX0, 25)) rfl ⟨⟨by decide, by decide⟩, by decide⟩ (Or.inl q548) (Or.inl rfl) rfl (fg_nil))) 115 rfl ?_
  refine oc (y := mt_141) (pc := 115) (ok_getfield dX0_ask_115 (fg (own := "GardenChess") (idx := 398) (g := 6) (k := 0) (r := (RX4, TX4, 1)) rfl ⟨⟨by decide, by decide⟩, by decide⟩ (Or.inr ⟨_, q409⟩) (Or.inl rfl) rfl (fg_nil))) 118 rfl ?_
  refine oc (y := mt_141) (pc := 118) (ok_iconst dX0_ask_118 rfl ⟨by decide, by decide⟩) 119 rfl ?_
  refine oc (y := mt_141) (pc := 119) (ok_aload_n dX0_ask_119) 120 rfl ?_
  refine oc (y := mt_141) (pc := 120) (ok_getfield dX0_ask_120 (fg (own := "GardenChess") (idx := 387) (g := 1) (k := 22) (r := (RX0, TX0, 25)) rfl ⟨⟨by decide, by decide⟩, by decide⟩ (Or.inl q565) (Or.inl rfl) rfl (fg_nil))) 123 rfl ?_
  refine oc (y := mt_141) (pc := 123) (ok_i2l dX0_ask_123) 124 rfl ?_
  refine oc (y := mt_141) (pc := 124) (ok_lastore dX0_ask_124) 125 rfl ?_
  refine oc (y := mt_141) (pc := 125) (ok_aload_n dX0_ask_125) 126 rfl ?_
  refine oc (y := mt_141) (pc := 126) (ok_getfield dX0_ask_126 (fg (own := "GardenChess") (idx := 59) (g := 1) (k := 7) (r := (RX0, TX0, 25)) rfl ⟨⟨by decide, by decide⟩, by decide⟩ (Or.inl q548) (Or.inl rfl) rfl (fg_nil))) 129 rfl ?_
  refine oc (y := mt_141) (pc := 129) (ok_getfield dX0_ask_129 (fg (own := "GardenChess") (idx := 398) (g := 6) (k := 0) (r := (RX4, TX4, 1)) rfl ⟨⟨by decide, by decide⟩, by decide⟩ (Or.inr ⟨_, q409⟩) (Or.inl rfl) rfl (fg_nil))) 132 rfl ?_
  refine oc (y := mt_141) (pc := 132) (ok_iconst dX0_ask_132 rfl ⟨by decide, by decide⟩) 133 rfl ?_
  refine oc (y := mt_141) (pc := 133) (ok_aload_n dX0_ask_133) 134 rfl ?_
  refine oc (y := mt_141) (pc := 134) (ok_getfield dX0_ask_134 (fg (own := "GardenChess") (idx := 83) (g := 1) (k := 12) (r := (RX0, TX0, 25)) rfl ⟨⟨by decide, by decide⟩, by decide⟩ (Or.inl q555) (Or.inl rfl) rfl (fg_nil))) 137 rfl ?_
  refine oc (y := mt_141) (pc := 137) (ok_getfield dX0_ask_137 (fg (own := "GardenChess") (idx := 249) (g := 8) (k := 3) (r := (RX6, TX6, 12)) rfl ⟨⟨by decide, by decide⟩, by decide⟩ (Or.inr ⟨_, q452⟩) (Or.inl rfl) rfl (fg_nil))) 140 rfl ?_
  refine oc (y := mt_141) (pc := 140) (ok_aload_n dX0_ask_140) 141 rfl ?_
  refine oc (y := mt_141) (pc := 141) (ok_getfield dX0_ask_141 (fg (own := "GardenChess") (idx := 387) (g := 1) (k := 22) (r := (RX0, TX0, 25)) rfl ⟨⟨by decide, by decide⟩, by decide⟩ (Or.inl q565) (Or.inl rfl) rfl (fg_nil))) 144 rfl ?_
  refine oc (y := mt_141) (pc := 144) (ok_iaload dX0_ask_144) 145 rfl ?_
  refine oc (y := mt_141) (pc := 145) (ok_iconst dX0_ask_145 rfl ⟨by decide, by decide⟩) 146 rfl ?_
  refine oc (y := mt_141) (pc := 146) (ok_irem dX0_ask_146) 147 rfl ?_
  refine oc (y := mt_141) (pc := 147) (ok_i2l dX0_ask_147) 148 rfl ?_
  refine oc (y := mt_141) (pc := 148) (ok_lastore dX0_ask_148) 149 rfl ?_
  refine oc (y := mt_141) (pc := 149) (ok_aload_n dX0_ask_149) 150 rfl ?_
  refine oc (y := mt_141) (pc := 150) (ok_getfield dX0_ask_150 (fg (own := "GardenChess") (idx := 59) (g := 1) (k := 7) (r := (RX0, TX0, 25)) rfl ⟨⟨by decide, by decide⟩, by decide⟩ (Or.inl q548) (Or.inl rfl) rfl (fg_nil))) 153 rfl ?_
  refine oc (y := mt_141) (pc := 153) (ok_getfield dX0_ask_153 (fg (own := "GardenChess") (idx := 398) (g := 6) (k := 0) (r := (RX4, TX4, 1)) rfl ⟨⟨by decide, by decide⟩, by decide⟩ (Or.inr ⟨_, q409⟩) (Or.inl rfl) rfl (fg_nil))) 156 rfl ?_
  refine oc (y := mt_141) (pc := 156) (ok_bipush dX0_ask_156 (by decide) ⟨by decide, by decide⟩) 158 rfl ?_
  refine oc (y := mt_141) (pc := 158) (ok_aload_n dX0_ask_158) 159 rfl ?_
  refine oc (y := mt_141) (pc := 159) (ok_getfield dX0_ask_159 (fg (own := "GardenChess") (idx := 83) (g := 1) (k := 12) (r := (RX0, TX0, 25)) rfl ⟨⟨by decide, by decide⟩, by decide⟩ (Or.inl q555) (Or.inl rfl) rfl (fg_nil))) 162 rfl ?_
  refine oc (y := mt_141) (pc := 162) (ok_getfield dX0_ask_162 (fg (own := "GardenChess") (idx := 249) (g := 8) (k := 3) (r := (RX6, TX6, 12)) rfl ⟨⟨by decide, by decide⟩, by decide⟩ (Or.inr ⟨_, q452⟩) (Or.inl rfl) rfl (fg_nil))) 165 rfl ?_
  refine oc (y := mt_141) (pc := 165) (ok_aload_n dX0_ask_165) 166 rfl ?_
  refine oc (y := mt_141) (pc := 166) (ok_getfield dX0_ask_166 (fg (own := "GardenChess") (idx := 387) (g := 1) (k := 22) (r := (RX0, TX0, 25)) rfl ⟨⟨by decide, by decide⟩, by decide⟩ (Or.inl q565) (Or.inl rfl) rfl (fg_nil))) 169 rfl ?_
  refine oc (y := mt_141) (pc := 169) (ok_iaload dX0_ask_169) 170 rfl ?_
  refine oc (y := mt_141) (pc := 170) (ok_iconst dX0_ask_170 rfl ⟨by decide, by decide⟩) 171 rfl ?_
  refine oc (y := mt_141) (pc := 171) (ok_idiv dX0_ask_171) 172 rfl ?_
  refine oc (y := mt_141) (pc := 172) (ok_i2l dX0_ask_172) 173 rfl ?_
  refine oc (y := mt_141) (pc := 173) (ok_lastore dX0_ask_173) 174 rfl ?_
  refine oc (y := mt_141) (pc := 174) (ok_aload_n dX0_ask_174) 175 rfl ?_
  refine oc (y := mt_141) (pc := 175) (ok_getfield dX0_ask_175 (fg (own := "GardenChess") (idx := 59) (g := 1) (k := 7) (r := (RX0, TX0, 25)) rfl ⟨⟨by decide, by decide⟩, by decide⟩ (Or.inl q548) (Or.inl rfl) rfl (fg_nil))) 178 rfl ?_
  refine oc (y := mt_141) (pc := 178) (ok_getfield dX0_ask_178 (fg (own := "GardenChess") (idx := 398) (g := 6) (k := 0) (r := (RX4, TX4, 1)) rfl ⟨⟨by decide, by decide⟩, by decide⟩ (Or.inr ⟨_, q409⟩) (Or.inl rfl) rfl (fg_nil))) 181 rfl ?_
  exact oc_fall rfl
theorem o_141_181 : okL gmt mt_141 181 b_141_181 := by
  refine oc (y := mt_141) (pc := 181) (ok_bipush dX0_ask_181 (by decide) ⟨by decide, by decide⟩) 183 rfl ?_
  refine oc (y := mt_141) (pc := 183) (ok_aload_n dX0_ask_183) 184 rfl ?_
  refine oc (y := mt_141) (pc := 184) (ok_aload_n dX0_ask_184) 185 rfl ?_
  refine oc (y := mt_141) (pc := 185) (ok_getfield dX0_ask_185 (fg (own := "GardenChess") (idx := 387) (g := 1) (k := 22) (r := (RX0, TX0, 25)) rfl ⟨⟨by decide, by decide⟩, by decide⟩ (Or.inl q565) (Or.inl rfl) rfl (fg_nil))) 188 rfl ?_
  refine oc_V (y := mt_141) (pc := 188) (vcons (y := mt_141) (pc := 188) (len := 3) (n := 2) (M := mt_83) (by decide) rfl (Or.inr rfl) rfl (ck_V dX0_ask_188 ⟨by decide, by decide, by decide, by decide +kernel⟩ q513 q515 qs3 q162 q516) vnil) (hk_141_188) (by decide) 191 rfl ?_
  refine oc (y := mt_141) (pc := 191) (ok_getfield dX0_ask_191 (fg (own := "GardenChess") (idx := 251) (g := 13) (k := 2) (r := (RX10, TX10, 5)) rfl ⟨⟨by decide, by decide⟩, by decide⟩ (Or.inr ⟨_, q1037⟩) (Or.inl rfl) rfl (fg_nil))) 194 rfl ?_
  refine oc (y := mt_141) (pc := 194) (ok_i2l dX0_ask_194) 195 rfl ?_
  refine oc (y := mt_141) (pc := 195) (ok_lastore dX0_ask_195) 196 rfl ?_
  refine oc (y := mt_141) (pc := 196) (ok_aload_n dX0_ask_196) 197 rfl ?_
  refine oc (y := mt_141) (pc := 197) (ok_getfield dX0_ask_197 (fg (own := "GardenChess") (idx := 59) (g := 1) (k := 7) (r := (RX0, TX0, 25)) rfl ⟨⟨by decide, by decide⟩, by decide⟩ (Or.inl q548) (Or.inl rfl) rfl (fg_nil))) 200 rfl ?_
  refine oc (y := mt_141) (pc := 200) (ok_getfield dX0_ask_200 (fg (own := "GardenChess") (idx := 398) (g := 6) (k := 0) (r := (RX4, TX4, 1)) rfl ⟨⟨by decide, by decide⟩, by decide⟩ (Or.inr ⟨_, q409⟩) (Or.inl rfl) rfl (fg_nil))) 203 rfl ?_
  refine oc (y := mt_141) (pc := 203) (ok_bipush dX0_ask_203 (by decide) ⟨by decide, by decide⟩) 205 rfl ?_
  refine oc (y := mt_141) (pc := 205) (ok_aload_n dX0_ask_205) 206 rfl ?_
  refine oc (y := mt_141) (pc := 206) (ok_aload_n dX0_ask_206) 207 rfl ?_
  refine oc (y := mt_141) (pc := 207) (ok_getfield dX0_ask_207 (fg (own := "GardenChess") (idx := 387) (g := 1) (k := 22) (r := (RX0, TX0, 25)) rfl ⟨⟨by decide, by decide⟩, by decide⟩ (Or.inl q565) (Or.inl rfl) rfl (fg_nil))) 210 rfl ?_
  refine oc_V (y := mt_141) (pc := 210) (vcons (y := mt_141) (pc := 210) (len := 3) (n := 2) (M := mt_82) (by decide) rfl (Or.inr rfl) rfl (ck_V dX0_ask_210 ⟨by decide, by decide, by decide, by decide +kernel⟩ q1455 q511 qs2 q162 q512) vnil) (hk_141_210) (by decide) 213 rfl ?_
  refine oc (y := mt_141) (pc := 213) (ok_getfield dX0_ask_213 (fg (own := "GardenChess") (idx := 238) (g := 12) (k := 3) (r := (RX9, TX9, 5)) rfl ⟨⟨by decide, by decide⟩, by decide⟩ (Or.inr ⟨_, q908⟩) (Or.inl rfl) rfl (fg_nil))) 216 rfl ?_
  refine oc (y := mt_141) (pc := 216) (ok_i2l dX0_ask_216) 217 rfl ?_
  refine oc (y := mt_141) (pc := 217) (ok_lastore dX0_ask_217) 218 rfl ?_
  refine oc (y := mt_141) (pc := 218) (ok_aload_n dX0_ask_218) 219 rfl ?_
  refine oc (y := mt_141) (pc := 219) (ok_getfield dX0_ask_219 (fg (own := "GardenChess") (idx := 59) (g := 1) (k := 7) (r := (RX0, TX0, 25)) rfl ⟨⟨by decide, by decide⟩, by decide⟩ (Or.inl q548) (Or.inl rfl) rfl (fg_nil))) 222 rfl ?_
  refine oc (y := mt_141) (pc := 222) (ok_getfield dX0_ask_222 (fg (own := "GardenChess") (idx := 398) (g := 6) (k := 0) (r := (RX4, TX4, 1)) rfl ⟨⟨by decide, by decide⟩, by decide⟩ (Or.inr ⟨_, q409⟩) (Or.inl rfl) rfl (fg_nil))) 225 rfl ?_
  refine oc (y := mt_141) (pc := 225) (ok_bipush dX0_ask_225 (by decide) ⟨by decide, by decide⟩) 227 rfl ?_
  refine oc (y := mt_141) (pc := 227) (ok_aload_n dX0_ask_227) 228 rfl ?_
  refine oc (y := mt_141) (pc := 228) (ok_aload_n dX0_ask_228) 229 rfl ?_
  refine oc (y := mt_141) (pc := 229) (ok_getfield dX0_ask_229 (fg (own := "GardenChess") (idx := 387) (g := 1) (k := 22) (r := (RX0, TX0, 25)) rfl ⟨⟨by decide, by decide⟩, by decide⟩ (Or.inl q565) (Or.inl rfl) rfl (fg_nil))) 232 rfl ?_
  refine oc_V (y := mt_141) (pc := 232) (vcons (y := mt_141) (pc := 232) (len := 3) (n := 2) (M := mt_82) (by decide) rfl (Or.inr rfl) rfl (ck_V dX0_ask_232 ⟨by decide, by decide, by decide, by decide +kernel⟩ q1455 q511 qs2 q162 q512) vnil) (hk_141_232) (by decide) 235 rfl ?_
  refine oc (y := mt_141) (pc := 235) (ok_getfield dX0_ask_235 (fg (own := "GardenChess") (idx := 235) (g := 12) (k := 2) (r := (RX9, TX9, 5)) rfl ⟨⟨by decide, by decide⟩, by decide⟩ (Or.inr ⟨_, q905⟩) (Or.inl rfl) rfl (fg_nil))) 238 rfl ?_
  refine oc (y := mt_141) (pc := 238) (ok_i2l dX0_ask_238) 239 rfl ?_
  refine oc (y := mt_141) (pc := 239) (ok_lastore dX0_ask_239) 240 rfl ?_
  refine oc (y := mt_141) (pc := 240) (ok_aload_n dX0_ask_240) 241 rfl ?_
  refine oc (y := mt_141) (pc := 241) (ok_getfield dX0_ask_241 (fg (own := "GardenChess") (idx := 59) (g := 1) (k := 7) (r := (RX0, TX0, 25)) rfl ⟨⟨by decide, by decide⟩, by decide⟩ (Or.inl q548) (Or.inl rfl) rfl (fg_nil))) 244 rfl ?_
  refine oc (y := mt_141) (pc := 244) (ok_getfield dX0_ask_244 (fg (own := "GardenChess") (idx := 398) (g := 6) (k := 0) (r := (RX4, TX4, 1)) rfl ⟨⟨by decide, by decide⟩, by decide⟩ (Or.inr ⟨_, q409⟩) (Or.inl rfl) rfl (fg_nil))) 247 rfl ?_
  refine oc (y := mt_141) (pc := 247) (ok_bipush dX0_ask_247 (by decide) ⟨by decide, by decide⟩) 249 rfl ?_
  refine oc (y := mt_141) (pc := 249) (ok_aload_n dX0_ask_249) 250 rfl ?_
  refine oc (y := mt_141) (pc := 250) (ok_getfield dX0_ask_250 (fg (own := "GardenChess") (idx := 83) (g := 1) (k := 12) (r := (RX0, TX0, 25)) rfl ⟨⟨by decide, by decide⟩, by decide⟩ (Or.inl q555) (Or.inl rfl) rfl (fg_nil))) 253 rfl ?_
  refine oc (y := mt_141) (pc := 253) (ok_aload_n dX0_ask_253) 254 rfl ?_
  refine oc (y := mt_141) (pc := 254) (ok_getfield dX0_ask_254 (fg (own := "GardenChess") (idx := 387) (g := 1) (k := 22) (r := (RX0, TX0, 25)) rfl ⟨⟨by decide, by decide⟩, by decide⟩ (Or.inl q565) (Or.inl rfl) rfl (fg_nil))) 257 rfl ?_
  refine oc_V (y := mt_141) (pc := 257) (vcons (y := mt_141) (pc := 257) (len := 3) (n := 2) (M := mt_219) (by decide) rfl (Or.inr rfl) rfl (ck_V dX0_ask_257 ⟨by decide, by decide, by decide, by decide +kernel⟩ q1363 q1364 q1365 q174 q1366) vnil) (hk_141_257) (by decide) 260 rfl ?_
  refine oc (y := mt_141) (pc := 260) (ok_i2l dX0_ask_260) 261 rfl ?_
  refine oc (y := mt_141) (pc := 261) (ok_lastore dX0_ask_261) 262 rfl ?_
  refine oc (y := mt_141) (pc := 262) (ok_aload_n dX0_ask_262) 263 rfl ?_
  refine oc (y := mt_141) (pc := 263) (ok_aload_n dX0_ask_263) 264 rfl ?_
  refine oc (y := mt_141) (pc := 264) (ok_getfield dX0_ask_264 (fg (own := "GardenChess") (idx := 387) (g := 1) (k := 22) (r := (RX0, TX0, 25)) rfl ⟨⟨by decide, by decide⟩, by decide⟩ (Or.inl q565) (Or.inl rfl) rfl (fg_nil))) 267 rfl ?_
  refine oc (y := mt_141) (pc := 267) (ok_aload_n dX0_ask_267) 268 rfl ?_
  refine oc (y := mt_141) (pc := 268) (ok_getfield dX0_ask_268 (fg (own := "GardenChess") (idx := 59) (g := 1) (k := 7) (r := (RX0, TX0, 25)) rfl ⟨⟨by decide, by decide⟩, by decide⟩ (Or.inl q548) (Or.inl rfl) rfl (fg_nil))) 271 rfl ?_
  refine oc_V (y := mt_141) (pc := 271) (vcons (y := mt_141) (pc := 271) (len := 3) (n := 3) (M := mt_167) (by decide) rfl (Or.inr rfl) rfl (ck_V dX0_ask_271 ⟨by decide, by decide, by decide, by decide +kernel⟩ q1749 q1750 q1751 q198 q1752) vnil) (hk_141_271) (by decide) 274 rfl ?_
  exact oc_fall rfl
theorem o_141_274 : okL gmt mt_141 274 b_141_274 := by
  refine oc (y := mt_141) (pc := 274) (ok_aload_n dX0_ask_274) 275 rfl ?_
  refine oc (y := mt_141) (pc := 275) (ok_dup dX0_ask_275) 276 rfl ?_
  refine oc (y := mt_141) (pc := 276) (ok_getfield dX0_ask_276 (fg (own := "GardenChess") (idx := 387) (g := 1) (k := 22) (r := (RX0, TX0, 25)) rfl ⟨⟨by decide, by decide⟩, by decide⟩ (Or.inl q565) (Or.inl rfl) rfl (fg_nil))) 279 rfl ?_
  refine oc (y := mt_141) (pc := 279) (ok_iconst dX0_ask_279 rfl ⟨by decide, by decide⟩) 280 rfl ?_
  refine oc (y := mt_141) (pc := 280) (ok_iadd dX0_ask_280) 281 rfl ?_
  refine oc (y := mt_141) (pc := 281) (ok_putfield dX0_ask_281 (fp (own := "GardenChess") (idx := 387) (g := 1) (k := 22) (r := (RX0, TX0, 25)) rfl ⟨⟨by decide, by decide⟩, by decide⟩ (Or.inl q565) (Or.inl rfl) rfl (Or.inl rfl) (fp_nil))) 284 rfl ?_
  exact oc_goto dX0_ask_284 ⟨by decide, by decide⟩
theorem o_141_287 : okL gmt mt_141 287 b_141_287 := by
  refine oc (y := mt_141) (pc := 287) (ok_aload_n dX0_ask_287) 288 rfl ?_
  refine oc_V (y := mt_141) (pc := 288) (vcons (y := mt_141) (pc := 288) (len := 3) (n := 1) (M := mt_168) (by decide) rfl (Or.inr rfl) rfl (ck_V dX0_ask_288 ⟨by decide, by decide, by decide, by decide +kernel⟩ q1779 q1780 q1781 q198 q1782) vnil) (hk_141_288) (by decide) 291 rfl ?_
  exact oc_lret dX0_ask_291 rfl
theorem ok_141 : ∀ q ∈ pr_141, okL gmt mt_141 q.1 q.2 := pk_c o_141_0 (pk_c o_141_16 (pk_c o_141_38 (pk_c o_141_59 (pk_c o_141_64 (pk_c o_141_94 (pk_c o_141_181 (pk_c o_141_274 (pk_c o_141_287 (pk_n)))))))))
theorem o_142_0 : okL gmt mt_142 0 b_142_0 := by
  refine oc (y := mt_142) (pc := 0) (ok_aload_n dX0_image_0) 1 rfl ?_
  refine oc (y := mt_142) (pc := 1) (ok_iconst dX0_image_1 rfl ⟨by decide, by decide⟩) 2 rfl ?_
  refine oc (y := mt_142) (pc := 2) (ok_putfield dX0_image_2 (fp (own := "GardenChess") (idx := 411) (g := 1) (k := 24) (r := (RX0, TX0, 25)) rfl ⟨⟨by decide, by decide⟩, by decide⟩ (Or.inl q567) (Or.inl rfl) rfl (Or.inl rfl) (fp_nil))) 5 rfl ?_
  refine oc (y := mt_142) (pc := 5) (ok_aload_n dX0_image_5) 6 rfl ?_
  refine oc (y := mt_142) (pc := 6) (ok_aload_n dX0_image_6) 7 rfl ?_
  refine oc (y := mt_142) (pc := 7) (ok_getfield dX0_image_7 (fg (own := "GardenChess") (idx := 83) (g := 1) (k := 12) (r := (RX0, TX0, 25)) rfl ⟨⟨by decide, by decide⟩, by decide⟩ (Or.inl q555) (Or.inl rfl) rfl (fg_nil))) 10 rfl ?_
  refine oc (y := mt_142) (pc := 10) (ok_getfield dX0_image_10 (fg (own := "GardenChess") (idx := 205) (g := 8) (k := 0) (r := (RX6, TX6, 12)) rfl ⟨⟨by decide, by decide⟩, by decide⟩ (Or.inr ⟨_, q446⟩) (Or.inl rfl) rfl (fg_nil))) 13 rfl ?_
  refine oc (y := mt_142) (pc := 13) (ok_bipush dX0_image_13 (by decide) ⟨by decide, by decide⟩) 15 rfl ?_
  refine oc (y := mt_142) (pc := 15) (ok_ishr dX0_image_15) 16 rfl ?_
  refine oc_V (y := mt_142) (pc := 16) (vcons (y := mt_142) (pc := 16) (len := 3) (n := 2) (M := mt_143) (by decide) rfl (Or.inr rfl) rfl (ck_V dX0_image_16 ⟨by decide, by decide, by decide, by decide +kernel⟩ q1787 q1789 qs55 q162 q1790) vnil) (hok0 rfl) (by decide) 19 rfl ?_
  refine oc (y := mt_142) (pc := 19) (ok_aload_n dX0_image_19) 20 rfl ?_
  refine oc (y := mt_142) (pc := 20) (ok_aload_n dX0_image_20) 21 rfl ?_
  refine oc (y := mt_142) (pc := 21) (ok_getfield dX0_image_21 (fg (own := "GardenChess") (idx := 83) (g := 1) (k := 12) (r := (RX0, TX0, 25)) rfl ⟨⟨by decide, by decide⟩, by decide⟩ (Or.inl q555) (Or.inl rfl) rfl (fg_nil))) 24 rfl ?_
  refine oc (y := mt_142) (pc := 24) (ok_getfield dX0_image_24 (fg (own := "GardenChess") (idx := 205) (g := 8) (k := 0) (r := (RX6, TX6, 12)) rfl ⟨⟨by decide, by decide⟩, by decide⟩ (Or.inr ⟨_, q446⟩) (Or.inl rfl) rfl (fg_nil))) 27 rfl ?_
  refine oc_V (y := mt_142) (pc := 27) (vcons (y := mt_142) (pc := 27) (len := 3) (n := 2) (M := mt_143) (by decide) rfl (Or.inr rfl) rfl (ck_V dX0_image_27 ⟨by decide, by decide, by decide, by decide +kernel⟩ q1787 q1789 qs55 q162 q1790) vnil) (hok0 rfl) (by decide) 30 rfl ?_
  refine oc (y := mt_142) (pc := 30) (ok_aload_n dX0_image_30) 31 rfl ?_
  refine oc (y := mt_142) (pc := 31) (ok_aload_n dX0_image_31) 32 rfl ?_
  refine oc (y := mt_142) (pc := 32) (ok_getfield dX0_image_32 (fg (own := "GardenChess") (idx := 83) (g := 1) (k := 12) (r := (RX0, TX0, 25)) rfl ⟨⟨by decide, by decide⟩, by decide⟩ (Or.inl q555) (Or.inl rfl) rfl (fg_nil))) 35 rfl ?_
  refine oc (y := mt_142) (pc := 35) (ok_getfield dX0_image_35 (fg (own := "GardenChess") (idx := 208) (g := 8) (k := 1) (r := (RX6, TX6, 12)) rfl ⟨⟨by decide, by decide⟩, by decide⟩ (Or.inr ⟨_, q448⟩) (Or.inl rfl) rfl (fg_nil))) 38 rfl ?_
  refine oc_V (y := mt_142) (pc := 38) (vcons (y := mt_142) (pc := 38) (len := 3) (n := 2) (M := mt_143) (by decide) rfl (Or.inr rfl) rfl (ck_V dX0_image_38 ⟨by decide, by decide, by decide, by decide +kernel⟩ q1787 q1789 qs55 q162 q1790) vnil) (hok0 rfl) (by decide) 41 rfl ?_
  refine oc (y := mt_142) (pc := 41) (ok_iconst dX0_image_41 rfl ⟨by decide, by decide⟩) 42 rfl ?_
  refine oc (y := mt_142) (pc := 42) (ok_istore_n dX0_image_42 (by decide)) 43 rfl ?_
  exact oc_fall rfl
theorem o_142_43 : okL gmt mt_142 43 b_142_43 := by
  refine oc (y := mt_142) (pc := 43) (ok_iload_n dX0_image_43) 44 rfl ?_
  refine oc (y := mt_142) (pc := 44) (ok_aload_n dX0_image_44) 45 rfl ?_
  refine oc_V (y := mt_142) (pc := 45) (vcons (y := mt_142) (pc := 45) (len := 3) (n := 1) (M := mt_81) (by decide) rfl (Or.inr rfl) rfl (ck_V dX0_image_45 ⟨by decide, by decide, by decide, by decide +kernel⟩ q1289 q497 qs1 q162 q498) vnil) (hok0 rfl) (by decide) 48 rfl ?_
  refine oc_icmp dX0_image_48 ⟨by decide, by decide⟩ 51 rfl ?_
  refine oc (y := mt_142) (pc := 51) (ok_aload_n dX0_image_51) 52 rfl ?_
  refine oc (y := mt_142) (pc := 52) (ok_aload_n dX0_image_52) 53 rfl ?_
  refine oc (y := mt_142) (pc := 53) (ok_getfield dX0_image_53 (fg (own := "GardenChess") (idx := 83) (g := 1) (k := 12) (r := (RX0, TX0, 25)) rfl ⟨⟨by decide, by decide⟩, by decide⟩ (Or.inl q555) (Or.inl rfl) rfl (fg_nil))) 56 rfl ?_
  refine oc (y := mt_142) (pc := 56) (ok_getfield dX0_image_56 (fg (own := "GardenChess") (idx := 249) (g := 8) (k := 3) (r := (RX6, TX6, 12)) rfl ⟨⟨by decide, by decide⟩, by decide⟩ (Or.inr ⟨_, q452⟩) (Or.inl rfl) rfl (fg_nil))) 59 rfl ?_
  refine oc (y := mt_142) (pc := 59) (ok_iload_n dX0_image_59) 60 rfl ?_
  refine oc (y := mt_142) (pc := 60) (ok_iaload dX0_image_60) 61 rfl ?_
  refine oc (y := mt_142) (pc := 61) (ok_iconst dX0_image_61 rfl ⟨by decide, by decide⟩) 62 rfl ?_
  refine oc_icmp dX0_image_62 ⟨by decide, by decide⟩ 65 rfl ?_
  refine oc (y := mt_142) (pc := 65) (ok_sipush dX0_image_65 (by decide) ⟨by decide, by decide⟩) 68 rfl ?_
  exact oc_goto dX0_image_68 ⟨by decide, by decide⟩
theorem o_142_71 : okL gmt mt_142 71 b_142_71 := by
  refine oc (y := mt_142) (pc := 71) (ok_aload_n dX0_image_71) 72 rfl ?_
  refine oc (y := mt_142) (pc := 72) (ok_getfield dX0_image_72 (fg (own := "GardenChess") (idx := 83) (g := 1) (k := 12) (r := (RX0, TX0, 25)) rfl ⟨⟨by decide, by decide⟩, by decide⟩ (Or.inl q555) (Or.inl rfl) rfl (fg_nil))) 75 rfl ?_
  refine oc (y := mt_142) (pc := 75) (ok_getfield dX0_image_75 (fg (own := "GardenChess") (idx := 249) (g := 8) (k := 3) (r := (RX6, TX6, 12)) rfl ⟨⟨by decide, by decide⟩, by decide⟩ (Or.inr ⟨_, q452⟩) (Or.inl rfl) rfl (fg_nil))) 78 rfl ?_
  refine oc (y := mt_142) (pc := 78) (ok_iload_n dX0_image_78) 79 rfl ?_
  refine oc (y := mt_142) (pc := 79) (ok_iaload dX0_image_79) 80 rfl ?_
  refine oc (y := mt_142) (pc := 80) (ok_iconst dX0_image_80 rfl ⟨by decide, by decide⟩) 81 rfl ?_
  refine oc (y := mt_142) (pc := 81) (ok_irem dX0_image_81) 82 rfl ?_
  exact oc_fall rfl
theorem o_142_82 : okL gmt mt_142 82 b_142_82 := by
  refine oc_V (y := mt_142) (pc := 82) (vcons (y := mt_142) (pc := 82) (len := 3) (n := 2) (M := mt_143) (by decide) rfl (Or.inr rfl) rfl (ck_V dX0_image_82 ⟨by decide, by decide, by decide, by decide +kernel⟩ q1787 q1789 qs55 q162 q1790) vnil) (hok0 rfl) (by decide) 85 rfl ?_
  refine oc (y := mt_142) (pc := 85) (ok_aload_n dX0_image_85) 86 rfl ?_
  refine oc (y := mt_142) (pc := 86) (ok_aload_n dX0_image_86) 87 rfl ?_
  refine oc (y := mt_142) (pc := 87) (ok_getfield dX0_image_87 (fg (own := "GardenChess") (idx := 83) (g := 1) (k := 12) (r := (RX0, TX0, 25)) rfl ⟨⟨by decide, by decide⟩, by decide⟩ (Or.inl q555) (Or.inl rfl) rfl (fg_nil))) 90 rfl ?_
  refine oc (y := mt_142) (pc := 90) (ok_getfield dX0_image_90 (fg (own := "GardenChess") (idx := 249) (g := 8) (k := 3) (r := (RX6, TX6, 12)) rfl ⟨⟨by decide, by decide⟩, by decide⟩ (Or.inr ⟨_, q452⟩) (Or.inl rfl) rfl (fg_nil))) 93 rfl ?_
  refine oc (y := mt_142) (pc := 93) (ok_iload_n dX0_image_93) 94 rfl ?_
  refine oc (y := mt_142) (pc := 94) (ok_iaload dX0_image_94) 95 rfl ?_
  refine oc (y := mt_142) (pc := 95) (ok_iconst dX0_image_95 rfl ⟨by decide, by decide⟩) 96 rfl ?_
  refine oc_icmp dX0_image_96 ⟨by decide, by decide⟩ 99 rfl ?_
  refine oc (y := mt_142) (pc := 99) (ok_sipush dX0_image_99 (by decide) ⟨by decide, by decide⟩) 102 rfl ?_
  exact oc_goto dX0_image_102 ⟨by decide, by decide⟩
theorem o_142_105 : okL gmt mt_142 105 b_142_105 := by
  refine oc (y := mt_142) (pc := 105) (ok_aload_n dX0_image_105) 106 rfl ?_
  refine oc (y := mt_142) (pc := 106) (ok_getfield dX0_image_106 (fg (own := "GardenChess") (idx := 83) (g := 1) (k := 12) (r := (RX0, TX0, 25)) rfl ⟨⟨by decide, by decide⟩, by decide⟩ (Or.inl q555) (Or.inl rfl) rfl (fg_nil))) 109 rfl ?_
  refine oc (y := mt_142) (pc := 109) (ok_getfield dX0_image_109 (fg (own := "GardenChess") (idx := 249) (g := 8) (k := 3) (r := (RX6, TX6, 12)) rfl ⟨⟨by decide, by decide⟩, by decide⟩ (Or.inr ⟨_, q452⟩) (Or.inl rfl) rfl (fg_nil))) 112 rfl ?_
  refine oc (y := mt_142) (pc := 112) (ok_iload_n dX0_image_112) 113 rfl ?_
  refine oc (y := mt_142) (pc := 113) (ok_iaload dX0_image_113) 114 rfl ?_
  refine oc (y := mt_142) (pc := 114) (ok_iconst dX0_image_114 rfl ⟨by decide, by decide⟩) 115 rfl ?_
  refine oc (y := mt_142) (pc := 115) (ok_idiv dX0_image_115) 116 rfl ?_
  exact oc_fall rfl
theorem o_142_116 : okL gmt mt_142 116 b_142_116 := by
  refine oc_V (y := mt_142) (pc := 116) (vcons (y := mt_142) (pc := 116) (len := 3) (n := 2) (M := mt_143) (by decide) rfl (Or.inr rfl) rfl (ck_V dX0_image_116 ⟨by decide, by decide, by decide, by decide +kernel⟩ q1787 q1789 qs55 q162 q1790) vnil) (hok0 rfl) (by decide) 119 rfl ?_
  refine oc (y := mt_142) (pc := 119) (ok_iinc dX0_image_119 (by decide)) 122 rfl ?_
  exact oc_goto dX0_image_122 ⟨by decide, by decide⟩
theorem o_142_125 : okL gmt mt_142 125 b_142_125 := by
  refine oc (y := mt_142) (pc := 125) (ok_iconst dX0_image_125 rfl ⟨by decide, by decide⟩) 126 rfl ?_
  refine oc (y := mt_142) (pc := 126) (ok_istore_n dX0_image_126 (by decide)) 127 rfl ?_
  exact oc_fall rfl
theorem o_142_127 : okL gmt mt_142 127 b_142_127 := by
  refine oc (y := mt_142) (pc := 127) (ok_iload_n dX0_image_127) 128 rfl ?_
  refine oc (y := mt_142) (pc := 128) (ok_aload_n dX0_image_128) 129 rfl ?_
  refine oc_V (y := mt_142) (pc := 129) (vcons (y := mt_142) (pc := 129) (len := 3) (n := 1) (M := mt_95) (by decide) rfl (Or.inr rfl) rfl (ck_V dX0_image_129 ⟨by decide, by decide, by decide, by decide +kernel⟩ q1290 q1275 qs33 q162 q1276) vnil) (hok0 rfl) (by decide) 132 rfl ?_
  refine oc_icmp dX0_image_132 ⟨by decide, by decide⟩ 135 rfl ?_
  refine oc (y := mt_142) (pc := 135) (ok_aload_n dX0_image_135) 136 rfl ?_
  refine oc (y := mt_142) (pc := 136) (ok_aload_n dX0_image_136) 137 rfl ?_
  refine oc (y := mt_142) (pc := 137) (ok_getfield dX0_image_137 (fg (own := "GardenChess") (idx := 83) (g := 1) (k := 12) (r := (RX0, TX0, 25)) rfl ⟨⟨by decide, by decide⟩, by decide⟩ (Or.inl q555) (Or.inl rfl) rfl (fg_nil))) 140 rfl ?_
  refine oc (y := mt_142) (pc := 140) (ok_getfield dX0_image_140 (fg (own := "GardenChess") (idx := 266) (g := 8) (k := 5) (r := (RX6, TX6, 12)) rfl ⟨⟨by decide, by decide⟩, by decide⟩ (Or.inr ⟨_, q456⟩) (Or.inl rfl) rfl (fg_nil))) 143 rfl ?_
  refine oc (y := mt_142) (pc := 143) (ok_iload_n dX0_image_143) 144 rfl ?_
  refine oc (y := mt_142) (pc := 144) (ok_iaload dX0_image_144) 145 rfl ?_
  refine oc (y := mt_142) (pc := 145) (ok_bipush dX0_image_145 (by decide) ⟨by decide, by decide⟩) 147 rfl ?_
  refine oc (y := mt_142) (pc := 147) (ok_ishr dX0_image_147) 148 rfl ?_
  refine oc_V (y := mt_142) (pc := 148) (vcons (y := mt_142) (pc := 148) (len := 3) (n := 2) (M := mt_143) (by decide) rfl (Or.inr rfl) rfl (ck_V dX0_image_148 ⟨by decide, by decide, by decide, by decide +kernel⟩ q1787 q1789 qs55 q162 q1790) vnil) (hok0 rfl) (by decide) 151 rfl ?_
  refine oc (y := mt_142) (pc := 151) (ok_aload_n dX0_image_151) 152 rfl ?_
  refine oc (y := mt_142) (pc := 152) (ok_aload_n dX0_image_152) 153 rfl ?_
  refine oc (y := mt_142) (pc := 153) (ok_getfield dX0_image_153 (fg (own := "GardenChess") (idx := 83) (g := 1) (k := 12) (r := (RX0, TX0, 25)) rfl ⟨⟨by decide, by decide⟩, by decide⟩ (Or.inl q555) (Or.inl rfl) rfl (fg_nil))) 156 rfl ?_
  refine oc (y := mt_142) (pc := 156) (ok_getfield dX0_image_156 (fg (own := "GardenChess") (idx := 266) (g := 8) (k := 5) (r := (RX6, TX6, 12)) rfl ⟨⟨by decide, by decide⟩, by decide⟩ (Or.inr ⟨_, q456⟩) (Or.inl rfl) rfl (fg_nil))) 159 rfl ?_
  refine oc (y := mt_142) (pc := 159) (ok_iload_n dX0_image_159) 160 rfl ?_
  refine oc (y := mt_142) (pc := 160) (ok_iaload dX0_image_160) 161 rfl ?_
  refine oc_V (y := mt_142) (pc := 161) (vcons (y := mt_142) (pc := 161) (len := 3) (n := 2) (M := mt_143) (by decide) rfl (Or.inr rfl) rfl (ck_V dX0_image_161 ⟨by decide, by decide, by decide, by decide +kernel⟩ q1787 q1789 qs55 q162 q1790) vnil) (hok0 rfl) (by decide) 164 rfl ?_
  refine oc (y := mt_142) (pc := 164) (ok_iinc dX0_image_164 (by decide)) 167 rfl ?_
  exact oc_goto dX0_image_167 ⟨by decide, by decide⟩
theorem o_142_170 : okL gmt mt_142 170 b_142_170 := by
  refine oc (y := mt_142) (pc := 170) (ok_aload_n dX0_image_170) 171 rfl ?_
  refine oc (y := mt_142) (pc := 171) (ok_aload_n dX0_image_171) 172 rfl ?_
  refine oc (y := mt_142) (pc := 172) (ok_getfield dX0_image_172 (fg (own := "GardenChess") (idx := 114) (g := 1) (k := 23) (r := (RX0, TX0, 25)) rfl ⟨⟨by decide, by decide⟩, by decide⟩ (Or.inl q566) (Or.inl rfl) rfl (fg_nil))) 175 rfl ?_
  refine oc (y := mt_142) (pc := 175) (ok_aload_n dX0_image_175) 176 rfl ?_
  refine oc (y := mt_142) (pc := 176) (ok_getfield dX0_image_176 (fg (own := "GardenChess") (idx := 411) (g := 1) (k := 24) (r := (RX0, TX0, 25)) rfl ⟨⟨by decide, by decide⟩, by decide⟩ (Or.inl q567) (Or.inl rfl) rfl (fg_nil))) 179 rfl ?_
  refine oc_S (y := mt_142) (pc := 179) (M := mt_144) rfl (ck_S dX0_image_179 ⟨by decide, by decide, by decide, by decide +kernel⟩ q1791 q1792 q162 q1793) (hok0 rfl) (by decide) 182 rfl ?_
  refine oc_V (y := mt_142) (pc := 182) (vcons (y := mt_142) (pc := 182) (len := 3) (n := 2) (M := mt_143) (by decide) rfl (Or.inr rfl) rfl (ck_V dX0_image_182 ⟨by decide, by decide, by decide, by decide +kernel⟩ q1787 q1789 qs55 q162 q1790) vnil) (hok0 rfl) (by decide) 185 rfl ?_
  refine oc (y := mt_142) (pc := 185) (ok_aload_n dX0_image_185) 186 rfl ?_
  refine oc (y := mt_142) (pc := 186) (ok_getfield dX0_image_186 (fg (own := "GardenChess") (idx := 411) (g := 1) (k := 24) (r := (RX0, TX0, 25)) rfl ⟨⟨by decide, by decide⟩, by decide⟩ (Or.inl q567) (Or.inl rfl) rfl (fg_nil))) 189 rfl ?_
  exact oc_iret dX0_image_189 rfl
theorem ok_142 : ∀ q ∈ pr_142, okL gmt mt_142 q.1 q.2 := pk_c o_142_0 (pk_c o_142_43 (pk_c o_142_71 (pk_c o_142_82 (pk_c o_142_105 (pk_c o_142_116 (pk_c o_142_125 (pk_c o_142_127 (pk_c o_142_170 (pk_n)))))))))
theorem o_143_0 : okL gmt mt_143 0 b_143_0 := by
  refine oc (y := mt_143) (pc := 0) (ok_aload_n dX0_writes_0) 1 rfl ?_
  refine oc (y := mt_143) (pc := 1) (ok_getfield dX0_writes_1 (fg (own := "GardenChess") (idx := 114) (g := 1) (k := 23) (r := (RX0, TX0, 25)) rfl ⟨⟨by decide, by decide⟩, by decide⟩ (Or.inl q566) (Or.inl rfl) rfl (fg_nil))) 4 rfl ?_
  refine oc (y := mt_143) (pc := 4) (ok_aload_n dX0_writes_4) 5 rfl ?_
  refine oc (y := mt_143) (pc := 5) (ok_dup dX0_writes_5) 6 rfl ?_
  refine oc (y := mt_143) (pc := 6) (ok_getfield dX0_writes_6 (fg (own := "GardenChess") (idx := 411) (g := 1) (k := 24) (r := (RX0, TX0, 25)) rfl ⟨⟨by decide, by decide⟩, by decide⟩ (Or.inl q567) (Or.inl rfl) rfl (fg_nil))) 9 rfl ?_
  refine oc (y := mt_143) (pc := 9) (ok_dup_x1 dX0_writes_9) 10 rfl ?_
  refine oc (y := mt_143) (pc := 10) (ok_iconst dX0_writes_10 rfl ⟨by decide, by decide⟩) 11 rfl ?_
  refine oc (y := mt_143) (pc := 11) (ok_iadd dX0_writes_11) 12 rfl ?_
  refine oc (y := mt_143) (pc := 12) (ok_putfield dX0_writes_12 (fp (own := "GardenChess") (idx := 411) (g := 1) (k := 24) (r := (RX0, TX0, 25)) rfl ⟨⟨by decide, by decide⟩, by decide⟩ (Or.inl q567) (Or.inl rfl) rfl (Or.inl rfl) (fp_nil))) 15 rfl ?_
  refine oc (y := mt_143) (pc := 15) (ok_iload_n dX0_writes_15) 16 rfl ?_
  refine oc (y := mt_143) (pc := 16) (ok_i2b dX0_writes_16) 17 rfl ?_
  refine oc (y := mt_143) (pc := 17) (ok_bastore dX0_writes_17) 18 rfl ?_
  exact oc_ret dX0_writes_18 rfl
theorem ok_143 : ∀ q ∈ pr_143, okL gmt mt_143 q.1 q.2 := pk_c o_143_0 (pk_n)
theorem o_144_0 : okL gmt mt_144 0 b_144_0 := by
  refine oc (y := mt_144) (pc := 0) (ok_bipush dX0_check_0 (by decide) ⟨by decide, by decide⟩) 2 rfl ?_
  refine oc (y := mt_144) (pc := 2) (ok_istore_n dX0_check_2 (by decide)) 3 rfl ?_
  refine oc (y := mt_144) (pc := 3) (ok_iconst dX0_check_3 rfl ⟨by decide, by decide⟩) 4 rfl ?_
  refine oc (y := mt_144) (pc := 4) (ok_istore_n dX0_check_4 (by decide)) 5 rfl ?_
  exact oc_fall rfl
theorem o_144_5 : okL gmt mt_144 5 b_144_5 := by
  refine oc (y := mt_144) (pc := 5) (ok_iload_n dX0_check_5) 6 rfl ?_
  refine oc (y := mt_144) (pc := 6) (ok_iload_n dX0_check_6) 7 rfl ?_
  refine oc_icmp dX0_check_7 ⟨by decide, by decide⟩ 10 rfl ?_
  refine oc (y := mt_144) (pc := 10) (ok_iconst dX0_check_10 rfl ⟨by decide, by decide⟩) 11 rfl ?_
  refine oc (y := mt_144) (pc := 11) (ok_iload_n dX0_check_11) 12 rfl ?_
  refine oc (y := mt_144) (pc := 12) (ok_imul dX0_check_12) 13 rfl ?_
  refine oc (y := mt_144) (pc := 13) (ok_aload_n dX0_check_13) 14 rfl ?_
  refine oc (y := mt_144) (pc := 14) (ok_iload_n dX0_check_14) 15 rfl ?_
  refine oc (y := mt_144) (pc := 15) (ok_baload dX0_check_15) 16 rfl ?_
  refine oc (y := mt_144) (pc := 16) (ok_sipush dX0_check_16 (by decide) ⟨by decide, by decide⟩) 19 rfl ?_
  refine oc (y := mt_144) (pc := 19) (ok_iand dX0_check_19) 20 rfl ?_
  refine oc (y := mt_144) (pc := 20) (ok_iadd dX0_check_20) 21 rfl ?_
  refine oc (y := mt_144) (pc := 21) (ok_sipush dX0_check_21 (by decide) ⟨by decide, by decide⟩) 24 rfl ?_
  refine oc (y := mt_144) (pc := 24) (ok_irem dX0_check_24) 25 rfl ?_
  refine oc (y := mt_144) (pc := 25) (ok_istore_n dX0_check_25 (by decide)) 26 rfl ?_
  refine oc (y := mt_144) (pc := 26) (ok_iinc dX0_check_26 (by decide)) 29 rfl ?_
  exact oc_goto dX0_check_29 ⟨by decide, by decide⟩
theorem o_144_32 : okL gmt mt_144 32 b_144_32 := by
  refine oc (y := mt_144) (pc := 32) (ok_iload_n dX0_check_32) 33 rfl ?_
  exact oc_iret dX0_check_33 rfl
theorem ok_144 : ∀ q ∈ pr_144, okL gmt mt_144 q.1 q.2 := pk_c o_144_0 (pk_c o_144_5 (pk_c o_144_32 (pk_n)))
theorem o_145_0 : okL gmt mt_145 0 b_145_0 := by
  refine oc (y := mt_145) (pc := 0) (ok_iload_n dX0_octet_0) 1 rfl ?_
  refine oc_if dX0_octet_1 ⟨by decide, by decide⟩ 4 rfl ?_
  refine oc (y := mt_145) (pc := 4) (ok_iload_n dX0_octet_4) 5 rfl ?_
  refine oc (y := mt_145) (pc := 5) (ok_aload_n dX0_octet_5) 6 rfl ?_
  refine oc (y := mt_145) (pc := 6) (ok_getfield dX0_octet_6 (fg (own := "GardenChess") (idx := 411) (g := 1) (k := 24) (r := (RX0, TX0, 25)) rfl ⟨⟨by decide, by decide⟩, by decide⟩ (Or.inl q567) (Or.inl rfl) rfl (fg_nil))) 9 rfl ?_
  refine oc_icmp dX0_octet_9 ⟨by decide, by decide⟩ 12 rfl ?_
  exact oc_fall rfl
theorem o_145_12 : okL gmt mt_145 12 b_145_12 := by
  refine oc (y := mt_145) (pc := 12) (ok_iconst dX0_octet_12 rfl ⟨by decide, by decide⟩) 13 rfl ?_
  exact oc_goto dX0_octet_13 ⟨by decide, by decide⟩
theorem o_145_16 : okL gmt mt_145 16 b_145_16 := by
  refine oc (y := mt_145) (pc := 16) (ok_aload_n dX0_octet_16) 17 rfl ?_
  refine oc (y := mt_145) (pc := 17) (ok_getfield dX0_octet_17 (fg (own := "GardenChess") (idx := 114) (g := 1) (k := 23) (r := (RX0, TX0, 25)) rfl ⟨⟨by decide, by decide⟩, by decide⟩ (Or.inl q566) (Or.inl rfl) rfl (fg_nil))) 20 rfl ?_
  refine oc (y := mt_145) (pc := 20) (ok_iload_n dX0_octet_20) 21 rfl ?_
  refine oc (y := mt_145) (pc := 21) (ok_baload dX0_octet_21) 22 rfl ?_
  refine oc (y := mt_145) (pc := 22) (ok_sipush dX0_octet_22 (by decide) ⟨by decide, by decide⟩) 25 rfl ?_
  refine oc (y := mt_145) (pc := 25) (ok_iand dX0_octet_25) 26 rfl ?_
  exact oc_fall rfl
theorem o_145_26 : okL gmt mt_145 26 b_145_26 := by
  exact oc_iret dX0_octet_26 rfl
theorem ok_145 : ∀ q ∈ pr_145, okL gmt mt_145 q.1 q.2 := pk_c o_145_0 (pk_c o_145_12 (pk_c o_145_16 (pk_c o_145_26 (pk_n))))
theorem o_146_0 : okL gmt mt_146 0 b_146_0 := by
  refine oc (y := mt_146) (pc := 0) (ok_aload_n dX0_on_0) 1 rfl ?_
  refine oc_V (y := mt_146) (pc := 1) (vcons (y := mt_146) (pc := 1) (len := 3) (n := 1) (M := mt_89) (by decide) rfl (Or.inr rfl) rfl (ck_V dX0_on_1 ⟨by decide, by decide, by decide, by decide +kernel⟩ q640 q642 qs6 q162 q643) vnil) (hok0 rfl) (by decide) 4 rfl ?_
  refine oc (y := mt_146) (pc := 4) (ok_istore_n dX0_on_4 (by decide)) 5 rfl ?_
  refine oc (y := mt_146) (pc := 5) (ok_iconst dX0_on_5 rfl ⟨by decide, by decide⟩) 6 rfl ?_
  refine oc (y := mt_146) (pc := 6) (ok_iconst dX0_on_6 rfl ⟨by decide, by decide⟩) 7 rfl ?_
  refine oc (y := mt_146) (pc := 7) (ok_aload_n dX0_on_7) 8 rfl ?_
  refine oc_V (y := mt_146) (pc := 8) (vcons (y := mt_146) (pc := 8) (len := 3) (n := 1) (M := mt_81) (by decide) rfl (Or.inr rfl) rfl (ck_V dX0_on_8 ⟨by decide, by decide, by decide, by decide +kernel⟩ q1289 q497 qs1 q162 q498) vnil) (hok0 rfl) (by decide) 11 rfl ?_
  refine oc (y := mt_146) (pc := 11) (ok_imul dX0_on_11) 12 rfl ?_
  refine oc (y := mt_146) (pc := 12) (ok_iadd dX0_on_12) 13 rfl ?_
  refine oc (y := mt_146) (pc := 13) (ok_istore_n dX0_on_13 (by decide)) 14 rfl ?_
  refine oc (y := mt_146) (pc := 14) (ok_aload_n dX0_on_14) 15 rfl ?_
  refine oc_V (y := mt_146) (pc := 15) (vcons (y := mt_146) (pc := 15) (len := 3) (n := 1) (M := mt_98) (by decide) rfl (Or.inr rfl) rfl (ck_V dX0_on_15 ⟨by decide, by decide, by decide, by decide +kernel⟩ q1291 q1293 qs34 q162 q1294) vnil) (hok0 rfl) (by decide) 18 rfl ?_
  refine oc_if dX0_on_18 ⟨by decide, by decide⟩ 21 rfl ?_
  refine oc (y := mt_146) (pc := 21) (ok_iload_n dX0_on_21) 22 rfl ?_
  refine oc (y := mt_146) (pc := 22) (ok_iload_n dX0_on_22) 23 rfl ?_
  refine oc (y := mt_146) (pc := 23) (ok_iconst dX0_on_23 rfl ⟨by decide, by decide⟩) 24 rfl ?_
  refine oc (y := mt_146) (pc := 24) (ok_aload_n dX0_on_24) 25 rfl ?_
  refine oc_V (y := mt_146) (pc := 25) (vcons (y := mt_146) (pc := 25) (len := 3) (n := 1) (M := mt_95) (by decide) rfl (Or.inr rfl) rfl (ck_V dX0_on_25 ⟨by decide, by decide, by decide, by decide +kernel⟩ q1290 q1275 qs33 q162 q1276) vnil) (hok0 rfl) (by decide) 28 rfl ?_
  refine oc (y := mt_146) (pc := 28) (ok_imul dX0_on_28) 29 rfl ?_
  refine oc (y := mt_146) (pc := 29) (ok_iadd dX0_on_29) 30 rfl ?_
  refine oc (y := mt_146) (pc := 30) (ok_iconst dX0_on_30 rfl ⟨by decide, by decide⟩) 31 rfl ?_
  refine oc (y := mt_146) (pc := 31) (ok_iadd dX0_on_31) 32 rfl ?_
  refine oc_icmp dX0_on_32 ⟨by decide, by decide⟩ 35 rfl ?_
  refine oc (y := mt_146) (pc := 35) (ok_aload_n dX0_on_35) 36 rfl ?_
  refine oc (y := mt_146) (pc := 36) (ok_iload_n dX0_on_36) 37 rfl ?_
  refine oc (y := mt_146) (pc := 37) (ok_iconst dX0_on_37 rfl ⟨by decide, by decide⟩) 38 rfl ?_
  refine oc (y := mt_146) (pc := 38) (ok_isub dX0_on_38) 39 rfl ?_
  refine oc_V (y := mt_146) (pc := 39) (vcons (y := mt_146) (pc := 39) (len := 3) (n := 2) (M := mt_126) (by decide) rfl (Or.inr rfl) rfl (ck_V dX0_on_39 ⟨by decide, by decide, by decide, by decide +kernel⟩ q1582 q1584 qs45 q162 q1585) vnil) (hok0 rfl) (by decide) 42 rfl ?_
  refine oc (y := mt_146) (pc := 42) (ok_aload_n dX0_on_42) 43 rfl ?_
  refine oc (y := mt_146) (pc := 43) (ok_getfield dX0_on_43 (fg (own := "GardenChess") (idx := 35) (g := 1) (k := 1) (r := (RX0, TX0, 25)) rfl ⟨⟨by decide, by decide⟩, by decide⟩ (Or.inl q541) (Or.inl rfl) rfl (fg_nil))) 46 rfl ?_
  refine oc (y := mt_146) (pc := 46) (ok_iload_n dX0_on_46) 47 rfl ?_
  refine oc (y := mt_146) (pc := 47) (ok_iconst dX0_on_47 rfl ⟨by decide, by decide⟩) 48 rfl ?_
  refine oc (y := mt_146) (pc := 48) (ok_isub dX0_on_48) 49 rfl ?_
  refine oc_S (y := mt_146) (pc := 49) (M := mt_144) rfl (ck_S dX0_on_49 ⟨by decide, by decide, by decide, by decide +kernel⟩ q1791 q1792 q162 q1793) (hok0 rfl) (by decide) 52 rfl ?_
  refine oc_icmp dX0_on_52 ⟨by decide, by decide⟩ 55 rfl ?_
  refine oc (y := mt_146) (pc := 55) (ok_aload_n dX0_on_55) 56 rfl ?_
  refine oc (y := mt_146) (pc := 56) (ok_iconst dX0_on_56 rfl ⟨by decide, by decide⟩) 57 rfl ?_
  refine oc_V (y := mt_146) (pc := 57) (vcons (y := mt_146) (pc := 57) (len := 3) (n := 2) (M := mt_127) (by decide) rfl (Or.inr rfl) rfl (ck_V dX0_on_57 ⟨by decide, by decide, by decide, by decide +kernel⟩ q1586 q1588 qs46 q162 q1589) vnil) (hok0 rfl) (by decide) 60 rfl ?_
  refine oc (y := mt_146) (pc := 60) (ok_sipush dX0_on_60 (by decide) ⟨by decide, by decide⟩) 63 rfl ?_
  refine oc_icmp dX0_on_63 ⟨by decide, by decide⟩ 66 rfl ?_
  refine oc (y := mt_146) (pc := 66) (ok_aload_n dX0_on_66) 67 rfl ?_
  refine oc (y := mt_146) (pc := 67) (ok_iconst dX0_on_67 rfl ⟨by decide, by decide⟩) 68 rfl ?_
  refine oc_V (y := mt_146) (pc := 68) (vcons (y := mt_146) (pc := 68) (len := 3) (n := 2) (M := mt_126) (by decide) rfl (Or.inr rfl) rfl (ck_V dX0_on_68 ⟨by decide, by decide, by decide, by decide +kernel⟩ q1582 q1584 qs45 q162 q1585) vnil) (hok0 rfl) (by decide) 71 rfl ?_
  refine oc (y := mt_146) (pc := 71) (ok_iconst dX0_on_71 rfl ⟨by decide, by decide⟩) 72 rfl ?_
  refine oc_icmp dX0_on_72 ⟨by decide, by decide⟩ 75 rfl ?_
  refine oc (y := mt_146) (pc := 75) (ok_iconst dX0_on_75 rfl ⟨by decide, by decide⟩) 76 rfl ?_
  exact oc_goto dX0_on_76 ⟨by decide, by decide⟩
theorem o_146_79 : okL gmt mt_146 79 b_146_79 := by
  refine oc (y := mt_146) (pc := 79) (ok_iconst dX0_on_79 rfl ⟨by decide, by decide⟩) 80 rfl ?_
  exact oc_fall rfl
theorem o_146_80 : okL gmt mt_146 80 b_146_80 := by
  refine oc (y := mt_146) (pc := 80) (ok_istore_n dX0_on_80 (by decide)) 81 rfl ?_
  refine oc (y := mt_146) (pc := 81) (ok_aload_n dX0_on_81) 82 rfl ?_
  refine oc (y := mt_146) (pc := 82) (ok_getfield dX0_on_82 (fg (own := "GardenChess") (idx := 87) (g := 1) (k := 13) (r := (RX0, TX0, 25)) rfl ⟨⟨by decide, by decide⟩, by decide⟩ (Or.inl q556) (Or.inl rfl) rfl (fg_nil))) 85 rfl ?_
  refine oc (y := mt_146) (pc := 85) (ok_aload_n dX0_on_85) 86 rfl ?_
  refine oc (y := mt_146) (pc := 86) (ok_getfield dX0_on_86 (fg (own := "GardenChess") (idx := 83) (g := 1) (k := 12) (r := (RX0, TX0, 25)) rfl ⟨⟨by decide, by decide⟩, by decide⟩ (Or.inl q555) (Or.inl rfl) rfl (fg_nil))) 89 rfl ?_
  refine oc_V (y := mt_146) (pc := 89) (vcons (y := mt_146) (pc := 89) (len := 3) (n := 2) (M := mt_220) (by decide) rfl (Or.inr rfl) rfl (ck_V dX0_on_89 ⟨by decide, by decide, by decide, by decide +kernel⟩ q1393 q1394 q1395 q174 q1396) vnil) (hok0 rfl) (by decide) 92 rfl ?_
  refine oc (y := mt_146) (pc := 92) (ok_pop dX0_on_92) 93 rfl ?_
  refine oc (y := mt_146) (pc := 93) (ok_iload_n dX0_on_93) 94 rfl ?_
  refine oc_if dX0_on_94 ⟨by decide, by decide⟩ 97 rfl ?_
  refine oc (y := mt_146) (pc := 97) (ok_aload_n dX0_on_97) 98 rfl ?_
  refine oc (y := mt_146) (pc := 98) (ok_iconst dX0_on_98 rfl ⟨by decide, by decide⟩) 99 rfl ?_
  refine oc (y := mt_146) (pc := 99) (ok_aload_n dX0_on_99) 100 rfl ?_
  refine oc (y := mt_146) (pc := 100) (ok_getfield dX0_on_100 (fg (own := "GardenChess") (idx := 87) (g := 1) (k := 13) (r := (RX0, TX0, 25)) rfl ⟨⟨by decide, by decide⟩, by decide⟩ (Or.inl q556) (Or.inl rfl) rfl (fg_nil))) 103 rfl ?_
  refine oc (y := mt_146) (pc := 103) (ok_getfield dX0_on_103 (fg (own := "GardenChess") (idx := 249) (g := 8) (k := 3) (r := (RX6, TX6, 12)) rfl ⟨⟨by decide, by decide⟩, by decide⟩ (Or.inr ⟨_, q452⟩) (Or.inl rfl) rfl (fg_nil))) 106 rfl ?_
  refine oc_V (y := mt_146) (pc := 106) (vcons (y := mt_146) (pc := 106) (len := 3) (n := 3) (M := mt_131) (by decide) rfl (Or.inr rfl) rfl (ck_V dX0_on_106 ⟨by decide, by decide, by decide, by decide +kernel⟩ q1602 q1604 qs48 q162 q1605) vnil) (hok0 rfl) (by decide) 109 rfl ?_
  refine oc_if dX0_on_109 ⟨by decide, by decide⟩ 112 rfl ?_
  refine oc (y := mt_146) (pc := 112) (ok_iconst dX0_on_112 rfl ⟨by decide, by decide⟩) 113 rfl ?_
  exact oc_goto dX0_on_113 ⟨by decide, by decide⟩
theorem o_146_116 : okL gmt mt_146 116 b_146_116 := by
  refine oc (y := mt_146) (pc := 116) (ok_iconst dX0_on_116 rfl ⟨by decide, by decide⟩) 117 rfl ?_
  exact oc_fall rfl
theorem o_146_117 : okL gmt mt_146 117 b_146_117 := by
  refine oc (y := mt_146) (pc := 117) (ok_istore_n dX0_on_117 (by decide)) 118 rfl ?_
  refine oc (y := mt_146) (pc := 118) (ok_iconst dX0_on_118 rfl ⟨by decide, by decide⟩) 119 rfl ?_
  refine oc (y := mt_146) (pc := 119) (ok_istore dX0_on_119 (by decide)) 121 rfl ?_
  exact oc_fall rfl
theorem o_146_121 : okL gmt mt_146 121 b_146_121 := by
  refine oc (y := mt_146) (pc := 121) (ok_iload dX0_on_121) 123 rfl ?_
  refine oc (y := mt_146) (pc := 123) (ok_aload_n dX0_on_123) 124 rfl ?_
  refine oc_V (y := mt_146) (pc := 124) (vcons (y := mt_146) (pc := 124) (len := 3) (n := 1) (M := mt_95) (by decide) rfl (Or.inr rfl) rfl (ck_V dX0_on_124 ⟨by decide, by decide, by decide, by decide +kernel⟩ q1290 q1275 qs33 q162 q1276) vnil) (hok0 rfl) (by decide) 127 rfl ?_
  refine oc_icmp dX0_on_127 ⟨by decide, by decide⟩ 130 rfl ?_
  refine oc (y := mt_146) (pc := 130) (ok_iload_n dX0_on_130) 131 rfl ?_
  refine oc_if dX0_on_131 ⟨by decide, by decide⟩ 134 rfl ?_
  refine oc (y := mt_146) (pc := 134) (ok_aload_n dX0_on_134) 135 rfl ?_
  refine oc (y := mt_146) (pc := 135) (ok_getfield dX0_on_135 (fg (own := "GardenChess") (idx := 87) (g := 1) (k := 13) (r := (RX0, TX0, 25)) rfl ⟨⟨by decide, by decide⟩, by decide⟩ (Or.inl q556) (Or.inl rfl) rfl (fg_nil))) 138 rfl ?_
  refine oc (y := mt_146) (pc := 138) (ok_getfield dX0_on_138 (fg (own := "GardenChess") (idx := 266) (g := 8) (k := 5) (r := (RX6, TX6, 12)) rfl ⟨⟨by decide, by decide⟩, by decide⟩ (Or.inr ⟨_, q456⟩) (Or.inl rfl) rfl (fg_nil))) 141 rfl ?_
  refine oc (y := mt_146) (pc := 141) (ok_iload dX0_on_141) 143 rfl ?_
  refine oc (y := mt_146) (pc := 143) (ok_aload_n dX0_on_143) 144 rfl ?_
  refine oc (y := mt_146) (pc := 144) (ok_iload_n dX0_on_144) 145 rfl ?_
  refine oc (y := mt_146) (pc := 145) (ok_iconst dX0_on_145 rfl ⟨by decide, by decide⟩) 146 rfl ?_
  refine oc (y := mt_146) (pc := 146) (ok_iload dX0_on_146) 148 rfl ?_
  refine oc (y := mt_146) (pc := 148) (ok_imul dX0_on_148) 149 rfl ?_
  refine oc (y := mt_146) (pc := 149) (ok_iadd dX0_on_149) 150 rfl ?_
  refine oc_V (y := mt_146) (pc := 150) (vcons (y := mt_146) (pc := 150) (len := 3) (n := 2) (M := mt_127) (by decide) rfl (Or.inr rfl) rfl (ck_V dX0_on_150 ⟨by decide, by decide, by decide, by decide +kernel⟩ q1586 q1588 qs46 q162 q1589) vnil) (hok0 rfl) (by decide) 153 rfl ?_
  refine oc (y := mt_146) (pc := 153) (ok_iastore dX0_on_153) 154 rfl ?_
  refine oc (y := mt_146) (pc := 154) (ok_aload_n dX0_on_154) 155 rfl ?_
  refine oc (y := mt_146) (pc := 155) (ok_getfield dX0_on_155 (fg (own := "GardenChess") (idx := 87) (g := 1) (k := 13) (r := (RX0, TX0, 25)) rfl ⟨⟨by decide, by decide⟩, by decide⟩ (Or.inl q556) (Or.inl rfl) rfl (fg_nil))) 158 rfl ?_
  refine oc (y := mt_146) (pc := 158) (ok_getfield dX0_on_158 (fg (own := "GardenChess") (idx := 266) (g := 8) (k := 5) (r := (RX6, TX6, 12)) rfl ⟨⟨by decide, by decide⟩, by decide⟩ (Or.inr ⟨_, q456⟩) (Or.inl rfl) rfl (fg_nil))) 161 rfl ?_
  refine oc (y := mt_146) (pc := 161) (ok_iload dX0_on_161) 163 rfl ?_
  refine oc (y := mt_146) (pc := 163) (ok_iaload dX0_on_163) 164 rfl ?_
  refine oc (y := mt_146) (pc := 164) (ok_sipush dX0_on_164 (by decide) ⟨by decide, by decide⟩) 167 rfl ?_
  refine oc_icmp dX0_on_167 ⟨by decide, by decide⟩ 170 rfl ?_
  refine oc (y := mt_146) (pc := 170) (ok_iconst dX0_on_170 rfl ⟨by decide, by decide⟩) 171 rfl ?_
  exact oc_goto dX0_on_171 ⟨by decide, by decide⟩
theorem o_146_174 : okL gmt mt_146 174 b_146_174 := by
  refine oc (y := mt_146) (pc := 174) (ok_iconst dX0_on_174 rfl ⟨by decide, by decide⟩) 175 rfl ?_
  exact oc_fall rfl
theorem o_146_175 : okL gmt mt_146 175 b_146_175 := by
  refine oc (y := mt_146) (pc := 175) (ok_istore_n dX0_on_175 (by decide)) 176 rfl ?_
  refine oc (y := mt_146) (pc := 176) (ok_iinc dX0_on_176 (by decide)) 179 rfl ?_
  exact oc_goto dX0_on_179 ⟨by decide, by decide⟩
theorem o_146_182 : okL gmt mt_146 182 b_146_182 := by
  refine oc (y := mt_146) (pc := 182) (ok_iload_n dX0_on_182) 183 rfl ?_
  refine oc_if dX0_on_183 ⟨by decide, by decide⟩ 186 rfl ?_
  refine oc (y := mt_146) (pc := 186) (ok_aload_n dX0_on_186) 187 rfl ?_
  refine oc (y := mt_146) (pc := 187) (ok_iconst dX0_on_187 rfl ⟨by decide, by decide⟩) 188 rfl ?_
  refine oc_V (y := mt_146) (pc := 188) (vcons (y := mt_146) (pc := 188) (len := 3) (n := 2) (M := mt_85) (by decide) rfl (Or.inr rfl) rfl (ck_V dX0_on_188 ⟨by decide, by decide, by decide, by decide +kernel⟩ q623 q625 qs4 q162 q626) vnil) (hok0 rfl) (by decide) 191 rfl ?_
  refine oc_if dX0_on_191 ⟨by decide, by decide⟩ 194 rfl ?_
  refine oc (y := mt_146) (pc := 194) (ok_iconst dX0_on_194 rfl ⟨by decide, by decide⟩) 195 rfl ?_
  exact oc_goto dX0_on_195 ⟨by decide, by decide⟩
theorem o_146_198 : okL gmt mt_146 198 b_146_198 := by
  refine oc (y := mt_146) (pc := 198) (ok_iconst dX0_on_198 rfl ⟨by decide, by decide⟩) 199 rfl ?_
  exact oc_fall rfl
theorem o_146_199 : okL gmt mt_146 199 b_146_199 := by
  exact oc_zret dX0_on_199 rfl
theorem o_146_200 : okL gmt mt_146 200 b_146_200 := by
  refine oc (y := mt_146) (pc := 200) (ok_aload_n dX0_on_200) 201 rfl ?_
  refine oc (y := mt_146) (pc := 201) (ok_getfield dX0_on_201 (fg (own := "GardenChess") (idx := 87) (g := 1) (k := 13) (r := (RX0, TX0, 25)) rfl ⟨⟨by decide, by decide⟩, by decide⟩ (Or.inl q556) (Or.inl rfl) rfl (fg_nil))) 204 rfl ?_
  refine oc_V (y := mt_146) (pc := 204) (vcons (y := mt_146) (pc := 204) (len := 3) (n := 1) (M := mt_212) (by decide) rfl (Or.inr rfl) rfl (ck_V dX0_on_204 ⟨by decide, by decide, by decide, by decide +kernel⟩ q491 q492 q493 q174 q494) vnil) (hok0 rfl) (by decide) 207 rfl ?_
  refine oc (y := mt_146) (pc := 207) (ok_aload_n dX0_on_207) 208 rfl ?_
  refine oc (y := mt_146) (pc := 208) (ok_getfield dX0_on_208 (fg (own := "GardenChess") (idx := 87) (g := 1) (k := 13) (r := (RX0, TX0, 25)) rfl ⟨⟨by decide, by decide⟩, by decide⟩ (Or.inl q556) (Or.inl rfl) rfl (fg_nil))) 211 rfl ?_
  refine oc (y := mt_146) (pc := 211) (ok_aload_n dX0_on_211) 212 rfl ?_
  refine oc (y := mt_146) (pc := 212) (ok_iconst dX0_on_212 rfl ⟨by decide, by decide⟩) 213 rfl ?_
  refine oc_V (y := mt_146) (pc := 213) (vcons (y := mt_146) (pc := 213) (len := 3) (n := 2) (M := mt_127) (by decide) rfl (Or.inr rfl) rfl (ck_V dX0_on_213 ⟨by decide, by decide, by decide, by decide +kernel⟩ q1586 q1588 qs46 q162 q1589) vnil) (hok0 rfl) (by decide) 216 rfl ?_
  refine oc (y := mt_146) (pc := 216) (ok_putfield dX0_on_216 (fp (own := "GardenChess") (idx := 205) (g := 8) (k := 0) (r := (RX6, TX6, 12)) rfl ⟨⟨by decide, by decide⟩, by decide⟩ (Or.inr ⟨_, q446⟩) (Or.inl rfl) rfl (Or.inl rfl) (fp_nil))) 219 rfl ?_
  refine oc (y := mt_146) (pc := 219) (ok_aload_n dX0_on_219) 220 rfl ?_
  refine oc (y := mt_146) (pc := 220) (ok_getfield dX0_on_220 (fg (own := "GardenChess") (idx := 87) (g := 1) (k := 13) (r := (RX0, TX0, 25)) rfl ⟨⟨by decide, by decide⟩, by decide⟩ (Or.inl q556) (Or.inl rfl) rfl (fg_nil))) 223 rfl ?_
  refine oc (y := mt_146) (pc := 223) (ok_aload_n dX0_on_223) 224 rfl ?_
  refine oc (y := mt_146) (pc := 224) (ok_iconst dX0_on_224 rfl ⟨by decide, by decide⟩) 225 rfl ?_
  refine oc_V (y := mt_146) (pc := 225) (vcons (y := mt_146) (pc := 225) (len := 3) (n := 2) (M := mt_126) (by decide) rfl (Or.inr rfl) rfl (ck_V dX0_on_225 ⟨by decide, by decide, by decide, by decide +kernel⟩ q1582 q1584 qs45 q162 q1585) vnil) (hok0 rfl) (by decide) 228 rfl ?_
  refine oc (y := mt_146) (pc := 228) (ok_putfield dX0_on_228 (fp (own := "GardenChess") (idx := 208) (g := 8) (k := 1) (r := (RX6, TX6, 12)) rfl ⟨⟨by decide, by decide⟩, by decide⟩ (Or.inr ⟨_, q448⟩) (Or.inl rfl) rfl (Or.inl rfl) (fp_nil))) 231 rfl ?_
  refine oc (y := mt_146) (pc := 231) (ok_aload_n dX0_on_231) 232 rfl ?_
  refine oc (y := mt_146) (pc := 232) (ok_getfield dX0_on_232 (fg (own := "GardenChess") (idx := 87) (g := 1) (k := 13) (r := (RX0, TX0, 25)) rfl ⟨⟨by decide, by decide⟩, by decide⟩ (Or.inl q556) (Or.inl rfl) rfl (fg_nil))) 235 rfl ?_
  refine oc (y := mt_146) (pc := 235) (ok_iconst dX0_on_235 rfl ⟨by decide, by decide⟩) 236 rfl ?_
  refine oc (y := mt_146) (pc := 236) (ok_putfield dX0_on_236 (fp (own := "GardenChess") (idx := 224) (g := 8) (k := 2) (r := (RX6, TX6, 12)) rfl ⟨⟨by decide, by decide⟩, by decide⟩ (Or.inr ⟨_, q450⟩) (Or.inl rfl) rfl (Or.inl rfl) (fp_nil))) 239 rfl ?_
  refine oc (y := mt_146) (pc := 239) (ok_aload_n dX0_on_239) 240 rfl ?_
  refine oc (y := mt_146) (pc := 240) (ok_getfield dX0_on_240 (fg (own := "GardenChess") (idx := 83) (g := 1) (k := 12) (r := (RX0, TX0, 25)) rfl ⟨⟨by decide, by decide⟩, by decide⟩ (Or.inl q555) (Or.inl rfl) rfl (fg_nil))) 243 rfl ?_
  refine oc (y := mt_146) (pc := 243) (ok_aload_n dX0_on_243) 244 rfl ?_
  refine oc (y := mt_146) (pc := 244) (ok_getfield dX0_on_244 (fg (own := "GardenChess") (idx := 87) (g := 1) (k := 13) (r := (RX0, TX0, 25)) rfl ⟨⟨by decide, by decide⟩, by decide⟩ (Or.inl q556) (Or.inl rfl) rfl (fg_nil))) 247 rfl ?_
  refine oc_V (y := mt_146) (pc := 247) (vcons (y := mt_146) (pc := 247) (len := 3) (n := 2) (M := mt_220) (by decide) rfl (Or.inr rfl) rfl (ck_V dX0_on_247 ⟨by decide, by decide, by decide, by decide +kernel⟩ q1393 q1394 q1395 q174 q1396) vnil) (hok0 rfl) (by decide) 250 rfl ?_
  refine oc (y := mt_146) (pc := 250) (ok_pop dX0_on_250) 251 rfl ?_
  refine oc (y := mt_146) (pc := 251) (ok_aload_n dX0_on_251) 252 rfl ?_
  refine oc (y := mt_146) (pc := 252) (ok_iconst dX0_on_252 rfl ⟨by decide, by decide⟩) 253 rfl ?_
  refine oc (y := mt_146) (pc := 253) (ok_putfield dX0_on_253 (fp (own := "GardenChess") (idx := 150) (g := 1) (k := 20) (r := (RX0, TX0, 25)) rfl ⟨⟨by decide, by decide⟩, by decide⟩ (Or.inl q563) (Or.inl rfl) rfl (Or.inl rfl) (fp_nil))) 256 rfl ?_
  refine oc (y := mt_146) (pc := 256) (ok_iconst dX0_on_256 rfl ⟨by decide, by decide⟩) 257 rfl ?_
  exact oc_zret dX0_on_257 rfl
theorem ok_146 : ∀ q ∈ pr_146, okL gmt mt_146 q.1 q.2 := pk_c o_146_0 (pk_c o_146_79 (pk_c o_146_80 (pk_c o_146_116 (pk_c o_146_117 (pk_c o_146_121 (pk_c o_146_174 (pk_c o_146_175 (pk_c o_146_182 (pk_c o_146_198 (pk_c o_146_199 (pk_c o_146_200 (pk_n))))))))))))
