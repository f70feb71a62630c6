set_option maxRecDepth 100000
theorem o_147_0 : okL gmt mt_147 0 b_147_0 := by
  refine oc (y := mt_147) (pc := 0) (ok_iload_n dX0_status_0) 1 rfl ?_
  refine oc (y := mt_147) (pc := 1) (ok_iconst dX0_status_1 rfl ⟨by decide, by decide⟩) 2 rfl ?_
  refine oc (y := mt_147) (pc := 2) (ok_iconst dX0_status_2 rfl ⟨by decide, by decide⟩) 3 rfl ?_
  refine oc_S (y := mt_147) (pc := 3) (M := mt_92) rfl (ck_S dX0_status_3 ⟨by decide, by decide, by decide, by decide +kernel⟩ q1330 q771 q162 q772) (hok0 rfl) (by decide) 6 rfl ?_
  refine oc_if dX0_status_6 ⟨by decide, by decide⟩ 9 rfl ?_
  refine oc (y := mt_147) (pc := 9) (ok_aload_n dX0_status_9) 10 rfl ?_
  refine oc (y := mt_147) (pc := 10) (ok_getfield dX0_status_10 (fg (own := "GardenChess") (idx := 62) (g := 1) (k := 8) (r := (RX0, TX0, 25)) rfl ⟨⟨by decide, by decide⟩, by decide⟩ (Or.inl q549) (Or.inl rfl) rfl (fg_nil))) 13 rfl ?_
  refine oc (y := mt_147) (pc := 13) (ok_iload_n dX0_status_13) 14 rfl ?_
  refine oc (y := mt_147) (pc := 14) (ok_iaload dX0_status_14) 15 rfl ?_
  exact oc_goto dX0_status_15 ⟨by decide, by decide⟩
theorem o_147_18 : okL gmt mt_147 18 b_147_18 := by
  refine oc (y := mt_147) (pc := 18) (ok_iconst dX0_status_18 rfl ⟨by decide, by decide⟩) 19 rfl ?_
  exact oc_fall rfl
theorem o_147_19 : okL gmt mt_147 19 b_147_19 := by
  exact oc_iret dX0_status_19 rfl
theorem ok_147 : ∀ q ∈ pr_147, okL gmt mt_147 q.1 q.2 := pk_c o_147_0 (pk_c o_147_18 (pk_c o_147_19 (pk_n)))
theorem o_148_0 : okL gmt mt_148 0 b_148_0 := by
  refine oc (y := mt_148) (pc := 0) (ok_aload_n dX1_init_0) 1 rfl ?_
  refine oc_oi (y := mt_148) (pc := 1) dX1_init_1 q217 q210 q211 4 rfl ?_
  refine oc (y := mt_148) (pc := 4) (ok_aload_n dX1_init_4) 5 rfl ?_
  refine oc (y := mt_148) (pc := 5) (ok_iconst dX1_init_5 rfl ⟨by decide, by decide⟩) 6 rfl ?_
  refine oc (y := mt_148) (pc := 6) (ok_newarray dX1_init_6 (by decide) q246) 8 rfl ?_
  refine oc (y := mt_148) (pc := 8) (ok_putfield dX1_init_8 (fp (own := "GardenChess$Board") (idx := 9) (g := 2) (k := 5) (r := (RX1, TX1, 10)) rfl ⟨⟨by decide, by decide⟩, by decide⟩ (Or.inl q259) (Or.inl rfl) rfl (Or.inr ⟨rfl, rfl, rfl, q259⟩) (fp_nil))) 11 rfl ?_
  refine oc (y := mt_148) (pc := 11) (ok_aload_n dX1_init_11) 12 rfl ?_
  refine oc (y := mt_148) (pc := 12) (ok_new (C := RJ2) (T := TJ2) (N := 3) (ci := 2) dX1_init_12 rfl rfl rfl nf_2 q218 q219 q166) 15 rfl ?_
  refine oc (y := mt_148) (pc := 15) (ok_dup dX1_init_15) 16 rfl ?_
  refine oc (y := mt_148) (pc := 16) (ok_iconst dX1_init_16 rfl ⟨by decide, by decide⟩) 17 rfl ?_
  refine oc_I (y := mt_148) (pc := 17) (vcons (y := mt_148) (pc := 17) (len := 3) (n := 2) (M := mt_38) (by decide) rfl (Or.inl rfl) rfl (ck_I dX1_init_17 ⟨by decide, by decide, by decide, by decide +kernel⟩ rfl q220 q221 q166 q222) (vnil)) (hok0 rfl) (by decide) 20 rfl ?_
  refine oc (y := mt_148) (pc := 20) (ok_putfield dX1_init_20 (fp (own := "GardenChess$Board") (idx := 20) (g := 2) (k := 6) (r := (RX1, TX1, 10)) rfl ⟨⟨by decide, by decide⟩, by decide⟩ (Or.inl q263) (Or.inl rfl) rfl (Or.inr ⟨rfl, rfl, rfl, q263⟩) (fp_nil))) 23 rfl ?_
  refine oc (y := mt_148) (pc := 23) (ok_aload_n dX1_init_23) 24 rfl ?_
  refine oc (y := mt_148) (pc := 24) (ok_new (C := RJ2) (T := TJ2) (N := 3) (ci := 2) dX1_init_24 rfl rfl rfl nf_2 q218 q219 q166) 27 rfl ?_
  refine oc (y := mt_148) (pc := 27) (ok_dup dX1_init_27) 28 rfl ?_
  refine oc (y := mt_148) (pc := 28) (ok_iconst dX1_init_28 rfl ⟨by decide, by decide⟩) 29 rfl ?_
  refine oc_I (y := mt_148) (pc := 29) (vcons (y := mt_148) (pc := 29) (len := 3) (n := 2) (M := mt_38) (by decide) rfl (Or.inl rfl) rfl (ck_I dX1_init_29 ⟨by decide, by decide, by decide, by decide +kernel⟩ rfl q220 q221 q166 q222) (vnil)) (hok0 rfl) (by decide) 32 rfl ?_
  refine oc (y := mt_148) (pc := 32) (ok_putfield dX1_init_32 (fp (own := "GardenChess$Board") (idx := 24) (g := 2) (k := 7) (r := (RX1, TX1, 10)) rfl ⟨⟨by decide, by decide⟩, by decide⟩ (Or.inl q266) (Or.inl rfl) rfl (Or.inr ⟨rfl, rfl, rfl, q266⟩) (fp_nil))) 35 rfl ?_
  refine oc (y := mt_148) (pc := 35) (ok_aload_n dX1_init_35) 36 rfl ?_
  refine oc (y := mt_148) (pc := 36) (ok_new (C := RJ2) (T := TJ2) (N := 3) (ci := 2) dX1_init_36 rfl rfl rfl nf_2 q218 q219 q166) 39 rfl ?_
  refine oc (y := mt_148) (pc := 39) (ok_dup dX1_init_39) 40 rfl ?_
  refine oc (y := mt_148) (pc := 40) (ok_iconst dX1_init_40 rfl ⟨by decide, by decide⟩) 41 rfl ?_
  refine oc_I (y := mt_148) (pc := 41) (vcons (y := mt_148) (pc := 41) (len := 3) (n := 2) (M := mt_38) (by decide) rfl (Or.inl rfl) rfl (ck_I dX1_init_41 ⟨by decide, by decide, by decide, by decide +kernel⟩ rfl q220 q221 q166 q222) (vnil)) (hok0 rfl) (by decide) 44 rfl ?_
  refine oc (y := mt_148) (pc := 44) (ok_putfield dX1_init_44 (fp (own := "GardenChess$Board") (idx := 27) (g := 2) (k := 8) (r := (RX1, TX1, 10)) rfl ⟨⟨by decide, by decide⟩, by decide⟩ (Or.inl q269) (Or.inl rfl) rfl (Or.inr ⟨rfl, rfl, rfl, q269⟩) (fp_nil))) 47 rfl ?_
  exact oc_ret dX1_init_47 rfl
theorem ok_148 : ∀ q ∈ pr_148, okL gmt mt_148 q.1 q.2 := pk_c o_148_0 (pk_n)
theorem o_149_0 : okL gmt mt_149 0 b_149_0 := by
  refine oc (y := mt_149) (pc := 0) (ok_aload_n dX1_isNamed_0) 1 rfl ?_
  refine oc (y := mt_149) (pc := 1) (ok_getfield dX1_isNamed_1 (fg (own := "GardenChess$Board") (idx := 20) (g := 2) (k := 6) (r := (RX1, TX1, 10)) rfl ⟨⟨by decide, by decide⟩, by decide⟩ (Or.inl q263) (Or.inl rfl) rfl (fg_nil))) 4 rfl ?_
  refine oc (y := mt_149) (pc := 4) (ok_aload_n dX1_isNamed_4) 5 rfl ?_
  refine oc_S (y := mt_149) (pc := 5) (M := mt_384) rfl (ck_S dX1_isNamed_5 ⟨by decide, by decide, by decide, by decide +kernel⟩ q879 q880 q182 q881) (hok0 rfl) (by decide) 8 rfl ?_
  refine oc (y := mt_149) (pc := 8) (ok_iconst dX1_isNamed_8 rfl ⟨by decide, by decide⟩) 9 rfl ?_
  refine oc_icmp dX1_isNamed_9 ⟨by decide, by decide⟩ 12 rfl ?_
  refine oc (y := mt_149) (pc := 12) (ok_aload_n dX1_isNamed_12) 13 rfl ?_
  refine oc (y := mt_149) (pc := 13) (ok_getfield dX1_isNamed_13 (fg (own := "GardenChess$Board") (idx := 24) (g := 2) (k := 7) (r := (RX1, TX1, 10)) rfl ⟨⟨by decide, by decide⟩, by decide⟩ (Or.inl q266) (Or.inl rfl) rfl (fg_nil))) 16 rfl ?_
  refine oc (y := mt_149) (pc := 16) (ok_aload_n dX1_isNamed_16) 17 rfl ?_
  refine oc_S (y := mt_149) (pc := 17) (M := mt_384) rfl (ck_S dX1_isNamed_17 ⟨by decide, by decide, by decide, by decide +kernel⟩ q879 q880 q182 q881) (hok0 rfl) (by decide) 20 rfl ?_
  refine oc (y := mt_149) (pc := 20) (ok_iconst dX1_isNamed_20 rfl ⟨by decide, by decide⟩) 21 rfl ?_
  refine oc_icmp dX1_isNamed_21 ⟨by decide, by decide⟩ 24 rfl ?_
  refine oc (y := mt_149) (pc := 24) (ok_aload_n dX1_isNamed_24) 25 rfl ?_
  refine oc (y := mt_149) (pc := 25) (ok_getfield dX1_isNamed_25 (fg (own := "GardenChess$Board") (idx := 27) (g := 2) (k := 8) (r := (RX1, TX1, 10)) rfl ⟨⟨by decide, by decide⟩, by decide⟩ (Or.inl q269) (Or.inl rfl) rfl (fg_nil))) 28 rfl ?_
  refine oc (y := mt_149) (pc := 28) (ok_aload_n dX1_isNamed_28) 29 rfl ?_
  refine oc_S (y := mt_149) (pc := 29) (M := mt_384) rfl (ck_S dX1_isNamed_29 ⟨by decide, by decide, by decide, by decide +kernel⟩ q879 q880 q182 q881) (hok0 rfl) (by decide) 32 rfl ?_
  refine oc (y := mt_149) (pc := 32) (ok_iconst dX1_isNamed_32 rfl ⟨by decide, by decide⟩) 33 rfl ?_
  refine oc_icmp dX1_isNamed_33 ⟨by decide, by decide⟩ 36 rfl ?_
  exact oc_fall rfl
theorem o_149_36 : okL gmt mt_149 36 b_149_36 := by
  refine oc (y := mt_149) (pc := 36) (ok_iconst dX1_isNamed_36 rfl ⟨by decide, by decide⟩) 37 rfl ?_
  exact oc_goto dX1_isNamed_37 ⟨by decide, by decide⟩
theorem o_149_40 : okL gmt mt_149 40 b_149_40 := by
  refine oc (y := mt_149) (pc := 40) (ok_iconst dX1_isNamed_40 rfl ⟨by decide, by decide⟩) 41 rfl ?_
  exact oc_fall rfl
theorem o_149_41 : okL gmt mt_149 41 b_149_41 := by
  exact oc_zret dX1_isNamed_41 rfl
theorem ok_149 : ∀ q ∈ pr_149, okL gmt mt_149 q.1 q.2 := pk_c o_149_0 (pk_c o_149_36 (pk_c o_149_40 (pk_c o_149_41 (pk_n))))
theorem o_150_0 : okL gmt mt_150 0 b_150_0 := by
  refine oc (y := mt_150) (pc := 0) (ok_iconst dX1_isFull_0 rfl ⟨by decide, by decide⟩) 1 rfl ?_
  refine oc (y := mt_150) (pc := 1) (ok_istore_n dX1_isFull_1 (by decide)) 2 rfl ?_
  exact oc_fall rfl
theorem o_150_2 : okL gmt mt_150 2 b_150_2 := by
  refine oc (y := mt_150) (pc := 2) (ok_iload_n dX1_isFull_2) 3 rfl ?_
  refine oc (y := mt_150) (pc := 3) (ok_aload_n dX1_isFull_3) 4 rfl ?_
  refine oc (y := mt_150) (pc := 4) (ok_getfield dX1_isFull_4 (fg (own := "GardenChess$Board") (idx := 24) (g := 2) (k := 7) (r := (RX1, TX1, 10)) rfl ⟨⟨by decide, by decide⟩, by decide⟩ (Or.inl q266) (Or.inl rfl) rfl (fg_nil))) 7 rfl ?_
  refine oc_F (y := mt_150) (pc := 7) (vcons (y := mt_150) (pc := 7) (len := 5) (n := 1) (M := mt_39) (by decide) rfl (Or.inr rfl) rfl (ck_F (ci := 2) dX1_isFull_7 rfl rfl (fun G s h => h.2.2.1.1) (by decide) ⟨by decide, by decide, by decide +kernel⟩ q1023 q504 q506 q166 q508) vnil) (hok0 rfl) 12 rfl ?_
  refine oc_icmp dX1_isFull_12 ⟨by decide, by decide⟩ 15 rfl ?_
  refine oc (y := mt_150) (pc := 15) (ok_aload_n dX1_isFull_15) 16 rfl ?_
  refine oc (y := mt_150) (pc := 16) (ok_getfield dX1_isFull_16 (fg (own := "GardenChess$Board") (idx := 24) (g := 2) (k := 7) (r := (RX1, TX1, 10)) rfl ⟨⟨by decide, by decide⟩, by decide⟩ (Or.inl q266) (Or.inl rfl) rfl (fg_nil))) 19 rfl ?_
  refine oc (y := mt_150) (pc := 19) (ok_iload_n dX1_isFull_19) 20 rfl ?_
  refine oc_F (y := mt_150) (pc := 20) (vcons (y := mt_150) (pc := 20) (len := 5) (n := 2) (M := mt_40) (by decide) rfl (Or.inr rfl) rfl (ck_F (ci := 2) dX1_isFull_20 rfl rfl (fun G s h => h.2.2.1.2.1) (by decide) ⟨by decide, by decide, by decide +kernel⟩ q1025 q521 q523 q166 q525) vnil) (hok0 rfl) 25 rfl ?_
  refine oc (y := mt_150) (pc := 25) (ok_checkcast (E := "GardenChess$Man") dX1_isFull_25 q1026 (ct (by decide) rfl (Or.inl rfl) (ct_nil))) 28 rfl ?_
  refine oc (y := mt_150) (pc := 28) (ok_getfield dX1_isFull_28 (fg (own := "GardenChess$Board") (idx := 48) (g := 13) (k := 3) (r := (RX10, TX10, 5)) rfl ⟨⟨by decide, by decide⟩, by decide⟩ (Or.inr ⟨_, q1040⟩) (Or.inl rfl) rfl (fg_nil))) 31 rfl ?_
  refine oc (y := mt_150) (pc := 31) (ok_iload_n dX1_isFull_31) 32 rfl ?_
  refine oc_icmp dX1_isFull_32 ⟨by decide, by decide⟩ 35 rfl ?_
  refine oc (y := mt_150) (pc := 35) (ok_aload_n dX1_isFull_35) 36 rfl ?_
  refine oc (y := mt_150) (pc := 36) (ok_getfield dX1_isFull_36 (fg (own := "GardenChess$Board") (idx := 24) (g := 2) (k := 7) (r := (RX1, TX1, 10)) rfl ⟨⟨by decide, by decide⟩, by decide⟩ (Or.inl q266) (Or.inl rfl) rfl (fg_nil))) 39 rfl ?_
  refine oc (y := mt_150) (pc := 39) (ok_iload_n dX1_isFull_39) 40 rfl ?_
  refine oc_F (y := mt_150) (pc := 40) (vcons (y := mt_150) (pc := 40) (len := 5) (n := 2) (M := mt_40) (by decide) rfl (Or.inr rfl) rfl (ck_F (ci := 2) dX1_isFull_40 rfl rfl (fun G s h => h.2.2.1.2.1) (by decide) ⟨by decide, by decide, by decide +kernel⟩ q1025 q521 q523 q166 q525) vnil) (hok0 rfl) 45 rfl ?_
  refine oc (y := mt_150) (pc := 45) (ok_checkcast (E := "GardenChess$Man") dX1_isFull_45 q1026 (ct (by decide) rfl (Or.inl rfl) (ct_nil))) 48 rfl ?_
  refine oc (y := mt_150) (pc := 48) (ok_getfield dX1_isFull_48 (fg (own := "GardenChess$Board") (idx := 52) (g := 13) (k := 4) (r := (RX10, TX10, 5)) rfl ⟨⟨by decide, by decide⟩, by decide⟩ (Or.inr ⟨_, q1043⟩) (Or.inl rfl) rfl (fg_nil))) 51 rfl ?_
  refine oc (y := mt_150) (pc := 51) (ok_iload_n dX1_isFull_51) 52 rfl ?_
  refine oc_icmp dX1_isFull_52 ⟨by decide, by decide⟩ 55 rfl ?_
  refine oc (y := mt_150) (pc := 55) (ok_iconst dX1_isFull_55 rfl ⟨by decide, by decide⟩) 56 rfl ?_
  exact oc_zret dX1_isFull_56 rfl
theorem o_150_57 : okL gmt mt_150 57 b_150_57 := by
  refine oc (y := mt_150) (pc := 57) (ok_iinc dX1_isFull_57 (by decide)) 60 rfl ?_
  exact oc_goto dX1_isFull_60 ⟨by decide, by decide⟩
theorem o_150_63 : okL gmt mt_150 63 b_150_63 := by
  refine oc (y := mt_150) (pc := 63) (ok_iconst dX1_isFull_63 rfl ⟨by decide, by decide⟩) 64 rfl ?_
  exact oc_zret dX1_isFull_64 rfl
theorem ok_150 : ∀ q ∈ pr_150, okL gmt mt_150 q.1 q.2 := pk_c o_150_0 (pk_c o_150_2 (pk_c o_150_57 (pk_c o_150_63 (pk_n))))
theorem o_151_0 : okL gmt mt_151 0 b_151_0 := by
  refine oc (y := mt_151) (pc := 0) (ok_aload_n dX10_init_0) 1 rfl ?_
  refine oc (y := mt_151) (pc := 1) (ok_aload_n dX10_init_1) 2 rfl ?_
  refine oc_I (y := mt_151) (pc := 2) (vcons (y := mt_151) (pc := 2) (len := 3) (n := 2) (M := mt_385) (by decide) rfl (Or.inl rfl) rfl (ck_I dX10_init_2 ⟨by decide, by decide, by decide, by decide +kernel⟩ rfl q1032 q897 q182 q898) (vnil)) (hok0 rfl) (by decide) 5 rfl ?_
  refine oc (y := mt_151) (pc := 5) (ok_aload_n dX10_init_5) 6 rfl ?_
  refine oc (y := mt_151) (pc := 6) (ok_iload_n dX10_init_6) 7 rfl ?_
  refine oc (y := mt_151) (pc := 7) (ok_putfield dX10_init_7 (fp (own := "GardenChess$Man") (idx := 7) (g := 13) (k := 1) (r := (RX10, TX10, 5)) rfl ⟨⟨by decide, by decide⟩, by decide⟩ (Or.inl q1033) (Or.inl rfl) rfl (Or.inr ⟨rfl, rfl, rfl, q1033⟩) (fp_nil))) 10 rfl ?_
  refine oc (y := mt_151) (pc := 10) (ok_aload_n dX10_init_10) 11 rfl ?_
  refine oc (y := mt_151) (pc := 11) (ok_iload_n dX10_init_11) 12 rfl ?_
  refine oc (y := mt_151) (pc := 12) (ok_putfield dX10_init_12 (fp (own := "GardenChess$Man") (idx := 13) (g := 13) (k := 2) (r := (RX10, TX10, 5)) rfl ⟨⟨by decide, by decide⟩, by decide⟩ (Or.inl q1035) (Or.inl rfl) rfl (Or.inr ⟨rfl, rfl, rfl, q1035⟩) (fp_nil))) 15 rfl ?_
  refine oc (y := mt_151) (pc := 15) (ok_aload_n dX10_init_15) 16 rfl ?_
  refine oc (y := mt_151) (pc := 16) (ok_iload dX10_init_16) 18 rfl ?_
  refine oc (y := mt_151) (pc := 18) (ok_putfield dX10_init_18 (fp (own := "GardenChess$Man") (idx := 16) (g := 13) (k := 3) (r := (RX10, TX10, 5)) rfl ⟨⟨by decide, by decide⟩, by decide⟩ (Or.inl q1038) (Or.inl rfl) rfl (Or.inr ⟨rfl, rfl, rfl, q1038⟩) (fp_nil))) 21 rfl ?_
  refine oc (y := mt_151) (pc := 21) (ok_aload_n dX10_init_21) 22 rfl ?_
  refine oc (y := mt_151) (pc := 22) (ok_iload dX10_init_22) 24 rfl ?_
  refine oc (y := mt_151) (pc := 24) (ok_putfield dX10_init_24 (fp (own := "GardenChess$Man") (idx := 19) (g := 13) (k := 4) (r := (RX10, TX10, 5)) rfl ⟨⟨by decide, by decide⟩, by decide⟩ (Or.inl q1041) (Or.inl rfl) rfl (Or.inr ⟨rfl, rfl, rfl, q1041⟩) (fp_nil))) 27 rfl ?_
  exact oc_ret dX10_init_27 rfl
theorem ok_151 : ∀ q ∈ pr_151, okL gmt mt_151 q.1 q.2 := pk_c o_151_0 (pk_n)
theorem o_152_0 : okL gmt mt_152 0 b_152_0 := by
  refine oc (y := mt_152) (pc := 0) (ok_aload_n dX11_init_0) 1 rfl ?_
  refine oc (y := mt_152) (pc := 1) (ok_aload_n dX11_init_1) 2 rfl ?_
  refine oc_I (y := mt_152) (pc := 2) (vcons (y := mt_152) (pc := 2) (len := 3) (n := 2) (M := mt_385) (by decide) rfl (Or.inl rfl) rfl (ck_I dX11_init_2 ⟨by decide, by decide, by decide, by decide +kernel⟩ rfl q1060 q897 q182 q898) (vnil)) (hok0 rfl) (by decide) 5 rfl ?_
  refine oc (y := mt_152) (pc := 5) (ok_aload_n dX11_init_5) 6 rfl ?_
  refine oc (y := mt_152) (pc := 6) (ok_iload_n dX11_init_6) 7 rfl ?_
  refine oc (y := mt_152) (pc := 7) (ok_putfield dX11_init_7 (fp (own := "GardenChess$Field") (idx := 7) (g := 14) (k := 1) (r := (RX11, TX11, 4)) rfl ⟨⟨by decide, by decide⟩, by decide⟩ (Or.inl q1061) (Or.inl rfl) rfl (Or.inr ⟨rfl, rfl, rfl, q1061⟩) (fp_nil))) 10 rfl ?_
  refine oc (y := mt_152) (pc := 10) (ok_aload_n dX11_init_10) 11 rfl ?_
  refine oc (y := mt_152) (pc := 11) (ok_iload_n dX11_init_11) 12 rfl ?_
  refine oc (y := mt_152) (pc := 12) (ok_putfield dX11_init_12 (fp (own := "GardenChess$Field") (idx := 13) (g := 14) (k := 2) (r := (RX11, TX11, 4)) rfl ⟨⟨by decide, by decide⟩, by decide⟩ (Or.inl q1064) (Or.inl rfl) rfl (Or.inr ⟨rfl, rfl, rfl, q1064⟩) (fp_nil))) 15 rfl ?_
  refine oc (y := mt_152) (pc := 15) (ok_aload_n dX11_init_15) 16 rfl ?_
  refine oc (y := mt_152) (pc := 16) (ok_iload dX11_init_16) 18 rfl ?_
  refine oc (y := mt_152) (pc := 18) (ok_putfield dX11_init_18 (fp (own := "GardenChess$Field") (idx := 16) (g := 14) (k := 3) (r := (RX11, TX11, 4)) rfl ⟨⟨by decide, by decide⟩, by decide⟩ (Or.inl q1067) (Or.inl rfl) rfl (Or.inr ⟨rfl, rfl, rfl, q1067⟩) (fp_nil))) 21 rfl ?_
  exact oc_ret dX11_init_21 rfl
theorem ok_152 : ∀ q ∈ pr_152, okL gmt mt_152 q.1 q.2 := pk_c o_152_0 (pk_n)
theorem o_153_0 : okL gmt mt_153 0 b_153_0 := by
  refine oc (y := mt_153) (pc := 0) (ok_aload_n dX12_init_0) 1 rfl ?_
  refine oc_oi (y := mt_153) (pc := 1) dX12_init_1 q1089 q210 q211 4 rfl ?_
  exact oc_ret dX12_init_4 rfl
theorem ok_153 : ∀ q ∈ pr_153, okL gmt mt_153 q.1 q.2 := pk_c o_153_0 (pk_n)
theorem o_154_0 : okL gmt mt_154 0 b_154_0 := by
  refine oc (y := mt_154) (pc := 0) (ok_aload_n dX13_init_0) 1 rfl ?_
  refine oc_I (y := mt_154) (pc := 1) (vcons (y := mt_154) (pc := 1) (len := 3) (n := 1) (M := mt_153) (by decide) rfl (Or.inl rfl) rfl (ck_IN dX13_init_1 ⟨by decide, by decide, by decide, by decide +kernel⟩ rfl q1086 q1087 q189 q1088) (vnil)) (hok0 rfl) (by decide) 4 rfl ?_
  refine oc (y := mt_154) (pc := 4) (ok_aload_n dX13_init_4) 5 rfl ?_
  refine oc (y := mt_154) (pc := 5) (ok_new (C := RJ2) (T := TJ2) (N := 3) (ci := 2) dX13_init_5 rfl rfl rfl nf_2 q1090 q219 q166) 8 rfl ?_
  refine oc (y := mt_154) (pc := 8) (ok_dup dX13_init_8) 9 rfl ?_
  refine oc (y := mt_154) (pc := 9) (ok_iconst dX13_init_9 rfl ⟨by decide, by decide⟩) 10 rfl ?_
  refine oc_I (y := mt_154) (pc := 10) (vcons (y := mt_154) (pc := 10) (len := 3) (n := 2) (M := mt_38) (by decide) rfl (Or.inl rfl) rfl (ck_I dX13_init_10 ⟨by decide, by decide, by decide, by decide +kernel⟩ rfl q1091 q221 q166 q222) (vnil)) (hok0 rfl) (by decide) 13 rfl ?_
  refine oc (y := mt_154) (pc := 13) (ok_putfield dX13_init_13 (fp (own := "GardenChess$Chain") (idx := 12) (g := 15) (k := 0) (r := (RX13, TX13, 2)) rfl ⟨⟨by decide, by decide⟩, by decide⟩ (Or.inl q1115) (Or.inl rfl) rfl (Or.inr ⟨rfl, rfl, rfl, q1115⟩) (fp_nil))) 16 rfl ?_
  refine oc (y := mt_154) (pc := 16) (ok_aload_n dX13_init_16) 17 rfl ?_
  refine oc (y := mt_154) (pc := 17) (ok_new (C := RJ15) (T := TJ15) (N := 4) (ci := 10) dX13_init_17 rfl rfl rfl nf_10 q1092 q1093 q192) 20 rfl ?_
  refine oc (y := mt_154) (pc := 20) (ok_dup dX13_init_20) 21 rfl ?_
  refine oc_I (y := mt_154) (pc := 21) (vcons (y := mt_154) (pc := 21) (len := 3) (n := 1) (M := mt_33) (by decide) rfl (Or.inl rfl) rfl (ck_I dX13_init_21 ⟨by decide, by decide, by decide, by decide +kernel⟩ rfl q1094 q1095 q192 q1096) (vnil)) (hok0 rfl) (by decide) 24 rfl ?_
  refine oc (y := mt_154) (pc := 24) (ok_putfield dX13_init_24 (fp (own := "GardenChess$Chain") (idx := 21) (g := 15) (k := 1) (r := (RX13, TX13, 2)) rfl ⟨⟨by decide, by decide⟩, by decide⟩ (Or.inl q1116) (Or.inl rfl) rfl (Or.inr ⟨rfl, rfl, rfl, q1116⟩) (fp_nil))) 27 rfl ?_
  exact oc_ret dX13_init_27 rfl
theorem ok_154 : ∀ q ∈ pr_154, okL gmt mt_154 q.1 q.2 := pk_c o_154_0 (pk_n)
theorem o_155_0 : okL gmt mt_155 0 b_155_0 := by
  refine oc (y := mt_155) (pc := 0) (ok_aload_n dX13_add_0) 1 rfl ?_
  refine oc (y := mt_155) (pc := 1) (ok_getfield dX13_add_1 (fg (own := "GardenChess$Chain") (idx := 21) (g := 15) (k := 1) (r := (RX13, TX13, 2)) rfl ⟨⟨by decide, by decide⟩, by decide⟩ (Or.inl q1116) (Or.inl rfl) rfl (fg_nil))) 4 rfl ?_
  refine oc (y := mt_155) (pc := 4) (ok_iload_n dX13_add_4) 5 rfl ?_
  refine oc_V (y := mt_155) (pc := 5) (vcons (y := mt_155) (pc := 5) (len := 3) (n := 2) (M := mt_34) (by decide) rfl (Or.inr rfl) rfl (ck_V dX13_add_5 ⟨by decide, by decide, by decide, by decide +kernel⟩ q1207 q1208 q1209 q192 q1210) vnil) (hok0 rfl) (by decide) 8 rfl ?_
  refine oc (y := mt_155) (pc := 8) (ok_pop dX13_add_8) 9 rfl ?_
  refine oc (y := mt_155) (pc := 9) (ok_aload_n dX13_add_9) 10 rfl ?_
  refine oc (y := mt_155) (pc := 10) (ok_getfield dX13_add_10 (fg (own := "GardenChess$Chain") (idx := 12) (g := 15) (k := 0) (r := (RX13, TX13, 2)) rfl ⟨⟨by decide, by decide⟩, by decide⟩ (Or.inl q1115) (Or.inl rfl) rfl (fg_nil))) 13 rfl ?_
  refine oc (y := mt_155) (pc := 13) (ok_aload_n dX13_add_13) 14 rfl ?_
  refine oc_F (y := mt_155) (pc := 14) (vcons (y := mt_155) (pc := 14) (len := 5) (n := 2) (M := mt_42) (by decide) rfl (Or.inr rfl) rfl (ck_F (ci := 2) dX13_add_14 rfl rfl (fun G s h => h.2.2.1.2.2) (by decide) ⟨by decide, by decide, by decide +kernel⟩ q1263 q933 q935 q166 q937) vnil) (hok0 rfl) 19 rfl ?_
  refine oc (y := mt_155) (pc := 19) (ok_pop dX13_add_19) 20 rfl ?_
  exact oc_ret dX13_add_20 rfl
theorem ok_155 : ∀ q ∈ pr_155, okL gmt mt_155 q.1 q.2 := pk_c o_155_0 (pk_n)
theorem o_156_0 : okL gmt mt_156 0 b_156_0 := by
  refine oc (y := mt_156) (pc := 0) (ok_aload_n dX13_at_0) 1 rfl ?_
  refine oc (y := mt_156) (pc := 1) (ok_getfield dX13_at_1 (fg (own := "GardenChess$Chain") (idx := 12) (g := 15) (k := 0) (r := (RX13, TX13, 2)) rfl ⟨⟨by decide, by decide⟩, by decide⟩ (Or.inl q1115) (Or.inl rfl) rfl (fg_nil))) 4 rfl ?_
  refine oc (y := mt_156) (pc := 4) (ok_iconst dX13_at_4 rfl ⟨by decide, by decide⟩) 5 rfl ?_
  refine oc_F (y := mt_156) (pc := 5) (vcons (y := mt_156) (pc := 5) (len := 5) (n := 2) (M := mt_40) (by decide) rfl (Or.inr rfl) rfl (ck_F (ci := 2) dX13_at_5 rfl rfl (fun G s h => h.2.2.1.2.1) (by decide) ⟨by decide, by decide, by decide +kernel⟩ q1517 q521 q523 q166 q525) vnil) (hok0 rfl) 10 rfl ?_
  refine oc (y := mt_156) (pc := 10) (ok_checkcast (E := "GardenChess$Value") dX13_at_10 q1518 (ct (by decide) rfl (Or.inr q2797) (ct (by decide) rfl (Or.inr q2800) (ct (by decide) rfl (Or.inr q2798) (ct (by decide) rfl (Or.inr q2796) (ct (by decide) rfl (Or.inr q2799) (ct_nil))))))) 13 rfl ?_
  refine oc (y := mt_156) (pc := 13) (ok_aload_n dX13_at_13) 14 rfl ?_
  refine oc_V (y := mt_156) (pc := 14) (vcons (y := mt_156) (pc := 14) (len := 3) (n := 2) (M := mt_163) (by decide) rfl (Or.inr rfl) rfl (ck_A (C := "GardenChess$Asked") (x := ⟨"GardenChess$Value", "at", "(LGardenChess$Moment;)J"⟩) dX13_at_14 (by decide) ⟨by decide, by decide, by decide +kernel⟩ q1519 q1498 q1499 q1500 q195 q1497 q1501) (vcons (y := mt_156) (pc := 14) (len := 3) (n := 2) (M := mt_156) (by decide) rfl (Or.inr rfl) rfl (ck_A (C := "GardenChess$Chain") (x := ⟨"GardenChess$Value", "at", "(LGardenChess$Moment;)J"⟩) dX13_at_14 (by decide) ⟨by decide, by decide, by decide +kernel⟩ q1519 q1498 q1513 q1514 q190 q1497 q1515) (vcons (y := mt_156) (pc := 14) (len := 3) (n := 2) (M := mt_161) (by decide) rfl (Or.inr rfl) rfl (ck_A (C := "GardenChess$Fixed") (x := ⟨"GardenChess$Value", "at", "(LGardenChess$Moment;)J"⟩) dX13_at_14 (by decide) ⟨by decide, by decide, by decide +kernel⟩ q1519 q1498 q1553 q1520 q194 q1497 q1521) (vcons (y := mt_156) (pc := 14) (len := 3) (n := 2) (M := mt_165) (by decide) rfl (Or.inr rfl) rfl (ck_A (C := "GardenChess$Looked") (x := ⟨"GardenChess$Value", "at", "(LGardenChess$Moment;)J"⟩) dX13_at_14 (by decide) ⟨by decide, by decide, by decide +kernel⟩ q1519 q1498 q1554 q1522 q196 q1497 q1523) (vcons (y := mt_156) (pc := 14) (len := 3) (n := 2) (M := mt_159) (by decide) rfl (Or.inr rfl) rfl (ck_A (C := "GardenChess$Pair") (x := ⟨"GardenChess$Value", "at", "(LGardenChess$Moment;)J"⟩) dX13_at_14 (by decide) ⟨by decide, by decide, by decide +kernel⟩ q1519 q1498 q1555 q1525 q193 q1497 q1526) (vnil)))))) (hok0 rfl) (by decide) 17 rfl ?_
  refine oc (y := mt_156) (pc := 17) (ok_lstore_n dX13_at_17 (by decide)) 18 rfl ?_
  refine oc (y := mt_156) (pc := 18) (ok_iconst dX13_at_18 rfl ⟨by decide, by decide⟩) 19 rfl ?_
  refine oc (y := mt_156) (pc := 19) (ok_istore dX13_at_19 (by decide)) 21 rfl ?_
  exact oc_fall rfl
theorem o_156_21 : okL gmt mt_156 21 b_156_21 := by
  refine oc (y := mt_156) (pc := 21) (ok_iload dX13_at_21) 23 rfl ?_
  refine oc (y := mt_156) (pc := 23) (ok_aload_n dX13_at_23) 24 rfl ?_
  refine oc (y := mt_156) (pc := 24) (ok_getfield dX13_at_24 (fg (own := "GardenChess$Chain") (idx := 12) (g := 15) (k := 0) (r := (RX13, TX13, 2)) rfl ⟨⟨by decide, by decide⟩, by decide⟩ (Or.inl q1115) (Or.inl rfl) rfl (fg_nil))) 27 rfl ?_
  refine oc_F (y := mt_156) (pc := 27) (vcons (y := mt_156) (pc := 27) (len := 5) (n := 1) (M := mt_39) (by decide) rfl (Or.inr rfl) rfl (ck_F (ci := 2) dX13_at_27 rfl rfl (fun G s h => h.2.2.1.1) (by decide) ⟨by decide, by decide, by decide +kernel⟩ q1535 q504 q506 q166 q508) vnil) (hok0 rfl) 32 rfl ?_
  refine oc_icmp dX13_at_32 ⟨by decide, by decide⟩ 35 rfl ?_
  refine oc (y := mt_156) (pc := 35) (ok_aload_n dX13_at_35) 36 rfl ?_
  refine oc (y := mt_156) (pc := 36) (ok_getfield dX13_at_36 (fg (own := "GardenChess$Chain") (idx := 21) (g := 15) (k := 1) (r := (RX13, TX13, 2)) rfl ⟨⟨by decide, by decide⟩, by decide⟩ (Or.inl q1116) (Or.inl rfl) rfl (fg_nil))) 39 rfl ?_
  refine oc (y := mt_156) (pc := 39) (ok_iload dX13_at_39) 41 rfl ?_
  refine oc_V (y := mt_156) (pc := 41) (vcons (y := mt_156) (pc := 41) (len := 3) (n := 2) (M := mt_35) (by decide) rfl (Or.inr rfl) rfl (ck_V dX13_at_41 ⟨by decide, by decide, by decide, by decide +kernel⟩ q1536 q1537 q1538 q192 q1539) vnil) (hok0 rfl) (by decide) 44 rfl ?_
  refine oc (y := mt_156) (pc := 44) (ok_lload_n dX13_at_44) 45 rfl ?_
  refine oc (y := mt_156) (pc := 45) (ok_aload_n dX13_at_45) 46 rfl ?_
  refine oc (y := mt_156) (pc := 46) (ok_getfield dX13_at_46 (fg (own := "GardenChess$Chain") (idx := 12) (g := 15) (k := 0) (r := (RX13, TX13, 2)) rfl ⟨⟨by decide, by decide⟩, by decide⟩ (Or.inl q1115) (Or.inl rfl) rfl (fg_nil))) 49 rfl ?_
  refine oc (y := mt_156) (pc := 49) (ok_iload dX13_at_49) 51 rfl ?_
  refine oc_F (y := mt_156) (pc := 51) (vcons (y := mt_156) (pc := 51) (len := 5) (n := 2) (M := mt_40) (by decide) rfl (Or.inr rfl) rfl (ck_F (ci := 2) dX13_at_51 rfl rfl (fun G s h => h.2.2.1.2.1) (by decide) ⟨by decide, by decide, by decide +kernel⟩ q1517 q521 q523 q166 q525) vnil) (hok0 rfl) 56 rfl ?_
  refine oc (y := mt_156) (pc := 56) (ok_checkcast (E := "GardenChess$Value") dX13_at_56 q1518 (ct (by decide) rfl (Or.inr q2797) (ct (by decide) rfl (Or.inr q2800) (ct (by decide) rfl (Or.inr q2798) (ct (by decide) rfl (Or.inr q2796) (ct (by decide) rfl (Or.inr q2799) (ct_nil))))))) 59 rfl ?_
  refine oc (y := mt_156) (pc := 59) (ok_aload_n dX13_at_59) 60 rfl ?_
  refine oc_V (y := mt_156) (pc := 60) (vcons (y := mt_156) (pc := 60) (len := 3) (n := 2) (M := mt_163) (by decide) rfl (Or.inr rfl) rfl (ck_A (C := "GardenChess$Asked") (x := ⟨"GardenChess$Value", "at", "(LGardenChess$Moment;)J"⟩) dX13_at_60 (by decide) ⟨by decide, by decide, by decide +kernel⟩ q1519 q1498 q1499 q1500 q195 q1497 q1501) (vcons (y := mt_156) (pc := 60) (len := 3) (n := 2) (M := mt_156) (by decide) rfl (Or.inr rfl) rfl (ck_A (C := "GardenChess$Chain") (x := ⟨"GardenChess$Value", "at", "(LGardenChess$Moment;)J"⟩) dX13_at_60 (by decide) ⟨by decide, by decide, by decide +kernel⟩ q1519 q1498 q1513 q1514 q190 q1497 q1515) (vcons (y := mt_156) (pc := 60) (len := 3) (n := 2) (M := mt_161) (by decide) rfl (Or.inr rfl) rfl (ck_A (C := "GardenChess$Fixed") (x := ⟨"GardenChess$Value", "at", "(LGardenChess$Moment;)J"⟩) dX13_at_60 (by decide) ⟨by decide, by decide, by decide +kernel⟩ q1519 q1498 q1553 q1520 q194 q1497 q1521) (vcons (y := mt_156) (pc := 60) (len := 3) (n := 2) (M := mt_165) (by decide) rfl (Or.inr rfl) rfl (ck_A (C := "GardenChess$Looked") (x := ⟨"GardenChess$Value", "at", "(LGardenChess$Moment;)J"⟩) dX13_at_60 (by decide) ⟨by decide, by decide, by decide +kernel⟩ q1519 q1498 q1554 q1522 q196 q1497 q1523) (vcons (y := mt_156) (pc := 60) (len := 3) (n := 2) (M := mt_159) (by decide) rfl (Or.inr rfl) rfl (ck_A (C := "GardenChess$Pair") (x := ⟨"GardenChess$Value", "at", "(LGardenChess$Moment;)J"⟩) dX13_at_60 (by decide) ⟨by decide, by decide, by decide +kernel⟩ q1519 q1498 q1555 q1525 q193 q1497 q1526) (vnil)))))) (hok0 rfl) (by decide) 63 rfl ?_
  refine oc_S (y := mt_156) (pc := 63) (M := mt_157) rfl (ck_S dX13_at_63 ⟨by decide, by decide, by decide, by decide +kernel⟩ q1546 q1547 q190 q1548) (hok0 rfl) (by decide) 66 rfl ?_
  refine oc_S (y := mt_156) (pc := 66) (M := mt_119) rfl (ck_SN dX13_at_66 ⟨by decide, by decide, by decide, by decide +kernel⟩ q1552 q1503 q162 q1504) (hok0 rfl) (by decide) 69 rfl ?_
  refine oc (y := mt_156) (pc := 69) (ok_lstore_n dX13_at_69 (by decide)) 70 rfl ?_
  refine oc (y := mt_156) (pc := 70) (ok_iinc dX13_at_70 (by decide)) 73 rfl ?_
  exact oc_goto dX13_at_73 ⟨by decide, by decide⟩
theorem o_156_76 : okL gmt mt_156 76 b_156_76 := by
  refine oc (y := mt_156) (pc := 76) (ok_lload_n dX13_at_76) 77 rfl ?_
  exact oc_lret dX13_at_77 rfl
theorem ok_156 : ∀ q ∈ pr_156, okL gmt mt_156 q.1 q.2 := pk_c o_156_0 (pk_c o_156_21 (pk_c o_156_76 (pk_n)))
theorem o_157_0 : okL gmt mt_157 0 b_157_0 := by
  refine oc (y := mt_157) (pc := 0) (ok_iload_n dX13_two_0) 1 rfl ?_
  exact oc_tsw dX13_two_1 (by decide) (by decide +kernel)
theorem o_157_32 : okL gmt mt_157 32 b_157_32 := by
  refine oc (y := mt_157) (pc := 32) (ok_lload_n dX13_two_32) 33 rfl ?_
  refine oc (y := mt_157) (pc := 33) (ok_lload_n dX13_two_33) 34 rfl ?_
  refine oc (y := mt_157) (pc := 34) (ok_ladd dX13_two_34) 35 rfl ?_
  exact oc_lret dX13_two_35 rfl
theorem o_157_36 : okL gmt mt_157 36 b_157_36 := by
  refine oc (y := mt_157) (pc := 36) (ok_lload_n dX13_two_36) 37 rfl ?_
  refine oc (y := mt_157) (pc := 37) (ok_lload_n dX13_two_37) 38 rfl ?_
  refine oc (y := mt_157) (pc := 38) (ok_lsub dX13_two_38) 39 rfl ?_
  exact oc_lret dX13_two_39 rfl
theorem o_157_40 : okL gmt mt_157 40 b_157_40 := by
  refine oc (y := mt_157) (pc := 40) (ok_lload_n dX13_two_40) 41 rfl ?_
  refine oc (y := mt_157) (pc := 41) (ok_lload_n dX13_two_41) 42 rfl ?_
  refine oc (y := mt_157) (pc := 42) (ok_lmul dX13_two_42) 43 rfl ?_
  exact oc_lret dX13_two_43 rfl
theorem o_157_44 : okL gmt mt_157 44 b_157_44 := by
  refine oc (y := mt_157) (pc := 44) (ok_lload_n dX13_two_44) 45 rfl ?_
  refine oc (y := mt_157) (pc := 45) (ok_lconst dX13_two_45 (by decide) ⟨by decide, by decide⟩) 46 rfl ?_
  refine oc (y := mt_157) (pc := 46) (ok_lcmp dX13_two_46) 47 rfl ?_
  refine oc_if dX13_two_47 ⟨by decide, by decide⟩ 50 rfl ?_
  refine oc (y := mt_157) (pc := 50) (ok_lconst dX13_two_50 (by decide) ⟨by decide, by decide⟩) 51 rfl ?_
  exact oc_goto dX13_two_51 ⟨by decide, by decide⟩
theorem o_157_54 : okL gmt mt_157 54 b_157_54 := by
  refine oc (y := mt_157) (pc := 54) (ok_lload_n dX13_two_54) 55 rfl ?_
  refine oc (y := mt_157) (pc := 55) (ok_lload_n dX13_two_55) 56 rfl ?_
  refine oc_S (y := mt_157) (pc := 56) (M := mt_22) rfl (ck_S dX13_two_56 ⟨by decide, by decide, by decide, by decide +kernel⟩ q1549 q1550 q184 q1551) (hok0 rfl) (by decide) 59 rfl ?_
  exact oc_fall rfl
theorem o_157_59 : okL gmt mt_157 59 b_157_59 := by
  exact oc_lret dX13_two_59 rfl
theorem ok_157 : ∀ q ∈ pr_157, okL gmt mt_157 q.1 q.2 := pk_c o_157_0 (pk_c o_157_32 (pk_c o_157_36 (pk_c o_157_40 (pk_c o_157_44 (pk_c o_157_54 (pk_c o_157_59 (pk_n)))))))
theorem o_158_0 : okL gmt mt_158 0 b_158_0 := by
  refine oc (y := mt_158) (pc := 0) (ok_aload_n dX14_init_0) 1 rfl ?_
  refine oc_I (y := mt_158) (pc := 1) (vcons (y := mt_158) (pc := 1) (len := 3) (n := 1) (M := mt_153) (by decide) rfl (Or.inl rfl) rfl (ck_IN dX14_init_1 ⟨by decide, by decide, by decide, by decide +kernel⟩ rfl q1143 q1087 q189 q1088) (vnil)) (hok0 rfl) (by decide) 4 rfl ?_
  refine oc (y := mt_158) (pc := 4) (ok_aload_n dX14_init_4) 5 rfl ?_
  refine oc (y := mt_158) (pc := 5) (ok_iload_n dX14_init_5) 6 rfl ?_
  refine oc (y := mt_158) (pc := 6) (ok_putfield dX14_init_6 (fp (own := "GardenChess$Pair") (idx := 7) (g := 16) (k := 0) (r := (RX14, TX14, 3)) rfl ⟨⟨by decide, by decide⟩, by decide⟩ (Or.inl q1144) (Or.inl rfl) rfl (Or.inr ⟨rfl, rfl, rfl, q1144⟩) (fp_nil))) 9 rfl ?_
  refine oc (y := mt_158) (pc := 9) (ok_aload_n dX14_init_9) 10 rfl ?_
  refine oc (y := mt_158) (pc := 10) (ok_aload_n dX14_init_10) 11 rfl ?_
  refine oc (y := mt_158) (pc := 11) (ok_putfield dX14_init_11 (fp (own := "GardenChess$Pair") (idx := 13) (g := 16) (k := 1) (r := (RX14, TX14, 3)) rfl ⟨⟨by decide, by decide⟩, by decide⟩ (Or.inl q1145) (Or.inl rfl) rfl (Or.inr ⟨rfl, rfl, rfl, q1145⟩) (fp_nil))) 14 rfl ?_
  refine oc (y := mt_158) (pc := 14) (ok_aload_n dX14_init_14) 15 rfl ?_
  refine oc (y := mt_158) (pc := 15) (ok_aload_n dX14_init_15) 16 rfl ?_
  refine oc (y := mt_158) (pc := 16) (ok_putfield dX14_init_16 (fp (own := "GardenChess$Pair") (idx := 17) (g := 16) (k := 2) (r := (RX14, TX14, 3)) rfl ⟨⟨by decide, by decide⟩, by decide⟩ (Or.inl q1146) (Or.inl rfl) rfl (Or.inr ⟨rfl, rfl, rfl, q1146⟩) (fp_nil))) 19 rfl ?_
  exact oc_ret dX14_init_19 rfl
theorem ok_158 : ∀ q ∈ pr_158, okL gmt mt_158 q.1 q.2 := pk_c o_158_0 (pk_n)
theorem o_159_0 : okL gmt mt_159 0 b_159_0 := by
  refine oc (y := mt_159) (pc := 0) (ok_aload_n dX14_at_0) 1 rfl ?_
  refine oc (y := mt_159) (pc := 1) (ok_getfield dX14_at_1 (fg (own := "GardenChess$Pair") (idx := 13) (g := 16) (k := 1) (r := (RX14, TX14, 3)) rfl ⟨⟨by decide, by decide⟩, by decide⟩ (Or.inl q1145) (Or.inl rfl) rfl (fg_nil))) 4 rfl ?_
  refine oc (y := mt_159) (pc := 4) (ok_aload_n dX14_at_4) 5 rfl ?_
  refine oc_V (y := mt_159) (pc := 5) (vcons (y := mt_159) (pc := 5) (len := 3) (n := 2) (M := mt_163) (by decide) rfl (Or.inr rfl) rfl (ck_A (C := "GardenChess$Asked") (x := ⟨"GardenChess$Value", "at", "(LGardenChess$Moment;)J"⟩) dX14_at_5 (by decide) ⟨by decide, by decide, by decide +kernel⟩ q1527 q1498 q1499 q1500 q195 q1497 q1501) (vcons (y := mt_159) (pc := 5) (len := 3) (n := 2) (M := mt_156) (by decide) rfl (Or.inr rfl) rfl (ck_A (C := "GardenChess$Chain") (x := ⟨"GardenChess$Value", "at", "(LGardenChess$Moment;)J"⟩) dX14_at_5 (by decide) ⟨by decide, by decide, by decide +kernel⟩ q1527 q1498 q1513 q1514 q190 q1497 q1515) (vcons (y := mt_159) (pc := 5) (len := 3) (n := 2) (M := mt_161) (by decide) rfl (Or.inr rfl) rfl (ck_A (C := "GardenChess$Fixed") (x := ⟨"GardenChess$Value", "at", "(LGardenChess$Moment;)J"⟩) dX14_at_5 (by decide) ⟨by decide, by decide, by decide +kernel⟩ q1527 q1498 q1553 q1520 q194 q1497 q1521) (vcons (y := mt_159) (pc := 5) (len := 3) (n := 2) (M := mt_165) (by decide) rfl (Or.inr rfl) rfl (ck_A (C := "GardenChess$Looked") (x := ⟨"GardenChess$Value", "at", "(LGardenChess$Moment;)J"⟩) dX14_at_5 (by decide) ⟨by decide, by decide, by decide +kernel⟩ q1527 q1498 q1554 q1522 q196 q1497 q1523) (vcons (y := mt_159) (pc := 5) (len := 3) (n := 2) (M := mt_159) (by decide) rfl (Or.inr rfl) rfl (ck_A (C := "GardenChess$Pair") (x := ⟨"GardenChess$Value", "at", "(LGardenChess$Moment;)J"⟩) dX14_at_5 (by decide) ⟨by decide, by decide, by decide +kernel⟩ q1527 q1498 q1555 q1525 q193 q1497 q1526) (vnil)))))) (hok0 rfl) (by decide) 8 rfl ?_
  refine oc (y := mt_159) (pc := 8) (ok_lstore_n dX14_at_8 (by decide)) 9 rfl ?_
  refine oc (y := mt_159) (pc := 9) (ok_aload_n dX14_at_9) 10 rfl ?_
  refine oc (y := mt_159) (pc := 10) (ok_getfield dX14_at_10 (fg (own := "GardenChess$Pair") (idx := 17) (g := 16) (k := 2) (r := (RX14, TX14, 3)) rfl ⟨⟨by decide, by decide⟩, by decide⟩ (Or.inl q1146) (Or.inl rfl) rfl (fg_nil))) 13 rfl ?_
  refine oc (y := mt_159) (pc := 13) (ok_aload_n dX14_at_13) 14 rfl ?_
  refine oc_V (y := mt_159) (pc := 14) (vcons (y := mt_159) (pc := 14) (len := 3) (n := 2) (M := mt_163) (by decide) rfl (Or.inr rfl) rfl (ck_A (C := "GardenChess$Asked") (x := ⟨"GardenChess$Value", "at", "(LGardenChess$Moment;)J"⟩) dX14_at_14 (by decide) ⟨by decide, by decide, by decide +kernel⟩ q1527 q1498 q1499 q1500 q195 q1497 q1501) (vcons (y := mt_159) (pc := 14) (len := 3) (n := 2) (M := mt_156) (by decide) rfl (Or.inr rfl) rfl (ck_A (C := "GardenChess$Chain") (x := ⟨"GardenChess$Value", "at", "(LGardenChess$Moment;)J"⟩) dX14_at_14 (by decide) ⟨by decide, by decide, by decide +kernel⟩ q1527 q1498 q1513 q1514 q190 q1497 q1515) (vcons (y := mt_159) (pc := 14) (len := 3) (n := 2) (M := mt_161) (by decide) rfl (Or.inr rfl) rfl (ck_A (C := "GardenChess$Fixed") (x := ⟨"GardenChess$Value", "at", "(LGardenChess$Moment;)J"⟩) dX14_at_14 (by decide) ⟨by decide, by decide, by decide +kernel⟩ q1527 q1498 q1553 q1520 q194 q1497 q1521) (vcons (y := mt_159) (pc := 14) (len := 3) (n := 2) (M := mt_165) (by decide) rfl (Or.inr rfl) rfl (ck_A (C := "GardenChess$Looked") (x := ⟨"GardenChess$Value", "at", "(LGardenChess$Moment;)J"⟩) dX14_at_14 (by decide) ⟨by decide, by decide, by decide +kernel⟩ q1527 q1498 q1554 q1522 q196 q1497 q1523) (vcons (y := mt_159) (pc := 14) (len := 3) (n := 2) (M := mt_159) (by decide) rfl (Or.inr rfl) rfl (ck_A (C := "GardenChess$Pair") (x := ⟨"GardenChess$Value", "at", "(LGardenChess$Moment;)J"⟩) dX14_at_14 (by decide) ⟨by decide, by decide, by decide +kernel⟩ q1527 q1498 q1555 q1525 q193 q1497 q1526) (vnil)))))) (hok0 rfl) (by decide) 17 rfl ?_
  refine oc (y := mt_159) (pc := 17) (ok_lstore dX14_at_17 (by decide)) 19 rfl ?_
  refine oc (y := mt_159) (pc := 19) (ok_aload_n dX14_at_19) 20 rfl ?_
  refine oc (y := mt_159) (pc := 20) (ok_getfield dX14_at_20 (fg (own := "GardenChess$Pair") (idx := 7) (g := 16) (k := 0) (r := (RX14, TX14, 3)) rfl ⟨⟨by decide, by decide⟩, by decide⟩ (Or.inl q1144) (Or.inl rfl) rfl (fg_nil))) 23 rfl ?_
  refine oc (y := mt_159) (pc := 23) (ok_lload_n dX14_at_23) 24 rfl ?_
  refine oc (y := mt_159) (pc := 24) (ok_lload dX14_at_24) 26 rfl ?_
  refine oc (y := mt_159) (pc := 26) (ok_lcmp dX14_at_26) 27 rfl ?_
  refine oc_if dX14_at_27 ⟨by decide, by decide⟩ 30 rfl ?_
  refine oc (y := mt_159) (pc := 30) (ok_iconst dX14_at_30 rfl ⟨by decide, by decide⟩) 31 rfl ?_
  exact oc_goto dX14_at_31 ⟨by decide, by decide⟩
theorem o_159_34 : okL gmt mt_159 34 b_159_34 := by
  refine oc (y := mt_159) (pc := 34) (ok_iconst dX14_at_34 rfl ⟨by decide, by decide⟩) 35 rfl ?_
  exact oc_fall rfl
theorem o_159_35 : okL gmt mt_159 35 b_159_35 := by
  refine oc_icmp dX14_at_35 ⟨by decide, by decide⟩ 38 rfl ?_
  refine oc (y := mt_159) (pc := 38) (ok_lload_n dX14_at_38) 39 rfl ?_
  exact oc_goto dX14_at_39 ⟨by decide, by decide⟩
theorem o_159_42 : okL gmt mt_159 42 b_159_42 := by
  refine oc (y := mt_159) (pc := 42) (ok_lload dX14_at_42) 44 rfl ?_
  exact oc_fall rfl
theorem o_159_44 : okL gmt mt_159 44 b_159_44 := by
  exact oc_lret dX14_at_44 rfl
theorem ok_159 : ∀ q ∈ pr_159, okL gmt mt_159 q.1 q.2 := pk_c o_159_0 (pk_c o_159_34 (pk_c o_159_35 (pk_c o_159_42 (pk_c o_159_44 (pk_n)))))
theorem o_160_0 : okL gmt mt_160 0 b_160_0 := by
  refine oc (y := mt_160) (pc := 0) (ok_aload_n dX15_init_0) 1 rfl ?_
  refine oc_I (y := mt_160) (pc := 1) (vcons (y := mt_160) (pc := 1) (len := 3) (n := 1) (M := mt_153) (by decide) rfl (Or.inl rfl) rfl (ck_IN dX15_init_1 ⟨by decide, by decide, by decide, by decide +kernel⟩ rfl q1159 q1087 q189 q1088) (vnil)) (hok0 rfl) (by decide) 4 rfl ?_
  refine oc (y := mt_160) (pc := 4) (ok_aload_n dX15_init_4) 5 rfl ?_
  refine oc (y := mt_160) (pc := 5) (ok_lload_n dX15_init_5) 6 rfl ?_
  refine oc (y := mt_160) (pc := 6) (ok_putfield dX15_init_6 (fp (own := "GardenChess$Fixed") (idx := 7) (g := 17) (k := 0) (r := (RX15, TX15, 1)) rfl ⟨⟨by decide, by decide⟩, by decide⟩ (Or.inl q1160) (Or.inl rfl) rfl (Or.inr ⟨rfl, rfl, rfl, q1160⟩) (fp_nil))) 9 rfl ?_
  exact oc_ret dX15_init_9 rfl
theorem ok_160 : ∀ q ∈ pr_160, okL gmt mt_160 q.1 q.2 := pk_c o_160_0 (pk_n)
theorem o_161_0 : okL gmt mt_161 0 b_161_0 := by
  refine oc (y := mt_161) (pc := 0) (ok_aload_n dX15_at_0) 1 rfl ?_
  refine oc (y := mt_161) (pc := 1) (ok_getfield dX15_at_1 (fg (own := "GardenChess$Fixed") (idx := 7) (g := 17) (k := 0) (r := (RX15, TX15, 1)) rfl ⟨⟨by decide, by decide⟩, by decide⟩ (Or.inl q1160) (Or.inl rfl) rfl (fg_nil))) 4 rfl ?_
  exact oc_lret dX15_at_4 rfl
theorem ok_161 : ∀ q ∈ pr_161, okL gmt mt_161 q.1 q.2 := pk_c o_161_0 (pk_n)
theorem o_162_0 : okL gmt mt_162 0 b_162_0 := by
  refine oc (y := mt_162) (pc := 0) (ok_aload_n dX16_init_0) 1 rfl ?_
  refine oc_I (y := mt_162) (pc := 1) (vcons (y := mt_162) (pc := 1) (len := 3) (n := 1) (M := mt_153) (by decide) rfl (Or.inl rfl) rfl (ck_IN dX16_init_1 ⟨by decide, by decide, by decide, by decide +kernel⟩ rfl q1174 q1087 q189 q1088) (vnil)) (hok0 rfl) (by decide) 4 rfl ?_
  refine oc (y := mt_162) (pc := 4) (ok_aload_n dX16_init_4) 5 rfl ?_
  refine oc (y := mt_162) (pc := 5) (ok_iload_n dX16_init_5) 6 rfl ?_
  refine oc (y := mt_162) (pc := 6) (ok_putfield dX16_init_6 (fp (own := "GardenChess$Asked") (idx := 7) (g := 18) (k := 0) (r := (RX16, TX16, 1)) rfl ⟨⟨by decide, by decide⟩, by decide⟩ (Or.inl q1175) (Or.inl rfl) rfl (Or.inr ⟨rfl, rfl, rfl, q1175⟩) (fp_nil))) 9 rfl ?_
  exact oc_ret dX16_init_9 rfl
theorem ok_162 : ∀ q ∈ pr_162, okL gmt mt_162 q.1 q.2 := pk_c o_162_0 (pk_n)
theorem o_163_0 : okL gmt mt_163 0 b_163_0 := by
  refine oc (y := mt_163) (pc := 0) (ok_aload_n dX16_at_0) 1 rfl ?_
  refine oc (y := mt_163) (pc := 1) (ok_getfield dX16_at_1 (fg (own := "GardenChess$Asked") (idx := 13) (g := 6) (k := 0) (r := (RX4, TX4, 1)) rfl ⟨⟨by decide, by decide⟩, by decide⟩ (Or.inr ⟨_, q407⟩) (Or.inl rfl) rfl (fg_nil))) 4 rfl ?_
  refine oc (y := mt_163) (pc := 4) (ok_aload_n dX16_at_4) 5 rfl ?_
  refine oc (y := mt_163) (pc := 5) (ok_getfield dX16_at_5 (fg (own := "GardenChess$Asked") (idx := 7) (g := 18) (k := 0) (r := (RX16, TX16, 1)) rfl ⟨⟨by decide, by decide⟩, by decide⟩ (Or.inl q1175) (Or.inl rfl) rfl (fg_nil))) 8 rfl ?_
  refine oc (y := mt_163) (pc := 8) (ok_laload dX16_at_8) 9 rfl ?_
  refine oc_S (y := mt_163) (pc := 9) (M := mt_119) rfl (ck_SN dX16_at_9 ⟨by decide, by decide, by decide, by decide +kernel⟩ q1502 q1503 q162 q1504) (hok0 rfl) (by decide) 12 rfl ?_
  exact oc_lret dX16_at_12 rfl
theorem ok_163 : ∀ q ∈ pr_163, okL gmt mt_163 q.1 q.2 := pk_c o_163_0 (pk_n)
theorem o_164_0 : okL gmt mt_164 0 b_164_0 := by
  refine oc (y := mt_164) (pc := 0) (ok_aload_n dX17_init_0) 1 rfl ?_
  refine oc (y := mt_164) (pc := 1) (ok_aload_n dX17_init_1) 2 rfl ?_
  refine oc (y := mt_164) (pc := 2) (ok_putfield dX17_init_2 (fp (own := "GardenChess$Looked") (idx := 1) (g := 19) (k := 2) (r := (RX17, TX17, 3)) rfl ⟨⟨by decide, by decide⟩, by decide⟩ (Or.inl q1193) (Or.inl rfl) rfl (Or.inr ⟨rfl, rfl, rfl, q1193⟩) (fp_nil))) 5 rfl ?_
  refine oc (y := mt_164) (pc := 5) (ok_aload_n dX17_init_5) 6 rfl ?_
  refine oc_I (y := mt_164) (pc := 6) (vcons (y := mt_164) (pc := 6) (len := 3) (n := 1) (M := mt_153) (by decide) rfl (Or.inl rfl) rfl (ck_IN dX17_init_6 ⟨by decide, by decide, by decide, by decide +kernel⟩ rfl q1190 q1087 q189 q1088) (vnil)) (hok0 rfl) (by decide) 9 rfl ?_
  refine oc (y := mt_164) (pc := 9) (ok_aload_n dX17_init_9) 10 rfl ?_
  refine oc (y := mt_164) (pc := 10) (ok_iload_n dX17_init_10) 11 rfl ?_
  refine oc (y := mt_164) (pc := 11) (ok_putfield dX17_init_11 (fp (own := "GardenChess$Looked") (idx := 13) (g := 19) (k := 0) (r := (RX17, TX17, 3)) rfl ⟨⟨by decide, by decide⟩, by decide⟩ (Or.inl q1191) (Or.inl rfl) rfl (Or.inr ⟨rfl, rfl, rfl, q1191⟩) (fp_nil))) 14 rfl ?_
  refine oc (y := mt_164) (pc := 14) (ok_aload_n dX17_init_14) 15 rfl ?_
  refine oc (y := mt_164) (pc := 15) (ok_aload_n dX17_init_15) 16 rfl ?_
  refine oc (y := mt_164) (pc := 16) (ok_putfield dX17_init_16 (fp (own := "GardenChess$Looked") (idx := 17) (g := 19) (k := 1) (r := (RX17, TX17, 3)) rfl ⟨⟨by decide, by decide⟩, by decide⟩ (Or.inl q1192) (Or.inl rfl) rfl (Or.inr ⟨rfl, rfl, rfl, q1192⟩) (fp_nil))) 19 rfl ?_
  exact oc_ret dX17_init_19 rfl
theorem ok_164 : ∀ q ∈ pr_164, okL gmt mt_164 q.1 q.2 := pk_c o_164_0 (pk_n)
theorem o_165_0 : okL gmt mt_165 0 b_165_0 := by
  refine oc (y := mt_165) (pc := 0) (ok_aload_n dX17_at_0) 1 rfl ?_
  refine oc (y := mt_165) (pc := 1) (ok_getfield dX17_at_1 (fg (own := "GardenChess$Looked") (idx := 1) (g := 19) (k := 2) (r := (RX17, TX17, 3)) rfl ⟨⟨by decide, by decide⟩, by decide⟩ (Or.inl q1193) (Or.inl rfl) rfl (fg_nil))) 4 rfl ?_
  refine oc (y := mt_165) (pc := 4) (ok_aload_n dX17_at_4) 5 rfl ?_
  refine oc (y := mt_165) (pc := 5) (ok_getfield dX17_at_5 (fg (own := "GardenChess$Looked") (idx := 13) (g := 19) (k := 0) (r := (RX17, TX17, 3)) rfl ⟨⟨by decide, by decide⟩, by decide⟩ (Or.inl q1191) (Or.inl rfl) rfl (fg_nil))) 8 rfl ?_
  refine oc (y := mt_165) (pc := 8) (ok_aload_n dX17_at_8) 9 rfl ?_
  refine oc (y := mt_165) (pc := 9) (ok_getfield dX17_at_9 (fg (own := "GardenChess$Looked") (idx := 17) (g := 19) (k := 1) (r := (RX17, TX17, 3)) rfl ⟨⟨by decide, by decide⟩, by decide⟩ (Or.inl q1192) (Or.inl rfl) rfl (fg_nil))) 12 rfl ?_
  refine oc (y := mt_165) (pc := 12) (ok_aload_n dX17_at_12) 13 rfl ?_
  refine oc_V (y := mt_165) (pc := 13) (vcons (y := mt_165) (pc := 13) (len := 3) (n := 2) (M := mt_163) (by decide) rfl (Or.inr rfl) rfl (ck_A (C := "GardenChess$Asked") (x := ⟨"GardenChess$Value", "at", "(LGardenChess$Moment;)J"⟩) dX17_at_13 (by decide) ⟨by decide, by decide, by decide +kernel⟩ q1524 q1498 q1499 q1500 q195 q1497 q1501) (vcons (y := mt_165) (pc := 13) (len := 3) (n := 2) (M := mt_156) (by decide) rfl (Or.inr rfl) rfl (ck_A (C := "GardenChess$Chain") (x := ⟨"GardenChess$Value", "at", "(LGardenChess$Moment;)J"⟩) dX17_at_13 (by decide) ⟨by decide, by decide, by decide +kernel⟩ q1524 q1498 q1513 q1514 q190 q1497 q1515) (vcons (y := mt_165) (pc := 13) (len := 3) (n := 2) (M := mt_161) (by decide) rfl (Or.inr rfl) rfl (ck_A (C := "GardenChess$Fixed") (x := ⟨"GardenChess$Value", "at", "(LGardenChess$Moment;)J"⟩) dX17_at_13 (by decide) ⟨by decide, by decide, by decide +kernel⟩ q1524 q1498 q1553 q1520 q194 q1497 q1521) (vcons (y := mt_165) (pc := 13) (len := 3) (n := 2) (M := mt_165) (by decide) rfl (Or.inr rfl) rfl (ck_A (C := "GardenChess$Looked") (x := ⟨"GardenChess$Value", "at", "(LGardenChess$Moment;)J"⟩) dX17_at_13 (by decide) ⟨by decide, by decide, by decide +kernel⟩ q1524 q1498 q1554 q1522 q196 q1497 q1523) (vcons (y := mt_165) (pc := 13) (len := 3) (n := 2) (M := mt_159) (by decide) rfl (Or.inr rfl) rfl (ck_A (C := "GardenChess$Pair") (x := ⟨"GardenChess$Value", "at", "(LGardenChess$Moment;)J"⟩) dX17_at_13 (by decide) ⟨by decide, by decide, by decide +kernel⟩ q1524 q1498 q1555 q1525 q193 q1497 q1526) (vnil)))))) (hok0 rfl) (by decide) 16 rfl ?_
  refine oc_V (y := mt_165) (pc := 16) (vcons (y := mt_165) (pc := 16) (len := 3) (n := 3) (M := mt_120) (by decide) rfl (Or.inr rfl) rfl (ck_VN dX17_at_16 ⟨by decide, by decide, by decide, by decide +kernel⟩ q1528 q1530 qs44 q162 q1531) vnil) (hok0 rfl) (by decide) 19 rfl ?_
  refine oc_S (y := mt_165) (pc := 19) (M := mt_119) rfl (ck_SN dX17_at_19 ⟨by decide, by decide, by decide, by decide +kernel⟩ q1533 q1503 q162 q1504) (hok0 rfl) (by decide) 22 rfl ?_
  exact oc_lret dX17_at_22 rfl
theorem ok_165 : ∀ q ∈ pr_165, okL gmt mt_165 q.1 q.2 := pk_c o_165_0 (pk_n)
theorem o_166_0 : okL gmt mt_166 0 b_166_0 := by
  refine oc (y := mt_166) (pc := 0) (ok_aload_n dX18_init_0) 1 rfl ?_
  refine oc_oi (y := mt_166) (pc := 1) dX18_init_1 q1731 q210 q211 4 rfl ?_
  refine oc (y := mt_166) (pc := 4) (ok_aload_n dX18_init_4) 5 rfl ?_
  refine oc (y := mt_166) (pc := 5) (ok_ldc2 dX18_init_5 ⟨by decide, by decide⟩ (show Cond.constantLong _ _ (Int64.ofInt (-1)) ∈ lw_all from q1732)) 8 rfl ?_
  refine oc (y := mt_166) (pc := 8) (ok_putfield dX18_init_8 (fp (own := "GardenChess$Question") (idx := 11) (g := 20) (k := 3) (r := (RX18, TX18, 5)) rfl ⟨⟨by decide, by decide⟩, by decide⟩ (Or.inl q1736) (Or.inl rfl) rfl (Or.inl rfl) (fp_nil))) 11 rfl ?_
  refine oc (y := mt_166) (pc := 11) (ok_aload_n dX18_init_11) 12 rfl ?_
  refine oc (y := mt_166) (pc := 12) (ok_iload_n dX18_init_12) 13 rfl ?_
  refine oc (y := mt_166) (pc := 13) (ok_putfield dX18_init_13 (fp (own := "GardenChess$Question") (idx := 17) (g := 20) (k := 0) (r := (RX18, TX18, 5)) rfl ⟨⟨by decide, by decide⟩, by decide⟩ (Or.inl q1733) (Or.inl rfl) rfl (Or.inr ⟨rfl, rfl, rfl, q1733⟩) (fp_nil))) 16 rfl ?_
  refine oc (y := mt_166) (pc := 16) (ok_aload_n dX18_init_16) 17 rfl ?_
  refine oc (y := mt_166) (pc := 17) (ok_aload_n dX18_init_17) 18 rfl ?_
  refine oc (y := mt_166) (pc := 18) (ok_putfield dX18_init_18 (fp (own := "GardenChess$Question") (idx := 21) (g := 20) (k := 1) (r := (RX18, TX18, 5)) rfl ⟨⟨by decide, by decide⟩, by decide⟩ (Or.inl q1734) (Or.inl rfl) rfl (Or.inr ⟨rfl, rfl, rfl, q1734⟩) (fp_nil))) 21 rfl ?_
  refine oc (y := mt_166) (pc := 21) (ok_aload_n dX18_init_21) 22 rfl ?_
  refine oc (y := mt_166) (pc := 22) (ok_aload_n dX18_init_22) 23 rfl ?_
  refine oc (y := mt_166) (pc := 23) (ok_putfield dX18_init_23 (fp (own := "GardenChess$Question") (idx := 25) (g := 20) (k := 2) (r := (RX18, TX18, 5)) rfl ⟨⟨by decide, by decide⟩, by decide⟩ (Or.inl q1735) (Or.inl rfl) rfl (Or.inr ⟨rfl, rfl, rfl, q1735⟩) (fp_nil))) 26 rfl ?_
  exact oc_ret dX18_init_26 rfl
theorem ok_166 : ∀ q ∈ pr_166, okL gmt mt_166 q.1 q.2 := pk_c o_166_0 (pk_n)
theorem o_167_0 : okL gmt mt_167 0 b_167_0 := by
  refine oc (y := mt_167) (pc := 0) (ok_aload_n dX18_meets_0) 1 rfl ?_
  refine oc (y := mt_167) (pc := 1) (ok_getfield dX18_meets_1 (fg (own := "GardenChess$Question") (idx := 17) (g := 20) (k := 0) (r := (RX18, TX18, 5)) rfl ⟨⟨by decide, by decide⟩, by decide⟩ (Or.inl q1733) (Or.inl rfl) rfl (fg_nil))) 4 rfl ?_
  refine oc (y := mt_167) (pc := 4) (ok_iconst dX18_meets_4 rfl ⟨by decide, by decide⟩) 5 rfl ?_
  refine oc_icmp dX18_meets_5 ⟨by decide, by decide⟩ 8 rfl ?_
  refine oc (y := mt_167) (pc := 8) (ok_aload_n dX18_meets_8) 9 rfl ?_
  refine oc (y := mt_167) (pc := 9) (ok_getfield dX18_meets_9 (fg (own := "GardenChess$Question") (idx := 21) (g := 20) (k := 1) (r := (RX18, TX18, 5)) rfl ⟨⟨by decide, by decide⟩, by decide⟩ (Or.inl q1734) (Or.inl rfl) rfl (fg_nil))) 12 rfl ?_
  refine oc (y := mt_167) (pc := 12) (ok_aload_n dX18_meets_12) 13 rfl ?_
  refine oc_V (y := mt_167) (pc := 13) (vcons (y := mt_167) (pc := 13) (len := 3) (n := 2) (M := mt_204) (by decide) rfl (Or.inr rfl) rfl (ck_A (C := "GardenChess$All") (x := ⟨"GardenChess$Test", "holds", "(LGardenChess$Moment;)Z"⟩) dX18_meets_13 (by decide) ⟨by decide, by decide, by decide +kernel⟩ q1753 q1755 q1756 q1757 q202 q1754 q1758) (vcons (y := mt_167) (pc := 13) (len := 3) (n := 2) (M := mt_200) (by decide) rfl (Or.inr rfl) rfl (ck_A (C := "GardenChess$Facts") (x := ⟨"GardenChess$Test", "holds", "(LGardenChess$Moment;)Z"⟩) dX18_meets_13 (by decide) ⟨by decide, by decide, by decide +kernel⟩ q1753 q1755 q1759 q1760 q200 q1754 q1761) (vcons (y := mt_167) (pc := 13) (len := 3) (n := 2) (M := mt_202) (by decide) rfl (Or.inr rfl) rfl (ck_A (C := "GardenChess$Not") (x := ⟨"GardenChess$Test", "holds", "(LGardenChess$Moment;)Z"⟩) dX18_meets_13 (by decide) ⟨by decide, by decide, by decide +kernel⟩ q1753 q1755 q1774 q1768 q201 q1754 q1769) (vcons (y := mt_167) (pc := 13) (len := 3) (n := 2) (M := mt_206) (by decide) rfl (Or.inr rfl) rfl (ck_A (C := "GardenChess$Than") (x := ⟨"GardenChess$Test", "holds", "(LGardenChess$Moment;)Z"⟩) dX18_meets_13 (by decide) ⟨by decide, by decide, by decide +kernel⟩ q1753 q1755 q1775 q1771 q203 q1754 q1772) (vnil))))) (hok0 rfl) (by decide) 16 rfl ?_
  refine oc_if dX18_meets_16 ⟨by decide, by decide⟩ 19 rfl ?_
  exact oc_ret dX18_meets_19 rfl
theorem o_167_20 : okL gmt mt_167 20 b_167_20 := by
  refine oc (y := mt_167) (pc := 20) (ok_aload_n dX18_meets_20) 21 rfl ?_
  refine oc (y := mt_167) (pc := 21) (ok_aload_n dX18_meets_21) 22 rfl ?_
  refine oc (y := mt_167) (pc := 22) (ok_getfield dX18_meets_22 (fg (own := "GardenChess$Question") (idx := 17) (g := 20) (k := 0) (r := (RX18, TX18, 5)) rfl ⟨⟨by decide, by decide⟩, by decide⟩ (Or.inl q1733) (Or.inl rfl) rfl (fg_nil))) 25 rfl ?_
  refine oc (y := mt_167) (pc := 25) (ok_iconst dX18_meets_25 rfl ⟨by decide, by decide⟩) 26 rfl ?_
  refine oc_icmp dX18_meets_26 ⟨by decide, by decide⟩ 29 rfl ?_
  refine oc (y := mt_167) (pc := 29) (ok_lconst dX18_meets_29 (by decide) ⟨by decide, by decide⟩) 30 rfl ?_
  refine oc (y := mt_167) (pc := 30) (ok_aload_n dX18_meets_30) 31 rfl ?_
  refine oc (y := mt_167) (pc := 31) (ok_getfield dX18_meets_31 (fg (own := "GardenChess$Question") (idx := 11) (g := 20) (k := 3) (r := (RX18, TX18, 5)) rfl ⟨⟨by decide, by decide⟩, by decide⟩ (Or.inl q1736) (Or.inl rfl) rfl (fg_nil))) 34 rfl ?_
  refine oc_S (y := mt_167) (pc := 34) (M := mt_21) rfl (ck_S dX18_meets_34 ⟨by decide, by decide, by decide, by decide +kernel⟩ q1776 q1511 q184 q1512) (hok0 rfl) (by decide) 37 rfl ?_
  refine oc (y := mt_167) (pc := 37) (ok_lconst dX18_meets_37 (by decide) ⟨by decide, by decide⟩) 38 rfl ?_
  refine oc (y := mt_167) (pc := 38) (ok_ladd dX18_meets_38) 39 rfl ?_
  exact oc_goto dX18_meets_39 ⟨by decide, by decide⟩
theorem o_167_42 : okL gmt mt_167 42 b_167_42 := by
  refine oc (y := mt_167) (pc := 42) (ok_aload_n dX18_meets_42) 43 rfl ?_
  refine oc (y := mt_167) (pc := 43) (ok_getfield dX18_meets_43 (fg (own := "GardenChess$Question") (idx := 17) (g := 20) (k := 0) (r := (RX18, TX18, 5)) rfl ⟨⟨by decide, by decide⟩, by decide⟩ (Or.inl q1733) (Or.inl rfl) rfl (fg_nil))) 46 rfl ?_
  refine oc_if dX18_meets_46 ⟨by decide, by decide⟩ 49 rfl ?_
  refine oc (y := mt_167) (pc := 49) (ok_aload_n dX18_meets_49) 50 rfl ?_
  refine oc (y := mt_167) (pc := 50) (ok_getfield dX18_meets_50 (fg (own := "GardenChess$Question") (idx := 41) (g := 20) (k := 4) (r := (RX18, TX18, 5)) rfl ⟨⟨by decide, by decide⟩, by decide⟩ (Or.inl q1737) (Or.inl rfl) rfl (fg_nil))) 53 rfl ?_
  refine oc_if dX18_meets_53 ⟨by decide, by decide⟩ 56 rfl ?_
  refine oc (y := mt_167) (pc := 56) (ok_aload_n dX18_meets_56) 57 rfl ?_
  refine oc (y := mt_167) (pc := 57) (ok_getfield dX18_meets_57 (fg (own := "GardenChess$Question") (idx := 11) (g := 20) (k := 3) (r := (RX18, TX18, 5)) rfl ⟨⟨by decide, by decide⟩, by decide⟩ (Or.inl q1736) (Or.inl rfl) rfl (fg_nil))) 60 rfl ?_
  exact oc_goto dX18_meets_60 ⟨by decide, by decide⟩
theorem o_167_63 : okL gmt mt_167 63 b_167_63 := by
  refine oc (y := mt_167) (pc := 63) (ok_iload_n dX18_meets_63) 64 rfl ?_
  refine oc (y := mt_167) (pc := 64) (ok_i2l dX18_meets_64) 65 rfl ?_
  exact oc_fall rfl
theorem o_167_65 : okL gmt mt_167 65 b_167_65 := by
  refine oc (y := mt_167) (pc := 65) (ok_putfield dX18_meets_65 (fp (own := "GardenChess$Question") (idx := 11) (g := 20) (k := 3) (r := (RX18, TX18, 5)) rfl ⟨⟨by decide, by decide⟩, by decide⟩ (Or.inl q1736) (Or.inl rfl) rfl (Or.inl rfl) (fp_nil))) 68 rfl ?_
  refine oc (y := mt_167) (pc := 68) (ok_aload_n dX18_meets_68) 69 rfl ?_
  refine oc (y := mt_167) (pc := 69) (ok_iconst dX18_meets_69 rfl ⟨by decide, by decide⟩) 70 rfl ?_
  refine oc (y := mt_167) (pc := 70) (ok_putfield dX18_meets_70 (fp (own := "GardenChess$Question") (idx := 41) (g := 20) (k := 4) (r := (RX18, TX18, 5)) rfl ⟨⟨by decide, by decide⟩, by decide⟩ (Or.inl q1737) (Or.inl rfl) rfl (Or.inl rfl) (fp_nil))) 73 rfl ?_
  exact oc_ret dX18_meets_73 rfl
theorem o_167_74 : okL gmt mt_167 74 b_167_74 := by
  refine oc (y := mt_167) (pc := 74) (ok_aload_n dX18_meets_74) 75 rfl ?_
  refine oc (y := mt_167) (pc := 75) (ok_getfield dX18_meets_75 (fg (own := "GardenChess$Question") (idx := 25) (g := 20) (k := 2) (r := (RX18, TX18, 5)) rfl ⟨⟨by decide, by decide⟩, by decide⟩ (Or.inl q1735) (Or.inl rfl) rfl (fg_nil))) 78 rfl ?_
  refine oc (y := mt_167) (pc := 78) (ok_aload_n dX18_meets_78) 79 rfl ?_
  refine oc_V (y := mt_167) (pc := 79) (vcons (y := mt_167) (pc := 79) (len := 3) (n := 2) (M := mt_163) (by decide) rfl (Or.inr rfl) rfl (ck_A (C := "GardenChess$Asked") (x := ⟨"GardenChess$Value", "at", "(LGardenChess$Moment;)J"⟩) dX18_meets_79 (by decide) ⟨by decide, by decide, by decide +kernel⟩ q1777 q1498 q1499 q1500 q195 q1497 q1501) (vcons (y := mt_167) (pc := 79) (len := 3) (n := 2) (M := mt_156) (by decide) rfl (Or.inr rfl) rfl (ck_A (C := "GardenChess$Chain") (x := ⟨"GardenChess$Value", "at", "(LGardenChess$Moment;)J"⟩) dX18_meets_79 (by decide) ⟨by decide, by decide, by decide +kernel⟩ q1777 q1498 q1513 q1514 q190 q1497 q1515) (vcons (y := mt_167) (pc := 79) (len := 3) (n := 2) (M := mt_161) (by decide) rfl (Or.inr rfl) rfl (ck_A (C := "GardenChess$Fixed") (x := ⟨"GardenChess$Value", "at", "(LGardenChess$Moment;)J"⟩) dX18_meets_79 (by decide) ⟨by decide, by decide, by decide +kernel⟩ q1777 q1498 q1553 q1520 q194 q1497 q1521) (vcons (y := mt_167) (pc := 79) (len := 3) (n := 2) (M := mt_165) (by decide) rfl (Or.inr rfl) rfl (ck_A (C := "GardenChess$Looked") (x := ⟨"GardenChess$Value", "at", "(LGardenChess$Moment;)J"⟩) dX18_meets_79 (by decide) ⟨by decide, by decide, by decide +kernel⟩ q1777 q1498 q1554 q1522 q196 q1497 q1523) (vcons (y := mt_167) (pc := 79) (len := 3) (n := 2) (M := mt_159) (by decide) rfl (Or.inr rfl) rfl (ck_A (C := "GardenChess$Pair") (x := ⟨"GardenChess$Value", "at", "(LGardenChess$Moment;)J"⟩) dX18_meets_79 (by decide) ⟨by decide, by decide, by decide +kernel⟩ q1777 q1498 q1555 q1525 q193 q1497 q1526) (vnil)))))) (hok0 rfl) (by decide) 82 rfl ?_
  refine oc (y := mt_167) (pc := 82) (ok_lstore_n dX18_meets_82 (by decide)) 83 rfl ?_
  refine oc (y := mt_167) (pc := 83) (ok_aload_n dX18_meets_83) 84 rfl ?_
  refine oc (y := mt_167) (pc := 84) (ok_aload_n dX18_meets_84) 85 rfl ?_
  refine oc (y := mt_167) (pc := 85) (ok_getfield dX18_meets_85 (fg (own := "GardenChess$Question") (idx := 41) (g := 20) (k := 4) (r := (RX18, TX18, 5)) rfl ⟨⟨by decide, by decide⟩, by decide⟩ (Or.inl q1737) (Or.inl rfl) rfl (fg_nil))) 88 rfl ?_
  refine oc_if dX18_meets_88 ⟨by decide, by decide⟩ 91 rfl ?_
  refine oc (y := mt_167) (pc := 91) (ok_lload_n dX18_meets_91) 92 rfl ?_
  exact oc_goto dX18_meets_92 ⟨by decide, by decide⟩
theorem o_167_95 : okL gmt mt_167 95 b_167_95 := by
  refine oc (y := mt_167) (pc := 95) (ok_aload_n dX18_meets_95) 96 rfl ?_
  refine oc (y := mt_167) (pc := 96) (ok_getfield dX18_meets_96 (fg (own := "GardenChess$Question") (idx := 17) (g := 20) (k := 0) (r := (RX18, TX18, 5)) rfl ⟨⟨by decide, by decide⟩, by decide⟩ (Or.inl q1733) (Or.inl rfl) rfl (fg_nil))) 99 rfl ?_
  refine oc (y := mt_167) (pc := 99) (ok_iconst dX18_meets_99 rfl ⟨by decide, by decide⟩) 100 rfl ?_
  refine oc_icmp dX18_meets_100 ⟨by decide, by decide⟩ 103 rfl ?_
  refine oc (y := mt_167) (pc := 103) (ok_aload_n dX18_meets_103) 104 rfl ?_
  refine oc (y := mt_167) (pc := 104) (ok_getfield dX18_meets_104 (fg (own := "GardenChess$Question") (idx := 11) (g := 20) (k := 3) (r := (RX18, TX18, 5)) rfl ⟨⟨by decide, by decide⟩, by decide⟩ (Or.inl q1736) (Or.inl rfl) rfl (fg_nil))) 107 rfl ?_
  refine oc (y := mt_167) (pc := 107) (ok_lload_n dX18_meets_107) 108 rfl ?_
  refine oc (y := mt_167) (pc := 108) (ok_ladd dX18_meets_108) 109 rfl ?_
  exact oc_goto dX18_meets_109 ⟨by decide, by decide⟩
theorem o_167_112 : okL gmt mt_167 112 b_167_112 := by
  refine oc (y := mt_167) (pc := 112) (ok_aload_n dX18_meets_112) 113 rfl ?_
  refine oc (y := mt_167) (pc := 113) (ok_getfield dX18_meets_113 (fg (own := "GardenChess$Question") (idx := 17) (g := 20) (k := 0) (r := (RX18, TX18, 5)) rfl ⟨⟨by decide, by decide⟩, by decide⟩ (Or.inl q1733) (Or.inl rfl) rfl (fg_nil))) 116 rfl ?_
  refine oc (y := mt_167) (pc := 116) (ok_iconst dX18_meets_116 rfl ⟨by decide, by decide⟩) 117 rfl ?_
  refine oc_icmp dX18_meets_117 ⟨by decide, by decide⟩ 120 rfl ?_
  refine oc (y := mt_167) (pc := 120) (ok_aload_n dX18_meets_120) 121 rfl ?_
  refine oc (y := mt_167) (pc := 121) (ok_getfield dX18_meets_121 (fg (own := "GardenChess$Question") (idx := 11) (g := 20) (k := 3) (r := (RX18, TX18, 5)) rfl ⟨⟨by decide, by decide⟩, by decide⟩ (Or.inl q1736) (Or.inl rfl) rfl (fg_nil))) 124 rfl ?_
  refine oc (y := mt_167) (pc := 124) (ok_lload_n dX18_meets_124) 125 rfl ?_
  refine oc_S (y := mt_167) (pc := 125) (M := mt_21) rfl (ck_S dX18_meets_125 ⟨by decide, by decide, by decide, by decide +kernel⟩ q1776 q1511 q184 q1512) (hok0 rfl) (by decide) 128 rfl ?_
  exact oc_goto dX18_meets_128 ⟨by decide, by decide⟩
theorem o_167_131 : okL gmt mt_167 131 b_167_131 := by
  refine oc (y := mt_167) (pc := 131) (ok_aload_n dX18_meets_131) 132 rfl ?_
  refine oc (y := mt_167) (pc := 132) (ok_getfield dX18_meets_132 (fg (own := "GardenChess$Question") (idx := 11) (g := 20) (k := 3) (r := (RX18, TX18, 5)) rfl ⟨⟨by decide, by decide⟩, by decide⟩ (Or.inl q1736) (Or.inl rfl) rfl (fg_nil))) 135 rfl ?_
  refine oc (y := mt_167) (pc := 135) (ok_lload_n dX18_meets_135) 136 rfl ?_
  refine oc_S (y := mt_167) (pc := 136) (M := mt_20) rfl (ck_S dX18_meets_136 ⟨by decide, by decide, by decide, by decide +kernel⟩ q1778 q1508 q184 q1509) (hok0 rfl) (by decide) 139 rfl ?_
  exact oc_fall rfl
theorem o_167_139 : okL gmt mt_167 139 b_167_139 := by
  refine oc (y := mt_167) (pc := 139) (ok_putfield dX18_meets_139 (fp (own := "GardenChess$Question") (idx := 11) (g := 20) (k := 3) (r := (RX18, TX18, 5)) rfl ⟨⟨by decide, by decide⟩, by decide⟩ (Or.inl q1736) (Or.inl rfl) rfl (Or.inl rfl) (fp_nil))) 142 rfl ?_
  refine oc (y := mt_167) (pc := 142) (ok_aload_n dX18_meets_142) 143 rfl ?_
  refine oc (y := mt_167) (pc := 143) (ok_iconst dX18_meets_143 rfl ⟨by decide, by decide⟩) 144 rfl ?_
  refine oc (y := mt_167) (pc := 144) (ok_putfield dX18_meets_144 (fp (own := "GardenChess$Question") (idx := 41) (g := 20) (k := 4) (r := (RX18, TX18, 5)) rfl ⟨⟨by decide, by decide⟩, by decide⟩ (Or.inl q1737) (Or.inl rfl) rfl (Or.inl rfl) (fp_nil))) 147 rfl ?_
  exact oc_ret dX18_meets_147 rfl
theorem ok_167 : ∀ q ∈ pr_167, okL gmt mt_167 q.1 q.2 := pk_c o_167_0 (pk_c o_167_20 (pk_c o_167_42 (pk_c o_167_63 (pk_c o_167_65 (pk_c o_167_74 (pk_c o_167_95 (pk_c o_167_112 (pk_c o_167_131 (pk_c o_167_139 (pk_n))))))))))
theorem o_168_0 : okL gmt mt_168 0 b_168_0 := by
  refine oc (y := mt_168) (pc := 0) (ok_aload_n dX18_answer_0) 1 rfl ?_
  refine oc (y := mt_168) (pc := 1) (ok_getfield dX18_answer_1 (fg (own := "GardenChess$Question") (idx := 41) (g := 20) (k := 4) (r := (RX18, TX18, 5)) rfl ⟨⟨by decide, by decide⟩, by decide⟩ (Or.inl q1737) (Or.inl rfl) rfl (fg_nil))) 4 rfl ?_
  refine oc_if dX18_answer_4 ⟨by decide, by decide⟩ 7 rfl ?_
  refine oc (y := mt_168) (pc := 7) (ok_aload_n dX18_answer_7) 8 rfl ?_
  refine oc (y := mt_168) (pc := 8) (ok_getfield dX18_answer_8 (fg (own := "GardenChess$Question") (idx := 17) (g := 20) (k := 0) (r := (RX18, TX18, 5)) rfl ⟨⟨by decide, by decide⟩, by decide⟩ (Or.inl q1733) (Or.inl rfl) rfl (fg_nil))) 11 rfl ?_
  refine oc (y := mt_168) (pc := 11) (ok_iconst dX18_answer_11 rfl ⟨by decide, by decide⟩) 12 rfl ?_
  refine oc_icmp dX18_answer_12 ⟨by decide, by decide⟩ 15 rfl ?_
  exact oc_fall rfl
theorem o_168_15 : okL gmt mt_168 15 b_168_15 := by
  refine oc (y := mt_168) (pc := 15) (ok_aload_n dX18_answer_15) 16 rfl ?_
  refine oc (y := mt_168) (pc := 16) (ok_getfield dX18_answer_16 (fg (own := "GardenChess$Question") (idx := 11) (g := 20) (k := 3) (r := (RX18, TX18, 5)) rfl ⟨⟨by decide, by decide⟩, by decide⟩ (Or.inl q1736) (Or.inl rfl) rfl (fg_nil))) 19 rfl ?_
  exact oc_goto dX18_answer_19 ⟨by decide, by decide⟩
theorem o_168_22 : okL gmt mt_168 22 b_168_22 := by
  refine oc (y := mt_168) (pc := 22) (ok_lconst dX18_answer_22 (by decide) ⟨by decide, by decide⟩) 23 rfl ?_
  exact oc_fall rfl
theorem o_168_23 : okL gmt mt_168 23 b_168_23 := by
  exact oc_lret dX18_answer_23 rfl
theorem ok_168 : ∀ q ∈ pr_168, okL gmt mt_168 q.1 q.2 := pk_c o_168_0 (pk_c o_168_15 (pk_c o_168_22 (pk_c o_168_23 (pk_n))))
theorem o_169_0 : okL gmt mt_169 0 b_169_0 := by
  refine oc (y := mt_169) (pc := 0) (ok_aload_n dX19_init_0) 1 rfl ?_
  refine oc_oi (y := mt_169) (pc := 1) dX19_init_1 q1672 q210 q211 4 rfl ?_
  exact oc_ret dX19_init_4 rfl
theorem ok_169 : ∀ q ∈ pr_169, okL gmt mt_169 q.1 q.2 := pk_c o_169_0 (pk_n)
theorem o_170_0 : okL gmt mt_170 0 b_170_0 := by
  refine oc (y := mt_170) (pc := 0) (ok_aload_n dX2_init_0) 1 rfl ?_
  refine oc (y := mt_170) (pc := 1) (ok_aload_n dX2_init_1) 2 rfl ?_
  refine oc (y := mt_170) (pc := 2) (ok_putfield dX2_init_2 (fp (own := "GardenChess$Reader") (idx := 3) (g := 4) (k := 7) (r := (RX2, TX2, 8)) rfl ⟨⟨by decide, by decide⟩, by decide⟩ (Or.inl q382) (Or.inl rfl) rfl (Or.inr ⟨rfl, rfl, rfl, q382⟩) (fp_nil))) 5 rfl ?_
  refine oc (y := mt_170) (pc := 5) (ok_aload_n dX2_init_5) 6 rfl ?_
  refine oc_oi (y := mt_170) (pc := 6) dX2_init_6 q301 q210 q211 9 rfl ?_
  refine oc (y := mt_170) (pc := 9) (ok_aload_n dX2_init_9) 10 rfl ?_
  refine oc (y := mt_170) (pc := 10) (ok_new (C := RX3) (T := TX3) (N := 8) (ci := 4) dX2_init_10 rfl rfl rfl nf_4 q302 q303 q171) 13 rfl ?_
  refine oc (y := mt_170) (pc := 13) (ok_dup dX2_init_13) 14 rfl ?_
  refine oc_I (y := mt_170) (pc := 14) (vcons (y := mt_170) (pc := 14) (len := 3) (n := 1) (M := mt_207) (by decide) rfl (Or.inl rfl) rfl (ck_I dX2_init_14 ⟨by decide, by decide, by decide, by decide +kernel⟩ rfl q341 q342 q171 q343) (vnil)) (hok0 rfl) (by decide) 17 rfl ?_
  refine oc (y := mt_170) (pc := 17) (ok_putfield dX2_init_17 (fp (own := "GardenChess$Reader") (idx := 18) (g := 4) (k := 0) (r := (RX2, TX2, 8)) rfl ⟨⟨by decide, by decide⟩, by decide⟩ (Or.inl q375) (Or.inl rfl) rfl (Or.inr ⟨rfl, rfl, rfl, q375⟩) (fp_nil))) 20 rfl ?_
  exact oc_ret dX2_init_20 rfl
theorem ok_170 : ∀ q ∈ pr_170, okL gmt mt_170 q.1 q.2 := pk_c o_170_0 (pk_n)
theorem o_171_0 : okL gmt mt_171 0 b_171_0 := by
  refine oc (y := mt_171) (pc := 0) (ok_aload_n dX2_all_0) 1 rfl ?_
  refine oc (y := mt_171) (pc := 1) (ok_new (C := RX1) (T := TX1) (N := 10) (ci := 1) dX2_all_1 rfl rfl rfl nf_1 q648 q213 q163) 4 rfl ?_
  refine oc (y := mt_171) (pc := 4) (ok_dup dX2_all_4) 5 rfl ?_
  refine oc_I (y := mt_171) (pc := 5) (vcons (y := mt_171) (pc := 5) (len := 3) (n := 1) (M := mt_148) (by decide) rfl (Or.inl rfl) rfl (ck_IN dX2_all_5 ⟨by decide, by decide, by decide, by decide +kernel⟩ rfl q649 q215 q163 q216) (vnil)) (hok0 rfl) (by decide) 8 rfl ?_
  refine oc (y := mt_171) (pc := 8) (ok_putfield dX2_all_8 (fp (own := "GardenChess$Reader") (idx := 103) (g := 4) (k := 6) (r := (RX2, TX2, 8)) rfl ⟨⟨by decide, by decide⟩, by decide⟩ (Or.inl q381) (Or.inl rfl) rfl (Or.inl rfl) (fp_nil))) 11 rfl ?_
  refine oc (y := mt_171) (pc := 11) (ok_aload_n dX2_all_11) 12 rfl ?_
  refine oc (y := mt_171) (pc := 12) (ok_iload_n dX2_all_12) 13 rfl ?_
  refine oc (y := mt_171) (pc := 13) (ok_putfield dX2_all_13 (fp (own := "GardenChess$Reader") (idx := 29) (g := 4) (k := 1) (r := (RX2, TX2, 8)) rfl ⟨⟨by decide, by decide⟩, by decide⟩ (Or.inl q376) (Or.inl rfl) rfl (Or.inl rfl) (fp_nil))) 16 rfl ?_
  refine oc (y := mt_171) (pc := 16) (ok_aload_n dX2_all_16) 17 rfl ?_
  refine oc (y := mt_171) (pc := 17) (ok_iconst dX2_all_17 rfl ⟨by decide, by decide⟩) 18 rfl ?_
  refine oc (y := mt_171) (pc := 18) (ok_putfield dX2_all_18 (fp (own := "GardenChess$Reader") (idx := 36) (g := 4) (k := 2) (r := (RX2, TX2, 8)) rfl ⟨⟨by decide, by decide⟩, by decide⟩ (Or.inl q377) (Or.inl rfl) rfl (Or.inl rfl) (fp_nil))) 21 rfl ?_
  refine oc (y := mt_171) (pc := 21) (ok_aload_n dX2_all_21) 22 rfl ?_
  refine oc (y := mt_171) (pc := 22) (ok_iconst dX2_all_22 rfl ⟨by decide, by decide⟩) 23 rfl ?_
  refine oc (y := mt_171) (pc := 23) (ok_putfield dX2_all_23 (fp (own := "GardenChess$Reader") (idx := 119) (g := 4) (k := 4) (r := (RX2, TX2, 8)) rfl ⟨⟨by decide, by decide⟩, by decide⟩ (Or.inl q379) (Or.inl rfl) rfl (Or.inl rfl) (fp_nil))) 26 rfl ?_
  refine oc (y := mt_171) (pc := 26) (ok_aload_n dX2_all_26) 27 rfl ?_
  refine oc (y := mt_171) (pc := 27) (ok_ldcS dX2_all_27 rfl (List.mem_of_getElem? (i := 39) rfl)) 29 rfl ?_
  refine oc_V (y := mt_171) (pc := 29) (vcons (y := mt_171) (pc := 29) (len := 3) (n := 2) (M := mt_172) (by decide) rfl (Or.inr rfl) rfl (ck_V dX2_all_29 ⟨by decide, by decide, by decide, by decide +kernel⟩ q651 q653 qs7 q167 q654) vnil) (hok0 rfl) (by decide) 32 rfl ?_
  refine oc (y := mt_171) (pc := 32) (ok_aload_n dX2_all_32) 33 rfl ?_
  refine oc (y := mt_171) (pc := 33) (ok_getfield dX2_all_33 (fg (own := "GardenChess$Reader") (idx := 103) (g := 4) (k := 6) (r := (RX2, TX2, 8)) rfl ⟨⟨by decide, by decide⟩, by decide⟩ (Or.inl q381) (Or.inl rfl) rfl (fg_nil))) 36 rfl ?_
  refine oc (y := mt_171) (pc := 36) (ok_aload_n dX2_all_36) 37 rfl ?_
  refine oc (y := mt_171) (pc := 37) (ok_iconst dX2_all_37 rfl ⟨by decide, by decide⟩) 38 rfl ?_
  refine oc (y := mt_171) (pc := 38) (ok_iconst dX2_all_38 rfl ⟨by decide, by decide⟩) 39 rfl ?_
  refine oc_V (y := mt_171) (pc := 39) (vcons (y := mt_171) (pc := 39) (len := 3) (n := 3) (M := mt_178) (by decide) rfl (Or.inr rfl) rfl (ck_V dX2_all_39 ⟨by decide, by decide, by decide, by decide +kernel⟩ q766 q768 qs13 q167 q769) vnil) (hok0 rfl) (by decide) 42 rfl ?_
  refine oc (y := mt_171) (pc := 42) (ok_putfield dX2_all_42 (fp (own := "GardenChess$Reader") (idx := 124) (g := 2) (k := 1) (r := (RX1, TX1, 10)) rfl ⟨⟨by decide, by decide⟩, by decide⟩ (Or.inr ⟨_, q251⟩) (Or.inl rfl) rfl (Or.inl rfl) (fp_nil))) 45 rfl ?_
  refine oc (y := mt_171) (pc := 45) (ok_aload_n dX2_all_45) 46 rfl ?_
  refine oc (y := mt_171) (pc := 46) (ok_getfield dX2_all_46 (fg (own := "GardenChess$Reader") (idx := 103) (g := 4) (k := 6) (r := (RX2, TX2, 8)) rfl ⟨⟨by decide, by decide⟩, by decide⟩ (Or.inl q381) (Or.inl rfl) rfl (fg_nil))) 49 rfl ?_
  refine oc (y := mt_171) (pc := 49) (ok_aload_n dX2_all_49) 50 rfl ?_
  refine oc (y := mt_171) (pc := 50) (ok_ldcS dX2_all_50 rfl (List.mem_of_getElem? (i := 40) rfl)) 52 rfl ?_
  refine oc (y := mt_171) (pc := 52) (ok_iconst dX2_all_52 rfl ⟨by decide, by decide⟩) 53 rfl ?_
  refine oc (y := mt_171) (pc := 53) (ok_iconst dX2_all_53 rfl ⟨by decide, by decide⟩) 54 rfl ?_
  refine oc_V (y := mt_171) (pc := 54) (vcons (y := mt_171) (pc := 54) (len := 3) (n := 4) (M := mt_179) (by decide) rfl (Or.inr rfl) rfl (ck_V dX2_all_54 ⟨by decide, by decide, by decide, by decide +kernel⟩ q774 q776 qs14 q167 q777) vnil) (hok0 rfl) (by decide) 57 rfl ?_
  refine oc (y := mt_171) (pc := 57) (ok_putfield dX2_all_57 (fp (own := "GardenChess$Reader") (idx := 132) (g := 2) (k := 2) (r := (RX1, TX1, 10)) rfl ⟨⟨by decide, by decide⟩, by decide⟩ (Or.inr ⟨_, q253⟩) (Or.inl rfl) rfl (Or.inl rfl) (fp_nil))) 60 rfl ?_
  refine oc (y := mt_171) (pc := 60) (ok_aload_n dX2_all_60) 61 rfl ?_
  refine oc (y := mt_171) (pc := 61) (ok_getfield dX2_all_61 (fg (own := "GardenChess$Reader") (idx := 103) (g := 4) (k := 6) (r := (RX2, TX2, 8)) rfl ⟨⟨by decide, by decide⟩, by decide⟩ (Or.inl q381) (Or.inl rfl) rfl (fg_nil))) 64 rfl ?_
  refine oc (y := mt_171) (pc := 64) (ok_getfield dX2_all_64 (fg (own := "GardenChess$Reader") (idx := 135) (g := 2) (k := 5) (r := (RX1, TX1, 10)) rfl ⟨⟨by decide, by decide⟩, by decide⟩ (Or.inr ⟨_, q260⟩) (Or.inl rfl) rfl (fg_nil))) 67 rfl ?_
  refine oc (y := mt_171) (pc := 67) (ok_iconst dX2_all_67 rfl ⟨by decide, by decide⟩) 68 rfl ?_
  refine oc (y := mt_171) (pc := 68) (ok_aload_n dX2_all_68) 69 rfl ?_
  refine oc (y := mt_171) (pc := 69) (ok_ldcS dX2_all_69 rfl (List.mem_of_getElem? (i := 41) rfl)) 71 rfl ?_
  refine oc (y := mt_171) (pc := 71) (ok_iconst dX2_all_71 rfl ⟨by decide, by decide⟩) 72 rfl ?_
  refine oc (y := mt_171) (pc := 72) (ok_iconst dX2_all_72 rfl ⟨by decide, by decide⟩) 73 rfl ?_
  refine oc_V (y := mt_171) (pc := 73) (vcons (y := mt_171) (pc := 73) (len := 3) (n := 4) (M := mt_179) (by decide) rfl (Or.inr rfl) rfl (ck_V dX2_all_73 ⟨by decide, by decide, by decide, by decide +kernel⟩ q774 q776 qs14 q167 q777) vnil) (hok0 rfl) (by decide) 76 rfl ?_
  refine oc (y := mt_171) (pc := 76) (ok_iastore dX2_all_76) 77 rfl ?_
  refine oc (y := mt_171) (pc := 77) (ok_aload_n dX2_all_77) 78 rfl ?_
  refine oc (y := mt_171) (pc := 78) (ok_getfield dX2_all_78 (fg (own := "GardenChess$Reader") (idx := 103) (g := 4) (k := 6) (r := (RX2, TX2, 8)) rfl ⟨⟨by decide, by decide⟩, by decide⟩ (Or.inl q381) (Or.inl rfl) rfl (fg_nil))) 81 rfl ?_
  refine oc (y := mt_171) (pc := 81) (ok_getfield dX2_all_81 (fg (own := "GardenChess$Reader") (idx := 135) (g := 2) (k := 5) (r := (RX1, TX1, 10)) rfl ⟨⟨by decide, by decide⟩, by decide⟩ (Or.inr ⟨_, q260⟩) (Or.inl rfl) rfl (fg_nil))) 84 rfl ?_
  refine oc (y := mt_171) (pc := 84) (ok_iconst dX2_all_84 rfl ⟨by decide, by decide⟩) 85 rfl ?_
  refine oc (y := mt_171) (pc := 85) (ok_aload_n dX2_all_85) 86 rfl ?_
  refine oc (y := mt_171) (pc := 86) (ok_ldcS dX2_all_86 rfl (List.mem_of_getElem? (i := 42) rfl)) 88 rfl ?_
  exact oc_fall rfl
theorem o_171_88 : okL gmt mt_171 88 b_171_88 := by
  refine oc (y := mt_171) (pc := 88) (ok_iconst dX2_all_88 rfl ⟨by decide, by decide⟩) 89 rfl ?_
  refine oc (y := mt_171) (pc := 89) (ok_iconst dX2_all_89 rfl ⟨by decide, by decide⟩) 90 rfl ?_
  refine oc_V (y := mt_171) (pc := 90) (vcons (y := mt_171) (pc := 90) (len := 3) (n := 4) (M := mt_179) (by decide) rfl (Or.inr rfl) rfl (ck_V dX2_all_90 ⟨by decide, by decide, by decide, by decide +kernel⟩ q774 q776 qs14 q167 q777) vnil) (hok0 rfl) (by decide) 93 rfl ?_
  refine oc (y := mt_171) (pc := 93) (ok_iastore dX2_all_93) 94 rfl ?_
  refine oc (y := mt_171) (pc := 94) (ok_aload_n dX2_all_94) 95 rfl ?_
  refine oc (y := mt_171) (pc := 95) (ok_bipush dX2_all_95 (by decide) ⟨by decide, by decide⟩) 97 rfl ?_
  refine oc_V (y := mt_171) (pc := 97) (vcons (y := mt_171) (pc := 97) (len := 3) (n := 2) (M := mt_180) (by decide) rfl (Or.inr rfl) rfl (ck_V dX2_all_97 ⟨by decide, by decide, by decide, by decide +kernel⟩ q780 q782 qs15 q167 q783) vnil) (hok0 rfl) (by decide) 100 rfl ?_
  refine oc (y := mt_171) (pc := 100) (ok_aload_n dX2_all_100) 101 rfl ?_
  refine oc (y := mt_171) (pc := 101) (ok_getfield dX2_all_101 (fg (own := "GardenChess$Reader") (idx := 103) (g := 4) (k := 6) (r := (RX2, TX2, 8)) rfl ⟨⟨by decide, by decide⟩, by decide⟩ (Or.inl q381) (Or.inl rfl) rfl (fg_nil))) 104 rfl ?_
  refine oc (y := mt_171) (pc := 104) (ok_iconst dX2_all_104 rfl ⟨by decide, by decide⟩) 105 rfl ?_
  refine oc (y := mt_171) (pc := 105) (ok_putfield dX2_all_105 (fp (own := "GardenChess$Reader") (idx := 147) (g := 2) (k := 0) (r := (RX1, TX1, 10)) rfl ⟨⟨by decide, by decide⟩, by decide⟩ (Or.inr ⟨_, q248⟩) (Or.inl rfl) rfl (Or.inl rfl) (fp_nil))) 108 rfl ?_
  exact oc_fall rfl
theorem o_171_108 : okL gmt mt_171 108 b_171_108 := by
  refine oc (y := mt_171) (pc := 108) (ok_aload_n dX2_all_108) 109 rfl ?_
  refine oc_V (y := mt_171) (pc := 109) (vcons (y := mt_171) (pc := 109) (len := 3) (n := 1) (M := mt_174) (by decide) rfl (Or.inr rfl) rfl (ck_V dX2_all_109 ⟨by decide, by decide, by decide, by decide +kernel⟩ q659 q661 qs9 q167 q662) vnil) (hok0 rfl) (by decide) 112 rfl ?_
  refine oc (y := mt_171) (pc := 112) (ok_iconst dX2_all_112 rfl ⟨by decide, by decide⟩) 113 rfl ?_
  refine oc_icmp dX2_all_113 ⟨by decide, by decide⟩ 116 rfl ?_
  refine oc (y := mt_171) (pc := 116) (ok_aload_n dX2_all_116) 117 rfl ?_
  refine oc (y := mt_171) (pc := 117) (ok_aload_n dX2_all_117) 118 rfl ?_
  refine oc (y := mt_171) (pc := 118) (ok_getfield dX2_all_118 (fg (own := "GardenChess$Reader") (idx := 103) (g := 4) (k := 6) (r := (RX2, TX2, 8)) rfl ⟨⟨by decide, by decide⟩, by decide⟩ (Or.inl q381) (Or.inl rfl) rfl (fg_nil))) 121 rfl ?_
  refine oc (y := mt_171) (pc := 121) (ok_getfield dX2_all_121 (fg (own := "GardenChess$Reader") (idx := 147) (g := 2) (k := 0) (r := (RX1, TX1, 10)) rfl ⟨⟨by decide, by decide⟩, by decide⟩ (Or.inr ⟨_, q248⟩) (Or.inl rfl) rfl (fg_nil))) 124 rfl ?_
  refine oc (y := mt_171) (pc := 124) (ok_bipush dX2_all_124 (by decide) ⟨by decide, by decide⟩) 126 rfl ?_
  refine oc_icmp dX2_all_126 ⟨by decide, by decide⟩ 129 rfl ?_
  refine oc (y := mt_171) (pc := 129) (ok_iconst dX2_all_129 rfl ⟨by decide, by decide⟩) 130 rfl ?_
  exact oc_goto dX2_all_130 ⟨by decide, by decide⟩
theorem o_171_133 : okL gmt mt_171 133 b_171_133 := by
  refine oc (y := mt_171) (pc := 133) (ok_iconst dX2_all_133 rfl ⟨by decide, by decide⟩) 134 rfl ?_
  exact oc_fall rfl
theorem o_171_134 : okL gmt mt_171 134 b_171_134 := by
  refine oc (y := mt_171) (pc := 134) (ok_aload_n dX2_all_134) 135 rfl ?_
  refine oc (y := mt_171) (pc := 135) (ok_getfield dX2_all_135 (fg (own := "GardenChess$Reader") (idx := 36) (g := 4) (k := 2) (r := (RX2, TX2, 8)) rfl ⟨⟨by decide, by decide⟩, by decide⟩ (Or.inl q377) (Or.inl rfl) rfl (fg_nil))) 138 rfl ?_
  refine oc_V (y := mt_171) (pc := 138) (vcons (y := mt_171) (pc := 138) (len := 3) (n := 3) (M := mt_181) (by decide) rfl (Or.inr rfl) rfl (ck_V dX2_all_138 ⟨by decide, by decide, by decide, by decide +kernel⟩ q784 q786 qs16 q167 q787) vnil) (hok0 rfl) (by decide) 141 rfl ?_
  refine oc (y := mt_171) (pc := 141) (ok_aload_n dX2_all_141) 142 rfl ?_
  refine oc (y := mt_171) (pc := 142) (ok_getfield dX2_all_142 (fg (own := "GardenChess$Reader") (idx := 103) (g := 4) (k := 6) (r := (RX2, TX2, 8)) rfl ⟨⟨by decide, by decide⟩, by decide⟩ (Or.inl q381) (Or.inl rfl) rfl (fg_nil))) 145 rfl ?_
  refine oc (y := mt_171) (pc := 145) (ok_dup dX2_all_145) 146 rfl ?_
  refine oc (y := mt_171) (pc := 146) (ok_getfield dX2_all_146 (fg (own := "GardenChess$Reader") (idx := 147) (g := 2) (k := 0) (r := (RX1, TX1, 10)) rfl ⟨⟨by decide, by decide⟩, by decide⟩ (Or.inr ⟨_, q248⟩) (Or.inl rfl) rfl (fg_nil))) 149 rfl ?_
  refine oc (y := mt_171) (pc := 149) (ok_iconst dX2_all_149 rfl ⟨by decide, by decide⟩) 150 rfl ?_
  refine oc (y := mt_171) (pc := 150) (ok_iadd dX2_all_150) 151 rfl ?_
  refine oc (y := mt_171) (pc := 151) (ok_putfield dX2_all_151 (fp (own := "GardenChess$Reader") (idx := 147) (g := 2) (k := 0) (r := (RX1, TX1, 10)) rfl ⟨⟨by decide, by decide⟩, by decide⟩ (Or.inr ⟨_, q248⟩) (Or.inl rfl) rfl (Or.inl rfl) (fp_nil))) 154 rfl ?_
  refine oc (y := mt_171) (pc := 154) (ok_aload_n dX2_all_154) 155 rfl ?_
  refine oc_V (y := mt_171) (pc := 155) (vcons (y := mt_171) (pc := 155) (len := 3) (n := 1) (M := mt_173) (by decide) rfl (Or.inr rfl) rfl (ck_V dX2_all_155 ⟨by decide, by decide, by decide, by decide +kernel⟩ q655 q657 qs8 q167 q658) vnil) (hok0 rfl) (by decide) 158 rfl ?_
  refine oc (y := mt_171) (pc := 158) (ok_astore_n dX2_all_158 (by decide)) 159 rfl ?_
  refine oc (y := mt_171) (pc := 159) (ok_aload_n dX2_all_159) 160 rfl ?_
  refine oc (y := mt_171) (pc := 160) (ok_aload_n dX2_all_160) 161 rfl ?_
  refine oc (y := mt_171) (pc := 161) (ok_aload_n dX2_all_161) 162 rfl ?_
  refine oc (y := mt_171) (pc := 162) (ok_getfield dX2_all_162 (fg (own := "GardenChess$Reader") (idx := 61) (g := 4) (k := 3) (r := (RX2, TX2, 8)) rfl ⟨⟨by decide, by decide⟩, by decide⟩ (Or.inl q378) (Or.inl rfl) rfl (fg_nil))) 165 rfl ?_
  refine oc_V (y := mt_171) (pc := 165) (vcons (y := mt_171) (pc := 165) (len := 3) (n := 3) (M := mt_182) (by decide) rfl (Or.inr rfl) rfl (ck_V dX2_all_165 ⟨by decide, by decide, by decide, by decide +kernel⟩ q788 q790 qs17 q167 q791) vnil) (hok0 rfl) (by decide) 168 rfl ?_
  refine oc (y := mt_171) (pc := 168) (ok_aload_n dX2_all_168) 169 rfl ?_
  refine oc (y := mt_171) (pc := 169) (ok_bipush dX2_all_169 (by decide) ⟨by decide, by decide⟩) 171 rfl ?_
  refine oc_V (y := mt_171) (pc := 171) (vcons (y := mt_171) (pc := 171) (len := 3) (n := 2) (M := mt_180) (by decide) rfl (Or.inr rfl) rfl (ck_V dX2_all_171 ⟨by decide, by decide, by decide, by decide +kernel⟩ q780 q782 qs15 q167 q783) vnil) (hok0 rfl) (by decide) 174 rfl ?_
  exact oc_goto dX2_all_174 ⟨by decide, by decide⟩
theorem o_171_177 : okL gmt mt_171 177 b_171_177 := by
  refine oc (y := mt_171) (pc := 177) (ok_aload_n dX2_all_177) 178 rfl ?_
  refine oc (y := mt_171) (pc := 178) (ok_getfield dX2_all_178 (fg (own := "GardenChess$Reader") (idx := 103) (g := 4) (k := 6) (r := (RX2, TX2, 8)) rfl ⟨⟨by decide, by decide⟩, by decide⟩ (Or.inl q381) (Or.inl rfl) rfl (fg_nil))) 181 rfl ?_
  exact oc_aretO dX2_all_181 rfl
theorem ok_171 : ∀ q ∈ pr_171, okL gmt mt_171 q.1 q.2 := pk_c o_171_0 (pk_c o_171_88 (pk_c o_171_108 (pk_c o_171_133 (pk_c o_171_134 (pk_c o_171_177 (pk_n))))))
theorem o_172_0 : okL gmt mt_172 0 b_172_0 := by
  refine oc (y := mt_172) (pc := 0) (ok_aload_n dX2_word_0) 1 rfl ?_
  refine oc_V (y := mt_172) (pc := 1) (vcons (y := mt_172) (pc := 1) (len := 3) (n := 1) (M := mt_173) (by decide) rfl (Or.inr rfl) rfl (ck_V dX2_word_1 ⟨by decide, by decide, by decide, by decide +kernel⟩ q655 q657 qs8 q167 q658) vnil) (hok0 rfl) (by decide) 4 rfl ?_
  refine oc (y := mt_172) (pc := 4) (ok_aload_n dX2_word_4) 5 rfl ?_
  refine oc_V (y := mt_172) (pc := 5) (vcons (y := mt_172) (pc := 5) (len := 3) (n := 2) (M := mt_57) (by decide) rfl (Or.inr rfl) rfl (ck_V dX2_word_5 ⟨by decide, by decide, by decide, by decide +kernel⟩ q759 q760 q761 q178 q762) vnil) (hok0 rfl) (by decide) 8 rfl ?_
  refine oc_if dX2_word_8 ⟨by decide, by decide⟩ 11 rfl ?_
  refine oc (y := mt_172) (pc := 11) (ok_aload_n dX2_word_11) 12 rfl ?_
  refine oc (y := mt_172) (pc := 12) (ok_iconst dX2_word_12 rfl ⟨by decide, by decide⟩) 13 rfl ?_
  refine oc (y := mt_172) (pc := 13) (ok_aload_n dX2_word_13) 14 rfl ?_
  refine oc (y := mt_172) (pc := 14) (ok_getfield dX2_word_14 (fg (own := "GardenChess$Reader") (idx := 61) (g := 4) (k := 3) (r := (RX2, TX2, 8)) rfl ⟨⟨by decide, by decide⟩, by decide⟩ (Or.inl q378) (Or.inl rfl) rfl (fg_nil))) 17 rfl ?_
  refine oc_V (y := mt_172) (pc := 17) (vcons (y := mt_172) (pc := 17) (len := 3) (n := 3) (M := mt_176) (by decide) rfl (Or.inr rfl) rfl (ck_V dX2_word_17 ⟨by decide, by decide, by decide, by decide +kernel⟩ q670 q672 qs11 q167 q673) vnil) (hok0 rfl) (by decide) 20 rfl ?_
  exact oc_throw dX2_word_20 rfl
theorem o_172_21 : okL gmt mt_172 21 b_172_21 := by
  exact oc_ret dX2_word_21 rfl
theorem ok_172 : ∀ q ∈ pr_172, okL gmt mt_172 q.1 q.2 := pk_c o_172_0 (pk_c o_172_21 (pk_n))
theorem o_173_0 : okL gmt mt_173 0 b_173_0 := by
  refine oc (y := mt_173) (pc := 0) (ok_aload_n dX2_word_2_0) 1 rfl ?_
  refine oc_V (y := mt_173) (pc := 1) (vcons (y := mt_173) (pc := 1) (len := 3) (n := 1) (M := mt_174) (by decide) rfl (Or.inr rfl) rfl (ck_V dX2_word_2_1 ⟨by decide, by decide, by decide, by decide +kernel⟩ q659 q661 qs9 q167 q662) vnil) (hok0 rfl) (by decide) 4 rfl ?_
  refine oc_S (y := mt_173) (pc := 4) (M := mt_90) rfl (ck_SN dX2_word_2_4 ⟨by decide, by decide, by decide, by decide +kernel⟩ q667 q668 q162 q669) (hok0 rfl) (by decide) 7 rfl ?_
  refine oc_if dX2_word_2_7 ⟨by decide, by decide⟩ 10 rfl ?_
  refine oc (y := mt_173) (pc := 10) (ok_aload_n dX2_word_2_10) 11 rfl ?_
  refine oc (y := mt_173) (pc := 11) (ok_iconst dX2_word_2_11 rfl ⟨by decide, by decide⟩) 12 rfl ?_
  refine oc (y := mt_173) (pc := 12) (ok_aload_n dX2_word_2_12) 13 rfl ?_
  refine oc (y := mt_173) (pc := 13) (ok_getfield dX2_word_2_13 (fg (own := "GardenChess$Reader") (idx := 36) (g := 4) (k := 2) (r := (RX2, TX2, 8)) rfl ⟨⟨by decide, by decide⟩, by decide⟩ (Or.inl q377) (Or.inl rfl) rfl (fg_nil))) 16 rfl ?_
  refine oc_V (y := mt_173) (pc := 16) (vcons (y := mt_173) (pc := 16) (len := 3) (n := 3) (M := mt_176) (by decide) rfl (Or.inr rfl) rfl (ck_V dX2_word_2_16 ⟨by decide, by decide, by decide, by decide +kernel⟩ q670 q672 qs11 q167 q673) vnil) (hok0 rfl) (by decide) 19 rfl ?_
  exact oc_throw dX2_word_2_19 rfl
theorem o_173_20 : okL gmt mt_173 20 b_173_20 := by
  refine oc (y := mt_173) (pc := 20) (ok_aload_n dX2_word_2_20) 21 rfl ?_
  refine oc_V (y := mt_173) (pc := 21) (vcons (y := mt_173) (pc := 21) (len := 3) (n := 1) (M := mt_177) (by decide) rfl (Or.inr rfl) rfl (ck_V dX2_word_2_21 ⟨by decide, by decide, by decide, by decide +kernel⟩ q674 q676 qs12 q167 q677) vnil) (hok0 rfl) (by decide) 24 rfl ?_
  refine oc (y := mt_173) (pc := 24) (ok_aload_n dX2_word_2_24) 25 rfl ?_
  refine oc (y := mt_173) (pc := 25) (ok_aload_n dX2_word_2_25) 26 rfl ?_
  refine oc (y := mt_173) (pc := 26) (ok_getfield dX2_word_2_26 (fg (own := "GardenChess$Reader") (idx := 36) (g := 4) (k := 2) (r := (RX2, TX2, 8)) rfl ⟨⟨by decide, by decide⟩, by decide⟩ (Or.inl q377) (Or.inl rfl) rfl (fg_nil))) 29 rfl ?_
  refine oc (y := mt_173) (pc := 29) (ok_putfield dX2_word_2_29 (fp (own := "GardenChess$Reader") (idx := 61) (g := 4) (k := 3) (r := (RX2, TX2, 8)) rfl ⟨⟨by decide, by decide⟩, by decide⟩ (Or.inl q378) (Or.inl rfl) rfl (Or.inl rfl) (fp_nil))) 32 rfl ?_
  exact oc_fall rfl
theorem o_173_32 : okL gmt mt_173 32 b_173_32 := by
  refine oc (y := mt_173) (pc := 32) (ok_aload_n dX2_word_2_32) 33 rfl ?_
  refine oc (y := mt_173) (pc := 33) (ok_aload_n dX2_word_2_33) 34 rfl ?_
  refine oc (y := mt_173) (pc := 34) (ok_getfield dX2_word_2_34 (fg (own := "GardenChess$Reader") (idx := 36) (g := 4) (k := 2) (r := (RX2, TX2, 8)) rfl ⟨⟨by decide, by decide⟩, by decide⟩ (Or.inl q377) (Or.inl rfl) rfl (fg_nil))) 37 rfl ?_
  refine oc_V (y := mt_173) (pc := 37) (vcons (y := mt_173) (pc := 37) (len := 3) (n := 2) (M := mt_175) (by decide) rfl (Or.inr rfl) rfl (ck_V dX2_word_2_37 ⟨by decide, by decide, by decide, by decide +kernel⟩ q663 q665 qs10 q167 q666) vnil) (hok0 rfl) (by decide) 40 rfl ?_
  refine oc_S (y := mt_173) (pc := 40) (M := mt_90) rfl (ck_SN dX2_word_2_40 ⟨by decide, by decide, by decide, by decide +kernel⟩ q667 q668 q162 q669) (hok0 rfl) (by decide) 43 rfl ?_
  refine oc_if dX2_word_2_43 ⟨by decide, by decide⟩ 46 rfl ?_
  refine oc (y := mt_173) (pc := 46) (ok_aload_n dX2_word_2_46) 47 rfl ?_
  refine oc (y := mt_173) (pc := 47) (ok_dup dX2_word_2_47) 48 rfl ?_
  refine oc (y := mt_173) (pc := 48) (ok_getfield dX2_word_2_48 (fg (own := "GardenChess$Reader") (idx := 36) (g := 4) (k := 2) (r := (RX2, TX2, 8)) rfl ⟨⟨by decide, by decide⟩, by decide⟩ (Or.inl q377) (Or.inl rfl) rfl (fg_nil))) 51 rfl ?_
  refine oc (y := mt_173) (pc := 51) (ok_iconst dX2_word_2_51 rfl ⟨by decide, by decide⟩) 52 rfl ?_
  refine oc (y := mt_173) (pc := 52) (ok_iadd dX2_word_2_52) 53 rfl ?_
  refine oc (y := mt_173) (pc := 53) (ok_putfield dX2_word_2_53 (fp (own := "GardenChess$Reader") (idx := 36) (g := 4) (k := 2) (r := (RX2, TX2, 8)) rfl ⟨⟨by decide, by decide⟩, by decide⟩ (Or.inl q377) (Or.inl rfl) rfl (Or.inl rfl) (fp_nil))) 56 rfl ?_
  exact oc_goto dX2_word_2_56 ⟨by decide, by decide⟩
theorem o_173_59 : okL gmt mt_173 59 b_173_59 := by
  refine oc (y := mt_173) (pc := 59) (ok_aload_n dX2_word_2_59) 60 rfl ?_
  refine oc (y := mt_173) (pc := 60) (ok_getfield dX2_word_2_60 (fg (own := "GardenChess$Reader") (idx := 36) (g := 4) (k := 2) (r := (RX2, TX2, 8)) rfl ⟨⟨by decide, by decide⟩, by decide⟩ (Or.inl q377) (Or.inl rfl) rfl (fg_nil))) 63 rfl ?_
  refine oc (y := mt_173) (pc := 63) (ok_aload_n dX2_word_2_63) 64 rfl ?_
  refine oc (y := mt_173) (pc := 64) (ok_getfield dX2_word_2_64 (fg (own := "GardenChess$Reader") (idx := 61) (g := 4) (k := 3) (r := (RX2, TX2, 8)) rfl ⟨⟨by decide, by decide⟩, by decide⟩ (Or.inl q378) (Or.inl rfl) rfl (fg_nil))) 67 rfl ?_
  refine oc (y := mt_173) (pc := 67) (ok_isub dX2_word_2_67) 68 rfl ?_
  refine oc (y := mt_173) (pc := 68) (ok_newarray dX2_word_2_68 (by decide) q758) 70 rfl ?_
  refine oc (y := mt_173) (pc := 70) (ok_astore_n dX2_word_2_70 (by decide)) 71 rfl ?_
  refine oc (y := mt_173) (pc := 71) (ok_aload_n dX2_word_2_71) 72 rfl ?_
  refine oc (y := mt_173) (pc := 72) (ok_getfield dX2_word_2_72 (fg (own := "GardenChess$Reader") (idx := 61) (g := 4) (k := 3) (r := (RX2, TX2, 8)) rfl ⟨⟨by decide, by decide⟩, by decide⟩ (Or.inl q378) (Or.inl rfl) rfl (fg_nil))) 75 rfl ?_
  refine oc (y := mt_173) (pc := 75) (ok_istore_n dX2_word_2_75 (by decide)) 76 rfl ?_
  exact oc_fall rfl
theorem o_173_76 : okL gmt mt_173 76 b_173_76 := by
  refine oc (y := mt_173) (pc := 76) (ok_iload_n dX2_word_2_76) 77 rfl ?_
  refine oc (y := mt_173) (pc := 77) (ok_aload_n dX2_word_2_77) 78 rfl ?_
  refine oc (y := mt_173) (pc := 78) (ok_getfield dX2_word_2_78 (fg (own := "GardenChess$Reader") (idx := 36) (g := 4) (k := 2) (r := (RX2, TX2, 8)) rfl ⟨⟨by decide, by decide⟩, by decide⟩ (Or.inl q377) (Or.inl rfl) rfl (fg_nil))) 81 rfl ?_
  refine oc_icmp dX2_word_2_81 ⟨by decide, by decide⟩ 84 rfl ?_
  refine oc (y := mt_173) (pc := 84) (ok_aload_n dX2_word_2_84) 85 rfl ?_
  refine oc (y := mt_173) (pc := 85) (ok_iload_n dX2_word_2_85) 86 rfl ?_
  refine oc (y := mt_173) (pc := 86) (ok_aload_n dX2_word_2_86) 87 rfl ?_
  refine oc (y := mt_173) (pc := 87) (ok_getfield dX2_word_2_87 (fg (own := "GardenChess$Reader") (idx := 61) (g := 4) (k := 3) (r := (RX2, TX2, 8)) rfl ⟨⟨by decide, by decide⟩, by decide⟩ (Or.inl q378) (Or.inl rfl) rfl (fg_nil))) 90 rfl ?_
  refine oc (y := mt_173) (pc := 90) (ok_isub dX2_word_2_90) 91 rfl ?_
  refine oc (y := mt_173) (pc := 91) (ok_aload_n dX2_word_2_91) 92 rfl ?_
  refine oc (y := mt_173) (pc := 92) (ok_getfield dX2_word_2_92 (fg (own := "GardenChess$Reader") (idx := 3) (g := 4) (k := 7) (r := (RX2, TX2, 8)) rfl ⟨⟨by decide, by decide⟩, by decide⟩ (Or.inl q382) (Or.inl rfl) rfl (fg_nil))) 95 rfl ?_
  refine oc (y := mt_173) (pc := 95) (ok_getfield dX2_word_2_95 (fg (own := "GardenChess$Reader") (idx := 32) (g := 1) (k := 1) (r := (RX0, TX0, 25)) rfl ⟨⟨by decide, by decide⟩, by decide⟩ (Or.inr ⟨_, q540⟩) (Or.inl rfl) rfl (fg_nil))) 98 rfl ?_
  refine oc (y := mt_173) (pc := 98) (ok_iload_n dX2_word_2_98) 99 rfl ?_
  refine oc (y := mt_173) (pc := 99) (ok_baload dX2_word_2_99) 100 rfl ?_
  refine oc (y := mt_173) (pc := 100) (ok_i2c dX2_word_2_100) 101 rfl ?_
  refine oc (y := mt_173) (pc := 101) (ok_castore dX2_word_2_101) 102 rfl ?_
  refine oc (y := mt_173) (pc := 102) (ok_iinc dX2_word_2_102 (by decide)) 105 rfl ?_
  exact oc_goto dX2_word_2_105 ⟨by decide, by decide⟩
theorem o_173_108 : okL gmt mt_173 108 b_173_108 := by
  refine oc (y := mt_173) (pc := 108) (ok_aload_n dX2_word_2_108) 109 rfl ?_
  refine oc_S (y := mt_173) (pc := 109) (M := mt_53) rfl (ck_S dX2_word_2_109 ⟨by decide, by decide, by decide, by decide +kernel⟩ q681 q682 q178 q683) (hok0 rfl) (by decide) 112 rfl ?_
  exact oc_aretO dX2_word_2_112 rfl
theorem ok_173 : ∀ q ∈ pr_173, okL gmt mt_173 q.1 q.2 := pk_c o_173_0 (pk_c o_173_20 (pk_c o_173_32 (pk_c o_173_59 (pk_c o_173_76 (pk_c o_173_108 (pk_n))))))
theorem o_174_0 : okL gmt mt_174 0 b_174_0 := by
  refine oc (y := mt_174) (pc := 0) (ok_aload_n dX2_here_0) 1 rfl ?_
  refine oc (y := mt_174) (pc := 1) (ok_aload_n dX2_here_1) 2 rfl ?_
  refine oc (y := mt_174) (pc := 2) (ok_getfield dX2_here_2 (fg (own := "GardenChess$Reader") (idx := 36) (g := 4) (k := 2) (r := (RX2, TX2, 8)) rfl ⟨⟨by decide, by decide⟩, by decide⟩ (Or.inl q377) (Or.inl rfl) rfl (fg_nil))) 5 rfl ?_
  refine oc_V (y := mt_174) (pc := 5) (vcons (y := mt_174) (pc := 5) (len := 3) (n := 2) (M := mt_175) (by decide) rfl (Or.inr rfl) rfl (ck_V dX2_here_5 ⟨by decide, by decide, by decide, by decide +kernel⟩ q663 q665 qs10 q167 q666) vnil) (hok0 rfl) (by decide) 8 rfl ?_
  refine oc (y := mt_174) (pc := 8) (ok_bipush dX2_here_8 (by decide) ⟨by decide, by decide⟩) 10 rfl ?_
  refine oc_icmp dX2_here_10 ⟨by decide, by decide⟩ 13 rfl ?_
  refine oc (y := mt_174) (pc := 13) (ok_aload_n dX2_here_13) 14 rfl ?_
  refine oc (y := mt_174) (pc := 14) (ok_aload_n dX2_here_14) 15 rfl ?_
  refine oc (y := mt_174) (pc := 15) (ok_getfield dX2_here_15 (fg (own := "GardenChess$Reader") (idx := 36) (g := 4) (k := 2) (r := (RX2, TX2, 8)) rfl ⟨⟨by decide, by decide⟩, by decide⟩ (Or.inl q377) (Or.inl rfl) rfl (fg_nil))) 18 rfl ?_
  refine oc_V (y := mt_174) (pc := 18) (vcons (y := mt_174) (pc := 18) (len := 3) (n := 2) (M := mt_175) (by decide) rfl (Or.inr rfl) rfl (ck_V dX2_here_18 ⟨by decide, by decide, by decide, by decide +kernel⟩ q663 q665 qs10 q167 q666) vnil) (hok0 rfl) (by decide) 21 rfl ?_
  refine oc (y := mt_174) (pc := 21) (ok_bipush dX2_here_21 (by decide) ⟨by decide, by decide⟩) 23 rfl ?_
  refine oc_icmp dX2_here_23 ⟨by decide, by decide⟩ 26 rfl ?_
  exact oc_fall rfl
theorem o_174_26 : okL gmt mt_174 26 b_174_26 := by
  refine oc (y := mt_174) (pc := 26) (ok_aload_n dX2_here_26) 27 rfl ?_
  refine oc (y := mt_174) (pc := 27) (ok_dup dX2_here_27) 28 rfl ?_
  refine oc (y := mt_174) (pc := 28) (ok_getfield dX2_here_28 (fg (own := "GardenChess$Reader") (idx := 36) (g := 4) (k := 2) (r := (RX2, TX2, 8)) rfl ⟨⟨by decide, by decide⟩, by decide⟩ (Or.inl q377) (Or.inl rfl) rfl (fg_nil))) 31 rfl ?_
  refine oc (y := mt_174) (pc := 31) (ok_iconst dX2_here_31 rfl ⟨by decide, by decide⟩) 32 rfl ?_
  refine oc (y := mt_174) (pc := 32) (ok_iadd dX2_here_32) 33 rfl ?_
  refine oc (y := mt_174) (pc := 33) (ok_putfield dX2_here_33 (fp (own := "GardenChess$Reader") (idx := 36) (g := 4) (k := 2) (r := (RX2, TX2, 8)) rfl ⟨⟨by decide, by decide⟩, by decide⟩ (Or.inl q377) (Or.inl rfl) rfl (Or.inl rfl) (fp_nil))) 36 rfl ?_
  exact oc_goto dX2_here_36 ⟨by decide, by decide⟩
theorem o_174_39 : okL gmt mt_174 39 b_174_39 := by
  refine oc (y := mt_174) (pc := 39) (ok_aload_n dX2_here_39) 40 rfl ?_
  refine oc (y := mt_174) (pc := 40) (ok_aload_n dX2_here_40) 41 rfl ?_
  refine oc (y := mt_174) (pc := 41) (ok_getfield dX2_here_41 (fg (own := "GardenChess$Reader") (idx := 36) (g := 4) (k := 2) (r := (RX2, TX2, 8)) rfl ⟨⟨by decide, by decide⟩, by decide⟩ (Or.inl q377) (Or.inl rfl) rfl (fg_nil))) 44 rfl ?_
  refine oc_V (y := mt_174) (pc := 44) (vcons (y := mt_174) (pc := 44) (len := 3) (n := 2) (M := mt_175) (by decide) rfl (Or.inr rfl) rfl (ck_V dX2_here_44 ⟨by decide, by decide, by decide, by decide +kernel⟩ q663 q665 qs10 q167 q666) vnil) (hok0 rfl) (by decide) 47 rfl ?_
  exact oc_iret dX2_here_47 rfl
theorem ok_174 : ∀ q ∈ pr_174, okL gmt mt_174 q.1 q.2 := pk_c o_174_0 (pk_c o_174_26 (pk_c o_174_39 (pk_n)))
theorem o_175_0 : okL gmt mt_175 0 b_175_0 := by
  refine oc (y := mt_175) (pc := 0) (ok_iload_n dX2_byteAt_0) 1 rfl ?_
  refine oc_if dX2_byteAt_1 ⟨by decide, by decide⟩ 4 rfl ?_
  refine oc (y := mt_175) (pc := 4) (ok_iload_n dX2_byteAt_4) 5 rfl ?_
  refine oc (y := mt_175) (pc := 5) (ok_aload_n dX2_byteAt_5) 6 rfl ?_
  refine oc (y := mt_175) (pc := 6) (ok_getfield dX2_byteAt_6 (fg (own := "GardenChess$Reader") (idx := 29) (g := 4) (k := 1) (r := (RX2, TX2, 8)) rfl ⟨⟨by decide, by decide⟩, by decide⟩ (Or.inl q376) (Or.inl rfl) rfl (fg_nil))) 9 rfl ?_
  refine oc_icmp dX2_byteAt_9 ⟨by decide, by decide⟩ 12 rfl ?_
  refine oc (y := mt_175) (pc := 12) (ok_aload_n dX2_byteAt_12) 13 rfl ?_
  refine oc (y := mt_175) (pc := 13) (ok_getfield dX2_byteAt_13 (fg (own := "GardenChess$Reader") (idx := 3) (g := 4) (k := 7) (r := (RX2, TX2, 8)) rfl ⟨⟨by decide, by decide⟩, by decide⟩ (Or.inl q382) (Or.inl rfl) rfl (fg_nil))) 16 rfl ?_
  refine oc (y := mt_175) (pc := 16) (ok_getfield dX2_byteAt_16 (fg (own := "GardenChess$Reader") (idx := 32) (g := 1) (k := 1) (r := (RX0, TX0, 25)) rfl ⟨⟨by decide, by decide⟩, by decide⟩ (Or.inr ⟨_, q540⟩) (Or.inl rfl) rfl (fg_nil))) 19 rfl ?_
  refine oc (y := mt_175) (pc := 19) (ok_iload_n dX2_byteAt_19) 20 rfl ?_
  refine oc (y := mt_175) (pc := 20) (ok_baload dX2_byteAt_20) 21 rfl ?_
  refine oc (y := mt_175) (pc := 21) (ok_sipush dX2_byteAt_21 (by decide) ⟨by decide, by decide⟩) 24 rfl ?_
  refine oc (y := mt_175) (pc := 24) (ok_iand dX2_byteAt_24) 25 rfl ?_
  exact oc_goto dX2_byteAt_25 ⟨by decide, by decide⟩
theorem o_175_28 : okL gmt mt_175 28 b_175_28 := by
  refine oc (y := mt_175) (pc := 28) (ok_iconst dX2_byteAt_28 rfl ⟨by decide, by decide⟩) 29 rfl ?_
  exact oc_fall rfl
theorem o_175_29 : okL gmt mt_175 29 b_175_29 := by
  exact oc_iret dX2_byteAt_29 rfl
theorem ok_175 : ∀ q ∈ pr_175, okL gmt mt_175 q.1 q.2 := pk_c o_175_0 (pk_c o_175_28 (pk_c o_175_29 (pk_n)))
theorem o_176_0 : okL gmt mt_176 0 b_176_0 := by
  refine oc (y := mt_176) (pc := 0) (ok_aload_n dX2_wrong_0) 1 rfl ?_
  refine oc (y := mt_176) (pc := 1) (ok_getfield dX2_wrong_1 (fg (own := "GardenChess$Reader") (idx := 18) (g := 4) (k := 0) (r := (RX2, TX2, 8)) rfl ⟨⟨by decide, by decide⟩, by decide⟩ (Or.inl q375) (Or.inl rfl) rfl (fg_nil))) 4 rfl ?_
  refine oc (y := mt_176) (pc := 4) (ok_iload_n dX2_wrong_4) 5 rfl ?_
  refine oc (y := mt_176) (pc := 5) (ok_putfield dX2_wrong_5 (fp (own := "GardenChess$Reader") (idx := 22) (g := 5) (k := 6) (r := (RX3, TX3, 8)) rfl ⟨⟨by decide, by decide⟩, by decide⟩ (Or.inr ⟨_, q353⟩) (Or.inl rfl) rfl (Or.inl rfl) (fp_nil))) 8 rfl ?_
  refine oc (y := mt_176) (pc := 8) (ok_aload_n dX2_wrong_8) 9 rfl ?_
  refine oc (y := mt_176) (pc := 9) (ok_getfield dX2_wrong_9 (fg (own := "GardenChess$Reader") (idx := 18) (g := 4) (k := 0) (r := (RX2, TX2, 8)) rfl ⟨⟨by decide, by decide⟩, by decide⟩ (Or.inl q375) (Or.inl rfl) rfl (fg_nil))) 12 rfl ?_
  refine oc (y := mt_176) (pc := 12) (ok_iload_n dX2_wrong_12) 13 rfl ?_
  refine oc (y := mt_176) (pc := 13) (ok_putfield dX2_wrong_13 (fp (own := "GardenChess$Reader") (idx := 26) (g := 5) (k := 7) (r := (RX3, TX3, 8)) rfl ⟨⟨by decide, by decide⟩, by decide⟩ (Or.inr ⟨_, q355⟩) (Or.inl rfl) rfl (Or.inl rfl) (fp_nil))) 16 rfl ?_
  refine oc (y := mt_176) (pc := 16) (ok_aload_n dX2_wrong_16) 17 rfl ?_
  refine oc (y := mt_176) (pc := 17) (ok_getfield dX2_wrong_17 (fg (own := "GardenChess$Reader") (idx := 18) (g := 4) (k := 0) (r := (RX2, TX2, 8)) rfl ⟨⟨by decide, by decide⟩, by decide⟩ (Or.inl q375) (Or.inl rfl) rfl (fg_nil))) 20 rfl ?_
  exact oc_aretO dX2_wrong_20 rfl
theorem ok_176 : ∀ q ∈ pr_176, okL gmt mt_176 q.1 q.2 := pk_c o_176_0 (pk_n)
theorem o_177_0 : okL gmt mt_177 0 b_177_0 := by
  refine oc (y := mt_177) (pc := 0) (ok_aload_n dX2_parted_0) 1 rfl ?_
  refine oc (y := mt_177) (pc := 1) (ok_aload_n dX2_parted_1) 2 rfl ?_
  refine oc (y := mt_177) (pc := 2) (ok_getfield dX2_parted_2 (fg (own := "GardenChess$Reader") (idx := 36) (g := 4) (k := 2) (r := (RX2, TX2, 8)) rfl ⟨⟨by decide, by decide⟩, by decide⟩ (Or.inl q377) (Or.inl rfl) rfl (fg_nil))) 5 rfl ?_
  refine oc (y := mt_177) (pc := 5) (ok_iconst dX2_parted_5 rfl ⟨by decide, by decide⟩) 6 rfl ?_
  refine oc (y := mt_177) (pc := 6) (ok_isub dX2_parted_6) 7 rfl ?_
  refine oc_V (y := mt_177) (pc := 7) (vcons (y := mt_177) (pc := 7) (len := 3) (n := 2) (M := mt_175) (by decide) rfl (Or.inr rfl) rfl (ck_V dX2_parted_7 ⟨by decide, by decide, by decide, by decide +kernel⟩ q663 q665 qs10 q167 q666) vnil) (hok0 rfl) (by decide) 10 rfl ?_
  refine oc_S (y := mt_177) (pc := 10) (M := mt_90) rfl (ck_SN dX2_parted_10 ⟨by decide, by decide, by decide, by decide +kernel⟩ q667 q668 q162 q669) (hok0 rfl) (by decide) 13 rfl ?_
  refine oc_if dX2_parted_13 ⟨by decide, by decide⟩ 16 rfl ?_
  refine oc (y := mt_177) (pc := 16) (ok_aload_n dX2_parted_16) 17 rfl ?_
  refine oc (y := mt_177) (pc := 17) (ok_aload_n dX2_parted_17) 18 rfl ?_
  refine oc (y := mt_177) (pc := 18) (ok_getfield dX2_parted_18 (fg (own := "GardenChess$Reader") (idx := 36) (g := 4) (k := 2) (r := (RX2, TX2, 8)) rfl ⟨⟨by decide, by decide⟩, by decide⟩ (Or.inl q377) (Or.inl rfl) rfl (fg_nil))) 21 rfl ?_
  refine oc (y := mt_177) (pc := 21) (ok_iconst dX2_parted_21 rfl ⟨by decide, by decide⟩) 22 rfl ?_
  refine oc (y := mt_177) (pc := 22) (ok_isub dX2_parted_22) 23 rfl ?_
  refine oc_V (y := mt_177) (pc := 23) (vcons (y := mt_177) (pc := 23) (len := 3) (n := 2) (M := mt_175) (by decide) rfl (Or.inr rfl) rfl (ck_V dX2_parted_23 ⟨by decide, by decide, by decide, by decide +kernel⟩ q663 q665 qs10 q167 q666) vnil) (hok0 rfl) (by decide) 26 rfl ?_
  refine oc_S (y := mt_177) (pc := 26) (M := mt_91) rfl (ck_SN dX2_parted_26 ⟨by decide, by decide, by decide, by decide +kernel⟩ q678 q679 q162 q680) (hok0 rfl) (by decide) 29 rfl ?_
  refine oc_if dX2_parted_29 ⟨by decide, by decide⟩ 32 rfl ?_
  exact oc_fall rfl
theorem o_177_32 : okL gmt mt_177 32 b_177_32 := by
  refine oc (y := mt_177) (pc := 32) (ok_aload_n dX2_parted_32) 33 rfl ?_
  refine oc (y := mt_177) (pc := 33) (ok_iconst dX2_parted_33 rfl ⟨by decide, by decide⟩) 34 rfl ?_
  refine oc (y := mt_177) (pc := 34) (ok_aload_n dX2_parted_34) 35 rfl ?_
  refine oc (y := mt_177) (pc := 35) (ok_getfield dX2_parted_35 (fg (own := "GardenChess$Reader") (idx := 36) (g := 4) (k := 2) (r := (RX2, TX2, 8)) rfl ⟨⟨by decide, by decide⟩, by decide⟩ (Or.inl q377) (Or.inl rfl) rfl (fg_nil))) 38 rfl ?_
  refine oc_V (y := mt_177) (pc := 38) (vcons (y := mt_177) (pc := 38) (len := 3) (n := 3) (M := mt_176) (by decide) rfl (Or.inr rfl) rfl (ck_V dX2_parted_38 ⟨by decide, by decide, by decide, by decide +kernel⟩ q670 q672 qs11 q167 q673) vnil) (hok0 rfl) (by decide) 41 rfl ?_
  exact oc_throw dX2_parted_41 rfl
theorem o_177_42 : okL gmt mt_177 42 b_177_42 := by
  exact oc_ret dX2_parted_42 rfl
theorem ok_177 : ∀ q ∈ pr_177, okL gmt mt_177 q.1 q.2 := pk_c o_177_0 (pk_c o_177_32 (pk_c o_177_42 (pk_n)))
theorem o_178_0 : okL gmt mt_178 0 b_178_0 := by
  refine oc (y := mt_178) (pc := 0) (ok_aload_n dX2_number_0) 1 rfl ?_
  refine oc_V (y := mt_178) (pc := 1) (vcons (y := mt_178) (pc := 1) (len := 3) (n := 1) (M := mt_174) (by decide) rfl (Or.inr rfl) rfl (ck_V dX2_number_1 ⟨by decide, by decide, by decide, by decide +kernel⟩ q659 q661 qs9 q167 q662) vnil) (hok0 rfl) (by decide) 4 rfl ?_
  refine oc_S (y := mt_178) (pc := 4) (M := mt_91) rfl (ck_SN dX2_number_4 ⟨by decide, by decide, by decide, by decide +kernel⟩ q678 q679 q162 q680) (hok0 rfl) (by decide) 7 rfl ?_
  refine oc_if dX2_number_7 ⟨by decide, by decide⟩ 10 rfl ?_
  refine oc (y := mt_178) (pc := 10) (ok_aload_n dX2_number_10) 11 rfl ?_
  refine oc (y := mt_178) (pc := 11) (ok_iconst dX2_number_11 rfl ⟨by decide, by decide⟩) 12 rfl ?_
  refine oc (y := mt_178) (pc := 12) (ok_aload_n dX2_number_12) 13 rfl ?_
  refine oc (y := mt_178) (pc := 13) (ok_getfield dX2_number_13 (fg (own := "GardenChess$Reader") (idx := 36) (g := 4) (k := 2) (r := (RX2, TX2, 8)) rfl ⟨⟨by decide, by decide⟩, by decide⟩ (Or.inl q377) (Or.inl rfl) rfl (fg_nil))) 16 rfl ?_
  refine oc_V (y := mt_178) (pc := 16) (vcons (y := mt_178) (pc := 16) (len := 3) (n := 3) (M := mt_176) (by decide) rfl (Or.inr rfl) rfl (ck_V dX2_number_16 ⟨by decide, by decide, by decide, by decide +kernel⟩ q670 q672 qs11 q167 q673) vnil) (hok0 rfl) (by decide) 19 rfl ?_
  exact oc_throw dX2_number_19 rfl
theorem o_178_20 : okL gmt mt_178 20 b_178_20 := by
  refine oc (y := mt_178) (pc := 20) (ok_aload_n dX2_number_20) 21 rfl ?_
  refine oc_V (y := mt_178) (pc := 21) (vcons (y := mt_178) (pc := 21) (len := 3) (n := 1) (M := mt_177) (by decide) rfl (Or.inr rfl) rfl (ck_V dX2_number_21 ⟨by decide, by decide, by decide, by decide +kernel⟩ q674 q676 qs12 q167 q677) vnil) (hok0 rfl) (by decide) 24 rfl ?_
  refine oc (y := mt_178) (pc := 24) (ok_aload_n dX2_number_24) 25 rfl ?_
  refine oc (y := mt_178) (pc := 25) (ok_aload_n dX2_number_25) 26 rfl ?_
  refine oc (y := mt_178) (pc := 26) (ok_getfield dX2_number_26 (fg (own := "GardenChess$Reader") (idx := 36) (g := 4) (k := 2) (r := (RX2, TX2, 8)) rfl ⟨⟨by decide, by decide⟩, by decide⟩ (Or.inl q377) (Or.inl rfl) rfl (fg_nil))) 29 rfl ?_
  refine oc (y := mt_178) (pc := 29) (ok_putfield dX2_number_29 (fp (own := "GardenChess$Reader") (idx := 61) (g := 4) (k := 3) (r := (RX2, TX2, 8)) rfl ⟨⟨by decide, by decide⟩, by decide⟩ (Or.inl q378) (Or.inl rfl) rfl (Or.inl rfl) (fp_nil))) 32 rfl ?_
  refine oc (y := mt_178) (pc := 32) (ok_iconst dX2_number_32 rfl ⟨by decide, by decide⟩) 33 rfl ?_
  refine oc (y := mt_178) (pc := 33) (ok_istore_n dX2_number_33 (by decide)) 34 rfl ?_
  exact oc_fall rfl
theorem o_178_34 : okL gmt mt_178 34 b_178_34 := by
  refine oc (y := mt_178) (pc := 34) (ok_aload_n dX2_number_34) 35 rfl ?_
  refine oc (y := mt_178) (pc := 35) (ok_aload_n dX2_number_35) 36 rfl ?_
  refine oc (y := mt_178) (pc := 36) (ok_getfield dX2_number_36 (fg (own := "GardenChess$Reader") (idx := 36) (g := 4) (k := 2) (r := (RX2, TX2, 8)) rfl ⟨⟨by decide, by decide⟩, by decide⟩ (Or.inl q377) (Or.inl rfl) rfl (fg_nil))) 39 rfl ?_
  refine oc_V (y := mt_178) (pc := 39) (vcons (y := mt_178) (pc := 39) (len := 3) (n := 2) (M := mt_175) (by decide) rfl (Or.inr rfl) rfl (ck_V dX2_number_39 ⟨by decide, by decide, by decide, by decide +kernel⟩ q663 q665 qs10 q167 q666) vnil) (hok0 rfl) (by decide) 42 rfl ?_
  refine oc_S (y := mt_178) (pc := 42) (M := mt_91) rfl (ck_SN dX2_number_42 ⟨by decide, by decide, by decide, by decide +kernel⟩ q678 q679 q162 q680) (hok0 rfl) (by decide) 45 rfl ?_
  refine oc_if dX2_number_45 ⟨by decide, by decide⟩ 48 rfl ?_
  refine oc (y := mt_178) (pc := 48) (ok_aload_n dX2_number_48) 49 rfl ?_
  refine oc (y := mt_178) (pc := 49) (ok_getfield dX2_number_49 (fg (own := "GardenChess$Reader") (idx := 36) (g := 4) (k := 2) (r := (RX2, TX2, 8)) rfl ⟨⟨by decide, by decide⟩, by decide⟩ (Or.inl q377) (Or.inl rfl) rfl (fg_nil))) 52 rfl ?_
  refine oc (y := mt_178) (pc := 52) (ok_aload_n dX2_number_52) 53 rfl ?_
  refine oc (y := mt_178) (pc := 53) (ok_getfield dX2_number_53 (fg (own := "GardenChess$Reader") (idx := 61) (g := 4) (k := 3) (r := (RX2, TX2, 8)) rfl ⟨⟨by decide, by decide⟩, by decide⟩ (Or.inl q378) (Or.inl rfl) rfl (fg_nil))) 56 rfl ?_
  refine oc (y := mt_178) (pc := 56) (ok_isub dX2_number_56) 57 rfl ?_
  refine oc (y := mt_178) (pc := 57) (ok_iconst dX2_number_57 rfl ⟨by decide, by decide⟩) 58 rfl ?_
  refine oc_icmp dX2_number_58 ⟨by decide, by decide⟩ 61 rfl ?_
  refine oc (y := mt_178) (pc := 61) (ok_aload_n dX2_number_61) 62 rfl ?_
  refine oc (y := mt_178) (pc := 62) (ok_iconst dX2_number_62 rfl ⟨by decide, by decide⟩) 63 rfl ?_
  refine oc (y := mt_178) (pc := 63) (ok_aload_n dX2_number_63) 64 rfl ?_
  refine oc (y := mt_178) (pc := 64) (ok_getfield dX2_number_64 (fg (own := "GardenChess$Reader") (idx := 36) (g := 4) (k := 2) (r := (RX2, TX2, 8)) rfl ⟨⟨by decide, by decide⟩, by decide⟩ (Or.inl q377) (Or.inl rfl) rfl (fg_nil))) 67 rfl ?_
  refine oc_V (y := mt_178) (pc := 67) (vcons (y := mt_178) (pc := 67) (len := 3) (n := 3) (M := mt_176) (by decide) rfl (Or.inr rfl) rfl (ck_V dX2_number_67 ⟨by decide, by decide, by decide, by decide +kernel⟩ q670 q672 qs11 q167 q673) vnil) (hok0 rfl) (by decide) 70 rfl ?_
  exact oc_throw dX2_number_70 rfl
theorem o_178_71 : okL gmt mt_178 71 b_178_71 := by
  refine oc (y := mt_178) (pc := 71) (ok_bipush dX2_number_71 (by decide) ⟨by decide, by decide⟩) 73 rfl ?_
  refine oc (y := mt_178) (pc := 73) (ok_iload_n dX2_number_73) 74 rfl ?_
  refine oc (y := mt_178) (pc := 74) (ok_imul dX2_number_74) 75 rfl ?_
  refine oc (y := mt_178) (pc := 75) (ok_aload_n dX2_number_75) 76 rfl ?_
  refine oc (y := mt_178) (pc := 76) (ok_aload_n dX2_number_76) 77 rfl ?_
  refine oc (y := mt_178) (pc := 77) (ok_getfield dX2_number_77 (fg (own := "GardenChess$Reader") (idx := 36) (g := 4) (k := 2) (r := (RX2, TX2, 8)) rfl ⟨⟨by decide, by decide⟩, by decide⟩ (Or.inl q377) (Or.inl rfl) rfl (fg_nil))) 80 rfl ?_
  refine oc_V (y := mt_178) (pc := 80) (vcons (y := mt_178) (pc := 80) (len := 3) (n := 2) (M := mt_175) (by decide) rfl (Or.inr rfl) rfl (ck_V dX2_number_80 ⟨by decide, by decide, by decide, by decide +kernel⟩ q663 q665 qs10 q167 q666) vnil) (hok0 rfl) (by decide) 83 rfl ?_
  refine oc (y := mt_178) (pc := 83) (ok_iadd dX2_number_83) 84 rfl ?_
  refine oc (y := mt_178) (pc := 84) (ok_bipush dX2_number_84 (by decide) ⟨by decide, by decide⟩) 86 rfl ?_
  refine oc (y := mt_178) (pc := 86) (ok_isub dX2_number_86) 87 rfl ?_
  refine oc (y := mt_178) (pc := 87) (ok_istore_n dX2_number_87 (by decide)) 88 rfl ?_
  refine oc (y := mt_178) (pc := 88) (ok_aload_n dX2_number_88) 89 rfl ?_
  refine oc (y := mt_178) (pc := 89) (ok_dup dX2_number_89) 90 rfl ?_
  refine oc (y := mt_178) (pc := 90) (ok_getfield dX2_number_90 (fg (own := "GardenChess$Reader") (idx := 36) (g := 4) (k := 2) (r := (RX2, TX2, 8)) rfl ⟨⟨by decide, by decide⟩, by decide⟩ (Or.inl q377) (Or.inl rfl) rfl (fg_nil))) 93 rfl ?_
  refine oc (y := mt_178) (pc := 93) (ok_iconst dX2_number_93 rfl ⟨by decide, by decide⟩) 94 rfl ?_
  refine oc (y := mt_178) (pc := 94) (ok_iadd dX2_number_94) 95 rfl ?_
  refine oc (y := mt_178) (pc := 95) (ok_putfield dX2_number_95 (fp (own := "GardenChess$Reader") (idx := 36) (g := 4) (k := 2) (r := (RX2, TX2, 8)) rfl ⟨⟨by decide, by decide⟩, by decide⟩ (Or.inl q377) (Or.inl rfl) rfl (Or.inl rfl) (fp_nil))) 98 rfl ?_
  exact oc_goto dX2_number_98 ⟨by decide, by decide⟩
theorem o_178_101 : okL gmt mt_178 101 b_178_101 := by
  refine oc (y := mt_178) (pc := 101) (ok_iload_n dX2_number_101) 102 rfl ?_
  refine oc (y := mt_178) (pc := 102) (ok_iload_n dX2_number_102) 103 rfl ?_
  refine oc (y := mt_178) (pc := 103) (ok_iload_n dX2_number_103) 104 rfl ?_
  refine oc_S (y := mt_178) (pc := 104) (M := mt_92) rfl (ck_SN dX2_number_104 ⟨by decide, by decide, by decide, by decide +kernel⟩ q770 q771 q162 q772) (hok0 rfl) (by decide) 107 rfl ?_
  refine oc_if dX2_number_107 ⟨by decide, by decide⟩ 110 rfl ?_
  refine oc (y := mt_178) (pc := 110) (ok_aload_n dX2_number_110) 111 rfl ?_
  refine oc (y := mt_178) (pc := 111) (ok_iconst dX2_number_111 rfl ⟨by decide, by decide⟩) 112 rfl ?_
  refine oc (y := mt_178) (pc := 112) (ok_aload_n dX2_number_112) 113 rfl ?_
  refine oc (y := mt_178) (pc := 113) (ok_getfield dX2_number_113 (fg (own := "GardenChess$Reader") (idx := 61) (g := 4) (k := 3) (r := (RX2, TX2, 8)) rfl ⟨⟨by decide, by decide⟩, by decide⟩ (Or.inl q378) (Or.inl rfl) rfl (fg_nil))) 116 rfl ?_
  refine oc_V (y := mt_178) (pc := 116) (vcons (y := mt_178) (pc := 116) (len := 3) (n := 3) (M := mt_176) (by decide) rfl (Or.inr rfl) rfl (ck_V dX2_number_116 ⟨by decide, by decide, by decide, by decide +kernel⟩ q670 q672 qs11 q167 q673) vnil) (hok0 rfl) (by decide) 119 rfl ?_
  exact oc_throw dX2_number_119 rfl
theorem o_178_120 : okL gmt mt_178 120 b_178_120 := by
  refine oc (y := mt_178) (pc := 120) (ok_iload_n dX2_number_120) 121 rfl ?_
  exact oc_iret dX2_number_121 rfl
theorem ok_178 : ∀ q ∈ pr_178, okL gmt mt_178 q.1 q.2 := pk_c o_178_0 (pk_c o_178_20 (pk_c o_178_34 (pk_c o_178_71 (pk_c o_178_101 (pk_c o_178_120 (pk_n))))))
theorem o_179_0 : okL gmt mt_179 0 b_179_0 := by
  refine oc (y := mt_179) (pc := 0) (ok_aload_n dX2_number_2_0) 1 rfl ?_
  refine oc (y := mt_179) (pc := 1) (ok_aload_n dX2_number_2_1) 2 rfl ?_
  refine oc_V (y := mt_179) (pc := 2) (vcons (y := mt_179) (pc := 2) (len := 3) (n := 2) (M := mt_172) (by decide) rfl (Or.inr rfl) rfl (ck_V dX2_number_2_2 ⟨by decide, by decide, by decide, by decide +kernel⟩ q651 q653 qs7 q167 q654) vnil) (hok0 rfl) (by decide) 5 rfl ?_
  refine oc (y := mt_179) (pc := 5) (ok_aload_n dX2_number_2_5) 6 rfl ?_
  refine oc (y := mt_179) (pc := 6) (ok_iload_n dX2_number_2_6) 7 rfl ?_
  refine oc (y := mt_179) (pc := 7) (ok_iload_n dX2_number_2_7) 8 rfl ?_
  refine oc_V (y := mt_179) (pc := 8) (vcons (y := mt_179) (pc := 8) (len := 3) (n := 3) (M := mt_178) (by decide) rfl (Or.inr rfl) rfl (ck_V dX2_number_2_8 ⟨by decide, by decide, by decide, by decide +kernel⟩ q766 q768 qs13 q167 q769) vnil) (hok0 rfl) (by decide) 11 rfl ?_
  exact oc_iret dX2_number_2_11 rfl
theorem ok_179 : ∀ q ∈ pr_179, okL gmt mt_179 q.1 q.2 := pk_c o_179_0 (pk_n)
theorem o_180_0 : okL gmt mt_180 0 b_180_0 := by
  refine oc (y := mt_180) (pc := 0) (ok_aload_n dX2_must_0) 1 rfl ?_
  refine oc_V (y := mt_180) (pc := 1) (vcons (y := mt_180) (pc := 1) (len := 3) (n := 1) (M := mt_174) (by decide) rfl (Or.inr rfl) rfl (ck_V dX2_must_1 ⟨by decide, by decide, by decide, by decide +kernel⟩ q659 q661 qs9 q167 q662) vnil) (hok0 rfl) (by decide) 4 rfl ?_
  refine oc (y := mt_180) (pc := 4) (ok_iload_n dX2_must_4) 5 rfl ?_
  refine oc_icmp dX2_must_5 ⟨by decide, by decide⟩ 8 rfl ?_
  refine oc (y := mt_180) (pc := 8) (ok_aload_n dX2_must_8) 9 rfl ?_
  refine oc (y := mt_180) (pc := 9) (ok_iconst dX2_must_9 rfl ⟨by decide, by decide⟩) 10 rfl ?_
  refine oc (y := mt_180) (pc := 10) (ok_aload_n dX2_must_10) 11 rfl ?_
  refine oc (y := mt_180) (pc := 11) (ok_getfield dX2_must_11 (fg (own := "GardenChess$Reader") (idx := 36) (g := 4) (k := 2) (r := (RX2, TX2, 8)) rfl ⟨⟨by decide, by decide⟩, by decide⟩ (Or.inl q377) (Or.inl rfl) rfl (fg_nil))) 14 rfl ?_
  refine oc_V (y := mt_180) (pc := 14) (vcons (y := mt_180) (pc := 14) (len := 3) (n := 3) (M := mt_176) (by decide) rfl (Or.inr rfl) rfl (ck_V dX2_must_14 ⟨by decide, by decide, by decide, by decide +kernel⟩ q670 q672 qs11 q167 q673) vnil) (hok0 rfl) (by decide) 17 rfl ?_
  exact oc_throw dX2_must_17 rfl
theorem o_180_18 : okL gmt mt_180 18 b_180_18 := by
  refine oc (y := mt_180) (pc := 18) (ok_aload_n dX2_must_18) 19 rfl ?_
  refine oc (y := mt_180) (pc := 19) (ok_dup dX2_must_19) 20 rfl ?_
  refine oc (y := mt_180) (pc := 20) (ok_getfield dX2_must_20 (fg (own := "GardenChess$Reader") (idx := 36) (g := 4) (k := 2) (r := (RX2, TX2, 8)) rfl ⟨⟨by decide, by decide⟩, by decide⟩ (Or.inl q377) (Or.inl rfl) rfl (fg_nil))) 23 rfl ?_
  refine oc (y := mt_180) (pc := 23) (ok_iconst dX2_must_23 rfl ⟨by decide, by decide⟩) 24 rfl ?_
  refine oc (y := mt_180) (pc := 24) (ok_iadd dX2_must_24) 25 rfl ?_
  refine oc (y := mt_180) (pc := 25) (ok_putfield dX2_must_25 (fp (own := "GardenChess$Reader") (idx := 36) (g := 4) (k := 2) (r := (RX2, TX2, 8)) rfl ⟨⟨by decide, by decide⟩, by decide⟩ (Or.inl q377) (Or.inl rfl) rfl (Or.inl rfl) (fp_nil))) 28 rfl ?_
  exact oc_ret dX2_must_28 rfl
theorem ok_180 : ∀ q ∈ pr_180, okL gmt mt_180 q.1 q.2 := pk_c o_180_0 (pk_c o_180_18 (pk_n))
theorem o_181_0 : okL gmt mt_181 0 b_181_0 := by
  refine oc (y := mt_181) (pc := 0) (ok_iload_n dX2_most_0) 1 rfl ?_
  refine oc_if dX2_most_1 ⟨by decide, by decide⟩ 4 rfl ?_
  refine oc (y := mt_181) (pc := 4) (ok_aload_n dX2_most_4) 5 rfl ?_
  refine oc (y := mt_181) (pc := 5) (ok_iconst dX2_most_5 rfl ⟨by decide, by decide⟩) 6 rfl ?_
  refine oc (y := mt_181) (pc := 6) (ok_iload_n dX2_most_6) 7 rfl ?_
  refine oc_V (y := mt_181) (pc := 7) (vcons (y := mt_181) (pc := 7) (len := 3) (n := 3) (M := mt_176) (by decide) rfl (Or.inr rfl) rfl (ck_V dX2_most_7 ⟨by decide, by decide, by decide, by decide +kernel⟩ q670 q672 qs11 q167 q673) vnil) (hok0 rfl) (by decide) 10 rfl ?_
  exact oc_throw dX2_most_10 rfl
theorem o_181_11 : okL gmt mt_181 11 b_181_11 := by
  exact oc_ret dX2_most_11 rfl
theorem ok_181 : ∀ q ∈ pr_181, okL gmt mt_181 q.1 q.2 := pk_c o_181_0 (pk_c o_181_11 (pk_n))
theorem o_182_0 : okL gmt mt_182 0 b_182_0 := by
  refine oc (y := mt_182) (pc := 0) (ok_aload_n dX2_told_0) 1 rfl ?_
  refine oc (y := mt_182) (pc := 1) (ok_astore_n dX2_told_1 (by decide)) 2 rfl ?_
  refine oc (y := mt_182) (pc := 2) (ok_iconst dX2_told_2 rfl ⟨by decide, by decide⟩) 3 rfl ?_
  refine oc (y := mt_182) (pc := 3) (ok_istore dX2_told_3 (by decide)) 5 rfl ?_
  refine oc (y := mt_182) (pc := 5) (ok_aload_n dX2_told_5) 6 rfl ?_
  refine oc_V (y := mt_182) (pc := 6) (vcons (y := mt_182) (pc := 6) (len := 3) (n := 1) (M := mt_58) (by decide) rfl (Or.inr rfl) rfl (ck_V dX2_told_6 ⟨by decide, by decide, by decide, by decide +kernel⟩ q792 q793 q794 q178 q795) vnil) (hok0 rfl) (by decide) 9 rfl ?_
  exact oc_lsw dX2_told_9 ⟨by decide, by decide⟩ (by decide +kernel) (by decide +kernel) (by decide +kernel)
theorem o_182_68 : okL gmt mt_182 68 b_182_68 := by
  refine oc (y := mt_182) (pc := 68) (ok_aload_n dX2_told_68) 69 rfl ?_
  refine oc (y := mt_182) (pc := 69) (ok_ldcS dX2_told_69 rfl (List.mem_of_getElem? (i := 43) rfl)) 71 rfl ?_
  refine oc_V (y := mt_182) (pc := 71) (vcons (y := mt_182) (pc := 71) (len := 3) (n := 2) (M := mt_57) (by decide) rfl (Or.inr rfl) rfl (ck_V dX2_told_71 ⟨by decide, by decide, by decide, by decide +kernel⟩ q759 q760 q761 q178 q762) vnil) (hok0 rfl) (by decide) 74 rfl ?_
  refine oc_if dX2_told_74 ⟨by decide, by decide⟩ 77 rfl ?_
  refine oc (y := mt_182) (pc := 77) (ok_iconst dX2_told_77 rfl ⟨by decide, by decide⟩) 78 rfl ?_
  refine oc (y := mt_182) (pc := 78) (ok_istore dX2_told_78 (by decide)) 80 rfl ?_
  exact oc_goto dX2_told_80 ⟨by decide, by decide⟩
theorem o_182_83 : okL gmt mt_182 83 b_182_83 := by
  refine oc (y := mt_182) (pc := 83) (ok_aload_n dX2_told_83) 84 rfl ?_
  refine oc (y := mt_182) (pc := 84) (ok_ldcS dX2_told_84 rfl (List.mem_of_getElem? (i := 44) rfl)) 86 rfl ?_
  refine oc_V (y := mt_182) (pc := 86) (vcons (y := mt_182) (pc := 86) (len := 3) (n := 2) (M := mt_57) (by decide) rfl (Or.inr rfl) rfl (ck_V dX2_told_86 ⟨by decide, by decide, by decide, by decide +kernel⟩ q759 q760 q761 q178 q762) vnil) (hok0 rfl) (by decide) 89 rfl ?_
  refine oc_if dX2_told_89 ⟨by decide, by decide⟩ 92 rfl ?_
  refine oc (y := mt_182) (pc := 92) (ok_iconst dX2_told_92 rfl ⟨by decide, by decide⟩) 93 rfl ?_
  refine oc (y := mt_182) (pc := 93) (ok_istore dX2_told_93 (by decide)) 95 rfl ?_
  exact oc_goto dX2_told_95 ⟨by decide, by decide⟩
theorem o_182_98 : okL gmt mt_182 98 b_182_98 := by
  refine oc (y := mt_182) (pc := 98) (ok_aload_n dX2_told_98) 99 rfl ?_
  refine oc (y := mt_182) (pc := 99) (ok_ldcS dX2_told_99 rfl (List.mem_of_getElem? (i := 45) rfl)) 101 rfl ?_
  refine oc_V (y := mt_182) (pc := 101) (vcons (y := mt_182) (pc := 101) (len := 3) (n := 2) (M := mt_57) (by decide) rfl (Or.inr rfl) rfl (ck_V dX2_told_101 ⟨by decide, by decide, by decide, by decide +kernel⟩ q759 q760 q761 q178 q762) vnil) (hok0 rfl) (by decide) 104 rfl ?_
  refine oc_if dX2_told_104 ⟨by decide, by decide⟩ 107 rfl ?_
  refine oc (y := mt_182) (pc := 107) (ok_iconst dX2_told_107 rfl ⟨by decide, by decide⟩) 108 rfl ?_
  refine oc (y := mt_182) (pc := 108) (ok_istore dX2_told_108 (by decide)) 110 rfl ?_
  exact oc_goto dX2_told_110 ⟨by decide, by decide⟩
theorem o_182_113 : okL gmt mt_182 113 b_182_113 := by
  refine oc (y := mt_182) (pc := 113) (ok_aload_n dX2_told_113) 114 rfl ?_
  refine oc (y := mt_182) (pc := 114) (ok_ldcS dX2_told_114 rfl (List.mem_of_getElem? (i := 46) rfl)) 116 rfl ?_
  refine oc_V (y := mt_182) (pc := 116) (vcons (y := mt_182) (pc := 116) (len := 3) (n := 2) (M := mt_57) (by decide) rfl (Or.inr rfl) rfl (ck_V dX2_told_116 ⟨by decide, by decide, by decide, by decide +kernel⟩ q759 q760 q761 q178 q762) vnil) (hok0 rfl) (by decide) 119 rfl ?_
  refine oc_if dX2_told_119 ⟨by decide, by decide⟩ 122 rfl ?_
  refine oc (y := mt_182) (pc := 122) (ok_iconst dX2_told_122 rfl ⟨by decide, by decide⟩) 123 rfl ?_
  refine oc (y := mt_182) (pc := 123) (ok_istore dX2_told_123 (by decide)) 125 rfl ?_
  exact oc_goto dX2_told_125 ⟨by decide, by decide⟩
theorem o_182_128 : okL gmt mt_182 128 b_182_128 := by
  refine oc (y := mt_182) (pc := 128) (ok_aload_n dX2_told_128) 129 rfl ?_
  refine oc (y := mt_182) (pc := 129) (ok_ldcS dX2_told_129 rfl (List.mem_of_getElem? (i := 47) rfl)) 131 rfl ?_
  refine oc_V (y := mt_182) (pc := 131) (vcons (y := mt_182) (pc := 131) (len := 3) (n := 2) (M := mt_57) (by decide) rfl (Or.inr rfl) rfl (ck_V dX2_told_131 ⟨by decide, by decide, by decide, by decide +kernel⟩ q759 q760 q761 q178 q762) vnil) (hok0 rfl) (by decide) 134 rfl ?_
  refine oc_if dX2_told_134 ⟨by decide, by decide⟩ 137 rfl ?_
  refine oc (y := mt_182) (pc := 137) (ok_iconst dX2_told_137 rfl ⟨by decide, by decide⟩) 138 rfl ?_
  refine oc (y := mt_182) (pc := 138) (ok_istore dX2_told_138 (by decide)) 140 rfl ?_
  exact oc_goto dX2_told_140 ⟨by decide, by decide⟩
theorem o_182_143 : okL gmt mt_182 143 b_182_143 := by
  refine oc (y := mt_182) (pc := 143) (ok_aload_n dX2_told_143) 144 rfl ?_
  refine oc (y := mt_182) (pc := 144) (ok_ldcS dX2_told_144 rfl (List.mem_of_getElem? (i := 48) rfl)) 146 rfl ?_
  refine oc_V (y := mt_182) (pc := 146) (vcons (y := mt_182) (pc := 146) (len := 3) (n := 2) (M := mt_57) (by decide) rfl (Or.inr rfl) rfl (ck_V dX2_told_146 ⟨by decide, by decide, by decide, by decide +kernel⟩ q759 q760 q761 q178 q762) vnil) (hok0 rfl) (by decide) 149 rfl ?_
  refine oc_if dX2_told_149 ⟨by decide, by decide⟩ 152 rfl ?_
  refine oc (y := mt_182) (pc := 152) (ok_iconst dX2_told_152 rfl ⟨by decide, by decide⟩) 153 rfl ?_
  refine oc (y := mt_182) (pc := 153) (ok_istore dX2_told_153 (by decide)) 155 rfl ?_
  exact oc_fall rfl
theorem o_182_155 : okL gmt mt_182 155 b_182_155 := by
  refine oc (y := mt_182) (pc := 155) (ok_iload dX2_told_155) 157 rfl ?_
  exact oc_tsw dX2_told_157 (by decide) (by decide +kernel)
theorem o_182_196 : okL gmt mt_182 196 b_182_196 := by
  refine oc (y := mt_182) (pc := 196) (ok_aload_n dX2_told_196) 197 rfl ?_
  refine oc (y := mt_182) (pc := 197) (ok_aload_n dX2_told_197) 198 rfl ?_
  refine oc (y := mt_182) (pc := 198) (ok_getfield dX2_told_198 (fg (own := "GardenChess$Reader") (idx := 103) (g := 4) (k := 6) (r := (RX2, TX2, 8)) rfl ⟨⟨by decide, by decide⟩, by decide⟩ (Or.inl q381) (Or.inl rfl) rfl (fg_nil))) 201 rfl ?_
  refine oc (y := mt_182) (pc := 201) (ok_getfield dX2_told_201 (fg (own := "GardenChess$Reader") (idx := 172) (g := 2) (k := 6) (r := (RX1, TX1, 10)) rfl ⟨⟨by decide, by decide⟩, by decide⟩ (Or.inr ⟨_, q264⟩) (Or.inl rfl) rfl (fg_nil))) 204 rfl ?_
  refine oc_F (y := mt_182) (pc := 204) (vcons (y := mt_182) (pc := 204) (len := 5) (n := 1) (M := mt_39) (by decide) rfl (Or.inr rfl) rfl (ck_F (ci := 2) dX2_told_204 rfl rfl (fun G s h => h.2.2.1.1) (by decide) ⟨by decide, by decide, by decide +kernel⟩ q852 q504 q506 q166 q508) vnil) (hok0 rfl) 209 rfl ?_
  refine oc (y := mt_182) (pc := 209) (ok_iconst dX2_told_209 rfl ⟨by decide, by decide⟩) 210 rfl ?_
  refine oc_icmp dX2_told_210 ⟨by decide, by decide⟩ 213 rfl ?_
  refine oc (y := mt_182) (pc := 213) (ok_iconst dX2_told_213 rfl ⟨by decide, by decide⟩) 214 rfl ?_
  exact oc_goto dX2_told_214 ⟨by decide, by decide⟩
theorem o_182_217 : okL gmt mt_182 217 b_182_217 := by
  refine oc (y := mt_182) (pc := 217) (ok_iconst dX2_told_217 rfl ⟨by decide, by decide⟩) 218 rfl ?_
  exact oc_fall rfl
theorem o_182_218 : okL gmt mt_182 218 b_182_218 := by
  refine oc (y := mt_182) (pc := 218) (ok_iload_n dX2_told_218) 219 rfl ?_
  refine oc_V (y := mt_182) (pc := 219) (vcons (y := mt_182) (pc := 219) (len := 3) (n := 3) (M := mt_181) (by decide) rfl (Or.inr rfl) rfl (ck_V dX2_told_219 ⟨by decide, by decide, by decide, by decide +kernel⟩ q784 q786 qs16 q167 q787) vnil) (hok0 rfl) (by decide) 222 rfl ?_
  refine oc (y := mt_182) (pc := 222) (ok_aload_n dX2_told_222) 223 rfl ?_
  refine oc_V (y := mt_182) (pc := 223) (vcons (y := mt_182) (pc := 223) (len := 3) (n := 1) (M := mt_183) (by decide) rfl (Or.inr rfl) rfl (ck_V dX2_told_223 ⟨by decide, by decide, by decide, by decide +kernel⟩ q853 q855 qs18 q167 q856) vnil) (hok0 rfl) (by decide) 226 rfl ?_
  refine oc (y := mt_182) (pc := 226) (ok_astore dX2_told_226 (by decide)) 228 rfl ?_
  refine oc (y := mt_182) (pc := 228) (ok_aload_n dX2_told_228) 229 rfl ?_
  refine oc (y := mt_182) (pc := 229) (ok_ldcS dX2_told_229 rfl (List.mem_of_getElem? (i := 49) rfl)) 231 rfl ?_
  refine oc (y := mt_182) (pc := 231) (ok_iconst dX2_told_231 rfl ⟨by decide, by decide⟩) 232 rfl ?_
  refine oc (y := mt_182) (pc := 232) (ok_iconst dX2_told_232 rfl ⟨by decide, by decide⟩) 233 rfl ?_
  refine oc_V (y := mt_182) (pc := 233) (vcons (y := mt_182) (pc := 233) (len := 3) (n := 4) (M := mt_179) (by decide) rfl (Or.inr rfl) rfl (ck_V dX2_told_233 ⟨by decide, by decide, by decide, by decide +kernel⟩ q774 q776 qs14 q167 q777) vnil) (hok0 rfl) (by decide) 236 rfl ?_
  refine oc (y := mt_182) (pc := 236) (ok_istore dX2_told_236 (by decide)) 238 rfl ?_
  refine oc (y := mt_182) (pc := 238) (ok_aload_n dX2_told_238) 239 rfl ?_
  refine oc (y := mt_182) (pc := 239) (ok_ldcS dX2_told_239 rfl (List.mem_of_getElem? (i := 50) rfl)) 241 rfl ?_
  refine oc (y := mt_182) (pc := 241) (ok_iconst dX2_told_241 rfl ⟨by decide, by decide⟩) 242 rfl ?_
  refine oc (y := mt_182) (pc := 242) (ok_iconst dX2_told_242 rfl ⟨by decide, by decide⟩) 243 rfl ?_
  refine oc_V (y := mt_182) (pc := 243) (vcons (y := mt_182) (pc := 243) (len := 3) (n := 4) (M := mt_179) (by decide) rfl (Or.inr rfl) rfl (ck_V dX2_told_243 ⟨by decide, by decide, by decide, by decide +kernel⟩ q774 q776 qs14 q167 q777) vnil) (hok0 rfl) (by decide) 246 rfl ?_
  refine oc (y := mt_182) (pc := 246) (ok_istore dX2_told_246 (by decide)) 248 rfl ?_
  refine oc (y := mt_182) (pc := 248) (ok_new (C := RX9) (T := TX9) (N := 5) (ci := 11) dX2_told_248 rfl rfl rfl nf_11 q890 q891 q183) 251 rfl ?_
  refine oc (y := mt_182) (pc := 251) (ok_dup dX2_told_251) 252 rfl ?_
  refine oc (y := mt_182) (pc := 252) (ok_aload dX2_told_252) 254 rfl ?_
  refine oc (y := mt_182) (pc := 254) (ok_iload dX2_told_254) 256 rfl ?_
  refine oc (y := mt_182) (pc := 256) (ok_iload dX2_told_256) 258 rfl ?_
  refine oc (y := mt_182) (pc := 258) (ok_aload_n dX2_told_258) 259 rfl ?_
  refine oc (y := mt_182) (pc := 259) (ok_ldcS dX2_told_259 rfl (List.mem_of_getElem? (i := 51) rfl)) 261 rfl ?_
  refine oc (y := mt_182) (pc := 261) (ok_iconst dX2_told_261 rfl ⟨by decide, by decide⟩) 262 rfl ?_
  refine oc (y := mt_182) (pc := 262) (ok_bipush dX2_told_262 (by decide) ⟨by decide, by decide⟩) 264 rfl ?_
  refine oc_V (y := mt_182) (pc := 264) (vcons (y := mt_182) (pc := 264) (len := 3) (n := 4) (M := mt_179) (by decide) rfl (Or.inr rfl) rfl (ck_V dX2_told_264 ⟨by decide, by decide, by decide, by decide +kernel⟩ q774 q776 qs14 q167 q777) vnil) (hok0 rfl) (by decide) 267 rfl ?_
  refine oc_I (y := mt_182) (pc := 267) (vcons (y := mt_182) (pc := 267) (len := 3) (n := 5) (M := mt_387) (by decide) rfl (Or.inl rfl) rfl (ck_I dX2_told_267 ⟨by decide, by decide, by decide, by decide +kernel⟩ rfl q893 q894 q183 q895) (vnil)) (hok0 rfl) (by decide) 270 rfl ?_
  refine oc (y := mt_182) (pc := 270) (ok_astore dX2_told_270 (by decide)) 272 rfl ?_
  refine oc (y := mt_182) (pc := 272) (ok_aload dX2_told_272) 274 rfl ?_
  refine oc (y := mt_182) (pc := 274) (ok_aload_n dX2_told_274) 275 rfl ?_
  refine oc (y := mt_182) (pc := 275) (ok_ldcS dX2_told_275 rfl (List.mem_of_getElem? (i := 52) rfl)) 277 rfl ?_
  refine oc_V (y := mt_182) (pc := 277) (vcons (y := mt_182) (pc := 277) (len := 3) (n := 2) (M := mt_185) (by decide) rfl (Or.inr rfl) rfl (ck_V dX2_told_277 ⟨by decide, by decide, by decide, by decide +kernel⟩ q925 q927 qs20 q167 q928) vnil) (hok0 rfl) (by decide) 280 rfl ?_
  refine oc (y := mt_182) (pc := 280) (ok_putfield dX2_told_280 (fp (own := "GardenChess$Reader") (idx := 199) (g := 12) (k := 4) (r := (RX9, TX9, 5)) rfl ⟨⟨by decide, by decide⟩, by decide⟩ (Or.inr ⟨_, q910⟩) (Or.inl rfl) rfl (Or.inl rfl) (fp_nil))) 283 rfl ?_
  refine oc (y := mt_182) (pc := 283) (ok_aload_n dX2_told_283) 284 rfl ?_
  refine oc (y := mt_182) (pc := 284) (ok_getfield dX2_told_284 (fg (own := "GardenChess$Reader") (idx := 103) (g := 4) (k := 6) (r := (RX2, TX2, 8)) rfl ⟨⟨by decide, by decide⟩, by decide⟩ (Or.inl q381) (Or.inl rfl) rfl (fg_nil))) 287 rfl ?_
  refine oc (y := mt_182) (pc := 287) (ok_getfield dX2_told_287 (fg (own := "GardenChess$Reader") (idx := 172) (g := 2) (k := 6) (r := (RX1, TX1, 10)) rfl ⟨⟨by decide, by decide⟩, by decide⟩ (Or.inr ⟨_, q264⟩) (Or.inl rfl) rfl (fg_nil))) 290 rfl ?_
  refine oc (y := mt_182) (pc := 290) (ok_aload dX2_told_290) 292 rfl ?_
  refine oc_F (y := mt_182) (pc := 292) (vcons (y := mt_182) (pc := 292) (len := 5) (n := 2) (M := mt_42) (by decide) rfl (Or.inr rfl) rfl (ck_F (ci := 2) dX2_told_292 rfl rfl (fun G s h => h.2.2.1.2.2) (by decide) ⟨by decide, by decide, by decide +kernel⟩ q930 q933 q935 q166 q937) vnil) (hok0 rfl) 297 rfl ?_
  refine oc (y := mt_182) (pc := 297) (ok_pop dX2_told_297) 298 rfl ?_
  exact oc_goto dX2_told_298 ⟨by decide, by decide⟩
theorem o_182_301 : okL gmt mt_182 301 b_182_301 := by
  refine oc (y := mt_182) (pc := 301) (ok_aload_n dX2_told_301) 302 rfl ?_
  refine oc (y := mt_182) (pc := 302) (ok_aload_n dX2_told_302) 303 rfl ?_
  refine oc (y := mt_182) (pc := 303) (ok_getfield dX2_told_303 (fg (own := "GardenChess$Reader") (idx := 103) (g := 4) (k := 6) (r := (RX2, TX2, 8)) rfl ⟨⟨by decide, by decide⟩, by decide⟩ (Or.inl q381) (Or.inl rfl) rfl (fg_nil))) 306 rfl ?_
  refine oc (y := mt_182) (pc := 306) (ok_getfield dX2_told_306 (fg (own := "GardenChess$Reader") (idx := 206) (g := 2) (k := 7) (r := (RX1, TX1, 10)) rfl ⟨⟨by decide, by decide⟩, by decide⟩ (Or.inr ⟨_, q268⟩) (Or.inl rfl) rfl (fg_nil))) 309 rfl ?_
  refine oc_F (y := mt_182) (pc := 309) (vcons (y := mt_182) (pc := 309) (len := 5) (n := 1) (M := mt_39) (by decide) rfl (Or.inr rfl) rfl (ck_F (ci := 2) dX2_told_309 rfl rfl (fun G s h => h.2.2.1.1) (by decide) ⟨by decide, by decide, by decide +kernel⟩ q852 q504 q506 q166 q508) vnil) (hok0 rfl) 314 rfl ?_
  refine oc (y := mt_182) (pc := 314) (ok_bipush dX2_told_314 (by decide) ⟨by decide, by decide⟩) 316 rfl ?_
  refine oc_icmp dX2_told_316 ⟨by decide, by decide⟩ 319 rfl ?_
  refine oc (y := mt_182) (pc := 319) (ok_iconst dX2_told_319 rfl ⟨by decide, by decide⟩) 320 rfl ?_
  exact oc_goto dX2_told_320 ⟨by decide, by decide⟩
theorem o_182_323 : okL gmt mt_182 323 b_182_323 := by
  refine oc (y := mt_182) (pc := 323) (ok_iconst dX2_told_323 rfl ⟨by decide, by decide⟩) 324 rfl ?_
  exact oc_fall rfl
theorem o_182_324 : okL gmt mt_182 324 b_182_324 := by
  refine oc (y := mt_182) (pc := 324) (ok_iload_n dX2_told_324) 325 rfl ?_
  refine oc_V (y := mt_182) (pc := 325) (vcons (y := mt_182) (pc := 325) (len := 3) (n := 3) (M := mt_181) (by decide) rfl (Or.inr rfl) rfl (ck_V dX2_told_325 ⟨by decide, by decide, by decide, by decide +kernel⟩ q784 q786 qs16 q167 q787) vnil) (hok0 rfl) (by decide) 328 rfl ?_
  refine oc (y := mt_182) (pc := 328) (ok_aload_n dX2_told_328) 329 rfl ?_
  refine oc_V (y := mt_182) (pc := 329) (vcons (y := mt_182) (pc := 329) (len := 3) (n := 1) (M := mt_186) (by decide) rfl (Or.inr rfl) rfl (ck_V dX2_told_329 ⟨by decide, by decide, by decide, by decide +kernel⟩ q1006 q1008 qs24 q167 q1009) vnil) (hok0 rfl) (by decide) 332 rfl ?_
  exact oc_goto dX2_told_332 ⟨by decide, by decide⟩
theorem o_182_335 : okL gmt mt_182 335 b_182_335 := by
  refine oc (y := mt_182) (pc := 335) (ok_aload_n dX2_told_335) 336 rfl ?_
  refine oc (y := mt_182) (pc := 336) (ok_aload_n dX2_told_336) 337 rfl ?_
  refine oc (y := mt_182) (pc := 337) (ok_getfield dX2_told_337 (fg (own := "GardenChess$Reader") (idx := 103) (g := 4) (k := 6) (r := (RX2, TX2, 8)) rfl ⟨⟨by decide, by decide⟩, by decide⟩ (Or.inl q381) (Or.inl rfl) rfl (fg_nil))) 340 rfl ?_
  refine oc (y := mt_182) (pc := 340) (ok_getfield dX2_told_340 (fg (own := "GardenChess$Reader") (idx := 211) (g := 2) (k := 8) (r := (RX1, TX1, 10)) rfl ⟨⟨by decide, by decide⟩, by decide⟩ (Or.inr ⟨_, q272⟩) (Or.inl rfl) rfl (fg_nil))) 343 rfl ?_
  refine oc_F (y := mt_182) (pc := 343) (vcons (y := mt_182) (pc := 343) (len := 5) (n := 1) (M := mt_39) (by decide) rfl (Or.inr rfl) rfl (ck_F (ci := 2) dX2_told_343 rfl rfl (fun G s h => h.2.2.1.1) (by decide) ⟨by decide, by decide, by decide +kernel⟩ q852 q504 q506 q166 q508) vnil) (hok0 rfl) 348 rfl ?_
  refine oc (y := mt_182) (pc := 348) (ok_bipush dX2_told_348 (by decide) ⟨by decide, by decide⟩) 350 rfl ?_
  refine oc_icmp dX2_told_350 ⟨by decide, by decide⟩ 353 rfl ?_
  refine oc (y := mt_182) (pc := 353) (ok_iconst dX2_told_353 rfl ⟨by decide, by decide⟩) 354 rfl ?_
  exact oc_goto dX2_told_354 ⟨by decide, by decide⟩
theorem o_182_357 : okL gmt mt_182 357 b_182_357 := by
  refine oc (y := mt_182) (pc := 357) (ok_iconst dX2_told_357 rfl ⟨by decide, by decide⟩) 358 rfl ?_
  exact oc_fall rfl
theorem o_182_358 : okL gmt mt_182 358 b_182_358 := by
  refine oc (y := mt_182) (pc := 358) (ok_iload_n dX2_told_358) 359 rfl ?_
  refine oc_V (y := mt_182) (pc := 359) (vcons (y := mt_182) (pc := 359) (len := 3) (n := 3) (M := mt_181) (by decide) rfl (Or.inr rfl) rfl (ck_V dX2_told_359 ⟨by decide, by decide, by decide, by decide +kernel⟩ q784 q786 qs16 q167 q787) vnil) (hok0 rfl) (by decide) 362 rfl ?_
  refine oc (y := mt_182) (pc := 362) (ok_aload_n dX2_told_362) 363 rfl ?_
  refine oc_V (y := mt_182) (pc := 363) (vcons (y := mt_182) (pc := 363) (len := 3) (n := 1) (M := mt_183) (by decide) rfl (Or.inr rfl) rfl (ck_V dX2_told_363 ⟨by decide, by decide, by decide, by decide +kernel⟩ q853 q855 qs18 q167 q856) vnil) (hok0 rfl) (by decide) 366 rfl ?_
  refine oc (y := mt_182) (pc := 366) (ok_astore dX2_told_366 (by decide)) 368 rfl ?_
  refine oc (y := mt_182) (pc := 368) (ok_aload_n dX2_told_368) 369 rfl ?_
  refine oc (y := mt_182) (pc := 369) (ok_ldcS dX2_told_369 rfl (List.mem_of_getElem? (i := 53) rfl)) 371 rfl ?_
  refine oc (y := mt_182) (pc := 371) (ok_iconst dX2_told_371 rfl ⟨by decide, by decide⟩) 372 rfl ?_
  refine oc (y := mt_182) (pc := 372) (ok_aload_n dX2_told_372) 373 rfl ?_
  refine oc (y := mt_182) (pc := 373) (ok_getfield dX2_told_373 (fg (own := "GardenChess$Reader") (idx := 103) (g := 4) (k := 6) (r := (RX2, TX2, 8)) rfl ⟨⟨by decide, by decide⟩, by decide⟩ (Or.inl q381) (Or.inl rfl) rfl (fg_nil))) 376 rfl ?_
  refine oc (y := mt_182) (pc := 376) (ok_getfield dX2_told_376 (fg (own := "GardenChess$Reader") (idx := 124) (g := 2) (k := 1) (r := (RX1, TX1, 10)) rfl ⟨⟨by decide, by decide⟩, by decide⟩ (Or.inr ⟨_, q251⟩) (Or.inl rfl) rfl (fg_nil))) 379 rfl ?_
  refine oc (y := mt_182) (pc := 379) (ok_iconst dX2_told_379 rfl ⟨by decide, by decide⟩) 380 rfl ?_
  refine oc (y := mt_182) (pc := 380) (ok_isub dX2_told_380) 381 rfl ?_
  refine oc_V (y := mt_182) (pc := 381) (vcons (y := mt_182) (pc := 381) (len := 3) (n := 4) (M := mt_179) (by decide) rfl (Or.inr rfl) rfl (ck_V dX2_told_381 ⟨by decide, by decide, by decide, by decide +kernel⟩ q774 q776 qs14 q167 q777) vnil) (hok0 rfl) (by decide) 384 rfl ?_
  refine oc (y := mt_182) (pc := 384) (ok_istore dX2_told_384 (by decide)) 386 rfl ?_
  refine oc (y := mt_182) (pc := 386) (ok_aload_n dX2_told_386) 387 rfl ?_
  refine oc (y := mt_182) (pc := 387) (ok_iconst dX2_told_387 rfl ⟨by decide, by decide⟩) 388 rfl ?_
  refine oc (y := mt_182) (pc := 388) (ok_aload_n dX2_told_388) 389 rfl ?_
  refine oc (y := mt_182) (pc := 389) (ok_getfield dX2_told_389 (fg (own := "GardenChess$Reader") (idx := 103) (g := 4) (k := 6) (r := (RX2, TX2, 8)) rfl ⟨⟨by decide, by decide⟩, by decide⟩ (Or.inl q381) (Or.inl rfl) rfl (fg_nil))) 392 rfl ?_
  refine oc (y := mt_182) (pc := 392) (ok_getfield dX2_told_392 (fg (own := "GardenChess$Reader") (idx := 132) (g := 2) (k := 2) (r := (RX1, TX1, 10)) rfl ⟨⟨by decide, by decide⟩, by decide⟩ (Or.inr ⟨_, q253⟩) (Or.inl rfl) rfl (fg_nil))) 395 rfl ?_
  refine oc (y := mt_182) (pc := 395) (ok_iconst dX2_told_395 rfl ⟨by decide, by decide⟩) 396 rfl ?_
  refine oc (y := mt_182) (pc := 396) (ok_isub dX2_told_396) 397 rfl ?_
  refine oc_V (y := mt_182) (pc := 397) (vcons (y := mt_182) (pc := 397) (len := 3) (n := 3) (M := mt_178) (by decide) rfl (Or.inr rfl) rfl (ck_V dX2_told_397 ⟨by decide, by decide, by decide, by decide +kernel⟩ q766 q768 qs13 q167 q769) vnil) (hok0 rfl) (by decide) 400 rfl ?_
  refine oc (y := mt_182) (pc := 400) (ok_istore dX2_told_400 (by decide)) 402 rfl ?_
  refine oc (y := mt_182) (pc := 402) (ok_aload_n dX2_told_402) 403 rfl ?_
  refine oc (y := mt_182) (pc := 403) (ok_getfield dX2_told_403 (fg (own := "GardenChess$Reader") (idx := 103) (g := 4) (k := 6) (r := (RX2, TX2, 8)) rfl ⟨⟨by decide, by decide⟩, by decide⟩ (Or.inl q381) (Or.inl rfl) rfl (fg_nil))) 406 rfl ?_
  refine oc (y := mt_182) (pc := 406) (ok_getfield dX2_told_406 (fg (own := "GardenChess$Reader") (idx := 211) (g := 2) (k := 8) (r := (RX1, TX1, 10)) rfl ⟨⟨by decide, by decide⟩, by decide⟩ (Or.inr ⟨_, q272⟩) (Or.inl rfl) rfl (fg_nil))) 409 rfl ?_
  refine oc (y := mt_182) (pc := 409) (ok_new (C := RX11) (T := TX11) (N := 4) (ci := 13) dX2_told_409 rfl rfl rfl nf_13 q1054 q1055 q188) 412 rfl ?_
  refine oc (y := mt_182) (pc := 412) (ok_dup dX2_told_412) 413 rfl ?_
  refine oc (y := mt_182) (pc := 413) (ok_aload dX2_told_413) 415 rfl ?_
  refine oc (y := mt_182) (pc := 415) (ok_iload dX2_told_415) 417 rfl ?_
  refine oc (y := mt_182) (pc := 417) (ok_iload dX2_told_417) 419 rfl ?_
  refine oc (y := mt_182) (pc := 419) (ok_aload_n dX2_told_419) 420 rfl ?_
  refine oc (y := mt_182) (pc := 420) (ok_ldcS dX2_told_420 rfl (List.mem_of_getElem? (i := 54) rfl)) 422 rfl ?_
  refine oc (y := mt_182) (pc := 422) (ok_iconst dX2_told_422 rfl ⟨by decide, by decide⟩) 423 rfl ?_
  refine oc (y := mt_182) (pc := 423) (ok_sipush dX2_told_423 (by decide) ⟨by decide, by decide⟩) 426 rfl ?_
  refine oc_V (y := mt_182) (pc := 426) (vcons (y := mt_182) (pc := 426) (len := 3) (n := 4) (M := mt_179) (by decide) rfl (Or.inr rfl) rfl (ck_V dX2_told_426 ⟨by decide, by decide, by decide, by decide +kernel⟩ q774 q776 qs14 q167 q777) vnil) (hok0 rfl) (by decide) 429 rfl ?_
  refine oc_I (y := mt_182) (pc := 429) (vcons (y := mt_182) (pc := 429) (len := 3) (n := 5) (M := mt_152) (by decide) rfl (Or.inl rfl) rfl (ck_I dX2_told_429 ⟨by decide, by decide, by decide, by decide +kernel⟩ rfl q1057 q1058 q188 q1059) (vnil)) (hok0 rfl) (by decide) 432 rfl ?_
  refine oc_F (y := mt_182) (pc := 432) (vcons (y := mt_182) (pc := 432) (len := 5) (n := 2) (M := mt_42) (by decide) rfl (Or.inr rfl) rfl (ck_F (ci := 2) dX2_told_432 rfl rfl (fun G s h => h.2.2.1.2.2) (by decide) ⟨by decide, by decide, by decide +kernel⟩ q930 q933 q935 q166 q937) vnil) (hok0 rfl) 437 rfl ?_
  refine oc (y := mt_182) (pc := 437) (ok_pop dX2_told_437) 438 rfl ?_
  exact oc_goto dX2_told_438 ⟨by decide, by decide⟩
theorem o_182_441 : okL gmt mt_182 441 b_182_441 := by
  refine oc (y := mt_182) (pc := 441) (ok_aload_n dX2_told_441) 442 rfl ?_
  refine oc (y := mt_182) (pc := 442) (ok_aload_n dX2_told_442) 443 rfl ?_
  refine oc (y := mt_182) (pc := 443) (ok_getfield dX2_told_443 (fg (own := "GardenChess$Reader") (idx := 103) (g := 4) (k := 6) (r := (RX2, TX2, 8)) rfl ⟨⟨by decide, by decide⟩, by decide⟩ (Or.inl q381) (Or.inl rfl) rfl (fg_nil))) 446 rfl ?_
  refine oc (y := mt_182) (pc := 446) (ok_getfield dX2_told_446 (fg (own := "GardenChess$Reader") (idx := 220) (g := 2) (k := 9) (r := (RX1, TX1, 10)) rfl ⟨⟨by decide, by decide⟩, by decide⟩ (Or.inr ⟨_, q274⟩) (Or.inl rfl) rfl (fg_nil))) 449 rfl ?_
  refine oc_null dX2_told_449 ⟨by decide, by decide⟩ 452 rfl ?_
  refine oc (y := mt_182) (pc := 452) (ok_iconst dX2_told_452 rfl ⟨by decide, by decide⟩) 453 rfl ?_
  exact oc_goto dX2_told_453 ⟨by decide, by decide⟩
theorem o_182_456 : okL gmt mt_182 456 b_182_456 := by
  refine oc (y := mt_182) (pc := 456) (ok_iconst dX2_told_456 rfl ⟨by decide, by decide⟩) 457 rfl ?_
  exact oc_fall rfl
theorem o_182_457 : okL gmt mt_182 457 b_182_457 := by
  refine oc (y := mt_182) (pc := 457) (ok_iload_n dX2_told_457) 458 rfl ?_
  refine oc_V (y := mt_182) (pc := 458) (vcons (y := mt_182) (pc := 458) (len := 3) (n := 3) (M := mt_181) (by decide) rfl (Or.inr rfl) rfl (ck_V dX2_told_458 ⟨by decide, by decide, by decide, by decide +kernel⟩ q784 q786 qs16 q167 q787) vnil) (hok0 rfl) (by decide) 461 rfl ?_
  refine oc (y := mt_182) (pc := 461) (ok_aload_n dX2_told_461) 462 rfl ?_
  refine oc (y := mt_182) (pc := 462) (ok_bipush dX2_told_462 (by decide) ⟨by decide, by decide⟩) 464 rfl ?_
  refine oc (y := mt_182) (pc := 464) (ok_putfield dX2_told_464 (fp (own := "GardenChess$Reader") (idx := 223) (g := 4) (k := 5) (r := (RX2, TX2, 8)) rfl ⟨⟨by decide, by decide⟩, by decide⟩ (Or.inl q380) (Or.inl rfl) rfl (Or.inl rfl) (fp_nil))) 467 rfl ?_
  refine oc (y := mt_182) (pc := 467) (ok_aload_n dX2_told_467) 468 rfl ?_
  refine oc (y := mt_182) (pc := 468) (ok_getfield dX2_told_468 (fg (own := "GardenChess$Reader") (idx := 103) (g := 4) (k := 6) (r := (RX2, TX2, 8)) rfl ⟨⟨by decide, by decide⟩, by decide⟩ (Or.inl q381) (Or.inl rfl) rfl (fg_nil))) 471 rfl ?_
  refine oc (y := mt_182) (pc := 471) (ok_aload_n dX2_told_471) 472 rfl ?_
  refine oc_V (y := mt_182) (pc := 472) (vcons (y := mt_182) (pc := 472) (len := 3) (n := 1) (M := mt_188) (by decide) rfl (Or.inr rfl) rfl (ck_V dX2_told_472 ⟨by decide, by decide, by decide, by decide +kernel⟩ q1077 q1079 qs26 q167 q1080) vnil) (hok0 rfl) (by decide) 475 rfl ?_
  refine oc (y := mt_182) (pc := 475) (ok_putfield dX2_told_475 (fp (own := "GardenChess$Reader") (idx := 220) (g := 2) (k := 9) (r := (RX1, TX1, 10)) rfl ⟨⟨by decide, by decide⟩, by decide⟩ (Or.inr ⟨_, q274⟩) (Or.inl rfl) rfl (Or.inl rfl) (fp_nil))) 478 rfl ?_
  exact oc_goto dX2_told_478 ⟨by decide, by decide⟩
theorem o_182_481 : okL gmt mt_182 481 b_182_481 := by
  refine oc (y := mt_182) (pc := 481) (ok_aload_n dX2_told_481) 482 rfl ?_
  refine oc (y := mt_182) (pc := 482) (ok_getfield dX2_told_482 (fg (own := "GardenChess$Reader") (idx := 103) (g := 4) (k := 6) (r := (RX2, TX2, 8)) rfl ⟨⟨by decide, by decide⟩, by decide⟩ (Or.inl q381) (Or.inl rfl) rfl (fg_nil))) 485 rfl ?_
  refine oc (y := mt_182) (pc := 485) (ok_aload_n dX2_told_485) 486 rfl ?_
  refine oc (y := mt_182) (pc := 486) (ok_iconst dX2_told_486 rfl ⟨by decide, by decide⟩) 487 rfl ?_
  refine oc (y := mt_182) (pc := 487) (ok_bipush dX2_told_487 (by decide) ⟨by decide, by decide⟩) 489 rfl ?_
  refine oc_V (y := mt_182) (pc := 489) (vcons (y := mt_182) (pc := 489) (len := 3) (n := 3) (M := mt_178) (by decide) rfl (Or.inr rfl) rfl (ck_V dX2_told_489 ⟨by decide, by decide, by decide, by decide +kernel⟩ q766 q768 qs13 q167 q769) vnil) (hok0 rfl) (by decide) 492 rfl ?_
  refine oc (y := mt_182) (pc := 492) (ok_putfield dX2_told_492 (fp (own := "GardenChess$Reader") (idx := 230) (g := 2) (k := 3) (r := (RX1, TX1, 10)) rfl ⟨⟨by decide, by decide⟩, by decide⟩ (Or.inr ⟨_, q255⟩) (Or.inl rfl) rfl (Or.inl rfl) (fp_nil))) 495 rfl ?_
  exact oc_goto dX2_told_495 ⟨by decide, by decide⟩
theorem o_182_498 : okL gmt mt_182 498 b_182_498 := by
  refine oc (y := mt_182) (pc := 498) (ok_aload_n dX2_told_498) 499 rfl ?_
  refine oc (y := mt_182) (pc := 499) (ok_getfield dX2_told_499 (fg (own := "GardenChess$Reader") (idx := 103) (g := 4) (k := 6) (r := (RX2, TX2, 8)) rfl ⟨⟨by decide, by decide⟩, by decide⟩ (Or.inl q381) (Or.inl rfl) rfl (fg_nil))) 502 rfl ?_
  refine oc (y := mt_182) (pc := 502) (ok_aload_n dX2_told_502) 503 rfl ?_
  refine oc (y := mt_182) (pc := 503) (ok_iconst dX2_told_503 rfl ⟨by decide, by decide⟩) 504 rfl ?_
  refine oc (y := mt_182) (pc := 504) (ok_bipush dX2_told_504 (by decide) ⟨by decide, by decide⟩) 506 rfl ?_
  refine oc_V (y := mt_182) (pc := 506) (vcons (y := mt_182) (pc := 506) (len := 3) (n := 3) (M := mt_178) (by decide) rfl (Or.inr rfl) rfl (ck_V dX2_told_506 ⟨by decide, by decide, by decide, by decide +kernel⟩ q766 q768 qs13 q167 q769) vnil) (hok0 rfl) (by decide) 509 rfl ?_
  refine oc (y := mt_182) (pc := 509) (ok_putfield dX2_told_509 (fp (own := "GardenChess$Reader") (idx := 232) (g := 2) (k := 4) (r := (RX1, TX1, 10)) rfl ⟨⟨by decide, by decide⟩, by decide⟩ (Or.inr ⟨_, q257⟩) (Or.inl rfl) rfl (Or.inl rfl) (fp_nil))) 512 rfl ?_
  exact oc_goto dX2_told_512 ⟨by decide, by decide⟩
theorem o_182_515 : okL gmt mt_182 515 b_182_515 := by
  refine oc (y := mt_182) (pc := 515) (ok_aload_n dX2_told_515) 516 rfl ?_
  refine oc (y := mt_182) (pc := 516) (ok_iconst dX2_told_516 rfl ⟨by decide, by decide⟩) 517 rfl ?_
  refine oc (y := mt_182) (pc := 517) (ok_iload_n dX2_told_517) 518 rfl ?_
  refine oc_V (y := mt_182) (pc := 518) (vcons (y := mt_182) (pc := 518) (len := 3) (n := 3) (M := mt_176) (by decide) rfl (Or.inr rfl) rfl (ck_V dX2_told_518 ⟨by decide, by decide, by decide, by decide +kernel⟩ q670 q672 qs11 q167 q673) vnil) (hok0 rfl) (by decide) 521 rfl ?_
  exact oc_throw dX2_told_521 rfl
theorem o_182_522 : okL gmt mt_182 522 b_182_522 := by
  exact oc_ret dX2_told_522 rfl
theorem ok_182 : ∀ q ∈ pr_182, okL gmt mt_182 q.1 q.2 := pk_c o_182_0 (pk_c o_182_68 (pk_c o_182_83 (pk_c o_182_98 (pk_c o_182_113 (pk_c o_182_128 (pk_c o_182_143 (pk_c o_182_155 (pk_c o_182_196 (pk_c o_182_217 (pk_c o_182_218 (pk_c o_182_301 (pk_c o_182_323 (pk_c o_182_324 (pk_c o_182_335 (pk_c o_182_357 (pk_c o_182_358 (pk_c o_182_441 (pk_c o_182_456 (pk_c o_182_457 (pk_c o_182_481 (pk_c o_182_498 (pk_c o_182_515 (pk_c o_182_522 (pk_n))))))))))))))))))))))))
theorem o_183_0 : okL gmt mt_183 0 b_183_0 := by
  refine oc (y := mt_183) (pc := 0) (ok_aload_n dX2_fresh_0) 1 rfl ?_
  refine oc_V (y := mt_183) (pc := 1) (vcons (y := mt_183) (pc := 1) (len := 3) (n := 1) (M := mt_184) (by decide) rfl (Or.inr rfl) rfl (ck_V dX2_fresh_1 ⟨by decide, by decide, by decide, by decide +kernel⟩ q857 q859 qs19 q167 q860) vnil) (hok0 rfl) (by decide) 4 rfl ?_
  refine oc (y := mt_183) (pc := 4) (ok_astore_n dX2_fresh_4 (by decide)) 5 rfl ?_
  refine oc (y := mt_183) (pc := 5) (ok_aload_n dX2_fresh_5) 6 rfl ?_
  refine oc (y := mt_183) (pc := 6) (ok_getfield dX2_fresh_6 (fg (own := "GardenChess$Reader") (idx := 103) (g := 4) (k := 6) (r := (RX2, TX2, 8)) rfl ⟨⟨by decide, by decide⟩, by decide⟩ (Or.inl q381) (Or.inl rfl) rfl (fg_nil))) 9 rfl ?_
  refine oc (y := mt_183) (pc := 9) (ok_aload_n dX2_fresh_9) 10 rfl ?_
  refine oc_V (y := mt_183) (pc := 10) (vcons (y := mt_183) (pc := 10) (len := 3) (n := 2) (M := mt_149) (by decide) rfl (Or.inr rfl) rfl (ck_V dX2_fresh_10 ⟨by decide, by decide, by decide, by decide +kernel⟩ q875 q876 q877 q163 q878) vnil) (hok0 rfl) (by decide) 13 rfl ?_
  refine oc_if dX2_fresh_13 ⟨by decide, by decide⟩ 16 rfl ?_
  refine oc (y := mt_183) (pc := 16) (ok_aload_n dX2_fresh_16) 17 rfl ?_
  refine oc (y := mt_183) (pc := 17) (ok_iconst dX2_fresh_17 rfl ⟨by decide, by decide⟩) 18 rfl ?_
  refine oc (y := mt_183) (pc := 18) (ok_aload_n dX2_fresh_18) 19 rfl ?_
  refine oc (y := mt_183) (pc := 19) (ok_getfield dX2_fresh_19 (fg (own := "GardenChess$Reader") (idx := 61) (g := 4) (k := 3) (r := (RX2, TX2, 8)) rfl ⟨⟨by decide, by decide⟩, by decide⟩ (Or.inl q378) (Or.inl rfl) rfl (fg_nil))) 22 rfl ?_
  refine oc_V (y := mt_183) (pc := 22) (vcons (y := mt_183) (pc := 22) (len := 3) (n := 3) (M := mt_176) (by decide) rfl (Or.inr rfl) rfl (ck_V dX2_fresh_22 ⟨by decide, by decide, by decide, by decide +kernel⟩ q670 q672 qs11 q167 q673) vnil) (hok0 rfl) (by decide) 25 rfl ?_
  exact oc_throw dX2_fresh_25 rfl
theorem o_183_26 : okL gmt mt_183 26 b_183_26 := by
  refine oc (y := mt_183) (pc := 26) (ok_aload_n dX2_fresh_26) 27 rfl ?_
  exact oc_aretO dX2_fresh_27 rfl
theorem ok_183 : ∀ q ∈ pr_183, okL gmt mt_183 q.1 q.2 := pk_c o_183_0 (pk_c o_183_26 (pk_n))
theorem o_184_0 : okL gmt mt_184 0 b_184_0 := by
  refine oc (y := mt_184) (pc := 0) (ok_aload_n dX2_name_0) 1 rfl ?_
  refine oc_V (y := mt_184) (pc := 1) (vcons (y := mt_184) (pc := 1) (len := 3) (n := 1) (M := mt_173) (by decide) rfl (Or.inr rfl) rfl (ck_V dX2_name_1 ⟨by decide, by decide, by decide, by decide +kernel⟩ q655 q657 qs8 q167 q658) vnil) (hok0 rfl) (by decide) 4 rfl ?_
  refine oc (y := mt_184) (pc := 4) (ok_astore_n dX2_name_4 (by decide)) 5 rfl ?_
  refine oc (y := mt_184) (pc := 5) (ok_aload_n dX2_name_5) 6 rfl ?_
  refine oc (y := mt_184) (pc := 6) (ok_getstatic (x := ("GardenChess", "OWN", "[Ljava/lang/String;", 2, -300)) dX2_name_6 (List.mem_of_getElem? (i := 0) rfl) rfl rfl trivial (Or.inr ⟨_, q861⟩)) 9 rfl ?_
  refine oc_S (y := mt_184) (pc := 9) (M := mt_93) rfl (ck_SN dX2_name_9 ⟨by decide, by decide, by decide, by decide +kernel⟩ q863 q864 q162 q865) (hok0 rfl) (by decide) 12 rfl ?_
  refine oc (y := mt_184) (pc := 12) (ok_iconst dX2_name_12 rfl ⟨by decide, by decide⟩) 13 rfl ?_
  refine oc_icmp dX2_name_13 ⟨by decide, by decide⟩ 16 rfl ?_
  refine oc (y := mt_184) (pc := 16) (ok_aload_n dX2_name_16) 17 rfl ?_
  refine oc (y := mt_184) (pc := 17) (ok_iconst dX2_name_17 rfl ⟨by decide, by decide⟩) 18 rfl ?_
  refine oc (y := mt_184) (pc := 18) (ok_aload_n dX2_name_18) 19 rfl ?_
  refine oc (y := mt_184) (pc := 19) (ok_getfield dX2_name_19 (fg (own := "GardenChess$Reader") (idx := 61) (g := 4) (k := 3) (r := (RX2, TX2, 8)) rfl ⟨⟨by decide, by decide⟩, by decide⟩ (Or.inl q378) (Or.inl rfl) rfl (fg_nil))) 22 rfl ?_
  refine oc_V (y := mt_184) (pc := 22) (vcons (y := mt_184) (pc := 22) (len := 3) (n := 3) (M := mt_176) (by decide) rfl (Or.inr rfl) rfl (ck_V dX2_name_22 ⟨by decide, by decide, by decide, by decide +kernel⟩ q670 q672 qs11 q167 q673) vnil) (hok0 rfl) (by decide) 25 rfl ?_
  exact oc_throw dX2_name_25 rfl
theorem o_184_26 : okL gmt mt_184 26 b_184_26 := by
  refine oc (y := mt_184) (pc := 26) (ok_aload_n dX2_name_26) 27 rfl ?_
  refine oc_V (y := mt_184) (pc := 27) (vcons (y := mt_184) (pc := 27) (len := 3) (n := 1) (M := mt_60) (by decide) rfl (Or.inr rfl) rfl (ck_V dX2_name_27 ⟨by decide, by decide, by decide, by decide +kernel⟩ q867 q868 q869 q178 q870) vnil) (hok0 rfl) (by decide) 30 rfl ?_
  refine oc (y := mt_184) (pc := 30) (ok_bipush dX2_name_30 (by decide) ⟨by decide, by decide⟩) 32 rfl ?_
  refine oc_icmp dX2_name_32 ⟨by decide, by decide⟩ 35 rfl ?_
  refine oc (y := mt_184) (pc := 35) (ok_aload_n dX2_name_35) 36 rfl ?_
  refine oc (y := mt_184) (pc := 36) (ok_iconst dX2_name_36 rfl ⟨by decide, by decide⟩) 37 rfl ?_
  refine oc (y := mt_184) (pc := 37) (ok_aload_n dX2_name_37) 38 rfl ?_
  refine oc (y := mt_184) (pc := 38) (ok_getfield dX2_name_38 (fg (own := "GardenChess$Reader") (idx := 61) (g := 4) (k := 3) (r := (RX2, TX2, 8)) rfl ⟨⟨by decide, by decide⟩, by decide⟩ (Or.inl q378) (Or.inl rfl) rfl (fg_nil))) 41 rfl ?_
  refine oc (y := mt_184) (pc := 41) (ok_bipush dX2_name_41 (by decide) ⟨by decide, by decide⟩) 43 rfl ?_
  refine oc (y := mt_184) (pc := 43) (ok_iadd dX2_name_43) 44 rfl ?_
  refine oc_V (y := mt_184) (pc := 44) (vcons (y := mt_184) (pc := 44) (len := 3) (n := 3) (M := mt_176) (by decide) rfl (Or.inr rfl) rfl (ck_V dX2_name_44 ⟨by decide, by decide, by decide, by decide +kernel⟩ q670 q672 qs11 q167 q673) vnil) (hok0 rfl) (by decide) 47 rfl ?_
  exact oc_throw dX2_name_47 rfl
theorem o_184_48 : okL gmt mt_184 48 b_184_48 := by
  refine oc (y := mt_184) (pc := 48) (ok_aload_n dX2_name_48) 49 rfl ?_
  exact oc_aretO dX2_name_49 rfl
theorem ok_184 : ∀ q ∈ pr_184, okL gmt mt_184 q.1 q.2 := pk_c o_184_0 (pk_c o_184_26 (pk_c o_184_48 (pk_n)))
theorem o_185_0 : okL gmt mt_185 0 b_185_0 := by
  refine oc (y := mt_185) (pc := 0) (ok_aload_n dX2_passes_0) 1 rfl ?_
  refine oc (y := mt_185) (pc := 1) (ok_getfield dX2_passes_1 (fg (own := "GardenChess$Reader") (idx := 36) (g := 4) (k := 2) (r := (RX2, TX2, 8)) rfl ⟨⟨by decide, by decide⟩, by decide⟩ (Or.inl q377) (Or.inl rfl) rfl (fg_nil))) 4 rfl ?_
  refine oc (y := mt_185) (pc := 4) (ok_istore_n dX2_passes_4 (by decide)) 5 rfl ?_
  refine oc (y := mt_185) (pc := 5) (ok_aload_n dX2_passes_5) 6 rfl ?_
  refine oc_V (y := mt_185) (pc := 6) (vcons (y := mt_185) (pc := 6) (len := 3) (n := 1) (M := mt_174) (by decide) rfl (Or.inr rfl) rfl (ck_V dX2_passes_6 ⟨by decide, by decide, by decide, by decide +kernel⟩ q659 q661 qs9 q167 q662) vnil) (hok0 rfl) (by decide) 9 rfl ?_
  refine oc_S (y := mt_185) (pc := 9) (M := mt_90) rfl (ck_SN dX2_passes_9 ⟨by decide, by decide, by decide, by decide +kernel⟩ q667 q668 q162 q669) (hok0 rfl) (by decide) 12 rfl ?_
  refine oc_if dX2_passes_12 ⟨by decide, by decide⟩ 15 rfl ?_
  refine oc (y := mt_185) (pc := 15) (ok_iconst dX2_passes_15 rfl ⟨by decide, by decide⟩) 16 rfl ?_
  exact oc_zret dX2_passes_16 rfl
theorem o_185_17 : okL gmt mt_185 17 b_185_17 := by
  refine oc (y := mt_185) (pc := 17) (ok_aload_n dX2_passes_17) 18 rfl ?_
  refine oc_V (y := mt_185) (pc := 18) (vcons (y := mt_185) (pc := 18) (len := 3) (n := 1) (M := mt_173) (by decide) rfl (Or.inr rfl) rfl (ck_V dX2_passes_18 ⟨by decide, by decide, by decide, by decide +kernel⟩ q655 q657 qs8 q167 q658) vnil) (hok0 rfl) (by decide) 21 rfl ?_
  refine oc (y := mt_185) (pc := 21) (ok_aload_n dX2_passes_21) 22 rfl ?_
  refine oc_V (y := mt_185) (pc := 22) (vcons (y := mt_185) (pc := 22) (len := 3) (n := 2) (M := mt_57) (by decide) rfl (Or.inr rfl) rfl (ck_V dX2_passes_22 ⟨by decide, by decide, by decide, by decide +kernel⟩ q759 q760 q761 q178 q762) vnil) (hok0 rfl) (by decide) 25 rfl ?_
  refine oc_if dX2_passes_25 ⟨by decide, by decide⟩ 28 rfl ?_
  refine oc (y := mt_185) (pc := 28) (ok_iconst dX2_passes_28 rfl ⟨by decide, by decide⟩) 29 rfl ?_
  exact oc_zret dX2_passes_29 rfl
theorem o_185_30 : okL gmt mt_185 30 b_185_30 := by
  refine oc (y := mt_185) (pc := 30) (ok_aload_n dX2_passes_30) 31 rfl ?_
  refine oc (y := mt_185) (pc := 31) (ok_iload_n dX2_passes_31) 32 rfl ?_
  refine oc (y := mt_185) (pc := 32) (ok_putfield dX2_passes_32 (fp (own := "GardenChess$Reader") (idx := 36) (g := 4) (k := 2) (r := (RX2, TX2, 8)) rfl ⟨⟨by decide, by decide⟩, by decide⟩ (Or.inl q377) (Or.inl rfl) rfl (Or.inl rfl) (fp_nil))) 35 rfl ?_
  refine oc (y := mt_185) (pc := 35) (ok_iconst dX2_passes_35 rfl ⟨by decide, by decide⟩) 36 rfl ?_
  exact oc_zret dX2_passes_36 rfl
theorem ok_185 : ∀ q ∈ pr_185, okL gmt mt_185 q.1 q.2 := pk_c o_185_0 (pk_c o_185_17 (pk_c o_185_30 (pk_n)))
theorem o_186_0 : okL gmt mt_186 0 b_186_0 := by
  refine oc (y := mt_186) (pc := 0) (ok_aload_n dX2_man_0) 1 rfl ?_
  refine oc_V (y := mt_186) (pc := 1) (vcons (y := mt_186) (pc := 1) (len := 3) (n := 1) (M := mt_183) (by decide) rfl (Or.inr rfl) rfl (ck_V dX2_man_1 ⟨by decide, by decide, by decide, by decide +kernel⟩ q853 q855 qs18 q167 q856) vnil) (hok0 rfl) (by decide) 4 rfl ?_
  refine oc (y := mt_186) (pc := 4) (ok_astore_n dX2_man_4 (by decide)) 5 rfl ?_
  refine oc (y := mt_186) (pc := 5) (ok_aload_n dX2_man_5) 6 rfl ?_
  refine oc (y := mt_186) (pc := 6) (ok_ldcS dX2_man_6 rfl (List.mem_of_getElem? (i := 55) rfl)) 8 rfl ?_
  refine oc_V (y := mt_186) (pc := 8) (vcons (y := mt_186) (pc := 8) (len := 3) (n := 2) (M := mt_172) (by decide) rfl (Or.inr rfl) rfl (ck_V dX2_man_8 ⟨by decide, by decide, by decide, by decide +kernel⟩ q651 q653 qs7 q167 q654) vnil) (hok0 rfl) (by decide) 11 rfl ?_
  refine oc (y := mt_186) (pc := 11) (ok_aload_n dX2_man_11) 12 rfl ?_
  refine oc (y := mt_186) (pc := 12) (ok_aload_n dX2_man_12) 13 rfl ?_
  refine oc (y := mt_186) (pc := 13) (ok_getfield dX2_man_13 (fg (own := "GardenChess$Reader") (idx := 103) (g := 4) (k := 6) (r := (RX2, TX2, 8)) rfl ⟨⟨by decide, by decide⟩, by decide⟩ (Or.inl q381) (Or.inl rfl) rfl (fg_nil))) 16 rfl ?_
  refine oc (y := mt_186) (pc := 16) (ok_getfield dX2_man_16 (fg (own := "GardenChess$Reader") (idx := 172) (g := 2) (k := 6) (r := (RX1, TX1, 10)) rfl ⟨⟨by decide, by decide⟩, by decide⟩ (Or.inr ⟨_, q264⟩) (Or.inl rfl) rfl (fg_nil))) 19 rfl ?_
  refine oc_V (y := mt_186) (pc := 19) (vcons (y := mt_186) (pc := 19) (len := 3) (n := 2) (M := mt_187) (by decide) rfl (Or.inr rfl) rfl (ck_V dX2_man_19 ⟨by decide, by decide, by decide, by decide +kernel⟩ q1011 q1013 qs25 q167 q1014) vnil) (hok0 rfl) (by decide) 22 rfl ?_
  refine oc (y := mt_186) (pc := 22) (ok_istore_n dX2_man_22 (by decide)) 23 rfl ?_
  refine oc (y := mt_186) (pc := 23) (ok_aload_n dX2_man_23) 24 rfl ?_
  refine oc (y := mt_186) (pc := 24) (ok_ldcS dX2_man_24 rfl (List.mem_of_getElem? (i := 56) rfl)) 26 rfl ?_
  refine oc (y := mt_186) (pc := 26) (ok_iconst dX2_man_26 rfl ⟨by decide, by decide⟩) 27 rfl ?_
  refine oc (y := mt_186) (pc := 27) (ok_iconst dX2_man_27 rfl ⟨by decide, by decide⟩) 28 rfl ?_
  refine oc_V (y := mt_186) (pc := 28) (vcons (y := mt_186) (pc := 28) (len := 3) (n := 4) (M := mt_179) (by decide) rfl (Or.inr rfl) rfl (ck_V dX2_man_28 ⟨by decide, by decide, by decide, by decide +kernel⟩ q774 q776 qs14 q167 q777) vnil) (hok0 rfl) (by decide) 31 rfl ?_
  refine oc (y := mt_186) (pc := 31) (ok_istore_n dX2_man_31 (by decide)) 32 rfl ?_
  refine oc (y := mt_186) (pc := 32) (ok_aload_n dX2_man_32) 33 rfl ?_
  refine oc (y := mt_186) (pc := 33) (ok_ldcS dX2_man_33 rfl (List.mem_of_getElem? (i := 53) rfl)) 35 rfl ?_
  refine oc (y := mt_186) (pc := 35) (ok_iconst dX2_man_35 rfl ⟨by decide, by decide⟩) 36 rfl ?_
  refine oc (y := mt_186) (pc := 36) (ok_aload_n dX2_man_36) 37 rfl ?_
  refine oc (y := mt_186) (pc := 37) (ok_getfield dX2_man_37 (fg (own := "GardenChess$Reader") (idx := 103) (g := 4) (k := 6) (r := (RX2, TX2, 8)) rfl ⟨⟨by decide, by decide⟩, by decide⟩ (Or.inl q381) (Or.inl rfl) rfl (fg_nil))) 40 rfl ?_
  refine oc (y := mt_186) (pc := 40) (ok_getfield dX2_man_40 (fg (own := "GardenChess$Reader") (idx := 124) (g := 2) (k := 1) (r := (RX1, TX1, 10)) rfl ⟨⟨by decide, by decide⟩, by decide⟩ (Or.inr ⟨_, q251⟩) (Or.inl rfl) rfl (fg_nil))) 43 rfl ?_
  refine oc (y := mt_186) (pc := 43) (ok_iconst dX2_man_43 rfl ⟨by decide, by decide⟩) 44 rfl ?_
  refine oc (y := mt_186) (pc := 44) (ok_isub dX2_man_44) 45 rfl ?_
  refine oc_V (y := mt_186) (pc := 45) (vcons (y := mt_186) (pc := 45) (len := 3) (n := 4) (M := mt_179) (by decide) rfl (Or.inr rfl) rfl (ck_V dX2_man_45 ⟨by decide, by decide, by decide, by decide +kernel⟩ q774 q776 qs14 q167 q777) vnil) (hok0 rfl) (by decide) 48 rfl ?_
  refine oc (y := mt_186) (pc := 48) (ok_istore dX2_man_48 (by decide)) 50 rfl ?_
  refine oc (y := mt_186) (pc := 50) (ok_aload_n dX2_man_50) 51 rfl ?_
  refine oc (y := mt_186) (pc := 51) (ok_iconst dX2_man_51 rfl ⟨by decide, by decide⟩) 52 rfl ?_
  refine oc (y := mt_186) (pc := 52) (ok_aload_n dX2_man_52) 53 rfl ?_
  refine oc (y := mt_186) (pc := 53) (ok_getfield dX2_man_53 (fg (own := "GardenChess$Reader") (idx := 103) (g := 4) (k := 6) (r := (RX2, TX2, 8)) rfl ⟨⟨by decide, by decide⟩, by decide⟩ (Or.inl q381) (Or.inl rfl) rfl (fg_nil))) 56 rfl ?_
  refine oc (y := mt_186) (pc := 56) (ok_getfield dX2_man_56 (fg (own := "GardenChess$Reader") (idx := 132) (g := 2) (k := 2) (r := (RX1, TX1, 10)) rfl ⟨⟨by decide, by decide⟩, by decide⟩ (Or.inr ⟨_, q253⟩) (Or.inl rfl) rfl (fg_nil))) 59 rfl ?_
  refine oc (y := mt_186) (pc := 59) (ok_iconst dX2_man_59 rfl ⟨by decide, by decide⟩) 60 rfl ?_
  refine oc (y := mt_186) (pc := 60) (ok_isub dX2_man_60) 61 rfl ?_
  refine oc_V (y := mt_186) (pc := 61) (vcons (y := mt_186) (pc := 61) (len := 3) (n := 3) (M := mt_178) (by decide) rfl (Or.inr rfl) rfl (ck_V dX2_man_61 ⟨by decide, by decide, by decide, by decide +kernel⟩ q766 q768 qs13 q167 q769) vnil) (hok0 rfl) (by decide) 64 rfl ?_
  refine oc (y := mt_186) (pc := 64) (ok_istore dX2_man_64 (by decide)) 66 rfl ?_
  refine oc (y := mt_186) (pc := 66) (ok_aload_n dX2_man_66) 67 rfl ?_
  refine oc (y := mt_186) (pc := 67) (ok_getfield dX2_man_67 (fg (own := "GardenChess$Reader") (idx := 103) (g := 4) (k := 6) (r := (RX2, TX2, 8)) rfl ⟨⟨by decide, by decide⟩, by decide⟩ (Or.inl q381) (Or.inl rfl) rfl (fg_nil))) 70 rfl ?_
  refine oc (y := mt_186) (pc := 70) (ok_iload dX2_man_70) 72 rfl ?_
  refine oc (y := mt_186) (pc := 72) (ok_iload dX2_man_72) 74 rfl ?_
  refine oc_V (y := mt_186) (pc := 74) (vcons (y := mt_186) (pc := 74) (len := 3) (n := 3) (M := mt_150) (by decide) rfl (Or.inr rfl) rfl (ck_V dX2_man_74 ⟨by decide, by decide, by decide, by decide +kernel⟩ q1018 q1019 q1020 q163 q1021) vnil) (hok0 rfl) (by decide) 77 rfl ?_
  refine oc_if dX2_man_77 ⟨by decide, by decide⟩ 80 rfl ?_
  refine oc (y := mt_186) (pc := 80) (ok_aload_n dX2_man_80) 81 rfl ?_
  refine oc (y := mt_186) (pc := 81) (ok_iconst dX2_man_81 rfl ⟨by decide, by decide⟩) 82 rfl ?_
  refine oc (y := mt_186) (pc := 82) (ok_aload_n dX2_man_82) 83 rfl ?_
  refine oc (y := mt_186) (pc := 83) (ok_getfield dX2_man_83 (fg (own := "GardenChess$Reader") (idx := 61) (g := 4) (k := 3) (r := (RX2, TX2, 8)) rfl ⟨⟨by decide, by decide⟩, by decide⟩ (Or.inl q378) (Or.inl rfl) rfl (fg_nil))) 86 rfl ?_
  refine oc_V (y := mt_186) (pc := 86) (vcons (y := mt_186) (pc := 86) (len := 3) (n := 3) (M := mt_176) (by decide) rfl (Or.inr rfl) rfl (ck_V dX2_man_86 ⟨by decide, by decide, by decide, by decide +kernel⟩ q670 q672 qs11 q167 q673) vnil) (hok0 rfl) (by decide) 89 rfl ?_
  exact oc_fall rfl
theorem o_186_89 : okL gmt mt_186 89 b_186_89 := by
  exact oc_throw dX2_man_89 rfl
theorem o_186_90 : okL gmt mt_186 90 b_186_90 := by
  refine oc (y := mt_186) (pc := 90) (ok_aload_n dX2_man_90) 91 rfl ?_
  refine oc (y := mt_186) (pc := 91) (ok_getfield dX2_man_91 (fg (own := "GardenChess$Reader") (idx := 103) (g := 4) (k := 6) (r := (RX2, TX2, 8)) rfl ⟨⟨by decide, by decide⟩, by decide⟩ (Or.inl q381) (Or.inl rfl) rfl (fg_nil))) 94 rfl ?_
  refine oc (y := mt_186) (pc := 94) (ok_getfield dX2_man_94 (fg (own := "GardenChess$Reader") (idx := 206) (g := 2) (k := 7) (r := (RX1, TX1, 10)) rfl ⟨⟨by decide, by decide⟩, by decide⟩ (Or.inr ⟨_, q268⟩) (Or.inl rfl) rfl (fg_nil))) 97 rfl ?_
  refine oc (y := mt_186) (pc := 97) (ok_new (C := RX10) (T := TX10) (N := 5) (ci := 12) dX2_man_97 rfl rfl rfl nf_12 q1027 q1028 q187) 100 rfl ?_
  refine oc (y := mt_186) (pc := 100) (ok_dup dX2_man_100) 101 rfl ?_
  refine oc (y := mt_186) (pc := 101) (ok_aload_n dX2_man_101) 102 rfl ?_
  refine oc (y := mt_186) (pc := 102) (ok_iload_n dX2_man_102) 103 rfl ?_
  refine oc (y := mt_186) (pc := 103) (ok_iload_n dX2_man_103) 104 rfl ?_
  refine oc (y := mt_186) (pc := 104) (ok_iload dX2_man_104) 106 rfl ?_
  refine oc (y := mt_186) (pc := 106) (ok_iload dX2_man_106) 108 rfl ?_
  refine oc_I (y := mt_186) (pc := 108) (vcons (y := mt_186) (pc := 108) (len := 3) (n := 6) (M := mt_151) (by decide) rfl (Or.inl rfl) rfl (ck_I dX2_man_108 ⟨by decide, by decide, by decide, by decide +kernel⟩ rfl q1029 q1030 q187 q1031) (vnil)) (hok0 rfl) (by decide) 111 rfl ?_
  refine oc_F (y := mt_186) (pc := 111) (vcons (y := mt_186) (pc := 111) (len := 5) (n := 2) (M := mt_42) (by decide) rfl (Or.inr rfl) rfl (ck_F (ci := 2) dX2_man_111 rfl rfl (fun G s h => h.2.2.1.2.2) (by decide) ⟨by decide, by decide, by decide +kernel⟩ q930 q933 q935 q166 q937) vnil) (hok0 rfl) 116 rfl ?_
  refine oc (y := mt_186) (pc := 116) (ok_pop dX2_man_116) 117 rfl ?_
  exact oc_ret dX2_man_117 rfl
theorem ok_186 : ∀ q ∈ pr_186, okL gmt mt_186 q.1 q.2 := pk_c o_186_0 (pk_c o_186_89 (pk_c o_186_90 (pk_n)))
theorem o_187_0 : okL gmt mt_187 0 b_187_0 := by
  refine oc (y := mt_187) (pc := 0) (ok_aload_n dX2_known_0) 1 rfl ?_
  refine oc (y := mt_187) (pc := 1) (ok_aload_n dX2_known_1) 2 rfl ?_
  refine oc_V (y := mt_187) (pc := 2) (vcons (y := mt_187) (pc := 2) (len := 3) (n := 1) (M := mt_184) (by decide) rfl (Or.inr rfl) rfl (ck_V dX2_known_2 ⟨by decide, by decide, by decide, by decide +kernel⟩ q857 q859 qs19 q167 q860) vnil) (hok0 rfl) (by decide) 5 rfl ?_
  refine oc_S (y := mt_187) (pc := 5) (M := mt_384) rfl (ck_S dX2_known_5 ⟨by decide, by decide, by decide, by decide +kernel⟩ q1015 q880 q182 q881) (hok0 rfl) (by decide) 8 rfl ?_
  refine oc (y := mt_187) (pc := 8) (ok_istore_n dX2_known_8 (by decide)) 9 rfl ?_
  refine oc (y := mt_187) (pc := 9) (ok_iload_n dX2_known_9) 10 rfl ?_
  refine oc (y := mt_187) (pc := 10) (ok_iconst dX2_known_10 rfl ⟨by decide, by decide⟩) 11 rfl ?_
  refine oc_icmp dX2_known_11 ⟨by decide, by decide⟩ 14 rfl ?_
  refine oc (y := mt_187) (pc := 14) (ok_aload_n dX2_known_14) 15 rfl ?_
  refine oc (y := mt_187) (pc := 15) (ok_iconst dX2_known_15 rfl ⟨by decide, by decide⟩) 16 rfl ?_
  refine oc (y := mt_187) (pc := 16) (ok_aload_n dX2_known_16) 17 rfl ?_
  refine oc (y := mt_187) (pc := 17) (ok_getfield dX2_known_17 (fg (own := "GardenChess$Reader") (idx := 61) (g := 4) (k := 3) (r := (RX2, TX2, 8)) rfl ⟨⟨by decide, by decide⟩, by decide⟩ (Or.inl q378) (Or.inl rfl) rfl (fg_nil))) 20 rfl ?_
  refine oc_V (y := mt_187) (pc := 20) (vcons (y := mt_187) (pc := 20) (len := 3) (n := 3) (M := mt_176) (by decide) rfl (Or.inr rfl) rfl (ck_V dX2_known_20 ⟨by decide, by decide, by decide, by decide +kernel⟩ q670 q672 qs11 q167 q673) vnil) (hok0 rfl) (by decide) 23 rfl ?_
  exact oc_throw dX2_known_23 rfl
theorem o_187_24 : okL gmt mt_187 24 b_187_24 := by
  refine oc (y := mt_187) (pc := 24) (ok_iload_n dX2_known_24) 25 rfl ?_
  exact oc_iret dX2_known_25 rfl
theorem ok_187 : ∀ q ∈ pr_187, okL gmt mt_187 q.1 q.2 := pk_c o_187_0 (pk_c o_187_24 (pk_n))
theorem o_188_0 : okL gmt mt_188 0 b_188_0 := by
  refine oc (y := mt_188) (pc := 0) (ok_new (C := RX13) (T := TX13) (N := 2) (ci := 14) dX2_sum_0 rfl rfl rfl nf_14 q1081 q1082 q190) 3 rfl ?_
  refine oc (y := mt_188) (pc := 3) (ok_dup dX2_sum_3) 4 rfl ?_
  refine oc_I (y := mt_188) (pc := 4) (vcons (y := mt_188) (pc := 4) (len := 3) (n := 1) (M := mt_154) (by decide) rfl (Or.inl rfl) rfl (ck_IN dX2_sum_4 ⟨by decide, by decide, by decide, by decide +kernel⟩ rfl q1083 q1084 q190 q1085) (vnil)) (hok0 rfl) (by decide) 7 rfl ?_
  refine oc (y := mt_188) (pc := 7) (ok_astore_n dX2_sum_7 (by decide)) 8 rfl ?_
  refine oc (y := mt_188) (pc := 8) (ok_aload_n dX2_sum_8) 9 rfl ?_
  refine oc (y := mt_188) (pc := 9) (ok_bipush dX2_sum_9 (by decide) ⟨by decide, by decide⟩) 11 rfl ?_
  refine oc (y := mt_188) (pc := 11) (ok_aload_n dX2_sum_11) 12 rfl ?_
  refine oc_V (y := mt_188) (pc := 12) (vcons (y := mt_188) (pc := 12) (len := 3) (n := 1) (M := mt_189) (by decide) rfl (Or.inr rfl) rfl (ck_V dX2_sum_12 ⟨by decide, by decide, by decide, by decide +kernel⟩ q1122 q1124 qs27 q167 q1125) vnil) (hok0 rfl) (by decide) 15 rfl ?_
  refine oc_V (y := mt_188) (pc := 15) (vcons (y := mt_188) (pc := 15) (len := 3) (n := 3) (M := mt_155) (by decide) rfl (Or.inr rfl) rfl (ck_V dX2_sum_15 ⟨by decide, by decide, by decide, by decide +kernel⟩ q1203 q1204 q1205 q190 q1206) vnil) (hok0 rfl) (by decide) 18 rfl ?_
  refine oc (y := mt_188) (pc := 18) (ok_iconst dX2_sum_18 rfl ⟨by decide, by decide⟩) 19 rfl ?_
  refine oc (y := mt_188) (pc := 19) (ok_istore_n dX2_sum_19 (by decide)) 20 rfl ?_
  exact oc_fall rfl
theorem o_188_20 : okL gmt mt_188 20 b_188_20 := by
  refine oc (y := mt_188) (pc := 20) (ok_iload_n dX2_sum_20) 21 rfl ?_
  refine oc_if dX2_sum_21 ⟨by decide, by decide⟩ 24 rfl ?_
  refine oc (y := mt_188) (pc := 24) (ok_aload_n dX2_sum_24) 25 rfl ?_
  refine oc (y := mt_188) (pc := 25) (ok_bipush dX2_sum_25 (by decide) ⟨by decide, by decide⟩) 27 rfl ?_
  refine oc_V (y := mt_188) (pc := 27) (vcons (y := mt_188) (pc := 27) (len := 3) (n := 2) (M := mt_194) (by decide) rfl (Or.inr rfl) rfl (ck_V dX2_sum_27 ⟨by decide, by decide, by decide, by decide +kernel⟩ q1264 q1266 qs32 q167 q1267) vnil) (hok0 rfl) (by decide) 30 rfl ?_
  refine oc_if dX2_sum_30 ⟨by decide, by decide⟩ 33 rfl ?_
  refine oc (y := mt_188) (pc := 33) (ok_aload_n dX2_sum_33) 34 rfl ?_
  refine oc (y := mt_188) (pc := 34) (ok_bipush dX2_sum_34 (by decide) ⟨by decide, by decide⟩) 36 rfl ?_
  refine oc (y := mt_188) (pc := 36) (ok_aload_n dX2_sum_36) 37 rfl ?_
  refine oc_V (y := mt_188) (pc := 37) (vcons (y := mt_188) (pc := 37) (len := 3) (n := 1) (M := mt_189) (by decide) rfl (Or.inr rfl) rfl (ck_V dX2_sum_37 ⟨by decide, by decide, by decide, by decide +kernel⟩ q1122 q1124 qs27 q167 q1125) vnil) (hok0 rfl) (by decide) 40 rfl ?_
  refine oc_V (y := mt_188) (pc := 40) (vcons (y := mt_188) (pc := 40) (len := 3) (n := 3) (M := mt_155) (by decide) rfl (Or.inr rfl) rfl (ck_V dX2_sum_40 ⟨by decide, by decide, by decide, by decide +kernel⟩ q1203 q1204 q1205 q190 q1206) vnil) (hok0 rfl) (by decide) 43 rfl ?_
  exact oc_goto dX2_sum_43 ⟨by decide, by decide⟩
theorem o_188_46 : okL gmt mt_188 46 b_188_46 := by
  refine oc (y := mt_188) (pc := 46) (ok_aload_n dX2_sum_46) 47 rfl ?_
  refine oc (y := mt_188) (pc := 47) (ok_bipush dX2_sum_47 (by decide) ⟨by decide, by decide⟩) 49 rfl ?_
  refine oc_V (y := mt_188) (pc := 49) (vcons (y := mt_188) (pc := 49) (len := 3) (n := 2) (M := mt_194) (by decide) rfl (Or.inr rfl) rfl (ck_V dX2_sum_49 ⟨by decide, by decide, by decide, by decide +kernel⟩ q1264 q1266 qs32 q167 q1267) vnil) (hok0 rfl) (by decide) 52 rfl ?_
  refine oc_if dX2_sum_52 ⟨by decide, by decide⟩ 55 rfl ?_
  refine oc (y := mt_188) (pc := 55) (ok_aload_n dX2_sum_55) 56 rfl ?_
  refine oc (y := mt_188) (pc := 56) (ok_bipush dX2_sum_56 (by decide) ⟨by decide, by decide⟩) 58 rfl ?_
  refine oc (y := mt_188) (pc := 58) (ok_aload_n dX2_sum_58) 59 rfl ?_
  refine oc_V (y := mt_188) (pc := 59) (vcons (y := mt_188) (pc := 59) (len := 3) (n := 1) (M := mt_189) (by decide) rfl (Or.inr rfl) rfl (ck_V dX2_sum_59 ⟨by decide, by decide, by decide, by decide +kernel⟩ q1122 q1124 qs27 q167 q1125) vnil) (hok0 rfl) (by decide) 62 rfl ?_
  refine oc_V (y := mt_188) (pc := 62) (vcons (y := mt_188) (pc := 62) (len := 3) (n := 3) (M := mt_155) (by decide) rfl (Or.inr rfl) rfl (ck_V dX2_sum_62 ⟨by decide, by decide, by decide, by decide +kernel⟩ q1203 q1204 q1205 q190 q1206) vnil) (hok0 rfl) (by decide) 65 rfl ?_
  exact oc_goto dX2_sum_65 ⟨by decide, by decide⟩
theorem o_188_68 : okL gmt mt_188 68 b_188_68 := by
  refine oc (y := mt_188) (pc := 68) (ok_iconst dX2_sum_68 rfl ⟨by decide, by decide⟩) 69 rfl ?_
  refine oc (y := mt_188) (pc := 69) (ok_istore_n dX2_sum_69 (by decide)) 70 rfl ?_
  exact oc_goto dX2_sum_70 ⟨by decide, by decide⟩
theorem o_188_73 : okL gmt mt_188 73 b_188_73 := by
  refine oc (y := mt_188) (pc := 73) (ok_aload_n dX2_sum_73) 74 rfl ?_
  exact oc_aretO dX2_sum_74 rfl
theorem ok_188 : ∀ q ∈ pr_188, okL gmt mt_188 q.1 q.2 := pk_c o_188_0 (pk_c o_188_20 (pk_c o_188_46 (pk_c o_188_68 (pk_c o_188_73 (pk_n)))))
theorem o_189_0 : okL gmt mt_189 0 b_189_0 := by
  refine oc (y := mt_189) (pc := 0) (ok_new (C := RX13) (T := TX13) (N := 2) (ci := 14) dX2_product_0 rfl rfl rfl nf_14 q1081 q1082 q190) 3 rfl ?_
  refine oc (y := mt_189) (pc := 3) (ok_dup dX2_product_3) 4 rfl ?_
  refine oc_I (y := mt_189) (pc := 4) (vcons (y := mt_189) (pc := 4) (len := 3) (n := 1) (M := mt_154) (by decide) rfl (Or.inl rfl) rfl (ck_IN dX2_product_4 ⟨by decide, by decide, by decide, by decide +kernel⟩ rfl q1083 q1084 q190 q1085) (vnil)) (hok0 rfl) (by decide) 7 rfl ?_
  refine oc (y := mt_189) (pc := 7) (ok_astore_n dX2_product_7 (by decide)) 8 rfl ?_
  refine oc (y := mt_189) (pc := 8) (ok_aload_n dX2_product_8) 9 rfl ?_
  refine oc (y := mt_189) (pc := 9) (ok_bipush dX2_product_9 (by decide) ⟨by decide, by decide⟩) 11 rfl ?_
  refine oc (y := mt_189) (pc := 11) (ok_aload_n dX2_product_11) 12 rfl ?_
  refine oc_V (y := mt_189) (pc := 12) (vcons (y := mt_189) (pc := 12) (len := 3) (n := 1) (M := mt_190) (by decide) rfl (Or.inr rfl) rfl (ck_V dX2_product_12 ⟨by decide, by decide, by decide, by decide +kernel⟩ q1126 q1128 qs28 q167 q1129) vnil) (hok0 rfl) (by decide) 15 rfl ?_
  refine oc_V (y := mt_189) (pc := 15) (vcons (y := mt_189) (pc := 15) (len := 3) (n := 3) (M := mt_155) (by decide) rfl (Or.inr rfl) rfl (ck_V dX2_product_15 ⟨by decide, by decide, by decide, by decide +kernel⟩ q1203 q1204 q1205 q190 q1206) vnil) (hok0 rfl) (by decide) 18 rfl ?_
  refine oc (y := mt_189) (pc := 18) (ok_iconst dX2_product_18 rfl ⟨by decide, by decide⟩) 19 rfl ?_
  refine oc (y := mt_189) (pc := 19) (ok_istore_n dX2_product_19 (by decide)) 20 rfl ?_
  exact oc_fall rfl
theorem o_189_20 : okL gmt mt_189 20 b_189_20 := by
  refine oc (y := mt_189) (pc := 20) (ok_iload_n dX2_product_20) 21 rfl ?_
  refine oc_if dX2_product_21 ⟨by decide, by decide⟩ 24 rfl ?_
  refine oc (y := mt_189) (pc := 24) (ok_aload_n dX2_product_24) 25 rfl ?_
  refine oc (y := mt_189) (pc := 25) (ok_bipush dX2_product_25 (by decide) ⟨by decide, by decide⟩) 27 rfl ?_
  refine oc_V (y := mt_189) (pc := 27) (vcons (y := mt_189) (pc := 27) (len := 3) (n := 2) (M := mt_194) (by decide) rfl (Or.inr rfl) rfl (ck_V dX2_product_27 ⟨by decide, by decide, by decide, by decide +kernel⟩ q1264 q1266 qs32 q167 q1267) vnil) (hok0 rfl) (by decide) 30 rfl ?_
  refine oc_if dX2_product_30 ⟨by decide, by decide⟩ 33 rfl ?_
  refine oc (y := mt_189) (pc := 33) (ok_aload_n dX2_product_33) 34 rfl ?_
  refine oc (y := mt_189) (pc := 34) (ok_bipush dX2_product_34 (by decide) ⟨by decide, by decide⟩) 36 rfl ?_
  refine oc (y := mt_189) (pc := 36) (ok_aload_n dX2_product_36) 37 rfl ?_
  refine oc_V (y := mt_189) (pc := 37) (vcons (y := mt_189) (pc := 37) (len := 3) (n := 1) (M := mt_190) (by decide) rfl (Or.inr rfl) rfl (ck_V dX2_product_37 ⟨by decide, by decide, by decide, by decide +kernel⟩ q1126 q1128 qs28 q167 q1129) vnil) (hok0 rfl) (by decide) 40 rfl ?_
  refine oc_V (y := mt_189) (pc := 40) (vcons (y := mt_189) (pc := 40) (len := 3) (n := 3) (M := mt_155) (by decide) rfl (Or.inr rfl) rfl (ck_V dX2_product_40 ⟨by decide, by decide, by decide, by decide +kernel⟩ q1203 q1204 q1205 q190 q1206) vnil) (hok0 rfl) (by decide) 43 rfl ?_
  exact oc_goto dX2_product_43 ⟨by decide, by decide⟩
theorem o_189_46 : okL gmt mt_189 46 b_189_46 := by
  refine oc (y := mt_189) (pc := 46) (ok_aload_n dX2_product_46) 47 rfl ?_
  refine oc (y := mt_189) (pc := 47) (ok_bipush dX2_product_47 (by decide) ⟨by decide, by decide⟩) 49 rfl ?_
  refine oc_V (y := mt_189) (pc := 49) (vcons (y := mt_189) (pc := 49) (len := 3) (n := 2) (M := mt_194) (by decide) rfl (Or.inr rfl) rfl (ck_V dX2_product_49 ⟨by decide, by decide, by decide, by decide +kernel⟩ q1264 q1266 qs32 q167 q1267) vnil) (hok0 rfl) (by decide) 52 rfl ?_
  refine oc_if dX2_product_52 ⟨by decide, by decide⟩ 55 rfl ?_
  refine oc (y := mt_189) (pc := 55) (ok_aload_n dX2_product_55) 56 rfl ?_
  refine oc (y := mt_189) (pc := 56) (ok_bipush dX2_product_56 (by decide) ⟨by decide, by decide⟩) 58 rfl ?_
  refine oc (y := mt_189) (pc := 58) (ok_aload_n dX2_product_58) 59 rfl ?_
  refine oc_V (y := mt_189) (pc := 59) (vcons (y := mt_189) (pc := 59) (len := 3) (n := 1) (M := mt_190) (by decide) rfl (Or.inr rfl) rfl (ck_V dX2_product_59 ⟨by decide, by decide, by decide, by decide +kernel⟩ q1126 q1128 qs28 q167 q1129) vnil) (hok0 rfl) (by decide) 62 rfl ?_
  refine oc_V (y := mt_189) (pc := 62) (vcons (y := mt_189) (pc := 62) (len := 3) (n := 3) (M := mt_155) (by decide) rfl (Or.inr rfl) rfl (ck_V dX2_product_62 ⟨by decide, by decide, by decide, by decide +kernel⟩ q1203 q1204 q1205 q190 q1206) vnil) (hok0 rfl) (by decide) 65 rfl ?_
  exact oc_goto dX2_product_65 ⟨by decide, by decide⟩
theorem o_189_68 : okL gmt mt_189 68 b_189_68 := by
  refine oc (y := mt_189) (pc := 68) (ok_iconst dX2_product_68 rfl ⟨by decide, by decide⟩) 69 rfl ?_
  refine oc (y := mt_189) (pc := 69) (ok_istore_n dX2_product_69 (by decide)) 70 rfl ?_
  exact oc_goto dX2_product_70 ⟨by decide, by decide⟩
theorem o_189_73 : okL gmt mt_189 73 b_189_73 := by
  refine oc (y := mt_189) (pc := 73) (ok_aload_n dX2_product_73) 74 rfl ?_
  exact oc_aretO dX2_product_74 rfl
theorem ok_189 : ∀ q ∈ pr_189, okL gmt mt_189 q.1 q.2 := pk_c o_189_0 (pk_c o_189_20 (pk_c o_189_46 (pk_c o_189_68 (pk_c o_189_73 (pk_n)))))
theorem o_190_0 : okL gmt mt_190 0 b_190_0 := by
  refine oc (y := mt_190) (pc := 0) (ok_aload_n dX2_atom_0) 1 rfl ?_
  refine oc_V (y := mt_190) (pc := 1) (vcons (y := mt_190) (pc := 1) (len := 3) (n := 1) (M := mt_174) (by decide) rfl (Or.inr rfl) rfl (ck_V dX2_atom_1 ⟨by decide, by decide, by decide, by decide +kernel⟩ q659 q661 qs9 q167 q662) vnil) (hok0 rfl) (by decide) 4 rfl ?_
  refine oc (y := mt_190) (pc := 4) (ok_bipush dX2_atom_4 (by decide) ⟨by decide, by decide⟩) 6 rfl ?_
  refine oc_icmp dX2_atom_6 ⟨by decide, by decide⟩ 9 rfl ?_
  refine oc (y := mt_190) (pc := 9) (ok_aload_n dX2_atom_9) 10 rfl ?_
  refine oc (y := mt_190) (pc := 10) (ok_iconst dX2_atom_10 rfl ⟨by decide, by decide⟩) 11 rfl ?_
  refine oc_V (y := mt_190) (pc := 11) (vcons (y := mt_190) (pc := 11) (len := 3) (n := 2) (M := mt_191) (by decide) rfl (Or.inr rfl) rfl (ck_V dX2_atom_11 ⟨by decide, by decide, by decide, by decide +kernel⟩ q1130 q1132 qs29 q167 q1133) vnil) (hok0 rfl) (by decide) 14 rfl ?_
  exact oc_aretO dX2_atom_14 rfl
theorem o_190_15 : okL gmt mt_190 15 b_190_15 := by
  refine oc (y := mt_190) (pc := 15) (ok_aload_n dX2_atom_15) 16 rfl ?_
  refine oc_V (y := mt_190) (pc := 16) (vcons (y := mt_190) (pc := 16) (len := 3) (n := 1) (M := mt_174) (by decide) rfl (Or.inr rfl) rfl (ck_V dX2_atom_16 ⟨by decide, by decide, by decide, by decide +kernel⟩ q659 q661 qs9 q167 q662) vnil) (hok0 rfl) (by decide) 19 rfl ?_
  refine oc_S (y := mt_190) (pc := 19) (M := mt_91) rfl (ck_SN dX2_atom_19 ⟨by decide, by decide, by decide, by decide +kernel⟩ q678 q679 q162 q680) (hok0 rfl) (by decide) 22 rfl ?_
  refine oc_if dX2_atom_22 ⟨by decide, by decide⟩ 25 rfl ?_
  refine oc (y := mt_190) (pc := 25) (ok_new (C := RX15) (T := TX15) (N := 1) (ci := 16) dX2_atom_25 rfl rfl rfl nf_16 q1154 q1155 q194) 28 rfl ?_
  refine oc (y := mt_190) (pc := 28) (ok_dup dX2_atom_28) 29 rfl ?_
  refine oc (y := mt_190) (pc := 29) (ok_aload_n dX2_atom_29) 30 rfl ?_
  refine oc (y := mt_190) (pc := 30) (ok_iconst dX2_atom_30 rfl ⟨by decide, by decide⟩) 31 rfl ?_
  refine oc (y := mt_190) (pc := 31) (ok_sipush dX2_atom_31 (by decide) ⟨by decide, by decide⟩) 34 rfl ?_
  refine oc_V (y := mt_190) (pc := 34) (vcons (y := mt_190) (pc := 34) (len := 3) (n := 3) (M := mt_178) (by decide) rfl (Or.inr rfl) rfl (ck_V dX2_atom_34 ⟨by decide, by decide, by decide, by decide +kernel⟩ q766 q768 qs13 q167 q769) vnil) (hok0 rfl) (by decide) 37 rfl ?_
  refine oc (y := mt_190) (pc := 37) (ok_i2l dX2_atom_37) 38 rfl ?_
  refine oc_I (y := mt_190) (pc := 38) (vcons (y := mt_190) (pc := 38) (len := 3) (n := 2) (M := mt_160) (by decide) rfl (Or.inl rfl) rfl (ck_I dX2_atom_38 ⟨by decide, by decide, by decide, by decide +kernel⟩ rfl q1156 q1157 q194 q1158) (vnil)) (hok0 rfl) (by decide) 41 rfl ?_
  exact oc_aretO dX2_atom_41 rfl
theorem o_190_42 : okL gmt mt_190 42 b_190_42 := by
  refine oc (y := mt_190) (pc := 42) (ok_aload_n dX2_atom_42) 43 rfl ?_
  refine oc_V (y := mt_190) (pc := 43) (vcons (y := mt_190) (pc := 43) (len := 3) (n := 1) (M := mt_173) (by decide) rfl (Or.inr rfl) rfl (ck_V dX2_atom_43 ⟨by decide, by decide, by decide, by decide +kernel⟩ q655 q657 qs8 q167 q658) vnil) (hok0 rfl) (by decide) 46 rfl ?_
  refine oc (y := mt_190) (pc := 46) (ok_astore_n dX2_atom_46 (by decide)) 47 rfl ?_
  refine oc (y := mt_190) (pc := 47) (ok_aload_n dX2_atom_47) 48 rfl ?_
  refine oc (y := mt_190) (pc := 48) (ok_getstatic (x := ("GardenChess", "ASKED", "[Ljava/lang/String;", 2, -301)) dX2_atom_48 (List.mem_of_getElem? (i := 1) rfl) rfl rfl trivial (Or.inr ⟨_, q1164⟩)) 51 rfl ?_
  refine oc_S (y := mt_190) (pc := 51) (M := mt_93) rfl (ck_SN dX2_atom_51 ⟨by decide, by decide, by decide, by decide +kernel⟩ q863 q864 q162 q865) (hok0 rfl) (by decide) 54 rfl ?_
  refine oc (y := mt_190) (pc := 54) (ok_istore_n dX2_atom_54 (by decide)) 55 rfl ?_
  refine oc (y := mt_190) (pc := 55) (ok_iload_n dX2_atom_55) 56 rfl ?_
  refine oc (y := mt_190) (pc := 56) (ok_iconst dX2_atom_56 rfl ⟨by decide, by decide⟩) 57 rfl ?_
  refine oc_icmp dX2_atom_57 ⟨by decide, by decide⟩ 60 rfl ?_
  refine oc (y := mt_190) (pc := 60) (ok_aload_n dX2_atom_60) 61 rfl ?_
  refine oc (y := mt_190) (pc := 61) (ok_getfield dX2_atom_61 (fg (own := "GardenChess$Reader") (idx := 223) (g := 4) (k := 5) (r := (RX2, TX2, 8)) rfl ⟨⟨by decide, by decide⟩, by decide⟩ (Or.inl q380) (Or.inl rfl) rfl (fg_nil))) 64 rfl ?_
  refine oc (y := mt_190) (pc := 64) (ok_iload_n dX2_atom_64) 65 rfl ?_
  refine oc_S (y := mt_190) (pc := 65) (M := mt_94) rfl (ck_SN dX2_atom_65 ⟨by decide, by decide, by decide, by decide +kernel⟩ q1166 q1167 q162 q1168) (hok0 rfl) (by decide) 68 rfl ?_
  refine oc_if dX2_atom_68 ⟨by decide, by decide⟩ 71 rfl ?_
  refine oc (y := mt_190) (pc := 71) (ok_new (C := RX16) (T := TX16) (N := 1) (ci := 17) dX2_atom_71 rfl rfl rfl nf_17 q1169 q1170 q195) 74 rfl ?_
  refine oc (y := mt_190) (pc := 74) (ok_dup dX2_atom_74) 75 rfl ?_
  refine oc (y := mt_190) (pc := 75) (ok_iload_n dX2_atom_75) 76 rfl ?_
  refine oc_I (y := mt_190) (pc := 76) (vcons (y := mt_190) (pc := 76) (len := 3) (n := 2) (M := mt_162) (by decide) rfl (Or.inl rfl) rfl (ck_I dX2_atom_76 ⟨by decide, by decide, by decide, by decide +kernel⟩ rfl q1171 q1172 q195 q1173) (vnil)) (hok0 rfl) (by decide) 79 rfl ?_
  exact oc_aretO dX2_atom_79 rfl
theorem o_190_80 : okL gmt mt_190 80 b_190_80 := by
  refine oc (y := mt_190) (pc := 80) (ok_aload_n dX2_atom_80) 81 rfl ?_
  refine oc (y := mt_190) (pc := 81) (ok_getfield dX2_atom_81 (fg (own := "GardenChess$Reader") (idx := 223) (g := 4) (k := 5) (r := (RX2, TX2, 8)) rfl ⟨⟨by decide, by decide⟩, by decide⟩ (Or.inl q380) (Or.inl rfl) rfl (fg_nil))) 84 rfl ?_
  refine oc (y := mt_190) (pc := 84) (ok_sipush dX2_atom_84 (by decide) ⟨by decide, by decide⟩) 87 rfl ?_
  refine oc_icmp dX2_atom_87 ⟨by decide, by decide⟩ 90 rfl ?_
  refine oc (y := mt_190) (pc := 90) (ok_aload_n dX2_atom_90) 91 rfl ?_
  refine oc (y := mt_190) (pc := 91) (ok_getstatic (x := ("GardenChess", "LOOKED", "[Ljava/lang/String;", 2, -302)) dX2_atom_91 (List.mem_of_getElem? (i := 2) rfl) rfl rfl trivial (Or.inr ⟨_, q1179⟩)) 94 rfl ?_
  refine oc_S (y := mt_190) (pc := 94) (M := mt_93) rfl (ck_SN dX2_atom_94 ⟨by decide, by decide, by decide, by decide +kernel⟩ q863 q864 q162 q865) (hok0 rfl) (by decide) 97 rfl ?_
  exact oc_goto dX2_atom_97 ⟨by decide, by decide⟩
theorem o_190_100 : okL gmt mt_190 100 b_190_100 := by
  refine oc (y := mt_190) (pc := 100) (ok_iconst dX2_atom_100 rfl ⟨by decide, by decide⟩) 101 rfl ?_
  exact oc_fall rfl
theorem o_190_101 : okL gmt mt_190 101 b_190_101 := by
  refine oc (y := mt_190) (pc := 101) (ok_istore_n dX2_atom_101 (by decide)) 102 rfl ?_
  refine oc (y := mt_190) (pc := 102) (ok_iload_n dX2_atom_102) 103 rfl ?_
  refine oc (y := mt_190) (pc := 103) (ok_iconst dX2_atom_103 rfl ⟨by decide, by decide⟩) 104 rfl ?_
  refine oc_icmp dX2_atom_104 ⟨by decide, by decide⟩ 107 rfl ?_
  refine oc (y := mt_190) (pc := 107) (ok_aload_n dX2_atom_107) 108 rfl ?_
  refine oc (y := mt_190) (pc := 108) (ok_iload_n dX2_atom_108) 109 rfl ?_
  refine oc_V (y := mt_190) (pc := 109) (vcons (y := mt_190) (pc := 109) (len := 3) (n := 2) (M := mt_193) (by decide) rfl (Or.inr rfl) rfl (ck_V dX2_atom_109 ⟨by decide, by decide, by decide, by decide +kernel⟩ q1181 q1183 qs31 q167 q1184) vnil) (hok0 rfl) (by decide) 112 rfl ?_
  exact oc_aretO dX2_atom_112 rfl
theorem o_190_113 : okL gmt mt_190 113 b_190_113 := by
  refine oc (y := mt_190) (pc := 113) (ok_aload_n dX2_atom_113) 114 rfl ?_
  refine oc (y := mt_190) (pc := 114) (ok_ldc_wS dX2_atom_114 rfl (List.mem_of_getElem? (i := 57) rfl)) 117 rfl ?_
  refine oc_V (y := mt_190) (pc := 117) (vcons (y := mt_190) (pc := 117) (len := 3) (n := 2) (M := mt_57) (by decide) rfl (Or.inr rfl) rfl (ck_V dX2_atom_117 ⟨by decide, by decide, by decide, by decide +kernel⟩ q759 q760 q761 q178 q762) vnil) (hok0 rfl) (by decide) 120 rfl ?_
  refine oc_if dX2_atom_120 ⟨by decide, by decide⟩ 123 rfl ?_
  refine oc (y := mt_190) (pc := 123) (ok_aload_n dX2_atom_123) 124 rfl ?_
  refine oc (y := mt_190) (pc := 124) (ok_ldc_wS dX2_atom_124 rfl (List.mem_of_getElem? (i := 58) rfl)) 127 rfl ?_
  refine oc_V (y := mt_190) (pc := 127) (vcons (y := mt_190) (pc := 127) (len := 3) (n := 2) (M := mt_57) (by decide) rfl (Or.inr rfl) rfl (ck_V dX2_atom_127 ⟨by decide, by decide, by decide, by decide +kernel⟩ q759 q760 q761 q178 q762) vnil) (hok0 rfl) (by decide) 130 rfl ?_
  refine oc_if dX2_atom_130 ⟨by decide, by decide⟩ 133 rfl ?_
  refine oc (y := mt_190) (pc := 133) (ok_aload_n dX2_atom_133) 134 rfl ?_
  refine oc (y := mt_190) (pc := 134) (ok_iconst dX2_atom_134 rfl ⟨by decide, by decide⟩) 135 rfl ?_
  refine oc (y := mt_190) (pc := 135) (ok_aload_n dX2_atom_135) 136 rfl ?_
  refine oc (y := mt_190) (pc := 136) (ok_getfield dX2_atom_136 (fg (own := "GardenChess$Reader") (idx := 61) (g := 4) (k := 3) (r := (RX2, TX2, 8)) rfl ⟨⟨by decide, by decide⟩, by decide⟩ (Or.inl q378) (Or.inl rfl) rfl (fg_nil))) 139 rfl ?_
  refine oc_V (y := mt_190) (pc := 139) (vcons (y := mt_190) (pc := 139) (len := 3) (n := 3) (M := mt_176) (by decide) rfl (Or.inr rfl) rfl (ck_V dX2_atom_139 ⟨by decide, by decide, by decide, by decide +kernel⟩ q670 q672 qs11 q167 q673) vnil) (hok0 rfl) (by decide) 142 rfl ?_
  exact oc_throw dX2_atom_142 rfl
theorem o_190_143 : okL gmt mt_190 143 b_190_143 := by
  refine oc (y := mt_190) (pc := 143) (ok_aload_n dX2_atom_143) 144 rfl ?_
  refine oc (y := mt_190) (pc := 144) (ok_aload_n dX2_atom_144) 145 rfl ?_
  refine oc (y := mt_190) (pc := 145) (ok_ldc_wS dX2_atom_145 rfl (List.mem_of_getElem? (i := 57) rfl)) 148 rfl ?_
  refine oc_V (y := mt_190) (pc := 148) (vcons (y := mt_190) (pc := 148) (len := 3) (n := 2) (M := mt_57) (by decide) rfl (Or.inr rfl) rfl (ck_V dX2_atom_148 ⟨by decide, by decide, by decide, by decide +kernel⟩ q759 q760 q761 q178 q762) vnil) (hok0 rfl) (by decide) 151 rfl ?_
  refine oc_if dX2_atom_151 ⟨by decide, by decide⟩ 154 rfl ?_
  refine oc (y := mt_190) (pc := 154) (ok_iconst dX2_atom_154 rfl ⟨by decide, by decide⟩) 155 rfl ?_
  exact oc_goto dX2_atom_155 ⟨by decide, by decide⟩
theorem o_190_158 : okL gmt mt_190 158 b_190_158 := by
  refine oc (y := mt_190) (pc := 158) (ok_iconst dX2_atom_158 rfl ⟨by decide, by decide⟩) 159 rfl ?_
  exact oc_fall rfl
theorem o_190_159 : okL gmt mt_190 159 b_190_159 := by
  refine oc_V (y := mt_190) (pc := 159) (vcons (y := mt_190) (pc := 159) (len := 3) (n := 2) (M := mt_191) (by decide) rfl (Or.inr rfl) rfl (ck_V dX2_atom_159 ⟨by decide, by decide, by decide, by decide +kernel⟩ q1130 q1132 qs29 q167 q1133) vnil) (hok0 rfl) (by decide) 162 rfl ?_
  exact oc_aretO dX2_atom_162 rfl
theorem ok_190 : ∀ q ∈ pr_190, okL gmt mt_190 q.1 q.2 := pk_c o_190_0 (pk_c o_190_15 (pk_c o_190_42 (pk_c o_190_80 (pk_c o_190_100 (pk_c o_190_101 (pk_c o_190_113 (pk_c o_190_143 (pk_c o_190_158 (pk_c o_190_159 (pk_n))))))))))
theorem o_191_0 : okL gmt mt_191 0 b_191_0 := by
  refine oc (y := mt_191) (pc := 0) (ok_aload_n dX2_within_0) 1 rfl ?_
  refine oc_V (y := mt_191) (pc := 1) (vcons (y := mt_191) (pc := 1) (len := 3) (n := 1) (M := mt_174) (by decide) rfl (Or.inr rfl) rfl (ck_V dX2_within_1 ⟨by decide, by decide, by decide, by decide +kernel⟩ q659 q661 qs9 q167 q662) vnil) (hok0 rfl) (by decide) 4 rfl ?_
  refine oc (y := mt_191) (pc := 4) (ok_bipush dX2_within_4 (by decide) ⟨by decide, by decide⟩) 6 rfl ?_
  refine oc_icmp dX2_within_6 ⟨by decide, by decide⟩ 9 rfl ?_
  refine oc (y := mt_191) (pc := 9) (ok_aload_n dX2_within_9) 10 rfl ?_
  refine oc (y := mt_191) (pc := 10) (ok_iconst dX2_within_10 rfl ⟨by decide, by decide⟩) 11 rfl ?_
  refine oc (y := mt_191) (pc := 11) (ok_aload_n dX2_within_11) 12 rfl ?_
  refine oc (y := mt_191) (pc := 12) (ok_getfield dX2_within_12 (fg (own := "GardenChess$Reader") (idx := 36) (g := 4) (k := 2) (r := (RX2, TX2, 8)) rfl ⟨⟨by decide, by decide⟩, by decide⟩ (Or.inl q377) (Or.inl rfl) rfl (fg_nil))) 15 rfl ?_
  refine oc_V (y := mt_191) (pc := 15) (vcons (y := mt_191) (pc := 15) (len := 3) (n := 3) (M := mt_176) (by decide) rfl (Or.inr rfl) rfl (ck_V dX2_within_15 ⟨by decide, by decide, by decide, by decide +kernel⟩ q670 q672 qs11 q167 q673) vnil) (hok0 rfl) (by decide) 18 rfl ?_
  exact oc_throw dX2_within_18 rfl
theorem o_191_19 : okL gmt mt_191 19 b_191_19 := by
  refine oc (y := mt_191) (pc := 19) (ok_aload_n dX2_within_19) 20 rfl ?_
  refine oc (y := mt_191) (pc := 20) (ok_aload_n dX2_within_20) 21 rfl ?_
  refine oc (y := mt_191) (pc := 21) (ok_getfield dX2_within_21 (fg (own := "GardenChess$Reader") (idx := 36) (g := 4) (k := 2) (r := (RX2, TX2, 8)) rfl ⟨⟨by decide, by decide⟩, by decide⟩ (Or.inl q377) (Or.inl rfl) rfl (fg_nil))) 24 rfl ?_
  refine oc_V (y := mt_191) (pc := 24) (vcons (y := mt_191) (pc := 24) (len := 3) (n := 2) (M := mt_192) (by decide) rfl (Or.inr rfl) rfl (ck_V dX2_within_24 ⟨by decide, by decide, by decide, by decide +kernel⟩ q1134 q1136 qs30 q167 q1137) vnil) (hok0 rfl) (by decide) 27 rfl ?_
  refine oc (y := mt_191) (pc := 27) (ok_aload_n dX2_within_27) 28 rfl ?_
  refine oc (y := mt_191) (pc := 28) (ok_dup dX2_within_28) 29 rfl ?_
  refine oc (y := mt_191) (pc := 29) (ok_getfield dX2_within_29 (fg (own := "GardenChess$Reader") (idx := 36) (g := 4) (k := 2) (r := (RX2, TX2, 8)) rfl ⟨⟨by decide, by decide⟩, by decide⟩ (Or.inl q377) (Or.inl rfl) rfl (fg_nil))) 32 rfl ?_
  refine oc (y := mt_191) (pc := 32) (ok_iconst dX2_within_32 rfl ⟨by decide, by decide⟩) 33 rfl ?_
  refine oc (y := mt_191) (pc := 33) (ok_iadd dX2_within_33) 34 rfl ?_
  refine oc (y := mt_191) (pc := 34) (ok_putfield dX2_within_34 (fp (own := "GardenChess$Reader") (idx := 36) (g := 4) (k := 2) (r := (RX2, TX2, 8)) rfl ⟨⟨by decide, by decide⟩, by decide⟩ (Or.inl q377) (Or.inl rfl) rfl (Or.inl rfl) (fp_nil))) 37 rfl ?_
  refine oc (y := mt_191) (pc := 37) (ok_aload_n dX2_within_37) 38 rfl ?_
  refine oc_V (y := mt_191) (pc := 38) (vcons (y := mt_191) (pc := 38) (len := 3) (n := 1) (M := mt_188) (by decide) rfl (Or.inr rfl) rfl (ck_V dX2_within_38 ⟨by decide, by decide, by decide, by decide +kernel⟩ q1077 q1079 qs26 q167 q1080) vnil) (hok0 rfl) (by decide) 41 rfl ?_
  refine oc (y := mt_191) (pc := 41) (ok_astore_n dX2_within_41 (by decide)) 42 rfl ?_
  refine oc (y := mt_191) (pc := 42) (ok_aload_n dX2_within_42) 43 rfl ?_
  refine oc (y := mt_191) (pc := 43) (ok_astore_n dX2_within_43 (by decide)) 44 rfl ?_
  refine oc (y := mt_191) (pc := 44) (ok_iload_n dX2_within_44) 45 rfl ?_
  refine oc_if dX2_within_45 ⟨by decide, by decide⟩ 48 rfl ?_
  refine oc (y := mt_191) (pc := 48) (ok_aload_n dX2_within_48) 49 rfl ?_
  refine oc (y := mt_191) (pc := 49) (ok_bipush dX2_within_49 (by decide) ⟨by decide, by decide⟩) 51 rfl ?_
  refine oc_V (y := mt_191) (pc := 51) (vcons (y := mt_191) (pc := 51) (len := 3) (n := 2) (M := mt_180) (by decide) rfl (Or.inr rfl) rfl (ck_V dX2_within_51 ⟨by decide, by decide, by decide, by decide +kernel⟩ q780 q782 qs15 q167 q783) vnil) (hok0 rfl) (by decide) 54 rfl ?_
  refine oc (y := mt_191) (pc := 54) (ok_new (C := RX14) (T := TX14) (N := 3) (ci := 15) dX2_within_54 rfl rfl rfl nf_15 q1138 q1139 q193) 57 rfl ?_
  refine oc (y := mt_191) (pc := 57) (ok_dup dX2_within_57) 58 rfl ?_
  refine oc (y := mt_191) (pc := 58) (ok_iload_n dX2_within_58) 59 rfl ?_
  refine oc (y := mt_191) (pc := 59) (ok_iconst dX2_within_59 rfl ⟨by decide, by decide⟩) 60 rfl ?_
  refine oc_icmp dX2_within_60 ⟨by decide, by decide⟩ 63 rfl ?_
  refine oc (y := mt_191) (pc := 63) (ok_iconst dX2_within_63 rfl ⟨by decide, by decide⟩) 64 rfl ?_
  exact oc_goto dX2_within_64 ⟨by decide, by decide⟩
theorem o_191_67 : okL gmt mt_191 67 b_191_67 := by
  refine oc (y := mt_191) (pc := 67) (ok_iconst dX2_within_67 rfl ⟨by decide, by decide⟩) 68 rfl ?_
  exact oc_fall rfl
theorem o_191_68 : okL gmt mt_191 68 b_191_68 := by
  refine oc (y := mt_191) (pc := 68) (ok_aload_n dX2_within_68) 69 rfl ?_
  refine oc (y := mt_191) (pc := 69) (ok_aload_n dX2_within_69) 70 rfl ?_
  refine oc_V (y := mt_191) (pc := 70) (vcons (y := mt_191) (pc := 70) (len := 3) (n := 1) (M := mt_188) (by decide) rfl (Or.inr rfl) rfl (ck_V dX2_within_70 ⟨by decide, by decide, by decide, by decide +kernel⟩ q1077 q1079 qs26 q167 q1080) vnil) (hok0 rfl) (by decide) 73 rfl ?_
  refine oc_I (y := mt_191) (pc := 73) (vcons (y := mt_191) (pc := 73) (len := 3) (n := 4) (M := mt_158) (by decide) rfl (Or.inl rfl) rfl (ck_I dX2_within_73 ⟨by decide, by decide, by decide, by decide +kernel⟩ rfl q1140 q1141 q193 q1142) (vnil)) (hok0 rfl) (by decide) 76 rfl ?_
  refine oc (y := mt_191) (pc := 76) (ok_astore_n dX2_within_76 (by decide)) 77 rfl ?_
  exact oc_fall rfl
theorem o_191_77 : okL gmt mt_191 77 b_191_77 := by
  refine oc (y := mt_191) (pc := 77) (ok_aload_n dX2_within_77) 78 rfl ?_
  refine oc (y := mt_191) (pc := 78) (ok_bipush dX2_within_78 (by decide) ⟨by decide, by decide⟩) 80 rfl ?_
  refine oc_V (y := mt_191) (pc := 80) (vcons (y := mt_191) (pc := 80) (len := 3) (n := 2) (M := mt_180) (by decide) rfl (Or.inr rfl) rfl (ck_V dX2_within_80 ⟨by decide, by decide, by decide, by decide +kernel⟩ q780 q782 qs15 q167 q783) vnil) (hok0 rfl) (by decide) 83 rfl ?_
  refine oc (y := mt_191) (pc := 83) (ok_aload_n dX2_within_83) 84 rfl ?_
  refine oc (y := mt_191) (pc := 84) (ok_dup dX2_within_84) 85 rfl ?_
  refine oc (y := mt_191) (pc := 85) (ok_getfield dX2_within_85 (fg (own := "GardenChess$Reader") (idx := 119) (g := 4) (k := 4) (r := (RX2, TX2, 8)) rfl ⟨⟨by decide, by decide⟩, by decide⟩ (Or.inl q379) (Or.inl rfl) rfl (fg_nil))) 88 rfl ?_
  refine oc (y := mt_191) (pc := 88) (ok_iconst dX2_within_88 rfl ⟨by decide, by decide⟩) 89 rfl ?_
  refine oc (y := mt_191) (pc := 89) (ok_isub dX2_within_89) 90 rfl ?_
  refine oc (y := mt_191) (pc := 90) (ok_putfield dX2_within_90 (fp (own := "GardenChess$Reader") (idx := 119) (g := 4) (k := 4) (r := (RX2, TX2, 8)) rfl ⟨⟨by decide, by decide⟩, by decide⟩ (Or.inl q379) (Or.inl rfl) rfl (Or.inl rfl) (fp_nil))) 93 rfl ?_
  refine oc (y := mt_191) (pc := 93) (ok_aload_n dX2_within_93) 94 rfl ?_
  exact oc_aretO dX2_within_94 rfl
theorem ok_191 : ∀ q ∈ pr_191, okL gmt mt_191 q.1 q.2 := pk_c o_191_0 (pk_c o_191_19 (pk_c o_191_67 (pk_c o_191_68 (pk_c o_191_77 (pk_n)))))
theorem o_192_0 : okL gmt mt_192 0 b_192_0 := by
  refine oc (y := mt_192) (pc := 0) (ok_aload_n dX2_opens_0) 1 rfl ?_
  refine oc (y := mt_192) (pc := 1) (ok_getfield dX2_opens_1 (fg (own := "GardenChess$Reader") (idx := 119) (g := 4) (k := 4) (r := (RX2, TX2, 8)) rfl ⟨⟨by decide, by decide⟩, by decide⟩ (Or.inl q379) (Or.inl rfl) rfl (fg_nil))) 4 rfl ?_
  refine oc (y := mt_192) (pc := 4) (ok_bipush dX2_opens_4 (by decide) ⟨by decide, by decide⟩) 6 rfl ?_
  refine oc_icmp dX2_opens_6 ⟨by decide, by decide⟩ 9 rfl ?_
  refine oc (y := mt_192) (pc := 9) (ok_aload_n dX2_opens_9) 10 rfl ?_
  refine oc (y := mt_192) (pc := 10) (ok_iconst dX2_opens_10 rfl ⟨by decide, by decide⟩) 11 rfl ?_
  refine oc (y := mt_192) (pc := 11) (ok_iload_n dX2_opens_11) 12 rfl ?_
  refine oc_V (y := mt_192) (pc := 12) (vcons (y := mt_192) (pc := 12) (len := 3) (n := 3) (M := mt_176) (by decide) rfl (Or.inr rfl) rfl (ck_V dX2_opens_12 ⟨by decide, by decide, by decide, by decide +kernel⟩ q670 q672 qs11 q167 q673) vnil) (hok0 rfl) (by decide) 15 rfl ?_
  exact oc_throw dX2_opens_15 rfl
theorem o_192_16 : okL gmt mt_192 16 b_192_16 := by
  refine oc (y := mt_192) (pc := 16) (ok_aload_n dX2_opens_16) 17 rfl ?_
  refine oc (y := mt_192) (pc := 17) (ok_dup dX2_opens_17) 18 rfl ?_
  refine oc (y := mt_192) (pc := 18) (ok_getfield dX2_opens_18 (fg (own := "GardenChess$Reader") (idx := 119) (g := 4) (k := 4) (r := (RX2, TX2, 8)) rfl ⟨⟨by decide, by decide⟩, by decide⟩ (Or.inl q379) (Or.inl rfl) rfl (fg_nil))) 21 rfl ?_
  refine oc (y := mt_192) (pc := 21) (ok_iconst dX2_opens_21 rfl ⟨by decide, by decide⟩) 22 rfl ?_
  refine oc (y := mt_192) (pc := 22) (ok_iadd dX2_opens_22) 23 rfl ?_
  refine oc (y := mt_192) (pc := 23) (ok_putfield dX2_opens_23 (fp (own := "GardenChess$Reader") (idx := 119) (g := 4) (k := 4) (r := (RX2, TX2, 8)) rfl ⟨⟨by decide, by decide⟩, by decide⟩ (Or.inl q379) (Or.inl rfl) rfl (Or.inl rfl) (fp_nil))) 26 rfl ?_
  exact oc_ret dX2_opens_26 rfl
theorem ok_192 : ∀ q ∈ pr_192, okL gmt mt_192 q.1 q.2 := pk_c o_192_0 (pk_c o_192_16 (pk_n))
theorem o_193_0 : okL gmt mt_193 0 b_193_0 := by
  refine oc (y := mt_193) (pc := 0) (ok_aload_n dX2_looked_0) 1 rfl ?_
  refine oc (y := mt_193) (pc := 1) (ok_aload_n dX2_looked_1) 2 rfl ?_
  refine oc (y := mt_193) (pc := 2) (ok_getfield dX2_looked_2 (fg (own := "GardenChess$Reader") (idx := 61) (g := 4) (k := 3) (r := (RX2, TX2, 8)) rfl ⟨⟨by decide, by decide⟩, by decide⟩ (Or.inl q378) (Or.inl rfl) rfl (fg_nil))) 5 rfl ?_
  refine oc_V (y := mt_193) (pc := 5) (vcons (y := mt_193) (pc := 5) (len := 3) (n := 2) (M := mt_192) (by decide) rfl (Or.inr rfl) rfl (ck_V dX2_looked_5 ⟨by decide, by decide, by decide, by decide +kernel⟩ q1134 q1136 qs30 q167 q1137) vnil) (hok0 rfl) (by decide) 8 rfl ?_
  refine oc (y := mt_193) (pc := 8) (ok_new (C := RX17) (T := TX17) (N := 3) (ci := 18) dX2_looked_8 rfl rfl rfl nf_18 q1185 q1186 q196) 11 rfl ?_
  refine oc (y := mt_193) (pc := 11) (ok_dup dX2_looked_11) 12 rfl ?_
  refine oc (y := mt_193) (pc := 12) (ok_aload_n dX2_looked_12) 13 rfl ?_
  refine oc (y := mt_193) (pc := 13) (ok_getfield dX2_looked_13 (fg (own := "GardenChess$Reader") (idx := 3) (g := 4) (k := 7) (r := (RX2, TX2, 8)) rfl ⟨⟨by decide, by decide⟩, by decide⟩ (Or.inl q382) (Or.inl rfl) rfl (fg_nil))) 16 rfl ?_
  refine oc (y := mt_193) (pc := 16) (ok_iload_n dX2_looked_16) 17 rfl ?_
  refine oc (y := mt_193) (pc := 17) (ok_aload_n dX2_looked_17) 18 rfl ?_
  refine oc_V (y := mt_193) (pc := 18) (vcons (y := mt_193) (pc := 18) (len := 3) (n := 1) (M := mt_190) (by decide) rfl (Or.inr rfl) rfl (ck_V dX2_looked_18 ⟨by decide, by decide, by decide, by decide +kernel⟩ q1126 q1128 qs28 q167 q1129) vnil) (hok0 rfl) (by decide) 21 rfl ?_
  refine oc_I (y := mt_193) (pc := 21) (vcons (y := mt_193) (pc := 21) (len := 3) (n := 4) (M := mt_164) (by decide) rfl (Or.inl rfl) rfl (ck_I dX2_looked_21 ⟨by decide, by decide, by decide, by decide +kernel⟩ rfl q1187 q1188 q196 q1189) (vnil)) (hok0 rfl) (by decide) 24 rfl ?_
  refine oc (y := mt_193) (pc := 24) (ok_astore_n dX2_looked_24 (by decide)) 25 rfl ?_
  refine oc (y := mt_193) (pc := 25) (ok_aload_n dX2_looked_25) 26 rfl ?_
  refine oc (y := mt_193) (pc := 26) (ok_dup dX2_looked_26) 27 rfl ?_
  refine oc (y := mt_193) (pc := 27) (ok_getfield dX2_looked_27 (fg (own := "GardenChess$Reader") (idx := 119) (g := 4) (k := 4) (r := (RX2, TX2, 8)) rfl ⟨⟨by decide, by decide⟩, by decide⟩ (Or.inl q379) (Or.inl rfl) rfl (fg_nil))) 30 rfl ?_
  refine oc (y := mt_193) (pc := 30) (ok_iconst dX2_looked_30 rfl ⟨by decide, by decide⟩) 31 rfl ?_
  refine oc (y := mt_193) (pc := 31) (ok_isub dX2_looked_31) 32 rfl ?_
  refine oc (y := mt_193) (pc := 32) (ok_putfield dX2_looked_32 (fp (own := "GardenChess$Reader") (idx := 119) (g := 4) (k := 4) (r := (RX2, TX2, 8)) rfl ⟨⟨by decide, by decide⟩, by decide⟩ (Or.inl q379) (Or.inl rfl) rfl (Or.inl rfl) (fp_nil))) 35 rfl ?_
  refine oc (y := mt_193) (pc := 35) (ok_aload_n dX2_looked_35) 36 rfl ?_
  exact oc_aretO dX2_looked_36 rfl
theorem ok_193 : ∀ q ∈ pr_193, okL gmt mt_193 q.1 q.2 := pk_c o_193_0 (pk_n)
theorem o_194_0 : okL gmt mt_194 0 b_194_0 := by
  refine oc (y := mt_194) (pc := 0) (ok_aload_n dX2_takes_0) 1 rfl ?_
  refine oc_V (y := mt_194) (pc := 1) (vcons (y := mt_194) (pc := 1) (len := 3) (n := 1) (M := mt_174) (by decide) rfl (Or.inr rfl) rfl (ck_V dX2_takes_1 ⟨by decide, by decide, by decide, by decide +kernel⟩ q659 q661 qs9 q167 q662) vnil) (hok0 rfl) (by decide) 4 rfl ?_
  refine oc (y := mt_194) (pc := 4) (ok_iload_n dX2_takes_4) 5 rfl ?_
  refine oc_icmp dX2_takes_5 ⟨by decide, by decide⟩ 8 rfl ?_
  refine oc (y := mt_194) (pc := 8) (ok_iconst dX2_takes_8 rfl ⟨by decide, by decide⟩) 9 rfl ?_
  exact oc_goto dX2_takes_9 ⟨by decide, by decide⟩
theorem o_194_12 : okL gmt mt_194 12 b_194_12 := by
  refine oc (y := mt_194) (pc := 12) (ok_iconst dX2_takes_12 rfl ⟨by decide, by decide⟩) 13 rfl ?_
  exact oc_fall rfl
theorem o_194_13 : okL gmt mt_194 13 b_194_13 := by
  refine oc (y := mt_194) (pc := 13) (ok_istore_n dX2_takes_13 (by decide)) 14 rfl ?_
  refine oc (y := mt_194) (pc := 14) (ok_aload_n dX2_takes_14) 15 rfl ?_
  refine oc (y := mt_194) (pc := 15) (ok_dup dX2_takes_15) 16 rfl ?_
  refine oc (y := mt_194) (pc := 16) (ok_getfield dX2_takes_16 (fg (own := "GardenChess$Reader") (idx := 36) (g := 4) (k := 2) (r := (RX2, TX2, 8)) rfl ⟨⟨by decide, by decide⟩, by decide⟩ (Or.inl q377) (Or.inl rfl) rfl (fg_nil))) 19 rfl ?_
  refine oc (y := mt_194) (pc := 19) (ok_iload_n dX2_takes_19) 20 rfl ?_
  refine oc_if dX2_takes_20 ⟨by decide, by decide⟩ 23 rfl ?_
  refine oc (y := mt_194) (pc := 23) (ok_iconst dX2_takes_23 rfl ⟨by decide, by decide⟩) 24 rfl ?_
  exact oc_goto dX2_takes_24 ⟨by decide, by decide⟩
theorem o_194_27 : okL gmt mt_194 27 b_194_27 := by
  refine oc (y := mt_194) (pc := 27) (ok_iconst dX2_takes_27 rfl ⟨by decide, by decide⟩) 28 rfl ?_
  exact oc_fall rfl
theorem o_194_28 : okL gmt mt_194 28 b_194_28 := by
  refine oc (y := mt_194) (pc := 28) (ok_iadd dX2_takes_28) 29 rfl ?_
  refine oc (y := mt_194) (pc := 29) (ok_putfield dX2_takes_29 (fp (own := "GardenChess$Reader") (idx := 36) (g := 4) (k := 2) (r := (RX2, TX2, 8)) rfl ⟨⟨by decide, by decide⟩, by decide⟩ (Or.inl q377) (Or.inl rfl) rfl (Or.inl rfl) (fp_nil))) 32 rfl ?_
  refine oc (y := mt_194) (pc := 32) (ok_iload_n dX2_takes_32) 33 rfl ?_
  exact oc_zret dX2_takes_33 rfl
theorem ok_194 : ∀ q ∈ pr_194, okL gmt mt_194 q.1 q.2 := pk_c o_194_0 (pk_c o_194_12 (pk_c o_194_13 (pk_c o_194_27 (pk_c o_194_28 (pk_n)))))
theorem o_195_0 : okL gmt mt_195 0 b_195_0 := by
  refine oc (y := mt_195) (pc := 0) (ok_aload_n dX2_question_0) 1 rfl ?_
  refine oc (y := mt_195) (pc := 1) (ok_iload_n dX2_question_1) 2 rfl ?_
  refine oc (y := mt_195) (pc := 2) (ok_putfield dX2_question_2 (fp (own := "GardenChess$Reader") (idx := 29) (g := 4) (k := 1) (r := (RX2, TX2, 8)) rfl ⟨⟨by decide, by decide⟩, by decide⟩ (Or.inl q376) (Or.inl rfl) rfl (Or.inl rfl) (fp_nil))) 5 rfl ?_
  refine oc (y := mt_195) (pc := 5) (ok_aload_n dX2_question_5) 6 rfl ?_
  refine oc (y := mt_195) (pc := 6) (ok_iconst dX2_question_6 rfl ⟨by decide, by decide⟩) 7 rfl ?_
  refine oc (y := mt_195) (pc := 7) (ok_putfield dX2_question_7 (fp (own := "GardenChess$Reader") (idx := 36) (g := 4) (k := 2) (r := (RX2, TX2, 8)) rfl ⟨⟨by decide, by decide⟩, by decide⟩ (Or.inl q377) (Or.inl rfl) rfl (Or.inl rfl) (fp_nil))) 10 rfl ?_
  refine oc (y := mt_195) (pc := 10) (ok_aload_n dX2_question_10) 11 rfl ?_
  refine oc (y := mt_195) (pc := 11) (ok_iconst dX2_question_11 rfl ⟨by decide, by decide⟩) 12 rfl ?_
  refine oc (y := mt_195) (pc := 12) (ok_putfield dX2_question_12 (fp (own := "GardenChess$Reader") (idx := 119) (g := 4) (k := 4) (r := (RX2, TX2, 8)) rfl ⟨⟨by decide, by decide⟩, by decide⟩ (Or.inl q379) (Or.inl rfl) rfl (Or.inl rfl) (fp_nil))) 15 rfl ?_
  refine oc (y := mt_195) (pc := 15) (ok_aload_n dX2_question_15) 16 rfl ?_
  refine oc (y := mt_195) (pc := 16) (ok_sipush dX2_question_16 (by decide) ⟨by decide, by decide⟩) 19 rfl ?_
  refine oc (y := mt_195) (pc := 19) (ok_putfield dX2_question_19 (fp (own := "GardenChess$Reader") (idx := 223) (g := 4) (k := 5) (r := (RX2, TX2, 8)) rfl ⟨⟨by decide, by decide⟩, by decide⟩ (Or.inl q380) (Or.inl rfl) rfl (Or.inl rfl) (fp_nil))) 22 rfl ?_
  refine oc (y := mt_195) (pc := 22) (ok_aload_n dX2_question_22) 23 rfl ?_
  refine oc_V (y := mt_195) (pc := 23) (vcons (y := mt_195) (pc := 23) (len := 3) (n := 1) (M := mt_173) (by decide) rfl (Or.inr rfl) rfl (ck_V dX2_question_23 ⟨by decide, by decide, by decide, by decide +kernel⟩ q655 q657 qs8 q167 q658) vnil) (hok0 rfl) (by decide) 26 rfl ?_
  refine oc (y := mt_195) (pc := 26) (ok_getstatic (x := ("GardenChess", "TOLD_OF", "[Ljava/lang/String;", 2, -303)) dX2_question_26 (List.mem_of_getElem? (i := 3) rfl) rfl rfl trivial (Or.inr ⟨_, q1656⟩)) 29 rfl ?_
  refine oc_S (y := mt_195) (pc := 29) (M := mt_93) rfl (ck_SN dX2_question_29 ⟨by decide, by decide, by decide, by decide +kernel⟩ q863 q864 q162 q865) (hok0 rfl) (by decide) 32 rfl ?_
  refine oc (y := mt_195) (pc := 32) (ok_istore_n dX2_question_32 (by decide)) 33 rfl ?_
  refine oc (y := mt_195) (pc := 33) (ok_iload_n dX2_question_33) 34 rfl ?_
  refine oc (y := mt_195) (pc := 34) (ok_iconst dX2_question_34 rfl ⟨by decide, by decide⟩) 35 rfl ?_
  refine oc_icmp dX2_question_35 ⟨by decide, by decide⟩ 38 rfl ?_
  refine oc (y := mt_195) (pc := 38) (ok_aload_n dX2_question_38) 39 rfl ?_
  refine oc (y := mt_195) (pc := 39) (ok_iconst dX2_question_39 rfl ⟨by decide, by decide⟩) 40 rfl ?_
  refine oc (y := mt_195) (pc := 40) (ok_aload_n dX2_question_40) 41 rfl ?_
  refine oc (y := mt_195) (pc := 41) (ok_getfield dX2_question_41 (fg (own := "GardenChess$Reader") (idx := 61) (g := 4) (k := 3) (r := (RX2, TX2, 8)) rfl ⟨⟨by decide, by decide⟩, by decide⟩ (Or.inl q378) (Or.inl rfl) rfl (fg_nil))) 44 rfl ?_
  refine oc_V (y := mt_195) (pc := 44) (vcons (y := mt_195) (pc := 44) (len := 3) (n := 3) (M := mt_176) (by decide) rfl (Or.inr rfl) rfl (ck_V dX2_question_44 ⟨by decide, by decide, by decide, by decide +kernel⟩ q670 q672 qs11 q167 q673) vnil) (hok0 rfl) (by decide) 47 rfl ?_
  exact oc_throw dX2_question_47 rfl
theorem o_195_48 : okL gmt mt_195 48 b_195_48 := by
  refine oc (y := mt_195) (pc := 48) (ok_iload_n dX2_question_48) 49 rfl ?_
  refine oc (y := mt_195) (pc := 49) (ok_iconst dX2_question_49 rfl ⟨by decide, by decide⟩) 50 rfl ?_
  refine oc_icmp dX2_question_50 ⟨by decide, by decide⟩ 53 rfl ?_
  refine oc (y := mt_195) (pc := 53) (ok_new (C := RX18) (T := TX18) (N := 5) (ci := 19) dX2_question_53 rfl rfl rfl nf_19 q1658 q1659 q198) 56 rfl ?_
  refine oc (y := mt_195) (pc := 56) (ok_dup dX2_question_56) 57 rfl ?_
  refine oc (y := mt_195) (pc := 57) (ok_iload_n dX2_question_57) 58 rfl ?_
  refine oc (y := mt_195) (pc := 58) (ok_aload_n dX2_question_58) 59 rfl ?_
  refine oc_V (y := mt_195) (pc := 59) (vcons (y := mt_195) (pc := 59) (len := 3) (n := 1) (M := mt_196) (by decide) rfl (Or.inr rfl) rfl (ck_V dX2_question_59 ⟨by decide, by decide, by decide, by decide +kernel⟩ q1660 q1662 qs52 q167 q1663) vnil) (hok0 rfl) (by decide) 62 rfl ?_
  refine oc (y := mt_195) (pc := 62) (ok_null dX2_question_62) 63 rfl ?_
  refine oc_I (y := mt_195) (pc := 63) (vcons (y := mt_195) (pc := 63) (len := 3) (n := 4) (M := mt_166) (by decide) rfl (Or.inl rfl) rfl (ck_I dX2_question_63 ⟨by decide, by decide, by decide, by decide +kernel⟩ rfl q1728 q1729 q198 q1730) (vnil)) (hok0 rfl) (by decide) 66 rfl ?_
  exact oc_goto dX2_question_66 ⟨by decide, by decide⟩
theorem o_195_69 : okL gmt mt_195 69 b_195_69 := by
  refine oc (y := mt_195) (pc := 69) (ok_new (C := RX18) (T := TX18) (N := 5) (ci := 19) dX2_question_69 rfl rfl rfl nf_19 q1658 q1659 q198) 72 rfl ?_
  refine oc (y := mt_195) (pc := 72) (ok_dup dX2_question_72) 73 rfl ?_
  refine oc (y := mt_195) (pc := 73) (ok_iload_n dX2_question_73) 74 rfl ?_
  refine oc (y := mt_195) (pc := 74) (ok_null dX2_question_74) 75 rfl ?_
  refine oc (y := mt_195) (pc := 75) (ok_aload_n dX2_question_75) 76 rfl ?_
  refine oc_V (y := mt_195) (pc := 76) (vcons (y := mt_195) (pc := 76) (len := 3) (n := 1) (M := mt_188) (by decide) rfl (Or.inr rfl) rfl (ck_V dX2_question_76 ⟨by decide, by decide, by decide, by decide +kernel⟩ q1077 q1079 qs26 q167 q1080) vnil) (hok0 rfl) (by decide) 79 rfl ?_
  refine oc_I (y := mt_195) (pc := 79) (vcons (y := mt_195) (pc := 79) (len := 3) (n := 4) (M := mt_166) (by decide) rfl (Or.inl rfl) rfl (ck_I dX2_question_79 ⟨by decide, by decide, by decide, by decide +kernel⟩ rfl q1728 q1729 q198 q1730) (vnil)) (hok0 rfl) (by decide) 82 rfl ?_
  exact oc_fall rfl
theorem o_195_82 : okL gmt mt_195 82 b_195_82 := by
  refine oc (y := mt_195) (pc := 82) (ok_astore_n dX2_question_82 (by decide)) 83 rfl ?_
  refine oc (y := mt_195) (pc := 83) (ok_aload_n dX2_question_83) 84 rfl ?_
  refine oc_V (y := mt_195) (pc := 84) (vcons (y := mt_195) (pc := 84) (len := 3) (n := 1) (M := mt_174) (by decide) rfl (Or.inr rfl) rfl (ck_V dX2_question_84 ⟨by decide, by decide, by decide, by decide +kernel⟩ q659 q661 qs9 q167 q662) vnil) (hok0 rfl) (by decide) 87 rfl ?_
  refine oc (y := mt_195) (pc := 87) (ok_iconst dX2_question_87 rfl ⟨by decide, by decide⟩) 88 rfl ?_
  refine oc_icmp dX2_question_88 ⟨by decide, by decide⟩ 91 rfl ?_
  refine oc (y := mt_195) (pc := 91) (ok_aload_n dX2_question_91) 92 rfl ?_
  refine oc (y := mt_195) (pc := 92) (ok_iconst dX2_question_92 rfl ⟨by decide, by decide⟩) 93 rfl ?_
  refine oc (y := mt_195) (pc := 93) (ok_aload_n dX2_question_93) 94 rfl ?_
  refine oc (y := mt_195) (pc := 94) (ok_getfield dX2_question_94 (fg (own := "GardenChess$Reader") (idx := 36) (g := 4) (k := 2) (r := (RX2, TX2, 8)) rfl ⟨⟨by decide, by decide⟩, by decide⟩ (Or.inl q377) (Or.inl rfl) rfl (fg_nil))) 97 rfl ?_
  refine oc_V (y := mt_195) (pc := 97) (vcons (y := mt_195) (pc := 97) (len := 3) (n := 3) (M := mt_176) (by decide) rfl (Or.inr rfl) rfl (ck_V dX2_question_97 ⟨by decide, by decide, by decide, by decide +kernel⟩ q670 q672 qs11 q167 q673) vnil) (hok0 rfl) (by decide) 100 rfl ?_
  exact oc_throw dX2_question_100 rfl
theorem o_195_101 : okL gmt mt_195 101 b_195_101 := by
  refine oc (y := mt_195) (pc := 101) (ok_aload_n dX2_question_101) 102 rfl ?_
  exact oc_aretO dX2_question_102 rfl
theorem ok_195 : ∀ q ∈ pr_195, okL gmt mt_195 q.1 q.2 := pk_c o_195_0 (pk_c o_195_48 (pk_c o_195_69 (pk_c o_195_82 (pk_c o_195_101 (pk_n)))))
theorem o_196_0 : okL gmt mt_196 0 b_196_0 := by
  refine oc (y := mt_196) (pc := 0) (ok_new (C := RX20) (T := TX20) (N := 2) (ci := 20) dX2_test_0 rfl rfl rfl nf_20 q1664 q1665 q200) 3 rfl ?_
  refine oc (y := mt_196) (pc := 3) (ok_dup dX2_test_3) 4 rfl ?_
  refine oc (y := mt_196) (pc := 4) (ok_iconst dX2_test_4 rfl ⟨by decide, by decide⟩) 5 rfl ?_
  refine oc_I (y := mt_196) (pc := 5) (vcons (y := mt_196) (pc := 5) (len := 3) (n := 2) (M := mt_199) (by decide) rfl (Or.inl rfl) rfl (ck_I dX2_test_5 ⟨by decide, by decide, by decide, by decide +kernel⟩ rfl q1666 q1667 q200 q1668) (vnil)) (hok0 rfl) (by decide) 8 rfl ?_
  refine oc (y := mt_196) (pc := 8) (ok_astore_n dX2_test_8 (by decide)) 9 rfl ?_
  refine oc (y := mt_196) (pc := 9) (ok_aload_n dX2_test_9) 10 rfl ?_
  refine oc (y := mt_196) (pc := 10) (ok_getfield dX2_test_10 (fg (own := "GardenChess$Reader") (idx := 307) (g := 21) (k := 0) (r := (RX20, TX20, 2)) rfl ⟨⟨by decide, by decide⟩, by decide⟩ (Or.inr ⟨_, q1676⟩) (Or.inl rfl) rfl (fg_nil))) 13 rfl ?_
  refine oc (y := mt_196) (pc := 13) (ok_aload_n dX2_test_13) 14 rfl ?_
  refine oc_V (y := mt_196) (pc := 14) (vcons (y := mt_196) (pc := 14) (len := 3) (n := 1) (M := mt_197) (by decide) rfl (Or.inr rfl) rfl (ck_V dX2_test_14 ⟨by decide, by decide, by decide, by decide +kernel⟩ q1683 q1685 qs53 q167 q1686) vnil) (hok0 rfl) (by decide) 17 rfl ?_
  refine oc_F (y := mt_196) (pc := 17) (vcons (y := mt_196) (pc := 17) (len := 5) (n := 2) (M := mt_42) (by decide) rfl (Or.inr rfl) rfl (ck_F (ci := 2) dX2_test_17 rfl rfl (fun G s h => h.2.2.1.2.2) (by decide) ⟨by decide, by decide, by decide +kernel⟩ q930 q933 q935 q166 q937) vnil) (hok0 rfl) 22 rfl ?_
  refine oc (y := mt_196) (pc := 22) (ok_pop dX2_test_22) 23 rfl ?_
  exact oc_fall rfl
theorem o_196_23 : okL gmt mt_196 23 b_196_23 := by
  refine oc (y := mt_196) (pc := 23) (ok_aload_n dX2_test_23) 24 rfl ?_
  refine oc (y := mt_196) (pc := 24) (ok_ldc_wS dX2_test_24 rfl (List.mem_of_getElem? (i := 59) rfl)) 27 rfl ?_
  refine oc_V (y := mt_196) (pc := 27) (vcons (y := mt_196) (pc := 27) (len := 3) (n := 2) (M := mt_185) (by decide) rfl (Or.inr rfl) rfl (ck_V dX2_test_27 ⟨by decide, by decide, by decide, by decide +kernel⟩ q925 q927 qs20 q167 q928) vnil) (hok0 rfl) (by decide) 30 rfl ?_
  refine oc_if dX2_test_30 ⟨by decide, by decide⟩ 33 rfl ?_
  refine oc (y := mt_196) (pc := 33) (ok_aload_n dX2_test_33) 34 rfl ?_
  refine oc (y := mt_196) (pc := 34) (ok_getfield dX2_test_34 (fg (own := "GardenChess$Reader") (idx := 307) (g := 21) (k := 0) (r := (RX20, TX20, 2)) rfl ⟨⟨by decide, by decide⟩, by decide⟩ (Or.inr ⟨_, q1676⟩) (Or.inl rfl) rfl (fg_nil))) 37 rfl ?_
  refine oc (y := mt_196) (pc := 37) (ok_aload_n dX2_test_37) 38 rfl ?_
  refine oc_V (y := mt_196) (pc := 38) (vcons (y := mt_196) (pc := 38) (len := 3) (n := 1) (M := mt_197) (by decide) rfl (Or.inr rfl) rfl (ck_V dX2_test_38 ⟨by decide, by decide, by decide, by decide +kernel⟩ q1683 q1685 qs53 q167 q1686) vnil) (hok0 rfl) (by decide) 41 rfl ?_
  refine oc_F (y := mt_196) (pc := 41) (vcons (y := mt_196) (pc := 41) (len := 5) (n := 2) (M := mt_42) (by decide) rfl (Or.inr rfl) rfl (ck_F (ci := 2) dX2_test_41 rfl rfl (fun G s h => h.2.2.1.2.2) (by decide) ⟨by decide, by decide, by decide +kernel⟩ q930 q933 q935 q166 q937) vnil) (hok0 rfl) 46 rfl ?_
  refine oc (y := mt_196) (pc := 46) (ok_pop dX2_test_46) 47 rfl ?_
  exact oc_goto dX2_test_47 ⟨by decide, by decide⟩
theorem o_196_50 : okL gmt mt_196 50 b_196_50 := by
  refine oc (y := mt_196) (pc := 50) (ok_aload_n dX2_test_50) 51 rfl ?_
  exact oc_aretO dX2_test_51 rfl
theorem ok_196 : ∀ q ∈ pr_196, okL gmt mt_196 q.1 q.2 := pk_c o_196_0 (pk_c o_196_23 (pk_c o_196_50 (pk_n)))
theorem o_197_0 : okL gmt mt_197 0 b_197_0 := by
  refine oc (y := mt_197) (pc := 0) (ok_new (C := RX20) (T := TX20) (N := 2) (ci := 20) dX2_both_0 rfl rfl rfl nf_20 q1664 q1665 q200) 3 rfl ?_
  refine oc (y := mt_197) (pc := 3) (ok_dup dX2_both_3) 4 rfl ?_
  refine oc (y := mt_197) (pc := 4) (ok_iconst dX2_both_4 rfl ⟨by decide, by decide⟩) 5 rfl ?_
  refine oc_I (y := mt_197) (pc := 5) (vcons (y := mt_197) (pc := 5) (len := 3) (n := 2) (M := mt_199) (by decide) rfl (Or.inl rfl) rfl (ck_I dX2_both_5 ⟨by decide, by decide, by decide, by decide +kernel⟩ rfl q1666 q1667 q200 q1668) (vnil)) (hok0 rfl) (by decide) 8 rfl ?_
  refine oc (y := mt_197) (pc := 8) (ok_astore_n dX2_both_8 (by decide)) 9 rfl ?_
  refine oc (y := mt_197) (pc := 9) (ok_aload_n dX2_both_9) 10 rfl ?_
  refine oc (y := mt_197) (pc := 10) (ok_getfield dX2_both_10 (fg (own := "GardenChess$Reader") (idx := 307) (g := 21) (k := 0) (r := (RX20, TX20, 2)) rfl ⟨⟨by decide, by decide⟩, by decide⟩ (Or.inr ⟨_, q1676⟩) (Or.inl rfl) rfl (fg_nil))) 13 rfl ?_
  refine oc (y := mt_197) (pc := 13) (ok_aload_n dX2_both_13) 14 rfl ?_
  refine oc_V (y := mt_197) (pc := 14) (vcons (y := mt_197) (pc := 14) (len := 3) (n := 1) (M := mt_198) (by decide) rfl (Or.inr rfl) rfl (ck_V dX2_both_14 ⟨by decide, by decide, by decide, by decide +kernel⟩ q1687 q1689 qs54 q167 q1690) vnil) (hok0 rfl) (by decide) 17 rfl ?_
  refine oc_F (y := mt_197) (pc := 17) (vcons (y := mt_197) (pc := 17) (len := 5) (n := 2) (M := mt_42) (by decide) rfl (Or.inr rfl) rfl (ck_F (ci := 2) dX2_both_17 rfl rfl (fun G s h => h.2.2.1.2.2) (by decide) ⟨by decide, by decide, by decide +kernel⟩ q930 q933 q935 q166 q937) vnil) (hok0 rfl) 22 rfl ?_
  refine oc (y := mt_197) (pc := 22) (ok_pop dX2_both_22) 23 rfl ?_
  exact oc_fall rfl
theorem o_197_23 : okL gmt mt_197 23 b_197_23 := by
  refine oc (y := mt_197) (pc := 23) (ok_aload_n dX2_both_23) 24 rfl ?_
  refine oc (y := mt_197) (pc := 24) (ok_ldc_wS dX2_both_24 rfl (List.mem_of_getElem? (i := 60) rfl)) 27 rfl ?_
  refine oc_V (y := mt_197) (pc := 27) (vcons (y := mt_197) (pc := 27) (len := 3) (n := 2) (M := mt_185) (by decide) rfl (Or.inr rfl) rfl (ck_V dX2_both_27 ⟨by decide, by decide, by decide, by decide +kernel⟩ q925 q927 qs20 q167 q928) vnil) (hok0 rfl) (by decide) 30 rfl ?_
  refine oc_if dX2_both_30 ⟨by decide, by decide⟩ 33 rfl ?_
  refine oc (y := mt_197) (pc := 33) (ok_aload_n dX2_both_33) 34 rfl ?_
  refine oc (y := mt_197) (pc := 34) (ok_getfield dX2_both_34 (fg (own := "GardenChess$Reader") (idx := 307) (g := 21) (k := 0) (r := (RX20, TX20, 2)) rfl ⟨⟨by decide, by decide⟩, by decide⟩ (Or.inr ⟨_, q1676⟩) (Or.inl rfl) rfl (fg_nil))) 37 rfl ?_
  refine oc (y := mt_197) (pc := 37) (ok_aload_n dX2_both_37) 38 rfl ?_
  refine oc_V (y := mt_197) (pc := 38) (vcons (y := mt_197) (pc := 38) (len := 3) (n := 1) (M := mt_198) (by decide) rfl (Or.inr rfl) rfl (ck_V dX2_both_38 ⟨by decide, by decide, by decide, by decide +kernel⟩ q1687 q1689 qs54 q167 q1690) vnil) (hok0 rfl) (by decide) 41 rfl ?_
  refine oc_F (y := mt_197) (pc := 41) (vcons (y := mt_197) (pc := 41) (len := 5) (n := 2) (M := mt_42) (by decide) rfl (Or.inr rfl) rfl (ck_F (ci := 2) dX2_both_41 rfl rfl (fun G s h => h.2.2.1.2.2) (by decide) ⟨by decide, by decide, by decide +kernel⟩ q930 q933 q935 q166 q937) vnil) (hok0 rfl) 46 rfl ?_
  refine oc (y := mt_197) (pc := 46) (ok_pop dX2_both_46) 47 rfl ?_
  exact oc_goto dX2_both_47 ⟨by decide, by decide⟩
theorem o_197_50 : okL gmt mt_197 50 b_197_50 := by
  refine oc (y := mt_197) (pc := 50) (ok_aload_n dX2_both_50) 51 rfl ?_
  exact oc_aretO dX2_both_51 rfl
theorem ok_197 : ∀ q ∈ pr_197, okL gmt mt_197 q.1 q.2 := pk_c o_197_0 (pk_c o_197_23 (pk_c o_197_50 (pk_n)))
theorem o_198_0 : okL gmt mt_198 0 b_198_0 := by
  refine oc (y := mt_198) (pc := 0) (ok_aload_n dX2_fact_0) 1 rfl ?_
  refine oc_V (y := mt_198) (pc := 1) (vcons (y := mt_198) (pc := 1) (len := 3) (n := 1) (M := mt_174) (by decide) rfl (Or.inr rfl) rfl (ck_V dX2_fact_1 ⟨by decide, by decide, by decide, by decide +kernel⟩ q659 q661 qs9 q167 q662) vnil) (hok0 rfl) (by decide) 4 rfl ?_
  refine oc (y := mt_198) (pc := 4) (ok_bipush dX2_fact_4 (by decide) ⟨by decide, by decide⟩) 6 rfl ?_
  refine oc_icmp dX2_fact_6 ⟨by decide, by decide⟩ 9 rfl ?_
  refine oc (y := mt_198) (pc := 9) (ok_aload_n dX2_fact_9) 10 rfl ?_
  refine oc (y := mt_198) (pc := 10) (ok_aload_n dX2_fact_10) 11 rfl ?_
  refine oc (y := mt_198) (pc := 11) (ok_getfield dX2_fact_11 (fg (own := "GardenChess$Reader") (idx := 36) (g := 4) (k := 2) (r := (RX2, TX2, 8)) rfl ⟨⟨by decide, by decide⟩, by decide⟩ (Or.inl q377) (Or.inl rfl) rfl (fg_nil))) 14 rfl ?_
  refine oc_V (y := mt_198) (pc := 14) (vcons (y := mt_198) (pc := 14) (len := 3) (n := 2) (M := mt_192) (by decide) rfl (Or.inr rfl) rfl (ck_V dX2_fact_14 ⟨by decide, by decide, by decide, by decide +kernel⟩ q1134 q1136 qs30 q167 q1137) vnil) (hok0 rfl) (by decide) 17 rfl ?_
  refine oc (y := mt_198) (pc := 17) (ok_aload_n dX2_fact_17) 18 rfl ?_
  refine oc (y := mt_198) (pc := 18) (ok_dup dX2_fact_18) 19 rfl ?_
  refine oc (y := mt_198) (pc := 19) (ok_getfield dX2_fact_19 (fg (own := "GardenChess$Reader") (idx := 36) (g := 4) (k := 2) (r := (RX2, TX2, 8)) rfl ⟨⟨by decide, by decide⟩, by decide⟩ (Or.inl q377) (Or.inl rfl) rfl (fg_nil))) 22 rfl ?_
  refine oc (y := mt_198) (pc := 22) (ok_iconst dX2_fact_22 rfl ⟨by decide, by decide⟩) 23 rfl ?_
  refine oc (y := mt_198) (pc := 23) (ok_iadd dX2_fact_23) 24 rfl ?_
  refine oc (y := mt_198) (pc := 24) (ok_putfield dX2_fact_24 (fp (own := "GardenChess$Reader") (idx := 36) (g := 4) (k := 2) (r := (RX2, TX2, 8)) rfl ⟨⟨by decide, by decide⟩, by decide⟩ (Or.inl q377) (Or.inl rfl) rfl (Or.inl rfl) (fp_nil))) 27 rfl ?_
  refine oc (y := mt_198) (pc := 27) (ok_aload_n dX2_fact_27) 28 rfl ?_
  refine oc_V (y := mt_198) (pc := 28) (vcons (y := mt_198) (pc := 28) (len := 3) (n := 1) (M := mt_196) (by decide) rfl (Or.inr rfl) rfl (ck_V dX2_fact_28 ⟨by decide, by decide, by decide, by decide +kernel⟩ q1660 q1662 qs52 q167 q1663) vnil) (hok0 rfl) (by decide) 31 rfl ?_
  refine oc (y := mt_198) (pc := 31) (ok_astore_n dX2_fact_31 (by decide)) 32 rfl ?_
  refine oc (y := mt_198) (pc := 32) (ok_aload_n dX2_fact_32) 33 rfl ?_
  refine oc (y := mt_198) (pc := 33) (ok_bipush dX2_fact_33 (by decide) ⟨by decide, by decide⟩) 35 rfl ?_
  refine oc_V (y := mt_198) (pc := 35) (vcons (y := mt_198) (pc := 35) (len := 3) (n := 2) (M := mt_180) (by decide) rfl (Or.inr rfl) rfl (ck_V dX2_fact_35 ⟨by decide, by decide, by decide, by decide +kernel⟩ q780 q782 qs15 q167 q783) vnil) (hok0 rfl) (by decide) 38 rfl ?_
  refine oc (y := mt_198) (pc := 38) (ok_aload_n dX2_fact_38) 39 rfl ?_
  refine oc (y := mt_198) (pc := 39) (ok_dup dX2_fact_39) 40 rfl ?_
  refine oc (y := mt_198) (pc := 40) (ok_getfield dX2_fact_40 (fg (own := "GardenChess$Reader") (idx := 119) (g := 4) (k := 4) (r := (RX2, TX2, 8)) rfl ⟨⟨by decide, by decide⟩, by decide⟩ (Or.inl q379) (Or.inl rfl) rfl (fg_nil))) 43 rfl ?_
  refine oc (y := mt_198) (pc := 43) (ok_iconst dX2_fact_43 rfl ⟨by decide, by decide⟩) 44 rfl ?_
  refine oc (y := mt_198) (pc := 44) (ok_isub dX2_fact_44) 45 rfl ?_
  refine oc (y := mt_198) (pc := 45) (ok_putfield dX2_fact_45 (fp (own := "GardenChess$Reader") (idx := 119) (g := 4) (k := 4) (r := (RX2, TX2, 8)) rfl ⟨⟨by decide, by decide⟩, by decide⟩ (Or.inl q379) (Or.inl rfl) rfl (Or.inl rfl) (fp_nil))) 48 rfl ?_
  refine oc (y := mt_198) (pc := 48) (ok_aload_n dX2_fact_48) 49 rfl ?_
  exact oc_aretO dX2_fact_49 rfl
theorem o_198_50 : okL gmt mt_198 50 b_198_50 := by
  refine oc (y := mt_198) (pc := 50) (ok_aload_n dX2_fact_50) 51 rfl ?_
  refine oc (y := mt_198) (pc := 51) (ok_ldc_wS dX2_fact_51 rfl (List.mem_of_getElem? (i := 61) rfl)) 54 rfl ?_
  refine oc_V (y := mt_198) (pc := 54) (vcons (y := mt_198) (pc := 54) (len := 3) (n := 2) (M := mt_185) (by decide) rfl (Or.inr rfl) rfl (ck_V dX2_fact_54 ⟨by decide, by decide, by decide, by decide +kernel⟩ q925 q927 qs20 q167 q928) vnil) (hok0 rfl) (by decide) 57 rfl ?_
  refine oc_if dX2_fact_57 ⟨by decide, by decide⟩ 60 rfl ?_
  refine oc (y := mt_198) (pc := 60) (ok_aload_n dX2_fact_60) 61 rfl ?_
  refine oc (y := mt_198) (pc := 61) (ok_aload_n dX2_fact_61) 62 rfl ?_
  refine oc (y := mt_198) (pc := 62) (ok_getfield dX2_fact_62 (fg (own := "GardenChess$Reader") (idx := 61) (g := 4) (k := 3) (r := (RX2, TX2, 8)) rfl ⟨⟨by decide, by decide⟩, by decide⟩ (Or.inl q378) (Or.inl rfl) rfl (fg_nil))) 65 rfl ?_
  refine oc_V (y := mt_198) (pc := 65) (vcons (y := mt_198) (pc := 65) (len := 3) (n := 2) (M := mt_192) (by decide) rfl (Or.inr rfl) rfl (ck_V dX2_fact_65 ⟨by decide, by decide, by decide, by decide +kernel⟩ q1134 q1136 qs30 q167 q1137) vnil) (hok0 rfl) (by decide) 68 rfl ?_
  refine oc (y := mt_198) (pc := 68) (ok_new (C := RX21) (T := TX21) (N := 1) (ci := 21) dX2_fact_68 rfl rfl rfl nf_21 q1692 q1693 q201) 71 rfl ?_
  refine oc (y := mt_198) (pc := 71) (ok_dup dX2_fact_71) 72 rfl ?_
  refine oc (y := mt_198) (pc := 72) (ok_aload_n dX2_fact_72) 73 rfl ?_
  refine oc_V (y := mt_198) (pc := 73) (vcons (y := mt_198) (pc := 73) (len := 3) (n := 1) (M := mt_198) (by decide) rfl (Or.inr rfl) rfl (ck_V dX2_fact_73 ⟨by decide, by decide, by decide, by decide +kernel⟩ q1687 q1689 qs54 q167 q1690) vnil) (hok0 rfl) (by decide) 76 rfl ?_
  refine oc_I (y := mt_198) (pc := 76) (vcons (y := mt_198) (pc := 76) (len := 3) (n := 2) (M := mt_201) (by decide) rfl (Or.inl rfl) rfl (ck_I dX2_fact_76 ⟨by decide, by decide, by decide, by decide +kernel⟩ rfl q1694 q1695 q201 q1696) (vnil)) (hok0 rfl) (by decide) 79 rfl ?_
  refine oc (y := mt_198) (pc := 79) (ok_astore_n dX2_fact_79 (by decide)) 80 rfl ?_
  refine oc (y := mt_198) (pc := 80) (ok_aload_n dX2_fact_80) 81 rfl ?_
  refine oc (y := mt_198) (pc := 81) (ok_dup dX2_fact_81) 82 rfl ?_
  refine oc (y := mt_198) (pc := 82) (ok_getfield dX2_fact_82 (fg (own := "GardenChess$Reader") (idx := 119) (g := 4) (k := 4) (r := (RX2, TX2, 8)) rfl ⟨⟨by decide, by decide⟩, by decide⟩ (Or.inl q379) (Or.inl rfl) rfl (fg_nil))) 85 rfl ?_
  refine oc (y := mt_198) (pc := 85) (ok_iconst dX2_fact_85 rfl ⟨by decide, by decide⟩) 86 rfl ?_
  refine oc (y := mt_198) (pc := 86) (ok_isub dX2_fact_86) 87 rfl ?_
  refine oc (y := mt_198) (pc := 87) (ok_putfield dX2_fact_87 (fp (own := "GardenChess$Reader") (idx := 119) (g := 4) (k := 4) (r := (RX2, TX2, 8)) rfl ⟨⟨by decide, by decide⟩, by decide⟩ (Or.inl q379) (Or.inl rfl) rfl (Or.inl rfl) (fp_nil))) 90 rfl ?_
  refine oc (y := mt_198) (pc := 90) (ok_aload_n dX2_fact_90) 91 rfl ?_
  exact oc_aretO dX2_fact_91 rfl
theorem o_198_92 : okL gmt mt_198 92 b_198_92 := by
  refine oc (y := mt_198) (pc := 92) (ok_aload_n dX2_fact_92) 93 rfl ?_
  refine oc (y := mt_198) (pc := 93) (ok_ldc_wS dX2_fact_93 rfl (List.mem_of_getElem? (i := 62) rfl)) 96 rfl ?_
  refine oc_V (y := mt_198) (pc := 96) (vcons (y := mt_198) (pc := 96) (len := 3) (n := 2) (M := mt_185) (by decide) rfl (Or.inr rfl) rfl (ck_V dX2_fact_96 ⟨by decide, by decide, by decide, by decide +kernel⟩ q925 q927 qs20 q167 q928) vnil) (hok0 rfl) (by decide) 99 rfl ?_
  refine oc_if dX2_fact_99 ⟨by decide, by decide⟩ 102 rfl ?_
  refine oc (y := mt_198) (pc := 102) (ok_new (C := RX22) (T := TX22) (N := 0) (ci := 22) dX2_fact_102 rfl rfl rfl nf_22 q1703 q1704 q202) 105 rfl ?_
  refine oc (y := mt_198) (pc := 105) (ok_dup dX2_fact_105) 106 rfl ?_
  refine oc_I (y := mt_198) (pc := 106) (vcons (y := mt_198) (pc := 106) (len := 3) (n := 1) (M := mt_203) (by decide) rfl (Or.inl rfl) rfl (ck_IN dX2_fact_106 ⟨by decide, by decide, by decide, by decide +kernel⟩ rfl q1705 q1706 q202 q1707) (vnil)) (hok0 rfl) (by decide) 109 rfl ?_
  exact oc_aretO dX2_fact_109 rfl
theorem o_198_110 : okL gmt mt_198 110 b_198_110 := by
  refine oc (y := mt_198) (pc := 110) (ok_aload_n dX2_fact_110) 111 rfl ?_
  refine oc_V (y := mt_198) (pc := 111) (vcons (y := mt_198) (pc := 111) (len := 3) (n := 1) (M := mt_188) (by decide) rfl (Or.inr rfl) rfl (ck_V dX2_fact_111 ⟨by decide, by decide, by decide, by decide +kernel⟩ q1077 q1079 qs26 q167 q1080) vnil) (hok0 rfl) (by decide) 114 rfl ?_
  refine oc (y := mt_198) (pc := 114) (ok_astore_n dX2_fact_114 (by decide)) 115 rfl ?_
  refine oc (y := mt_198) (pc := 115) (ok_aload_n dX2_fact_115) 116 rfl ?_
  refine oc_V (y := mt_198) (pc := 116) (vcons (y := mt_198) (pc := 116) (len := 3) (n := 1) (M := mt_174) (by decide) rfl (Or.inr rfl) rfl (ck_V dX2_fact_116 ⟨by decide, by decide, by decide, by decide +kernel⟩ q659 q661 qs9 q167 q662) vnil) (hok0 rfl) (by decide) 119 rfl ?_
  refine oc (y := mt_198) (pc := 119) (ok_istore_n dX2_fact_119 (by decide)) 120 rfl ?_
  refine oc (y := mt_198) (pc := 120) (ok_iload_n dX2_fact_120) 121 rfl ?_
  refine oc (y := mt_198) (pc := 121) (ok_bipush dX2_fact_121 (by decide) ⟨by decide, by decide⟩) 123 rfl ?_
  refine oc_icmp dX2_fact_123 ⟨by decide, by decide⟩ 126 rfl ?_
  refine oc (y := mt_198) (pc := 126) (ok_iload_n dX2_fact_126) 127 rfl ?_
  refine oc (y := mt_198) (pc := 127) (ok_bipush dX2_fact_127 (by decide) ⟨by decide, by decide⟩) 129 rfl ?_
  refine oc_icmp dX2_fact_129 ⟨by decide, by decide⟩ 132 rfl ?_
  refine oc (y := mt_198) (pc := 132) (ok_iload_n dX2_fact_132) 133 rfl ?_
  refine oc (y := mt_198) (pc := 133) (ok_bipush dX2_fact_133 (by decide) ⟨by decide, by decide⟩) 135 rfl ?_
  refine oc_icmp dX2_fact_135 ⟨by decide, by decide⟩ 138 rfl ?_
  refine oc (y := mt_198) (pc := 138) (ok_aload_n dX2_fact_138) 139 rfl ?_
  refine oc (y := mt_198) (pc := 139) (ok_iconst dX2_fact_139 rfl ⟨by decide, by decide⟩) 140 rfl ?_
  refine oc (y := mt_198) (pc := 140) (ok_aload_n dX2_fact_140) 141 rfl ?_
  refine oc (y := mt_198) (pc := 141) (ok_getfield dX2_fact_141 (fg (own := "GardenChess$Reader") (idx := 36) (g := 4) (k := 2) (r := (RX2, TX2, 8)) rfl ⟨⟨by decide, by decide⟩, by decide⟩ (Or.inl q377) (Or.inl rfl) rfl (fg_nil))) 144 rfl ?_
  refine oc_V (y := mt_198) (pc := 144) (vcons (y := mt_198) (pc := 144) (len := 3) (n := 3) (M := mt_176) (by decide) rfl (Or.inr rfl) rfl (ck_V dX2_fact_144 ⟨by decide, by decide, by decide, by decide +kernel⟩ q670 q672 qs11 q167 q673) vnil) (hok0 rfl) (by decide) 147 rfl ?_
  exact oc_throw dX2_fact_147 rfl
theorem o_198_148 : okL gmt mt_198 148 b_198_148 := by
  refine oc (y := mt_198) (pc := 148) (ok_aload_n dX2_fact_148) 149 rfl ?_
  refine oc (y := mt_198) (pc := 149) (ok_dup dX2_fact_149) 150 rfl ?_
  refine oc (y := mt_198) (pc := 150) (ok_getfield dX2_fact_150 (fg (own := "GardenChess$Reader") (idx := 36) (g := 4) (k := 2) (r := (RX2, TX2, 8)) rfl ⟨⟨by decide, by decide⟩, by decide⟩ (Or.inl q377) (Or.inl rfl) rfl (fg_nil))) 153 rfl ?_
  refine oc (y := mt_198) (pc := 153) (ok_iconst dX2_fact_153 rfl ⟨by decide, by decide⟩) 154 rfl ?_
  refine oc (y := mt_198) (pc := 154) (ok_iadd dX2_fact_154) 155 rfl ?_
  refine oc (y := mt_198) (pc := 155) (ok_putfield dX2_fact_155 (fp (own := "GardenChess$Reader") (idx := 36) (g := 4) (k := 2) (r := (RX2, TX2, 8)) rfl ⟨⟨by decide, by decide⟩, by decide⟩ (Or.inl q377) (Or.inl rfl) rfl (Or.inl rfl) (fp_nil))) 158 rfl ?_
  refine oc (y := mt_198) (pc := 158) (ok_new (C := RX23) (T := TX23) (N := 3) (ci := 23) dX2_fact_158 rfl rfl rfl nf_23 q1710 q1711 q203) 161 rfl ?_
  refine oc (y := mt_198) (pc := 161) (ok_dup dX2_fact_161) 162 rfl ?_
  refine oc (y := mt_198) (pc := 162) (ok_aload_n dX2_fact_162) 163 rfl ?_
  refine oc (y := mt_198) (pc := 163) (ok_iload_n dX2_fact_163) 164 rfl ?_
  refine oc (y := mt_198) (pc := 164) (ok_aload_n dX2_fact_164) 165 rfl ?_
  refine oc_V (y := mt_198) (pc := 165) (vcons (y := mt_198) (pc := 165) (len := 3) (n := 1) (M := mt_188) (by decide) rfl (Or.inr rfl) rfl (ck_V dX2_fact_165 ⟨by decide, by decide, by decide, by decide +kernel⟩ q1077 q1079 qs26 q167 q1080) vnil) (hok0 rfl) (by decide) 168 rfl ?_
  refine oc_I (y := mt_198) (pc := 168) (vcons (y := mt_198) (pc := 168) (len := 3) (n := 4) (M := mt_205) (by decide) rfl (Or.inl rfl) rfl (ck_I dX2_fact_168 ⟨by decide, by decide, by decide, by decide +kernel⟩ rfl q1712 q1713 q203 q1714) (vnil)) (hok0 rfl) (by decide) 171 rfl ?_
  exact oc_aretO dX2_fact_171 rfl
theorem ok_198 : ∀ q ∈ pr_198, okL gmt mt_198 q.1 q.2 := pk_c o_198_0 (pk_c o_198_50 (pk_c o_198_92 (pk_c o_198_110 (pk_c o_198_148 (pk_n)))))
theorem o_199_0 : okL gmt mt_199 0 b_199_0 := by
  refine oc (y := mt_199) (pc := 0) (ok_aload_n dX20_init_0) 1 rfl ?_
  refine oc_I (y := mt_199) (pc := 1) (vcons (y := mt_199) (pc := 1) (len := 3) (n := 1) (M := mt_169) (by decide) rfl (Or.inl rfl) rfl (ck_IN dX20_init_1 ⟨by decide, by decide, by decide, by decide +kernel⟩ rfl q1669 q1670 q199 q1671) (vnil)) (hok0 rfl) (by decide) 4 rfl ?_
  refine oc (y := mt_199) (pc := 4) (ok_aload_n dX20_init_4) 5 rfl ?_
  refine oc (y := mt_199) (pc := 5) (ok_new (C := RJ2) (T := TJ2) (N := 3) (ci := 2) dX20_init_5 rfl rfl rfl nf_2 q1673 q219 q166) 8 rfl ?_
  refine oc (y := mt_199) (pc := 8) (ok_dup dX20_init_8) 9 rfl ?_
  refine oc (y := mt_199) (pc := 9) (ok_iconst dX20_init_9 rfl ⟨by decide, by decide⟩) 10 rfl ?_
  refine oc_I (y := mt_199) (pc := 10) (vcons (y := mt_199) (pc := 10) (len := 3) (n := 2) (M := mt_38) (by decide) rfl (Or.inl rfl) rfl (ck_I dX20_init_10 ⟨by decide, by decide, by decide, by decide +kernel⟩ rfl q1674 q221 q166 q222) (vnil)) (hok0 rfl) (by decide) 13 rfl ?_
  refine oc (y := mt_199) (pc := 13) (ok_putfield dX20_init_13 (fp (own := "GardenChess$Facts") (idx := 12) (g := 21) (k := 0) (r := (RX20, TX20, 2)) rfl ⟨⟨by decide, by decide⟩, by decide⟩ (Or.inl q1675) (Or.inl rfl) rfl (Or.inr ⟨rfl, rfl, rfl, q1675⟩) (fp_nil))) 16 rfl ?_
  refine oc (y := mt_199) (pc := 16) (ok_aload_n dX20_init_16) 17 rfl ?_
  refine oc (y := mt_199) (pc := 17) (ok_iload_n dX20_init_17) 18 rfl ?_
  refine oc (y := mt_199) (pc := 18) (ok_putfield dX20_init_18 (fp (own := "GardenChess$Facts") (idx := 18) (g := 21) (k := 1) (r := (RX20, TX20, 2)) rfl ⟨⟨by decide, by decide⟩, by decide⟩ (Or.inl q1677) (Or.inl rfl) rfl (Or.inr ⟨rfl, rfl, rfl, q1677⟩) (fp_nil))) 21 rfl ?_
  exact oc_ret dX20_init_21 rfl
theorem ok_199 : ∀ q ∈ pr_199, okL gmt mt_199 q.1 q.2 := pk_c o_199_0 (pk_n)
theorem o_200_0 : okL gmt mt_200 0 b_200_0 := by
  refine oc (y := mt_200) (pc := 0) (ok_iconst dX20_holds_0 rfl ⟨by decide, by decide⟩) 1 rfl ?_
  refine oc (y := mt_200) (pc := 1) (ok_istore_n dX20_holds_1 (by decide)) 2 rfl ?_
  exact oc_fall rfl
theorem o_200_2 : okL gmt mt_200 2 b_200_2 := by
  refine oc (y := mt_200) (pc := 2) (ok_iload_n dX20_holds_2) 3 rfl ?_
  refine oc (y := mt_200) (pc := 3) (ok_aload_n dX20_holds_3) 4 rfl ?_
  refine oc (y := mt_200) (pc := 4) (ok_getfield dX20_holds_4 (fg (own := "GardenChess$Facts") (idx := 12) (g := 21) (k := 0) (r := (RX20, TX20, 2)) rfl ⟨⟨by decide, by decide⟩, by decide⟩ (Or.inl q1675) (Or.inl rfl) rfl (fg_nil))) 7 rfl ?_
  refine oc_F (y := mt_200) (pc := 7) (vcons (y := mt_200) (pc := 7) (len := 5) (n := 1) (M := mt_39) (by decide) rfl (Or.inr rfl) rfl (ck_F (ci := 2) dX20_holds_7 rfl rfl (fun G s h => h.2.2.1.1) (by decide) ⟨by decide, by decide, by decide +kernel⟩ q1763 q504 q506 q166 q508) vnil) (hok0 rfl) 12 rfl ?_
  refine oc_icmp dX20_holds_12 ⟨by decide, by decide⟩ 15 rfl ?_
  refine oc (y := mt_200) (pc := 15) (ok_aload_n dX20_holds_15) 16 rfl ?_
  refine oc (y := mt_200) (pc := 16) (ok_getfield dX20_holds_16 (fg (own := "GardenChess$Facts") (idx := 12) (g := 21) (k := 0) (r := (RX20, TX20, 2)) rfl ⟨⟨by decide, by decide⟩, by decide⟩ (Or.inl q1675) (Or.inl rfl) rfl (fg_nil))) 19 rfl ?_
  refine oc (y := mt_200) (pc := 19) (ok_iload_n dX20_holds_19) 20 rfl ?_
  refine oc_F (y := mt_200) (pc := 20) (vcons (y := mt_200) (pc := 20) (len := 5) (n := 2) (M := mt_40) (by decide) rfl (Or.inr rfl) rfl (ck_F (ci := 2) dX20_holds_20 rfl rfl (fun G s h => h.2.2.1.2.1) (by decide) ⟨by decide, by decide, by decide +kernel⟩ q1765 q521 q523 q166 q525) vnil) (hok0 rfl) 25 rfl ?_
  refine oc (y := mt_200) (pc := 25) (ok_checkcast (E := "GardenChess$Test") dX20_holds_25 q1766 (ct (by decide) rfl (Or.inr q2802) (ct (by decide) rfl (Or.inr q2803) (ct (by decide) rfl (Or.inr q2801) (ct (by decide) rfl (Or.inr q2804) (ct_nil)))))) 28 rfl ?_
  refine oc (y := mt_200) (pc := 28) (ok_aload_n dX20_holds_28) 29 rfl ?_
  refine oc_V (y := mt_200) (pc := 29) (vcons (y := mt_200) (pc := 29) (len := 3) (n := 2) (M := mt_204) (by decide) rfl (Or.inr rfl) rfl (ck_A (C := "GardenChess$All") (x := ⟨"GardenChess$Test", "holds", "(LGardenChess$Moment;)Z"⟩) dX20_holds_29 (by decide) ⟨by decide, by decide, by decide +kernel⟩ q1767 q1755 q1756 q1757 q202 q1754 q1758) (vcons (y := mt_200) (pc := 29) (len := 3) (n := 2) (M := mt_200) (by decide) rfl (Or.inr rfl) rfl (ck_A (C := "GardenChess$Facts") (x := ⟨"GardenChess$Test", "holds", "(LGardenChess$Moment;)Z"⟩) dX20_holds_29 (by decide) ⟨by decide, by decide, by decide +kernel⟩ q1767 q1755 q1759 q1760 q200 q1754 q1761) (vcons (y := mt_200) (pc := 29) (len := 3) (n := 2) (M := mt_202) (by decide) rfl (Or.inr rfl) rfl (ck_A (C := "GardenChess$Not") (x := ⟨"GardenChess$Test", "holds", "(LGardenChess$Moment;)Z"⟩) dX20_holds_29 (by decide) ⟨by decide, by decide, by decide +kernel⟩ q1767 q1755 q1774 q1768 q201 q1754 q1769) (vcons (y := mt_200) (pc := 29) (len := 3) (n := 2) (M := mt_206) (by decide) rfl (Or.inr rfl) rfl (ck_A (C := "GardenChess$Than") (x := ⟨"GardenChess$Test", "holds", "(LGardenChess$Moment;)Z"⟩) dX20_holds_29 (by decide) ⟨by decide, by decide, by decide +kernel⟩ q1767 q1755 q1775 q1771 q203 q1754 q1772) (vnil))))) (hok0 rfl) (by decide) 32 rfl ?_
  refine oc (y := mt_200) (pc := 32) (ok_aload_n dX20_holds_32) 33 rfl ?_
  refine oc (y := mt_200) (pc := 33) (ok_getfield dX20_holds_33 (fg (own := "GardenChess$Facts") (idx := 18) (g := 21) (k := 1) (r := (RX20, TX20, 2)) rfl ⟨⟨by decide, by decide⟩, by decide⟩ (Or.inl q1677) (Or.inl rfl) rfl (fg_nil))) 36 rfl ?_
  refine oc_icmp dX20_holds_36 ⟨by decide, by decide⟩ 39 rfl ?_
  refine oc (y := mt_200) (pc := 39) (ok_aload_n dX20_holds_39) 40 rfl ?_
  refine oc (y := mt_200) (pc := 40) (ok_getfield dX20_holds_40 (fg (own := "GardenChess$Facts") (idx := 18) (g := 21) (k := 1) (r := (RX20, TX20, 2)) rfl ⟨⟨by decide, by decide⟩, by decide⟩ (Or.inl q1677) (Or.inl rfl) rfl (fg_nil))) 43 rfl ?_
  refine oc_if dX20_holds_43 ⟨by decide, by decide⟩ 46 rfl ?_
  refine oc (y := mt_200) (pc := 46) (ok_iconst dX20_holds_46 rfl ⟨by decide, by decide⟩) 47 rfl ?_
  exact oc_goto dX20_holds_47 ⟨by decide, by decide⟩
theorem o_200_50 : okL gmt mt_200 50 b_200_50 := by
  refine oc (y := mt_200) (pc := 50) (ok_iconst dX20_holds_50 rfl ⟨by decide, by decide⟩) 51 rfl ?_
  exact oc_fall rfl
theorem o_200_51 : okL gmt mt_200 51 b_200_51 := by
  exact oc_zret dX20_holds_51 rfl
theorem o_200_52 : okL gmt mt_200 52 b_200_52 := by
  refine oc (y := mt_200) (pc := 52) (ok_iinc dX20_holds_52 (by decide)) 55 rfl ?_
  exact oc_goto dX20_holds_55 ⟨by decide, by decide⟩
theorem o_200_58 : okL gmt mt_200 58 b_200_58 := by
  refine oc (y := mt_200) (pc := 58) (ok_aload_n dX20_holds_58) 59 rfl ?_
  refine oc (y := mt_200) (pc := 59) (ok_getfield dX20_holds_59 (fg (own := "GardenChess$Facts") (idx := 18) (g := 21) (k := 1) (r := (RX20, TX20, 2)) rfl ⟨⟨by decide, by decide⟩, by decide⟩ (Or.inl q1677) (Or.inl rfl) rfl (fg_nil))) 62 rfl ?_
  exact oc_zret dX20_holds_62 rfl
theorem ok_200 : ∀ q ∈ pr_200, okL gmt mt_200 q.1 q.2 := pk_c o_200_0 (pk_c o_200_2 (pk_c o_200_50 (pk_c o_200_51 (pk_c o_200_52 (pk_c o_200_58 (pk_n))))))
theorem o_201_0 : okL gmt mt_201 0 b_201_0 := by
  refine oc (y := mt_201) (pc := 0) (ok_aload_n dX21_init_0) 1 rfl ?_
  refine oc_I (y := mt_201) (pc := 1) (vcons (y := mt_201) (pc := 1) (len := 3) (n := 1) (M := mt_169) (by decide) rfl (Or.inl rfl) rfl (ck_IN dX21_init_1 ⟨by decide, by decide, by decide, by decide +kernel⟩ rfl q1697 q1670 q199 q1671) (vnil)) (hok0 rfl) (by decide) 4 rfl ?_
  refine oc (y := mt_201) (pc := 4) (ok_aload_n dX21_init_4) 5 rfl ?_
  refine oc (y := mt_201) (pc := 5) (ok_aload_n dX21_init_5) 6 rfl ?_
  refine oc (y := mt_201) (pc := 6) (ok_putfield dX21_init_6 (fp (own := "GardenChess$Not") (idx := 7) (g := 22) (k := 0) (r := (RX21, TX21, 1)) rfl ⟨⟨by decide, by decide⟩, by decide⟩ (Or.inl q1698) (Or.inl rfl) rfl (Or.inr ⟨rfl, rfl, rfl, q1698⟩) (fp_nil))) 9 rfl ?_
  exact oc_ret dX21_init_9 rfl
theorem ok_201 : ∀ q ∈ pr_201, okL gmt mt_201 q.1 q.2 := pk_c o_201_0 (pk_n)
theorem o_202_0 : okL gmt mt_202 0 b_202_0 := by
  refine oc (y := mt_202) (pc := 0) (ok_aload_n dX21_holds_0) 1 rfl ?_
  refine oc (y := mt_202) (pc := 1) (ok_getfield dX21_holds_1 (fg (own := "GardenChess$Not") (idx := 7) (g := 22) (k := 0) (r := (RX21, TX21, 1)) rfl ⟨⟨by decide, by decide⟩, by decide⟩ (Or.inl q1698) (Or.inl rfl) rfl (fg_nil))) 4 rfl ?_
  refine oc (y := mt_202) (pc := 4) (ok_aload_n dX21_holds_4) 5 rfl ?_
  refine oc_V (y := mt_202) (pc := 5) (vcons (y := mt_202) (pc := 5) (len := 3) (n := 2) (M := mt_204) (by decide) rfl (Or.inr rfl) rfl (ck_A (C := "GardenChess$All") (x := ⟨"GardenChess$Test", "holds", "(LGardenChess$Moment;)Z"⟩) dX21_holds_5 (by decide) ⟨by decide, by decide, by decide +kernel⟩ q1770 q1755 q1756 q1757 q202 q1754 q1758) (vcons (y := mt_202) (pc := 5) (len := 3) (n := 2) (M := mt_200) (by decide) rfl (Or.inr rfl) rfl (ck_A (C := "GardenChess$Facts") (x := ⟨"GardenChess$Test", "holds", "(LGardenChess$Moment;)Z"⟩) dX21_holds_5 (by decide) ⟨by decide, by decide, by decide +kernel⟩ q1770 q1755 q1759 q1760 q200 q1754 q1761) (vcons (y := mt_202) (pc := 5) (len := 3) (n := 2) (M := mt_202) (by decide) rfl (Or.inr rfl) rfl (ck_A (C := "GardenChess$Not") (x := ⟨"GardenChess$Test", "holds", "(LGardenChess$Moment;)Z"⟩) dX21_holds_5 (by decide) ⟨by decide, by decide, by decide +kernel⟩ q1770 q1755 q1774 q1768 q201 q1754 q1769) (vcons (y := mt_202) (pc := 5) (len := 3) (n := 2) (M := mt_206) (by decide) rfl (Or.inr rfl) rfl (ck_A (C := "GardenChess$Than") (x := ⟨"GardenChess$Test", "holds", "(LGardenChess$Moment;)Z"⟩) dX21_holds_5 (by decide) ⟨by decide, by decide, by decide +kernel⟩ q1770 q1755 q1775 q1771 q203 q1754 q1772) (vnil))))) (hok0 rfl) (by decide) 8 rfl ?_
  refine oc_if dX21_holds_8 ⟨by decide, by decide⟩ 11 rfl ?_
  refine oc (y := mt_202) (pc := 11) (ok_iconst dX21_holds_11 rfl ⟨by decide, by decide⟩) 12 rfl ?_
  exact oc_goto dX21_holds_12 ⟨by decide, by decide⟩
theorem o_202_15 : okL gmt mt_202 15 b_202_15 := by
  refine oc (y := mt_202) (pc := 15) (ok_iconst dX21_holds_15 rfl ⟨by decide, by decide⟩) 16 rfl ?_
  exact oc_fall rfl
theorem o_202_16 : okL gmt mt_202 16 b_202_16 := by
  exact oc_zret dX21_holds_16 rfl
theorem ok_202 : ∀ q ∈ pr_202, okL gmt mt_202 q.1 q.2 := pk_c o_202_0 (pk_c o_202_15 (pk_c o_202_16 (pk_n)))
theorem o_203_0 : okL gmt mt_203 0 b_203_0 := by
  refine oc (y := mt_203) (pc := 0) (ok_aload_n dX22_init_0) 1 rfl ?_
  refine oc_I (y := mt_203) (pc := 1) (vcons (y := mt_203) (pc := 1) (len := 3) (n := 1) (M := mt_169) (by decide) rfl (Or.inl rfl) rfl (ck_IN dX22_init_1 ⟨by decide, by decide, by decide, by decide +kernel⟩ rfl q1708 q1670 q199 q1671) (vnil)) (hok0 rfl) (by decide) 4 rfl ?_
  exact oc_ret dX22_init_4 rfl
theorem ok_203 : ∀ q ∈ pr_203, okL gmt mt_203 q.1 q.2 := pk_c o_203_0 (pk_n)
theorem o_204_0 : okL gmt mt_204 0 b_204_0 := by
  refine oc (y := mt_204) (pc := 0) (ok_iconst dX22_holds_0 rfl ⟨by decide, by decide⟩) 1 rfl ?_
  exact oc_zret dX22_holds_1 rfl
theorem ok_204 : ∀ q ∈ pr_204, okL gmt mt_204 q.1 q.2 := pk_c o_204_0 (pk_n)
theorem o_205_0 : okL gmt mt_205 0 b_205_0 := by
  refine oc (y := mt_205) (pc := 0) (ok_aload_n dX23_init_0) 1 rfl ?_
  refine oc_I (y := mt_205) (pc := 1) (vcons (y := mt_205) (pc := 1) (len := 3) (n := 1) (M := mt_169) (by decide) rfl (Or.inl rfl) rfl (ck_IN dX23_init_1 ⟨by decide, by decide, by decide, by decide +kernel⟩ rfl q1715 q1670 q199 q1671) (vnil)) (hok0 rfl) (by decide) 4 rfl ?_
  refine oc (y := mt_205) (pc := 4) (ok_aload_n dX23_init_4) 5 rfl ?_
  refine oc (y := mt_205) (pc := 5) (ok_aload_n dX23_init_5) 6 rfl ?_
  refine oc (y := mt_205) (pc := 6) (ok_putfield dX23_init_6 (fp (own := "GardenChess$Than") (idx := 7) (g := 24) (k := 0) (r := (RX23, TX23, 3)) rfl ⟨⟨by decide, by decide⟩, by decide⟩ (Or.inl q1716) (Or.inl rfl) rfl (Or.inr ⟨rfl, rfl, rfl, q1716⟩) (fp_nil))) 9 rfl ?_
  refine oc (y := mt_205) (pc := 9) (ok_aload_n dX23_init_9) 10 rfl ?_
  refine oc (y := mt_205) (pc := 10) (ok_iload_n dX23_init_10) 11 rfl ?_
  refine oc (y := mt_205) (pc := 11) (ok_putfield dX23_init_11 (fp (own := "GardenChess$Than") (idx := 13) (g := 24) (k := 2) (r := (RX23, TX23, 3)) rfl ⟨⟨by decide, by decide⟩, by decide⟩ (Or.inl q1718) (Or.inl rfl) rfl (Or.inr ⟨rfl, rfl, rfl, q1718⟩) (fp_nil))) 14 rfl ?_
  refine oc (y := mt_205) (pc := 14) (ok_aload_n dX23_init_14) 15 rfl ?_
  refine oc (y := mt_205) (pc := 15) (ok_aload_n dX23_init_15) 16 rfl ?_
  refine oc (y := mt_205) (pc := 16) (ok_putfield dX23_init_16 (fp (own := "GardenChess$Than") (idx := 17) (g := 24) (k := 1) (r := (RX23, TX23, 3)) rfl ⟨⟨by decide, by decide⟩, by decide⟩ (Or.inl q1717) (Or.inl rfl) rfl (Or.inr ⟨rfl, rfl, rfl, q1717⟩) (fp_nil))) 19 rfl ?_
  exact oc_ret dX23_init_19 rfl
theorem ok_205 : ∀ q ∈ pr_205, okL gmt mt_205 q.1 q.2 := pk_c o_205_0 (pk_n)
theorem o_206_0 : okL gmt mt_206 0 b_206_0 := by
  refine oc (y := mt_206) (pc := 0) (ok_aload_n dX23_holds_0) 1 rfl ?_
  refine oc (y := mt_206) (pc := 1) (ok_getfield dX23_holds_1 (fg (own := "GardenChess$Than") (idx := 7) (g := 24) (k := 0) (r := (RX23, TX23, 3)) rfl ⟨⟨by decide, by decide⟩, by decide⟩ (Or.inl q1716) (Or.inl rfl) rfl (fg_nil))) 4 rfl ?_
  refine oc (y := mt_206) (pc := 4) (ok_aload_n dX23_holds_4) 5 rfl ?_
  refine oc_V (y := mt_206) (pc := 5) (vcons (y := mt_206) (pc := 5) (len := 3) (n := 2) (M := mt_163) (by decide) rfl (Or.inr rfl) rfl (ck_A (C := "GardenChess$Asked") (x := ⟨"GardenChess$Value", "at", "(LGardenChess$Moment;)J"⟩) dX23_holds_5 (by decide) ⟨by decide, by decide, by decide +kernel⟩ q1773 q1498 q1499 q1500 q195 q1497 q1501) (vcons (y := mt_206) (pc := 5) (len := 3) (n := 2) (M := mt_156) (by decide) rfl (Or.inr rfl) rfl (ck_A (C := "GardenChess$Chain") (x := ⟨"GardenChess$Value", "at", "(LGardenChess$Moment;)J"⟩) dX23_holds_5 (by decide) ⟨by decide, by decide, by decide +kernel⟩ q1773 q1498 q1513 q1514 q190 q1497 q1515) (vcons (y := mt_206) (pc := 5) (len := 3) (n := 2) (M := mt_161) (by decide) rfl (Or.inr rfl) rfl (ck_A (C := "GardenChess$Fixed") (x := ⟨"GardenChess$Value", "at", "(LGardenChess$Moment;)J"⟩) dX23_holds_5 (by decide) ⟨by decide, by decide, by decide +kernel⟩ q1773 q1498 q1553 q1520 q194 q1497 q1521) (vcons (y := mt_206) (pc := 5) (len := 3) (n := 2) (M := mt_165) (by decide) rfl (Or.inr rfl) rfl (ck_A (C := "GardenChess$Looked") (x := ⟨"GardenChess$Value", "at", "(LGardenChess$Moment;)J"⟩) dX23_holds_5 (by decide) ⟨by decide, by decide, by decide +kernel⟩ q1773 q1498 q1554 q1522 q196 q1497 q1523) (vcons (y := mt_206) (pc := 5) (len := 3) (n := 2) (M := mt_159) (by decide) rfl (Or.inr rfl) rfl (ck_A (C := "GardenChess$Pair") (x := ⟨"GardenChess$Value", "at", "(LGardenChess$Moment;)J"⟩) dX23_holds_5 (by decide) ⟨by decide, by decide, by decide +kernel⟩ q1773 q1498 q1555 q1525 q193 q1497 q1526) (vnil)))))) (hok0 rfl) (by decide) 8 rfl ?_
  refine oc (y := mt_206) (pc := 8) (ok_lstore_n dX23_holds_8 (by decide)) 9 rfl ?_
  refine oc (y := mt_206) (pc := 9) (ok_aload_n dX23_holds_9) 10 rfl ?_
  refine oc (y := mt_206) (pc := 10) (ok_getfield dX23_holds_10 (fg (own := "GardenChess$Than") (idx := 17) (g := 24) (k := 1) (r := (RX23, TX23, 3)) rfl ⟨⟨by decide, by decide⟩, by decide⟩ (Or.inl q1717) (Or.inl rfl) rfl (fg_nil))) 13 rfl ?_
  refine oc (y := mt_206) (pc := 13) (ok_aload_n dX23_holds_13) 14 rfl ?_
  refine oc_V (y := mt_206) (pc := 14) (vcons (y := mt_206) (pc := 14) (len := 3) (n := 2) (M := mt_163) (by decide) rfl (Or.inr rfl) rfl (ck_A (C := "GardenChess$Asked") (x := ⟨"GardenChess$Value", "at", "(LGardenChess$Moment;)J"⟩) dX23_holds_14 (by decide) ⟨by decide, by decide, by decide +kernel⟩ q1773 q1498 q1499 q1500 q195 q1497 q1501) (vcons (y := mt_206) (pc := 14) (len := 3) (n := 2) (M := mt_156) (by decide) rfl (Or.inr rfl) rfl (ck_A (C := "GardenChess$Chain") (x := ⟨"GardenChess$Value", "at", "(LGardenChess$Moment;)J"⟩) dX23_holds_14 (by decide) ⟨by decide, by decide, by decide +kernel⟩ q1773 q1498 q1513 q1514 q190 q1497 q1515) (vcons (y := mt_206) (pc := 14) (len := 3) (n := 2) (M := mt_161) (by decide) rfl (Or.inr rfl) rfl (ck_A (C := "GardenChess$Fixed") (x := ⟨"GardenChess$Value", "at", "(LGardenChess$Moment;)J"⟩) dX23_holds_14 (by decide) ⟨by decide, by decide, by decide +kernel⟩ q1773 q1498 q1553 q1520 q194 q1497 q1521) (vcons (y := mt_206) (pc := 14) (len := 3) (n := 2) (M := mt_165) (by decide) rfl (Or.inr rfl) rfl (ck_A (C := "GardenChess$Looked") (x := ⟨"GardenChess$Value", "at", "(LGardenChess$Moment;)J"⟩) dX23_holds_14 (by decide) ⟨by decide, by decide, by decide +kernel⟩ q1773 q1498 q1554 q1522 q196 q1497 q1523) (vcons (y := mt_206) (pc := 14) (len := 3) (n := 2) (M := mt_159) (by decide) rfl (Or.inr rfl) rfl (ck_A (C := "GardenChess$Pair") (x := ⟨"GardenChess$Value", "at", "(LGardenChess$Moment;)J"⟩) dX23_holds_14 (by decide) ⟨by decide, by decide, by decide +kernel⟩ q1773 q1498 q1555 q1525 q193 q1497 q1526) (vnil)))))) (hok0 rfl) (by decide) 17 rfl ?_
  refine oc (y := mt_206) (pc := 17) (ok_lstore dX23_holds_17 (by decide)) 19 rfl ?_
  refine oc (y := mt_206) (pc := 19) (ok_aload_n dX23_holds_19) 20 rfl ?_
  refine oc (y := mt_206) (pc := 20) (ok_getfield dX23_holds_20 (fg (own := "GardenChess$Than") (idx := 13) (g := 24) (k := 2) (r := (RX23, TX23, 3)) rfl ⟨⟨by decide, by decide⟩, by decide⟩ (Or.inl q1718) (Or.inl rfl) rfl (fg_nil))) 23 rfl ?_
  refine oc (y := mt_206) (pc := 23) (ok_bipush dX23_holds_23 (by decide) ⟨by decide, by decide⟩) 25 rfl ?_
  refine oc_icmp dX23_holds_25 ⟨by decide, by decide⟩ 28 rfl ?_
  refine oc (y := mt_206) (pc := 28) (ok_lload_n dX23_holds_28) 29 rfl ?_
  refine oc (y := mt_206) (pc := 29) (ok_lload dX23_holds_29) 31 rfl ?_
  refine oc (y := mt_206) (pc := 31) (ok_lcmp dX23_holds_31) 32 rfl ?_
  refine oc_if dX23_holds_32 ⟨by decide, by decide⟩ 35 rfl ?_
  refine oc (y := mt_206) (pc := 35) (ok_iconst dX23_holds_35 rfl ⟨by decide, by decide⟩) 36 rfl ?_
  exact oc_goto dX23_holds_36 ⟨by decide, by decide⟩
theorem o_206_39 : okL gmt mt_206 39 b_206_39 := by
  refine oc (y := mt_206) (pc := 39) (ok_iconst dX23_holds_39 rfl ⟨by decide, by decide⟩) 40 rfl ?_
  exact oc_goto dX23_holds_40 ⟨by decide, by decide⟩
theorem o_206_43 : okL gmt mt_206 43 b_206_43 := by
  refine oc (y := mt_206) (pc := 43) (ok_aload_n dX23_holds_43) 44 rfl ?_
  refine oc (y := mt_206) (pc := 44) (ok_getfield dX23_holds_44 (fg (own := "GardenChess$Than") (idx := 13) (g := 24) (k := 2) (r := (RX23, TX23, 3)) rfl ⟨⟨by decide, by decide⟩, by decide⟩ (Or.inl q1718) (Or.inl rfl) rfl (fg_nil))) 47 rfl ?_
  refine oc (y := mt_206) (pc := 47) (ok_bipush dX23_holds_47 (by decide) ⟨by decide, by decide⟩) 49 rfl ?_
  refine oc_icmp dX23_holds_49 ⟨by decide, by decide⟩ 52 rfl ?_
  refine oc (y := mt_206) (pc := 52) (ok_lload_n dX23_holds_52) 53 rfl ?_
  refine oc (y := mt_206) (pc := 53) (ok_lload dX23_holds_53) 55 rfl ?_
  refine oc (y := mt_206) (pc := 55) (ok_lcmp dX23_holds_55) 56 rfl ?_
  refine oc_if dX23_holds_56 ⟨by decide, by decide⟩ 59 rfl ?_
  refine oc (y := mt_206) (pc := 59) (ok_iconst dX23_holds_59 rfl ⟨by decide, by decide⟩) 60 rfl ?_
  exact oc_goto dX23_holds_60 ⟨by decide, by decide⟩
theorem o_206_63 : okL gmt mt_206 63 b_206_63 := by
  refine oc (y := mt_206) (pc := 63) (ok_iconst dX23_holds_63 rfl ⟨by decide, by decide⟩) 64 rfl ?_
  exact oc_goto dX23_holds_64 ⟨by decide, by decide⟩
theorem o_206_67 : okL gmt mt_206 67 b_206_67 := by
  refine oc (y := mt_206) (pc := 67) (ok_lload_n dX23_holds_67) 68 rfl ?_
  refine oc (y := mt_206) (pc := 68) (ok_lload dX23_holds_68) 70 rfl ?_
  refine oc (y := mt_206) (pc := 70) (ok_lcmp dX23_holds_70) 71 rfl ?_
  refine oc_if dX23_holds_71 ⟨by decide, by decide⟩ 74 rfl ?_
  refine oc (y := mt_206) (pc := 74) (ok_iconst dX23_holds_74 rfl ⟨by decide, by decide⟩) 75 rfl ?_
  exact oc_goto dX23_holds_75 ⟨by decide, by decide⟩
theorem o_206_78 : okL gmt mt_206 78 b_206_78 := by
  refine oc (y := mt_206) (pc := 78) (ok_iconst dX23_holds_78 rfl ⟨by decide, by decide⟩) 79 rfl ?_
  exact oc_fall rfl
theorem o_206_79 : okL gmt mt_206 79 b_206_79 := by
  exact oc_zret dX23_holds_79 rfl
theorem ok_206 : ∀ q ∈ pr_206, okL gmt mt_206 q.1 q.2 := pk_c o_206_0 (pk_c o_206_39 (pk_c o_206_43 (pk_c o_206_63 (pk_c o_206_67 (pk_c o_206_78 (pk_c o_206_79 (pk_n)))))))
theorem o_207_0 : okL gmt mt_207 0 b_207_0 := by
  refine oc (y := mt_207) (pc := 0) (ok_aload_n dX3_init_0) 1 rfl ?_
  refine oc (y := mt_207) (pc := 1) (ok_null dX3_init_1) 2 rfl ?_
  refine oc (y := mt_207) (pc := 2) (ok_null dX3_init_2) 3 rfl ?_
  refine oc (y := mt_207) (pc := 3) (ok_iconst dX3_init_3 rfl ⟨by decide, by decide⟩) 4 rfl ?_
  refine oc (y := mt_207) (pc := 4) (ok_iconst dX3_init_4 rfl ⟨by decide, by decide⟩) 5 rfl ?_
  refine oc_I (y := mt_207) (pc := 5) (vcons (y := mt_207) (pc := 5) (len := 3) (n := 5) (M := mt_49) (by decide) rfl (Or.inl rfl) rfl (ck_I dX3_init_5 ⟨by decide, by decide, by decide, by decide +kernel⟩ rfl q344 q345 q170 q346) (vnil)) (hok0 rfl) (by decide) 8 rfl ?_
  exact oc_ret dX3_init_8 rfl
theorem ok_207 : ∀ q ∈ pr_207, okL gmt mt_207 q.1 q.2 := pk_c o_207_0 (pk_n)
theorem o_208_0 : okL gmt mt_208 0 b_208_0 := by
  refine oc (y := mt_208) (pc := 0) (ok_aload_n dX4_init_0) 1 rfl ?_
  refine oc_oi (y := mt_208) (pc := 1) dX4_init_1 q405 q210 q211 4 rfl ?_
  refine oc (y := mt_208) (pc := 4) (ok_aload_n dX4_init_4) 5 rfl ?_
  refine oc (y := mt_208) (pc := 5) (ok_bipush dX4_init_5 (by decide) ⟨by decide, by decide⟩) 7 rfl ?_
  refine oc (y := mt_208) (pc := 7) (ok_newarray dX4_init_7 (by decide) q413) 9 rfl ?_
  refine oc (y := mt_208) (pc := 9) (ok_putfield dX4_init_9 (fp (own := "GardenChess$Moment") (idx := 7) (g := 6) (k := 0) (r := (RX4, TX4, 1)) rfl ⟨⟨by decide, by decide⟩, by decide⟩ (Or.inl q406) (Or.inl rfl) rfl (Or.inr ⟨rfl, rfl, rfl, q406⟩) (fp_nil))) 12 rfl ?_
  exact oc_ret dX4_init_12 rfl
theorem ok_208 : ∀ q ∈ pr_208, okL gmt mt_208 q.1 q.2 := pk_c o_208_0 (pk_n)
theorem o_209_0 : okL gmt mt_209 0 b_209_0 := by
  refine oc (y := mt_209) (pc := 0) (ok_aload_n dX5_init_0) 1 rfl ?_
  refine oc_oi (y := mt_209) (pc := 1) dX5_init_1 q420 q210 q211 4 rfl ?_
  refine oc (y := mt_209) (pc := 4) (ok_aload_n dX5_init_4) 5 rfl ?_
  refine oc (y := mt_209) (pc := 5) (ok_sipush dX5_init_5 (by decide) ⟨by decide, by decide⟩) 8 rfl ?_
  refine oc (y := mt_209) (pc := 8) (ok_newarray dX5_init_8 (by decide) q246) 10 rfl ?_
  refine oc (y := mt_209) (pc := 10) (ok_putfield dX5_init_10 (fp (own := "GardenChess$Moves") (idx := 9) (g := 7) (k := 0) (r := (RX5, TX5, 3)) rfl ⟨⟨by decide, by decide⟩, by decide⟩ (Or.inl q421) (Or.inl rfl) rfl (Or.inr ⟨rfl, rfl, rfl, q421⟩) (fp_nil))) 13 rfl ?_
  refine oc (y := mt_209) (pc := 13) (ok_aload_n dX5_init_13) 14 rfl ?_
  refine oc (y := mt_209) (pc := 14) (ok_sipush dX5_init_14 (by decide) ⟨by decide, by decide⟩) 17 rfl ?_
  refine oc (y := mt_209) (pc := 17) (ok_newarray dX5_init_17 (by decide) q246) 19 rfl ?_
  refine oc (y := mt_209) (pc := 19) (ok_putfield dX5_init_19 (fp (own := "GardenChess$Moves") (idx := 15) (g := 7) (k := 1) (r := (RX5, TX5, 3)) rfl ⟨⟨by decide, by decide⟩, by decide⟩ (Or.inl q424) (Or.inl rfl) rfl (Or.inr ⟨rfl, rfl, rfl, q424⟩) (fp_nil))) 22 rfl ?_
  exact oc_ret dX5_init_22 rfl
theorem ok_209 : ∀ q ∈ pr_209, okL gmt mt_209 q.1 q.2 := pk_c o_209_0 (pk_n)
theorem o_210_0 : okL gmt mt_210 0 b_210_0 := by
  refine oc (y := mt_210) (pc := 0) (ok_aload_n dX5_add_0) 1 rfl ?_
  refine oc (y := mt_210) (pc := 1) (ok_getfield dX5_add_1 (fg (own := "GardenChess$Moves") (idx := 9) (g := 7) (k := 0) (r := (RX5, TX5, 3)) rfl ⟨⟨by decide, by decide⟩, by decide⟩ (Or.inl q421) (Or.inl rfl) rfl (fg_nil))) 4 rfl ?_
  refine oc (y := mt_210) (pc := 4) (ok_aload_n dX5_add_4) 5 rfl ?_
  refine oc (y := mt_210) (pc := 5) (ok_getfield dX5_add_5 (fg (own := "GardenChess$Moves") (idx := 18) (g := 7) (k := 2) (r := (RX5, TX5, 3)) rfl ⟨⟨by decide, by decide⟩, by decide⟩ (Or.inl q427) (Or.inl rfl) rfl (fg_nil))) 8 rfl ?_
  refine oc (y := mt_210) (pc := 8) (ok_iload_n dX5_add_8) 9 rfl ?_
  refine oc (y := mt_210) (pc := 9) (ok_iastore dX5_add_9) 10 rfl ?_
  refine oc (y := mt_210) (pc := 10) (ok_aload_n dX5_add_10) 11 rfl ?_
  refine oc (y := mt_210) (pc := 11) (ok_getfield dX5_add_11 (fg (own := "GardenChess$Moves") (idx := 15) (g := 7) (k := 1) (r := (RX5, TX5, 3)) rfl ⟨⟨by decide, by decide⟩, by decide⟩ (Or.inl q424) (Or.inl rfl) rfl (fg_nil))) 14 rfl ?_
  refine oc (y := mt_210) (pc := 14) (ok_aload_n dX5_add_14) 15 rfl ?_
  refine oc (y := mt_210) (pc := 15) (ok_getfield dX5_add_15 (fg (own := "GardenChess$Moves") (idx := 18) (g := 7) (k := 2) (r := (RX5, TX5, 3)) rfl ⟨⟨by decide, by decide⟩, by decide⟩ (Or.inl q427) (Or.inl rfl) rfl (fg_nil))) 18 rfl ?_
  refine oc (y := mt_210) (pc := 18) (ok_iload_n dX5_add_18) 19 rfl ?_
  refine oc (y := mt_210) (pc := 19) (ok_iastore dX5_add_19) 20 rfl ?_
  refine oc (y := mt_210) (pc := 20) (ok_aload_n dX5_add_20) 21 rfl ?_
  refine oc (y := mt_210) (pc := 21) (ok_dup dX5_add_21) 22 rfl ?_
  refine oc (y := mt_210) (pc := 22) (ok_getfield dX5_add_22 (fg (own := "GardenChess$Moves") (idx := 18) (g := 7) (k := 2) (r := (RX5, TX5, 3)) rfl ⟨⟨by decide, by decide⟩, by decide⟩ (Or.inl q427) (Or.inl rfl) rfl (fg_nil))) 25 rfl ?_
  refine oc (y := mt_210) (pc := 25) (ok_iconst dX5_add_25 rfl ⟨by decide, by decide⟩) 26 rfl ?_
  refine oc (y := mt_210) (pc := 26) (ok_iadd dX5_add_26) 27 rfl ?_
  refine oc (y := mt_210) (pc := 27) (ok_putfield dX5_add_27 (fp (own := "GardenChess$Moves") (idx := 18) (g := 7) (k := 2) (r := (RX5, TX5, 3)) rfl ⟨⟨by decide, by decide⟩, by decide⟩ (Or.inl q427) (Or.inl rfl) rfl (Or.inl rfl) (fp_nil))) 30 rfl ?_
  exact oc_ret dX5_add_30 rfl
theorem ok_210 : ∀ q ∈ pr_210, okL gmt mt_210 q.1 q.2 := pk_c o_210_0 (pk_n)
theorem o_211_0 : okL gmt mt_211 0 b_211_0 := by
  refine oc (y := mt_211) (pc := 0) (ok_aload_n dX6_init_0) 1 rfl ?_
  refine oc (y := mt_211) (pc := 1) (ok_aload_n dX6_init_1) 2 rfl ?_
  refine oc (y := mt_211) (pc := 2) (ok_putfield dX6_init_2 (fp (own := "GardenChess$State") (idx := 3) (g := 8) (k := 11) (r := (RX6, TX6, 12)) rfl ⟨⟨by decide, by decide⟩, by decide⟩ (Or.inl q464) (Or.inl rfl) rfl (Or.inr ⟨rfl, rfl, rfl, q464⟩) (fp_nil))) 5 rfl ?_
  refine oc (y := mt_211) (pc := 5) (ok_aload_n dX6_init_5) 6 rfl ?_
  refine oc_oi (y := mt_211) (pc := 6) dX6_init_6 q442 q210 q211 9 rfl ?_
  refine oc (y := mt_211) (pc := 9) (ok_aload_n dX6_init_9) 10 rfl ?_
  refine oc (y := mt_211) (pc := 10) (ok_bipush dX6_init_10 (by decide) ⟨by decide, by decide⟩) 12 rfl ?_
  refine oc (y := mt_211) (pc := 12) (ok_newarray dX6_init_12 (by decide) q246) 14 rfl ?_
  refine oc (y := mt_211) (pc := 14) (ok_putfield dX6_init_14 (fp (own := "GardenChess$State") (idx := 15) (g := 8) (k := 3) (r := (RX6, TX6, 12)) rfl ⟨⟨by decide, by decide⟩, by decide⟩ (Or.inl q451) (Or.inl rfl) rfl (Or.inr ⟨rfl, rfl, rfl, q451⟩) (fp_nil))) 17 rfl ?_
  refine oc (y := mt_211) (pc := 17) (ok_aload_n dX6_init_17) 18 rfl ?_
  refine oc (y := mt_211) (pc := 18) (ok_bipush dX6_init_18 (by decide) ⟨by decide, by decide⟩) 20 rfl ?_
  refine oc (y := mt_211) (pc := 20) (ok_newarray dX6_init_20 (by decide) q246) 22 rfl ?_
  refine oc (y := mt_211) (pc := 22) (ok_putfield dX6_init_22 (fp (own := "GardenChess$State") (idx := 19) (g := 8) (k := 4) (r := (RX6, TX6, 12)) rfl ⟨⟨by decide, by decide⟩, by decide⟩ (Or.inl q453) (Or.inl rfl) rfl (Or.inr ⟨rfl, rfl, rfl, q453⟩) (fp_nil))) 25 rfl ?_
  refine oc (y := mt_211) (pc := 25) (ok_aload_n dX6_init_25) 26 rfl ?_
  refine oc (y := mt_211) (pc := 26) (ok_bipush dX6_init_26 (by decide) ⟨by decide, by decide⟩) 28 rfl ?_
  refine oc (y := mt_211) (pc := 28) (ok_newarray dX6_init_28 (by decide) q246) 30 rfl ?_
  refine oc (y := mt_211) (pc := 30) (ok_putfield dX6_init_30 (fp (own := "GardenChess$State") (idx := 22) (g := 8) (k := 5) (r := (RX6, TX6, 12)) rfl ⟨⟨by decide, by decide⟩, by decide⟩ (Or.inl q455) (Or.inl rfl) rfl (Or.inr ⟨rfl, rfl, rfl, q455⟩) (fp_nil))) 33 rfl ?_
  refine oc (y := mt_211) (pc := 33) (ok_aload_n dX6_init_33) 34 rfl ?_
  refine oc (y := mt_211) (pc := 34) (ok_bipush dX6_init_34 (by decide) ⟨by decide, by decide⟩) 36 rfl ?_
  refine oc (y := mt_211) (pc := 36) (ok_iconst dX6_init_36 rfl ⟨by decide, by decide⟩) 37 rfl ?_
  refine oc (y := mt_211) (pc := 37) (ok_multi dX6_init_37 rfl q443 q246) 41 rfl ?_
  refine oc (y := mt_211) (pc := 41) (ok_putfield dX6_init_41 (fp (own := "GardenChess$State") (idx := 27) (g := 8) (k := 6) (r := (RX6, TX6, 12)) rfl ⟨⟨by decide, by decide⟩, by decide⟩ (Or.inl q457) (Or.inl rfl) rfl (Or.inr ⟨rfl, rfl, rfl, q457⟩) (fp_nil))) 44 rfl ?_
  exact oc_ret dX6_init_44 rfl
theorem ok_211 : ∀ q ∈ pr_211, okL gmt mt_211 q.1 q.2 := pk_c o_211_0 (pk_n)
theorem o_212_0 : okL gmt mt_212 0 b_212_0 := by
  refine oc (y := mt_212) (pc := 0) (ok_aload_n dX6_stands_0) 1 rfl ?_
  refine oc (y := mt_212) (pc := 1) (ok_iconst dX6_stands_1 rfl ⟨by decide, by decide⟩) 2 rfl ?_
  refine oc (y := mt_212) (pc := 2) (ok_putfield dX6_stands_2 (fp (own := "GardenChess$State") (idx := 81) (g := 8) (k := 7) (r := (RX6, TX6, 12)) rfl ⟨⟨by decide, by decide⟩, by decide⟩ (Or.inl q459) (Or.inl rfl) rfl (Or.inl rfl) (fp_nil))) 5 rfl ?_
  refine oc (y := mt_212) (pc := 5) (ok_iconst dX6_stands_5 rfl ⟨by decide, by decide⟩) 6 rfl ?_
  refine oc (y := mt_212) (pc := 6) (ok_istore_n dX6_stands_6 (by decide)) 7 rfl ?_
  exact oc_fall rfl
theorem o_212_7 : okL gmt mt_212 7 b_212_7 := by
  refine oc (y := mt_212) (pc := 7) (ok_iload_n dX6_stands_7) 8 rfl ?_
  refine oc (y := mt_212) (pc := 8) (ok_bipush dX6_stands_8 (by decide) ⟨by decide, by decide⟩) 10 rfl ?_
  refine oc_icmp dX6_stands_10 ⟨by decide, by decide⟩ 13 rfl ?_
  refine oc (y := mt_212) (pc := 13) (ok_aload_n dX6_stands_13) 14 rfl ?_
  refine oc (y := mt_212) (pc := 14) (ok_getfield dX6_stands_14 (fg (own := "GardenChess$State") (idx := 19) (g := 8) (k := 4) (r := (RX6, TX6, 12)) rfl ⟨⟨by decide, by decide⟩, by decide⟩ (Or.inl q453) (Or.inl rfl) rfl (fg_nil))) 17 rfl ?_
  refine oc (y := mt_212) (pc := 17) (ok_iload_n dX6_stands_17) 18 rfl ?_
  refine oc (y := mt_212) (pc := 18) (ok_iconst dX6_stands_18 rfl ⟨by decide, by decide⟩) 19 rfl ?_
  refine oc (y := mt_212) (pc := 19) (ok_iastore dX6_stands_19) 20 rfl ?_
  refine oc (y := mt_212) (pc := 20) (ok_iinc dX6_stands_20 (by decide)) 23 rfl ?_
  exact oc_goto dX6_stands_23 ⟨by decide, by decide⟩
theorem o_212_26 : okL gmt mt_212 26 b_212_26 := by
  refine oc (y := mt_212) (pc := 26) (ok_iconst dX6_stands_26 rfl ⟨by decide, by decide⟩) 27 rfl ?_
  refine oc (y := mt_212) (pc := 27) (ok_istore_n dX6_stands_27 (by decide)) 28 rfl ?_
  exact oc_fall rfl
theorem o_212_28 : okL gmt mt_212 28 b_212_28 := by
  refine oc (y := mt_212) (pc := 28) (ok_iload_n dX6_stands_28) 29 rfl ?_
  refine oc (y := mt_212) (pc := 29) (ok_aload_n dX6_stands_29) 30 rfl ?_
  refine oc (y := mt_212) (pc := 30) (ok_getfield dX6_stands_30 (fg (own := "GardenChess$State") (idx := 3) (g := 8) (k := 11) (r := (RX6, TX6, 12)) rfl ⟨⟨by decide, by decide⟩, by decide⟩ (Or.inl q464) (Or.inl rfl) rfl (fg_nil))) 33 rfl ?_
  refine oc_V (y := mt_212) (pc := 33) (vcons (y := mt_212) (pc := 33) (len := 3) (n := 1) (M := mt_81) (by decide) rfl (Or.inr rfl) rfl (ck_VN dX6_stands_33 ⟨by decide, by decide, by decide, by decide +kernel⟩ q495 q497 qs1 q162 q498) vnil) (hok0 rfl) (by decide) 36 rfl ?_
  refine oc_icmp dX6_stands_36 ⟨by decide, by decide⟩ 39 rfl ?_
  refine oc (y := mt_212) (pc := 39) (ok_aload_n dX6_stands_39) 40 rfl ?_
  refine oc (y := mt_212) (pc := 40) (ok_getfield dX6_stands_40 (fg (own := "GardenChess$State") (idx := 15) (g := 8) (k := 3) (r := (RX6, TX6, 12)) rfl ⟨⟨by decide, by decide⟩, by decide⟩ (Or.inl q451) (Or.inl rfl) rfl (fg_nil))) 43 rfl ?_
  refine oc (y := mt_212) (pc := 43) (ok_iload_n dX6_stands_43) 44 rfl ?_
  refine oc (y := mt_212) (pc := 44) (ok_iaload dX6_stands_44) 45 rfl ?_
  refine oc (y := mt_212) (pc := 45) (ok_iconst dX6_stands_45 rfl ⟨by decide, by decide⟩) 46 rfl ?_
  refine oc_icmp dX6_stands_46 ⟨by decide, by decide⟩ 49 rfl ?_
  refine oc (y := mt_212) (pc := 49) (ok_aload_n dX6_stands_49) 50 rfl ?_
  refine oc (y := mt_212) (pc := 50) (ok_getfield dX6_stands_50 (fg (own := "GardenChess$State") (idx := 19) (g := 8) (k := 4) (r := (RX6, TX6, 12)) rfl ⟨⟨by decide, by decide⟩, by decide⟩ (Or.inl q453) (Or.inl rfl) rfl (fg_nil))) 53 rfl ?_
  refine oc (y := mt_212) (pc := 53) (ok_aload_n dX6_stands_53) 54 rfl ?_
  refine oc (y := mt_212) (pc := 54) (ok_getfield dX6_stands_54 (fg (own := "GardenChess$State") (idx := 15) (g := 8) (k := 3) (r := (RX6, TX6, 12)) rfl ⟨⟨by decide, by decide⟩, by decide⟩ (Or.inl q451) (Or.inl rfl) rfl (fg_nil))) 57 rfl ?_
  refine oc (y := mt_212) (pc := 57) (ok_iload_n dX6_stands_57) 58 rfl ?_
  refine oc (y := mt_212) (pc := 58) (ok_iaload dX6_stands_58) 59 rfl ?_
  refine oc (y := mt_212) (pc := 59) (ok_iload_n dX6_stands_59) 60 rfl ?_
  refine oc (y := mt_212) (pc := 60) (ok_iastore dX6_stands_60) 61 rfl ?_
  exact oc_goto dX6_stands_61 ⟨by decide, by decide⟩
theorem o_212_64 : okL gmt mt_212 64 b_212_64 := by
  refine oc (y := mt_212) (pc := 64) (ok_aload_n dX6_stands_64) 65 rfl ?_
  refine oc (y := mt_212) (pc := 65) (ok_getfield dX6_stands_65 (fg (own := "GardenChess$State") (idx := 3) (g := 8) (k := 11) (r := (RX6, TX6, 12)) rfl ⟨⟨by decide, by decide⟩, by decide⟩ (Or.inl q464) (Or.inl rfl) rfl (fg_nil))) 68 rfl ?_
  refine oc (y := mt_212) (pc := 68) (ok_iload_n dX6_stands_68) 69 rfl ?_
  refine oc_V (y := mt_212) (pc := 69) (vcons (y := mt_212) (pc := 69) (len := 3) (n := 2) (M := mt_82) (by decide) rfl (Or.inr rfl) rfl (ck_VN dX6_stands_69 ⟨by decide, by decide, by decide, by decide +kernel⟩ q509 q511 qs2 q162 q512) vnil) (hok0 rfl) (by decide) 72 rfl ?_
  refine oc (y := mt_212) (pc := 72) (ok_getfield dX6_stands_72 (fg (own := "GardenChess$State") (idx := 88) (g := 12) (k := 4) (r := (RX9, TX9, 5)) rfl ⟨⟨by decide, by decide⟩, by decide⟩ (Or.inr ⟨_, q909⟩) (Or.inl rfl) rfl (fg_nil))) 75 rfl ?_
  refine oc_if dX6_stands_75 ⟨by decide, by decide⟩ 78 rfl ?_
  refine oc (y := mt_212) (pc := 78) (ok_aload_n dX6_stands_78) 79 rfl ?_
  refine oc (y := mt_212) (pc := 79) (ok_dup dX6_stands_79) 80 rfl ?_
  refine oc (y := mt_212) (pc := 80) (ok_getfield dX6_stands_80 (fg (own := "GardenChess$State") (idx := 81) (g := 8) (k := 7) (r := (RX6, TX6, 12)) rfl ⟨⟨by decide, by decide⟩, by decide⟩ (Or.inl q459) (Or.inl rfl) rfl (fg_nil))) 83 rfl ?_
  refine oc (y := mt_212) (pc := 83) (ok_iconst dX6_stands_83 rfl ⟨by decide, by decide⟩) 84 rfl ?_
  refine oc (y := mt_212) (pc := 84) (ok_iadd dX6_stands_84) 85 rfl ?_
  refine oc (y := mt_212) (pc := 85) (ok_putfield dX6_stands_85 (fp (own := "GardenChess$State") (idx := 81) (g := 8) (k := 7) (r := (RX6, TX6, 12)) rfl ⟨⟨by decide, by decide⟩, by decide⟩ (Or.inl q459) (Or.inl rfl) rfl (Or.inl rfl) (fp_nil))) 88 rfl ?_
  exact oc_fall rfl
theorem o_212_88 : okL gmt mt_212 88 b_212_88 := by
  refine oc (y := mt_212) (pc := 88) (ok_iinc dX6_stands_88 (by decide)) 91 rfl ?_
  exact oc_goto dX6_stands_91 ⟨by decide, by decide⟩
theorem o_212_94 : okL gmt mt_212 94 b_212_94 := by
  exact oc_ret dX6_stands_94 rfl
theorem ok_212 : ∀ q ∈ pr_212, okL gmt mt_212 q.1 q.2 := pk_c o_212_0 (pk_c o_212_7 (pk_c o_212_26 (pk_c o_212_28 (pk_c o_212_64 (pk_c o_212_88 (pk_c o_212_94 (pk_n)))))))
theorem o_213_0 : okL gmt mt_213 0 b_213_0 := by
  refine oc (y := mt_213) (pc := 0) (ok_aload_n dX6_begins_0) 1 rfl ?_
  refine oc (y := mt_213) (pc := 1) (ok_iconst dX6_begins_1 rfl ⟨by decide, by decide⟩) 2 rfl ?_
  refine oc (y := mt_213) (pc := 2) (ok_putfield dX6_begins_2 (fp (own := "GardenChess$State") (idx := 30) (g := 8) (k := 0) (r := (RX6, TX6, 12)) rfl ⟨⟨by decide, by decide⟩, by decide⟩ (Or.inl q445) (Or.inl rfl) rfl (Or.inl rfl) (fp_nil))) 5 rfl ?_
  refine oc (y := mt_213) (pc := 5) (ok_aload_n dX6_begins_5) 6 rfl ?_
  refine oc (y := mt_213) (pc := 6) (ok_iconst dX6_begins_6 rfl ⟨by decide, by decide⟩) 7 rfl ?_
  refine oc (y := mt_213) (pc := 7) (ok_putfield dX6_begins_7 (fp (own := "GardenChess$State") (idx := 34) (g := 8) (k := 1) (r := (RX6, TX6, 12)) rfl ⟨⟨by decide, by decide⟩, by decide⟩ (Or.inl q447) (Or.inl rfl) rfl (Or.inl rfl) (fp_nil))) 10 rfl ?_
  refine oc (y := mt_213) (pc := 10) (ok_aload_n dX6_begins_10) 11 rfl ?_
  refine oc (y := mt_213) (pc := 11) (ok_iconst dX6_begins_11 rfl ⟨by decide, by decide⟩) 12 rfl ?_
  refine oc (y := mt_213) (pc := 12) (ok_putfield dX6_begins_12 (fp (own := "GardenChess$State") (idx := 37) (g := 8) (k := 2) (r := (RX6, TX6, 12)) rfl ⟨⟨by decide, by decide⟩, by decide⟩ (Or.inl q449) (Or.inl rfl) rfl (Or.inl rfl) (fp_nil))) 15 rfl ?_
  refine oc (y := mt_213) (pc := 15) (ok_iconst dX6_begins_15 rfl ⟨by decide, by decide⟩) 16 rfl ?_
  refine oc (y := mt_213) (pc := 16) (ok_istore_n dX6_begins_16 (by decide)) 17 rfl ?_
  exact oc_fall rfl
theorem o_213_17 : okL gmt mt_213 17 b_213_17 := by
  refine oc (y := mt_213) (pc := 17) (ok_iload_n dX6_begins_17) 18 rfl ?_
  refine oc (y := mt_213) (pc := 18) (ok_aload_n dX6_begins_18) 19 rfl ?_
  refine oc (y := mt_213) (pc := 19) (ok_getfield dX6_begins_19 (fg (own := "GardenChess$State") (idx := 3) (g := 8) (k := 11) (r := (RX6, TX6, 12)) rfl ⟨⟨by decide, by decide⟩, by decide⟩ (Or.inl q464) (Or.inl rfl) rfl (fg_nil))) 22 rfl ?_
  refine oc_V (y := mt_213) (pc := 22) (vcons (y := mt_213) (pc := 22) (len := 3) (n := 1) (M := mt_81) (by decide) rfl (Or.inr rfl) rfl (ck_VN dX6_begins_22 ⟨by decide, by decide, by decide, by decide +kernel⟩ q495 q497 qs1 q162 q498) vnil) (hok0 rfl) (by decide) 25 rfl ?_
  refine oc_icmp dX6_begins_25 ⟨by decide, by decide⟩ 28 rfl ?_
  refine oc (y := mt_213) (pc := 28) (ok_aload_n dX6_begins_28) 29 rfl ?_
  refine oc (y := mt_213) (pc := 29) (ok_getfield dX6_begins_29 (fg (own := "GardenChess$State") (idx := 15) (g := 8) (k := 3) (r := (RX6, TX6, 12)) rfl ⟨⟨by decide, by decide⟩, by decide⟩ (Or.inl q451) (Or.inl rfl) rfl (fg_nil))) 32 rfl ?_
  refine oc (y := mt_213) (pc := 32) (ok_iload_n dX6_begins_32) 33 rfl ?_
  refine oc (y := mt_213) (pc := 33) (ok_iconst dX6_begins_33 rfl ⟨by decide, by decide⟩) 34 rfl ?_
  refine oc (y := mt_213) (pc := 34) (ok_aload_n dX6_begins_34) 35 rfl ?_
  refine oc (y := mt_213) (pc := 35) (ok_getfield dX6_begins_35 (fg (own := "GardenChess$State") (idx := 3) (g := 8) (k := 11) (r := (RX6, TX6, 12)) rfl ⟨⟨by decide, by decide⟩, by decide⟩ (Or.inl q464) (Or.inl rfl) rfl (fg_nil))) 38 rfl ?_
  refine oc (y := mt_213) (pc := 38) (ok_iload_n dX6_begins_38) 39 rfl ?_
  refine oc_V (y := mt_213) (pc := 39) (vcons (y := mt_213) (pc := 39) (len := 3) (n := 2) (M := mt_83) (by decide) rfl (Or.inr rfl) rfl (ck_VN dX6_begins_39 ⟨by decide, by decide, by decide, by decide +kernel⟩ q1272 q515 qs3 q162 q516) vnil) (hok0 rfl) (by decide) 42 rfl ?_
  refine oc (y := mt_213) (pc := 42) (ok_getfield dX6_begins_42 (fg (own := "GardenChess$State") (idx := 48) (g := 13) (k := 4) (r := (RX10, TX10, 5)) rfl ⟨⟨by decide, by decide⟩, by decide⟩ (Or.inr ⟨_, q1042⟩) (Or.inl rfl) rfl (fg_nil))) 45 rfl ?_
  refine oc (y := mt_213) (pc := 45) (ok_imul dX6_begins_45) 46 rfl ?_
  refine oc (y := mt_213) (pc := 46) (ok_aload_n dX6_begins_46) 47 rfl ?_
  refine oc (y := mt_213) (pc := 47) (ok_getfield dX6_begins_47 (fg (own := "GardenChess$State") (idx := 3) (g := 8) (k := 11) (r := (RX6, TX6, 12)) rfl ⟨⟨by decide, by decide⟩, by decide⟩ (Or.inl q464) (Or.inl rfl) rfl (fg_nil))) 50 rfl ?_
  refine oc (y := mt_213) (pc := 50) (ok_iload_n dX6_begins_50) 51 rfl ?_
  refine oc_V (y := mt_213) (pc := 51) (vcons (y := mt_213) (pc := 51) (len := 3) (n := 2) (M := mt_83) (by decide) rfl (Or.inr rfl) rfl (ck_VN dX6_begins_51 ⟨by decide, by decide, by decide, by decide +kernel⟩ q1272 q515 qs3 q162 q516) vnil) (hok0 rfl) (by decide) 54 rfl ?_
  refine oc (y := mt_213) (pc := 54) (ok_getfield dX6_begins_54 (fg (own := "GardenChess$State") (idx := 53) (g := 13) (k := 3) (r := (RX10, TX10, 5)) rfl ⟨⟨by decide, by decide⟩, by decide⟩ (Or.inr ⟨_, q1039⟩) (Or.inl rfl) rfl (fg_nil))) 57 rfl ?_
  refine oc (y := mt_213) (pc := 57) (ok_iadd dX6_begins_57) 58 rfl ?_
  refine oc (y := mt_213) (pc := 58) (ok_iastore dX6_begins_58) 59 rfl ?_
  refine oc (y := mt_213) (pc := 59) (ok_iinc dX6_begins_59 (by decide)) 62 rfl ?_
  exact oc_goto dX6_begins_62 ⟨by decide, by decide⟩
theorem o_213_65 : okL gmt mt_213 65 b_213_65 := by
  refine oc (y := mt_213) (pc := 65) (ok_iconst dX6_begins_65 rfl ⟨by decide, by decide⟩) 66 rfl ?_
  refine oc (y := mt_213) (pc := 66) (ok_istore_n dX6_begins_66 (by decide)) 67 rfl ?_
  exact oc_fall rfl
theorem o_213_67 : okL gmt mt_213 67 b_213_67 := by
  refine oc (y := mt_213) (pc := 67) (ok_iload_n dX6_begins_67) 68 rfl ?_
  refine oc (y := mt_213) (pc := 68) (ok_aload_n dX6_begins_68) 69 rfl ?_
  refine oc (y := mt_213) (pc := 69) (ok_getfield dX6_begins_69 (fg (own := "GardenChess$State") (idx := 3) (g := 8) (k := 11) (r := (RX6, TX6, 12)) rfl ⟨⟨by decide, by decide⟩, by decide⟩ (Or.inl q464) (Or.inl rfl) rfl (fg_nil))) 72 rfl ?_
  refine oc_V (y := mt_213) (pc := 72) (vcons (y := mt_213) (pc := 72) (len := 3) (n := 1) (M := mt_95) (by decide) rfl (Or.inr rfl) rfl (ck_VN dX6_begins_72 ⟨by decide, by decide, by decide, by decide +kernel⟩ q1273 q1275 qs33 q162 q1276) vnil) (hok0 rfl) (by decide) 75 rfl ?_
  refine oc_icmp dX6_begins_75 ⟨by decide, by decide⟩ 78 rfl ?_
  refine oc (y := mt_213) (pc := 78) (ok_aload_n dX6_begins_78) 79 rfl ?_
  refine oc (y := mt_213) (pc := 79) (ok_getfield dX6_begins_79 (fg (own := "GardenChess$State") (idx := 22) (g := 8) (k := 5) (r := (RX6, TX6, 12)) rfl ⟨⟨by decide, by decide⟩, by decide⟩ (Or.inl q455) (Or.inl rfl) rfl (fg_nil))) 82 rfl ?_
  refine oc (y := mt_213) (pc := 82) (ok_iload_n dX6_begins_82) 83 rfl ?_
  refine oc (y := mt_213) (pc := 83) (ok_aload_n dX6_begins_83) 84 rfl ?_
  refine oc (y := mt_213) (pc := 84) (ok_getfield dX6_begins_84 (fg (own := "GardenChess$State") (idx := 3) (g := 8) (k := 11) (r := (RX6, TX6, 12)) rfl ⟨⟨by decide, by decide⟩, by decide⟩ (Or.inl q464) (Or.inl rfl) rfl (fg_nil))) 87 rfl ?_
  refine oc (y := mt_213) (pc := 87) (ok_getfield dX6_begins_87 (fg (own := "GardenChess$State") (idx := 59) (g := 1) (k := 0) (r := (RX0, TX0, 25)) rfl ⟨⟨by decide, by decide⟩, by decide⟩ (Or.inr ⟨_, q538⟩) (Or.inl rfl) rfl (fg_nil))) 90 rfl ?_
  refine oc (y := mt_213) (pc := 90) (ok_getfield dX6_begins_90 (fg (own := "GardenChess$State") (idx := 63) (g := 2) (k := 8) (r := (RX1, TX1, 10)) rfl ⟨⟨by decide, by decide⟩, by decide⟩ (Or.inr ⟨_, q270⟩) (Or.inl rfl) rfl (fg_nil))) 93 rfl ?_
  refine oc (y := mt_213) (pc := 93) (ok_iload_n dX6_begins_93) 94 rfl ?_
  refine oc_F (y := mt_213) (pc := 94) (vcons (y := mt_213) (pc := 94) (len := 5) (n := 2) (M := mt_40) (by decide) rfl (Or.inr rfl) rfl (ck_F (ci := 2) dX6_begins_94 rfl rfl (fun G s h => h.2.2.1.2.1) (by decide) ⟨by decide, by decide, by decide +kernel⟩ q1278 q521 q523 q166 q525) vnil) (hok0 rfl) 99 rfl ?_
  refine oc (y := mt_213) (pc := 99) (ok_checkcast (E := "GardenChess$Field") dX6_begins_99 q1279 (ct (by decide) rfl (Or.inl rfl) (ct_nil))) 102 rfl ?_
  refine oc (y := mt_213) (pc := 102) (ok_getfield dX6_begins_102 (fg (own := "GardenChess$State") (idx := 76) (g := 14) (k := 3) (r := (RX11, TX11, 4)) rfl ⟨⟨by decide, by decide⟩, by decide⟩ (Or.inr ⟨_, q1068⟩) (Or.inl rfl) rfl (fg_nil))) 105 rfl ?_
  refine oc (y := mt_213) (pc := 105) (ok_iastore dX6_begins_105) 106 rfl ?_
  refine oc (y := mt_213) (pc := 106) (ok_iinc dX6_begins_106 (by decide)) 109 rfl ?_
  exact oc_goto dX6_begins_109 ⟨by decide, by decide⟩
theorem o_213_112 : okL gmt mt_213 112 b_213_112 := by
  refine oc (y := mt_213) (pc := 112) (ok_aload_n dX6_begins_112) 113 rfl ?_
  refine oc_V (y := mt_213) (pc := 113) (vcons (y := mt_213) (pc := 113) (len := 3) (n := 1) (M := mt_212) (by decide) rfl (Or.inr rfl) rfl (ck_V dX6_begins_113 ⟨by decide, by decide, by decide, by decide +kernel⟩ q1280 q492 q493 q174 q494) vnil) (hok0 rfl) (by decide) 116 rfl ?_
  exact oc_ret dX6_begins_116 rfl
theorem ok_213 : ∀ q ∈ pr_213, okL gmt mt_213 q.1 q.2 := pk_c o_213_0 (pk_c o_213_17 (pk_c o_213_65 (pk_c o_213_67 (pk_c o_213_112 (pk_n)))))
theorem o_214_0 : okL gmt mt_214 0 b_214_0 := by
  refine oc (y := mt_214) (pc := 0) (ok_aload_n dX6_isOver_0) 1 rfl ?_
  refine oc (y := mt_214) (pc := 1) (ok_aload_n dX6_isOver_1) 2 rfl ?_
  refine oc (y := mt_214) (pc := 2) (ok_getfield dX6_isOver_2 (fg (own := "GardenChess$State") (idx := 34) (g := 8) (k := 1) (r := (RX6, TX6, 12)) rfl ⟨⟨by decide, by decide⟩, by decide⟩ (Or.inl q447) (Or.inl rfl) rfl (fg_nil))) 5 rfl ?_
  refine oc (y := mt_214) (pc := 5) (ok_aload_n dX6_isOver_5) 6 rfl ?_
  refine oc (y := mt_214) (pc := 6) (ok_getfield dX6_isOver_6 (fg (own := "GardenChess$State") (idx := 3) (g := 8) (k := 11) (r := (RX6, TX6, 12)) rfl ⟨⟨by decide, by decide⟩, by decide⟩ (Or.inl q464) (Or.inl rfl) rfl (fg_nil))) 9 rfl ?_
  refine oc (y := mt_214) (pc := 9) (ok_getfield dX6_isOver_9 (fg (own := "GardenChess$State") (idx := 134) (g := 1) (k := 10) (r := (RX0, TX0, 25)) rfl ⟨⟨by decide, by decide⟩, by decide⟩ (Or.inr ⟨_, q553⟩) (Or.inl rfl) rfl (fg_nil))) 12 rfl ?_
  refine oc_V (y := mt_214) (pc := 12) (vcons (y := mt_214) (pc := 12) (len := 3) (n := 3) (M := mt_215) (by decide) rfl (Or.inr rfl) rfl (ck_V dX6_isOver_12 ⟨by decide, by decide, by decide, by decide +kernel⟩ q1299 q1300 q1301 q174 q1302) vnil) (hok0 rfl) (by decide) 15 rfl ?_
  refine oc (y := mt_214) (pc := 15) (ok_aload_n dX6_isOver_15) 16 rfl ?_
  refine oc (y := mt_214) (pc := 16) (ok_getfield dX6_isOver_16 (fg (own := "GardenChess$State") (idx := 81) (g := 8) (k := 7) (r := (RX6, TX6, 12)) rfl ⟨⟨by decide, by decide⟩, by decide⟩ (Or.inl q459) (Or.inl rfl) rfl (fg_nil))) 19 rfl ?_
  refine oc_if dX6_isOver_19 ⟨by decide, by decide⟩ 22 rfl ?_
  refine oc (y := mt_214) (pc := 22) (ok_aload_n dX6_isOver_22) 23 rfl ?_
  refine oc (y := mt_214) (pc := 23) (ok_getfield dX6_isOver_23 (fg (own := "GardenChess$State") (idx := 3) (g := 8) (k := 11) (r := (RX6, TX6, 12)) rfl ⟨⟨by decide, by decide⟩, by decide⟩ (Or.inl q464) (Or.inl rfl) rfl (fg_nil))) 26 rfl ?_
  refine oc (y := mt_214) (pc := 26) (ok_getfield dX6_isOver_26 (fg (own := "GardenChess$State") (idx := 134) (g := 1) (k := 10) (r := (RX0, TX0, 25)) rfl ⟨⟨by decide, by decide⟩, by decide⟩ (Or.inr ⟨_, q553⟩) (Or.inl rfl) rfl (fg_nil))) 29 rfl ?_
  refine oc (y := mt_214) (pc := 29) (ok_getfield dX6_isOver_29 (fg (own := "GardenChess$State") (idx := 116) (g := 7) (k := 2) (r := (RX5, TX5, 3)) rfl ⟨⟨by decide, by decide⟩, by decide⟩ (Or.inr ⟨_, q428⟩) (Or.inl rfl) rfl (fg_nil))) 32 rfl ?_
  refine oc_if dX6_isOver_32 ⟨by decide, by decide⟩ 35 rfl ?_
  exact oc_fall rfl
theorem o_214_35 : okL gmt mt_214 35 b_214_35 := by
  refine oc (y := mt_214) (pc := 35) (ok_iconst dX6_isOver_35 rfl ⟨by decide, by decide⟩) 36 rfl ?_
  exact oc_goto dX6_isOver_36 ⟨by decide, by decide⟩
theorem o_214_39 : okL gmt mt_214 39 b_214_39 := by
  refine oc (y := mt_214) (pc := 39) (ok_iconst dX6_isOver_39 rfl ⟨by decide, by decide⟩) 40 rfl ?_
  exact oc_fall rfl
theorem o_214_40 : okL gmt mt_214 40 b_214_40 := by
  exact oc_zret dX6_isOver_40 rfl
theorem ok_214 : ∀ q ∈ pr_214, okL gmt mt_214 q.1 q.2 := pk_c o_214_0 (pk_c o_214_35 (pk_c o_214_39 (pk_c o_214_40 (pk_n))))
theorem o_215_0 : okL gmt mt_215 0 b_215_0 := by
  refine oc (y := mt_215) (pc := 0) (ok_aload_n dX6_finds_0) 1 rfl ?_
  refine oc (y := mt_215) (pc := 1) (ok_iconst dX6_finds_1 rfl ⟨by decide, by decide⟩) 2 rfl ?_
  refine oc (y := mt_215) (pc := 2) (ok_putfield dX6_finds_2 (fp (own := "GardenChess$State") (idx := 116) (g := 7) (k := 2) (r := (RX5, TX5, 3)) rfl ⟨⟨by decide, by decide⟩, by decide⟩ (Or.inr ⟨_, q428⟩) (Or.inl rfl) rfl (Or.inl rfl) (fp_nil))) 5 rfl ?_
  refine oc (y := mt_215) (pc := 5) (ok_iconst dX6_finds_5 rfl ⟨by decide, by decide⟩) 6 rfl ?_
  refine oc (y := mt_215) (pc := 6) (ok_istore_n dX6_finds_6 (by decide)) 7 rfl ?_
  exact oc_fall rfl
theorem o_215_7 : okL gmt mt_215 7 b_215_7 := by
  refine oc (y := mt_215) (pc := 7) (ok_iload_n dX6_finds_7) 8 rfl ?_
  refine oc (y := mt_215) (pc := 8) (ok_aload_n dX6_finds_8) 9 rfl ?_
  refine oc (y := mt_215) (pc := 9) (ok_getfield dX6_finds_9 (fg (own := "GardenChess$State") (idx := 3) (g := 8) (k := 11) (r := (RX6, TX6, 12)) rfl ⟨⟨by decide, by decide⟩, by decide⟩ (Or.inl q464) (Or.inl rfl) rfl (fg_nil))) 12 rfl ?_
  refine oc_V (y := mt_215) (pc := 12) (vcons (y := mt_215) (pc := 12) (len := 3) (n := 1) (M := mt_81) (by decide) rfl (Or.inr rfl) rfl (ck_VN dX6_finds_12 ⟨by decide, by decide, by decide, by decide +kernel⟩ q495 q497 qs1 q162 q498) vnil) (hok0 rfl) (by decide) 15 rfl ?_
  refine oc_icmp dX6_finds_15 ⟨by decide, by decide⟩ 18 rfl ?_
  refine oc (y := mt_215) (pc := 18) (ok_aload_n dX6_finds_18) 19 rfl ?_
  refine oc (y := mt_215) (pc := 19) (ok_getfield dX6_finds_19 (fg (own := "GardenChess$State") (idx := 3) (g := 8) (k := 11) (r := (RX6, TX6, 12)) rfl ⟨⟨by decide, by decide⟩, by decide⟩ (Or.inl q464) (Or.inl rfl) rfl (fg_nil))) 22 rfl ?_
  refine oc (y := mt_215) (pc := 22) (ok_iload_n dX6_finds_22) 23 rfl ?_
  refine oc_V (y := mt_215) (pc := 23) (vcons (y := mt_215) (pc := 23) (len := 3) (n := 2) (M := mt_83) (by decide) rfl (Or.inr rfl) rfl (ck_VN dX6_finds_23 ⟨by decide, by decide, by decide, by decide +kernel⟩ q1272 q515 qs3 q162 q516) vnil) (hok0 rfl) (by decide) 26 rfl ?_
  refine oc (y := mt_215) (pc := 26) (ok_getfield dX6_finds_26 (fg (own := "GardenChess$State") (idx := 94) (g := 13) (k := 2) (r := (RX10, TX10, 5)) rfl ⟨⟨by decide, by decide⟩, by decide⟩ (Or.inr ⟨_, q1036⟩) (Or.inl rfl) rfl (fg_nil))) 29 rfl ?_
  refine oc (y := mt_215) (pc := 29) (ok_iload_n dX6_finds_29) 30 rfl ?_
  refine oc_icmp dX6_finds_30 ⟨by decide, by decide⟩ 33 rfl ?_
  exact oc_goto dX6_finds_33 ⟨by decide, by decide⟩
theorem o_215_36 : okL gmt mt_215 36 b_215_36 := by
  refine oc (y := mt_215) (pc := 36) (ok_iconst dX6_finds_36 rfl ⟨by decide, by decide⟩) 37 rfl ?_
  refine oc (y := mt_215) (pc := 37) (ok_istore dX6_finds_37 (by decide)) 39 rfl ?_
  exact oc_fall rfl
theorem o_215_39 : okL gmt mt_215 39 b_215_39 := by
  refine oc (y := mt_215) (pc := 39) (ok_iload dX6_finds_39) 41 rfl ?_
  refine oc (y := mt_215) (pc := 41) (ok_iconst dX6_finds_41 rfl ⟨by decide, by decide⟩) 42 rfl ?_
  refine oc (y := mt_215) (pc := 42) (ok_aload_n dX6_finds_42) 43 rfl ?_
  refine oc (y := mt_215) (pc := 43) (ok_getfield dX6_finds_43 (fg (own := "GardenChess$State") (idx := 3) (g := 8) (k := 11) (r := (RX6, TX6, 12)) rfl ⟨⟨by decide, by decide⟩, by decide⟩ (Or.inl q464) (Or.inl rfl) rfl (fg_nil))) 46 rfl ?_
  refine oc (y := mt_215) (pc := 46) (ok_getfield dX6_finds_46 (fg (own := "GardenChess$State") (idx := 59) (g := 1) (k := 0) (r := (RX0, TX0, 25)) rfl ⟨⟨by decide, by decide⟩, by decide⟩ (Or.inr ⟨_, q538⟩) (Or.inl rfl) rfl (fg_nil))) 49 rfl ?_
  refine oc (y := mt_215) (pc := 49) (ok_getfield dX6_finds_49 (fg (own := "GardenChess$State") (idx := 121) (g := 2) (k := 2) (r := (RX1, TX1, 10)) rfl ⟨⟨by decide, by decide⟩, by decide⟩ (Or.inr ⟨_, q252⟩) (Or.inl rfl) rfl (fg_nil))) 52 rfl ?_
  refine oc (y := mt_215) (pc := 52) (ok_imul dX6_finds_52) 53 rfl ?_
  refine oc_icmp dX6_finds_53 ⟨by decide, by decide⟩ 56 rfl ?_
  refine oc (y := mt_215) (pc := 56) (ok_iload dX6_finds_56) 58 rfl ?_
  refine oc (y := mt_215) (pc := 58) (ok_iconst dX6_finds_58 rfl ⟨by decide, by decide⟩) 59 rfl ?_
  refine oc (y := mt_215) (pc := 59) (ok_irem dX6_finds_59) 60 rfl ?_
  refine oc (y := mt_215) (pc := 60) (ok_aload_n dX6_finds_60) 61 rfl ?_
  refine oc (y := mt_215) (pc := 61) (ok_getfield dX6_finds_61 (fg (own := "GardenChess$State") (idx := 3) (g := 8) (k := 11) (r := (RX6, TX6, 12)) rfl ⟨⟨by decide, by decide⟩, by decide⟩ (Or.inl q464) (Or.inl rfl) rfl (fg_nil))) 64 rfl ?_
  refine oc (y := mt_215) (pc := 64) (ok_getfield dX6_finds_64 (fg (own := "GardenChess$State") (idx := 59) (g := 1) (k := 0) (r := (RX0, TX0, 25)) rfl ⟨⟨by decide, by decide⟩, by decide⟩ (Or.inr ⟨_, q538⟩) (Or.inl rfl) rfl (fg_nil))) 67 rfl ?_
  refine oc (y := mt_215) (pc := 67) (ok_getfield dX6_finds_67 (fg (own := "GardenChess$State") (idx := 123) (g := 2) (k := 1) (r := (RX1, TX1, 10)) rfl ⟨⟨by decide, by decide⟩, by decide⟩ (Or.inr ⟨_, q249⟩) (Or.inl rfl) rfl (fg_nil))) 70 rfl ?_
  refine oc_icmp dX6_finds_70 ⟨by decide, by decide⟩ 73 rfl ?_
  refine oc (y := mt_215) (pc := 73) (ok_aload_n dX6_finds_73) 74 rfl ?_
  refine oc (y := mt_215) (pc := 74) (ok_iload_n dX6_finds_74) 75 rfl ?_
  refine oc (y := mt_215) (pc := 75) (ok_iload dX6_finds_75) 77 rfl ?_
  refine oc_V (y := mt_215) (pc := 77) (vcons (y := mt_215) (pc := 77) (len := 3) (n := 3) (M := mt_216) (by decide) rfl (Or.inr rfl) rfl (ck_V dX6_finds_77 ⟨by decide, by decide, by decide, by decide +kernel⟩ q1303 q1304 q1305 q174 q1306) vnil) (hok0 rfl) (by decide) 80 rfl ?_
  refine oc_if dX6_finds_80 ⟨by decide, by decide⟩ 83 rfl ?_
  refine oc (y := mt_215) (pc := 83) (ok_aload_n dX6_finds_83) 84 rfl ?_
  refine oc (y := mt_215) (pc := 84) (ok_iload_n dX6_finds_84) 85 rfl ?_
  refine oc (y := mt_215) (pc := 85) (ok_iload dX6_finds_85) 87 rfl ?_
  refine oc_V (y := mt_215) (pc := 87) (vcons (y := mt_215) (pc := 87) (len := 3) (n := 3) (M := mt_210) (by decide) rfl (Or.inr rfl) rfl (ck_V dX6_finds_87 ⟨by decide, by decide, by decide, by decide +kernel⟩ q1314 q1315 q1316 q173 q1317) vnil) (hok0 rfl) (by decide) 90 rfl ?_
  exact oc_fall rfl
theorem o_215_90 : okL gmt mt_215 90 b_215_90 := by
  refine oc (y := mt_215) (pc := 90) (ok_iinc dX6_finds_90 (by decide)) 93 rfl ?_
  exact oc_goto dX6_finds_93 ⟨by decide, by decide⟩
theorem o_215_96 : okL gmt mt_215 96 b_215_96 := by
  refine oc (y := mt_215) (pc := 96) (ok_iinc dX6_finds_96 (by decide)) 99 rfl ?_
  exact oc_goto dX6_finds_99 ⟨by decide, by decide⟩
theorem o_215_102 : okL gmt mt_215 102 b_215_102 := by
  exact oc_ret dX6_finds_102 rfl
theorem ok_215 : ∀ q ∈ pr_215, okL gmt mt_215 q.1 q.2 := pk_c o_215_0 (pk_c o_215_7 (pk_c o_215_36 (pk_c o_215_39 (pk_c o_215_90 (pk_c o_215_96 (pk_c o_215_102 (pk_n)))))))
theorem o_216_0 : okL gmt mt_216 0 b_216_0 := by
  refine oc (y := mt_216) (pc := 0) (ok_aload_n dX6_goes_0) 1 rfl ?_
  refine oc (y := mt_216) (pc := 1) (ok_getfield dX6_goes_1 (fg (own := "GardenChess$State") (idx := 15) (g := 8) (k := 3) (r := (RX6, TX6, 12)) rfl ⟨⟨by decide, by decide⟩, by decide⟩ (Or.inl q451) (Or.inl rfl) rfl (fg_nil))) 4 rfl ?_
  refine oc (y := mt_216) (pc := 4) (ok_iload_n dX6_goes_4) 5 rfl ?_
  refine oc (y := mt_216) (pc := 5) (ok_iaload dX6_goes_5) 6 rfl ?_
  refine oc (y := mt_216) (pc := 6) (ok_istore_n dX6_goes_6 (by decide)) 7 rfl ?_
  refine oc (y := mt_216) (pc := 7) (ok_iload_n dX6_goes_7) 8 rfl ?_
  refine oc (y := mt_216) (pc := 8) (ok_iconst dX6_goes_8 rfl ⟨by decide, by decide⟩) 9 rfl ?_
  refine oc_icmp dX6_goes_9 ⟨by decide, by decide⟩ 12 rfl ?_
  refine oc (y := mt_216) (pc := 12) (ok_iload_n dX6_goes_12) 13 rfl ?_
  refine oc (y := mt_216) (pc := 13) (ok_iload_n dX6_goes_13) 14 rfl ?_
  refine oc_icmp dX6_goes_14 ⟨by decide, by decide⟩ 17 rfl ?_
  refine oc (y := mt_216) (pc := 17) (ok_aload_n dX6_goes_17) 18 rfl ?_
  refine oc (y := mt_216) (pc := 18) (ok_getfield dX6_goes_18 (fg (own := "GardenChess$State") (idx := 19) (g := 8) (k := 4) (r := (RX6, TX6, 12)) rfl ⟨⟨by decide, by decide⟩, by decide⟩ (Or.inl q453) (Or.inl rfl) rfl (fg_nil))) 21 rfl ?_
  refine oc (y := mt_216) (pc := 21) (ok_iload_n dX6_goes_21) 22 rfl ?_
  refine oc (y := mt_216) (pc := 22) (ok_iaload dX6_goes_22) 23 rfl ?_
  refine oc (y := mt_216) (pc := 23) (ok_iconst dX6_goes_23 rfl ⟨by decide, by decide⟩) 24 rfl ?_
  refine oc_icmp dX6_goes_24 ⟨by decide, by decide⟩ 27 rfl ?_
  refine oc (y := mt_216) (pc := 27) (ok_aload_n dX6_goes_27) 28 rfl ?_
  refine oc (y := mt_216) (pc := 28) (ok_getfield dX6_goes_28 (fg (own := "GardenChess$State") (idx := 3) (g := 8) (k := 11) (r := (RX6, TX6, 12)) rfl ⟨⟨by decide, by decide⟩, by decide⟩ (Or.inl q464) (Or.inl rfl) rfl (fg_nil))) 31 rfl ?_
  refine oc (y := mt_216) (pc := 31) (ok_aload_n dX6_goes_31) 32 rfl ?_
  refine oc (y := mt_216) (pc := 32) (ok_getfield dX6_goes_32 (fg (own := "GardenChess$State") (idx := 19) (g := 8) (k := 4) (r := (RX6, TX6, 12)) rfl ⟨⟨by decide, by decide⟩, by decide⟩ (Or.inl q453) (Or.inl rfl) rfl (fg_nil))) 35 rfl ?_
  refine oc (y := mt_216) (pc := 35) (ok_iload_n dX6_goes_35) 36 rfl ?_
  refine oc (y := mt_216) (pc := 36) (ok_iaload dX6_goes_36) 37 rfl ?_
  refine oc_V (y := mt_216) (pc := 37) (vcons (y := mt_216) (pc := 37) (len := 3) (n := 2) (M := mt_83) (by decide) rfl (Or.inr rfl) rfl (ck_VN dX6_goes_37 ⟨by decide, by decide, by decide, by decide +kernel⟩ q1272 q515 qs3 q162 q516) vnil) (hok0 rfl) (by decide) 40 rfl ?_
  refine oc (y := mt_216) (pc := 40) (ok_getfield dX6_goes_40 (fg (own := "GardenChess$State") (idx := 94) (g := 13) (k := 2) (r := (RX10, TX10, 5)) rfl ⟨⟨by decide, by decide⟩, by decide⟩ (Or.inr ⟨_, q1036⟩) (Or.inl rfl) rfl (fg_nil))) 43 rfl ?_
  refine oc (y := mt_216) (pc := 43) (ok_aload_n dX6_goes_43) 44 rfl ?_
  refine oc (y := mt_216) (pc := 44) (ok_getfield dX6_goes_44 (fg (own := "GardenChess$State") (idx := 3) (g := 8) (k := 11) (r := (RX6, TX6, 12)) rfl ⟨⟨by decide, by decide⟩, by decide⟩ (Or.inl q464) (Or.inl rfl) rfl (fg_nil))) 47 rfl ?_
  refine oc (y := mt_216) (pc := 47) (ok_iload_n dX6_goes_47) 48 rfl ?_
  refine oc_V (y := mt_216) (pc := 48) (vcons (y := mt_216) (pc := 48) (len := 3) (n := 2) (M := mt_83) (by decide) rfl (Or.inr rfl) rfl (ck_VN dX6_goes_48 ⟨by decide, by decide, by decide, by decide +kernel⟩ q1272 q515 qs3 q162 q516) vnil) (hok0 rfl) (by decide) 51 rfl ?_
  refine oc (y := mt_216) (pc := 51) (ok_getfield dX6_goes_51 (fg (own := "GardenChess$State") (idx := 94) (g := 13) (k := 2) (r := (RX10, TX10, 5)) rfl ⟨⟨by decide, by decide⟩, by decide⟩ (Or.inr ⟨_, q1036⟩) (Or.inl rfl) rfl (fg_nil))) 54 rfl ?_
  refine oc_icmp dX6_goes_54 ⟨by decide, by decide⟩ 57 rfl ?_
  exact oc_fall rfl
theorem o_216_57 : okL gmt mt_216 57 b_216_57 := by
  refine oc (y := mt_216) (pc := 57) (ok_iconst dX6_goes_57 rfl ⟨by decide, by decide⟩) 58 rfl ?_
  exact oc_zret dX6_goes_58 rfl
theorem o_216_59 : okL gmt mt_216 59 b_216_59 := by
  refine oc (y := mt_216) (pc := 59) (ok_iload_n dX6_goes_59) 60 rfl ?_
  refine oc (y := mt_216) (pc := 60) (ok_iconst dX6_goes_60 rfl ⟨by decide, by decide⟩) 61 rfl ?_
  refine oc (y := mt_216) (pc := 61) (ok_irem dX6_goes_61) 62 rfl ?_
  refine oc (y := mt_216) (pc := 62) (ok_iload_n dX6_goes_62) 63 rfl ?_
  refine oc (y := mt_216) (pc := 63) (ok_iconst dX6_goes_63 rfl ⟨by decide, by decide⟩) 64 rfl ?_
  refine oc (y := mt_216) (pc := 64) (ok_irem dX6_goes_64) 65 rfl ?_
  refine oc (y := mt_216) (pc := 65) (ok_isub dX6_goes_65) 66 rfl ?_
  refine oc (y := mt_216) (pc := 66) (ok_istore dX6_goes_66 (by decide)) 68 rfl ?_
  refine oc (y := mt_216) (pc := 68) (ok_iload_n dX6_goes_68) 69 rfl ?_
  refine oc (y := mt_216) (pc := 69) (ok_iconst dX6_goes_69 rfl ⟨by decide, by decide⟩) 70 rfl ?_
  refine oc (y := mt_216) (pc := 70) (ok_idiv dX6_goes_70) 71 rfl ?_
  refine oc (y := mt_216) (pc := 71) (ok_iload_n dX6_goes_71) 72 rfl ?_
  refine oc (y := mt_216) (pc := 72) (ok_iconst dX6_goes_72 rfl ⟨by decide, by decide⟩) 73 rfl ?_
  refine oc (y := mt_216) (pc := 73) (ok_idiv dX6_goes_73) 74 rfl ?_
  refine oc (y := mt_216) (pc := 74) (ok_isub dX6_goes_74) 75 rfl ?_
  refine oc (y := mt_216) (pc := 75) (ok_istore dX6_goes_75 (by decide)) 77 rfl ?_
  refine oc (y := mt_216) (pc := 77) (ok_aload_n dX6_goes_77) 78 rfl ?_
  refine oc (y := mt_216) (pc := 78) (ok_getfield dX6_goes_78 (fg (own := "GardenChess$State") (idx := 3) (g := 8) (k := 11) (r := (RX6, TX6, 12)) rfl ⟨⟨by decide, by decide⟩, by decide⟩ (Or.inl q464) (Or.inl rfl) rfl (fg_nil))) 81 rfl ?_
  refine oc (y := mt_216) (pc := 81) (ok_iload_n dX6_goes_81) 82 rfl ?_
  refine oc_V (y := mt_216) (pc := 82) (vcons (y := mt_216) (pc := 82) (len := 3) (n := 2) (M := mt_82) (by decide) rfl (Or.inr rfl) rfl (ck_VN dX6_goes_82 ⟨by decide, by decide, by decide, by decide +kernel⟩ q509 q511 qs2 q162 q512) vnil) (hok0 rfl) (by decide) 85 rfl ?_
  refine oc (y := mt_216) (pc := 85) (ok_astore dX6_goes_85 (by decide)) 87 rfl ?_
  refine oc (y := mt_216) (pc := 87) (ok_aload dX6_goes_87) 89 rfl ?_
  refine oc (y := mt_216) (pc := 89) (ok_getfield dX6_goes_89 (fg (own := "GardenChess$State") (idx := 95) (g := 12) (k := 1) (r := (RX9, TX9, 5)) rfl ⟨⟨by decide, by decide⟩, by decide⟩ (Or.inr ⟨_, q901⟩) (Or.inl rfl) rfl (fg_nil))) 92 rfl ?_
  refine oc (y := mt_216) (pc := 92) (ok_iconst dX6_goes_92 rfl ⟨by decide, by decide⟩) 93 rfl ?_
  refine oc_icmp dX6_goes_93 ⟨by decide, by decide⟩ 96 rfl ?_
  refine oc (y := mt_216) (pc := 96) (ok_iload dX6_goes_96) 98 rfl ?_
  refine oc (y := mt_216) (pc := 98) (ok_iload dX6_goes_98) 100 rfl ?_
  refine oc (y := mt_216) (pc := 100) (ok_imul dX6_goes_100) 101 rfl ?_
  refine oc_S (y := mt_216) (pc := 101) (M := mt_19) rfl (ck_S dX6_goes_101 ⟨by decide, by decide, by decide, by decide +kernel⟩ q1307 q1308 q184 q1309) (hok0 rfl) (by decide) 104 rfl ?_
  refine oc (y := mt_216) (pc := 104) (ok_iconst dX6_goes_104 rfl ⟨by decide, by decide⟩) 105 rfl ?_
  refine oc_icmp dX6_goes_105 ⟨by decide, by decide⟩ 108 rfl ?_
  refine oc (y := mt_216) (pc := 108) (ok_iconst dX6_goes_108 rfl ⟨by decide, by decide⟩) 109 rfl ?_
  exact oc_goto dX6_goes_109 ⟨by decide, by decide⟩
theorem o_216_112 : okL gmt mt_216 112 b_216_112 := by
  refine oc (y := mt_216) (pc := 112) (ok_iconst dX6_goes_112 rfl ⟨by decide, by decide⟩) 113 rfl ?_
  exact oc_fall rfl
theorem o_216_113 : okL gmt mt_216 113 b_216_113 := by
  exact oc_zret dX6_goes_113 rfl
theorem o_216_114 : okL gmt mt_216 114 b_216_114 := by
  refine oc (y := mt_216) (pc := 114) (ok_iload dX6_goes_114) 116 rfl ?_
  refine oc_if dX6_goes_116 ⟨by decide, by decide⟩ 119 rfl ?_
  refine oc (y := mt_216) (pc := 119) (ok_iload dX6_goes_119) 121 rfl ?_
  refine oc_if dX6_goes_121 ⟨by decide, by decide⟩ 124 rfl ?_
  exact oc_fall rfl
theorem o_216_124 : okL gmt mt_216 124 b_216_124 := by
  refine oc (y := mt_216) (pc := 124) (ok_iconst dX6_goes_124 rfl ⟨by decide, by decide⟩) 125 rfl ?_
  exact oc_goto dX6_goes_125 ⟨by decide, by decide⟩
theorem o_216_128 : okL gmt mt_216 128 b_216_128 := by
  refine oc (y := mt_216) (pc := 128) (ok_iconst dX6_goes_128 rfl ⟨by decide, by decide⟩) 129 rfl ?_
  exact oc_fall rfl
theorem o_216_129 : okL gmt mt_216 129 b_216_129 := by
  refine oc (y := mt_216) (pc := 129) (ok_istore dX6_goes_129 (by decide)) 131 rfl ?_
  refine oc (y := mt_216) (pc := 131) (ok_iload dX6_goes_131) 133 rfl ?_
  refine oc_S (y := mt_216) (pc := 133) (M := mt_19) rfl (ck_S dX6_goes_133 ⟨by decide, by decide, by decide, by decide +kernel⟩ q1307 q1308 q184 q1309) (hok0 rfl) (by decide) 136 rfl ?_
  refine oc (y := mt_216) (pc := 136) (ok_iload dX6_goes_136) 138 rfl ?_
  refine oc_S (y := mt_216) (pc := 138) (M := mt_19) rfl (ck_S dX6_goes_138 ⟨by decide, by decide, by decide, by decide +kernel⟩ q1307 q1308 q184 q1309) (hok0 rfl) (by decide) 141 rfl ?_
  refine oc_icmp dX6_goes_141 ⟨by decide, by decide⟩ 144 rfl ?_
  refine oc (y := mt_216) (pc := 144) (ok_iconst dX6_goes_144 rfl ⟨by decide, by decide⟩) 145 rfl ?_
  exact oc_goto dX6_goes_145 ⟨by decide, by decide⟩
theorem o_216_148 : okL gmt mt_216 148 b_216_148 := by
  refine oc (y := mt_216) (pc := 148) (ok_iconst dX6_goes_148 rfl ⟨by decide, by decide⟩) 149 rfl ?_
  exact oc_fall rfl
theorem o_216_149 : okL gmt mt_216 149 b_216_149 := by
  refine oc (y := mt_216) (pc := 149) (ok_istore dX6_goes_149 (by decide)) 151 rfl ?_
  refine oc (y := mt_216) (pc := 151) (ok_iload dX6_goes_151) 153 rfl ?_
  refine oc_S (y := mt_216) (pc := 153) (M := mt_19) rfl (ck_S dX6_goes_153 ⟨by decide, by decide, by decide, by decide +kernel⟩ q1307 q1308 q184 q1309) (hok0 rfl) (by decide) 156 rfl ?_
  refine oc (y := mt_216) (pc := 156) (ok_iload dX6_goes_156) 158 rfl ?_
  refine oc_S (y := mt_216) (pc := 158) (M := mt_19) rfl (ck_S dX6_goes_158 ⟨by decide, by decide, by decide, by decide +kernel⟩ q1307 q1308 q184 q1309) (hok0 rfl) (by decide) 161 rfl ?_
  refine oc_S (y := mt_216) (pc := 161) (M := mt_17) rfl (ck_S dX6_goes_161 ⟨by decide, by decide, by decide, by decide +kernel⟩ q1310 q956 q184 q957) (hok0 rfl) (by decide) 164 rfl ?_
  refine oc (y := mt_216) (pc := 164) (ok_istore dX6_goes_164 (by decide)) 166 rfl ?_
  refine oc (y := mt_216) (pc := 166) (ok_iload dX6_goes_166) 168 rfl ?_
  refine oc_if dX6_goes_168 ⟨by decide, by decide⟩ 171 rfl ?_
  refine oc (y := mt_216) (pc := 171) (ok_aload dX6_goes_171) 173 rfl ?_
  refine oc (y := mt_216) (pc := 173) (ok_getfield dX6_goes_173 (fg (own := "GardenChess$State") (idx := 95) (g := 12) (k := 1) (r := (RX9, TX9, 5)) rfl ⟨⟨by decide, by decide⟩, by decide⟩ (Or.inr ⟨_, q901⟩) (Or.inl rfl) rfl (fg_nil))) 176 rfl ?_
  refine oc (y := mt_216) (pc := 176) (ok_iconst dX6_goes_176 rfl ⟨by decide, by decide⟩) 177 rfl ?_
  refine oc_icmp dX6_goes_177 ⟨by decide, by decide⟩ 180 rfl ?_
  exact oc_fall rfl
theorem o_216_180 : okL gmt mt_216 180 b_216_180 := by
  refine oc (y := mt_216) (pc := 180) (ok_iload dX6_goes_180) 182 rfl ?_
  refine oc_if dX6_goes_182 ⟨by decide, by decide⟩ 185 rfl ?_
  refine oc (y := mt_216) (pc := 185) (ok_aload dX6_goes_185) 187 rfl ?_
  refine oc (y := mt_216) (pc := 187) (ok_getfield dX6_goes_187 (fg (own := "GardenChess$State") (idx := 95) (g := 12) (k := 1) (r := (RX9, TX9, 5)) rfl ⟨⟨by decide, by decide⟩, by decide⟩ (Or.inr ⟨_, q901⟩) (Or.inl rfl) rfl (fg_nil))) 190 rfl ?_
  refine oc (y := mt_216) (pc := 190) (ok_iconst dX6_goes_190 rfl ⟨by decide, by decide⟩) 191 rfl ?_
  refine oc_icmp dX6_goes_191 ⟨by decide, by decide⟩ 194 rfl ?_
  exact oc_fall rfl
theorem o_216_194 : okL gmt mt_216 194 b_216_194 := by
  refine oc (y := mt_216) (pc := 194) (ok_iload dX6_goes_194) 196 rfl ?_
  refine oc (y := mt_216) (pc := 196) (ok_aload dX6_goes_196) 198 rfl ?_
  refine oc (y := mt_216) (pc := 198) (ok_getfield dX6_goes_198 (fg (own := "GardenChess$State") (idx := 108) (g := 12) (k := 2) (r := (RX9, TX9, 5)) rfl ⟨⟨by decide, by decide⟩, by decide⟩ (Or.inr ⟨_, q904⟩) (Or.inl rfl) rfl (fg_nil))) 201 rfl ?_
  refine oc_icmp dX6_goes_201 ⟨by decide, by decide⟩ 204 rfl ?_
  exact oc_fall rfl
theorem o_216_204 : okL gmt mt_216 204 b_216_204 := by
  refine oc (y := mt_216) (pc := 204) (ok_iconst dX6_goes_204 rfl ⟨by decide, by decide⟩) 205 rfl ?_
  exact oc_zret dX6_goes_205 rfl
theorem o_216_206 : okL gmt mt_216 206 b_216_206 := by
  refine oc (y := mt_216) (pc := 206) (ok_iload dX6_goes_206) 208 rfl ?_
  refine oc_S (y := mt_216) (pc := 208) (M := mt_36) rfl (ck_S dX6_goes_208 ⟨by decide, by decide, by decide, by decide +kernel⟩ q1311 q1312 q197 q1313) (hok0 rfl) (by decide) 211 rfl ?_
  refine oc (y := mt_216) (pc := 211) (ok_iconst dX6_goes_211 rfl ⟨by decide, by decide⟩) 212 rfl ?_
  refine oc (y := mt_216) (pc := 212) (ok_iload dX6_goes_212) 214 rfl ?_
  refine oc_S (y := mt_216) (pc := 214) (M := mt_36) rfl (ck_S dX6_goes_214 ⟨by decide, by decide, by decide, by decide +kernel⟩ q1311 q1312 q197 q1313) (hok0 rfl) (by decide) 217 rfl ?_
  refine oc (y := mt_216) (pc := 217) (ok_imul dX6_goes_217) 218 rfl ?_
  refine oc (y := mt_216) (pc := 218) (ok_iadd dX6_goes_218) 219 rfl ?_
  refine oc (y := mt_216) (pc := 219) (ok_istore dX6_goes_219 (by decide)) 221 rfl ?_
  refine oc (y := mt_216) (pc := 221) (ok_iconst dX6_goes_221 rfl ⟨by decide, by decide⟩) 222 rfl ?_
  refine oc (y := mt_216) (pc := 222) (ok_istore dX6_goes_222 (by decide)) 224 rfl ?_
  exact oc_fall rfl
theorem o_216_224 : okL gmt mt_216 224 b_216_224 := by
  refine oc (y := mt_216) (pc := 224) (ok_iload dX6_goes_224) 226 rfl ?_
  refine oc (y := mt_216) (pc := 226) (ok_iload dX6_goes_226) 228 rfl ?_
  refine oc_icmp dX6_goes_228 ⟨by decide, by decide⟩ 231 rfl ?_
  refine oc (y := mt_216) (pc := 231) (ok_aload_n dX6_goes_231) 232 rfl ?_
  refine oc (y := mt_216) (pc := 232) (ok_getfield dX6_goes_232 (fg (own := "GardenChess$State") (idx := 19) (g := 8) (k := 4) (r := (RX6, TX6, 12)) rfl ⟨⟨by decide, by decide⟩, by decide⟩ (Or.inl q453) (Or.inl rfl) rfl (fg_nil))) 235 rfl ?_
  refine oc (y := mt_216) (pc := 235) (ok_iload_n dX6_goes_235) 236 rfl ?_
  refine oc (y := mt_216) (pc := 236) (ok_iload dX6_goes_236) 238 rfl ?_
  refine oc (y := mt_216) (pc := 238) (ok_iload dX6_goes_238) 240 rfl ?_
  refine oc (y := mt_216) (pc := 240) (ok_imul dX6_goes_240) 241 rfl ?_
  refine oc (y := mt_216) (pc := 241) (ok_iadd dX6_goes_241) 242 rfl ?_
  refine oc (y := mt_216) (pc := 242) (ok_iaload dX6_goes_242) 243 rfl ?_
  refine oc (y := mt_216) (pc := 243) (ok_iconst dX6_goes_243 rfl ⟨by decide, by decide⟩) 244 rfl ?_
  refine oc_icmp dX6_goes_244 ⟨by decide, by decide⟩ 247 rfl ?_
  refine oc (y := mt_216) (pc := 247) (ok_iconst dX6_goes_247 rfl ⟨by decide, by decide⟩) 248 rfl ?_
  exact oc_zret dX6_goes_248 rfl
theorem o_216_249 : okL gmt mt_216 249 b_216_249 := by
  refine oc (y := mt_216) (pc := 249) (ok_iinc dX6_goes_249 (by decide)) 252 rfl ?_
  exact oc_goto dX6_goes_252 ⟨by decide, by decide⟩
theorem o_216_255 : okL gmt mt_216 255 b_216_255 := by
  refine oc (y := mt_216) (pc := 255) (ok_iconst dX6_goes_255 rfl ⟨by decide, by decide⟩) 256 rfl ?_
  exact oc_zret dX6_goes_256 rfl
theorem ok_216 : ∀ q ∈ pr_216, okL gmt mt_216 q.1 q.2 := pk_c o_216_0 (pk_c o_216_57 (pk_c o_216_59 (pk_c o_216_112 (pk_c o_216_113 (pk_c o_216_114 (pk_c o_216_124 (pk_c o_216_128 (pk_c o_216_129 (pk_c o_216_148 (pk_c o_216_149 (pk_c o_216_180 (pk_c o_216_194 (pk_c o_216_204 (pk_c o_216_206 (pk_c o_216_224 (pk_c o_216_249 (pk_c o_216_255 (pk_n))))))))))))))))))
theorem o_217_0 : okL gmt mt_217 0 b_217_0 := by
  refine oc (y := mt_217) (pc := 0) (ok_iconst dX6_left_0 rfl ⟨by decide, by decide⟩) 1 rfl ?_
  refine oc (y := mt_217) (pc := 1) (ok_istore_n dX6_left_1 (by decide)) 2 rfl ?_
  refine oc (y := mt_217) (pc := 2) (ok_iconst dX6_left_2 rfl ⟨by decide, by decide⟩) 3 rfl ?_
  refine oc (y := mt_217) (pc := 3) (ok_istore_n dX6_left_3 (by decide)) 4 rfl ?_
  exact oc_fall rfl
theorem o_217_4 : okL gmt mt_217 4 b_217_4 := by
  refine oc (y := mt_217) (pc := 4) (ok_iload_n dX6_left_4) 5 rfl ?_
  refine oc (y := mt_217) (pc := 5) (ok_aload_n dX6_left_5) 6 rfl ?_
  refine oc (y := mt_217) (pc := 6) (ok_getfield dX6_left_6 (fg (own := "GardenChess$State") (idx := 3) (g := 8) (k := 11) (r := (RX6, TX6, 12)) rfl ⟨⟨by decide, by decide⟩, by decide⟩ (Or.inl q464) (Or.inl rfl) rfl (fg_nil))) 9 rfl ?_
  refine oc_V (y := mt_217) (pc := 9) (vcons (y := mt_217) (pc := 9) (len := 3) (n := 1) (M := mt_81) (by decide) rfl (Or.inr rfl) rfl (ck_VN dX6_left_9 ⟨by decide, by decide, by decide, by decide +kernel⟩ q495 q497 qs1 q162 q498) vnil) (hok0 rfl) (by decide) 12 rfl ?_
  refine oc_icmp dX6_left_12 ⟨by decide, by decide⟩ 15 rfl ?_
  refine oc (y := mt_217) (pc := 15) (ok_iload_n dX6_left_15) 16 rfl ?_
  refine oc (y := mt_217) (pc := 16) (ok_aload_n dX6_left_16) 17 rfl ?_
  refine oc (y := mt_217) (pc := 17) (ok_getfield dX6_left_17 (fg (own := "GardenChess$State") (idx := 15) (g := 8) (k := 3) (r := (RX6, TX6, 12)) rfl ⟨⟨by decide, by decide⟩, by decide⟩ (Or.inl q451) (Or.inl rfl) rfl (fg_nil))) 20 rfl ?_
  refine oc (y := mt_217) (pc := 20) (ok_iload_n dX6_left_20) 21 rfl ?_
  refine oc (y := mt_217) (pc := 21) (ok_iaload dX6_left_21) 22 rfl ?_
  refine oc (y := mt_217) (pc := 22) (ok_iconst dX6_left_22 rfl ⟨by decide, by decide⟩) 23 rfl ?_
  refine oc_icmp dX6_left_23 ⟨by decide, by decide⟩ 26 rfl ?_
  refine oc (y := mt_217) (pc := 26) (ok_aload_n dX6_left_26) 27 rfl ?_
  refine oc (y := mt_217) (pc := 27) (ok_getfield dX6_left_27 (fg (own := "GardenChess$State") (idx := 3) (g := 8) (k := 11) (r := (RX6, TX6, 12)) rfl ⟨⟨by decide, by decide⟩, by decide⟩ (Or.inl q464) (Or.inl rfl) rfl (fg_nil))) 30 rfl ?_
  refine oc (y := mt_217) (pc := 30) (ok_iload_n dX6_left_30) 31 rfl ?_
  refine oc_V (y := mt_217) (pc := 31) (vcons (y := mt_217) (pc := 31) (len := 3) (n := 2) (M := mt_83) (by decide) rfl (Or.inr rfl) rfl (ck_VN dX6_left_31 ⟨by decide, by decide, by decide, by decide +kernel⟩ q1272 q515 qs3 q162 q516) vnil) (hok0 rfl) (by decide) 34 rfl ?_
  refine oc (y := mt_217) (pc := 34) (ok_getfield dX6_left_34 (fg (own := "GardenChess$State") (idx := 94) (g := 13) (k := 2) (r := (RX10, TX10, 5)) rfl ⟨⟨by decide, by decide⟩, by decide⟩ (Or.inr ⟨_, q1036⟩) (Or.inl rfl) rfl (fg_nil))) 37 rfl ?_
  refine oc (y := mt_217) (pc := 37) (ok_iload_n dX6_left_37) 38 rfl ?_
  refine oc_icmp dX6_left_38 ⟨by decide, by decide⟩ 41 rfl ?_
  refine oc (y := mt_217) (pc := 41) (ok_iconst dX6_left_41 rfl ⟨by decide, by decide⟩) 42 rfl ?_
  exact oc_goto dX6_left_42 ⟨by decide, by decide⟩
theorem o_217_45 : okL gmt mt_217 45 b_217_45 := by
  refine oc (y := mt_217) (pc := 45) (ok_iconst dX6_left_45 rfl ⟨by decide, by decide⟩) 46 rfl ?_
  exact oc_fall rfl
theorem o_217_46 : okL gmt mt_217 46 b_217_46 := by
  refine oc (y := mt_217) (pc := 46) (ok_iadd dX6_left_46) 47 rfl ?_
  refine oc (y := mt_217) (pc := 47) (ok_istore_n dX6_left_47 (by decide)) 48 rfl ?_
  refine oc (y := mt_217) (pc := 48) (ok_iinc dX6_left_48 (by decide)) 51 rfl ?_
  exact oc_goto dX6_left_51 ⟨by decide, by decide⟩
theorem o_217_54 : okL gmt mt_217 54 b_217_54 := by
  refine oc (y := mt_217) (pc := 54) (ok_iload_n dX6_left_54) 55 rfl ?_
  exact oc_iret dX6_left_55 rfl
theorem ok_217 : ∀ q ∈ pr_217, okL gmt mt_217 q.1 q.2 := pk_c o_217_0 (pk_c o_217_4 (pk_c o_217_45 (pk_c o_217_46 (pk_c o_217_54 (pk_n)))))
theorem o_218_0 : okL gmt mt_218 0 b_218_0 := by
  refine oc (y := mt_218) (pc := 0) (ok_iconst dX6_allBears_0 rfl ⟨by decide, by decide⟩) 1 rfl ?_
  refine oc (y := mt_218) (pc := 1) (ok_istore_n dX6_allBears_1 (by decide)) 2 rfl ?_
  refine oc (y := mt_218) (pc := 2) (ok_iconst dX6_allBears_2 rfl ⟨by decide, by decide⟩) 3 rfl ?_
  refine oc (y := mt_218) (pc := 3) (ok_istore_n dX6_allBears_3 (by decide)) 4 rfl ?_
  exact oc_fall rfl
theorem o_218_4 : okL gmt mt_218 4 b_218_4 := by
  refine oc (y := mt_218) (pc := 4) (ok_iload_n dX6_allBears_4) 5 rfl ?_
  refine oc (y := mt_218) (pc := 5) (ok_aload_n dX6_allBears_5) 6 rfl ?_
  refine oc (y := mt_218) (pc := 6) (ok_getfield dX6_allBears_6 (fg (own := "GardenChess$State") (idx := 3) (g := 8) (k := 11) (r := (RX6, TX6, 12)) rfl ⟨⟨by decide, by decide⟩, by decide⟩ (Or.inl q464) (Or.inl rfl) rfl (fg_nil))) 9 rfl ?_
  refine oc_V (y := mt_218) (pc := 9) (vcons (y := mt_218) (pc := 9) (len := 3) (n := 1) (M := mt_95) (by decide) rfl (Or.inr rfl) rfl (ck_VN dX6_allBears_9 ⟨by decide, by decide, by decide, by decide +kernel⟩ q1273 q1275 qs33 q162 q1276) vnil) (hok0 rfl) (by decide) 12 rfl ?_
  refine oc_icmp dX6_allBears_12 ⟨by decide, by decide⟩ 15 rfl ?_
  refine oc (y := mt_218) (pc := 15) (ok_iload_n dX6_allBears_15) 16 rfl ?_
  refine oc (y := mt_218) (pc := 16) (ok_aload_n dX6_allBears_16) 17 rfl ?_
  refine oc (y := mt_218) (pc := 17) (ok_getfield dX6_allBears_17 (fg (own := "GardenChess$State") (idx := 22) (g := 8) (k := 5) (r := (RX6, TX6, 12)) rfl ⟨⟨by decide, by decide⟩, by decide⟩ (Or.inl q455) (Or.inl rfl) rfl (fg_nil))) 20 rfl ?_
  refine oc (y := mt_218) (pc := 20) (ok_iload_n dX6_allBears_20) 21 rfl ?_
  refine oc (y := mt_218) (pc := 21) (ok_iaload dX6_allBears_21) 22 rfl ?_
  refine oc (y := mt_218) (pc := 22) (ok_iadd dX6_allBears_22) 23 rfl ?_
  refine oc (y := mt_218) (pc := 23) (ok_istore_n dX6_allBears_23 (by decide)) 24 rfl ?_
  refine oc (y := mt_218) (pc := 24) (ok_iinc dX6_allBears_24 (by decide)) 27 rfl ?_
  exact oc_goto dX6_allBears_27 ⟨by decide, by decide⟩
theorem o_218_30 : okL gmt mt_218 30 b_218_30 := by
  refine oc (y := mt_218) (pc := 30) (ok_iload_n dX6_allBears_30) 31 rfl ?_
  exact oc_iret dX6_allBears_31 rfl
theorem ok_218 : ∀ q ∈ pr_218, okL gmt mt_218 q.1 q.2 := pk_c o_218_0 (pk_c o_218_4 (pk_c o_218_30 (pk_n)))
theorem o_219_0 : okL gmt mt_219 0 b_219_0 := by
  refine oc (y := mt_219) (pc := 0) (ok_iconst dX6_many_0 rfl ⟨by decide, by decide⟩) 1 rfl ?_
  refine oc (y := mt_219) (pc := 1) (ok_istore_n dX6_many_1 (by decide)) 2 rfl ?_
  refine oc (y := mt_219) (pc := 2) (ok_iconst dX6_many_2 rfl ⟨by decide, by decide⟩) 3 rfl ?_
  refine oc (y := mt_219) (pc := 3) (ok_istore_n dX6_many_3 (by decide)) 4 rfl ?_
  exact oc_fall rfl
theorem o_219_4 : okL gmt mt_219 4 b_219_4 := by
  refine oc (y := mt_219) (pc := 4) (ok_iload_n dX6_many_4) 5 rfl ?_
  refine oc (y := mt_219) (pc := 5) (ok_iconst dX6_many_5 rfl ⟨by decide, by decide⟩) 6 rfl ?_
  refine oc (y := mt_219) (pc := 6) (ok_aload_n dX6_many_6) 7 rfl ?_
  refine oc (y := mt_219) (pc := 7) (ok_getfield dX6_many_7 (fg (own := "GardenChess$State") (idx := 3) (g := 8) (k := 11) (r := (RX6, TX6, 12)) rfl ⟨⟨by decide, by decide⟩, by decide⟩ (Or.inl q464) (Or.inl rfl) rfl (fg_nil))) 10 rfl ?_
  refine oc (y := mt_219) (pc := 10) (ok_getfield dX6_many_10 (fg (own := "GardenChess$State") (idx := 59) (g := 1) (k := 0) (r := (RX0, TX0, 25)) rfl ⟨⟨by decide, by decide⟩, by decide⟩ (Or.inr ⟨_, q538⟩) (Or.inl rfl) rfl (fg_nil))) 13 rfl ?_
  refine oc (y := mt_219) (pc := 13) (ok_getfield dX6_many_13 (fg (own := "GardenChess$State") (idx := 121) (g := 2) (k := 2) (r := (RX1, TX1, 10)) rfl ⟨⟨by decide, by decide⟩, by decide⟩ (Or.inr ⟨_, q252⟩) (Or.inl rfl) rfl (fg_nil))) 16 rfl ?_
  refine oc (y := mt_219) (pc := 16) (ok_imul dX6_many_16) 17 rfl ?_
  refine oc_icmp dX6_many_17 ⟨by decide, by decide⟩ 20 rfl ?_
  refine oc (y := mt_219) (pc := 20) (ok_iload_n dX6_many_20) 21 rfl ?_
  refine oc (y := mt_219) (pc := 21) (ok_iload_n dX6_many_21) 22 rfl ?_
  refine oc (y := mt_219) (pc := 22) (ok_iconst dX6_many_22 rfl ⟨by decide, by decide⟩) 23 rfl ?_
  refine oc (y := mt_219) (pc := 23) (ok_irem dX6_many_23) 24 rfl ?_
  refine oc (y := mt_219) (pc := 24) (ok_aload_n dX6_many_24) 25 rfl ?_
  refine oc (y := mt_219) (pc := 25) (ok_getfield dX6_many_25 (fg (own := "GardenChess$State") (idx := 3) (g := 8) (k := 11) (r := (RX6, TX6, 12)) rfl ⟨⟨by decide, by decide⟩, by decide⟩ (Or.inl q464) (Or.inl rfl) rfl (fg_nil))) 28 rfl ?_
  refine oc (y := mt_219) (pc := 28) (ok_getfield dX6_many_28 (fg (own := "GardenChess$State") (idx := 59) (g := 1) (k := 0) (r := (RX0, TX0, 25)) rfl ⟨⟨by decide, by decide⟩, by decide⟩ (Or.inr ⟨_, q538⟩) (Or.inl rfl) rfl (fg_nil))) 31 rfl ?_
  refine oc (y := mt_219) (pc := 31) (ok_getfield dX6_many_31 (fg (own := "GardenChess$State") (idx := 123) (g := 2) (k := 1) (r := (RX1, TX1, 10)) rfl ⟨⟨by decide, by decide⟩, by decide⟩ (Or.inr ⟨_, q249⟩) (Or.inl rfl) rfl (fg_nil))) 34 rfl ?_
  refine oc_icmp dX6_many_34 ⟨by decide, by decide⟩ 37 rfl ?_
  refine oc (y := mt_219) (pc := 37) (ok_aload_n dX6_many_37) 38 rfl ?_
  refine oc (y := mt_219) (pc := 38) (ok_iload_n dX6_many_38) 39 rfl ?_
  refine oc (y := mt_219) (pc := 39) (ok_iload_n dX6_many_39) 40 rfl ?_
  refine oc_V (y := mt_219) (pc := 40) (vcons (y := mt_219) (pc := 40) (len := 3) (n := 3) (M := mt_216) (by decide) rfl (Or.inr rfl) rfl (ck_V dX6_many_40 ⟨by decide, by decide, by decide, by decide +kernel⟩ q1303 q1304 q1305 q174 q1306) vnil) (hok0 rfl) (by decide) 43 rfl ?_
  refine oc_if dX6_many_43 ⟨by decide, by decide⟩ 46 rfl ?_
  refine oc (y := mt_219) (pc := 46) (ok_iconst dX6_many_46 rfl ⟨by decide, by decide⟩) 47 rfl ?_
  exact oc_goto dX6_many_47 ⟨by decide, by decide⟩
theorem o_219_50 : okL gmt mt_219 50 b_219_50 := by
  refine oc (y := mt_219) (pc := 50) (ok_iconst dX6_many_50 rfl ⟨by decide, by decide⟩) 51 rfl ?_
  exact oc_fall rfl
theorem o_219_51 : okL gmt mt_219 51 b_219_51 := by
  refine oc (y := mt_219) (pc := 51) (ok_iadd dX6_many_51) 52 rfl ?_
  refine oc (y := mt_219) (pc := 52) (ok_istore_n dX6_many_52 (by decide)) 53 rfl ?_
  refine oc (y := mt_219) (pc := 53) (ok_iinc dX6_many_53 (by decide)) 56 rfl ?_
  exact oc_goto dX6_many_56 ⟨by decide, by decide⟩
theorem o_219_59 : okL gmt mt_219 59 b_219_59 := by
  refine oc (y := mt_219) (pc := 59) (ok_iload_n dX6_many_59) 60 rfl ?_
  exact oc_iret dX6_many_60 rfl
theorem ok_219 : ∀ q ∈ pr_219, okL gmt mt_219 q.1 q.2 := pk_c o_219_0 (pk_c o_219_4 (pk_c o_219_50 (pk_c o_219_51 (pk_c o_219_59 (pk_n)))))
