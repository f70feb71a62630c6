set_option maxRecDepth 100000
theorem o_337_0 : okL gmt mt_337 0 b_337_0 := by
  refine oc (y := mt_337) (pc := 0) (ok_aload_n dX7_qJoins_0) 1 rfl ?_
  refine oc (y := mt_337) (pc := 1) (ok_getfield dX7_qJoins_1 (fg (own := "GardenChessModel") (idx := 269) (g := 9) (k := 116) (r := (RX7, TX7, 122)) rfl ⟨⟨by decide, by decide⟩, by decide⟩ (Or.inl q1928) (Or.inl rfl) rfl (fg_nil))) 4 rfl ?_
  refine oc (y := mt_337) (pc := 4) (ok_aload_n dX7_qJoins_4) 5 rfl ?_
  refine oc (y := mt_337) (pc := 5) (ok_getfield dX7_qJoins_5 (fg (own := "GardenChessModel") (idx := 533) (g := 9) (k := 117) (r := (RX7, TX7, 122)) rfl ⟨⟨by decide, by decide⟩, by decide⟩ (Or.inl q1929) (Or.inl rfl) rfl (fg_nil))) 8 rfl ?_
  refine oc (y := mt_337) (pc := 8) (ok_iconst dX7_qJoins_8 rfl ⟨by decide, by decide⟩) 9 rfl ?_
  refine oc (y := mt_337) (pc := 9) (ok_isub dX7_qJoins_9) 10 rfl ?_
  refine oc (y := mt_337) (pc := 10) (ok_laload dX7_qJoins_10) 11 rfl ?_
  refine oc (y := mt_337) (pc := 11) (ok_lstore_n dX7_qJoins_11 (by decide)) 12 rfl ?_
  refine oc (y := mt_337) (pc := 12) (ok_aload_n dX7_qJoins_12) 13 rfl ?_
  refine oc (y := mt_337) (pc := 13) (ok_getfield dX7_qJoins_13 (fg (own := "GardenChessModel") (idx := 269) (g := 9) (k := 116) (r := (RX7, TX7, 122)) rfl ⟨⟨by decide, by decide⟩, by decide⟩ (Or.inl q1928) (Or.inl rfl) rfl (fg_nil))) 16 rfl ?_
  refine oc (y := mt_337) (pc := 16) (ok_aload_n dX7_qJoins_16) 17 rfl ?_
  refine oc (y := mt_337) (pc := 17) (ok_getfield dX7_qJoins_17 (fg (own := "GardenChessModel") (idx := 533) (g := 9) (k := 117) (r := (RX7, TX7, 122)) rfl ⟨⟨by decide, by decide⟩, by decide⟩ (Or.inl q1929) (Or.inl rfl) rfl (fg_nil))) 20 rfl ?_
  refine oc (y := mt_337) (pc := 20) (ok_iconst dX7_qJoins_20 rfl ⟨by decide, by decide⟩) 21 rfl ?_
  refine oc (y := mt_337) (pc := 21) (ok_isub dX7_qJoins_21) 22 rfl ?_
  refine oc (y := mt_337) (pc := 22) (ok_laload dX7_qJoins_22) 23 rfl ?_
  refine oc (y := mt_337) (pc := 23) (ok_lstore dX7_qJoins_23 (by decide)) 25 rfl ?_
  refine oc (y := mt_337) (pc := 25) (ok_aload_n dX7_qJoins_25) 26 rfl ?_
  refine oc (y := mt_337) (pc := 26) (ok_dup dX7_qJoins_26) 27 rfl ?_
  refine oc (y := mt_337) (pc := 27) (ok_getfield dX7_qJoins_27 (fg (own := "GardenChessModel") (idx := 533) (g := 9) (k := 117) (r := (RX7, TX7, 122)) rfl ⟨⟨by decide, by decide⟩, by decide⟩ (Or.inl q1929) (Or.inl rfl) rfl (fg_nil))) 30 rfl ?_
  refine oc (y := mt_337) (pc := 30) (ok_iconst dX7_qJoins_30 rfl ⟨by decide, by decide⟩) 31 rfl ?_
  refine oc (y := mt_337) (pc := 31) (ok_isub dX7_qJoins_31) 32 rfl ?_
  refine oc (y := mt_337) (pc := 32) (ok_putfield dX7_qJoins_32 (fp (own := "GardenChessModel") (idx := 533) (g := 9) (k := 117) (r := (RX7, TX7, 122)) rfl ⟨⟨by decide, by decide⟩, by decide⟩ (Or.inl q1929) (Or.inl rfl) rfl (Or.inl rfl) (fp_nil))) 35 rfl ?_
  refine oc (y := mt_337) (pc := 35) (ok_iload_n dX7_qJoins_35) 36 rfl ?_
  exact oc_tsw dX7_qJoins_36 (by decide) (by decide +kernel)
theorem o_337_92 : okL gmt mt_337 92 b_337_92 := by
  refine oc (y := mt_337) (pc := 92) (ok_aload_n dX7_qJoins_92) 93 rfl ?_
  refine oc (y := mt_337) (pc := 93) (ok_lload dX7_qJoins_93) 95 rfl ?_
  refine oc (y := mt_337) (pc := 95) (ok_lload_n dX7_qJoins_95) 96 rfl ?_
  refine oc (y := mt_337) (pc := 96) (ok_ladd dX7_qJoins_96) 97 rfl ?_
  refine oc_S (y := mt_337) (pc := 97) (M := mt_338) rfl (ck_S dX7_qJoins_97 ⟨by decide, by decide, by decide, by decide +kernel⟩ q2595 q2596 q177 q2597) (hok0 rfl) (by decide) 100 rfl ?_
  refine oc_V (y := mt_337) (pc := 100) (vcons (y := mt_337) (pc := 100) (len := 3) (n := 2) (M := mt_335) (by decide) rfl (Or.inr rfl) rfl (ck_V dX7_qJoins_100 ⟨by decide, by decide, by decide, by decide +kernel⟩ q2583 q2585 qs133 q177 q2586) vnil) (hok0 rfl) (by decide) 103 rfl ?_
  exact oc_goto dX7_qJoins_103 ⟨by decide, by decide⟩
theorem o_337_106 : okL gmt mt_337 106 b_337_106 := by
  refine oc (y := mt_337) (pc := 106) (ok_aload_n dX7_qJoins_106) 107 rfl ?_
  refine oc (y := mt_337) (pc := 107) (ok_lload dX7_qJoins_107) 109 rfl ?_
  refine oc (y := mt_337) (pc := 109) (ok_lload_n dX7_qJoins_109) 110 rfl ?_
  refine oc (y := mt_337) (pc := 110) (ok_lsub dX7_qJoins_110) 111 rfl ?_
  refine oc_S (y := mt_337) (pc := 111) (M := mt_338) rfl (ck_S dX7_qJoins_111 ⟨by decide, by decide, by decide, by decide +kernel⟩ q2595 q2596 q177 q2597) (hok0 rfl) (by decide) 114 rfl ?_
  refine oc_V (y := mt_337) (pc := 114) (vcons (y := mt_337) (pc := 114) (len := 3) (n := 2) (M := mt_335) (by decide) rfl (Or.inr rfl) rfl (ck_V dX7_qJoins_114 ⟨by decide, by decide, by decide, by decide +kernel⟩ q2583 q2585 qs133 q177 q2586) vnil) (hok0 rfl) (by decide) 117 rfl ?_
  exact oc_goto dX7_qJoins_117 ⟨by decide, by decide⟩
theorem o_337_120 : okL gmt mt_337 120 b_337_120 := by
  refine oc (y := mt_337) (pc := 120) (ok_aload_n dX7_qJoins_120) 121 rfl ?_
  refine oc (y := mt_337) (pc := 121) (ok_lload dX7_qJoins_121) 123 rfl ?_
  refine oc (y := mt_337) (pc := 123) (ok_lload_n dX7_qJoins_123) 124 rfl ?_
  refine oc (y := mt_337) (pc := 124) (ok_lmul dX7_qJoins_124) 125 rfl ?_
  refine oc_S (y := mt_337) (pc := 125) (M := mt_338) rfl (ck_S dX7_qJoins_125 ⟨by decide, by decide, by decide, by decide +kernel⟩ q2595 q2596 q177 q2597) (hok0 rfl) (by decide) 128 rfl ?_
  refine oc_V (y := mt_337) (pc := 128) (vcons (y := mt_337) (pc := 128) (len := 3) (n := 2) (M := mt_335) (by decide) rfl (Or.inr rfl) rfl (ck_V dX7_qJoins_128 ⟨by decide, by decide, by decide, by decide +kernel⟩ q2583 q2585 qs133 q177 q2586) vnil) (hok0 rfl) (by decide) 131 rfl ?_
  exact oc_goto dX7_qJoins_131 ⟨by decide, by decide⟩
theorem o_337_134 : okL gmt mt_337 134 b_337_134 := by
  refine oc (y := mt_337) (pc := 134) (ok_aload_n dX7_qJoins_134) 135 rfl ?_
  refine oc (y := mt_337) (pc := 135) (ok_lload dX7_qJoins_135) 137 rfl ?_
  refine oc (y := mt_337) (pc := 137) (ok_lload_n dX7_qJoins_137) 138 rfl ?_
  refine oc_S (y := mt_337) (pc := 138) (M := mt_339) rfl (ck_S dX7_qJoins_138 ⟨by decide, by decide, by decide, by decide +kernel⟩ q2600 q2601 q177 q2602) (hok0 rfl) (by decide) 141 rfl ?_
  refine oc_V (y := mt_337) (pc := 141) (vcons (y := mt_337) (pc := 141) (len := 3) (n := 2) (M := mt_335) (by decide) rfl (Or.inr rfl) rfl (ck_V dX7_qJoins_141 ⟨by decide, by decide, by decide, by decide +kernel⟩ q2583 q2585 qs133 q177 q2586) vnil) (hok0 rfl) (by decide) 144 rfl ?_
  exact oc_goto dX7_qJoins_144 ⟨by decide, by decide⟩
theorem o_337_147 : okL gmt mt_337 147 b_337_147 := by
  refine oc (y := mt_337) (pc := 147) (ok_aload_n dX7_qJoins_147) 148 rfl ?_
  refine oc (y := mt_337) (pc := 148) (ok_lload dX7_qJoins_148) 150 rfl ?_
  refine oc (y := mt_337) (pc := 150) (ok_lload_n dX7_qJoins_150) 151 rfl ?_
  refine oc (y := mt_337) (pc := 151) (ok_lcmp dX7_qJoins_151) 152 rfl ?_
  refine oc_if dX7_qJoins_152 ⟨by decide, by decide⟩ 155 rfl ?_
  refine oc (y := mt_337) (pc := 155) (ok_lload dX7_qJoins_155) 157 rfl ?_
  exact oc_goto dX7_qJoins_157 ⟨by decide, by decide⟩
theorem o_337_160 : okL gmt mt_337 160 b_337_160 := by
  refine oc (y := mt_337) (pc := 160) (ok_lload_n dX7_qJoins_160) 161 rfl ?_
  exact oc_fall rfl
theorem o_337_161 : okL gmt mt_337 161 b_337_161 := by
  refine oc_V (y := mt_337) (pc := 161) (vcons (y := mt_337) (pc := 161) (len := 3) (n := 2) (M := mt_335) (by decide) rfl (Or.inr rfl) rfl (ck_V dX7_qJoins_161 ⟨by decide, by decide, by decide, by decide +kernel⟩ q2583 q2585 qs133 q177 q2586) vnil) (hok0 rfl) (by decide) 164 rfl ?_
  exact oc_goto dX7_qJoins_164 ⟨by decide, by decide⟩
theorem o_337_167 : okL gmt mt_337 167 b_337_167 := by
  refine oc (y := mt_337) (pc := 167) (ok_aload_n dX7_qJoins_167) 168 rfl ?_
  refine oc (y := mt_337) (pc := 168) (ok_lload dX7_qJoins_168) 170 rfl ?_
  refine oc (y := mt_337) (pc := 170) (ok_lload_n dX7_qJoins_170) 171 rfl ?_
  refine oc (y := mt_337) (pc := 171) (ok_lcmp dX7_qJoins_171) 172 rfl ?_
  refine oc_if dX7_qJoins_172 ⟨by decide, by decide⟩ 175 rfl ?_
  refine oc (y := mt_337) (pc := 175) (ok_lload dX7_qJoins_175) 177 rfl ?_
  exact oc_goto dX7_qJoins_177 ⟨by decide, by decide⟩
theorem o_337_180 : okL gmt mt_337 180 b_337_180 := by
  refine oc (y := mt_337) (pc := 180) (ok_lload_n dX7_qJoins_180) 181 rfl ?_
  exact oc_fall rfl
theorem o_337_181 : okL gmt mt_337 181 b_337_181 := by
  refine oc_V (y := mt_337) (pc := 181) (vcons (y := mt_337) (pc := 181) (len := 3) (n := 2) (M := mt_335) (by decide) rfl (Or.inr rfl) rfl (ck_V dX7_qJoins_181 ⟨by decide, by decide, by decide, by decide +kernel⟩ q2583 q2585 qs133 q177 q2586) vnil) (hok0 rfl) (by decide) 184 rfl ?_
  exact oc_goto dX7_qJoins_184 ⟨by decide, by decide⟩
theorem o_337_187 : okL gmt mt_337 187 b_337_187 := by
  refine oc (y := mt_337) (pc := 187) (ok_aload_n dX7_qJoins_187) 188 rfl ?_
  refine oc (y := mt_337) (pc := 188) (ok_lload dX7_qJoins_188) 190 rfl ?_
  refine oc (y := mt_337) (pc := 190) (ok_lload_n dX7_qJoins_190) 191 rfl ?_
  refine oc (y := mt_337) (pc := 191) (ok_lcmp dX7_qJoins_191) 192 rfl ?_
  refine oc_if dX7_qJoins_192 ⟨by decide, by decide⟩ 195 rfl ?_
  refine oc (y := mt_337) (pc := 195) (ok_lconst dX7_qJoins_195 (by decide) ⟨by decide, by decide⟩) 196 rfl ?_
  exact oc_goto dX7_qJoins_196 ⟨by decide, by decide⟩
theorem o_337_199 : okL gmt mt_337 199 b_337_199 := by
  refine oc (y := mt_337) (pc := 199) (ok_lconst dX7_qJoins_199 (by decide) ⟨by decide, by decide⟩) 200 rfl ?_
  exact oc_fall rfl
theorem o_337_200 : okL gmt mt_337 200 b_337_200 := by
  refine oc_V (y := mt_337) (pc := 200) (vcons (y := mt_337) (pc := 200) (len := 3) (n := 2) (M := mt_335) (by decide) rfl (Or.inr rfl) rfl (ck_V dX7_qJoins_200 ⟨by decide, by decide, by decide, by decide +kernel⟩ q2583 q2585 qs133 q177 q2586) vnil) (hok0 rfl) (by decide) 203 rfl ?_
  exact oc_goto dX7_qJoins_203 ⟨by decide, by decide⟩
theorem o_337_206 : okL gmt mt_337 206 b_337_206 := by
  refine oc (y := mt_337) (pc := 206) (ok_aload_n dX7_qJoins_206) 207 rfl ?_
  refine oc (y := mt_337) (pc := 207) (ok_lload dX7_qJoins_207) 209 rfl ?_
  refine oc (y := mt_337) (pc := 209) (ok_lload_n dX7_qJoins_209) 210 rfl ?_
  refine oc (y := mt_337) (pc := 210) (ok_lcmp dX7_qJoins_210) 211 rfl ?_
  refine oc_if dX7_qJoins_211 ⟨by decide, by decide⟩ 214 rfl ?_
  refine oc (y := mt_337) (pc := 214) (ok_lconst dX7_qJoins_214 (by decide) ⟨by decide, by decide⟩) 215 rfl ?_
  exact oc_goto dX7_qJoins_215 ⟨by decide, by decide⟩
theorem o_337_218 : okL gmt mt_337 218 b_337_218 := by
  refine oc (y := mt_337) (pc := 218) (ok_lconst dX7_qJoins_218 (by decide) ⟨by decide, by decide⟩) 219 rfl ?_
  exact oc_fall rfl
theorem o_337_219 : okL gmt mt_337 219 b_337_219 := by
  refine oc_V (y := mt_337) (pc := 219) (vcons (y := mt_337) (pc := 219) (len := 3) (n := 2) (M := mt_335) (by decide) rfl (Or.inr rfl) rfl (ck_V dX7_qJoins_219 ⟨by decide, by decide, by decide, by decide +kernel⟩ q2583 q2585 qs133 q177 q2586) vnil) (hok0 rfl) (by decide) 222 rfl ?_
  exact oc_goto dX7_qJoins_222 ⟨by decide, by decide⟩
theorem o_337_225 : okL gmt mt_337 225 b_337_225 := by
  refine oc (y := mt_337) (pc := 225) (ok_aload_n dX7_qJoins_225) 226 rfl ?_
  refine oc (y := mt_337) (pc := 226) (ok_lload dX7_qJoins_226) 228 rfl ?_
  refine oc (y := mt_337) (pc := 228) (ok_lload_n dX7_qJoins_228) 229 rfl ?_
  refine oc (y := mt_337) (pc := 229) (ok_lcmp dX7_qJoins_229) 230 rfl ?_
  refine oc_if dX7_qJoins_230 ⟨by decide, by decide⟩ 233 rfl ?_
  refine oc (y := mt_337) (pc := 233) (ok_lconst dX7_qJoins_233 (by decide) ⟨by decide, by decide⟩) 234 rfl ?_
  exact oc_goto dX7_qJoins_234 ⟨by decide, by decide⟩
theorem o_337_237 : okL gmt mt_337 237 b_337_237 := by
  refine oc (y := mt_337) (pc := 237) (ok_lconst dX7_qJoins_237 (by decide) ⟨by decide, by decide⟩) 238 rfl ?_
  exact oc_fall rfl
theorem o_337_238 : okL gmt mt_337 238 b_337_238 := by
  refine oc_V (y := mt_337) (pc := 238) (vcons (y := mt_337) (pc := 238) (len := 3) (n := 2) (M := mt_335) (by decide) rfl (Or.inr rfl) rfl (ck_V dX7_qJoins_238 ⟨by decide, by decide, by decide, by decide +kernel⟩ q2583 q2585 qs133 q177 q2586) vnil) (hok0 rfl) (by decide) 241 rfl ?_
  exact oc_goto dX7_qJoins_241 ⟨by decide, by decide⟩
theorem o_337_244 : okL gmt mt_337 244 b_337_244 := by
  refine oc (y := mt_337) (pc := 244) (ok_aload_n dX7_qJoins_244) 245 rfl ?_
  refine oc (y := mt_337) (pc := 245) (ok_lload dX7_qJoins_245) 247 rfl ?_
  refine oc (y := mt_337) (pc := 247) (ok_lload_n dX7_qJoins_247) 248 rfl ?_
  refine oc (y := mt_337) (pc := 248) (ok_lmul dX7_qJoins_248) 249 rfl ?_
  refine oc_V (y := mt_337) (pc := 249) (vcons (y := mt_337) (pc := 249) (len := 3) (n := 2) (M := mt_335) (by decide) rfl (Or.inr rfl) rfl (ck_V dX7_qJoins_249 ⟨by decide, by decide, by decide, by decide +kernel⟩ q2583 q2585 qs133 q177 q2586) vnil) (hok0 rfl) (by decide) 252 rfl ?_
  exact oc_goto dX7_qJoins_252 ⟨by decide, by decide⟩
theorem o_337_255 : okL gmt mt_337 255 b_337_255 := by
  refine oc (y := mt_337) (pc := 255) (ok_aload_n dX7_qJoins_255) 256 rfl ?_
  refine oc (y := mt_337) (pc := 256) (ok_lload dX7_qJoins_256) 258 rfl ?_
  refine oc (y := mt_337) (pc := 258) (ok_lload_n dX7_qJoins_258) 259 rfl ?_
  refine oc (y := mt_337) (pc := 259) (ok_ladd dX7_qJoins_259) 260 rfl ?_
  refine oc (y := mt_337) (pc := 260) (ok_lconst dX7_qJoins_260 (by decide) ⟨by decide, by decide⟩) 261 rfl ?_
  refine oc (y := mt_337) (pc := 261) (ok_lcmp dX7_qJoins_261) 262 rfl ?_
  refine oc_if dX7_qJoins_262 ⟨by decide, by decide⟩ 265 rfl ?_
  refine oc (y := mt_337) (pc := 265) (ok_lconst dX7_qJoins_265 (by decide) ⟨by decide, by decide⟩) 266 rfl ?_
  exact oc_goto dX7_qJoins_266 ⟨by decide, by decide⟩
theorem o_337_269 : okL gmt mt_337 269 b_337_269 := by
  refine oc (y := mt_337) (pc := 269) (ok_lconst dX7_qJoins_269 (by decide) ⟨by decide, by decide⟩) 270 rfl ?_
  exact oc_fall rfl
theorem o_337_270 : okL gmt mt_337 270 b_337_270 := by
  refine oc_V (y := mt_337) (pc := 270) (vcons (y := mt_337) (pc := 270) (len := 3) (n := 2) (M := mt_335) (by decide) rfl (Or.inr rfl) rfl (ck_V dX7_qJoins_270 ⟨by decide, by decide, by decide, by decide +kernel⟩ q2583 q2585 qs133 q177 q2586) vnil) (hok0 rfl) (by decide) 273 rfl ?_
  exact oc_fall rfl
theorem o_337_273 : okL gmt mt_337 273 b_337_273 := by
  exact oc_ret dX7_qJoins_273 rfl
theorem ok_337 : ∀ q ∈ pr_337, okL gmt mt_337 q.1 q.2 := pk_c o_337_0 (pk_c o_337_92 (pk_c o_337_106 (pk_c o_337_120 (pk_c o_337_134 (pk_c o_337_147 (pk_c o_337_160 (pk_c o_337_161 (pk_c o_337_167 (pk_c o_337_180 (pk_c o_337_181 (pk_c o_337_187 (pk_c o_337_199 (pk_c o_337_200 (pk_c o_337_206 (pk_c o_337_218 (pk_c o_337_219 (pk_c o_337_225 (pk_c o_337_237 (pk_c o_337_238 (pk_c o_337_244 (pk_c o_337_255 (pk_c o_337_269 (pk_c o_337_270 (pk_c o_337_273 (pk_n)))))))))))))))))))))))))
theorem o_338_0 : okL gmt mt_338 0 b_338_0 := by
  refine oc (y := mt_338) (pc := 0) (ok_lload_n dX7_qClip_0) 1 rfl ?_
  refine oc (y := mt_338) (pc := 1) (ok_ldc2 dX7_qClip_1 ⟨by decide, by decide⟩ (show Cond.constantLong _ _ (Int64.ofInt 1000000) ∈ lw_all from q2598)) 4 rfl ?_
  refine oc (y := mt_338) (pc := 4) (ok_lcmp dX7_qClip_4) 5 rfl ?_
  refine oc_if dX7_qClip_5 ⟨by decide, by decide⟩ 8 rfl ?_
  refine oc (y := mt_338) (pc := 8) (ok_ldc2 dX7_qClip_8 ⟨by decide, by decide⟩ (show Cond.constantLong _ _ (Int64.ofInt 1000000) ∈ lw_all from q2598)) 11 rfl ?_
  exact oc_goto dX7_qClip_11 ⟨by decide, by decide⟩
theorem o_338_14 : okL gmt mt_338 14 b_338_14 := by
  refine oc (y := mt_338) (pc := 14) (ok_lload_n dX7_qClip_14) 15 rfl ?_
  refine oc (y := mt_338) (pc := 15) (ok_ldc2 dX7_qClip_15 ⟨by decide, by decide⟩ (show Cond.constantLong _ _ (Int64.ofInt (-1000000)) ∈ lw_all from q2599)) 18 rfl ?_
  refine oc (y := mt_338) (pc := 18) (ok_lcmp dX7_qClip_18) 19 rfl ?_
  refine oc_if dX7_qClip_19 ⟨by decide, by decide⟩ 22 rfl ?_
  refine oc (y := mt_338) (pc := 22) (ok_ldc2 dX7_qClip_22 ⟨by decide, by decide⟩ (show Cond.constantLong _ _ (Int64.ofInt (-1000000)) ∈ lw_all from q2599)) 25 rfl ?_
  exact oc_goto dX7_qClip_25 ⟨by decide, by decide⟩
theorem o_338_28 : okL gmt mt_338 28 b_338_28 := by
  refine oc (y := mt_338) (pc := 28) (ok_lload_n dX7_qClip_28) 29 rfl ?_
  exact oc_fall rfl
theorem o_338_29 : okL gmt mt_338 29 b_338_29 := by
  exact oc_lret dX7_qClip_29 rfl
theorem ok_338 : ∀ q ∈ pr_338, okL gmt mt_338 q.1 q.2 := pk_c o_338_0 (pk_c o_338_14 (pk_c o_338_28 (pk_c o_338_29 (pk_n))))
theorem o_339_0 : okL gmt mt_339 0 b_339_0 := by
  refine oc (y := mt_339) (pc := 0) (ok_lload_n dX7_qFloor_0) 1 rfl ?_
  refine oc (y := mt_339) (pc := 1) (ok_lconst dX7_qFloor_1 (by decide) ⟨by decide, by decide⟩) 2 rfl ?_
  refine oc (y := mt_339) (pc := 2) (ok_lcmp dX7_qFloor_2) 3 rfl ?_
  refine oc_if dX7_qFloor_3 ⟨by decide, by decide⟩ 6 rfl ?_
  refine oc (y := mt_339) (pc := 6) (ok_lconst dX7_qFloor_6 (by decide) ⟨by decide, by decide⟩) 7 rfl ?_
  exact oc_lret dX7_qFloor_7 rfl
theorem o_339_8 : okL gmt mt_339 8 b_339_8 := by
  refine oc (y := mt_339) (pc := 8) (ok_lload_n dX7_qFloor_8) 9 rfl ?_
  refine oc (y := mt_339) (pc := 9) (ok_lload_n dX7_qFloor_9) 10 rfl ?_
  refine oc (y := mt_339) (pc := 10) (ok_ldiv dX7_qFloor_10) 11 rfl ?_
  refine oc (y := mt_339) (pc := 11) (ok_lstore dX7_qFloor_11 (by decide)) 13 rfl ?_
  refine oc (y := mt_339) (pc := 13) (ok_lload_n dX7_qFloor_13) 14 rfl ?_
  refine oc (y := mt_339) (pc := 14) (ok_lload_n dX7_qFloor_14) 15 rfl ?_
  refine oc (y := mt_339) (pc := 15) (ok_lrem dX7_qFloor_15) 16 rfl ?_
  refine oc (y := mt_339) (pc := 16) (ok_lconst dX7_qFloor_16 (by decide) ⟨by decide, by decide⟩) 17 rfl ?_
  refine oc (y := mt_339) (pc := 17) (ok_lcmp dX7_qFloor_17) 18 rfl ?_
  refine oc_if dX7_qFloor_18 ⟨by decide, by decide⟩ 21 rfl ?_
  refine oc (y := mt_339) (pc := 21) (ok_lload_n dX7_qFloor_21) 22 rfl ?_
  refine oc (y := mt_339) (pc := 22) (ok_lconst dX7_qFloor_22 (by decide) ⟨by decide, by decide⟩) 23 rfl ?_
  refine oc (y := mt_339) (pc := 23) (ok_lcmp dX7_qFloor_23) 24 rfl ?_
  refine oc_if dX7_qFloor_24 ⟨by decide, by decide⟩ 27 rfl ?_
  refine oc (y := mt_339) (pc := 27) (ok_iconst dX7_qFloor_27 rfl ⟨by decide, by decide⟩) 28 rfl ?_
  exact oc_goto dX7_qFloor_28 ⟨by decide, by decide⟩
theorem o_339_31 : okL gmt mt_339 31 b_339_31 := by
  refine oc (y := mt_339) (pc := 31) (ok_iconst dX7_qFloor_31 rfl ⟨by decide, by decide⟩) 32 rfl ?_
  exact oc_fall rfl
theorem o_339_32 : okL gmt mt_339 32 b_339_32 := by
  refine oc (y := mt_339) (pc := 32) (ok_lload_n dX7_qFloor_32) 33 rfl ?_
  refine oc (y := mt_339) (pc := 33) (ok_lconst dX7_qFloor_33 (by decide) ⟨by decide, by decide⟩) 34 rfl ?_
  refine oc (y := mt_339) (pc := 34) (ok_lcmp dX7_qFloor_34) 35 rfl ?_
  refine oc_if dX7_qFloor_35 ⟨by decide, by decide⟩ 38 rfl ?_
  refine oc (y := mt_339) (pc := 38) (ok_iconst dX7_qFloor_38 rfl ⟨by decide, by decide⟩) 39 rfl ?_
  exact oc_goto dX7_qFloor_39 ⟨by decide, by decide⟩
theorem o_339_42 : okL gmt mt_339 42 b_339_42 := by
  refine oc (y := mt_339) (pc := 42) (ok_iconst dX7_qFloor_42 rfl ⟨by decide, by decide⟩) 43 rfl ?_
  exact oc_fall rfl
theorem o_339_43 : okL gmt mt_339 43 b_339_43 := by
  refine oc_icmp dX7_qFloor_43 ⟨by decide, by decide⟩ 46 rfl ?_
  refine oc (y := mt_339) (pc := 46) (ok_lload dX7_qFloor_46) 48 rfl ?_
  refine oc (y := mt_339) (pc := 48) (ok_lconst dX7_qFloor_48 (by decide) ⟨by decide, by decide⟩) 49 rfl ?_
  refine oc (y := mt_339) (pc := 49) (ok_lsub dX7_qFloor_49) 50 rfl ?_
  exact oc_goto dX7_qFloor_50 ⟨by decide, by decide⟩
theorem o_339_53 : okL gmt mt_339 53 b_339_53 := by
  refine oc (y := mt_339) (pc := 53) (ok_lload dX7_qFloor_53) 55 rfl ?_
  exact oc_fall rfl
theorem o_339_55 : okL gmt mt_339 55 b_339_55 := by
  exact oc_lret dX7_qFloor_55 rfl
theorem ok_339 : ∀ q ∈ pr_339, okL gmt mt_339 q.1 q.2 := pk_c o_339_0 (pk_c o_339_8 (pk_c o_339_31 (pk_c o_339_32 (pk_c o_339_42 (pk_c o_339_43 (pk_c o_339_53 (pk_c o_339_55 (pk_n))))))))
theorem o_340_0 : okL gmt mt_340 0 b_340_0 := by
  refine oc (y := mt_340) (pc := 0) (ok_aload_n dX7_isKept_0) 1 rfl ?_
  refine oc (y := mt_340) (pc := 1) (ok_getfield dX7_isKept_1 (fg (own := "GardenChessModel") (idx := 547) (g := 9) (k := 75) (r := (RX7, TX7, 122)) rfl ⟨⟨by decide, by decide⟩, by decide⟩ (Or.inl q1887) (Or.inl rfl) rfl (fg_nil))) 4 rfl ?_
  refine oc_if dX7_isKept_4 ⟨by decide, by decide⟩ 7 rfl ?_
  exact oc_ret dX7_isKept_7 rfl
theorem o_340_8 : okL gmt mt_340 8 b_340_8 := by
  refine oc (y := mt_340) (pc := 8) (ok_aload_n dX7_isKept_8) 9 rfl ?_
  refine oc (y := mt_340) (pc := 9) (ok_getfield dX7_isKept_9 (fg (own := "GardenChessModel") (idx := 154) (g := 9) (k := 62) (r := (RX7, TX7, 122)) rfl ⟨⟨by decide, by decide⟩, by decide⟩ (Or.inl q1874) (Or.inl rfl) rfl (fg_nil))) 12 rfl ?_
  refine oc (y := mt_340) (pc := 12) (ok_bipush dX7_isKept_12 (by decide) ⟨by decide, by decide⟩) 14 rfl ?_
  refine oc (y := mt_340) (pc := 14) (ok_iaload dX7_isKept_14) 15 rfl ?_
  refine oc (y := mt_340) (pc := 15) (ok_bipush dX7_isKept_15 (by decide) ⟨by decide, by decide⟩) 17 rfl ?_
  refine oc_icmp dX7_isKept_17 ⟨by decide, by decide⟩ 20 rfl ?_
  refine oc (y := mt_340) (pc := 20) (ok_bipush dX7_isKept_20 (by decide) ⟨by decide, by decide⟩) 22 rfl ?_
  refine oc (y := mt_340) (pc := 22) (ok_istore_n dX7_isKept_22 (by decide)) 23 rfl ?_
  exact oc_fall rfl
theorem o_340_23 : okL gmt mt_340 23 b_340_23 := by
  refine oc (y := mt_340) (pc := 23) (ok_iload_n dX7_isKept_23) 24 rfl ?_
  refine oc (y := mt_340) (pc := 24) (ok_sipush dX7_isKept_24 (by decide) ⟨by decide, by decide⟩) 27 rfl ?_
  refine oc_icmp dX7_isKept_27 ⟨by decide, by decide⟩ 30 rfl ?_
  refine oc (y := mt_340) (pc := 30) (ok_aload_n dX7_isKept_30) 31 rfl ?_
  refine oc (y := mt_340) (pc := 31) (ok_getfield dX7_isKept_31 (fg (own := "GardenChessModel") (idx := 154) (g := 9) (k := 62) (r := (RX7, TX7, 122)) rfl ⟨⟨by decide, by decide⟩, by decide⟩ (Or.inl q1874) (Or.inl rfl) rfl (fg_nil))) 34 rfl ?_
  refine oc (y := mt_340) (pc := 34) (ok_iload_n dX7_isKept_34) 35 rfl ?_
  refine oc (y := mt_340) (pc := 35) (ok_aload_n dX7_isKept_35) 36 rfl ?_
  refine oc (y := mt_340) (pc := 36) (ok_getfield dX7_isKept_36 (fg (own := "GardenChessModel") (idx := 154) (g := 9) (k := 62) (r := (RX7, TX7, 122)) rfl ⟨⟨by decide, by decide⟩, by decide⟩ (Or.inl q1874) (Or.inl rfl) rfl (fg_nil))) 39 rfl ?_
  refine oc (y := mt_340) (pc := 39) (ok_iload_n dX7_isKept_39) 40 rfl ?_
  refine oc (y := mt_340) (pc := 40) (ok_iconst dX7_isKept_40 rfl ⟨by decide, by decide⟩) 41 rfl ?_
  refine oc (y := mt_340) (pc := 41) (ok_iadd dX7_isKept_41) 42 rfl ?_
  refine oc (y := mt_340) (pc := 42) (ok_iaload dX7_isKept_42) 43 rfl ?_
  refine oc (y := mt_340) (pc := 43) (ok_iastore dX7_isKept_43) 44 rfl ?_
  refine oc (y := mt_340) (pc := 44) (ok_iinc dX7_isKept_44 (by decide)) 47 rfl ?_
  exact oc_goto dX7_isKept_47 ⟨by decide, by decide⟩
theorem o_340_50 : okL gmt mt_340 50 b_340_50 := by
  exact oc_goto dX7_isKept_50 ⟨by decide, by decide⟩
theorem o_340_53 : okL gmt mt_340 53 b_340_53 := by
  refine oc (y := mt_340) (pc := 53) (ok_aload_n dX7_isKept_53) 54 rfl ?_
  refine oc (y := mt_340) (pc := 54) (ok_getfield dX7_isKept_54 (fg (own := "GardenChessModel") (idx := 154) (g := 9) (k := 62) (r := (RX7, TX7, 122)) rfl ⟨⟨by decide, by decide⟩, by decide⟩ (Or.inl q1874) (Or.inl rfl) rfl (fg_nil))) 57 rfl ?_
  refine oc (y := mt_340) (pc := 57) (ok_bipush dX7_isKept_57 (by decide) ⟨by decide, by decide⟩) 59 rfl ?_
  refine oc (y := mt_340) (pc := 59) (ok_dup2 dX7_isKept_59) 60 rfl ?_
  refine oc (y := mt_340) (pc := 60) (ok_iaload dX7_isKept_60) 61 rfl ?_
  refine oc (y := mt_340) (pc := 61) (ok_iconst dX7_isKept_61 rfl ⟨by decide, by decide⟩) 62 rfl ?_
  refine oc (y := mt_340) (pc := 62) (ok_iadd dX7_isKept_62) 63 rfl ?_
  refine oc (y := mt_340) (pc := 63) (ok_iastore dX7_isKept_63) 64 rfl ?_
  exact oc_fall rfl
theorem o_340_64 : okL gmt mt_340 64 b_340_64 := by
  refine oc (y := mt_340) (pc := 64) (ok_bipush dX7_isKept_64 (by decide) ⟨by decide, by decide⟩) 66 rfl ?_
  refine oc (y := mt_340) (pc := 66) (ok_iconst dX7_isKept_66 rfl ⟨by decide, by decide⟩) 67 rfl ?_
  refine oc (y := mt_340) (pc := 67) (ok_aload_n dX7_isKept_67) 68 rfl ?_
  refine oc (y := mt_340) (pc := 68) (ok_getfield dX7_isKept_68 (fg (own := "GardenChessModel") (idx := 154) (g := 9) (k := 62) (r := (RX7, TX7, 122)) rfl ⟨⟨by decide, by decide⟩, by decide⟩ (Or.inl q1874) (Or.inl rfl) rfl (fg_nil))) 71 rfl ?_
  refine oc (y := mt_340) (pc := 71) (ok_bipush dX7_isKept_71 (by decide) ⟨by decide, by decide⟩) 73 rfl ?_
  refine oc (y := mt_340) (pc := 73) (ok_iaload dX7_isKept_73) 74 rfl ?_
  refine oc (y := mt_340) (pc := 74) (ok_imul dX7_isKept_74) 75 rfl ?_
  refine oc (y := mt_340) (pc := 75) (ok_iadd dX7_isKept_75) 76 rfl ?_
  refine oc (y := mt_340) (pc := 76) (ok_iconst dX7_isKept_76 rfl ⟨by decide, by decide⟩) 77 rfl ?_
  refine oc (y := mt_340) (pc := 77) (ok_isub dX7_isKept_77) 78 rfl ?_
  refine oc (y := mt_340) (pc := 78) (ok_istore_n dX7_isKept_78 (by decide)) 79 rfl ?_
  refine oc (y := mt_340) (pc := 79) (ok_aload_n dX7_isKept_79) 80 rfl ?_
  refine oc (y := mt_340) (pc := 80) (ok_getfield dX7_isKept_80 (fg (own := "GardenChessModel") (idx := 154) (g := 9) (k := 62) (r := (RX7, TX7, 122)) rfl ⟨⟨by decide, by decide⟩, by decide⟩ (Or.inl q1874) (Or.inl rfl) rfl (fg_nil))) 83 rfl ?_
  refine oc (y := mt_340) (pc := 83) (ok_iload_n dX7_isKept_83) 84 rfl ?_
  refine oc (y := mt_340) (pc := 84) (ok_aload_n dX7_isKept_84) 85 rfl ?_
  refine oc (y := mt_340) (pc := 85) (ok_getfield dX7_isKept_85 (fg (own := "GardenChessModel") (idx := 154) (g := 9) (k := 62) (r := (RX7, TX7, 122)) rfl ⟨⟨by decide, by decide⟩, by decide⟩ (Or.inl q1874) (Or.inl rfl) rfl (fg_nil))) 88 rfl ?_
  refine oc (y := mt_340) (pc := 88) (ok_iconst dX7_isKept_88 rfl ⟨by decide, by decide⟩) 89 rfl ?_
  refine oc (y := mt_340) (pc := 89) (ok_iaload dX7_isKept_89) 90 rfl ?_
  refine oc (y := mt_340) (pc := 90) (ok_iastore dX7_isKept_90) 91 rfl ?_
  refine oc (y := mt_340) (pc := 91) (ok_aload_n dX7_isKept_91) 92 rfl ?_
  refine oc (y := mt_340) (pc := 92) (ok_getfield dX7_isKept_92 (fg (own := "GardenChessModel") (idx := 154) (g := 9) (k := 62) (r := (RX7, TX7, 122)) rfl ⟨⟨by decide, by decide⟩, by decide⟩ (Or.inl q1874) (Or.inl rfl) rfl (fg_nil))) 95 rfl ?_
  refine oc (y := mt_340) (pc := 95) (ok_iload_n dX7_isKept_95) 96 rfl ?_
  refine oc (y := mt_340) (pc := 96) (ok_iconst dX7_isKept_96 rfl ⟨by decide, by decide⟩) 97 rfl ?_
  refine oc (y := mt_340) (pc := 97) (ok_iadd dX7_isKept_97) 98 rfl ?_
  refine oc (y := mt_340) (pc := 98) (ok_aload_n dX7_isKept_98) 99 rfl ?_
  refine oc (y := mt_340) (pc := 99) (ok_getfield dX7_isKept_99 (fg (own := "GardenChessModel") (idx := 521) (g := 9) (k := 69) (r := (RX7, TX7, 122)) rfl ⟨⟨by decide, by decide⟩, by decide⟩ (Or.inl q1881) (Or.inl rfl) rfl (fg_nil))) 102 rfl ?_
  refine oc (y := mt_340) (pc := 102) (ok_iastore dX7_isKept_102) 103 rfl ?_
  refine oc (y := mt_340) (pc := 103) (ok_aload_n dX7_isKept_103) 104 rfl ?_
  refine oc (y := mt_340) (pc := 104) (ok_getfield dX7_isKept_104 (fg (own := "GardenChessModel") (idx := 154) (g := 9) (k := 62) (r := (RX7, TX7, 122)) rfl ⟨⟨by decide, by decide⟩, by decide⟩ (Or.inl q1874) (Or.inl rfl) rfl (fg_nil))) 107 rfl ?_
  refine oc (y := mt_340) (pc := 107) (ok_iload_n dX7_isKept_107) 108 rfl ?_
  refine oc (y := mt_340) (pc := 108) (ok_iconst dX7_isKept_108 rfl ⟨by decide, by decide⟩) 109 rfl ?_
  refine oc (y := mt_340) (pc := 109) (ok_iadd dX7_isKept_109) 110 rfl ?_
  refine oc (y := mt_340) (pc := 110) (ok_aload_n dX7_isKept_110) 111 rfl ?_
  refine oc (y := mt_340) (pc := 111) (ok_getfield dX7_isKept_111 (fg (own := "GardenChessModel") (idx := 524) (g := 9) (k := 70) (r := (RX7, TX7, 122)) rfl ⟨⟨by decide, by decide⟩, by decide⟩ (Or.inl q1882) (Or.inl rfl) rfl (fg_nil))) 114 rfl ?_
  refine oc (y := mt_340) (pc := 114) (ok_aload_n dX7_isKept_114) 115 rfl ?_
  refine oc (y := mt_340) (pc := 115) (ok_getfield dX7_isKept_115 (fg (own := "GardenChessModel") (idx := 127) (g := 9) (k := 47) (r := (RX7, TX7, 122)) rfl ⟨⟨by decide, by decide⟩, by decide⟩ (Or.inl q1859) (Or.inl rfl) rfl (fg_nil))) 118 rfl ?_
  refine oc (y := mt_340) (pc := 118) (ok_iconst dX7_isKept_118 rfl ⟨by decide, by decide⟩) 119 rfl ?_
  refine oc (y := mt_340) (pc := 119) (ok_iaload dX7_isKept_119) 120 rfl ?_
  refine oc (y := mt_340) (pc := 120) (ok_irem dX7_isKept_120) 121 rfl ?_
  refine oc (y := mt_340) (pc := 121) (ok_iastore dX7_isKept_121) 122 rfl ?_
  refine oc (y := mt_340) (pc := 122) (ok_aload_n dX7_isKept_122) 123 rfl ?_
  refine oc (y := mt_340) (pc := 123) (ok_getfield dX7_isKept_123 (fg (own := "GardenChessModel") (idx := 154) (g := 9) (k := 62) (r := (RX7, TX7, 122)) rfl ⟨⟨by decide, by decide⟩, by decide⟩ (Or.inl q1874) (Or.inl rfl) rfl (fg_nil))) 126 rfl ?_
  refine oc (y := mt_340) (pc := 126) (ok_iload_n dX7_isKept_126) 127 rfl ?_
  refine oc (y := mt_340) (pc := 127) (ok_iconst dX7_isKept_127 rfl ⟨by decide, by decide⟩) 128 rfl ?_
  refine oc (y := mt_340) (pc := 128) (ok_iadd dX7_isKept_128) 129 rfl ?_
  refine oc (y := mt_340) (pc := 129) (ok_aload_n dX7_isKept_129) 130 rfl ?_
  refine oc (y := mt_340) (pc := 130) (ok_getfield dX7_isKept_130 (fg (own := "GardenChessModel") (idx := 524) (g := 9) (k := 70) (r := (RX7, TX7, 122)) rfl ⟨⟨by decide, by decide⟩, by decide⟩ (Or.inl q1882) (Or.inl rfl) rfl (fg_nil))) 133 rfl ?_
  refine oc (y := mt_340) (pc := 133) (ok_aload_n dX7_isKept_133) 134 rfl ?_
  exact oc_fall rfl
theorem o_340_134 : okL gmt mt_340 134 b_340_134 := by
  refine oc (y := mt_340) (pc := 134) (ok_getfield dX7_isKept_134 (fg (own := "GardenChessModel") (idx := 127) (g := 9) (k := 47) (r := (RX7, TX7, 122)) rfl ⟨⟨by decide, by decide⟩, by decide⟩ (Or.inl q1859) (Or.inl rfl) rfl (fg_nil))) 137 rfl ?_
  refine oc (y := mt_340) (pc := 137) (ok_iconst dX7_isKept_137 rfl ⟨by decide, by decide⟩) 138 rfl ?_
  refine oc (y := mt_340) (pc := 138) (ok_iaload dX7_isKept_138) 139 rfl ?_
  refine oc (y := mt_340) (pc := 139) (ok_idiv dX7_isKept_139) 140 rfl ?_
  refine oc (y := mt_340) (pc := 140) (ok_iastore dX7_isKept_140) 141 rfl ?_
  refine oc (y := mt_340) (pc := 141) (ok_aload_n dX7_isKept_141) 142 rfl ?_
  refine oc (y := mt_340) (pc := 142) (ok_getfield dX7_isKept_142 (fg (own := "GardenChessModel") (idx := 154) (g := 9) (k := 62) (r := (RX7, TX7, 122)) rfl ⟨⟨by decide, by decide⟩, by decide⟩ (Or.inl q1874) (Or.inl rfl) rfl (fg_nil))) 145 rfl ?_
  refine oc (y := mt_340) (pc := 145) (ok_iload_n dX7_isKept_145) 146 rfl ?_
  refine oc (y := mt_340) (pc := 146) (ok_iconst dX7_isKept_146 rfl ⟨by decide, by decide⟩) 147 rfl ?_
  refine oc (y := mt_340) (pc := 147) (ok_iadd dX7_isKept_147) 148 rfl ?_
  refine oc (y := mt_340) (pc := 148) (ok_aload_n dX7_isKept_148) 149 rfl ?_
  refine oc (y := mt_340) (pc := 149) (ok_getfield dX7_isKept_149 (fg (own := "GardenChessModel") (idx := 550) (g := 9) (k := 77) (r := (RX7, TX7, 122)) rfl ⟨⟨by decide, by decide⟩, by decide⟩ (Or.inl q1889) (Or.inl rfl) rfl (fg_nil))) 152 rfl ?_
  refine oc (y := mt_340) (pc := 152) (ok_iastore dX7_isKept_152) 153 rfl ?_
  exact oc_ret dX7_isKept_153 rfl
theorem ok_340 : ∀ q ∈ pr_340, okL gmt mt_340 q.1 q.2 := pk_c o_340_0 (pk_c o_340_8 (pk_c o_340_23 (pk_c o_340_50 (pk_c o_340_53 (pk_c o_340_64 (pk_c o_340_134 (pk_n)))))))
theorem o_341_0 : okL gmt mt_341 0 b_341_0 := by
  refine oc (y := mt_341) (pc := 0) (ok_aload_n dX7_takesBack_0) 1 rfl ?_
  refine oc_V (y := mt_341) (pc := 1) (vcons (y := mt_341) (pc := 1) (len := 3) (n := 1) (M := mt_342) (by decide) rfl (Or.inr rfl) rfl (ck_V dX7_takesBack_1 ⟨by decide, by decide, by decide, by decide +kernel⟩ q2611 q2613 qs138 q177 q2614) vnil) (hok0 rfl) (by decide) 4 rfl ?_
  refine oc (y := mt_341) (pc := 4) (ok_aload_n dX7_takesBack_4) 5 rfl ?_
  refine oc (y := mt_341) (pc := 5) (ok_iconst dX7_takesBack_5 rfl ⟨by decide, by decide⟩) 6 rfl ?_
  refine oc (y := mt_341) (pc := 6) (ok_putfield dX7_takesBack_6 (fp (own := "GardenChessModel") (idx := 547) (g := 9) (k := 75) (r := (RX7, TX7, 122)) rfl ⟨⟨by decide, by decide⟩, by decide⟩ (Or.inl q1887) (Or.inl rfl) rfl (Or.inl rfl) (fp_nil))) 9 rfl ?_
  exact oc_ret dX7_takesBack_9 rfl
theorem ok_341 : ∀ q ∈ pr_341, okL gmt mt_341 q.1 q.2 := pk_c o_341_0 (pk_n)
theorem o_342_0 : okL gmt mt_342 0 b_342_0 := by
  refine oc (y := mt_342) (pc := 0) (ok_iconst dX7_triesAnew_0 rfl ⟨by decide, by decide⟩) 1 rfl ?_
  refine oc (y := mt_342) (pc := 1) (ok_istore_n dX7_triesAnew_1 (by decide)) 2 rfl ?_
  exact oc_fall rfl
theorem o_342_2 : okL gmt mt_342 2 b_342_2 := by
  refine oc (y := mt_342) (pc := 2) (ok_iload_n dX7_triesAnew_2) 3 rfl ?_
  refine oc (y := mt_342) (pc := 3) (ok_bipush dX7_triesAnew_3 (by decide) ⟨by decide, by decide⟩) 5 rfl ?_
  refine oc_icmp dX7_triesAnew_5 ⟨by decide, by decide⟩ 8 rfl ?_
  refine oc (y := mt_342) (pc := 8) (ok_aload_n dX7_triesAnew_8) 9 rfl ?_
  refine oc (y := mt_342) (pc := 9) (ok_getfield dX7_triesAnew_9 (fg (own := "GardenChessModel") (idx := 154) (g := 9) (k := 62) (r := (RX7, TX7, 122)) rfl ⟨⟨by decide, by decide⟩, by decide⟩ (Or.inl q1874) (Or.inl rfl) rfl (fg_nil))) 12 rfl ?_
  refine oc (y := mt_342) (pc := 12) (ok_iload_n dX7_triesAnew_12) 13 rfl ?_
  refine oc (y := mt_342) (pc := 13) (ok_aload_n dX7_triesAnew_13) 14 rfl ?_
  refine oc (y := mt_342) (pc := 14) (ok_getfield dX7_triesAnew_14 (fg (own := "GardenChessModel") (idx := 157) (g := 9) (k := 63) (r := (RX7, TX7, 122)) rfl ⟨⟨by decide, by decide⟩, by decide⟩ (Or.inl q1875) (Or.inl rfl) rfl (fg_nil))) 17 rfl ?_
  refine oc (y := mt_342) (pc := 17) (ok_iload_n dX7_triesAnew_17) 18 rfl ?_
  refine oc (y := mt_342) (pc := 18) (ok_iaload dX7_triesAnew_18) 19 rfl ?_
  refine oc (y := mt_342) (pc := 19) (ok_iastore dX7_triesAnew_19) 20 rfl ?_
  refine oc (y := mt_342) (pc := 20) (ok_iinc dX7_triesAnew_20 (by decide)) 23 rfl ?_
  exact oc_goto dX7_triesAnew_23 ⟨by decide, by decide⟩
theorem o_342_26 : okL gmt mt_342 26 b_342_26 := by
  exact oc_ret dX7_triesAnew_26 rfl
theorem ok_342 : ∀ q ∈ pr_342, okL gmt mt_342 q.1 q.2 := pk_c o_342_0 (pk_c o_342_2 (pk_c o_342_26 (pk_n)))
theorem o_343_0 : okL gmt mt_343 0 b_343_0 := by
  refine oc (y := mt_343) (pc := 0) (ok_aload_n dX7_crop_0) 1 rfl ?_
  refine oc (y := mt_343) (pc := 1) (ok_iload_n dX7_crop_1) 2 rfl ?_
  refine oc_V (y := mt_343) (pc := 2) (vcons (y := mt_343) (pc := 2) (len := 3) (n := 2) (M := mt_305) (by decide) rfl (Or.inr rfl) rfl (ck_V dX7_crop_2 ⟨by decide, by decide, by decide, by decide +kernel⟩ q2461 q2463 qs111 q177 q2464) vnil) (hok0 rfl) (by decide) 5 rfl ?_
  refine oc_if dX7_crop_5 ⟨by decide, by decide⟩ 8 rfl ?_
  refine oc (y := mt_343) (pc := 8) (ok_aload_n dX7_crop_8) 9 rfl ?_
  refine oc (y := mt_343) (pc := 9) (ok_iload_n dX7_crop_9) 10 rfl ?_
  refine oc (y := mt_343) (pc := 10) (ok_iconst dX7_crop_10 rfl ⟨by decide, by decide⟩) 11 rfl ?_
  refine oc (y := mt_343) (pc := 11) (ok_bipush dX7_crop_11 (by decide) ⟨by decide, by decide⟩) 13 rfl ?_
  refine oc_V (y := mt_343) (pc := 13) (vcons (y := mt_343) (pc := 13) (len := 3) (n := 4) (M := mt_328) (by decide) rfl (Or.inr rfl) rfl (ck_V dX7_crop_13 ⟨by decide, by decide, by decide, by decide +kernel⟩ q2555 q2557 qs126 q177 q2558) vnil) (hok0 rfl) (by decide) 16 rfl ?_
  refine oc_if dX7_crop_16 ⟨by decide, by decide⟩ 19 rfl ?_
  exact oc_fall rfl
theorem o_343_19 : okL gmt mt_343 19 b_343_19 := by
  refine oc (y := mt_343) (pc := 19) (ok_iconst dX7_crop_19 rfl ⟨by decide, by decide⟩) 20 rfl ?_
  exact oc_iret dX7_crop_20 rfl
theorem o_343_21 : okL gmt mt_343 21 b_343_21 := by
  refine oc (y := mt_343) (pc := 21) (ok_aload_n dX7_crop_21) 22 rfl ?_
  refine oc_V (y := mt_343) (pc := 22) (vcons (y := mt_343) (pc := 22) (len := 3) (n := 1) (M := mt_329) (by decide) rfl (Or.inr rfl) rfl (ck_V dX7_crop_22 ⟨by decide, by decide, by decide, by decide +kernel⟩ q2559 q2561 qs127 q177 q2562) vnil) (hok0 rfl) (by decide) 25 rfl ?_
  refine oc (y := mt_343) (pc := 25) (ok_aload_n dX7_crop_25) 26 rfl ?_
  refine oc (y := mt_343) (pc := 26) (ok_iload_n dX7_crop_26) 27 rfl ?_
  refine oc_V (y := mt_343) (pc := 27) (vcons (y := mt_343) (pc := 27) (len := 3) (n := 2) (M := mt_330) (by decide) rfl (Or.inr rfl) rfl (ck_V dX7_crop_27 ⟨by decide, by decide, by decide, by decide +kernel⟩ q2563 q2565 qs128 q177 q2566) vnil) (hok0 rfl) (by decide) 30 rfl ?_
  refine oc (y := mt_343) (pc := 30) (ok_aload_n dX7_crop_30) 31 rfl ?_
  refine oc (y := mt_343) (pc := 31) (ok_getfield dX7_crop_31 (fg (own := "GardenChessModel") (idx := 154) (g := 9) (k := 62) (r := (RX7, TX7, 122)) rfl ⟨⟨by decide, by decide⟩, by decide⟩ (Or.inl q1874) (Or.inl rfl) rfl (fg_nil))) 34 rfl ?_
  refine oc (y := mt_343) (pc := 34) (ok_bipush dX7_crop_34 (by decide) ⟨by decide, by decide⟩) 36 rfl ?_
  refine oc (y := mt_343) (pc := 36) (ok_iload_n dX7_crop_36) 37 rfl ?_
  refine oc (y := mt_343) (pc := 37) (ok_iadd dX7_crop_37) 38 rfl ?_
  refine oc (y := mt_343) (pc := 38) (ok_iaload dX7_crop_38) 39 rfl ?_
  refine oc (y := mt_343) (pc := 39) (ok_istore_n dX7_crop_39 (by decide)) 40 rfl ?_
  refine oc (y := mt_343) (pc := 40) (ok_aload_n dX7_crop_40) 41 rfl ?_
  refine oc_V (y := mt_343) (pc := 41) (vcons (y := mt_343) (pc := 41) (len := 3) (n := 1) (M := mt_341) (by decide) rfl (Or.inr rfl) rfl (ck_V dX7_crop_41 ⟨by decide, by decide, by decide, by decide +kernel⟩ q2607 q2609 qs137 q177 q2610) vnil) (hok0 rfl) (by decide) 44 rfl ?_
  refine oc (y := mt_343) (pc := 44) (ok_iload_n dX7_crop_44) 45 rfl ?_
  exact oc_iret dX7_crop_45 rfl
theorem ok_343 : ∀ q ∈ pr_343, okL gmt mt_343 q.1 q.2 := pk_c o_343_0 (pk_c o_343_19 (pk_c o_343_21 (pk_n)))
theorem o_344_0 : okL gmt mt_344 0 b_344_0 := by
  refine oc (y := mt_344) (pc := 0) (ok_aload_n dX7_spare_0) 1 rfl ?_
  refine oc (y := mt_344) (pc := 1) (ok_iload_n dX7_spare_1) 2 rfl ?_
  refine oc_V (y := mt_344) (pc := 2) (vcons (y := mt_344) (pc := 2) (len := 3) (n := 2) (M := mt_305) (by decide) rfl (Or.inr rfl) rfl (ck_V dX7_spare_2 ⟨by decide, by decide, by decide, by decide +kernel⟩ q2461 q2463 qs111 q177 q2464) vnil) (hok0 rfl) (by decide) 5 rfl ?_
  refine oc_if dX7_spare_5 ⟨by decide, by decide⟩ 8 rfl ?_
  refine oc (y := mt_344) (pc := 8) (ok_aload_n dX7_spare_8) 9 rfl ?_
  refine oc (y := mt_344) (pc := 9) (ok_iload_n dX7_spare_9) 10 rfl ?_
  refine oc (y := mt_344) (pc := 10) (ok_iconst dX7_spare_10 rfl ⟨by decide, by decide⟩) 11 rfl ?_
  refine oc (y := mt_344) (pc := 11) (ok_bipush dX7_spare_11 (by decide) ⟨by decide, by decide⟩) 13 rfl ?_
  refine oc_V (y := mt_344) (pc := 13) (vcons (y := mt_344) (pc := 13) (len := 3) (n := 4) (M := mt_328) (by decide) rfl (Or.inr rfl) rfl (ck_V dX7_spare_13 ⟨by decide, by decide, by decide, by decide +kernel⟩ q2555 q2557 qs126 q177 q2558) vnil) (hok0 rfl) (by decide) 16 rfl ?_
  refine oc_if dX7_spare_16 ⟨by decide, by decide⟩ 19 rfl ?_
  refine oc (y := mt_344) (pc := 19) (ok_iload_n dX7_spare_19) 20 rfl ?_
  refine oc (y := mt_344) (pc := 20) (ok_i2l dX7_spare_20) 21 rfl ?_
  refine oc (y := mt_344) (pc := 21) (ok_lconst dX7_spare_21 (by decide) ⟨by decide, by decide⟩) 22 rfl ?_
  refine oc (y := mt_344) (pc := 22) (ok_lconst dX7_spare_22 (by decide) ⟨by decide, by decide⟩) 23 rfl ?_
  refine oc_S (y := mt_344) (pc := 23) (M := mt_246) rfl (ck_S dX7_spare_23 ⟨by decide, by decide, by decide, by decide +kernel⟩ q2225 q2226 q177 q2227) (hok0 rfl) (by decide) 26 rfl ?_
  refine oc_if dX7_spare_26 ⟨by decide, by decide⟩ 29 rfl ?_
  exact oc_fall rfl
theorem o_344_29 : okL gmt mt_344 29 b_344_29 := by
  refine oc (y := mt_344) (pc := 29) (ok_iconst dX7_spare_29 rfl ⟨by decide, by decide⟩) 30 rfl ?_
  exact oc_iret dX7_spare_30 rfl
theorem o_344_31 : okL gmt mt_344 31 b_344_31 := by
  refine oc (y := mt_344) (pc := 31) (ok_iconst dX7_spare_31 rfl ⟨by decide, by decide⟩) 32 rfl ?_
  refine oc (y := mt_344) (pc := 32) (ok_istore dX7_spare_32 (by decide)) 34 rfl ?_
  refine oc (y := mt_344) (pc := 34) (ok_iconst dX7_spare_34 rfl ⟨by decide, by decide⟩) 35 rfl ?_
  refine oc (y := mt_344) (pc := 35) (ok_istore dX7_spare_35 (by decide)) 37 rfl ?_
  refine oc (y := mt_344) (pc := 37) (ok_aload_n dX7_spare_37) 38 rfl ?_
  refine oc_V (y := mt_344) (pc := 38) (vcons (y := mt_344) (pc := 38) (len := 3) (n := 1) (M := mt_345) (by decide) rfl (Or.inr rfl) rfl (ck_V dX7_spare_38 ⟨by decide, by decide, by decide, by decide +kernel⟩ q2623 q2625 qs139 q177 q2626) vnil) (hok0 rfl) (by decide) 41 rfl ?_
  refine oc (y := mt_344) (pc := 41) (ok_istore dX7_spare_41 (by decide)) 43 rfl ?_
  refine oc (y := mt_344) (pc := 43) (ok_aload_n dX7_spare_43) 44 rfl ?_
  refine oc_V (y := mt_344) (pc := 44) (vcons (y := mt_344) (pc := 44) (len := 3) (n := 1) (M := mt_329) (by decide) rfl (Or.inr rfl) rfl (ck_V dX7_spare_44 ⟨by decide, by decide, by decide, by decide +kernel⟩ q2559 q2561 qs127 q177 q2562) vnil) (hok0 rfl) (by decide) 47 rfl ?_
  refine oc (y := mt_344) (pc := 47) (ok_iconst dX7_spare_47 rfl ⟨by decide, by decide⟩) 48 rfl ?_
  refine oc (y := mt_344) (pc := 48) (ok_istore dX7_spare_48 (by decide)) 50 rfl ?_
  exact oc_fall rfl
theorem o_344_50 : okL gmt mt_344 50 b_344_50 := by
  refine oc (y := mt_344) (pc := 50) (ok_iload dX7_spare_50) 52 rfl ?_
  refine oc (y := mt_344) (pc := 52) (ok_iload dX7_spare_52) 54 rfl ?_
  refine oc_icmp dX7_spare_54 ⟨by decide, by decide⟩ 57 rfl ?_
  refine oc (y := mt_344) (pc := 57) (ok_aload_n dX7_spare_57) 58 rfl ?_
  refine oc (y := mt_344) (pc := 58) (ok_iload dX7_spare_58) 60 rfl ?_
  refine oc_V (y := mt_344) (pc := 60) (vcons (y := mt_344) (pc := 60) (len := 3) (n := 2) (M := mt_308) (by decide) rfl (Or.inr rfl) rfl (ck_V dX7_spare_60 ⟨by decide, by decide, by decide, by decide +kernel⟩ q2474 q2476 qs112 q177 q2477) vnil) (hok0 rfl) (by decide) 63 rfl ?_
  refine oc (y := mt_344) (pc := 63) (ok_aload_n dX7_spare_63) 64 rfl ?_
  refine oc_V (y := mt_344) (pc := 64) (vcons (y := mt_344) (pc := 64) (len := 3) (n := 1) (M := mt_332) (by decide) rfl (Or.inr rfl) rfl (ck_V dX7_spare_64 ⟨by decide, by decide, by decide, by decide +kernel⟩ q2571 q2573 qs130 q177 q2574) vnil) (hok0 rfl) (by decide) 67 rfl ?_
  refine oc (y := mt_344) (pc := 67) (ok_aload_n dX7_spare_67) 68 rfl ?_
  refine oc (y := mt_344) (pc := 68) (ok_iload_n dX7_spare_68) 69 rfl ?_
  refine oc (y := mt_344) (pc := 69) (ok_iconst dX7_spare_69 rfl ⟨by decide, by decide⟩) 70 rfl ?_
  refine oc (y := mt_344) (pc := 70) (ok_isub dX7_spare_70) 71 rfl ?_
  refine oc_V (y := mt_344) (pc := 71) (vcons (y := mt_344) (pc := 71) (len := 3) (n := 2) (M := mt_330) (by decide) rfl (Or.inr rfl) rfl (ck_V dX7_spare_71 ⟨by decide, by decide, by decide, by decide +kernel⟩ q2563 q2565 qs128 q177 q2566) vnil) (hok0 rfl) (by decide) 74 rfl ?_
  refine oc (y := mt_344) (pc := 74) (ok_aload_n dX7_spare_74) 75 rfl ?_
  refine oc (y := mt_344) (pc := 75) (ok_getfield dX7_spare_75 (fg (own := "GardenChessModel") (idx := 154) (g := 9) (k := 62) (r := (RX7, TX7, 122)) rfl ⟨⟨by decide, by decide⟩, by decide⟩ (Or.inl q1874) (Or.inl rfl) rfl (fg_nil))) 78 rfl ?_
  refine oc (y := mt_344) (pc := 78) (ok_bipush dX7_spare_78 (by decide) ⟨by decide, by decide⟩) 80 rfl ?_
  refine oc (y := mt_344) (pc := 80) (ok_iload_n dX7_spare_80) 81 rfl ?_
  refine oc (y := mt_344) (pc := 81) (ok_iadd dX7_spare_81) 82 rfl ?_
  refine oc (y := mt_344) (pc := 82) (ok_iaload dX7_spare_82) 83 rfl ?_
  refine oc (y := mt_344) (pc := 83) (ok_istore dX7_spare_83 (by decide)) 85 rfl ?_
  refine oc (y := mt_344) (pc := 85) (ok_aload_n dX7_spare_85) 86 rfl ?_
  refine oc_V (y := mt_344) (pc := 86) (vcons (y := mt_344) (pc := 86) (len := 3) (n := 1) (M := mt_342) (by decide) rfl (Or.inr rfl) rfl (ck_V dX7_spare_86 ⟨by decide, by decide, by decide, by decide +kernel⟩ q2611 q2613 qs138 q177 q2614) vnil) (hok0 rfl) (by decide) 89 rfl ?_
  refine oc (y := mt_344) (pc := 89) (ok_iload dX7_spare_89) 91 rfl ?_
  refine oc (y := mt_344) (pc := 91) (ok_iload dX7_spare_91) 93 rfl ?_
  refine oc_icmp dX7_spare_93 ⟨by decide, by decide⟩ 96 rfl ?_
  exact oc_goto dX7_spare_96 ⟨by decide, by decide⟩
theorem o_344_99 : okL gmt mt_344 99 b_344_99 := by
  refine oc (y := mt_344) (pc := 99) (ok_iload dX7_spare_99) 101 rfl ?_
  refine oc (y := mt_344) (pc := 101) (ok_istore dX7_spare_101 (by decide)) 103 rfl ?_
  refine oc (y := mt_344) (pc := 103) (ok_iload dX7_spare_103) 105 rfl ?_
  refine oc (y := mt_344) (pc := 105) (ok_istore dX7_spare_105 (by decide)) 107 rfl ?_
  exact oc_fall rfl
theorem o_344_107 : okL gmt mt_344 107 b_344_107 := by
  refine oc (y := mt_344) (pc := 107) (ok_iinc dX7_spare_107 (by decide)) 110 rfl ?_
  exact oc_goto dX7_spare_110 ⟨by decide, by decide⟩
theorem o_344_113 : okL gmt mt_344 113 b_344_113 := by
  refine oc (y := mt_344) (pc := 113) (ok_aload_n dX7_spare_113) 114 rfl ?_
  refine oc_V (y := mt_344) (pc := 114) (vcons (y := mt_344) (pc := 114) (len := 3) (n := 1) (M := mt_341) (by decide) rfl (Or.inr rfl) rfl (ck_V dX7_spare_114 ⟨by decide, by decide, by decide, by decide +kernel⟩ q2607 q2609 qs137 q177 q2610) vnil) (hok0 rfl) (by decide) 117 rfl ?_
  refine oc (y := mt_344) (pc := 117) (ok_iload_n dX7_spare_117) 118 rfl ?_
  refine oc_if dX7_spare_118 ⟨by decide, by decide⟩ 121 rfl ?_
  refine oc (y := mt_344) (pc := 121) (ok_iload dX7_spare_121) 123 rfl ?_
  exact oc_goto dX7_spare_123 ⟨by decide, by decide⟩
theorem o_344_126 : okL gmt mt_344 126 b_344_126 := by
  refine oc (y := mt_344) (pc := 126) (ok_iload dX7_spare_126) 128 rfl ?_
  exact oc_fall rfl
theorem o_344_128 : okL gmt mt_344 128 b_344_128 := by
  exact oc_iret dX7_spare_128 rfl
theorem ok_344 : ∀ q ∈ pr_344, okL gmt mt_344 q.1 q.2 := pk_c o_344_0 (pk_c o_344_29 (pk_c o_344_31 (pk_c o_344_50 (pk_c o_344_99 (pk_c o_344_107 (pk_c o_344_113 (pk_c o_344_126 (pk_c o_344_128 (pk_n)))))))))
theorem o_345_0 : okL gmt mt_345 0 b_345_0 := by
  refine oc (y := mt_345) (pc := 0) (ok_iconst dX7_movesNow_0 rfl ⟨by decide, by decide⟩) 1 rfl ?_
  refine oc (y := mt_345) (pc := 1) (ok_istore_n dX7_movesNow_1 (by decide)) 2 rfl ?_
  refine oc (y := mt_345) (pc := 2) (ok_aload_n dX7_movesNow_2) 3 rfl ?_
  refine oc_V (y := mt_345) (pc := 3) (vcons (y := mt_345) (pc := 3) (len := 3) (n := 1) (M := mt_280) (by decide) rfl (Or.inr rfl) rfl (ck_V dX7_movesNow_3 ⟨by decide, by decide, by decide, by decide +kernel⟩ q2361 q2363 qs93 q177 q2364) vnil) (hok0 rfl) (by decide) 6 rfl ?_
  refine oc_if dX7_movesNow_6 ⟨by decide, by decide⟩ 9 rfl ?_
  refine oc (y := mt_345) (pc := 9) (ok_iconst dX7_movesNow_9 rfl ⟨by decide, by decide⟩) 10 rfl ?_
  exact oc_iret dX7_movesNow_10 rfl
theorem o_345_11 : okL gmt mt_345 11 b_345_11 := by
  refine oc (y := mt_345) (pc := 11) (ok_iconst dX7_movesNow_11 rfl ⟨by decide, by decide⟩) 12 rfl ?_
  refine oc (y := mt_345) (pc := 12) (ok_istore_n dX7_movesNow_12 (by decide)) 13 rfl ?_
  exact oc_fall rfl
theorem o_345_13 : okL gmt mt_345 13 b_345_13 := by
  refine oc (y := mt_345) (pc := 13) (ok_iload_n dX7_movesNow_13) 14 rfl ?_
  refine oc (y := mt_345) (pc := 14) (ok_aload_n dX7_movesNow_14) 15 rfl ?_
  refine oc_V (y := mt_345) (pc := 15) (vcons (y := mt_345) (pc := 15) (len := 3) (n := 1) (M := mt_281) (by decide) rfl (Or.inr rfl) rfl (ck_V dX7_movesNow_15 ⟨by decide, by decide, by decide, by decide +kernel⟩ q2365 q2367 qs94 q177 q2368) vnil) (hok0 rfl) (by decide) 18 rfl ?_
  refine oc_icmp dX7_movesNow_18 ⟨by decide, by decide⟩ 21 rfl ?_
  refine oc (y := mt_345) (pc := 21) (ok_aload_n dX7_movesNow_21) 22 rfl ?_
  refine oc (y := mt_345) (pc := 22) (ok_iload_n dX7_movesNow_22) 23 rfl ?_
  refine oc_V (y := mt_345) (pc := 23) (vcons (y := mt_345) (pc := 23) (len := 3) (n := 2) (M := mt_287) (by decide) rfl (Or.inr rfl) rfl (ck_V dX7_movesNow_23 ⟨by decide, by decide, by decide, by decide +kernel⟩ q2389 q2391 qs100 q177 q2392) vnil) (hok0 rfl) (by decide) 26 rfl ?_
  refine oc (y := mt_345) (pc := 26) (ok_aload_n dX7_movesNow_26) 27 rfl ?_
  refine oc (y := mt_345) (pc := 27) (ok_getfield dX7_movesNow_27 (fg (own := "GardenChessModel") (idx := 154) (g := 9) (k := 62) (r := (RX7, TX7, 122)) rfl ⟨⟨by decide, by decide⟩, by decide⟩ (Or.inl q1874) (Or.inl rfl) rfl (fg_nil))) 30 rfl ?_
  refine oc (y := mt_345) (pc := 30) (ok_iconst dX7_movesNow_30 rfl ⟨by decide, by decide⟩) 31 rfl ?_
  refine oc (y := mt_345) (pc := 31) (ok_iaload dX7_movesNow_31) 32 rfl ?_
  refine oc_icmp dX7_movesNow_32 ⟨by decide, by decide⟩ 35 rfl ?_
  refine oc (y := mt_345) (pc := 35) (ok_iload_n dX7_movesNow_35) 36 rfl ?_
  refine oc (y := mt_345) (pc := 36) (ok_aload_n dX7_movesNow_36) 37 rfl ?_
  refine oc (y := mt_345) (pc := 37) (ok_iload_n dX7_movesNow_37) 38 rfl ?_
  refine oc_V (y := mt_345) (pc := 38) (vcons (y := mt_345) (pc := 38) (len := 3) (n := 2) (M := mt_288) (by decide) rfl (Or.inr rfl) rfl (ck_V dX7_movesNow_38 ⟨by decide, by decide, by decide, by decide +kernel⟩ q2393 q2395 qs101 q177 q2396) vnil) (hok0 rfl) (by decide) 41 rfl ?_
  refine oc (y := mt_345) (pc := 41) (ok_iadd dX7_movesNow_41) 42 rfl ?_
  refine oc (y := mt_345) (pc := 42) (ok_istore_n dX7_movesNow_42 (by decide)) 43 rfl ?_
  exact oc_fall rfl
theorem o_345_43 : okL gmt mt_345 43 b_345_43 := by
  refine oc (y := mt_345) (pc := 43) (ok_iinc dX7_movesNow_43 (by decide)) 46 rfl ?_
  exact oc_goto dX7_movesNow_46 ⟨by decide, by decide⟩
theorem o_345_49 : okL gmt mt_345 49 b_345_49 := by
  refine oc (y := mt_345) (pc := 49) (ok_iload_n dX7_movesNow_49) 50 rfl ?_
  exact oc_iret dX7_movesNow_50 rfl
theorem ok_345 : ∀ q ∈ pr_345, okL gmt mt_345 q.1 q.2 := pk_c o_345_0 (pk_c o_345_11 (pk_c o_345_13 (pk_c o_345_43 (pk_c o_345_49 (pk_n)))))
theorem o_346_0 : okL gmt mt_346 0 b_346_0 := by
  refine oc (y := mt_346) (pc := 0) (ok_aload_n dX7_sow_0) 1 rfl ?_
  refine oc (y := mt_346) (pc := 1) (ok_iload_n dX7_sow_1) 2 rfl ?_
  refine oc (y := mt_346) (pc := 2) (ok_iconst dX7_sow_2 rfl ⟨by decide, by decide⟩) 3 rfl ?_
  refine oc (y := mt_346) (pc := 3) (ok_bipush dX7_sow_3 (by decide) ⟨by decide, by decide⟩) 5 rfl ?_
  refine oc_V (y := mt_346) (pc := 5) (vcons (y := mt_346) (pc := 5) (len := 3) (n := 4) (M := mt_328) (by decide) rfl (Or.inr rfl) rfl (ck_V dX7_sow_5 ⟨by decide, by decide, by decide, by decide +kernel⟩ q2555 q2557 qs126 q177 q2558) vnil) (hok0 rfl) (by decide) 8 rfl ?_
  refine oc_if dX7_sow_8 ⟨by decide, by decide⟩ 11 rfl ?_
  refine oc (y := mt_346) (pc := 11) (ok_iload_n dX7_sow_11) 12 rfl ?_
  refine oc (y := mt_346) (pc := 12) (ok_i2l dX7_sow_12) 13 rfl ?_
  refine oc (y := mt_346) (pc := 13) (ok_lconst dX7_sow_13 (by decide) ⟨by decide, by decide⟩) 14 rfl ?_
  refine oc (y := mt_346) (pc := 14) (ok_ldc2 dX7_sow_14 ⟨by decide, by decide⟩ (show Cond.constantLong _ _ (Int64.ofInt 2) ∈ lw_all from q2442)) 17 rfl ?_
  refine oc_S (y := mt_346) (pc := 17) (M := mt_246) rfl (ck_S dX7_sow_17 ⟨by decide, by decide, by decide, by decide +kernel⟩ q2225 q2226 q177 q2227) (hok0 rfl) (by decide) 20 rfl ?_
  refine oc_if dX7_sow_20 ⟨by decide, by decide⟩ 23 rfl ?_
  exact oc_fall rfl
theorem o_346_23 : okL gmt mt_346 23 b_346_23 := by
  refine oc (y := mt_346) (pc := 23) (ok_iconst dX7_sow_23 rfl ⟨by decide, by decide⟩) 24 rfl ?_
  exact oc_iret dX7_sow_24 rfl
theorem o_346_25 : okL gmt mt_346 25 b_346_25 := by
  refine oc (y := mt_346) (pc := 25) (ok_iconst dX7_sow_25 rfl ⟨by decide, by decide⟩) 26 rfl ?_
  refine oc (y := mt_346) (pc := 26) (ok_istore_n dX7_sow_26 (by decide)) 27 rfl ?_
  exact oc_fall rfl
theorem o_346_27 : okL gmt mt_346 27 b_346_27 := by
  refine oc (y := mt_346) (pc := 27) (ok_iload_n dX7_sow_27) 28 rfl ?_
  refine oc (y := mt_346) (pc := 28) (ok_bipush dX7_sow_28 (by decide) ⟨by decide, by decide⟩) 30 rfl ?_
  refine oc_icmp dX7_sow_30 ⟨by decide, by decide⟩ 33 rfl ?_
  refine oc (y := mt_346) (pc := 33) (ok_aload_n dX7_sow_33) 34 rfl ?_
  refine oc (y := mt_346) (pc := 34) (ok_getfield dX7_sow_34 (fg (own := "GardenChessModel") (idx := 175) (g := 9) (k := 76) (r := (RX7, TX7, 122)) rfl ⟨⟨by decide, by decide⟩, by decide⟩ (Or.inl q1888) (Or.inl rfl) rfl (fg_nil))) 37 rfl ?_
  refine oc (y := mt_346) (pc := 37) (ok_iload_n dX7_sow_37) 38 rfl ?_
  refine oc (y := mt_346) (pc := 38) (ok_lconst dX7_sow_38 (by decide) ⟨by decide, by decide⟩) 39 rfl ?_
  refine oc (y := mt_346) (pc := 39) (ok_lastore dX7_sow_39) 40 rfl ?_
  refine oc (y := mt_346) (pc := 40) (ok_iinc dX7_sow_40 (by decide)) 43 rfl ?_
  exact oc_goto dX7_sow_43 ⟨by decide, by decide⟩
theorem o_346_46 : okL gmt mt_346 46 b_346_46 := by
  refine oc (y := mt_346) (pc := 46) (ok_aload_n dX7_sow_46) 47 rfl ?_
  refine oc_V (y := mt_346) (pc := 47) (vcons (y := mt_346) (pc := 47) (len := 3) (n := 1) (M := mt_329) (by decide) rfl (Or.inr rfl) rfl (ck_V dX7_sow_47 ⟨by decide, by decide, by decide, by decide +kernel⟩ q2559 q2561 qs127 q177 q2562) vnil) (hok0 rfl) (by decide) 50 rfl ?_
  refine oc (y := mt_346) (pc := 50) (ok_iconst dX7_sow_50 rfl ⟨by decide, by decide⟩) 51 rfl ?_
  refine oc (y := mt_346) (pc := 51) (ok_istore_n dX7_sow_51 (by decide)) 52 rfl ?_
  exact oc_fall rfl
theorem o_346_52 : okL gmt mt_346 52 b_346_52 := by
  refine oc (y := mt_346) (pc := 52) (ok_iload_n dX7_sow_52) 53 rfl ?_
  refine oc (y := mt_346) (pc := 53) (ok_iload_n dX7_sow_53) 54 rfl ?_
  refine oc_icmp dX7_sow_54 ⟨by decide, by decide⟩ 57 rfl ?_
  refine oc (y := mt_346) (pc := 57) (ok_aload_n dX7_sow_57) 58 rfl ?_
  refine oc_V (y := mt_346) (pc := 58) (vcons (y := mt_346) (pc := 58) (len := 3) (n := 1) (M := mt_331) (by decide) rfl (Or.inr rfl) rfl (ck_V dX7_sow_58 ⟨by decide, by decide, by decide, by decide +kernel⟩ q2567 q2569 qs129 q177 q2570) vnil) (hok0 rfl) (by decide) 61 rfl ?_
  refine oc (y := mt_346) (pc := 61) (ok_aload_n dX7_sow_61) 62 rfl ?_
  refine oc (y := mt_346) (pc := 62) (ok_getfield dX7_sow_62 (fg (own := "GardenChessModel") (idx := 515) (g := 9) (k := 68) (r := (RX7, TX7, 122)) rfl ⟨⟨by decide, by decide⟩, by decide⟩ (Or.inl q1880) (Or.inl rfl) rfl (fg_nil))) 65 rfl ?_
  refine oc (y := mt_346) (pc := 65) (ok_iconst dX7_sow_65 rfl ⟨by decide, by decide⟩) 66 rfl ?_
  refine oc_icmp dX7_sow_66 ⟨by decide, by decide⟩ 69 rfl ?_
  refine oc (y := mt_346) (pc := 69) (ok_aload_n dX7_sow_69) 70 rfl ?_
  refine oc_V (y := mt_346) (pc := 70) (vcons (y := mt_346) (pc := 70) (len := 3) (n := 1) (M := mt_347) (by decide) rfl (Or.inr rfl) rfl (ck_V dX7_sow_70 ⟨by decide, by decide, by decide, by decide +kernel⟩ q2631 q2633 qs140 q177 q2634) vnil) (hok0 rfl) (by decide) 73 rfl ?_
  exact oc_fall rfl
theorem o_346_73 : okL gmt mt_346 73 b_346_73 := by
  refine oc (y := mt_346) (pc := 73) (ok_aload_n dX7_sow_73) 74 rfl ?_
  refine oc_V (y := mt_346) (pc := 74) (vcons (y := mt_346) (pc := 74) (len := 3) (n := 1) (M := mt_332) (by decide) rfl (Or.inr rfl) rfl (ck_V dX7_sow_74 ⟨by decide, by decide, by decide, by decide +kernel⟩ q2571 q2573 qs130 q177 q2574) vnil) (hok0 rfl) (by decide) 77 rfl ?_
  refine oc (y := mt_346) (pc := 77) (ok_iinc dX7_sow_77 (by decide)) 80 rfl ?_
  exact oc_goto dX7_sow_80 ⟨by decide, by decide⟩
theorem o_346_83 : okL gmt mt_346 83 b_346_83 := by
  refine oc (y := mt_346) (pc := 83) (ok_aload_n dX7_sow_83) 84 rfl ?_
  refine oc_V (y := mt_346) (pc := 84) (vcons (y := mt_346) (pc := 84) (len := 3) (n := 1) (M := mt_341) (by decide) rfl (Or.inr rfl) rfl (ck_V dX7_sow_84 ⟨by decide, by decide, by decide, by decide +kernel⟩ q2607 q2609 qs137 q177 q2610) vnil) (hok0 rfl) (by decide) 87 rfl ?_
  refine oc (y := mt_346) (pc := 87) (ok_iconst dX7_sow_87 rfl ⟨by decide, by decide⟩) 88 rfl ?_
  refine oc (y := mt_346) (pc := 88) (ok_istore_n dX7_sow_88 (by decide)) 89 rfl ?_
  refine oc (y := mt_346) (pc := 89) (ok_iconst dX7_sow_89 rfl ⟨by decide, by decide⟩) 90 rfl ?_
  refine oc (y := mt_346) (pc := 90) (ok_istore dX7_sow_90 (by decide)) 92 rfl ?_
  exact oc_fall rfl
theorem o_346_92 : okL gmt mt_346 92 b_346_92 := by
  refine oc (y := mt_346) (pc := 92) (ok_iload dX7_sow_92) 94 rfl ?_
  refine oc (y := mt_346) (pc := 94) (ok_aload_n dX7_sow_94) 95 rfl ?_
  refine oc_V (y := mt_346) (pc := 95) (vcons (y := mt_346) (pc := 95) (len := 3) (n := 1) (M := mt_289) (by decide) rfl (Or.inr rfl) rfl (ck_V dX7_sow_95 ⟨by decide, by decide, by decide, by decide +kernel⟩ q2397 q2399 qs102 q177 q2400) vnil) (hok0 rfl) (by decide) 98 rfl ?_
  refine oc_icmp dX7_sow_98 ⟨by decide, by decide⟩ 101 rfl ?_
  refine oc (y := mt_346) (pc := 101) (ok_aload_n dX7_sow_101) 102 rfl ?_
  refine oc (y := mt_346) (pc := 102) (ok_getfield dX7_sow_102 (fg (own := "GardenChessModel") (idx := 175) (g := 9) (k := 76) (r := (RX7, TX7, 122)) rfl ⟨⟨by decide, by decide⟩, by decide⟩ (Or.inl q1888) (Or.inl rfl) rfl (fg_nil))) 105 rfl ?_
  refine oc (y := mt_346) (pc := 105) (ok_iload dX7_sow_105) 107 rfl ?_
  refine oc (y := mt_346) (pc := 107) (ok_laload dX7_sow_107) 108 rfl ?_
  refine oc (y := mt_346) (pc := 108) (ok_aload_n dX7_sow_108) 109 rfl ?_
  refine oc (y := mt_346) (pc := 109) (ok_getfield dX7_sow_109 (fg (own := "GardenChessModel") (idx := 175) (g := 9) (k := 76) (r := (RX7, TX7, 122)) rfl ⟨⟨by decide, by decide⟩, by decide⟩ (Or.inl q1888) (Or.inl rfl) rfl (fg_nil))) 112 rfl ?_
  refine oc (y := mt_346) (pc := 112) (ok_iload_n dX7_sow_112) 113 rfl ?_
  refine oc (y := mt_346) (pc := 113) (ok_laload dX7_sow_113) 114 rfl ?_
  refine oc (y := mt_346) (pc := 114) (ok_lcmp dX7_sow_114) 115 rfl ?_
  refine oc_if dX7_sow_115 ⟨by decide, by decide⟩ 118 rfl ?_
  refine oc (y := mt_346) (pc := 118) (ok_iload dX7_sow_118) 120 rfl ?_
  refine oc (y := mt_346) (pc := 120) (ok_istore_n dX7_sow_120 (by decide)) 121 rfl ?_
  exact oc_fall rfl
theorem o_346_121 : okL gmt mt_346 121 b_346_121 := by
  refine oc (y := mt_346) (pc := 121) (ok_iinc dX7_sow_121 (by decide)) 124 rfl ?_
  exact oc_goto dX7_sow_124 ⟨by decide, by decide⟩
theorem o_346_127 : okL gmt mt_346 127 b_346_127 := by
  refine oc (y := mt_346) (pc := 127) (ok_iload_n dX7_sow_127) 128 rfl ?_
  refine oc_if dX7_sow_128 ⟨by decide, by decide⟩ 131 rfl ?_
  refine oc (y := mt_346) (pc := 131) (ok_iload_n dX7_sow_131) 132 rfl ?_
  refine oc (y := mt_346) (pc := 132) (ok_aload_n dX7_sow_132) 133 rfl ?_
  refine oc (y := mt_346) (pc := 133) (ok_getfield dX7_sow_133 (fg (own := "GardenChessModel") (idx := 127) (g := 9) (k := 47) (r := (RX7, TX7, 122)) rfl ⟨⟨by decide, by decide⟩, by decide⟩ (Or.inl q1859) (Or.inl rfl) rfl (fg_nil))) 136 rfl ?_
  refine oc (y := mt_346) (pc := 136) (ok_iconst dX7_sow_136 rfl ⟨by decide, by decide⟩) 137 rfl ?_
  refine oc (y := mt_346) (pc := 137) (ok_iaload dX7_sow_137) 138 rfl ?_
  refine oc (y := mt_346) (pc := 138) (ok_irem dX7_sow_138) 139 rfl ?_
  exact oc_goto dX7_sow_139 ⟨by decide, by decide⟩
theorem o_346_142 : okL gmt mt_346 142 b_346_142 := by
  refine oc (y := mt_346) (pc := 142) (ok_iload_n dX7_sow_142) 143 rfl ?_
  refine oc (y := mt_346) (pc := 143) (ok_iconst dX7_sow_143 rfl ⟨by decide, by decide⟩) 144 rfl ?_
  refine oc_icmp dX7_sow_144 ⟨by decide, by decide⟩ 147 rfl ?_
  refine oc (y := mt_346) (pc := 147) (ok_iload_n dX7_sow_147) 148 rfl ?_
  refine oc (y := mt_346) (pc := 148) (ok_aload_n dX7_sow_148) 149 rfl ?_
  refine oc (y := mt_346) (pc := 149) (ok_getfield dX7_sow_149 (fg (own := "GardenChessModel") (idx := 127) (g := 9) (k := 47) (r := (RX7, TX7, 122)) rfl ⟨⟨by decide, by decide⟩, by decide⟩ (Or.inl q1859) (Or.inl rfl) rfl (fg_nil))) 152 rfl ?_
  refine oc (y := mt_346) (pc := 152) (ok_iconst dX7_sow_152 rfl ⟨by decide, by decide⟩) 153 rfl ?_
  refine oc (y := mt_346) (pc := 153) (ok_iaload dX7_sow_153) 154 rfl ?_
  refine oc (y := mt_346) (pc := 154) (ok_idiv dX7_sow_154) 155 rfl ?_
  exact oc_goto dX7_sow_155 ⟨by decide, by decide⟩
theorem o_346_158 : okL gmt mt_346 158 b_346_158 := by
  refine oc (y := mt_346) (pc := 158) (ok_aload_n dX7_sow_158) 159 rfl ?_
  refine oc (y := mt_346) (pc := 159) (ok_getfield dX7_sow_159 (fg (own := "GardenChessModel") (idx := 175) (g := 9) (k := 76) (r := (RX7, TX7, 122)) rfl ⟨⟨by decide, by decide⟩, by decide⟩ (Or.inl q1888) (Or.inl rfl) rfl (fg_nil))) 162 rfl ?_
  refine oc (y := mt_346) (pc := 162) (ok_iload_n dX7_sow_162) 163 rfl ?_
  refine oc (y := mt_346) (pc := 163) (ok_laload dX7_sow_163) 164 rfl ?_
  refine oc (y := mt_346) (pc := 164) (ok_ldc2 dX7_sow_164 ⟨by decide, by decide⟩ (show Cond.constantLong _ _ (Int64.ofInt 999999) ∈ lw_all from q2635)) 167 rfl ?_
  refine oc (y := mt_346) (pc := 167) (ok_lcmp dX7_sow_167) 168 rfl ?_
  refine oc_if dX7_sow_168 ⟨by decide, by decide⟩ 171 rfl ?_
  refine oc (y := mt_346) (pc := 171) (ok_ldc_wI dX7_sow_171 rfl ⟨by decide, by decide⟩ q2636) 174 rfl ?_
  exact oc_goto dX7_sow_174 ⟨by decide, by decide⟩
theorem o_346_177 : okL gmt mt_346 177 b_346_177 := by
  refine oc (y := mt_346) (pc := 177) (ok_aload_n dX7_sow_177) 178 rfl ?_
  refine oc (y := mt_346) (pc := 178) (ok_getfield dX7_sow_178 (fg (own := "GardenChessModel") (idx := 175) (g := 9) (k := 76) (r := (RX7, TX7, 122)) rfl ⟨⟨by decide, by decide⟩, by decide⟩ (Or.inl q1888) (Or.inl rfl) rfl (fg_nil))) 181 rfl ?_
  refine oc (y := mt_346) (pc := 181) (ok_iload_n dX7_sow_181) 182 rfl ?_
  refine oc (y := mt_346) (pc := 182) (ok_laload dX7_sow_182) 183 rfl ?_
  refine oc (y := mt_346) (pc := 183) (ok_l2i dX7_sow_183) 184 rfl ?_
  exact oc_fall rfl
theorem o_346_184 : okL gmt mt_346 184 b_346_184 := by
  exact oc_iret dX7_sow_184 rfl
theorem ok_346 : ∀ q ∈ pr_346, okL gmt mt_346 q.1 q.2 := pk_c o_346_0 (pk_c o_346_23 (pk_c o_346_25 (pk_c o_346_27 (pk_c o_346_46 (pk_c o_346_52 (pk_c o_346_73 (pk_c o_346_83 (pk_c o_346_92 (pk_c o_346_121 (pk_c o_346_127 (pk_c o_346_142 (pk_c o_346_158 (pk_c o_346_177 (pk_c o_346_184 (pk_n)))))))))))))))
theorem o_347_0 : okL gmt mt_347 0 b_347_0 := by
  refine oc (y := mt_347) (pc := 0) (ok_aload_n dX7_laysHarms_0) 1 rfl ?_
  refine oc (y := mt_347) (pc := 1) (ok_getfield dX7_laysHarms_1 (fg (own := "GardenChessModel") (idx := 524) (g := 9) (k := 70) (r := (RX7, TX7, 122)) rfl ⟨⟨by decide, by decide⟩, by decide⟩ (Or.inl q1882) (Or.inl rfl) rfl (fg_nil))) 4 rfl ?_
  refine oc (y := mt_347) (pc := 4) (ok_aload_n dX7_laysHarms_4) 5 rfl ?_
  refine oc (y := mt_347) (pc := 5) (ok_getfield dX7_laysHarms_5 (fg (own := "GardenChessModel") (idx := 127) (g := 9) (k := 47) (r := (RX7, TX7, 122)) rfl ⟨⟨by decide, by decide⟩, by decide⟩ (Or.inl q1859) (Or.inl rfl) rfl (fg_nil))) 8 rfl ?_
  refine oc (y := mt_347) (pc := 8) (ok_iconst dX7_laysHarms_8 rfl ⟨by decide, by decide⟩) 9 rfl ?_
  refine oc (y := mt_347) (pc := 9) (ok_iaload dX7_laysHarms_9) 10 rfl ?_
  refine oc (y := mt_347) (pc := 10) (ok_irem dX7_laysHarms_10) 11 rfl ?_
  refine oc (y := mt_347) (pc := 11) (ok_istore_n dX7_laysHarms_11 (by decide)) 12 rfl ?_
  refine oc (y := mt_347) (pc := 12) (ok_aload_n dX7_laysHarms_12) 13 rfl ?_
  refine oc (y := mt_347) (pc := 13) (ok_getfield dX7_laysHarms_13 (fg (own := "GardenChessModel") (idx := 524) (g := 9) (k := 70) (r := (RX7, TX7, 122)) rfl ⟨⟨by decide, by decide⟩, by decide⟩ (Or.inl q1882) (Or.inl rfl) rfl (fg_nil))) 16 rfl ?_
  refine oc (y := mt_347) (pc := 16) (ok_aload_n dX7_laysHarms_16) 17 rfl ?_
  refine oc (y := mt_347) (pc := 17) (ok_getfield dX7_laysHarms_17 (fg (own := "GardenChessModel") (idx := 127) (g := 9) (k := 47) (r := (RX7, TX7, 122)) rfl ⟨⟨by decide, by decide⟩, by decide⟩ (Or.inl q1859) (Or.inl rfl) rfl (fg_nil))) 20 rfl ?_
  refine oc (y := mt_347) (pc := 20) (ok_iconst dX7_laysHarms_20 rfl ⟨by decide, by decide⟩) 21 rfl ?_
  refine oc (y := mt_347) (pc := 21) (ok_iaload dX7_laysHarms_21) 22 rfl ?_
  refine oc (y := mt_347) (pc := 22) (ok_idiv dX7_laysHarms_22) 23 rfl ?_
  refine oc (y := mt_347) (pc := 23) (ok_istore_n dX7_laysHarms_23 (by decide)) 24 rfl ?_
  refine oc (y := mt_347) (pc := 24) (ok_aload_n dX7_laysHarms_24) 25 rfl ?_
  refine oc (y := mt_347) (pc := 25) (ok_iload_n dX7_laysHarms_25) 26 rfl ?_
  refine oc (y := mt_347) (pc := 26) (ok_iload_n dX7_laysHarms_26) 27 rfl ?_
  refine oc_V (y := mt_347) (pc := 27) (vcons (y := mt_347) (pc := 27) (len := 3) (n := 3) (M := mt_296) (by decide) rfl (Or.inr rfl) rfl (ck_V dX7_laysHarms_27 ⟨by decide, by decide, by decide, by decide +kernel⟩ q2422 q2424 qs106 q177 q2425) vnil) (hok0 rfl) (by decide) 30 rfl ?_
  refine oc (y := mt_347) (pc := 30) (ok_istore_n dX7_laysHarms_30 (by decide)) 31 rfl ?_
  refine oc (y := mt_347) (pc := 31) (ok_aload_n dX7_laysHarms_31) 32 rfl ?_
  refine oc (y := mt_347) (pc := 32) (ok_iload_n dX7_laysHarms_32) 33 rfl ?_
  refine oc (y := mt_347) (pc := 33) (ok_iconst dX7_laysHarms_33 rfl ⟨by decide, by decide⟩) 34 rfl ?_
  refine oc_icmp dX7_laysHarms_34 ⟨by decide, by decide⟩ 37 rfl ?_
  refine oc (y := mt_347) (pc := 37) (ok_lconst dX7_laysHarms_37 (by decide) ⟨by decide, by decide⟩) 38 rfl ?_
  exact oc_goto dX7_laysHarms_38 ⟨by decide, by decide⟩
theorem o_347_41 : okL gmt mt_347 41 b_347_41 := by
  refine oc (y := mt_347) (pc := 41) (ok_aload_n dX7_laysHarms_41) 42 rfl ?_
  refine oc (y := mt_347) (pc := 42) (ok_iload_n dX7_laysHarms_42) 43 rfl ?_
  refine oc_V (y := mt_347) (pc := 43) (vcons (y := mt_347) (pc := 43) (len := 3) (n := 2) (M := mt_315) (by decide) rfl (Or.inr rfl) rfl (ck_V dX7_laysHarms_43 ⟨by decide, by decide, by decide, by decide +kernel⟩ q2502 q2504 qs117 q177 q2505) vnil) (hok0 rfl) (by decide) 46 rfl ?_
  refine oc (y := mt_347) (pc := 46) (ok_i2l dX7_laysHarms_46) 47 rfl ?_
  exact oc_fall rfl
theorem o_347_47 : okL gmt mt_347 47 b_347_47 := by
  refine oc (y := mt_347) (pc := 47) (ok_putfield dX7_laysHarms_47 (fp (own := "GardenChessModel") (idx := 527) (g := 9) (k := 71) (r := (RX7, TX7, 122)) rfl ⟨⟨by decide, by decide⟩, by decide⟩ (Or.inl q1883) (Or.inl rfl) rfl (Or.inl rfl) (fp_nil))) 50 rfl ?_
  refine oc (y := mt_347) (pc := 50) (ok_aload_n dX7_laysHarms_50) 51 rfl ?_
  refine oc (y := mt_347) (pc := 51) (ok_iconst dX7_laysHarms_51 rfl ⟨by decide, by decide⟩) 52 rfl ?_
  refine oc (y := mt_347) (pc := 52) (ok_aload_n dX7_laysHarms_52) 53 rfl ?_
  refine oc (y := mt_347) (pc := 53) (ok_getfield dX7_laysHarms_53 (fg (own := "GardenChessModel") (idx := 521) (g := 9) (k := 69) (r := (RX7, TX7, 122)) rfl ⟨⟨by decide, by decide⟩, by decide⟩ (Or.inl q1881) (Or.inl rfl) rfl (fg_nil))) 56 rfl ?_
  refine oc (y := mt_347) (pc := 56) (ok_aload_n dX7_laysHarms_56) 57 rfl ?_
  refine oc (y := mt_347) (pc := 57) (ok_getfield dX7_laysHarms_57 (fg (own := "GardenChessModel") (idx := 524) (g := 9) (k := 70) (r := (RX7, TX7, 122)) rfl ⟨⟨by decide, by decide⟩, by decide⟩ (Or.inl q1882) (Or.inl rfl) rfl (fg_nil))) 60 rfl ?_
  refine oc_V (y := mt_347) (pc := 60) (vcons (y := mt_347) (pc := 60) (len := 3) (n := 4) (M := mt_309) (by decide) rfl (Or.inr rfl) rfl (ck_V dX7_laysHarms_60 ⟨by decide, by decide, by decide, by decide +kernel⟩ q2478 q2480 qs113 q177 q2481) vnil) (hok0 rfl) (by decide) 63 rfl ?_
  refine oc (y := mt_347) (pc := 63) (ok_aload_n dX7_laysHarms_63) 64 rfl ?_
  refine oc (y := mt_347) (pc := 64) (ok_aload_n dX7_laysHarms_64) 65 rfl ?_
  refine oc (y := mt_347) (pc := 65) (ok_aload_n dX7_laysHarms_65) 66 rfl ?_
  refine oc (y := mt_347) (pc := 66) (ok_getfield dX7_laysHarms_66 (fg (own := "GardenChessModel") (idx := 154) (g := 9) (k := 62) (r := (RX7, TX7, 122)) rfl ⟨⟨by decide, by decide⟩, by decide⟩ (Or.inl q1874) (Or.inl rfl) rfl (fg_nil))) 69 rfl ?_
  refine oc (y := mt_347) (pc := 69) (ok_iconst dX7_laysHarms_69 rfl ⟨by decide, by decide⟩) 70 rfl ?_
  refine oc (y := mt_347) (pc := 70) (ok_iaload dX7_laysHarms_70) 71 rfl ?_
  refine oc_V (y := mt_347) (pc := 71) (vcons (y := mt_347) (pc := 71) (len := 3) (n := 2) (M := mt_310) (by decide) rfl (Or.inr rfl) rfl (ck_V dX7_laysHarms_71 ⟨by decide, by decide, by decide, by decide +kernel⟩ q2482 q2484 qs114 q177 q2485) vnil) (hok0 rfl) (by decide) 74 rfl ?_
  refine oc_if dX7_laysHarms_74 ⟨by decide, by decide⟩ 77 rfl ?_
  refine oc (y := mt_347) (pc := 77) (ok_lconst dX7_laysHarms_77 (by decide) ⟨by decide, by decide⟩) 78 rfl ?_
  exact oc_goto dX7_laysHarms_78 ⟨by decide, by decide⟩
theorem o_347_81 : okL gmt mt_347 81 b_347_81 := by
  refine oc (y := mt_347) (pc := 81) (ok_lconst dX7_laysHarms_81 (by decide) ⟨by decide, by decide⟩) 82 rfl ?_
  exact oc_fall rfl
theorem o_347_82 : okL gmt mt_347 82 b_347_82 := by
  refine oc (y := mt_347) (pc := 82) (ok_putfield dX7_laysHarms_82 (fp (own := "GardenChessModel") (idx := 556) (g := 9) (k := 72) (r := (RX7, TX7, 122)) rfl ⟨⟨by decide, by decide⟩, by decide⟩ (Or.inl q1884) (Or.inl rfl) rfl (Or.inl rfl) (fp_nil))) 85 rfl ?_
  refine oc (y := mt_347) (pc := 85) (ok_aload_n dX7_laysHarms_85) 86 rfl ?_
  refine oc (y := mt_347) (pc := 86) (ok_iconst dX7_laysHarms_86 rfl ⟨by decide, by decide⟩) 87 rfl ?_
  refine oc_V (y := mt_347) (pc := 87) (vcons (y := mt_347) (pc := 87) (len := 3) (n := 2) (M := mt_311) (by decide) rfl (Or.inr rfl) rfl (ck_V dX7_laysHarms_87 ⟨by decide, by decide, by decide, by decide +kernel⟩ q2486 q2488 qs115 q177 q2489) vnil) (hok0 rfl) (by decide) 90 rfl ?_
  refine oc (y := mt_347) (pc := 90) (ok_iconst dX7_laysHarms_90 rfl ⟨by decide, by decide⟩) 91 rfl ?_
  refine oc (y := mt_347) (pc := 91) (ok_istore dX7_laysHarms_91 (by decide)) 93 rfl ?_
  exact oc_fall rfl
theorem o_347_93 : okL gmt mt_347 93 b_347_93 := by
  refine oc (y := mt_347) (pc := 93) (ok_iload dX7_laysHarms_93) 95 rfl ?_
  refine oc (y := mt_347) (pc := 95) (ok_aload_n dX7_laysHarms_95) 96 rfl ?_
  refine oc_V (y := mt_347) (pc := 96) (vcons (y := mt_347) (pc := 96) (len := 3) (n := 1) (M := mt_289) (by decide) rfl (Or.inr rfl) rfl (ck_V dX7_laysHarms_96 ⟨by decide, by decide, by decide, by decide +kernel⟩ q2397 q2399 qs102 q177 q2400) vnil) (hok0 rfl) (by decide) 99 rfl ?_
  refine oc_icmp dX7_laysHarms_99 ⟨by decide, by decide⟩ 102 rfl ?_
  refine oc (y := mt_347) (pc := 102) (ok_aload_n dX7_laysHarms_102) 103 rfl ?_
  refine oc (y := mt_347) (pc := 103) (ok_getfield dX7_laysHarms_103 (fg (own := "GardenChessModel") (idx := 175) (g := 9) (k := 76) (r := (RX7, TX7, 122)) rfl ⟨⟨by decide, by decide⟩, by decide⟩ (Or.inl q1888) (Or.inl rfl) rfl (fg_nil))) 106 rfl ?_
  refine oc (y := mt_347) (pc := 106) (ok_iload dX7_laysHarms_106) 108 rfl ?_
  refine oc (y := mt_347) (pc := 108) (ok_dup2 dX7_laysHarms_108) 109 rfl ?_
  refine oc (y := mt_347) (pc := 109) (ok_laload dX7_laysHarms_109) 110 rfl ?_
  refine oc (y := mt_347) (pc := 110) (ok_aload_n dX7_laysHarms_110) 111 rfl ?_
  refine oc (y := mt_347) (pc := 111) (ok_iload dX7_laysHarms_111) 113 rfl ?_
  refine oc (y := mt_347) (pc := 113) (ok_aload_n dX7_laysHarms_113) 114 rfl ?_
  refine oc (y := mt_347) (pc := 114) (ok_getfield dX7_laysHarms_114 (fg (own := "GardenChessModel") (idx := 127) (g := 9) (k := 47) (r := (RX7, TX7, 122)) rfl ⟨⟨by decide, by decide⟩, by decide⟩ (Or.inl q1859) (Or.inl rfl) rfl (fg_nil))) 117 rfl ?_
  refine oc (y := mt_347) (pc := 117) (ok_iconst dX7_laysHarms_117 rfl ⟨by decide, by decide⟩) 118 rfl ?_
  refine oc (y := mt_347) (pc := 118) (ok_iaload dX7_laysHarms_118) 119 rfl ?_
  refine oc (y := mt_347) (pc := 119) (ok_irem dX7_laysHarms_119) 120 rfl ?_
  refine oc (y := mt_347) (pc := 120) (ok_iload dX7_laysHarms_120) 122 rfl ?_
  refine oc (y := mt_347) (pc := 122) (ok_aload_n dX7_laysHarms_122) 123 rfl ?_
  refine oc (y := mt_347) (pc := 123) (ok_getfield dX7_laysHarms_123 (fg (own := "GardenChessModel") (idx := 127) (g := 9) (k := 47) (r := (RX7, TX7, 122)) rfl ⟨⟨by decide, by decide⟩, by decide⟩ (Or.inl q1859) (Or.inl rfl) rfl (fg_nil))) 126 rfl ?_
  refine oc (y := mt_347) (pc := 126) (ok_iconst dX7_laysHarms_126 rfl ⟨by decide, by decide⟩) 127 rfl ?_
  refine oc (y := mt_347) (pc := 127) (ok_iaload dX7_laysHarms_127) 128 rfl ?_
  refine oc (y := mt_347) (pc := 128) (ok_idiv dX7_laysHarms_128) 129 rfl ?_
  refine oc (y := mt_347) (pc := 129) (ok_iload_n dX7_laysHarms_129) 130 rfl ?_
  refine oc (y := mt_347) (pc := 130) (ok_iload_n dX7_laysHarms_130) 131 rfl ?_
  refine oc_V (y := mt_347) (pc := 131) (vcons (y := mt_347) (pc := 131) (len := 3) (n := 5) (M := mt_334) (by decide) rfl (Or.inr rfl) rfl (ck_V dX7_laysHarms_131 ⟨by decide, by decide, by decide, by decide +kernel⟩ q2579 q2581 qs132 q177 q2582) vnil) (hok0 rfl) (by decide) 134 rfl ?_
  refine oc (y := mt_347) (pc := 134) (ok_ladd dX7_laysHarms_134) 135 rfl ?_
  refine oc (y := mt_347) (pc := 135) (ok_lastore dX7_laysHarms_135) 136 rfl ?_
  refine oc (y := mt_347) (pc := 136) (ok_iinc dX7_laysHarms_136 (by decide)) 139 rfl ?_
  exact oc_goto dX7_laysHarms_139 ⟨by decide, by decide⟩
theorem o_347_142 : okL gmt mt_347 142 b_347_142 := by
  exact oc_ret dX7_laysHarms_142 rfl
theorem ok_347 : ∀ q ∈ pr_347, okL gmt mt_347 q.1 q.2 := pk_c o_347_0 (pk_c o_347_41 (pk_c o_347_47 (pk_c o_347_81 (pk_c o_347_82 (pk_c o_347_93 (pk_c o_347_142 (pk_n)))))))
theorem o_348_0 : okL gmt mt_348 0 b_348_0 := by
  refine oc (y := mt_348) (pc := 0) (ok_iload_n dX7_deeper_0) 1 rfl ?_
  refine oc (y := mt_348) (pc := 1) (ok_i2l dX7_deeper_1) 2 rfl ?_
  refine oc (y := mt_348) (pc := 2) (ok_lconst dX7_deeper_2 (by decide) ⟨by decide, by decide⟩) 3 rfl ?_
  refine oc (y := mt_348) (pc := 3) (ok_lconst dX7_deeper_3 (by decide) ⟨by decide, by decide⟩) 4 rfl ?_
  refine oc_S (y := mt_348) (pc := 4) (M := mt_246) rfl (ck_S dX7_deeper_4 ⟨by decide, by decide, by decide, by decide +kernel⟩ q2225 q2226 q177 q2227) (hok0 rfl) (by decide) 7 rfl ?_
  refine oc_if dX7_deeper_7 ⟨by decide, by decide⟩ 10 rfl ?_
  refine oc (y := mt_348) (pc := 10) (ok_iload_n dX7_deeper_10) 11 rfl ?_
  refine oc (y := mt_348) (pc := 11) (ok_i2l dX7_deeper_11) 12 rfl ?_
  refine oc (y := mt_348) (pc := 12) (ok_lconst dX7_deeper_12 (by decide) ⟨by decide, by decide⟩) 13 rfl ?_
  refine oc (y := mt_348) (pc := 13) (ok_ldc2 dX7_deeper_13 ⟨by decide, by decide⟩ (show Cond.constantLong _ _ (Int64.ofInt 2) ∈ lw_all from q2442)) 16 rfl ?_
  refine oc_S (y := mt_348) (pc := 16) (M := mt_246) rfl (ck_S dX7_deeper_16 ⟨by decide, by decide, by decide, by decide +kernel⟩ q2225 q2226 q177 q2227) (hok0 rfl) (by decide) 19 rfl ?_
  refine oc_if dX7_deeper_19 ⟨by decide, by decide⟩ 22 rfl ?_
  refine oc (y := mt_348) (pc := 22) (ok_aload_n dX7_deeper_22) 23 rfl ?_
  refine oc (y := mt_348) (pc := 23) (ok_iload_n dX7_deeper_23) 24 rfl ?_
  refine oc (y := mt_348) (pc := 24) (ok_iconst dX7_deeper_24 rfl ⟨by decide, by decide⟩) 25 rfl ?_
  refine oc (y := mt_348) (pc := 25) (ok_bipush dX7_deeper_25 (by decide) ⟨by decide, by decide⟩) 27 rfl ?_
  refine oc_V (y := mt_348) (pc := 27) (vcons (y := mt_348) (pc := 27) (len := 3) (n := 4) (M := mt_328) (by decide) rfl (Or.inr rfl) rfl (ck_V dX7_deeper_27 ⟨by decide, by decide, by decide, by decide +kernel⟩ q2555 q2557 qs126 q177 q2558) vnil) (hok0 rfl) (by decide) 30 rfl ?_
  refine oc_if dX7_deeper_30 ⟨by decide, by decide⟩ 33 rfl ?_
  exact oc_fall rfl
theorem o_348_33 : okL gmt mt_348 33 b_348_33 := by
  refine oc (y := mt_348) (pc := 33) (ok_ldc2 dX7_deeper_33 ⟨by decide, by decide⟩ (show Cond.constantLong _ _ (Int64.ofInt (-1000000000000000)) ∈ lw_all from q2506)) 36 rfl ?_
  exact oc_lret dX7_deeper_36 rfl
theorem o_348_37 : okL gmt mt_348 37 b_348_37 := by
  refine oc (y := mt_348) (pc := 37) (ok_aload_n dX7_deeper_37) 38 rfl ?_
  refine oc_V (y := mt_348) (pc := 38) (vcons (y := mt_348) (pc := 38) (len := 3) (n := 1) (M := mt_329) (by decide) rfl (Or.inr rfl) rfl (ck_V dX7_deeper_38 ⟨by decide, by decide, by decide, by decide +kernel⟩ q2559 q2561 qs127 q177 q2562) vnil) (hok0 rfl) (by decide) 41 rfl ?_
  refine oc (y := mt_348) (pc := 41) (ok_aload_n dX7_deeper_41) 42 rfl ?_
  refine oc (y := mt_348) (pc := 42) (ok_iload_n dX7_deeper_42) 43 rfl ?_
  refine oc_V (y := mt_348) (pc := 43) (vcons (y := mt_348) (pc := 43) (len := 3) (n := 2) (M := mt_330) (by decide) rfl (Or.inr rfl) rfl (ck_V dX7_deeper_43 ⟨by decide, by decide, by decide, by decide +kernel⟩ q2563 q2565 qs128 q177 q2566) vnil) (hok0 rfl) (by decide) 46 rfl ?_
  refine oc (y := mt_348) (pc := 46) (ok_aload_n dX7_deeper_46) 47 rfl ?_
  refine oc_V (y := mt_348) (pc := 47) (vcons (y := mt_348) (pc := 47) (len := 3) (n := 1) (M := mt_298) (by decide) rfl (Or.inr rfl) rfl (ck_V dX7_deeper_47 ⟨by decide, by decide, by decide, by decide +kernel⟩ q2430 q2432 qs108 q177 q2433) vnil) (hok0 rfl) (by decide) 50 rfl ?_
  refine oc (y := mt_348) (pc := 50) (ok_istore dX7_deeper_50 (by decide)) 52 rfl ?_
  refine oc (y := mt_348) (pc := 52) (ok_aload_n dX7_deeper_52) 53 rfl ?_
  refine oc_V (y := mt_348) (pc := 53) (vcons (y := mt_348) (pc := 53) (len := 3) (n := 1) (M := mt_342) (by decide) rfl (Or.inr rfl) rfl (ck_V dX7_deeper_53 ⟨by decide, by decide, by decide, by decide +kernel⟩ q2611 q2613 qs138 q177 q2614) vnil) (hok0 rfl) (by decide) 56 rfl ?_
  refine oc (y := mt_348) (pc := 56) (ok_aload_n dX7_deeper_56) 57 rfl ?_
  refine oc (y := mt_348) (pc := 57) (ok_iload_n dX7_deeper_57) 58 rfl ?_
  refine oc (y := mt_348) (pc := 58) (ok_putfield dX7_deeper_58 (fp (own := "GardenChessModel") (idx := 178) (g := 9) (k := 78) (r := (RX7, TX7, 122)) rfl ⟨⟨by decide, by decide⟩, by decide⟩ (Or.inl q1890) (Or.inl rfl) rfl (Or.inl rfl) (fp_nil))) 61 rfl ?_
  refine oc (y := mt_348) (pc := 61) (ok_aload_n dX7_deeper_61) 62 rfl ?_
  refine oc (y := mt_348) (pc := 62) (ok_iload_n dX7_deeper_62) 63 rfl ?_
  refine oc (y := mt_348) (pc := 63) (ok_putfield dX7_deeper_63 (fp (own := "GardenChessModel") (idx := 569) (g := 9) (k := 79) (r := (RX7, TX7, 122)) rfl ⟨⟨by decide, by decide⟩, by decide⟩ (Or.inl q1891) (Or.inl rfl) rfl (Or.inl rfl) (fp_nil))) 66 rfl ?_
  refine oc (y := mt_348) (pc := 66) (ok_aload_n dX7_deeper_66) 67 rfl ?_
  refine oc (y := mt_348) (pc := 67) (ok_iload_n dX7_deeper_67) 68 rfl ?_
  refine oc_V (y := mt_348) (pc := 68) (vcons (y := mt_348) (pc := 68) (len := 3) (n := 2) (M := mt_330) (by decide) rfl (Or.inr rfl) rfl (ck_V dX7_deeper_68 ⟨by decide, by decide, by decide, by decide +kernel⟩ q2563 q2565 qs128 q177 q2566) vnil) (hok0 rfl) (by decide) 71 rfl ?_
  refine oc (y := mt_348) (pc := 71) (ok_aload_n dX7_deeper_71) 72 rfl ?_
  refine oc (y := mt_348) (pc := 72) (ok_iconst dX7_deeper_72 rfl ⟨by decide, by decide⟩) 73 rfl ?_
  refine oc (y := mt_348) (pc := 73) (ok_putfield dX7_deeper_73 (fp (own := "GardenChessModel") (idx := 178) (g := 9) (k := 78) (r := (RX7, TX7, 122)) rfl ⟨⟨by decide, by decide⟩, by decide⟩ (Or.inl q1890) (Or.inl rfl) rfl (Or.inl rfl) (fp_nil))) 76 rfl ?_
  refine oc (y := mt_348) (pc := 76) (ok_aload_n dX7_deeper_76) 77 rfl ?_
  refine oc_V (y := mt_348) (pc := 77) (vcons (y := mt_348) (pc := 77) (len := 3) (n := 1) (M := mt_298) (by decide) rfl (Or.inr rfl) rfl (ck_V dX7_deeper_77 ⟨by decide, by decide, by decide, by decide +kernel⟩ q2430 q2432 qs108 q177 q2433) vnil) (hok0 rfl) (by decide) 80 rfl ?_
  refine oc (y := mt_348) (pc := 80) (ok_istore dX7_deeper_80 (by decide)) 82 rfl ?_
  refine oc (y := mt_348) (pc := 82) (ok_aload_n dX7_deeper_82) 83 rfl ?_
  refine oc_V (y := mt_348) (pc := 83) (vcons (y := mt_348) (pc := 83) (len := 3) (n := 1) (M := mt_341) (by decide) rfl (Or.inr rfl) rfl (ck_V dX7_deeper_83 ⟨by decide, by decide, by decide, by decide +kernel⟩ q2607 q2609 qs137 q177 q2610) vnil) (hok0 rfl) (by decide) 86 rfl ?_
  refine oc (y := mt_348) (pc := 86) (ok_iload dX7_deeper_86) 88 rfl ?_
  refine oc (y := mt_348) (pc := 88) (ok_iload dX7_deeper_88) 90 rfl ?_
  refine oc (y := mt_348) (pc := 90) (ok_isub dX7_deeper_90) 91 rfl ?_
  refine oc (y := mt_348) (pc := 91) (ok_i2l dX7_deeper_91) 92 rfl ?_
  exact oc_lret dX7_deeper_92 rfl
theorem ok_348 : ∀ q ∈ pr_348, okL gmt mt_348 q.1 q.2 := pk_c o_348_0 (pk_c o_348_33 (pk_c o_348_37 (pk_n)))
theorem o_349_0 : okL gmt mt_349 0 b_349_0 := by
  refine oc (y := mt_349) (pc := 0) (ok_aload_n dX7_see_0) 1 rfl ?_
  refine oc (y := mt_349) (pc := 1) (ok_getfield dX7_see_1 (fg (own := "GardenChessModel") (idx := 275) (g := 9) (k := 1) (r := (RX7, TX7, 122)) rfl ⟨⟨by decide, by decide⟩, by decide⟩ (Or.inl q1813) (Or.inl rfl) rfl (fg_nil))) 4 rfl ?_
  refine oc (y := mt_349) (pc := 4) (ok_istore_n dX7_see_4 (by decide)) 5 rfl ?_
  refine oc (y := mt_349) (pc := 5) (ok_aload_n dX7_see_5) 6 rfl ?_
  refine oc (y := mt_349) (pc := 6) (ok_iconst dX7_see_6 rfl ⟨by decide, by decide⟩) 7 rfl ?_
  refine oc (y := mt_349) (pc := 7) (ok_putfield dX7_see_7 (fp (own := "GardenChessModel") (idx := 275) (g := 9) (k := 1) (r := (RX7, TX7, 122)) rfl ⟨⟨by decide, by decide⟩, by decide⟩ (Or.inl q1813) (Or.inl rfl) rfl (Or.inl rfl) (fp_nil))) 10 rfl ?_
  refine oc (y := mt_349) (pc := 10) (ok_iload_n dX7_see_10) 11 rfl ?_
  refine oc_if dX7_see_11 ⟨by decide, by decide⟩ 14 rfl ?_
  refine oc (y := mt_349) (pc := 14) (ok_iload_n dX7_see_14) 15 rfl ?_
  refine oc (y := mt_349) (pc := 15) (ok_iconst dX7_see_15 rfl ⟨by decide, by decide⟩) 16 rfl ?_
  refine oc (y := mt_349) (pc := 16) (ok_irem dX7_see_16) 17 rfl ?_
  refine oc_if dX7_see_17 ⟨by decide, by decide⟩ 20 rfl ?_
  refine oc (y := mt_349) (pc := 20) (ok_iload_n dX7_see_20) 21 rfl ?_
  refine oc (y := mt_349) (pc := 21) (ok_iconst dX7_see_21 rfl ⟨by decide, by decide⟩) 22 rfl ?_
  refine oc (y := mt_349) (pc := 22) (ok_idiv dX7_see_22) 23 rfl ?_
  refine oc (y := mt_349) (pc := 23) (ok_bipush dX7_see_23 (by decide) ⟨by decide, by decide⟩) 25 rfl ?_
  refine oc_icmp dX7_see_25 ⟨by decide, by decide⟩ 28 rfl ?_
  refine oc (y := mt_349) (pc := 28) (ok_iconst dX7_see_28 rfl ⟨by decide, by decide⟩) 29 rfl ?_
  exact oc_goto dX7_see_29 ⟨by decide, by decide⟩
theorem o_349_32 : okL gmt mt_349 32 b_349_32 := by
  refine oc (y := mt_349) (pc := 32) (ok_iconst dX7_see_32 rfl ⟨by decide, by decide⟩) 33 rfl ?_
  exact oc_fall rfl
theorem o_349_33 : okL gmt mt_349 33 b_349_33 := by
  refine oc (y := mt_349) (pc := 33) (ok_istore_n dX7_see_33 (by decide)) 34 rfl ?_
  refine oc (y := mt_349) (pc := 34) (ok_iconst dX7_see_34 rfl ⟨by decide, by decide⟩) 35 rfl ?_
  refine oc (y := mt_349) (pc := 35) (ok_istore_n dX7_see_35 (by decide)) 36 rfl ?_
  exact oc_fall rfl
theorem o_349_36 : okL gmt mt_349 36 b_349_36 := by
  refine oc (y := mt_349) (pc := 36) (ok_iload_n dX7_see_36) 37 rfl ?_
  refine oc (y := mt_349) (pc := 37) (ok_iload_n dX7_see_37) 38 rfl ?_
  refine oc_icmp dX7_see_38 ⟨by decide, by decide⟩ 41 rfl ?_
  refine oc (y := mt_349) (pc := 41) (ok_iload_n dX7_see_41) 42 rfl ?_
  refine oc_if dX7_see_42 ⟨by decide, by decide⟩ 45 rfl ?_
  refine oc (y := mt_349) (pc := 45) (ok_aload_n dX7_see_45) 46 rfl ?_
  refine oc (y := mt_349) (pc := 46) (ok_aload_n dX7_see_46) 47 rfl ?_
  refine oc (y := mt_349) (pc := 47) (ok_getfield dX7_see_47 (fg (own := "GardenChessModel") (idx := 7) (g := 9) (k := 0) (r := (RX7, TX7, 122)) rfl ⟨⟨by decide, by decide⟩, by decide⟩ (Or.inl q1812) (Or.inl rfl) rfl (fg_nil))) 50 rfl ?_
  refine oc (y := mt_349) (pc := 50) (ok_iload_n dX7_see_50) 51 rfl ?_
  refine oc (y := mt_349) (pc := 51) (ok_iaload dX7_see_51) 52 rfl ?_
  refine oc_V (y := mt_349) (pc := 52) (vcons (y := mt_349) (pc := 52) (len := 3) (n := 2) (M := mt_305) (by decide) rfl (Or.inr rfl) rfl (ck_V dX7_see_52 ⟨by decide, by decide, by decide, by decide +kernel⟩ q2461 q2463 qs111 q177 q2464) vnil) (hok0 rfl) (by decide) 55 rfl ?_
  refine oc (y := mt_349) (pc := 55) (ok_istore_n dX7_see_55 (by decide)) 56 rfl ?_
  refine oc (y := mt_349) (pc := 56) (ok_iinc dX7_see_56 (by decide)) 59 rfl ?_
  exact oc_goto dX7_see_59 ⟨by decide, by decide⟩
theorem o_349_62 : okL gmt mt_349 62 b_349_62 := by
  refine oc (y := mt_349) (pc := 62) (ok_iload_n dX7_see_62) 63 rfl ?_
  refine oc_if dX7_see_63 ⟨by decide, by decide⟩ 66 rfl ?_
  refine oc (y := mt_349) (pc := 66) (ok_aload_n dX7_see_66) 67 rfl ?_
  refine oc (y := mt_349) (pc := 67) (ok_iconst dX7_see_67 rfl ⟨by decide, by decide⟩) 68 rfl ?_
  refine oc_V (y := mt_349) (pc := 68) (vcons (y := mt_349) (pc := 68) (len := 3) (n := 2) (M := mt_350) (by decide) rfl (Or.inr rfl) rfl (ck_V dX7_see_68 ⟨by decide, by decide, by decide, by decide +kernel⟩ q2645 q2647 qs141 q177 q2648) vnil) (hok0 rfl) (by decide) 71 rfl ?_
  exact oc_iret dX7_see_71 rfl
theorem o_349_72 : okL gmt mt_349 72 b_349_72 := by
  refine oc (y := mt_349) (pc := 72) (ok_iconst dX7_see_72 rfl ⟨by decide, by decide⟩) 73 rfl ?_
  refine oc (y := mt_349) (pc := 73) (ok_istore_n dX7_see_73 (by decide)) 74 rfl ?_
  exact oc_fall rfl
theorem o_349_74 : okL gmt mt_349 74 b_349_74 := by
  refine oc (y := mt_349) (pc := 74) (ok_iload_n dX7_see_74) 75 rfl ?_
  refine oc (y := mt_349) (pc := 75) (ok_iload_n dX7_see_75) 76 rfl ?_
  refine oc_icmp dX7_see_76 ⟨by decide, by decide⟩ 79 rfl ?_
  refine oc (y := mt_349) (pc := 79) (ok_aload_n dX7_see_79) 80 rfl ?_
  refine oc (y := mt_349) (pc := 80) (ok_getfield dX7_see_80 (fg (own := "GardenChessModel") (idx := 181) (g := 9) (k := 81) (r := (RX7, TX7, 122)) rfl ⟨⟨by decide, by decide⟩, by decide⟩ (Or.inl q1893) (Or.inl rfl) rfl (fg_nil))) 83 rfl ?_
  refine oc (y := mt_349) (pc := 83) (ok_iload_n dX7_see_83) 84 rfl ?_
  refine oc (y := mt_349) (pc := 84) (ok_aload_n dX7_see_84) 85 rfl ?_
  refine oc (y := mt_349) (pc := 85) (ok_getfield dX7_see_85 (fg (own := "GardenChessModel") (idx := 7) (g := 9) (k := 0) (r := (RX7, TX7, 122)) rfl ⟨⟨by decide, by decide⟩, by decide⟩ (Or.inl q1812) (Or.inl rfl) rfl (fg_nil))) 88 rfl ?_
  refine oc (y := mt_349) (pc := 88) (ok_iload_n dX7_see_88) 89 rfl ?_
  refine oc (y := mt_349) (pc := 89) (ok_iaload dX7_see_89) 90 rfl ?_
  refine oc (y := mt_349) (pc := 90) (ok_iastore dX7_see_90) 91 rfl ?_
  refine oc (y := mt_349) (pc := 91) (ok_iinc dX7_see_91 (by decide)) 94 rfl ?_
  exact oc_goto dX7_see_94 ⟨by decide, by decide⟩
theorem o_349_97 : okL gmt mt_349 97 b_349_97 := by
  refine oc (y := mt_349) (pc := 97) (ok_aload_n dX7_see_97) 98 rfl ?_
  refine oc (y := mt_349) (pc := 98) (ok_iload_n dX7_see_98) 99 rfl ?_
  refine oc (y := mt_349) (pc := 99) (ok_iconst dX7_see_99 rfl ⟨by decide, by decide⟩) 100 rfl ?_
  refine oc (y := mt_349) (pc := 100) (ok_idiv dX7_see_100) 101 rfl ?_
  refine oc (y := mt_349) (pc := 101) (ok_putfield dX7_see_101 (fp (own := "GardenChessModel") (idx := 430) (g := 9) (k := 80) (r := (RX7, TX7, 122)) rfl ⟨⟨by decide, by decide⟩, by decide⟩ (Or.inl q1892) (Or.inl rfl) rfl (Or.inl rfl) (fp_nil))) 104 rfl ?_
  refine oc (y := mt_349) (pc := 104) (ok_aload_n dX7_see_104) 105 rfl ?_
  refine oc (y := mt_349) (pc := 105) (ok_getfield dX7_see_105 (fg (own := "GardenChessModel") (idx := 430) (g := 9) (k := 80) (r := (RX7, TX7, 122)) rfl ⟨⟨by decide, by decide⟩, by decide⟩ (Or.inl q1892) (Or.inl rfl) rfl (fg_nil))) 108 rfl ?_
  exact oc_iret dX7_see_108 rfl
theorem ok_349 : ∀ q ∈ pr_349, okL gmt mt_349 q.1 q.2 := pk_c o_349_0 (pk_c o_349_32 (pk_c o_349_33 (pk_c o_349_36 (pk_c o_349_62 (pk_c o_349_72 (pk_c o_349_74 (pk_c o_349_97 (pk_n))))))))
theorem o_350_0 : okL gmt mt_350 0 b_350_0 := by
  refine oc (y := mt_350) (pc := 0) (ok_aload_n dX7_refuses_0) 1 rfl ?_
  refine oc (y := mt_350) (pc := 1) (ok_getfield dX7_refuses_1 (fg (own := "GardenChessModel") (idx := 17) (g := 9) (k := 9) (r := (RX7, TX7, 122)) rfl ⟨⟨by decide, by decide⟩, by decide⟩ (Or.inl q1821) (Or.inl rfl) rfl (fg_nil))) 4 rfl ?_
  refine oc (y := mt_350) (pc := 4) (ok_iload_n dX7_refuses_4) 5 rfl ?_
  refine oc (y := mt_350) (pc := 5) (ok_dup2 dX7_refuses_5) 6 rfl ?_
  refine oc (y := mt_350) (pc := 6) (ok_iaload dX7_refuses_6) 7 rfl ?_
  refine oc (y := mt_350) (pc := 7) (ok_iconst dX7_refuses_7 rfl ⟨by decide, by decide⟩) 8 rfl ?_
  refine oc (y := mt_350) (pc := 8) (ok_iadd dX7_refuses_8) 9 rfl ?_
  refine oc (y := mt_350) (pc := 9) (ok_iastore dX7_refuses_9) 10 rfl ?_
  refine oc (y := mt_350) (pc := 10) (ok_iconst dX7_refuses_10 rfl ⟨by decide, by decide⟩) 11 rfl ?_
  exact oc_iret dX7_refuses_11 rfl
theorem ok_350 : ∀ q ∈ pr_350, okL gmt mt_350 q.1 q.2 := pk_c o_350_0 (pk_n)
theorem o_351_0 : okL gmt mt_351 0 b_351_0 := by
  refine oc (y := mt_351) (pc := 0) (ok_iload_n dX7_played_0) 1 rfl ?_
  refine oc (y := mt_351) (pc := 1) (ok_i2l dX7_played_1) 2 rfl ?_
  refine oc (y := mt_351) (pc := 2) (ok_lconst dX7_played_2 (by decide) ⟨by decide, by decide⟩) 3 rfl ?_
  refine oc (y := mt_351) (pc := 3) (ok_ldc2 dX7_played_3 ⟨by decide, by decide⟩ (show Cond.constantLong _ _ (Int64.ofInt 2) ∈ lw_all from q2442)) 6 rfl ?_
  refine oc_S (y := mt_351) (pc := 6) (M := mt_246) rfl (ck_S dX7_played_6 ⟨by decide, by decide, by decide, by decide +kernel⟩ q2225 q2226 q177 q2227) (hok0 rfl) (by decide) 9 rfl ?_
  refine oc_if dX7_played_9 ⟨by decide, by decide⟩ 12 rfl ?_
  refine oc (y := mt_351) (pc := 12) (ok_iconst dX7_played_12 rfl ⟨by decide, by decide⟩) 13 rfl ?_
  exact oc_iret dX7_played_13 rfl
theorem o_351_14 : okL gmt mt_351 14 b_351_14 := by
  refine oc (y := mt_351) (pc := 14) (ok_iconst dX7_played_14 rfl ⟨by decide, by decide⟩) 15 rfl ?_
  refine oc (y := mt_351) (pc := 15) (ok_istore_n dX7_played_15 (by decide)) 16 rfl ?_
  refine oc (y := mt_351) (pc := 16) (ok_iconst dX7_played_16 rfl ⟨by decide, by decide⟩) 17 rfl ?_
  refine oc (y := mt_351) (pc := 17) (ok_istore_n dX7_played_17 (by decide)) 18 rfl ?_
  refine oc (y := mt_351) (pc := 18) (ok_iconst dX7_played_18 rfl ⟨by decide, by decide⟩) 19 rfl ?_
  refine oc (y := mt_351) (pc := 19) (ok_istore dX7_played_19 (by decide)) 21 rfl ?_
  refine oc (y := mt_351) (pc := 21) (ok_aload_n dX7_played_21) 22 rfl ?_
  refine oc (y := mt_351) (pc := 22) (ok_getfield dX7_played_22 (fg (own := "GardenChessModel") (idx := 424) (g := 9) (k := 58) (r := (RX7, TX7, 122)) rfl ⟨⟨by decide, by decide⟩, by decide⟩ (Or.inl q1870) (Or.inl rfl) rfl (fg_nil))) 25 rfl ?_
  refine oc_if dX7_played_25 ⟨by decide, by decide⟩ 28 rfl ?_
  refine oc (y := mt_351) (pc := 28) (ok_aload_n dX7_played_28) 29 rfl ?_
  refine oc_V (y := mt_351) (pc := 29) (vcons (y := mt_351) (pc := 29) (len := 3) (n := 1) (M := mt_345) (by decide) rfl (Or.inr rfl) rfl (ck_V dX7_played_29 ⟨by decide, by decide, by decide, by decide +kernel⟩ q2623 q2625 qs139 q177 q2626) vnil) (hok0 rfl) (by decide) 32 rfl ?_
  exact oc_goto dX7_played_32 ⟨by decide, by decide⟩
theorem o_351_35 : okL gmt mt_351 35 b_351_35 := by
  refine oc (y := mt_351) (pc := 35) (ok_iconst dX7_played_35 rfl ⟨by decide, by decide⟩) 36 rfl ?_
  exact oc_fall rfl
theorem o_351_36 : okL gmt mt_351 36 b_351_36 := by
  refine oc (y := mt_351) (pc := 36) (ok_istore dX7_played_36 (by decide)) 38 rfl ?_
  refine oc (y := mt_351) (pc := 38) (ok_aload_n dX7_played_38) 39 rfl ?_
  refine oc_V (y := mt_351) (pc := 39) (vcons (y := mt_351) (pc := 39) (len := 3) (n := 1) (M := mt_329) (by decide) rfl (Or.inr rfl) rfl (ck_V dX7_played_39 ⟨by decide, by decide, by decide, by decide +kernel⟩ q2559 q2561 qs127 q177 q2562) vnil) (hok0 rfl) (by decide) 42 rfl ?_
  refine oc (y := mt_351) (pc := 42) (ok_iconst dX7_played_42 rfl ⟨by decide, by decide⟩) 43 rfl ?_
  refine oc (y := mt_351) (pc := 43) (ok_istore dX7_played_43 (by decide)) 45 rfl ?_
  exact oc_fall rfl
theorem o_351_45 : okL gmt mt_351 45 b_351_45 := by
  refine oc (y := mt_351) (pc := 45) (ok_iload dX7_played_45) 47 rfl ?_
  refine oc (y := mt_351) (pc := 47) (ok_iload dX7_played_47) 49 rfl ?_
  refine oc_icmp dX7_played_49 ⟨by decide, by decide⟩ 52 rfl ?_
  refine oc (y := mt_351) (pc := 52) (ok_aload_n dX7_played_52) 53 rfl ?_
  refine oc (y := mt_351) (pc := 53) (ok_iload dX7_played_53) 55 rfl ?_
  refine oc_V (y := mt_351) (pc := 55) (vcons (y := mt_351) (pc := 55) (len := 3) (n := 2) (M := mt_308) (by decide) rfl (Or.inr rfl) rfl (ck_V dX7_played_55 ⟨by decide, by decide, by decide, by decide +kernel⟩ q2474 q2476 qs112 q177 q2477) vnil) (hok0 rfl) (by decide) 58 rfl ?_
  refine oc (y := mt_351) (pc := 58) (ok_aload_n dX7_played_58) 59 rfl ?_
  refine oc_V (y := mt_351) (pc := 59) (vcons (y := mt_351) (pc := 59) (len := 3) (n := 1) (M := mt_332) (by decide) rfl (Or.inr rfl) rfl (ck_V dX7_played_59 ⟨by decide, by decide, by decide, by decide +kernel⟩ q2571 q2573 qs130 q177 q2574) vnil) (hok0 rfl) (by decide) 62 rfl ?_
  refine oc (y := mt_351) (pc := 62) (ok_aload_n dX7_played_62) 63 rfl ?_
  refine oc_V (y := mt_351) (pc := 63) (vcons (y := mt_351) (pc := 63) (len := 3) (n := 1) (M := mt_352) (by decide) rfl (Or.inr rfl) rfl (ck_V dX7_played_63 ⟨by decide, by decide, by decide, by decide +kernel⟩ q2653 q2655 qs142 q177 q2656) vnil) (hok0 rfl) (by decide) 66 rfl ?_
  refine oc (y := mt_351) (pc := 66) (ok_istore dX7_played_66 (by decide)) 68 rfl ?_
  refine oc (y := mt_351) (pc := 68) (ok_aload_n dX7_played_68) 69 rfl ?_
  refine oc_V (y := mt_351) (pc := 69) (vcons (y := mt_351) (pc := 69) (len := 3) (n := 1) (M := mt_342) (by decide) rfl (Or.inr rfl) rfl (ck_V dX7_played_69 ⟨by decide, by decide, by decide, by decide +kernel⟩ q2611 q2613 qs138 q177 q2614) vnil) (hok0 rfl) (by decide) 72 rfl ?_
  refine oc (y := mt_351) (pc := 72) (ok_iload dX7_played_72) 74 rfl ?_
  refine oc_if dX7_played_74 ⟨by decide, by decide⟩ 77 rfl ?_
  exact oc_goto dX7_played_77 ⟨by decide, by decide⟩
theorem o_351_80 : okL gmt mt_351 80 b_351_80 := by
  refine oc (y := mt_351) (pc := 80) (ok_iinc dX7_played_80 (by decide)) 83 rfl ?_
  refine oc (y := mt_351) (pc := 83) (ok_iload_n dX7_played_83) 84 rfl ?_
  refine oc (y := mt_351) (pc := 84) (ok_iconst dX7_played_84 rfl ⟨by decide, by decide⟩) 85 rfl ?_
  refine oc_icmp dX7_played_85 ⟨by decide, by decide⟩ 88 rfl ?_
  refine oc (y := mt_351) (pc := 88) (ok_iload dX7_played_88) 90 rfl ?_
  refine oc (y := mt_351) (pc := 90) (ok_istore_n dX7_played_90 (by decide)) 91 rfl ?_
  exact oc_fall rfl
theorem o_351_91 : okL gmt mt_351 91 b_351_91 := by
  refine oc (y := mt_351) (pc := 91) (ok_iload dX7_played_91) 93 rfl ?_
  refine oc (y := mt_351) (pc := 93) (ok_istore dX7_played_93 (by decide)) 95 rfl ?_
  exact oc_fall rfl
theorem o_351_95 : okL gmt mt_351 95 b_351_95 := by
  refine oc (y := mt_351) (pc := 95) (ok_iinc dX7_played_95 (by decide)) 98 rfl ?_
  exact oc_goto dX7_played_98 ⟨by decide, by decide⟩
theorem o_351_101 : okL gmt mt_351 101 b_351_101 := by
  refine oc (y := mt_351) (pc := 101) (ok_aload_n dX7_played_101) 102 rfl ?_
  refine oc_V (y := mt_351) (pc := 102) (vcons (y := mt_351) (pc := 102) (len := 3) (n := 1) (M := mt_341) (by decide) rfl (Or.inr rfl) rfl (ck_V dX7_played_102 ⟨by decide, by decide, by decide, by decide +kernel⟩ q2607 q2609 qs137 q177 q2610) vnil) (hok0 rfl) (by decide) 105 rfl ?_
  refine oc (y := mt_351) (pc := 105) (ok_iload_n dX7_played_105) 106 rfl ?_
  refine oc_if dX7_played_106 ⟨by decide, by decide⟩ 109 rfl ?_
  refine oc (y := mt_351) (pc := 109) (ok_iload_n dX7_played_109) 110 rfl ?_
  exact oc_goto dX7_played_110 ⟨by decide, by decide⟩
theorem o_351_113 : okL gmt mt_351 113 b_351_113 := by
  refine oc (y := mt_351) (pc := 113) (ok_iload_n dX7_played_113) 114 rfl ?_
  refine oc (y := mt_351) (pc := 114) (ok_iconst dX7_played_114 rfl ⟨by decide, by decide⟩) 115 rfl ?_
  refine oc_icmp dX7_played_115 ⟨by decide, by decide⟩ 118 rfl ?_
  refine oc (y := mt_351) (pc := 118) (ok_iload_n dX7_played_118) 119 rfl ?_
  exact oc_goto dX7_played_119 ⟨by decide, by decide⟩
theorem o_351_122 : okL gmt mt_351 122 b_351_122 := by
  refine oc (y := mt_351) (pc := 122) (ok_iload dX7_played_122) 124 rfl ?_
  exact oc_fall rfl
theorem o_351_124 : okL gmt mt_351 124 b_351_124 := by
  exact oc_iret dX7_played_124 rfl
theorem ok_351 : ∀ q ∈ pr_351, okL gmt mt_351 q.1 q.2 := pk_c o_351_0 (pk_c o_351_14 (pk_c o_351_35 (pk_c o_351_36 (pk_c o_351_45 (pk_c o_351_80 (pk_c o_351_91 (pk_c o_351_95 (pk_c o_351_101 (pk_c o_351_113 (pk_c o_351_122 (pk_c o_351_124 (pk_n))))))))))))
theorem o_352_0 : okL gmt mt_352 0 b_352_0 := by
  refine oc (y := mt_352) (pc := 0) (ok_iconst dX7_isAsSeen_0 rfl ⟨by decide, by decide⟩) 1 rfl ?_
  refine oc (y := mt_352) (pc := 1) (ok_istore_n dX7_isAsSeen_1 (by decide)) 2 rfl ?_
  exact oc_fall rfl
theorem o_352_2 : okL gmt mt_352 2 b_352_2 := by
  refine oc (y := mt_352) (pc := 2) (ok_iload_n dX7_isAsSeen_2) 3 rfl ?_
  refine oc (y := mt_352) (pc := 3) (ok_aload_n dX7_isAsSeen_3) 4 rfl ?_
  refine oc (y := mt_352) (pc := 4) (ok_getfield dX7_isAsSeen_4 (fg (own := "GardenChessModel") (idx := 430) (g := 9) (k := 80) (r := (RX7, TX7, 122)) rfl ⟨⟨by decide, by decide⟩, by decide⟩ (Or.inl q1892) (Or.inl rfl) rfl (fg_nil))) 7 rfl ?_
  refine oc_icmp dX7_isAsSeen_7 ⟨by decide, by decide⟩ 10 rfl ?_
  refine oc (y := mt_352) (pc := 10) (ok_aload_n dX7_isAsSeen_10) 11 rfl ?_
  refine oc (y := mt_352) (pc := 11) (ok_getfield dX7_isAsSeen_11 (fg (own := "GardenChessModel") (idx := 154) (g := 9) (k := 62) (r := (RX7, TX7, 122)) rfl ⟨⟨by decide, by decide⟩, by decide⟩ (Or.inl q1874) (Or.inl rfl) rfl (fg_nil))) 14 rfl ?_
  refine oc (y := mt_352) (pc := 14) (ok_bipush dX7_isAsSeen_14 (by decide) ⟨by decide, by decide⟩) 16 rfl ?_
  refine oc (y := mt_352) (pc := 16) (ok_aload_n dX7_isAsSeen_16) 17 rfl ?_
  refine oc (y := mt_352) (pc := 17) (ok_getfield dX7_isAsSeen_17 (fg (own := "GardenChessModel") (idx := 181) (g := 9) (k := 81) (r := (RX7, TX7, 122)) rfl ⟨⟨by decide, by decide⟩, by decide⟩ (Or.inl q1893) (Or.inl rfl) rfl (fg_nil))) 20 rfl ?_
  refine oc (y := mt_352) (pc := 20) (ok_iconst dX7_isAsSeen_20 rfl ⟨by decide, by decide⟩) 21 rfl ?_
  refine oc (y := mt_352) (pc := 21) (ok_iload_n dX7_isAsSeen_21) 22 rfl ?_
  refine oc (y := mt_352) (pc := 22) (ok_imul dX7_isAsSeen_22) 23 rfl ?_
  refine oc (y := mt_352) (pc := 23) (ok_iaload dX7_isAsSeen_23) 24 rfl ?_
  refine oc (y := mt_352) (pc := 24) (ok_iadd dX7_isAsSeen_24) 25 rfl ?_
  refine oc (y := mt_352) (pc := 25) (ok_iaload dX7_isAsSeen_25) 26 rfl ?_
  refine oc (y := mt_352) (pc := 26) (ok_sipush dX7_isAsSeen_26 (by decide) ⟨by decide, by decide⟩) 29 rfl ?_
  refine oc (y := mt_352) (pc := 29) (ok_aload_n dX7_isAsSeen_29) 30 rfl ?_
  refine oc (y := mt_352) (pc := 30) (ok_getfield dX7_isAsSeen_30 (fg (own := "GardenChessModel") (idx := 181) (g := 9) (k := 81) (r := (RX7, TX7, 122)) rfl ⟨⟨by decide, by decide⟩, by decide⟩ (Or.inl q1893) (Or.inl rfl) rfl (fg_nil))) 33 rfl ?_
  refine oc (y := mt_352) (pc := 33) (ok_iconst dX7_isAsSeen_33 rfl ⟨by decide, by decide⟩) 34 rfl ?_
  refine oc (y := mt_352) (pc := 34) (ok_iload_n dX7_isAsSeen_34) 35 rfl ?_
  refine oc (y := mt_352) (pc := 35) (ok_imul dX7_isAsSeen_35) 36 rfl ?_
  refine oc (y := mt_352) (pc := 36) (ok_iconst dX7_isAsSeen_36 rfl ⟨by decide, by decide⟩) 37 rfl ?_
  refine oc (y := mt_352) (pc := 37) (ok_iadd dX7_isAsSeen_37) 38 rfl ?_
  refine oc (y := mt_352) (pc := 38) (ok_iaload dX7_isAsSeen_38) 39 rfl ?_
  refine oc (y := mt_352) (pc := 39) (ok_imul dX7_isAsSeen_39) 40 rfl ?_
  refine oc (y := mt_352) (pc := 40) (ok_aload_n dX7_isAsSeen_40) 41 rfl ?_
  refine oc (y := mt_352) (pc := 41) (ok_getfield dX7_isAsSeen_41 (fg (own := "GardenChessModel") (idx := 181) (g := 9) (k := 81) (r := (RX7, TX7, 122)) rfl ⟨⟨by decide, by decide⟩, by decide⟩ (Or.inl q1893) (Or.inl rfl) rfl (fg_nil))) 44 rfl ?_
  refine oc (y := mt_352) (pc := 44) (ok_iconst dX7_isAsSeen_44 rfl ⟨by decide, by decide⟩) 45 rfl ?_
  refine oc (y := mt_352) (pc := 45) (ok_iload_n dX7_isAsSeen_45) 46 rfl ?_
  refine oc (y := mt_352) (pc := 46) (ok_imul dX7_isAsSeen_46) 47 rfl ?_
  refine oc (y := mt_352) (pc := 47) (ok_iconst dX7_isAsSeen_47 rfl ⟨by decide, by decide⟩) 48 rfl ?_
  refine oc (y := mt_352) (pc := 48) (ok_iadd dX7_isAsSeen_48) 49 rfl ?_
  refine oc (y := mt_352) (pc := 49) (ok_iaload dX7_isAsSeen_49) 50 rfl ?_
  refine oc (y := mt_352) (pc := 50) (ok_iadd dX7_isAsSeen_50) 51 rfl ?_
  refine oc_icmp dX7_isAsSeen_51 ⟨by decide, by decide⟩ 54 rfl ?_
  refine oc (y := mt_352) (pc := 54) (ok_iconst dX7_isAsSeen_54 rfl ⟨by decide, by decide⟩) 55 rfl ?_
  exact oc_zret dX7_isAsSeen_55 rfl
theorem o_352_56 : okL gmt mt_352 56 b_352_56 := by
  refine oc (y := mt_352) (pc := 56) (ok_iinc dX7_isAsSeen_56 (by decide)) 59 rfl ?_
  exact oc_goto dX7_isAsSeen_59 ⟨by decide, by decide⟩
theorem o_352_62 : okL gmt mt_352 62 b_352_62 := by
  refine oc (y := mt_352) (pc := 62) (ok_iconst dX7_isAsSeen_62 rfl ⟨by decide, by decide⟩) 63 rfl ?_
  exact oc_zret dX7_isAsSeen_63 rfl
theorem ok_352 : ∀ q ∈ pr_352, okL gmt mt_352 q.1 q.2 := pk_c o_352_0 (pk_c o_352_2 (pk_c o_352_56 (pk_c o_352_62 (pk_n))))
theorem o_353_0 : okL gmt mt_353 0 b_353_0 := by
  refine oc (y := mt_353) (pc := 0) (ok_aload_n dX7_reached_0) 1 rfl ?_
  refine oc (y := mt_353) (pc := 1) (ok_getfield dX7_reached_1 (fg (own := "GardenChessModel") (idx := 275) (g := 9) (k := 1) (r := (RX7, TX7, 122)) rfl ⟨⟨by decide, by decide⟩, by decide⟩ (Or.inl q1813) (Or.inl rfl) rfl (fg_nil))) 4 rfl ?_
  refine oc (y := mt_353) (pc := 4) (ok_istore_n dX7_reached_4 (by decide)) 5 rfl ?_
  refine oc (y := mt_353) (pc := 5) (ok_aload_n dX7_reached_5) 6 rfl ?_
  refine oc (y := mt_353) (pc := 6) (ok_iconst dX7_reached_6 rfl ⟨by decide, by decide⟩) 7 rfl ?_
  refine oc (y := mt_353) (pc := 7) (ok_putfield dX7_reached_7 (fp (own := "GardenChessModel") (idx := 275) (g := 9) (k := 1) (r := (RX7, TX7, 122)) rfl ⟨⟨by decide, by decide⟩, by decide⟩ (Or.inl q1813) (Or.inl rfl) rfl (Or.inl rfl) (fp_nil))) 10 rfl ?_
  refine oc (y := mt_353) (pc := 10) (ok_aload_n dX7_reached_10) 11 rfl ?_
  refine oc (y := mt_353) (pc := 11) (ok_getfield dX7_reached_11 (fg (own := "GardenChessModel") (idx := 424) (g := 9) (k := 58) (r := (RX7, TX7, 122)) rfl ⟨⟨by decide, by decide⟩, by decide⟩ (Or.inl q1870) (Or.inl rfl) rfl (fg_nil))) 14 rfl ?_
  refine oc_if dX7_reached_14 ⟨by decide, by decide⟩ 17 rfl ?_
  refine oc (y := mt_353) (pc := 17) (ok_iload_n dX7_reached_17) 18 rfl ?_
  refine oc (y := mt_353) (pc := 18) (ok_i2l dX7_reached_18) 19 rfl ?_
  refine oc (y := mt_353) (pc := 19) (ok_lconst dX7_reached_19 (by decide) ⟨by decide, by decide⟩) 20 rfl ?_
  refine oc (y := mt_353) (pc := 20) (ok_ldc2 dX7_reached_20 ⟨by decide, by decide⟩ (show Cond.constantLong _ _ (Int64.ofInt 3) ∈ lw_all from q2448)) 23 rfl ?_
  refine oc_S (y := mt_353) (pc := 23) (M := mt_246) rfl (ck_S dX7_reached_23 ⟨by decide, by decide, by decide, by decide +kernel⟩ q2225 q2226 q177 q2227) (hok0 rfl) (by decide) 26 rfl ?_
  refine oc_if dX7_reached_26 ⟨by decide, by decide⟩ 29 rfl ?_
  refine oc (y := mt_353) (pc := 29) (ok_iload_n dX7_reached_29) 30 rfl ?_
  refine oc (y := mt_353) (pc := 30) (ok_iconst dX7_reached_30 rfl ⟨by decide, by decide⟩) 31 rfl ?_
  refine oc (y := mt_353) (pc := 31) (ok_aload_n dX7_reached_31) 32 rfl ?_
  refine oc_V (y := mt_353) (pc := 32) (vcons (y := mt_353) (pc := 32) (len := 3) (n := 1) (M := mt_281) (by decide) rfl (Or.inr rfl) rfl (ck_V dX7_reached_32 ⟨by decide, by decide, by decide, by decide +kernel⟩ q2365 q2367 qs94 q177 q2368) vnil) (hok0 rfl) (by decide) 35 rfl ?_
  refine oc (y := mt_353) (pc := 35) (ok_imul dX7_reached_35) 36 rfl ?_
  refine oc_icmp dX7_reached_36 ⟨by decide, by decide⟩ 39 rfl ?_
  refine oc (y := mt_353) (pc := 39) (ok_aload_n dX7_reached_39) 40 rfl ?_
  refine oc (y := mt_353) (pc := 40) (ok_iconst dX7_reached_40 rfl ⟨by decide, by decide⟩) 41 rfl ?_
  refine oc_V (y := mt_353) (pc := 41) (vcons (y := mt_353) (pc := 41) (len := 3) (n := 2) (M := mt_354) (by decide) rfl (Or.inr rfl) rfl (ck_V dX7_reached_41 ⟨by decide, by decide, by decide, by decide +kernel⟩ q2661 q2663 qs143 q177 q2664) vnil) (hok0 rfl) (by decide) 44 rfl ?_
  refine oc_if dX7_reached_44 ⟨by decide, by decide⟩ 47 rfl ?_
  exact oc_fall rfl
theorem o_353_47 : okL gmt mt_353 47 b_353_47 := by
  refine oc (y := mt_353) (pc := 47) (ok_aload_n dX7_reached_47) 48 rfl ?_
  refine oc (y := mt_353) (pc := 48) (ok_iconst dX7_reached_48 rfl ⟨by decide, by decide⟩) 49 rfl ?_
  refine oc_V (y := mt_353) (pc := 49) (vcons (y := mt_353) (pc := 49) (len := 3) (n := 2) (M := mt_350) (by decide) rfl (Or.inr rfl) rfl (ck_V dX7_reached_49 ⟨by decide, by decide, by decide, by decide +kernel⟩ q2645 q2647 qs141 q177 q2648) vnil) (hok0 rfl) (by decide) 52 rfl ?_
  exact oc_iret dX7_reached_52 rfl
theorem o_353_53 : okL gmt mt_353 53 b_353_53 := by
  refine oc (y := mt_353) (pc := 53) (ok_iconst dX7_reached_53 rfl ⟨by decide, by decide⟩) 54 rfl ?_
  refine oc (y := mt_353) (pc := 54) (ok_istore_n dX7_reached_54 (by decide)) 55 rfl ?_
  exact oc_fall rfl
theorem o_353_55 : okL gmt mt_353 55 b_353_55 := by
  refine oc (y := mt_353) (pc := 55) (ok_iload_n dX7_reached_55) 56 rfl ?_
  refine oc (y := mt_353) (pc := 56) (ok_iload_n dX7_reached_56) 57 rfl ?_
  refine oc_icmp dX7_reached_57 ⟨by decide, by decide⟩ 60 rfl ?_
  refine oc (y := mt_353) (pc := 60) (ok_aload_n dX7_reached_60) 61 rfl ?_
  refine oc (y := mt_353) (pc := 61) (ok_getfield dX7_reached_61 (fg (own := "GardenChessModel") (idx := 184) (g := 9) (k := 82) (r := (RX7, TX7, 122)) rfl ⟨⟨by decide, by decide⟩, by decide⟩ (Or.inl q1894) (Or.inl rfl) rfl (fg_nil))) 64 rfl ?_
  refine oc (y := mt_353) (pc := 64) (ok_iload_n dX7_reached_64) 65 rfl ?_
  refine oc (y := mt_353) (pc := 65) (ok_aload_n dX7_reached_65) 66 rfl ?_
  refine oc (y := mt_353) (pc := 66) (ok_getfield dX7_reached_66 (fg (own := "GardenChessModel") (idx := 7) (g := 9) (k := 0) (r := (RX7, TX7, 122)) rfl ⟨⟨by decide, by decide⟩, by decide⟩ (Or.inl q1812) (Or.inl rfl) rfl (fg_nil))) 69 rfl ?_
  refine oc (y := mt_353) (pc := 69) (ok_iload_n dX7_reached_69) 70 rfl ?_
  refine oc (y := mt_353) (pc := 70) (ok_iaload dX7_reached_70) 71 rfl ?_
  refine oc (y := mt_353) (pc := 71) (ok_sipush dX7_reached_71 (by decide) ⟨by decide, by decide⟩) 74 rfl ?_
  refine oc_icmp dX7_reached_74 ⟨by decide, by decide⟩ 77 rfl ?_
  refine oc (y := mt_353) (pc := 77) (ok_iconst dX7_reached_77 rfl ⟨by decide, by decide⟩) 78 rfl ?_
  exact oc_goto dX7_reached_78 ⟨by decide, by decide⟩
theorem o_353_81 : okL gmt mt_353 81 b_353_81 := by
  refine oc (y := mt_353) (pc := 81) (ok_aload_n dX7_reached_81) 82 rfl ?_
  refine oc (y := mt_353) (pc := 82) (ok_getfield dX7_reached_82 (fg (own := "GardenChessModel") (idx := 7) (g := 9) (k := 0) (r := (RX7, TX7, 122)) rfl ⟨⟨by decide, by decide⟩, by decide⟩ (Or.inl q1812) (Or.inl rfl) rfl (fg_nil))) 85 rfl ?_
  refine oc (y := mt_353) (pc := 85) (ok_iload_n dX7_reached_85) 86 rfl ?_
  refine oc (y := mt_353) (pc := 86) (ok_iaload dX7_reached_86) 87 rfl ?_
  exact oc_fall rfl
theorem o_353_87 : okL gmt mt_353 87 b_353_87 := by
  refine oc (y := mt_353) (pc := 87) (ok_iastore dX7_reached_87) 88 rfl ?_
  refine oc (y := mt_353) (pc := 88) (ok_iinc dX7_reached_88 (by decide)) 91 rfl ?_
  exact oc_goto dX7_reached_91 ⟨by decide, by decide⟩
theorem o_353_94 : okL gmt mt_353 94 b_353_94 := by
  refine oc (y := mt_353) (pc := 94) (ok_iload_n dX7_reached_94) 95 rfl ?_
  refine oc_if dX7_reached_95 ⟨by decide, by decide⟩ 98 rfl ?_
  refine oc (y := mt_353) (pc := 98) (ok_aload_n dX7_reached_98) 99 rfl ?_
  refine oc_V (y := mt_353) (pc := 99) (vcons (y := mt_353) (pc := 99) (len := 3) (n := 1) (M := mt_355) (by decide) rfl (Or.inr rfl) rfl (ck_V dX7_reached_99 ⟨by decide, by decide, by decide, by decide +kernel⟩ q2665 q2667 qs144 q177 q2668) vnil) (hok0 rfl) (by decide) 102 rfl ?_
  exact oc_goto dX7_reached_102 ⟨by decide, by decide⟩
theorem o_353_105 : okL gmt mt_353 105 b_353_105 := by
  refine oc (y := mt_353) (pc := 105) (ok_iload_n dX7_reached_105) 106 rfl ?_
  refine oc (y := mt_353) (pc := 106) (ok_iconst dX7_reached_106 rfl ⟨by decide, by decide⟩) 107 rfl ?_
  refine oc_icmp dX7_reached_107 ⟨by decide, by decide⟩ 110 rfl ?_
  refine oc (y := mt_353) (pc := 110) (ok_aload_n dX7_reached_110) 111 rfl ?_
  refine oc_V (y := mt_353) (pc := 111) (vcons (y := mt_353) (pc := 111) (len := 3) (n := 1) (M := mt_356) (by decide) rfl (Or.inr rfl) rfl (ck_V dX7_reached_111 ⟨by decide, by decide, by decide, by decide +kernel⟩ q2669 q2671 qs145 q177 q2672) vnil) (hok0 rfl) (by decide) 114 rfl ?_
  exact oc_goto dX7_reached_114 ⟨by decide, by decide⟩
theorem o_353_117 : okL gmt mt_353 117 b_353_117 := by
  refine oc (y := mt_353) (pc := 117) (ok_iload_n dX7_reached_117) 118 rfl ?_
  refine oc (y := mt_353) (pc := 118) (ok_iconst dX7_reached_118 rfl ⟨by decide, by decide⟩) 119 rfl ?_
  refine oc_icmp dX7_reached_119 ⟨by decide, by decide⟩ 122 rfl ?_
  refine oc (y := mt_353) (pc := 122) (ok_aload_n dX7_reached_122) 123 rfl ?_
  refine oc_V (y := mt_353) (pc := 123) (vcons (y := mt_353) (pc := 123) (len := 3) (n := 1) (M := mt_357) (by decide) rfl (Or.inr rfl) rfl (ck_V dX7_reached_123 ⟨by decide, by decide, by decide, by decide +kernel⟩ q2673 q2675 qs146 q177 q2676) vnil) (hok0 rfl) (by decide) 126 rfl ?_
  exact oc_goto dX7_reached_126 ⟨by decide, by decide⟩
theorem o_353_129 : okL gmt mt_353 129 b_353_129 := by
  refine oc (y := mt_353) (pc := 129) (ok_aload_n dX7_reached_129) 130 rfl ?_
  refine oc_V (y := mt_353) (pc := 130) (vcons (y := mt_353) (pc := 130) (len := 3) (n := 1) (M := mt_358) (by decide) rfl (Or.inr rfl) rfl (ck_V dX7_reached_130 ⟨by decide, by decide, by decide, by decide +kernel⟩ q2677 q2679 qs147 q177 q2680) vnil) (hok0 rfl) (by decide) 133 rfl ?_
  exact oc_fall rfl
theorem o_353_133 : okL gmt mt_353 133 b_353_133 := by
  exact oc_iret dX7_reached_133 rfl
theorem ok_353 : ∀ q ∈ pr_353, okL gmt mt_353 q.1 q.2 := pk_c o_353_0 (pk_c o_353_47 (pk_c o_353_53 (pk_c o_353_55 (pk_c o_353_81 (pk_c o_353_87 (pk_c o_353_94 (pk_c o_353_105 (pk_c o_353_117 (pk_c o_353_129 (pk_c o_353_133 (pk_n)))))))))))
theorem o_354_0 : okL gmt mt_354 0 b_354_0 := by
  refine oc (y := mt_354) (pc := 0) (ok_iconst dX7_areMen_0 rfl ⟨by decide, by decide⟩) 1 rfl ?_
  refine oc (y := mt_354) (pc := 1) (ok_istore_n dX7_areMen_1 (by decide)) 2 rfl ?_
  exact oc_fall rfl
theorem o_354_2 : okL gmt mt_354 2 b_354_2 := by
  refine oc (y := mt_354) (pc := 2) (ok_iload_n dX7_areMen_2) 3 rfl ?_
  refine oc (y := mt_354) (pc := 3) (ok_aload_n dX7_areMen_3) 4 rfl ?_
  refine oc_V (y := mt_354) (pc := 4) (vcons (y := mt_354) (pc := 4) (len := 3) (n := 1) (M := mt_281) (by decide) rfl (Or.inr rfl) rfl (ck_V dX7_areMen_4 ⟨by decide, by decide, by decide, by decide +kernel⟩ q2365 q2367 qs94 q177 q2368) vnil) (hok0 rfl) (by decide) 7 rfl ?_
  refine oc_icmp dX7_areMen_7 ⟨by decide, by decide⟩ 10 rfl ?_
  refine oc (y := mt_354) (pc := 10) (ok_aload_n dX7_areMen_10) 11 rfl ?_
  refine oc (y := mt_354) (pc := 11) (ok_getfield dX7_areMen_11 (fg (own := "GardenChessModel") (idx := 7) (g := 9) (k := 0) (r := (RX7, TX7, 122)) rfl ⟨⟨by decide, by decide⟩, by decide⟩ (Or.inl q1812) (Or.inl rfl) rfl (fg_nil))) 14 rfl ?_
  refine oc (y := mt_354) (pc := 14) (ok_iload_n dX7_areMen_14) 15 rfl ?_
  refine oc (y := mt_354) (pc := 15) (ok_iconst dX7_areMen_15 rfl ⟨by decide, by decide⟩) 16 rfl ?_
  refine oc (y := mt_354) (pc := 16) (ok_iload_n dX7_areMen_16) 17 rfl ?_
  refine oc (y := mt_354) (pc := 17) (ok_imul dX7_areMen_17) 18 rfl ?_
  refine oc (y := mt_354) (pc := 18) (ok_iadd dX7_areMen_18) 19 rfl ?_
  refine oc (y := mt_354) (pc := 19) (ok_iaload dX7_areMen_19) 20 rfl ?_
  refine oc (y := mt_354) (pc := 20) (ok_istore_n dX7_areMen_20 (by decide)) 21 rfl ?_
  refine oc (y := mt_354) (pc := 21) (ok_aload_n dX7_areMen_21) 22 rfl ?_
  refine oc (y := mt_354) (pc := 22) (ok_getfield dX7_areMen_22 (fg (own := "GardenChessModel") (idx := 7) (g := 9) (k := 0) (r := (RX7, TX7, 122)) rfl ⟨⟨by decide, by decide⟩, by decide⟩ (Or.inl q1812) (Or.inl rfl) rfl (fg_nil))) 25 rfl ?_
  refine oc (y := mt_354) (pc := 25) (ok_iload_n dX7_areMen_25) 26 rfl ?_
  refine oc (y := mt_354) (pc := 26) (ok_iconst dX7_areMen_26 rfl ⟨by decide, by decide⟩) 27 rfl ?_
  refine oc (y := mt_354) (pc := 27) (ok_iload_n dX7_areMen_27) 28 rfl ?_
  refine oc (y := mt_354) (pc := 28) (ok_imul dX7_areMen_28) 29 rfl ?_
  refine oc (y := mt_354) (pc := 29) (ok_iadd dX7_areMen_29) 30 rfl ?_
  refine oc (y := mt_354) (pc := 30) (ok_iconst dX7_areMen_30 rfl ⟨by decide, by decide⟩) 31 rfl ?_
  refine oc (y := mt_354) (pc := 31) (ok_iadd dX7_areMen_31) 32 rfl ?_
  refine oc (y := mt_354) (pc := 32) (ok_iaload dX7_areMen_32) 33 rfl ?_
  refine oc (y := mt_354) (pc := 33) (ok_istore dX7_areMen_33 (by decide)) 35 rfl ?_
  refine oc (y := mt_354) (pc := 35) (ok_iload_n dX7_areMen_35) 36 rfl ?_
  refine oc (y := mt_354) (pc := 36) (ok_sipush dX7_areMen_36 (by decide) ⟨by decide, by decide⟩) 39 rfl ?_
  refine oc_icmp dX7_areMen_39 ⟨by decide, by decide⟩ 42 rfl ?_
  refine oc (y := mt_354) (pc := 42) (ok_iload dX7_areMen_42) 44 rfl ?_
  refine oc (y := mt_354) (pc := 44) (ok_sipush dX7_areMen_44 (by decide) ⟨by decide, by decide⟩) 47 rfl ?_
  refine oc_icmp dX7_areMen_47 ⟨by decide, by decide⟩ 50 rfl ?_
  exact oc_goto dX7_areMen_50 ⟨by decide, by decide⟩
theorem o_354_53 : okL gmt mt_354 53 b_354_53 := by
  refine oc (y := mt_354) (pc := 53) (ok_iload_n dX7_areMen_53) 54 rfl ?_
  refine oc (y := mt_354) (pc := 54) (ok_aload_n dX7_areMen_54) 55 rfl ?_
  refine oc (y := mt_354) (pc := 55) (ok_getfield dX7_areMen_55 (fg (own := "GardenChessModel") (idx := 127) (g := 9) (k := 47) (r := (RX7, TX7, 122)) rfl ⟨⟨by decide, by decide⟩, by decide⟩ (Or.inl q1859) (Or.inl rfl) rfl (fg_nil))) 58 rfl ?_
  refine oc (y := mt_354) (pc := 58) (ok_iconst dX7_areMen_58 rfl ⟨by decide, by decide⟩) 59 rfl ?_
  refine oc (y := mt_354) (pc := 59) (ok_iaload dX7_areMen_59) 60 rfl ?_
  refine oc_icmp dX7_areMen_60 ⟨by decide, by decide⟩ 63 rfl ?_
  refine oc (y := mt_354) (pc := 63) (ok_iload dX7_areMen_63) 65 rfl ?_
  refine oc (y := mt_354) (pc := 65) (ok_aload_n dX7_areMen_65) 66 rfl ?_
  refine oc (y := mt_354) (pc := 66) (ok_getfield dX7_areMen_66 (fg (own := "GardenChessModel") (idx := 127) (g := 9) (k := 47) (r := (RX7, TX7, 122)) rfl ⟨⟨by decide, by decide⟩, by decide⟩ (Or.inl q1859) (Or.inl rfl) rfl (fg_nil))) 69 rfl ?_
  refine oc (y := mt_354) (pc := 69) (ok_iconst dX7_areMen_69 rfl ⟨by decide, by decide⟩) 70 rfl ?_
  refine oc (y := mt_354) (pc := 70) (ok_iaload dX7_areMen_70) 71 rfl ?_
  refine oc_icmp dX7_areMen_71 ⟨by decide, by decide⟩ 74 rfl ?_
  exact oc_fall rfl
theorem o_354_74 : okL gmt mt_354 74 b_354_74 := by
  refine oc (y := mt_354) (pc := 74) (ok_iconst dX7_areMen_74 rfl ⟨by decide, by decide⟩) 75 rfl ?_
  exact oc_zret dX7_areMen_75 rfl
theorem o_354_76 : okL gmt mt_354 76 b_354_76 := by
  refine oc (y := mt_354) (pc := 76) (ok_iconst dX7_areMen_76 rfl ⟨by decide, by decide⟩) 77 rfl ?_
  refine oc (y := mt_354) (pc := 77) (ok_istore dX7_areMen_77 (by decide)) 79 rfl ?_
  exact oc_fall rfl
theorem o_354_79 : okL gmt mt_354 79 b_354_79 := by
  refine oc (y := mt_354) (pc := 79) (ok_iload dX7_areMen_79) 81 rfl ?_
  refine oc (y := mt_354) (pc := 81) (ok_iload_n dX7_areMen_81) 82 rfl ?_
  refine oc_icmp dX7_areMen_82 ⟨by decide, by decide⟩ 85 rfl ?_
  refine oc (y := mt_354) (pc := 85) (ok_aload_n dX7_areMen_85) 86 rfl ?_
  refine oc (y := mt_354) (pc := 86) (ok_getfield dX7_areMen_86 (fg (own := "GardenChessModel") (idx := 7) (g := 9) (k := 0) (r := (RX7, TX7, 122)) rfl ⟨⟨by decide, by decide⟩, by decide⟩ (Or.inl q1812) (Or.inl rfl) rfl (fg_nil))) 89 rfl ?_
  refine oc (y := mt_354) (pc := 89) (ok_iload_n dX7_areMen_89) 90 rfl ?_
  refine oc (y := mt_354) (pc := 90) (ok_iconst dX7_areMen_90 rfl ⟨by decide, by decide⟩) 91 rfl ?_
  refine oc (y := mt_354) (pc := 91) (ok_iload dX7_areMen_91) 93 rfl ?_
  refine oc (y := mt_354) (pc := 93) (ok_imul dX7_areMen_93) 94 rfl ?_
  refine oc (y := mt_354) (pc := 94) (ok_iadd dX7_areMen_94) 95 rfl ?_
  refine oc (y := mt_354) (pc := 95) (ok_iaload dX7_areMen_95) 96 rfl ?_
  refine oc (y := mt_354) (pc := 96) (ok_iload_n dX7_areMen_96) 97 rfl ?_
  refine oc_icmp dX7_areMen_97 ⟨by decide, by decide⟩ 100 rfl ?_
  refine oc (y := mt_354) (pc := 100) (ok_aload_n dX7_areMen_100) 101 rfl ?_
  refine oc (y := mt_354) (pc := 101) (ok_getfield dX7_areMen_101 (fg (own := "GardenChessModel") (idx := 7) (g := 9) (k := 0) (r := (RX7, TX7, 122)) rfl ⟨⟨by decide, by decide⟩, by decide⟩ (Or.inl q1812) (Or.inl rfl) rfl (fg_nil))) 104 rfl ?_
  refine oc (y := mt_354) (pc := 104) (ok_iload_n dX7_areMen_104) 105 rfl ?_
  refine oc (y := mt_354) (pc := 105) (ok_iconst dX7_areMen_105 rfl ⟨by decide, by decide⟩) 106 rfl ?_
  refine oc (y := mt_354) (pc := 106) (ok_iload dX7_areMen_106) 108 rfl ?_
  refine oc (y := mt_354) (pc := 108) (ok_imul dX7_areMen_108) 109 rfl ?_
  refine oc (y := mt_354) (pc := 109) (ok_iadd dX7_areMen_109) 110 rfl ?_
  refine oc (y := mt_354) (pc := 110) (ok_iconst dX7_areMen_110 rfl ⟨by decide, by decide⟩) 111 rfl ?_
  refine oc (y := mt_354) (pc := 111) (ok_iadd dX7_areMen_111) 112 rfl ?_
  refine oc (y := mt_354) (pc := 112) (ok_iaload dX7_areMen_112) 113 rfl ?_
  refine oc (y := mt_354) (pc := 113) (ok_iload dX7_areMen_113) 115 rfl ?_
  refine oc_icmp dX7_areMen_115 ⟨by decide, by decide⟩ 118 rfl ?_
  refine oc (y := mt_354) (pc := 118) (ok_iconst dX7_areMen_118 rfl ⟨by decide, by decide⟩) 119 rfl ?_
  exact oc_zret dX7_areMen_119 rfl
theorem o_354_120 : okL gmt mt_354 120 b_354_120 := by
  refine oc (y := mt_354) (pc := 120) (ok_iinc dX7_areMen_120 (by decide)) 123 rfl ?_
  exact oc_goto dX7_areMen_123 ⟨by decide, by decide⟩
theorem o_354_126 : okL gmt mt_354 126 b_354_126 := by
  refine oc (y := mt_354) (pc := 126) (ok_iinc dX7_areMen_126 (by decide)) 129 rfl ?_
  exact oc_goto dX7_areMen_129 ⟨by decide, by decide⟩
theorem o_354_132 : okL gmt mt_354 132 b_354_132 := by
  refine oc (y := mt_354) (pc := 132) (ok_iconst dX7_areMen_132 rfl ⟨by decide, by decide⟩) 133 rfl ?_
  exact oc_zret dX7_areMen_133 rfl
theorem ok_354 : ∀ q ∈ pr_354, okL gmt mt_354 q.1 q.2 := pk_c o_354_0 (pk_c o_354_2 (pk_c o_354_53 (pk_c o_354_74 (pk_c o_354_76 (pk_c o_354_79 (pk_c o_354_120 (pk_c o_354_126 (pk_c o_354_132 (pk_n)))))))))
theorem o_355_0 : okL gmt mt_355 0 b_355_0 := by
  refine oc (y := mt_355) (pc := 0) (ok_iconst dX7_ways0_0 rfl ⟨by decide, by decide⟩) 1 rfl ?_
  refine oc (y := mt_355) (pc := 1) (ok_istore_n dX7_ways0_1 (by decide)) 2 rfl ?_
  exact oc_fall rfl
theorem o_355_2 : okL gmt mt_355 2 b_355_2 := by
  refine oc (y := mt_355) (pc := 2) (ok_iload_n dX7_ways0_2) 3 rfl ?_
  refine oc (y := mt_355) (pc := 3) (ok_iconst dX7_ways0_3 rfl ⟨by decide, by decide⟩) 4 rfl ?_
  refine oc (y := mt_355) (pc := 4) (ok_aload_n dX7_ways0_4) 5 rfl ?_
  refine oc_V (y := mt_355) (pc := 5) (vcons (y := mt_355) (pc := 5) (len := 3) (n := 1) (M := mt_281) (by decide) rfl (Or.inr rfl) rfl (ck_V dX7_ways0_5 ⟨by decide, by decide, by decide, by decide +kernel⟩ q2365 q2367 qs94 q177 q2368) vnil) (hok0 rfl) (by decide) 8 rfl ?_
  refine oc (y := mt_355) (pc := 8) (ok_imul dX7_ways0_8) 9 rfl ?_
  refine oc_icmp dX7_ways0_9 ⟨by decide, by decide⟩ 12 rfl ?_
  refine oc (y := mt_355) (pc := 12) (ok_aload_n dX7_ways0_12) 13 rfl ?_
  refine oc (y := mt_355) (pc := 13) (ok_getfield dX7_ways0_13 (fg (own := "GardenChessModel") (idx := 154) (g := 9) (k := 62) (r := (RX7, TX7, 122)) rfl ⟨⟨by decide, by decide⟩, by decide⟩ (Or.inl q1874) (Or.inl rfl) rfl (fg_nil))) 16 rfl ?_
  refine oc (y := mt_355) (pc := 16) (ok_iconst dX7_ways0_16 rfl ⟨by decide, by decide⟩) 17 rfl ?_
  refine oc (y := mt_355) (pc := 17) (ok_iload_n dX7_ways0_17) 18 rfl ?_
  refine oc (y := mt_355) (pc := 18) (ok_iadd dX7_ways0_18) 19 rfl ?_
  refine oc (y := mt_355) (pc := 19) (ok_iaload dX7_ways0_19) 20 rfl ?_
  refine oc (y := mt_355) (pc := 20) (ok_aload_n dX7_ways0_20) 21 rfl ?_
  refine oc (y := mt_355) (pc := 21) (ok_getfield dX7_ways0_21 (fg (own := "GardenChessModel") (idx := 184) (g := 9) (k := 82) (r := (RX7, TX7, 122)) rfl ⟨⟨by decide, by decide⟩, by decide⟩ (Or.inl q1894) (Or.inl rfl) rfl (fg_nil))) 24 rfl ?_
  refine oc (y := mt_355) (pc := 24) (ok_iload_n dX7_ways0_24) 25 rfl ?_
  refine oc (y := mt_355) (pc := 25) (ok_iaload dX7_ways0_25) 26 rfl ?_
  refine oc_icmp dX7_ways0_26 ⟨by decide, by decide⟩ 29 rfl ?_
  refine oc (y := mt_355) (pc := 29) (ok_iconst dX7_ways0_29 rfl ⟨by decide, by decide⟩) 30 rfl ?_
  exact oc_iret dX7_ways0_30 rfl
theorem o_355_31 : okL gmt mt_355 31 b_355_31 := by
  refine oc (y := mt_355) (pc := 31) (ok_iinc dX7_ways0_31 (by decide)) 34 rfl ?_
  exact oc_goto dX7_ways0_34 ⟨by decide, by decide⟩
theorem o_355_37 : okL gmt mt_355 37 b_355_37 := by
  refine oc (y := mt_355) (pc := 37) (ok_iconst dX7_ways0_37 rfl ⟨by decide, by decide⟩) 38 rfl ?_
  exact oc_iret dX7_ways0_38 rfl
theorem ok_355 : ∀ q ∈ pr_355, okL gmt mt_355 q.1 q.2 := pk_c o_355_0 (pk_c o_355_2 (pk_c o_355_31 (pk_c o_355_37 (pk_n))))
theorem o_356_0 : okL gmt mt_356 0 b_356_0 := by
  refine oc (y := mt_356) (pc := 0) (ok_iconst dX7_ways1_0 rfl ⟨by decide, by decide⟩) 1 rfl ?_
  refine oc (y := mt_356) (pc := 1) (ok_istore_n dX7_ways1_1 (by decide)) 2 rfl ?_
  refine oc (y := mt_356) (pc := 2) (ok_aload_n dX7_ways1_2) 3 rfl ?_
  refine oc_V (y := mt_356) (pc := 3) (vcons (y := mt_356) (pc := 3) (len := 3) (n := 1) (M := mt_280) (by decide) rfl (Or.inr rfl) rfl (ck_V dX7_ways1_3 ⟨by decide, by decide, by decide, by decide +kernel⟩ q2361 q2363 qs93 q177 q2364) vnil) (hok0 rfl) (by decide) 6 rfl ?_
  refine oc_if dX7_ways1_6 ⟨by decide, by decide⟩ 9 rfl ?_
  refine oc (y := mt_356) (pc := 9) (ok_iconst dX7_ways1_9 rfl ⟨by decide, by decide⟩) 10 rfl ?_
  exact oc_iret dX7_ways1_10 rfl
theorem o_356_11 : okL gmt mt_356 11 b_356_11 := by
  refine oc (y := mt_356) (pc := 11) (ok_iconst dX7_ways1_11 rfl ⟨by decide, by decide⟩) 12 rfl ?_
  refine oc (y := mt_356) (pc := 12) (ok_istore_n dX7_ways1_12 (by decide)) 13 rfl ?_
  exact oc_fall rfl
theorem o_356_13 : okL gmt mt_356 13 b_356_13 := by
  refine oc (y := mt_356) (pc := 13) (ok_iload_n dX7_ways1_13) 14 rfl ?_
  refine oc (y := mt_356) (pc := 14) (ok_aload_n dX7_ways1_14) 15 rfl ?_
  refine oc_V (y := mt_356) (pc := 15) (vcons (y := mt_356) (pc := 15) (len := 3) (n := 1) (M := mt_281) (by decide) rfl (Or.inr rfl) rfl (ck_V dX7_ways1_15 ⟨by decide, by decide, by decide, by decide +kernel⟩ q2365 q2367 qs94 q177 q2368) vnil) (hok0 rfl) (by decide) 18 rfl ?_
  refine oc_icmp dX7_ways1_18 ⟨by decide, by decide⟩ 21 rfl ?_
  refine oc (y := mt_356) (pc := 21) (ok_iconst dX7_ways1_21 rfl ⟨by decide, by decide⟩) 22 rfl ?_
  refine oc (y := mt_356) (pc := 22) (ok_istore_n dX7_ways1_22 (by decide)) 23 rfl ?_
  exact oc_fall rfl
theorem o_356_23 : okL gmt mt_356 23 b_356_23 := by
  refine oc (y := mt_356) (pc := 23) (ok_iload_n dX7_ways1_23) 24 rfl ?_
  refine oc (y := mt_356) (pc := 24) (ok_aload_n dX7_ways1_24) 25 rfl ?_
  refine oc_V (y := mt_356) (pc := 25) (vcons (y := mt_356) (pc := 25) (len := 3) (n := 1) (M := mt_289) (by decide) rfl (Or.inr rfl) rfl (ck_V dX7_ways1_25 ⟨by decide, by decide, by decide, by decide +kernel⟩ q2397 q2399 qs102 q177 q2400) vnil) (hok0 rfl) (by decide) 28 rfl ?_
  refine oc_icmp dX7_ways1_28 ⟨by decide, by decide⟩ 31 rfl ?_
  refine oc (y := mt_356) (pc := 31) (ok_aload_n dX7_ways1_31) 32 rfl ?_
  refine oc (y := mt_356) (pc := 32) (ok_iload_n dX7_ways1_32) 33 rfl ?_
  refine oc_V (y := mt_356) (pc := 33) (vcons (y := mt_356) (pc := 33) (len := 3) (n := 2) (M := mt_287) (by decide) rfl (Or.inr rfl) rfl (ck_V dX7_ways1_33 ⟨by decide, by decide, by decide, by decide +kernel⟩ q2389 q2391 qs100 q177 q2392) vnil) (hok0 rfl) (by decide) 36 rfl ?_
  refine oc (y := mt_356) (pc := 36) (ok_aload_n dX7_ways1_36) 37 rfl ?_
  refine oc (y := mt_356) (pc := 37) (ok_getfield dX7_ways1_37 (fg (own := "GardenChessModel") (idx := 154) (g := 9) (k := 62) (r := (RX7, TX7, 122)) rfl ⟨⟨by decide, by decide⟩, by decide⟩ (Or.inl q1874) (Or.inl rfl) rfl (fg_nil))) 40 rfl ?_
  refine oc (y := mt_356) (pc := 40) (ok_iconst dX7_ways1_40 rfl ⟨by decide, by decide⟩) 41 rfl ?_
  refine oc (y := mt_356) (pc := 41) (ok_iaload dX7_ways1_41) 42 rfl ?_
  refine oc_icmp dX7_ways1_42 ⟨by decide, by decide⟩ 45 rfl ?_
  refine oc (y := mt_356) (pc := 45) (ok_aload_n dX7_ways1_45) 46 rfl ?_
  refine oc (y := mt_356) (pc := 46) (ok_iload_n dX7_ways1_46) 47 rfl ?_
  refine oc (y := mt_356) (pc := 47) (ok_iload_n dX7_ways1_47) 48 rfl ?_
  refine oc_V (y := mt_356) (pc := 48) (vcons (y := mt_356) (pc := 48) (len := 3) (n := 3) (M := mt_290) (by decide) rfl (Or.inr rfl) rfl (ck_V dX7_ways1_48 ⟨by decide, by decide, by decide, by decide +kernel⟩ q2401 q2403 qs103 q177 q2404) vnil) (hok0 rfl) (by decide) 51 rfl ?_
  refine oc_if dX7_ways1_51 ⟨by decide, by decide⟩ 54 rfl ?_
  exact oc_goto dX7_ways1_54 ⟨by decide, by decide⟩
theorem o_356_57 : okL gmt mt_356 57 b_356_57 := by
  refine oc (y := mt_356) (pc := 57) (ok_aload_n dX7_ways1_57) 58 rfl ?_
  refine oc (y := mt_356) (pc := 58) (ok_iconst dX7_ways1_58 rfl ⟨by decide, by decide⟩) 59 rfl ?_
  refine oc (y := mt_356) (pc := 59) (ok_iload_n dX7_ways1_59) 60 rfl ?_
  refine oc (y := mt_356) (pc := 60) (ok_iload_n dX7_ways1_60) 61 rfl ?_
  refine oc_V (y := mt_356) (pc := 61) (vcons (y := mt_356) (pc := 61) (len := 3) (n := 4) (M := mt_309) (by decide) rfl (Or.inr rfl) rfl (ck_V dX7_ways1_61 ⟨by decide, by decide, by decide, by decide +kernel⟩ q2478 q2480 qs113 q177 q2481) vnil) (hok0 rfl) (by decide) 64 rfl ?_
  refine oc (y := mt_356) (pc := 64) (ok_iload_n dX7_ways1_64) 65 rfl ?_
  refine oc (y := mt_356) (pc := 65) (ok_aload_n dX7_ways1_65) 66 rfl ?_
  refine oc_V (y := mt_356) (pc := 66) (vcons (y := mt_356) (pc := 66) (len := 3) (n := 1) (M := mt_355) (by decide) rfl (Or.inr rfl) rfl (ck_V dX7_ways1_66 ⟨by decide, by decide, by decide, by decide +kernel⟩ q2665 q2667 qs144 q177 q2668) vnil) (hok0 rfl) (by decide) 69 rfl ?_
  refine oc (y := mt_356) (pc := 69) (ok_iadd dX7_ways1_69) 70 rfl ?_
  refine oc (y := mt_356) (pc := 70) (ok_istore_n dX7_ways1_70 (by decide)) 71 rfl ?_
  refine oc (y := mt_356) (pc := 71) (ok_aload_n dX7_ways1_71) 72 rfl ?_
  refine oc (y := mt_356) (pc := 72) (ok_iconst dX7_ways1_72 rfl ⟨by decide, by decide⟩) 73 rfl ?_
  refine oc_V (y := mt_356) (pc := 73) (vcons (y := mt_356) (pc := 73) (len := 3) (n := 2) (M := mt_311) (by decide) rfl (Or.inr rfl) rfl (ck_V dX7_ways1_73 ⟨by decide, by decide, by decide, by decide +kernel⟩ q2486 q2488 qs115 q177 q2489) vnil) (hok0 rfl) (by decide) 76 rfl ?_
  exact oc_fall rfl
theorem o_356_76 : okL gmt mt_356 76 b_356_76 := by
  refine oc (y := mt_356) (pc := 76) (ok_iinc dX7_ways1_76 (by decide)) 79 rfl ?_
  exact oc_goto dX7_ways1_79 ⟨by decide, by decide⟩
theorem o_356_82 : okL gmt mt_356 82 b_356_82 := by
  refine oc (y := mt_356) (pc := 82) (ok_iinc dX7_ways1_82 (by decide)) 85 rfl ?_
  exact oc_goto dX7_ways1_85 ⟨by decide, by decide⟩
theorem o_356_88 : okL gmt mt_356 88 b_356_88 := by
  refine oc (y := mt_356) (pc := 88) (ok_iload_n dX7_ways1_88) 89 rfl ?_
  exact oc_iret dX7_ways1_89 rfl
theorem ok_356 : ∀ q ∈ pr_356, okL gmt mt_356 q.1 q.2 := pk_c o_356_0 (pk_c o_356_11 (pk_c o_356_13 (pk_c o_356_23 (pk_c o_356_57 (pk_c o_356_76 (pk_c o_356_82 (pk_c o_356_88 (pk_n))))))))
theorem o_357_0 : okL gmt mt_357 0 b_357_0 := by
  refine oc (y := mt_357) (pc := 0) (ok_iconst dX7_ways2_0 rfl ⟨by decide, by decide⟩) 1 rfl ?_
  refine oc (y := mt_357) (pc := 1) (ok_istore_n dX7_ways2_1 (by decide)) 2 rfl ?_
  refine oc (y := mt_357) (pc := 2) (ok_aload_n dX7_ways2_2) 3 rfl ?_
  refine oc_V (y := mt_357) (pc := 3) (vcons (y := mt_357) (pc := 3) (len := 3) (n := 1) (M := mt_280) (by decide) rfl (Or.inr rfl) rfl (ck_V dX7_ways2_3 ⟨by decide, by decide, by decide, by decide +kernel⟩ q2361 q2363 qs93 q177 q2364) vnil) (hok0 rfl) (by decide) 6 rfl ?_
  refine oc_if dX7_ways2_6 ⟨by decide, by decide⟩ 9 rfl ?_
  refine oc (y := mt_357) (pc := 9) (ok_iconst dX7_ways2_9 rfl ⟨by decide, by decide⟩) 10 rfl ?_
  exact oc_iret dX7_ways2_10 rfl
theorem o_357_11 : okL gmt mt_357 11 b_357_11 := by
  refine oc (y := mt_357) (pc := 11) (ok_iconst dX7_ways2_11 rfl ⟨by decide, by decide⟩) 12 rfl ?_
  refine oc (y := mt_357) (pc := 12) (ok_istore_n dX7_ways2_12 (by decide)) 13 rfl ?_
  exact oc_fall rfl
theorem o_357_13 : okL gmt mt_357 13 b_357_13 := by
  refine oc (y := mt_357) (pc := 13) (ok_iload_n dX7_ways2_13) 14 rfl ?_
  refine oc (y := mt_357) (pc := 14) (ok_aload_n dX7_ways2_14) 15 rfl ?_
  refine oc_V (y := mt_357) (pc := 15) (vcons (y := mt_357) (pc := 15) (len := 3) (n := 1) (M := mt_281) (by decide) rfl (Or.inr rfl) rfl (ck_V dX7_ways2_15 ⟨by decide, by decide, by decide, by decide +kernel⟩ q2365 q2367 qs94 q177 q2368) vnil) (hok0 rfl) (by decide) 18 rfl ?_
  refine oc_icmp dX7_ways2_18 ⟨by decide, by decide⟩ 21 rfl ?_
  refine oc (y := mt_357) (pc := 21) (ok_iconst dX7_ways2_21 rfl ⟨by decide, by decide⟩) 22 rfl ?_
  refine oc (y := mt_357) (pc := 22) (ok_istore_n dX7_ways2_22 (by decide)) 23 rfl ?_
  exact oc_fall rfl
theorem o_357_23 : okL gmt mt_357 23 b_357_23 := by
  refine oc (y := mt_357) (pc := 23) (ok_iload_n dX7_ways2_23) 24 rfl ?_
  refine oc (y := mt_357) (pc := 24) (ok_aload_n dX7_ways2_24) 25 rfl ?_
  refine oc_V (y := mt_357) (pc := 25) (vcons (y := mt_357) (pc := 25) (len := 3) (n := 1) (M := mt_289) (by decide) rfl (Or.inr rfl) rfl (ck_V dX7_ways2_25 ⟨by decide, by decide, by decide, by decide +kernel⟩ q2397 q2399 qs102 q177 q2400) vnil) (hok0 rfl) (by decide) 28 rfl ?_
  refine oc_icmp dX7_ways2_28 ⟨by decide, by decide⟩ 31 rfl ?_
  refine oc (y := mt_357) (pc := 31) (ok_aload_n dX7_ways2_31) 32 rfl ?_
  refine oc (y := mt_357) (pc := 32) (ok_iload_n dX7_ways2_32) 33 rfl ?_
  refine oc_V (y := mt_357) (pc := 33) (vcons (y := mt_357) (pc := 33) (len := 3) (n := 2) (M := mt_287) (by decide) rfl (Or.inr rfl) rfl (ck_V dX7_ways2_33 ⟨by decide, by decide, by decide, by decide +kernel⟩ q2389 q2391 qs100 q177 q2392) vnil) (hok0 rfl) (by decide) 36 rfl ?_
  refine oc (y := mt_357) (pc := 36) (ok_aload_n dX7_ways2_36) 37 rfl ?_
  refine oc (y := mt_357) (pc := 37) (ok_getfield dX7_ways2_37 (fg (own := "GardenChessModel") (idx := 154) (g := 9) (k := 62) (r := (RX7, TX7, 122)) rfl ⟨⟨by decide, by decide⟩, by decide⟩ (Or.inl q1874) (Or.inl rfl) rfl (fg_nil))) 40 rfl ?_
  refine oc (y := mt_357) (pc := 40) (ok_iconst dX7_ways2_40 rfl ⟨by decide, by decide⟩) 41 rfl ?_
  refine oc (y := mt_357) (pc := 41) (ok_iaload dX7_ways2_41) 42 rfl ?_
  refine oc_icmp dX7_ways2_42 ⟨by decide, by decide⟩ 45 rfl ?_
  refine oc (y := mt_357) (pc := 45) (ok_aload_n dX7_ways2_45) 46 rfl ?_
  refine oc (y := mt_357) (pc := 46) (ok_iload_n dX7_ways2_46) 47 rfl ?_
  refine oc (y := mt_357) (pc := 47) (ok_iload_n dX7_ways2_47) 48 rfl ?_
  refine oc_V (y := mt_357) (pc := 48) (vcons (y := mt_357) (pc := 48) (len := 3) (n := 3) (M := mt_290) (by decide) rfl (Or.inr rfl) rfl (ck_V dX7_ways2_48 ⟨by decide, by decide, by decide, by decide +kernel⟩ q2401 q2403 qs103 q177 q2404) vnil) (hok0 rfl) (by decide) 51 rfl ?_
  refine oc_if dX7_ways2_51 ⟨by decide, by decide⟩ 54 rfl ?_
  exact oc_goto dX7_ways2_54 ⟨by decide, by decide⟩
theorem o_357_57 : okL gmt mt_357 57 b_357_57 := by
  refine oc (y := mt_357) (pc := 57) (ok_aload_n dX7_ways2_57) 58 rfl ?_
  refine oc (y := mt_357) (pc := 58) (ok_iconst dX7_ways2_58 rfl ⟨by decide, by decide⟩) 59 rfl ?_
  refine oc (y := mt_357) (pc := 59) (ok_iload_n dX7_ways2_59) 60 rfl ?_
  refine oc (y := mt_357) (pc := 60) (ok_iload_n dX7_ways2_60) 61 rfl ?_
  refine oc_V (y := mt_357) (pc := 61) (vcons (y := mt_357) (pc := 61) (len := 3) (n := 4) (M := mt_309) (by decide) rfl (Or.inr rfl) rfl (ck_V dX7_ways2_61 ⟨by decide, by decide, by decide, by decide +kernel⟩ q2478 q2480 qs113 q177 q2481) vnil) (hok0 rfl) (by decide) 64 rfl ?_
  refine oc (y := mt_357) (pc := 64) (ok_iload_n dX7_ways2_64) 65 rfl ?_
  refine oc (y := mt_357) (pc := 65) (ok_aload_n dX7_ways2_65) 66 rfl ?_
  refine oc_V (y := mt_357) (pc := 66) (vcons (y := mt_357) (pc := 66) (len := 3) (n := 1) (M := mt_356) (by decide) rfl (Or.inr rfl) rfl (ck_V dX7_ways2_66 ⟨by decide, by decide, by decide, by decide +kernel⟩ q2669 q2671 qs145 q177 q2672) vnil) (hok0 rfl) (by decide) 69 rfl ?_
  refine oc (y := mt_357) (pc := 69) (ok_iadd dX7_ways2_69) 70 rfl ?_
  refine oc (y := mt_357) (pc := 70) (ok_istore_n dX7_ways2_70 (by decide)) 71 rfl ?_
  refine oc (y := mt_357) (pc := 71) (ok_aload_n dX7_ways2_71) 72 rfl ?_
  refine oc (y := mt_357) (pc := 72) (ok_iconst dX7_ways2_72 rfl ⟨by decide, by decide⟩) 73 rfl ?_
  refine oc_V (y := mt_357) (pc := 73) (vcons (y := mt_357) (pc := 73) (len := 3) (n := 2) (M := mt_311) (by decide) rfl (Or.inr rfl) rfl (ck_V dX7_ways2_73 ⟨by decide, by decide, by decide, by decide +kernel⟩ q2486 q2488 qs115 q177 q2489) vnil) (hok0 rfl) (by decide) 76 rfl ?_
  exact oc_fall rfl
theorem o_357_76 : okL gmt mt_357 76 b_357_76 := by
  refine oc (y := mt_357) (pc := 76) (ok_iinc dX7_ways2_76 (by decide)) 79 rfl ?_
  exact oc_goto dX7_ways2_79 ⟨by decide, by decide⟩
theorem o_357_82 : okL gmt mt_357 82 b_357_82 := by
  refine oc (y := mt_357) (pc := 82) (ok_iinc dX7_ways2_82 (by decide)) 85 rfl ?_
  exact oc_goto dX7_ways2_85 ⟨by decide, by decide⟩
theorem o_357_88 : okL gmt mt_357 88 b_357_88 := by
  refine oc (y := mt_357) (pc := 88) (ok_iload_n dX7_ways2_88) 89 rfl ?_
  exact oc_iret dX7_ways2_89 rfl
theorem ok_357 : ∀ q ∈ pr_357, okL gmt mt_357 q.1 q.2 := pk_c o_357_0 (pk_c o_357_11 (pk_c o_357_13 (pk_c o_357_23 (pk_c o_357_57 (pk_c o_357_76 (pk_c o_357_82 (pk_c o_357_88 (pk_n))))))))
theorem o_358_0 : okL gmt mt_358 0 b_358_0 := by
  refine oc (y := mt_358) (pc := 0) (ok_iconst dX7_ways3_0 rfl ⟨by decide, by decide⟩) 1 rfl ?_
  refine oc (y := mt_358) (pc := 1) (ok_istore_n dX7_ways3_1 (by decide)) 2 rfl ?_
  refine oc (y := mt_358) (pc := 2) (ok_aload_n dX7_ways3_2) 3 rfl ?_
  refine oc_V (y := mt_358) (pc := 3) (vcons (y := mt_358) (pc := 3) (len := 3) (n := 1) (M := mt_280) (by decide) rfl (Or.inr rfl) rfl (ck_V dX7_ways3_3 ⟨by decide, by decide, by decide, by decide +kernel⟩ q2361 q2363 qs93 q177 q2364) vnil) (hok0 rfl) (by decide) 6 rfl ?_
  refine oc_if dX7_ways3_6 ⟨by decide, by decide⟩ 9 rfl ?_
  refine oc (y := mt_358) (pc := 9) (ok_iconst dX7_ways3_9 rfl ⟨by decide, by decide⟩) 10 rfl ?_
  exact oc_iret dX7_ways3_10 rfl
theorem o_358_11 : okL gmt mt_358 11 b_358_11 := by
  refine oc (y := mt_358) (pc := 11) (ok_iconst dX7_ways3_11 rfl ⟨by decide, by decide⟩) 12 rfl ?_
  refine oc (y := mt_358) (pc := 12) (ok_istore_n dX7_ways3_12 (by decide)) 13 rfl ?_
  exact oc_fall rfl
theorem o_358_13 : okL gmt mt_358 13 b_358_13 := by
  refine oc (y := mt_358) (pc := 13) (ok_iload_n dX7_ways3_13) 14 rfl ?_
  refine oc (y := mt_358) (pc := 14) (ok_aload_n dX7_ways3_14) 15 rfl ?_
  refine oc_V (y := mt_358) (pc := 15) (vcons (y := mt_358) (pc := 15) (len := 3) (n := 1) (M := mt_281) (by decide) rfl (Or.inr rfl) rfl (ck_V dX7_ways3_15 ⟨by decide, by decide, by decide, by decide +kernel⟩ q2365 q2367 qs94 q177 q2368) vnil) (hok0 rfl) (by decide) 18 rfl ?_
  refine oc_icmp dX7_ways3_18 ⟨by decide, by decide⟩ 21 rfl ?_
  refine oc (y := mt_358) (pc := 21) (ok_iconst dX7_ways3_21 rfl ⟨by decide, by decide⟩) 22 rfl ?_
  refine oc (y := mt_358) (pc := 22) (ok_istore_n dX7_ways3_22 (by decide)) 23 rfl ?_
  exact oc_fall rfl
theorem o_358_23 : okL gmt mt_358 23 b_358_23 := by
  refine oc (y := mt_358) (pc := 23) (ok_iload_n dX7_ways3_23) 24 rfl ?_
  refine oc (y := mt_358) (pc := 24) (ok_aload_n dX7_ways3_24) 25 rfl ?_
  refine oc_V (y := mt_358) (pc := 25) (vcons (y := mt_358) (pc := 25) (len := 3) (n := 1) (M := mt_289) (by decide) rfl (Or.inr rfl) rfl (ck_V dX7_ways3_25 ⟨by decide, by decide, by decide, by decide +kernel⟩ q2397 q2399 qs102 q177 q2400) vnil) (hok0 rfl) (by decide) 28 rfl ?_
  refine oc_icmp dX7_ways3_28 ⟨by decide, by decide⟩ 31 rfl ?_
  refine oc (y := mt_358) (pc := 31) (ok_aload_n dX7_ways3_31) 32 rfl ?_
  refine oc (y := mt_358) (pc := 32) (ok_iload_n dX7_ways3_32) 33 rfl ?_
  refine oc_V (y := mt_358) (pc := 33) (vcons (y := mt_358) (pc := 33) (len := 3) (n := 2) (M := mt_287) (by decide) rfl (Or.inr rfl) rfl (ck_V dX7_ways3_33 ⟨by decide, by decide, by decide, by decide +kernel⟩ q2389 q2391 qs100 q177 q2392) vnil) (hok0 rfl) (by decide) 36 rfl ?_
  refine oc (y := mt_358) (pc := 36) (ok_aload_n dX7_ways3_36) 37 rfl ?_
  refine oc (y := mt_358) (pc := 37) (ok_getfield dX7_ways3_37 (fg (own := "GardenChessModel") (idx := 154) (g := 9) (k := 62) (r := (RX7, TX7, 122)) rfl ⟨⟨by decide, by decide⟩, by decide⟩ (Or.inl q1874) (Or.inl rfl) rfl (fg_nil))) 40 rfl ?_
  refine oc (y := mt_358) (pc := 40) (ok_iconst dX7_ways3_40 rfl ⟨by decide, by decide⟩) 41 rfl ?_
  refine oc (y := mt_358) (pc := 41) (ok_iaload dX7_ways3_41) 42 rfl ?_
  refine oc_icmp dX7_ways3_42 ⟨by decide, by decide⟩ 45 rfl ?_
  refine oc (y := mt_358) (pc := 45) (ok_aload_n dX7_ways3_45) 46 rfl ?_
  refine oc (y := mt_358) (pc := 46) (ok_iload_n dX7_ways3_46) 47 rfl ?_
  refine oc (y := mt_358) (pc := 47) (ok_iload_n dX7_ways3_47) 48 rfl ?_
  refine oc_V (y := mt_358) (pc := 48) (vcons (y := mt_358) (pc := 48) (len := 3) (n := 3) (M := mt_290) (by decide) rfl (Or.inr rfl) rfl (ck_V dX7_ways3_48 ⟨by decide, by decide, by decide, by decide +kernel⟩ q2401 q2403 qs103 q177 q2404) vnil) (hok0 rfl) (by decide) 51 rfl ?_
  refine oc_if dX7_ways3_51 ⟨by decide, by decide⟩ 54 rfl ?_
  exact oc_goto dX7_ways3_54 ⟨by decide, by decide⟩
theorem o_358_57 : okL gmt mt_358 57 b_358_57 := by
  refine oc (y := mt_358) (pc := 57) (ok_aload_n dX7_ways3_57) 58 rfl ?_
  refine oc (y := mt_358) (pc := 58) (ok_iconst dX7_ways3_58 rfl ⟨by decide, by decide⟩) 59 rfl ?_
  refine oc (y := mt_358) (pc := 59) (ok_iload_n dX7_ways3_59) 60 rfl ?_
  refine oc (y := mt_358) (pc := 60) (ok_iload_n dX7_ways3_60) 61 rfl ?_
  refine oc_V (y := mt_358) (pc := 61) (vcons (y := mt_358) (pc := 61) (len := 3) (n := 4) (M := mt_309) (by decide) rfl (Or.inr rfl) rfl (ck_V dX7_ways3_61 ⟨by decide, by decide, by decide, by decide +kernel⟩ q2478 q2480 qs113 q177 q2481) vnil) (hok0 rfl) (by decide) 64 rfl ?_
  refine oc (y := mt_358) (pc := 64) (ok_iload_n dX7_ways3_64) 65 rfl ?_
  refine oc (y := mt_358) (pc := 65) (ok_aload_n dX7_ways3_65) 66 rfl ?_
  refine oc_V (y := mt_358) (pc := 66) (vcons (y := mt_358) (pc := 66) (len := 3) (n := 1) (M := mt_357) (by decide) rfl (Or.inr rfl) rfl (ck_V dX7_ways3_66 ⟨by decide, by decide, by decide, by decide +kernel⟩ q2673 q2675 qs146 q177 q2676) vnil) (hok0 rfl) (by decide) 69 rfl ?_
  refine oc (y := mt_358) (pc := 69) (ok_iadd dX7_ways3_69) 70 rfl ?_
  refine oc (y := mt_358) (pc := 70) (ok_istore_n dX7_ways3_70 (by decide)) 71 rfl ?_
  refine oc (y := mt_358) (pc := 71) (ok_aload_n dX7_ways3_71) 72 rfl ?_
  refine oc (y := mt_358) (pc := 72) (ok_iconst dX7_ways3_72 rfl ⟨by decide, by decide⟩) 73 rfl ?_
  refine oc_V (y := mt_358) (pc := 73) (vcons (y := mt_358) (pc := 73) (len := 3) (n := 2) (M := mt_311) (by decide) rfl (Or.inr rfl) rfl (ck_V dX7_ways3_73 ⟨by decide, by decide, by decide, by decide +kernel⟩ q2486 q2488 qs115 q177 q2489) vnil) (hok0 rfl) (by decide) 76 rfl ?_
  exact oc_fall rfl
theorem o_358_76 : okL gmt mt_358 76 b_358_76 := by
  refine oc (y := mt_358) (pc := 76) (ok_iinc dX7_ways3_76 (by decide)) 79 rfl ?_
  exact oc_goto dX7_ways3_79 ⟨by decide, by decide⟩
theorem o_358_82 : okL gmt mt_358 82 b_358_82 := by
  refine oc (y := mt_358) (pc := 82) (ok_iinc dX7_ways3_82 (by decide)) 85 rfl ?_
  exact oc_goto dX7_ways3_85 ⟨by decide, by decide⟩
theorem o_358_88 : okL gmt mt_358 88 b_358_88 := by
  refine oc (y := mt_358) (pc := 88) (ok_iload_n dX7_ways3_88) 89 rfl ?_
  exact oc_iret dX7_ways3_89 rfl
theorem ok_358 : ∀ q ∈ pr_358, okL gmt mt_358 q.1 q.2 := pk_c o_358_0 (pk_c o_358_11 (pk_c o_358_13 (pk_c o_358_23 (pk_c o_358_57 (pk_c o_358_76 (pk_c o_358_82 (pk_c o_358_88 (pk_n))))))))
theorem o_359_0 : okL gmt mt_359 0 b_359_0 := by
  refine oc (y := mt_359) (pc := 0) (ok_aload_n dX7_undo_0) 1 rfl ?_
  refine oc (y := mt_359) (pc := 1) (ok_getfield dX7_undo_1 (fg (own := "GardenChessModel") (idx := 427) (g := 9) (k := 84) (r := (RX7, TX7, 122)) rfl ⟨⟨by decide, by decide⟩, by decide⟩ (Or.inl q1896) (Or.inl rfl) rfl (fg_nil))) 4 rfl ?_
  refine oc_if dX7_undo_4 ⟨by decide, by decide⟩ 7 rfl ?_
  refine oc (y := mt_359) (pc := 7) (ok_aload_n dX7_undo_7) 8 rfl ?_
  refine oc (y := mt_359) (pc := 8) (ok_getfield dX7_undo_8 (fg (own := "GardenChessModel") (idx := 17) (g := 9) (k := 9) (r := (RX7, TX7, 122)) rfl ⟨⟨by decide, by decide⟩, by decide⟩ (Or.inl q1821) (Or.inl rfl) rfl (fg_nil))) 11 rfl ?_
  refine oc (y := mt_359) (pc := 11) (ok_iconst dX7_undo_11 rfl ⟨by decide, by decide⟩) 12 rfl ?_
  refine oc (y := mt_359) (pc := 12) (ok_dup2 dX7_undo_12) 13 rfl ?_
  refine oc (y := mt_359) (pc := 13) (ok_iaload dX7_undo_13) 14 rfl ?_
  refine oc (y := mt_359) (pc := 14) (ok_iconst dX7_undo_14 rfl ⟨by decide, by decide⟩) 15 rfl ?_
  refine oc (y := mt_359) (pc := 15) (ok_iadd dX7_undo_15) 16 rfl ?_
  refine oc (y := mt_359) (pc := 16) (ok_iastore dX7_undo_16) 17 rfl ?_
  refine oc (y := mt_359) (pc := 17) (ok_iconst dX7_undo_17 rfl ⟨by decide, by decide⟩) 18 rfl ?_
  exact oc_zret dX7_undo_18 rfl
theorem o_359_19 : okL gmt mt_359 19 b_359_19 := by
  refine oc (y := mt_359) (pc := 19) (ok_iconst dX7_undo_19 rfl ⟨by decide, by decide⟩) 20 rfl ?_
  refine oc (y := mt_359) (pc := 20) (ok_istore_n dX7_undo_20 (by decide)) 21 rfl ?_
  exact oc_fall rfl
theorem o_359_21 : okL gmt mt_359 21 b_359_21 := by
  refine oc (y := mt_359) (pc := 21) (ok_iload_n dX7_undo_21) 22 rfl ?_
  refine oc (y := mt_359) (pc := 22) (ok_sipush dX7_undo_22 (by decide) ⟨by decide, by decide⟩) 25 rfl ?_
  refine oc_icmp dX7_undo_25 ⟨by decide, by decide⟩ 28 rfl ?_
  refine oc (y := mt_359) (pc := 28) (ok_aload_n dX7_undo_28) 29 rfl ?_
  refine oc (y := mt_359) (pc := 29) (ok_getfield dX7_undo_29 (fg (own := "GardenChessModel") (idx := 154) (g := 9) (k := 62) (r := (RX7, TX7, 122)) rfl ⟨⟨by decide, by decide⟩, by decide⟩ (Or.inl q1874) (Or.inl rfl) rfl (fg_nil))) 32 rfl ?_
  refine oc (y := mt_359) (pc := 32) (ok_iload_n dX7_undo_32) 33 rfl ?_
  refine oc (y := mt_359) (pc := 33) (ok_aload_n dX7_undo_33) 34 rfl ?_
  refine oc (y := mt_359) (pc := 34) (ok_getfield dX7_undo_34 (fg (own := "GardenChessModel") (idx := 187) (g := 9) (k := 83) (r := (RX7, TX7, 122)) rfl ⟨⟨by decide, by decide⟩, by decide⟩ (Or.inl q1895) (Or.inl rfl) rfl (fg_nil))) 37 rfl ?_
  refine oc (y := mt_359) (pc := 37) (ok_sipush dX7_undo_37 (by decide) ⟨by decide, by decide⟩) 40 rfl ?_
  refine oc (y := mt_359) (pc := 40) (ok_aload_n dX7_undo_40) 41 rfl ?_
  refine oc (y := mt_359) (pc := 41) (ok_getfield dX7_undo_41 (fg (own := "GardenChessModel") (idx := 660) (g := 9) (k := 85) (r := (RX7, TX7, 122)) rfl ⟨⟨by decide, by decide⟩, by decide⟩ (Or.inl q1897) (Or.inl rfl) rfl (fg_nil))) 44 rfl ?_
  refine oc (y := mt_359) (pc := 44) (ok_imul dX7_undo_44) 45 rfl ?_
  refine oc (y := mt_359) (pc := 45) (ok_iload_n dX7_undo_45) 46 rfl ?_
  refine oc (y := mt_359) (pc := 46) (ok_iadd dX7_undo_46) 47 rfl ?_
  refine oc (y := mt_359) (pc := 47) (ok_iaload dX7_undo_47) 48 rfl ?_
  refine oc (y := mt_359) (pc := 48) (ok_iastore dX7_undo_48) 49 rfl ?_
  refine oc (y := mt_359) (pc := 49) (ok_iinc dX7_undo_49 (by decide)) 52 rfl ?_
  exact oc_goto dX7_undo_52 ⟨by decide, by decide⟩
theorem o_359_55 : okL gmt mt_359 55 b_359_55 := by
  refine oc (y := mt_359) (pc := 55) (ok_aload_n dX7_undo_55) 56 rfl ?_
  refine oc (y := mt_359) (pc := 56) (ok_aload_n dX7_undo_56) 57 rfl ?_
  refine oc (y := mt_359) (pc := 57) (ok_getfield dX7_undo_57 (fg (own := "GardenChessModel") (idx := 660) (g := 9) (k := 85) (r := (RX7, TX7, 122)) rfl ⟨⟨by decide, by decide⟩, by decide⟩ (Or.inl q1897) (Or.inl rfl) rfl (fg_nil))) 60 rfl ?_
  refine oc (y := mt_359) (pc := 60) (ok_bipush dX7_undo_60 (by decide) ⟨by decide, by decide⟩) 62 rfl ?_
  refine oc (y := mt_359) (pc := 62) (ok_iadd dX7_undo_62) 63 rfl ?_
  refine oc (y := mt_359) (pc := 63) (ok_iconst dX7_undo_63 rfl ⟨by decide, by decide⟩) 64 rfl ?_
  refine oc (y := mt_359) (pc := 64) (ok_isub dX7_undo_64) 65 rfl ?_
  refine oc (y := mt_359) (pc := 65) (ok_bipush dX7_undo_65 (by decide) ⟨by decide, by decide⟩) 67 rfl ?_
  refine oc (y := mt_359) (pc := 67) (ok_irem dX7_undo_67) 68 rfl ?_
  refine oc (y := mt_359) (pc := 68) (ok_putfield dX7_undo_68 (fp (own := "GardenChessModel") (idx := 660) (g := 9) (k := 85) (r := (RX7, TX7, 122)) rfl ⟨⟨by decide, by decide⟩, by decide⟩ (Or.inl q1897) (Or.inl rfl) rfl (Or.inl rfl) (fp_nil))) 71 rfl ?_
  refine oc (y := mt_359) (pc := 71) (ok_aload_n dX7_undo_71) 72 rfl ?_
  refine oc (y := mt_359) (pc := 72) (ok_dup dX7_undo_72) 73 rfl ?_
  refine oc (y := mt_359) (pc := 73) (ok_getfield dX7_undo_73 (fg (own := "GardenChessModel") (idx := 427) (g := 9) (k := 84) (r := (RX7, TX7, 122)) rfl ⟨⟨by decide, by decide⟩, by decide⟩ (Or.inl q1896) (Or.inl rfl) rfl (fg_nil))) 76 rfl ?_
  refine oc (y := mt_359) (pc := 76) (ok_iconst dX7_undo_76 rfl ⟨by decide, by decide⟩) 77 rfl ?_
  refine oc (y := mt_359) (pc := 77) (ok_isub dX7_undo_77) 78 rfl ?_
  refine oc (y := mt_359) (pc := 78) (ok_putfield dX7_undo_78 (fp (own := "GardenChessModel") (idx := 427) (g := 9) (k := 84) (r := (RX7, TX7, 122)) rfl ⟨⟨by decide, by decide⟩, by decide⟩ (Or.inl q1896) (Or.inl rfl) rfl (Or.inl rfl) (fp_nil))) 81 rfl ?_
  refine oc (y := mt_359) (pc := 81) (ok_iconst dX7_undo_81 rfl ⟨by decide, by decide⟩) 82 rfl ?_
  exact oc_zret dX7_undo_82 rfl
theorem ok_359 : ∀ q ∈ pr_359, okL gmt mt_359 q.1 q.2 := pk_c o_359_0 (pk_c o_359_19 (pk_c o_359_21 (pk_c o_359_55 (pk_n))))
theorem o_360_0 : okL gmt mt_360 0 b_360_0 := by
  refine oc (y := mt_360) (pc := 0) (ok_aload_n dX7_play_0) 1 rfl ?_
  refine oc (y := mt_360) (pc := 1) (ok_iload_n dX7_play_1) 2 rfl ?_
  refine oc_V (y := mt_360) (pc := 2) (vcons (y := mt_360) (pc := 2) (len := 3) (n := 2) (M := mt_308) (by decide) rfl (Or.inr rfl) rfl (ck_V dX7_play_2 ⟨by decide, by decide, by decide, by decide +kernel⟩ q2474 q2476 qs112 q177 q2477) vnil) (hok0 rfl) (by decide) 5 rfl ?_
  refine oc (y := mt_360) (pc := 5) (ok_aload_n dX7_play_5) 6 rfl ?_
  refine oc (y := mt_360) (pc := 6) (ok_getfield dX7_play_6 (fg (own := "GardenChessModel") (idx := 515) (g := 9) (k := 68) (r := (RX7, TX7, 122)) rfl ⟨⟨by decide, by decide⟩, by decide⟩ (Or.inl q1880) (Or.inl rfl) rfl (fg_nil))) 9 rfl ?_
  refine oc (y := mt_360) (pc := 9) (ok_iconst dX7_play_9 rfl ⟨by decide, by decide⟩) 10 rfl ?_
  refine oc_icmp dX7_play_10 ⟨by decide, by decide⟩ 13 rfl ?_
  refine oc (y := mt_360) (pc := 13) (ok_aload_n dX7_play_13) 14 rfl ?_
  refine oc (y := mt_360) (pc := 14) (ok_getfield dX7_play_14 (fg (own := "GardenChessModel") (idx := 154) (g := 9) (k := 62) (r := (RX7, TX7, 122)) rfl ⟨⟨by decide, by decide⟩, by decide⟩ (Or.inl q1874) (Or.inl rfl) rfl (fg_nil))) 17 rfl ?_
  refine oc (y := mt_360) (pc := 17) (ok_iconst dX7_play_17 rfl ⟨by decide, by decide⟩) 18 rfl ?_
  refine oc (y := mt_360) (pc := 18) (ok_iaload dX7_play_18) 19 rfl ?_
  refine oc (y := mt_360) (pc := 19) (ok_sipush dX7_play_19 (by decide) ⟨by decide, by decide⟩) 22 rfl ?_
  refine oc_icmp dX7_play_22 ⟨by decide, by decide⟩ 25 rfl ?_
  exact oc_fall rfl
theorem o_360_25 : okL gmt mt_360 25 b_360_25 := by
  refine oc (y := mt_360) (pc := 25) (ok_aload_n dX7_play_25) 26 rfl ?_
  refine oc (y := mt_360) (pc := 26) (ok_iconst dX7_play_26 rfl ⟨by decide, by decide⟩) 27 rfl ?_
  refine oc_V (y := mt_360) (pc := 27) (vcons (y := mt_360) (pc := 27) (len := 3) (n := 2) (M := mt_350) (by decide) rfl (Or.inr rfl) rfl (ck_V dX7_play_27 ⟨by decide, by decide, by decide, by decide +kernel⟩ q2645 q2647 qs141 q177 q2648) vnil) (hok0 rfl) (by decide) 30 rfl ?_
  exact oc_iret dX7_play_30 rfl
theorem o_360_31 : okL gmt mt_360 31 b_360_31 := by
  refine oc (y := mt_360) (pc := 31) (ok_aload_n dX7_play_31) 32 rfl ?_
  refine oc_V (y := mt_360) (pc := 32) (vcons (y := mt_360) (pc := 32) (len := 3) (n := 1) (M := mt_361) (by decide) rfl (Or.inr rfl) rfl (ck_V dX7_play_32 ⟨by decide, by decide, by decide, by decide +kernel⟩ q2689 q2691 qs148 q177 q2692) vnil) (hok0 rfl) (by decide) 35 rfl ?_
  refine oc (y := mt_360) (pc := 35) (ok_aload_n dX7_play_35) 36 rfl ?_
  refine oc_V (y := mt_360) (pc := 36) (vcons (y := mt_360) (pc := 36) (len := 3) (n := 1) (M := mt_332) (by decide) rfl (Or.inr rfl) rfl (ck_V dX7_play_36 ⟨by decide, by decide, by decide, by decide +kernel⟩ q2571 q2573 qs130 q177 q2574) vnil) (hok0 rfl) (by decide) 39 rfl ?_
  refine oc (y := mt_360) (pc := 39) (ok_aload_n dX7_play_39) 40 rfl ?_
  refine oc (y := mt_360) (pc := 40) (ok_getfield dX7_play_40 (fg (own := "GardenChessModel") (idx := 550) (g := 9) (k := 77) (r := (RX7, TX7, 122)) rfl ⟨⟨by decide, by decide⟩, by decide⟩ (Or.inl q1889) (Or.inl rfl) rfl (fg_nil))) 43 rfl ?_
  exact oc_iret dX7_play_43 rfl
theorem ok_360 : ∀ q ∈ pr_360, okL gmt mt_360 q.1 q.2 := pk_c o_360_0 (pk_c o_360_25 (pk_c o_360_31 (pk_n)))
theorem o_361_0 : okL gmt mt_361 0 b_361_0 := by
  refine oc (y := mt_361) (pc := 0) (ok_aload_n dX7_keeps_0) 1 rfl ?_
  refine oc (y := mt_361) (pc := 1) (ok_aload_n dX7_keeps_1) 2 rfl ?_
  refine oc (y := mt_361) (pc := 2) (ok_getfield dX7_keeps_2 (fg (own := "GardenChessModel") (idx := 660) (g := 9) (k := 85) (r := (RX7, TX7, 122)) rfl ⟨⟨by decide, by decide⟩, by decide⟩ (Or.inl q1897) (Or.inl rfl) rfl (fg_nil))) 5 rfl ?_
  refine oc (y := mt_361) (pc := 5) (ok_iconst dX7_keeps_5 rfl ⟨by decide, by decide⟩) 6 rfl ?_
  refine oc (y := mt_361) (pc := 6) (ok_iadd dX7_keeps_6) 7 rfl ?_
  refine oc (y := mt_361) (pc := 7) (ok_bipush dX7_keeps_7 (by decide) ⟨by decide, by decide⟩) 9 rfl ?_
  refine oc (y := mt_361) (pc := 9) (ok_irem dX7_keeps_9) 10 rfl ?_
  refine oc (y := mt_361) (pc := 10) (ok_putfield dX7_keeps_10 (fp (own := "GardenChessModel") (idx := 660) (g := 9) (k := 85) (r := (RX7, TX7, 122)) rfl ⟨⟨by decide, by decide⟩, by decide⟩ (Or.inl q1897) (Or.inl rfl) rfl (Or.inl rfl) (fp_nil))) 13 rfl ?_
  refine oc (y := mt_361) (pc := 13) (ok_iconst dX7_keeps_13 rfl ⟨by decide, by decide⟩) 14 rfl ?_
  refine oc (y := mt_361) (pc := 14) (ok_istore_n dX7_keeps_14 (by decide)) 15 rfl ?_
  exact oc_fall rfl
theorem o_361_15 : okL gmt mt_361 15 b_361_15 := by
  refine oc (y := mt_361) (pc := 15) (ok_iload_n dX7_keeps_15) 16 rfl ?_
  refine oc (y := mt_361) (pc := 16) (ok_sipush dX7_keeps_16 (by decide) ⟨by decide, by decide⟩) 19 rfl ?_
  refine oc_icmp dX7_keeps_19 ⟨by decide, by decide⟩ 22 rfl ?_
  refine oc (y := mt_361) (pc := 22) (ok_aload_n dX7_keeps_22) 23 rfl ?_
  refine oc (y := mt_361) (pc := 23) (ok_getfield dX7_keeps_23 (fg (own := "GardenChessModel") (idx := 187) (g := 9) (k := 83) (r := (RX7, TX7, 122)) rfl ⟨⟨by decide, by decide⟩, by decide⟩ (Or.inl q1895) (Or.inl rfl) rfl (fg_nil))) 26 rfl ?_
  refine oc (y := mt_361) (pc := 26) (ok_sipush dX7_keeps_26 (by decide) ⟨by decide, by decide⟩) 29 rfl ?_
  refine oc (y := mt_361) (pc := 29) (ok_aload_n dX7_keeps_29) 30 rfl ?_
  refine oc (y := mt_361) (pc := 30) (ok_getfield dX7_keeps_30 (fg (own := "GardenChessModel") (idx := 660) (g := 9) (k := 85) (r := (RX7, TX7, 122)) rfl ⟨⟨by decide, by decide⟩, by decide⟩ (Or.inl q1897) (Or.inl rfl) rfl (fg_nil))) 33 rfl ?_
  refine oc (y := mt_361) (pc := 33) (ok_imul dX7_keeps_33) 34 rfl ?_
  refine oc (y := mt_361) (pc := 34) (ok_iload_n dX7_keeps_34) 35 rfl ?_
  refine oc (y := mt_361) (pc := 35) (ok_iadd dX7_keeps_35) 36 rfl ?_
  refine oc (y := mt_361) (pc := 36) (ok_aload_n dX7_keeps_36) 37 rfl ?_
  refine oc (y := mt_361) (pc := 37) (ok_getfield dX7_keeps_37 (fg (own := "GardenChessModel") (idx := 154) (g := 9) (k := 62) (r := (RX7, TX7, 122)) rfl ⟨⟨by decide, by decide⟩, by decide⟩ (Or.inl q1874) (Or.inl rfl) rfl (fg_nil))) 40 rfl ?_
  refine oc (y := mt_361) (pc := 40) (ok_iload_n dX7_keeps_40) 41 rfl ?_
  refine oc (y := mt_361) (pc := 41) (ok_iaload dX7_keeps_41) 42 rfl ?_
  refine oc (y := mt_361) (pc := 42) (ok_iastore dX7_keeps_42) 43 rfl ?_
  refine oc (y := mt_361) (pc := 43) (ok_iinc dX7_keeps_43 (by decide)) 46 rfl ?_
  exact oc_goto dX7_keeps_46 ⟨by decide, by decide⟩
theorem o_361_49 : okL gmt mt_361 49 b_361_49 := by
  refine oc (y := mt_361) (pc := 49) (ok_aload_n dX7_keeps_49) 50 rfl ?_
  refine oc (y := mt_361) (pc := 50) (ok_getfield dX7_keeps_50 (fg (own := "GardenChessModel") (idx := 427) (g := 9) (k := 84) (r := (RX7, TX7, 122)) rfl ⟨⟨by decide, by decide⟩, by decide⟩ (Or.inl q1896) (Or.inl rfl) rfl (fg_nil))) 53 rfl ?_
  refine oc (y := mt_361) (pc := 53) (ok_bipush dX7_keeps_53 (by decide) ⟨by decide, by decide⟩) 55 rfl ?_
  refine oc_icmp dX7_keeps_55 ⟨by decide, by decide⟩ 58 rfl ?_
  refine oc (y := mt_361) (pc := 58) (ok_aload_n dX7_keeps_58) 59 rfl ?_
  refine oc (y := mt_361) (pc := 59) (ok_dup dX7_keeps_59) 60 rfl ?_
  refine oc (y := mt_361) (pc := 60) (ok_getfield dX7_keeps_60 (fg (own := "GardenChessModel") (idx := 427) (g := 9) (k := 84) (r := (RX7, TX7, 122)) rfl ⟨⟨by decide, by decide⟩, by decide⟩ (Or.inl q1896) (Or.inl rfl) rfl (fg_nil))) 63 rfl ?_
  refine oc (y := mt_361) (pc := 63) (ok_iconst dX7_keeps_63 rfl ⟨by decide, by decide⟩) 64 rfl ?_
  refine oc (y := mt_361) (pc := 64) (ok_iadd dX7_keeps_64) 65 rfl ?_
  refine oc (y := mt_361) (pc := 65) (ok_putfield dX7_keeps_65 (fp (own := "GardenChessModel") (idx := 427) (g := 9) (k := 84) (r := (RX7, TX7, 122)) rfl ⟨⟨by decide, by decide⟩, by decide⟩ (Or.inl q1896) (Or.inl rfl) rfl (Or.inl rfl) (fp_nil))) 68 rfl ?_
  exact oc_fall rfl
theorem o_361_68 : okL gmt mt_361 68 b_361_68 := by
  exact oc_ret dX7_keeps_68 rfl
theorem ok_361 : ∀ q ∈ pr_361, okL gmt mt_361 q.1 q.2 := pk_c o_361_0 (pk_c o_361_15 (pk_c o_361_49 (pk_c o_361_68 (pk_n))))
theorem o_362_0 : okL gmt mt_362 0 b_362_0 := by
  refine oc (y := mt_362) (pc := 0) (ok_aload_n dX7_tend_0) 1 rfl ?_
  refine oc (y := mt_362) (pc := 1) (ok_iload_n dX7_tend_1) 2 rfl ?_
  refine oc_V (y := mt_362) (pc := 2) (vcons (y := mt_362) (pc := 2) (len := 3) (n := 2) (M := mt_305) (by decide) rfl (Or.inr rfl) rfl (ck_V dX7_tend_2 ⟨by decide, by decide, by decide, by decide +kernel⟩ q2461 q2463 qs111 q177 q2464) vnil) (hok0 rfl) (by decide) 5 rfl ?_
  refine oc_if dX7_tend_5 ⟨by decide, by decide⟩ 8 rfl ?_
  refine oc (y := mt_362) (pc := 8) (ok_iload_n dX7_tend_8) 9 rfl ?_
  refine oc (y := mt_362) (pc := 9) (ok_i2l dX7_tend_9) 10 rfl ?_
  refine oc (y := mt_362) (pc := 10) (ok_lconst dX7_tend_10 (by decide) ⟨by decide, by decide⟩) 11 rfl ?_
  refine oc (y := mt_362) (pc := 11) (ok_ldc2 dX7_tend_11 ⟨by decide, by decide⟩ (show Cond.constantLong _ _ (Int64.ofInt 99) ∈ lw_all from q2697)) 14 rfl ?_
  refine oc_S (y := mt_362) (pc := 14) (M := mt_246) rfl (ck_S dX7_tend_14 ⟨by decide, by decide, by decide, by decide +kernel⟩ q2225 q2226 q177 q2227) (hok0 rfl) (by decide) 17 rfl ?_
  refine oc_if dX7_tend_17 ⟨by decide, by decide⟩ 20 rfl ?_
  exact oc_fall rfl
theorem o_362_20 : okL gmt mt_362 20 b_362_20 := by
  refine oc (y := mt_362) (pc := 20) (ok_aload_n dX7_tend_20) 21 rfl ?_
  refine oc (y := mt_362) (pc := 21) (ok_iconst dX7_tend_21 rfl ⟨by decide, by decide⟩) 22 rfl ?_
  refine oc_V (y := mt_362) (pc := 22) (vcons (y := mt_362) (pc := 22) (len := 3) (n := 2) (M := mt_350) (by decide) rfl (Or.inr rfl) rfl (ck_V dX7_tend_22 ⟨by decide, by decide, by decide, by decide +kernel⟩ q2645 q2647 qs141 q177 q2648) vnil) (hok0 rfl) (by decide) 25 rfl ?_
  exact oc_iret dX7_tend_25 rfl
theorem o_362_26 : okL gmt mt_362 26 b_362_26 := by
  refine oc (y := mt_362) (pc := 26) (ok_aload_n dX7_tend_26) 27 rfl ?_
  refine oc_V (y := mt_362) (pc := 27) (vcons (y := mt_362) (pc := 27) (len := 3) (n := 1) (M := mt_361) (by decide) rfl (Or.inr rfl) rfl (ck_V dX7_tend_27 ⟨by decide, by decide, by decide, by decide +kernel⟩ q2689 q2691 qs148 q177 q2692) vnil) (hok0 rfl) (by decide) 30 rfl ?_
  refine oc (y := mt_362) (pc := 30) (ok_aload_n dX7_tend_30) 31 rfl ?_
  refine oc (y := mt_362) (pc := 31) (ok_getfield dX7_tend_31 (fg (own := "GardenChessModel") (idx := 154) (g := 9) (k := 62) (r := (RX7, TX7, 122)) rfl ⟨⟨by decide, by decide⟩, by decide⟩ (Or.inl q1874) (Or.inl rfl) rfl (fg_nil))) 34 rfl ?_
  refine oc (y := mt_362) (pc := 34) (ok_bipush dX7_tend_34 (by decide) ⟨by decide, by decide⟩) 36 rfl ?_
  refine oc (y := mt_362) (pc := 36) (ok_iload_n dX7_tend_36) 37 rfl ?_
  refine oc (y := mt_362) (pc := 37) (ok_iadd dX7_tend_37) 38 rfl ?_
  refine oc (y := mt_362) (pc := 38) (ok_iaload dX7_tend_38) 39 rfl ?_
  refine oc (y := mt_362) (pc := 39) (ok_iload_n dX7_tend_39) 40 rfl ?_
  refine oc (y := mt_362) (pc := 40) (ok_iadd dX7_tend_40) 41 rfl ?_
  refine oc (y := mt_362) (pc := 41) (ok_istore_n dX7_tend_41 (by decide)) 42 rfl ?_
  refine oc (y := mt_362) (pc := 42) (ok_aload_n dX7_tend_42) 43 rfl ?_
  refine oc (y := mt_362) (pc := 43) (ok_getfield dX7_tend_43 (fg (own := "GardenChessModel") (idx := 154) (g := 9) (k := 62) (r := (RX7, TX7, 122)) rfl ⟨⟨by decide, by decide⟩, by decide⟩ (Or.inl q1874) (Or.inl rfl) rfl (fg_nil))) 46 rfl ?_
  refine oc (y := mt_362) (pc := 46) (ok_bipush dX7_tend_46 (by decide) ⟨by decide, by decide⟩) 48 rfl ?_
  refine oc (y := mt_362) (pc := 48) (ok_iload_n dX7_tend_48) 49 rfl ?_
  refine oc (y := mt_362) (pc := 49) (ok_iadd dX7_tend_49) 50 rfl ?_
  refine oc (y := mt_362) (pc := 50) (ok_iload_n dX7_tend_50) 51 rfl ?_
  refine oc (y := mt_362) (pc := 51) (ok_sipush dX7_tend_51 (by decide) ⟨by decide, by decide⟩) 54 rfl ?_
  refine oc_icmp dX7_tend_54 ⟨by decide, by decide⟩ 57 rfl ?_
  refine oc (y := mt_362) (pc := 57) (ok_sipush dX7_tend_57 (by decide) ⟨by decide, by decide⟩) 60 rfl ?_
  exact oc_goto dX7_tend_60 ⟨by decide, by decide⟩
theorem o_362_63 : okL gmt mt_362 63 b_362_63 := by
  refine oc (y := mt_362) (pc := 63) (ok_iload_n dX7_tend_63) 64 rfl ?_
  exact oc_fall rfl
theorem o_362_64 : okL gmt mt_362 64 b_362_64 := by
  refine oc (y := mt_362) (pc := 64) (ok_iastore dX7_tend_64) 65 rfl ?_
  refine oc (y := mt_362) (pc := 65) (ok_aload_n dX7_tend_65) 66 rfl ?_
  refine oc (y := mt_362) (pc := 66) (ok_getfield dX7_tend_66 (fg (own := "GardenChessModel") (idx := 154) (g := 9) (k := 62) (r := (RX7, TX7, 122)) rfl ⟨⟨by decide, by decide⟩, by decide⟩ (Or.inl q1874) (Or.inl rfl) rfl (fg_nil))) 69 rfl ?_
  refine oc (y := mt_362) (pc := 69) (ok_bipush dX7_tend_69 (by decide) ⟨by decide, by decide⟩) 71 rfl ?_
  refine oc (y := mt_362) (pc := 71) (ok_iload_n dX7_tend_71) 72 rfl ?_
  refine oc (y := mt_362) (pc := 72) (ok_iadd dX7_tend_72) 73 rfl ?_
  refine oc (y := mt_362) (pc := 73) (ok_iaload dX7_tend_73) 74 rfl ?_
  exact oc_iret dX7_tend_74 rfl
theorem ok_362 : ∀ q ∈ pr_362, okL gmt mt_362 q.1 q.2 := pk_c o_362_0 (pk_c o_362_20 (pk_c o_362_26 (pk_c o_362_63 (pk_c o_362_64 (pk_n)))))
theorem o_363_0 : okL gmt mt_363 0 b_363_0 := by
  refine oc (y := mt_363) (pc := 0) (ok_aload_n dX7_days_0) 1 rfl ?_
  refine oc (y := mt_363) (pc := 1) (ok_iload_n dX7_days_1) 2 rfl ?_
  refine oc (y := mt_363) (pc := 2) (ok_iconst dX7_days_2 rfl ⟨by decide, by decide⟩) 3 rfl ?_
  refine oc (y := mt_363) (pc := 3) (ok_bipush dX7_days_3 (by decide) ⟨by decide, by decide⟩) 5 rfl ?_
  refine oc_V (y := mt_363) (pc := 5) (vcons (y := mt_363) (pc := 5) (len := 3) (n := 4) (M := mt_328) (by decide) rfl (Or.inr rfl) rfl (ck_V dX7_days_5 ⟨by decide, by decide, by decide, by decide +kernel⟩ q2555 q2557 qs126 q177 q2558) vnil) (hok0 rfl) (by decide) 8 rfl ?_
  refine oc_if dX7_days_8 ⟨by decide, by decide⟩ 11 rfl ?_
  refine oc (y := mt_363) (pc := 11) (ok_aload_n dX7_days_11) 12 rfl ?_
  refine oc (y := mt_363) (pc := 12) (ok_iconst dX7_days_12 rfl ⟨by decide, by decide⟩) 13 rfl ?_
  refine oc_V (y := mt_363) (pc := 13) (vcons (y := mt_363) (pc := 13) (len := 3) (n := 2) (M := mt_350) (by decide) rfl (Or.inr rfl) rfl (ck_V dX7_days_13 ⟨by decide, by decide, by decide, by decide +kernel⟩ q2645 q2647 qs141 q177 q2648) vnil) (hok0 rfl) (by decide) 16 rfl ?_
  exact oc_iret dX7_days_16 rfl
theorem o_363_17 : okL gmt mt_363 17 b_363_17 := by
  refine oc (y := mt_363) (pc := 17) (ok_aload_n dX7_days_17) 18 rfl ?_
  refine oc_V (y := mt_363) (pc := 18) (vcons (y := mt_363) (pc := 18) (len := 3) (n := 1) (M := mt_361) (by decide) rfl (Or.inr rfl) rfl (ck_V dX7_days_18 ⟨by decide, by decide, by decide, by decide +kernel⟩ q2689 q2691 qs148 q177 q2692) vnil) (hok0 rfl) (by decide) 21 rfl ?_
  refine oc (y := mt_363) (pc := 21) (ok_iconst dX7_days_21 rfl ⟨by decide, by decide⟩) 22 rfl ?_
  refine oc (y := mt_363) (pc := 22) (ok_istore_n dX7_days_22 (by decide)) 23 rfl ?_
  refine oc (y := mt_363) (pc := 23) (ok_iconst dX7_days_23 rfl ⟨by decide, by decide⟩) 24 rfl ?_
  refine oc (y := mt_363) (pc := 24) (ok_istore_n dX7_days_24 (by decide)) 25 rfl ?_
  exact oc_fall rfl
theorem o_363_25 : okL gmt mt_363 25 b_363_25 := by
  refine oc (y := mt_363) (pc := 25) (ok_iload_n dX7_days_25) 26 rfl ?_
  refine oc (y := mt_363) (pc := 26) (ok_iload_n dX7_days_26) 27 rfl ?_
  refine oc_icmp dX7_days_27 ⟨by decide, by decide⟩ 30 rfl ?_
  refine oc (y := mt_363) (pc := 30) (ok_aload_n dX7_days_30) 31 rfl ?_
  refine oc_V (y := mt_363) (pc := 31) (vcons (y := mt_363) (pc := 31) (len := 3) (n := 1) (M := mt_331) (by decide) rfl (Or.inr rfl) rfl (ck_V dX7_days_31 ⟨by decide, by decide, by decide, by decide +kernel⟩ q2567 q2569 qs129 q177 q2570) vnil) (hok0 rfl) (by decide) 34 rfl ?_
  refine oc (y := mt_363) (pc := 34) (ok_aload_n dX7_days_34) 35 rfl ?_
  refine oc (y := mt_363) (pc := 35) (ok_getfield dX7_days_35 (fg (own := "GardenChessModel") (idx := 515) (g := 9) (k := 68) (r := (RX7, TX7, 122)) rfl ⟨⟨by decide, by decide⟩, by decide⟩ (Or.inl q1880) (Or.inl rfl) rfl (fg_nil))) 38 rfl ?_
  refine oc (y := mt_363) (pc := 38) (ok_iconst dX7_days_38 rfl ⟨by decide, by decide⟩) 39 rfl ?_
  refine oc_icmp dX7_days_39 ⟨by decide, by decide⟩ 42 rfl ?_
  refine oc (y := mt_363) (pc := 42) (ok_iinc dX7_days_42 (by decide)) 45 rfl ?_
  exact oc_fall rfl
theorem o_363_45 : okL gmt mt_363 45 b_363_45 := by
  refine oc (y := mt_363) (pc := 45) (ok_aload_n dX7_days_45) 46 rfl ?_
  refine oc_V (y := mt_363) (pc := 46) (vcons (y := mt_363) (pc := 46) (len := 3) (n := 1) (M := mt_332) (by decide) rfl (Or.inr rfl) rfl (ck_V dX7_days_46 ⟨by decide, by decide, by decide, by decide +kernel⟩ q2571 q2573 qs130 q177 q2574) vnil) (hok0 rfl) (by decide) 49 rfl ?_
  refine oc (y := mt_363) (pc := 49) (ok_iinc dX7_days_49 (by decide)) 52 rfl ?_
  exact oc_goto dX7_days_52 ⟨by decide, by decide⟩
theorem o_363_55 : okL gmt mt_363 55 b_363_55 := by
  refine oc (y := mt_363) (pc := 55) (ok_iload_n dX7_days_55) 56 rfl ?_
  exact oc_iret dX7_days_56 rfl
theorem ok_363 : ∀ q ∈ pr_363, okL gmt mt_363 q.1 q.2 := pk_c o_363_0 (pk_c o_363_17 (pk_c o_363_25 (pk_c o_363_45 (pk_c o_363_55 (pk_n)))))
theorem o_364_0 : okL gmt mt_364 0 b_364_0 := by
  refine oc (y := mt_364) (pc := 0) (ok_iload_n dX7_seed_0) 1 rfl ?_
  refine oc_if dX7_seed_1 ⟨by decide, by decide⟩ 4 rfl ?_
  refine oc (y := mt_364) (pc := 4) (ok_aload_n dX7_seed_4) 5 rfl ?_
  refine oc (y := mt_364) (pc := 5) (ok_getfield dX7_seed_5 (fg (own := "GardenChessModel") (idx := 17) (g := 9) (k := 9) (r := (RX7, TX7, 122)) rfl ⟨⟨by decide, by decide⟩, by decide⟩ (Or.inl q1821) (Or.inl rfl) rfl (fg_nil))) 8 rfl ?_
  refine oc (y := mt_364) (pc := 8) (ok_iconst dX7_seed_8 rfl ⟨by decide, by decide⟩) 9 rfl ?_
  refine oc (y := mt_364) (pc := 9) (ok_dup2 dX7_seed_9) 10 rfl ?_
  refine oc (y := mt_364) (pc := 10) (ok_iaload dX7_seed_10) 11 rfl ?_
  refine oc (y := mt_364) (pc := 11) (ok_iconst dX7_seed_11 rfl ⟨by decide, by decide⟩) 12 rfl ?_
  refine oc (y := mt_364) (pc := 12) (ok_iadd dX7_seed_12) 13 rfl ?_
  refine oc (y := mt_364) (pc := 13) (ok_iastore dX7_seed_13) 14 rfl ?_
  refine oc (y := mt_364) (pc := 14) (ok_iconst dX7_seed_14 rfl ⟨by decide, by decide⟩) 15 rfl ?_
  exact oc_zret dX7_seed_15 rfl
theorem o_364_16 : okL gmt mt_364 16 b_364_16 := by
  refine oc (y := mt_364) (pc := 16) (ok_aload_n dX7_seed_16) 17 rfl ?_
  refine oc (y := mt_364) (pc := 17) (ok_iload_n dX7_seed_17) 18 rfl ?_
  refine oc (y := mt_364) (pc := 18) (ok_i2l dX7_seed_18) 19 rfl ?_
  refine oc (y := mt_364) (pc := 19) (ok_putfield dX7_seed_19 (fp (own := "GardenChessModel") (idx := 190) (g := 9) (k := 86) (r := (RX7, TX7, 122)) rfl ⟨⟨by decide, by decide⟩, by decide⟩ (Or.inl q1898) (Or.inl rfl) rfl (Or.inl rfl) (fp_nil))) 22 rfl ?_
  refine oc (y := mt_364) (pc := 22) (ok_iconst dX7_seed_22 rfl ⟨by decide, by decide⟩) 23 rfl ?_
  exact oc_zret dX7_seed_23 rfl
theorem ok_364 : ∀ q ∈ pr_364, okL gmt mt_364 q.1 q.2 := pk_c o_364_0 (pk_c o_364_16 (pk_n))
theorem o_365_0 : okL gmt mt_365 0 b_365_0 := by
  refine oc (y := mt_365) (pc := 0) (ok_aload_n dX7_chance_0) 1 rfl ?_
  refine oc (y := mt_365) (pc := 1) (ok_iload_n dX7_chance_1) 2 rfl ?_
  refine oc (y := mt_365) (pc := 2) (ok_iconst dX7_chance_2 rfl ⟨by decide, by decide⟩) 3 rfl ?_
  refine oc (y := mt_365) (pc := 3) (ok_bipush dX7_chance_3 (by decide) ⟨by decide, by decide⟩) 5 rfl ?_
  refine oc_V (y := mt_365) (pc := 5) (vcons (y := mt_365) (pc := 5) (len := 3) (n := 4) (M := mt_328) (by decide) rfl (Or.inr rfl) rfl (ck_V dX7_chance_5 ⟨by decide, by decide, by decide, by decide +kernel⟩ q2555 q2557 qs126 q177 q2558) vnil) (hok0 rfl) (by decide) 8 rfl ?_
  refine oc_if dX7_chance_8 ⟨by decide, by decide⟩ 11 rfl ?_
  refine oc (y := mt_365) (pc := 11) (ok_aload_n dX7_chance_11) 12 rfl ?_
  refine oc (y := mt_365) (pc := 12) (ok_iconst dX7_chance_12 rfl ⟨by decide, by decide⟩) 13 rfl ?_
  refine oc_V (y := mt_365) (pc := 13) (vcons (y := mt_365) (pc := 13) (len := 3) (n := 2) (M := mt_350) (by decide) rfl (Or.inr rfl) rfl (ck_V dX7_chance_13 ⟨by decide, by decide, by decide, by decide +kernel⟩ q2645 q2647 qs141 q177 q2648) vnil) (hok0 rfl) (by decide) 16 rfl ?_
  exact oc_iret dX7_chance_16 rfl
theorem o_365_17 : okL gmt mt_365 17 b_365_17 := by
  refine oc (y := mt_365) (pc := 17) (ok_aload_n dX7_chance_17) 18 rfl ?_
  refine oc_V (y := mt_365) (pc := 18) (vcons (y := mt_365) (pc := 18) (len := 3) (n := 1) (M := mt_361) (by decide) rfl (Or.inr rfl) rfl (ck_V dX7_chance_18 ⟨by decide, by decide, by decide, by decide +kernel⟩ q2689 q2691 qs148 q177 q2692) vnil) (hok0 rfl) (by decide) 21 rfl ?_
  refine oc (y := mt_365) (pc := 21) (ok_iconst dX7_chance_21 rfl ⟨by decide, by decide⟩) 22 rfl ?_
  refine oc (y := mt_365) (pc := 22) (ok_istore_n dX7_chance_22 (by decide)) 23 rfl ?_
  refine oc (y := mt_365) (pc := 23) (ok_iconst dX7_chance_23 rfl ⟨by decide, by decide⟩) 24 rfl ?_
  refine oc (y := mt_365) (pc := 24) (ok_istore_n dX7_chance_24 (by decide)) 25 rfl ?_
  exact oc_fall rfl
theorem o_365_25 : okL gmt mt_365 25 b_365_25 := by
  refine oc (y := mt_365) (pc := 25) (ok_iload_n dX7_chance_25) 26 rfl ?_
  refine oc (y := mt_365) (pc := 26) (ok_iload_n dX7_chance_26) 27 rfl ?_
  refine oc_icmp dX7_chance_27 ⟨by decide, by decide⟩ 30 rfl ?_
  refine oc (y := mt_365) (pc := 30) (ok_aload_n dX7_chance_30) 31 rfl ?_
  refine oc_V (y := mt_365) (pc := 31) (vcons (y := mt_365) (pc := 31) (len := 3) (n := 1) (M := mt_279) (by decide) rfl (Or.inr rfl) rfl (ck_V dX7_chance_31 ⟨by decide, by decide, by decide, by decide +kernel⟩ q2357 q2359 qs92 q177 q2360) vnil) (hok0 rfl) (by decide) 34 rfl ?_
  refine oc_if dX7_chance_34 ⟨by decide, by decide⟩ 37 rfl ?_
  refine oc (y := mt_365) (pc := 37) (ok_aload_n dX7_chance_37) 38 rfl ?_
  refine oc (y := mt_365) (pc := 38) (ok_bipush dX7_chance_38 (by decide) ⟨by decide, by decide⟩) 40 rfl ?_
  refine oc_V (y := mt_365) (pc := 40) (vcons (y := mt_365) (pc := 40) (len := 3) (n := 2) (M := mt_366) (by decide) rfl (Or.inr rfl) rfl (ck_V dX7_chance_40 ⟨by decide, by decide, by decide, by decide +kernel⟩ q2710 q2712 qs149 q177 q2713) vnil) (hok0 rfl) (by decide) 43 rfl ?_
  refine oc (y := mt_365) (pc := 43) (ok_aload_n dX7_chance_43) 44 rfl ?_
  refine oc (y := mt_365) (pc := 44) (ok_getfield dX7_chance_44 (fg (own := "GardenChessModel") (idx := 142) (g := 9) (k := 52) (r := (RX7, TX7, 122)) rfl ⟨⟨by decide, by decide⟩, by decide⟩ (Or.inl q1864) (Or.inl rfl) rfl (fg_nil))) 47 rfl ?_
  refine oc (y := mt_365) (pc := 47) (ok_iconst dX7_chance_47 rfl ⟨by decide, by decide⟩) 48 rfl ?_
  refine oc (y := mt_365) (pc := 48) (ok_iaload dX7_chance_48) 49 rfl ?_
  refine oc_icmp dX7_chance_49 ⟨by decide, by decide⟩ 52 rfl ?_
  refine oc (y := mt_365) (pc := 52) (ok_iconst dX7_chance_52 rfl ⟨by decide, by decide⟩) 53 rfl ?_
  exact oc_goto dX7_chance_53 ⟨by decide, by decide⟩
theorem o_365_56 : okL gmt mt_365 56 b_365_56 := by
  refine oc (y := mt_365) (pc := 56) (ok_iconst dX7_chance_56 rfl ⟨by decide, by decide⟩) 57 rfl ?_
  exact oc_fall rfl
theorem o_365_57 : okL gmt mt_365 57 b_365_57 := by
  refine oc (y := mt_365) (pc := 57) (ok_istore dX7_chance_57 (by decide)) 59 rfl ?_
  refine oc (y := mt_365) (pc := 59) (ok_iload dX7_chance_59) 61 rfl ?_
  refine oc_if dX7_chance_61 ⟨by decide, by decide⟩ 64 rfl ?_
  refine oc (y := mt_365) (pc := 64) (ok_aload_n dX7_chance_64) 65 rfl ?_
  refine oc (y := mt_365) (pc := 65) (ok_aload_n dX7_chance_65) 66 rfl ?_
  refine oc (y := mt_365) (pc := 66) (ok_aload_n dX7_chance_66) 67 rfl ?_
  refine oc_V (y := mt_365) (pc := 67) (vcons (y := mt_365) (pc := 67) (len := 3) (n := 1) (M := mt_345) (by decide) rfl (Or.inr rfl) rfl (ck_V dX7_chance_67 ⟨by decide, by decide, by decide, by decide +kernel⟩ q2623 q2625 qs139 q177 q2626) vnil) (hok0 rfl) (by decide) 70 rfl ?_
  refine oc_V (y := mt_365) (pc := 70) (vcons (y := mt_365) (pc := 70) (len := 3) (n := 2) (M := mt_366) (by decide) rfl (Or.inr rfl) rfl (ck_V dX7_chance_70 ⟨by decide, by decide, by decide, by decide +kernel⟩ q2710 q2712 qs149 q177 q2713) vnil) (hok0 rfl) (by decide) 73 rfl ?_
  refine oc_V (y := mt_365) (pc := 73) (vcons (y := mt_365) (pc := 73) (len := 3) (n := 2) (M := mt_308) (by decide) rfl (Or.inr rfl) rfl (ck_V dX7_chance_73 ⟨by decide, by decide, by decide, by decide +kernel⟩ q2474 q2476 qs112 q177 q2477) vnil) (hok0 rfl) (by decide) 76 rfl ?_
  refine oc (y := mt_365) (pc := 76) (ok_iinc dX7_chance_76 (by decide)) 79 rfl ?_
  exact oc_goto dX7_chance_79 ⟨by decide, by decide⟩
theorem o_365_82 : okL gmt mt_365 82 b_365_82 := by
  refine oc (y := mt_365) (pc := 82) (ok_aload_n dX7_chance_82) 83 rfl ?_
  refine oc_V (y := mt_365) (pc := 83) (vcons (y := mt_365) (pc := 83) (len := 3) (n := 1) (M := mt_331) (by decide) rfl (Or.inr rfl) rfl (ck_V dX7_chance_83 ⟨by decide, by decide, by decide, by decide +kernel⟩ q2567 q2569 qs129 q177 q2570) vnil) (hok0 rfl) (by decide) 86 rfl ?_
  exact oc_fall rfl
theorem o_365_86 : okL gmt mt_365 86 b_365_86 := by
  refine oc (y := mt_365) (pc := 86) (ok_aload_n dX7_chance_86) 87 rfl ?_
  refine oc_V (y := mt_365) (pc := 87) (vcons (y := mt_365) (pc := 87) (len := 3) (n := 1) (M := mt_332) (by decide) rfl (Or.inr rfl) rfl (ck_V dX7_chance_87 ⟨by decide, by decide, by decide, by decide +kernel⟩ q2571 q2573 qs130 q177 q2574) vnil) (hok0 rfl) (by decide) 90 rfl ?_
  refine oc (y := mt_365) (pc := 90) (ok_iinc dX7_chance_90 (by decide)) 93 rfl ?_
  exact oc_goto dX7_chance_93 ⟨by decide, by decide⟩
theorem o_365_96 : okL gmt mt_365 96 b_365_96 := by
  refine oc (y := mt_365) (pc := 96) (ok_iload_n dX7_chance_96) 97 rfl ?_
  exact oc_iret dX7_chance_97 rfl
theorem ok_365 : ∀ q ∈ pr_365, okL gmt mt_365 q.1 q.2 := pk_c o_365_0 (pk_c o_365_17 (pk_c o_365_25 (pk_c o_365_56 (pk_c o_365_57 (pk_c o_365_82 (pk_c o_365_86 (pk_c o_365_96 (pk_n))))))))
theorem o_366_0 : okL gmt mt_366 0 b_366_0 := by
  refine oc (y := mt_366) (pc := 0) (ok_aload_n dX7_drawOf_0) 1 rfl ?_
  refine oc (y := mt_366) (pc := 1) (ok_ldc2 dX7_drawOf_1 ⟨by decide, by decide⟩ (show Cond.constantLong _ _ (Int64.ofInt 1103515245) ∈ lw_all from q2714)) 4 rfl ?_
  refine oc (y := mt_366) (pc := 4) (ok_aload_n dX7_drawOf_4) 5 rfl ?_
  refine oc (y := mt_366) (pc := 5) (ok_getfield dX7_drawOf_5 (fg (own := "GardenChessModel") (idx := 190) (g := 9) (k := 86) (r := (RX7, TX7, 122)) rfl ⟨⟨by decide, by decide⟩, by decide⟩ (Or.inl q1898) (Or.inl rfl) rfl (fg_nil))) 8 rfl ?_
  refine oc (y := mt_366) (pc := 8) (ok_lmul dX7_drawOf_8) 9 rfl ?_
  refine oc (y := mt_366) (pc := 9) (ok_ldc2 dX7_drawOf_9 ⟨by decide, by decide⟩ (show Cond.constantLong _ _ (Int64.ofInt 12345) ∈ lw_all from q2715)) 12 rfl ?_
  refine oc (y := mt_366) (pc := 12) (ok_ladd dX7_drawOf_12) 13 rfl ?_
  refine oc (y := mt_366) (pc := 13) (ok_ldc2 dX7_drawOf_13 ⟨by decide, by decide⟩ (show Cond.constantLong _ _ (Int64.ofInt 2147483648) ∈ lw_all from q2716)) 16 rfl ?_
  refine oc (y := mt_366) (pc := 16) (ok_lrem dX7_drawOf_16) 17 rfl ?_
  refine oc (y := mt_366) (pc := 17) (ok_putfield dX7_drawOf_17 (fp (own := "GardenChessModel") (idx := 190) (g := 9) (k := 86) (r := (RX7, TX7, 122)) rfl ⟨⟨by decide, by decide⟩, by decide⟩ (Or.inl q1898) (Or.inl rfl) rfl (Or.inl rfl) (fp_nil))) 20 rfl ?_
  refine oc (y := mt_366) (pc := 20) (ok_aload_n dX7_drawOf_20) 21 rfl ?_
  refine oc (y := mt_366) (pc := 21) (ok_getfield dX7_drawOf_21 (fg (own := "GardenChessModel") (idx := 190) (g := 9) (k := 86) (r := (RX7, TX7, 122)) rfl ⟨⟨by decide, by decide⟩, by decide⟩ (Or.inl q1898) (Or.inl rfl) rfl (fg_nil))) 24 rfl ?_
  refine oc (y := mt_366) (pc := 24) (ok_ldc2 dX7_drawOf_24 ⟨by decide, by decide⟩ (show Cond.constantLong _ _ (Int64.ofInt 64) ∈ lw_all from q2717)) 27 rfl ?_
  refine oc (y := mt_366) (pc := 27) (ok_ldiv dX7_drawOf_27) 28 rfl ?_
  refine oc (y := mt_366) (pc := 28) (ok_iload_n dX7_drawOf_28) 29 rfl ?_
  refine oc (y := mt_366) (pc := 29) (ok_i2l dX7_drawOf_29) 30 rfl ?_
  refine oc (y := mt_366) (pc := 30) (ok_lrem dX7_drawOf_30) 31 rfl ?_
  refine oc (y := mt_366) (pc := 31) (ok_l2i dX7_drawOf_31) 32 rfl ?_
  exact oc_iret dX7_drawOf_32 rfl
theorem ok_366 : ∀ q ∈ pr_366, okL gmt mt_366 q.1 q.2 := pk_c o_366_0 (pk_n)
theorem o_367_0 : okL gmt mt_367 0 b_367_0 := by
  refine oc (y := mt_367) (pc := 0) (ok_aload_n dX7_ask_0) 1 rfl ?_
  refine oc (y := mt_367) (pc := 1) (ok_getfield dX7_ask_1 (fg (own := "GardenChessModel") (idx := 424) (g := 9) (k := 58) (r := (RX7, TX7, 122)) rfl ⟨⟨by decide, by decide⟩, by decide⟩ (Or.inl q1870) (Or.inl rfl) rfl (fg_nil))) 4 rfl ?_
  refine oc_if dX7_ask_4 ⟨by decide, by decide⟩ 7 rfl ?_
  refine oc (y := mt_367) (pc := 7) (ok_aload_n dX7_ask_7) 8 rfl ?_
  refine oc (y := mt_367) (pc := 8) (ok_iconst dX7_ask_8 rfl ⟨by decide, by decide⟩) 9 rfl ?_
  refine oc (y := mt_367) (pc := 9) (ok_putfield dX7_ask_9 (fp (own := "GardenChessModel") (idx := 275) (g := 9) (k := 1) (r := (RX7, TX7, 122)) rfl ⟨⟨by decide, by decide⟩, by decide⟩ (Or.inl q1813) (Or.inl rfl) rfl (Or.inl rfl) (fp_nil))) 12 rfl ?_
  refine oc (y := mt_367) (pc := 12) (ok_ldc2 dX7_ask_12 ⟨by decide, by decide⟩ (show Cond.constantLong _ _ (Int64.ofInt (-1000000000000000)) ∈ lw_all from q2506)) 15 rfl ?_
  exact oc_lret dX7_ask_15 rfl
theorem o_367_16 : okL gmt mt_367 16 b_367_16 := by
  refine oc (y := mt_367) (pc := 16) (ok_aload_n dX7_ask_16) 17 rfl ?_
  refine oc (y := mt_367) (pc := 17) (ok_aload_n dX7_ask_17) 18 rfl ?_
  refine oc (y := mt_367) (pc := 18) (ok_getfield dX7_ask_18 (fg (own := "GardenChessModel") (idx := 275) (g := 9) (k := 1) (r := (RX7, TX7, 122)) rfl ⟨⟨by decide, by decide⟩, by decide⟩ (Or.inl q1813) (Or.inl rfl) rfl (fg_nil))) 21 rfl ?_
  refine oc (y := mt_367) (pc := 21) (ok_putfield dX7_ask_21 (fp (own := "GardenChessModel") (idx := 287) (g := 9) (k := 3) (r := (RX7, TX7, 122)) rfl ⟨⟨by decide, by decide⟩, by decide⟩ (Or.inl q1815) (Or.inl rfl) rfl (Or.inl rfl) (fp_nil))) 24 rfl ?_
  refine oc (y := mt_367) (pc := 24) (ok_aload_n dX7_ask_24) 25 rfl ?_
  refine oc (y := mt_367) (pc := 25) (ok_iconst dX7_ask_25 rfl ⟨by decide, by decide⟩) 26 rfl ?_
  refine oc (y := mt_367) (pc := 26) (ok_putfield dX7_ask_26 (fp (own := "GardenChessModel") (idx := 275) (g := 9) (k := 1) (r := (RX7, TX7, 122)) rfl ⟨⟨by decide, by decide⟩, by decide⟩ (Or.inl q1813) (Or.inl rfl) rfl (Or.inl rfl) (fp_nil))) 29 rfl ?_
  refine oc (y := mt_367) (pc := 29) (ok_aload_n dX7_ask_29) 30 rfl ?_
  refine oc (y := mt_367) (pc := 30) (ok_iconst dX7_ask_30 rfl ⟨by decide, by decide⟩) 31 rfl ?_
  refine oc (y := mt_367) (pc := 31) (ok_putfield dX7_ask_31 (fp (own := "GardenChessModel") (idx := 284) (g := 9) (k := 2) (r := (RX7, TX7, 122)) rfl ⟨⟨by decide, by decide⟩, by decide⟩ (Or.inl q1814) (Or.inl rfl) rfl (Or.inl rfl) (fp_nil))) 34 rfl ?_
  refine oc (y := mt_367) (pc := 34) (ok_aload_n dX7_ask_34) 35 rfl ?_
  refine oc (y := mt_367) (pc := 35) (ok_iconst dX7_ask_35 rfl ⟨by decide, by decide⟩) 36 rfl ?_
  refine oc (y := mt_367) (pc := 36) (ok_putfield dX7_ask_36 (fp (own := "GardenChessModel") (idx := 298) (g := 9) (k := 4) (r := (RX7, TX7, 122)) rfl ⟨⟨by decide, by decide⟩, by decide⟩ (Or.inl q1816) (Or.inl rfl) rfl (Or.inl rfl) (fp_nil))) 39 rfl ?_
  refine oc (y := mt_367) (pc := 39) (ok_aload_n dX7_ask_39) 40 rfl ?_
  refine oc (y := mt_367) (pc := 40) (ok_iconst dX7_ask_40 rfl ⟨by decide, by decide⟩) 41 rfl ?_
  refine oc (y := mt_367) (pc := 41) (ok_putfield dX7_ask_41 (fp (own := "GardenChessModel") (idx := 278) (g := 9) (k := 5) (r := (RX7, TX7, 122)) rfl ⟨⟨by decide, by decide⟩, by decide⟩ (Or.inl q1817) (Or.inl rfl) rfl (Or.inl rfl) (fp_nil))) 44 rfl ?_
  refine oc (y := mt_367) (pc := 44) (ok_aload_n dX7_ask_44) 45 rfl ?_
  refine oc (y := mt_367) (pc := 45) (ok_iconst dX7_ask_45 rfl ⟨by decide, by decide⟩) 46 rfl ?_
  refine oc (y := mt_367) (pc := 46) (ok_putfield dX7_ask_46 (fp (own := "GardenChessModel") (idx := 281) (g := 9) (k := 6) (r := (RX7, TX7, 122)) rfl ⟨⟨by decide, by decide⟩, by decide⟩ (Or.inl q1818) (Or.inl rfl) rfl (Or.inl rfl) (fp_nil))) 49 rfl ?_
  refine oc (y := mt_367) (pc := 49) (ok_aload_n dX7_ask_49) 50 rfl ?_
  refine oc (y := mt_367) (pc := 50) (ok_iconst dX7_ask_50 rfl ⟨by decide, by decide⟩) 51 rfl ?_
  refine oc (y := mt_367) (pc := 51) (ok_putfield dX7_ask_51 (fp (own := "GardenChessModel") (idx := 336) (g := 9) (k := 59) (r := (RX7, TX7, 122)) rfl ⟨⟨by decide, by decide⟩, by decide⟩ (Or.inl q1871) (Or.inl rfl) rfl (Or.inl rfl) (fp_nil))) 54 rfl ?_
  refine oc (y := mt_367) (pc := 54) (ok_aload_n dX7_ask_54) 55 rfl ?_
  refine oc (y := mt_367) (pc := 55) (ok_iconst dX7_ask_55 rfl ⟨by decide, by decide⟩) 56 rfl ?_
  refine oc (y := mt_367) (pc := 56) (ok_putfield dX7_ask_56 (fp (own := "GardenChessModel") (idx := 379) (g := 9) (k := 111) (r := (RX7, TX7, 122)) rfl ⟨⟨by decide, by decide⟩, by decide⟩ (Or.inl q1923) (Or.inl rfl) rfl (Or.inl rfl) (fp_nil))) 59 rfl ?_
  refine oc (y := mt_367) (pc := 59) (ok_aload_n dX7_ask_59) 60 rfl ?_
  refine oc (y := mt_367) (pc := 60) (ok_iconst dX7_ask_60 rfl ⟨by decide, by decide⟩) 61 rfl ?_
  refine oc (y := mt_367) (pc := 61) (ok_putfield dX7_ask_61 (fp (own := "GardenChessModel") (idx := 382) (g := 9) (k := 113) (r := (RX7, TX7, 122)) rfl ⟨⟨by decide, by decide⟩, by decide⟩ (Or.inl q1925) (Or.inl rfl) rfl (Or.inl rfl) (fp_nil))) 64 rfl ?_
  refine oc (y := mt_367) (pc := 64) (ok_aload_n dX7_ask_64) 65 rfl ?_
  refine oc (y := mt_367) (pc := 65) (ok_iconst dX7_ask_65 rfl ⟨by decide, by decide⟩) 66 rfl ?_
  refine oc (y := mt_367) (pc := 66) (ok_putfield dX7_ask_66 (fp (own := "GardenChessModel") (idx := 385) (g := 9) (k := 114) (r := (RX7, TX7, 122)) rfl ⟨⟨by decide, by decide⟩, by decide⟩ (Or.inl q1926) (Or.inl rfl) rfl (Or.inl rfl) (fp_nil))) 69 rfl ?_
  refine oc (y := mt_367) (pc := 69) (ok_aload_n dX7_ask_69) 70 rfl ?_
  refine oc (y := mt_367) (pc := 70) (ok_iconst dX7_ask_70 rfl ⟨by decide, by decide⟩) 71 rfl ?_
  refine oc (y := mt_367) (pc := 71) (ok_putfield dX7_ask_71 (fp (own := "GardenChessModel") (idx := 388) (g := 9) (k := 115) (r := (RX7, TX7, 122)) rfl ⟨⟨by decide, by decide⟩, by decide⟩ (Or.inl q1927) (Or.inl rfl) rfl (Or.inl rfl) (fp_nil))) 74 rfl ?_
  refine oc (y := mt_367) (pc := 74) (ok_aload_n dX7_ask_74) 75 rfl ?_
  refine oc_V (y := mt_367) (pc := 75) (vcons (y := mt_367) (pc := 75) (len := 3) (n := 1) (M := mt_368) (by decide) rfl (Or.inr rfl) rfl (ck_V dX7_ask_75 ⟨by decide, by decide, by decide, by decide +kernel⟩ q2722 q2724 qs150 q177 q2725) vnil) (hok0 rfl) (by decide) 78 rfl ?_
  refine oc (y := mt_367) (pc := 78) (ok_istore_n dX7_ask_78 (by decide)) 79 rfl ?_
  refine oc (y := mt_367) (pc := 79) (ok_aload_n dX7_ask_79) 80 rfl ?_
  refine oc (y := mt_367) (pc := 80) (ok_getfield dX7_ask_80 (fg (own := "GardenChessModel") (idx := 278) (g := 9) (k := 5) (r := (RX7, TX7, 122)) rfl ⟨⟨by decide, by decide⟩, by decide⟩ (Or.inl q1817) (Or.inl rfl) rfl (fg_nil))) 83 rfl ?_
  refine oc_if dX7_ask_83 ⟨by decide, by decide⟩ 86 rfl ?_
  refine oc (y := mt_367) (pc := 86) (ok_iload_n dX7_ask_86) 87 rfl ?_
  refine oc (y := mt_367) (pc := 87) (ok_iconst dX7_ask_87 rfl ⟨by decide, by decide⟩) 88 rfl ?_
  refine oc_icmp dX7_ask_88 ⟨by decide, by decide⟩ 91 rfl ?_
  refine oc (y := mt_367) (pc := 91) (ok_aload_n dX7_ask_91) 92 rfl ?_
  refine oc_V (y := mt_367) (pc := 92) (vcons (y := mt_367) (pc := 92) (len := 3) (n := 1) (M := mt_369) (by decide) rfl (Or.inr rfl) rfl (ck_V dX7_ask_92 ⟨by decide, by decide, by decide, by decide +kernel⟩ q2726 q2728 qs151 q177 q2729) vnil) (hok0 rfl) (by decide) 95 rfl ?_
  exact oc_goto dX7_ask_95 ⟨by decide, by decide⟩
theorem o_367_98 : okL gmt mt_367 98 b_367_98 := by
  refine oc (y := mt_367) (pc := 98) (ok_aload_n dX7_ask_98) 99 rfl ?_
  refine oc (y := mt_367) (pc := 99) (ok_getfield dX7_ask_99 (fg (own := "GardenChessModel") (idx := 278) (g := 9) (k := 5) (r := (RX7, TX7, 122)) rfl ⟨⟨by decide, by decide⟩, by decide⟩ (Or.inl q1817) (Or.inl rfl) rfl (fg_nil))) 102 rfl ?_
  refine oc_if dX7_ask_102 ⟨by decide, by decide⟩ 105 rfl ?_
  refine oc (y := mt_367) (pc := 105) (ok_aload_n dX7_ask_105) 106 rfl ?_
  refine oc_V (y := mt_367) (pc := 106) (vcons (y := mt_367) (pc := 106) (len := 3) (n := 1) (M := mt_261) (by decide) rfl (Or.inr rfl) rfl (ck_V dX7_ask_106 ⟨by decide, by decide, by decide, by decide +kernel⟩ q2286 q2288 qs77 q177 q2289) vnil) (hok0 rfl) (by decide) 109 rfl ?_
  exact oc_fall rfl
theorem o_367_109 : okL gmt mt_367 109 b_367_109 := by
  refine oc (y := mt_367) (pc := 109) (ok_aload_n dX7_ask_109) 110 rfl ?_
  refine oc (y := mt_367) (pc := 110) (ok_getfield dX7_ask_110 (fg (own := "GardenChessModel") (idx := 278) (g := 9) (k := 5) (r := (RX7, TX7, 122)) rfl ⟨⟨by decide, by decide⟩, by decide⟩ (Or.inl q1817) (Or.inl rfl) rfl (fg_nil))) 113 rfl ?_
  refine oc_if dX7_ask_113 ⟨by decide, by decide⟩ 116 rfl ?_
  refine oc (y := mt_367) (pc := 116) (ok_aload_n dX7_ask_116) 117 rfl ?_
  refine oc_V (y := mt_367) (pc := 117) (vcons (y := mt_367) (pc := 117) (len := 3) (n := 1) (M := mt_241) (by decide) rfl (Or.inr rfl) rfl (ck_V dX7_ask_117 ⟨by decide, by decide, by decide, by decide +kernel⟩ q2207 q2209 qs60 q177 q2210) vnil) (hok0 rfl) (by decide) 120 rfl ?_
  refine oc (y := mt_367) (pc := 120) (ok_iconst dX7_ask_120 rfl ⟨by decide, by decide⟩) 121 rfl ?_
  refine oc_icmp dX7_ask_121 ⟨by decide, by decide⟩ 124 rfl ?_
  refine oc (y := mt_367) (pc := 124) (ok_aload_n dX7_ask_124) 125 rfl ?_
  refine oc (y := mt_367) (pc := 125) (ok_iconst dX7_ask_125 rfl ⟨by decide, by decide⟩) 126 rfl ?_
  refine oc (y := mt_367) (pc := 126) (ok_aload_n dX7_ask_126) 127 rfl ?_
  refine oc (y := mt_367) (pc := 127) (ok_getfield dX7_ask_127 (fg (own := "GardenChessModel") (idx := 284) (g := 9) (k := 2) (r := (RX7, TX7, 122)) rfl ⟨⟨by decide, by decide⟩, by decide⟩ (Or.inl q1814) (Or.inl rfl) rfl (fg_nil))) 130 rfl ?_
  refine oc_V (y := mt_367) (pc := 130) (vcons (y := mt_367) (pc := 130) (len := 3) (n := 3) (M := mt_243) (by decide) rfl (Or.inr rfl) rfl (ck_V dX7_ask_130 ⟨by decide, by decide, by decide, by decide +kernel⟩ q2214 q2216 qs61 q177 q2217) vnil) (hok0 rfl) (by decide) 133 rfl ?_
  exact oc_fall rfl
theorem o_367_133 : okL gmt mt_367 133 b_367_133 := by
  refine oc (y := mt_367) (pc := 133) (ok_aload_n dX7_ask_133) 134 rfl ?_
  refine oc (y := mt_367) (pc := 134) (ok_aload_n dX7_ask_134) 135 rfl ?_
  refine oc (y := mt_367) (pc := 135) (ok_getfield dX7_ask_135 (fg (own := "GardenChessModel") (idx := 278) (g := 9) (k := 5) (r := (RX7, TX7, 122)) rfl ⟨⟨by decide, by decide⟩, by decide⟩ (Or.inl q1817) (Or.inl rfl) rfl (fg_nil))) 138 rfl ?_
  refine oc (y := mt_367) (pc := 138) (ok_putfield dX7_ask_138 (fp (own := "GardenChessModel") (idx := 418) (g := 9) (k := 7) (r := (RX7, TX7, 122)) rfl ⟨⟨by decide, by decide⟩, by decide⟩ (Or.inl q1819) (Or.inl rfl) rfl (Or.inl rfl) (fp_nil))) 141 rfl ?_
  refine oc (y := mt_367) (pc := 141) (ok_aload_n dX7_ask_141) 142 rfl ?_
  refine oc (y := mt_367) (pc := 142) (ok_aload_n dX7_ask_142) 143 rfl ?_
  refine oc (y := mt_367) (pc := 143) (ok_getfield dX7_ask_143 (fg (own := "GardenChessModel") (idx := 281) (g := 9) (k := 6) (r := (RX7, TX7, 122)) rfl ⟨⟨by decide, by decide⟩, by decide⟩ (Or.inl q1818) (Or.inl rfl) rfl (fg_nil))) 146 rfl ?_
  refine oc (y := mt_367) (pc := 146) (ok_putfield dX7_ask_146 (fp (own := "GardenChessModel") (idx := 13) (g := 9) (k := 8) (r := (RX7, TX7, 122)) rfl ⟨⟨by decide, by decide⟩, by decide⟩ (Or.inl q1820) (Or.inl rfl) rfl (Or.inl rfl) (fp_nil))) 149 rfl ?_
  refine oc (y := mt_367) (pc := 149) (ok_aload_n dX7_ask_149) 150 rfl ?_
  refine oc (y := mt_367) (pc := 150) (ok_getfield dX7_ask_150 (fg (own := "GardenChessModel") (idx := 278) (g := 9) (k := 5) (r := (RX7, TX7, 122)) rfl ⟨⟨by decide, by decide⟩, by decide⟩ (Or.inl q1817) (Or.inl rfl) rfl (fg_nil))) 153 rfl ?_
  refine oc_if dX7_ask_153 ⟨by decide, by decide⟩ 156 rfl ?_
  refine oc (y := mt_367) (pc := 156) (ok_ldc2 dX7_ask_156 ⟨by decide, by decide⟩ (show Cond.constantLong _ _ (Int64.ofInt (-1000000000000000)) ∈ lw_all from q2506)) 159 rfl ?_
  exact oc_lret dX7_ask_159 rfl
theorem o_367_160 : okL gmt mt_367 160 b_367_160 := by
  refine oc (y := mt_367) (pc := 160) (ok_aload_n dX7_ask_160) 161 rfl ?_
  refine oc (y := mt_367) (pc := 161) (ok_iload_n dX7_ask_161) 162 rfl ?_
  refine oc (y := mt_367) (pc := 162) (ok_iconst dX7_ask_162 rfl ⟨by decide, by decide⟩) 163 rfl ?_
  refine oc_icmp dX7_ask_163 ⟨by decide, by decide⟩ 166 rfl ?_
  refine oc (y := mt_367) (pc := 166) (ok_ldc2 dX7_ask_166 ⟨by decide, by decide⟩ (show Cond.constantLong _ _ (Int64.ofInt (-1)) ∈ lw_all from q2746)) 169 rfl ?_
  exact oc_goto dX7_ask_169 ⟨by decide, by decide⟩
theorem o_367_172 : okL gmt mt_367 172 b_367_172 := by
  refine oc (y := mt_367) (pc := 172) (ok_lconst dX7_ask_172 (by decide) ⟨by decide, by decide⟩) 173 rfl ?_
  exact oc_fall rfl
theorem o_367_173 : okL gmt mt_367 173 b_367_173 := by
  refine oc (y := mt_367) (pc := 173) (ok_putfield dX7_ask_173 (fp (own := "GardenChessModel") (idx := 749) (g := 9) (k := 118) (r := (RX7, TX7, 122)) rfl ⟨⟨by decide, by decide⟩, by decide⟩ (Or.inl q1930) (Or.inl rfl) rfl (Or.inl rfl) (fp_nil))) 176 rfl ?_
  refine oc (y := mt_367) (pc := 176) (ok_aload_n dX7_ask_176) 177 rfl ?_
  refine oc (y := mt_367) (pc := 177) (ok_iconst dX7_ask_177 rfl ⟨by decide, by decide⟩) 178 rfl ?_
  refine oc (y := mt_367) (pc := 178) (ok_putfield dX7_ask_178 (fp (own := "GardenChessModel") (idx := 754) (g := 9) (k := 119) (r := (RX7, TX7, 122)) rfl ⟨⟨by decide, by decide⟩, by decide⟩ (Or.inl q1931) (Or.inl rfl) rfl (Or.inl rfl) (fp_nil))) 181 rfl ?_
  refine oc (y := mt_367) (pc := 181) (ok_iconst dX7_ask_181 rfl ⟨by decide, by decide⟩) 182 rfl ?_
  refine oc (y := mt_367) (pc := 182) (ok_istore_n dX7_ask_182 (by decide)) 183 rfl ?_
  exact oc_fall rfl
theorem o_367_183 : okL gmt mt_367 183 b_367_183 := by
  refine oc (y := mt_367) (pc := 183) (ok_iload_n dX7_ask_183) 184 rfl ?_
  refine oc (y := mt_367) (pc := 184) (ok_aload_n dX7_ask_184) 185 rfl ?_
  refine oc_V (y := mt_367) (pc := 185) (vcons (y := mt_367) (pc := 185) (len := 3) (n := 1) (M := mt_281) (by decide) rfl (Or.inr rfl) rfl (ck_V dX7_ask_185 ⟨by decide, by decide, by decide, by decide +kernel⟩ q2365 q2367 qs94 q177 q2368) vnil) (hok0 rfl) (by decide) 188 rfl ?_
  refine oc_icmp dX7_ask_188 ⟨by decide, by decide⟩ 191 rfl ?_
  refine oc (y := mt_367) (pc := 191) (ok_aload_n dX7_ask_191) 192 rfl ?_
  refine oc (y := mt_367) (pc := 192) (ok_getfield dX7_ask_192 (fg (own := "GardenChessModel") (idx := 172) (g := 9) (k := 74) (r := (RX7, TX7, 122)) rfl ⟨⟨by decide, by decide⟩, by decide⟩ (Or.inl q1886) (Or.inl rfl) rfl (fg_nil))) 195 rfl ?_
  refine oc (y := mt_367) (pc := 195) (ok_iload_n dX7_ask_195) 196 rfl ?_
  refine oc (y := mt_367) (pc := 196) (ok_aload_n dX7_ask_196) 197 rfl ?_
  refine oc (y := mt_367) (pc := 197) (ok_iload_n dX7_ask_197) 198 rfl ?_
  refine oc_V (y := mt_367) (pc := 198) (vcons (y := mt_367) (pc := 198) (len := 3) (n := 2) (M := mt_284) (by decide) rfl (Or.inr rfl) rfl (ck_V dX7_ask_198 ⟨by decide, by decide, by decide, by decide +kernel⟩ q2377 q2379 qs97 q177 q2380) vnil) (hok0 rfl) (by decide) 201 rfl ?_
  refine oc_if dX7_ask_201 ⟨by decide, by decide⟩ 204 rfl ?_
  refine oc (y := mt_367) (pc := 204) (ok_iconst dX7_ask_204 rfl ⟨by decide, by decide⟩) 205 rfl ?_
  exact oc_goto dX7_ask_205 ⟨by decide, by decide⟩
theorem o_367_208 : okL gmt mt_367 208 b_367_208 := by
  refine oc (y := mt_367) (pc := 208) (ok_aload_n dX7_ask_208) 209 rfl ?_
  refine oc (y := mt_367) (pc := 209) (ok_iload_n dX7_ask_209) 210 rfl ?_
  refine oc_V (y := mt_367) (pc := 210) (vcons (y := mt_367) (pc := 210) (len := 3) (n := 2) (M := mt_288) (by decide) rfl (Or.inr rfl) rfl (ck_V dX7_ask_210 ⟨by decide, by decide, by decide, by decide +kernel⟩ q2393 q2395 qs101 q177 q2396) vnil) (hok0 rfl) (by decide) 213 rfl ?_
  exact oc_fall rfl
theorem o_367_213 : okL gmt mt_367 213 b_367_213 := by
  refine oc (y := mt_367) (pc := 213) (ok_iastore dX7_ask_213) 214 rfl ?_
  refine oc (y := mt_367) (pc := 214) (ok_iinc dX7_ask_214 (by decide)) 217 rfl ?_
  exact oc_goto dX7_ask_217 ⟨by decide, by decide⟩
theorem o_367_220 : okL gmt mt_367 220 b_367_220 := by
  refine oc (y := mt_367) (pc := 220) (ok_aload_n dX7_ask_220) 221 rfl ?_
  refine oc (y := mt_367) (pc := 221) (ok_iconst dX7_ask_221 rfl ⟨by decide, by decide⟩) 222 rfl ?_
  refine oc (y := mt_367) (pc := 222) (ok_putfield dX7_ask_222 (fp (own := "GardenChessModel") (idx := 336) (g := 9) (k := 59) (r := (RX7, TX7, 122)) rfl ⟨⟨by decide, by decide⟩, by decide⟩ (Or.inl q1871) (Or.inl rfl) rfl (Or.inl rfl) (fp_nil))) 225 rfl ?_
  refine oc (y := mt_367) (pc := 225) (ok_iconst dX7_ask_225 rfl ⟨by decide, by decide⟩) 226 rfl ?_
  refine oc (y := mt_367) (pc := 226) (ok_istore_n dX7_ask_226 (by decide)) 227 rfl ?_
  exact oc_fall rfl
theorem o_367_227 : okL gmt mt_367 227 b_367_227 := by
  refine oc (y := mt_367) (pc := 227) (ok_iload_n dX7_ask_227) 228 rfl ?_
  refine oc (y := mt_367) (pc := 228) (ok_aload_n dX7_ask_228) 229 rfl ?_
  refine oc_V (y := mt_367) (pc := 229) (vcons (y := mt_367) (pc := 229) (len := 3) (n := 1) (M := mt_281) (by decide) rfl (Or.inr rfl) rfl (ck_V dX7_ask_229 ⟨by decide, by decide, by decide, by decide +kernel⟩ q2365 q2367 qs94 q177 q2368) vnil) (hok0 rfl) (by decide) 232 rfl ?_
  refine oc_icmp dX7_ask_232 ⟨by decide, by decide⟩ 235 rfl ?_
  refine oc (y := mt_367) (pc := 235) (ok_aload_n dX7_ask_235) 236 rfl ?_
  refine oc (y := mt_367) (pc := 236) (ok_iload_n dX7_ask_236) 237 rfl ?_
  refine oc_V (y := mt_367) (pc := 237) (vcons (y := mt_367) (pc := 237) (len := 3) (n := 2) (M := mt_284) (by decide) rfl (Or.inr rfl) rfl (ck_V dX7_ask_237 ⟨by decide, by decide, by decide, by decide +kernel⟩ q2377 q2379 qs97 q177 q2380) vnil) (hok0 rfl) (by decide) 240 rfl ?_
  refine oc_if dX7_ask_240 ⟨by decide, by decide⟩ 243 rfl ?_
  refine oc (y := mt_367) (pc := 243) (ok_aload_n dX7_ask_243) 244 rfl ?_
  refine oc (y := mt_367) (pc := 244) (ok_iload_n dX7_ask_244) 245 rfl ?_
  refine oc (y := mt_367) (pc := 245) (ok_aload_n dX7_ask_245) 246 rfl ?_
  refine oc (y := mt_367) (pc := 246) (ok_iload_n dX7_ask_246) 247 rfl ?_
  refine oc_V (y := mt_367) (pc := 247) (vcons (y := mt_367) (pc := 247) (len := 3) (n := 2) (M := mt_374) (by decide) rfl (Or.inr rfl) rfl (ck_V dX7_ask_247 ⟨by decide, by decide, by decide, by decide +kernel⟩ q2747 q2749 qs156 q177 q2750) vnil) (hok0 rfl) (by decide) 250 rfl ?_
  refine oc (y := mt_367) (pc := 250) (ok_iload_n dX7_ask_250) 251 rfl ?_
  refine oc_V (y := mt_367) (pc := 251) (vcons (y := mt_367) (pc := 251) (len := 3) (n := 4) (M := mt_376) (by decide) rfl (Or.inr rfl) rfl (ck_V dX7_ask_251 ⟨by decide, by decide, by decide, by decide +kernel⟩ q2755 q2757 qs158 q177 q2758) vnil) (hok0 rfl) (by decide) 254 rfl ?_
  exact oc_fall rfl
theorem o_367_254 : okL gmt mt_367 254 b_367_254 := by
  refine oc (y := mt_367) (pc := 254) (ok_iinc dX7_ask_254 (by decide)) 257 rfl ?_
  exact oc_goto dX7_ask_257 ⟨by decide, by decide⟩
theorem o_367_260 : okL gmt mt_367 260 b_367_260 := by
  refine oc (y := mt_367) (pc := 260) (ok_aload_n dX7_ask_260) 261 rfl ?_
  refine oc (y := mt_367) (pc := 261) (ok_getfield dX7_ask_261 (fg (own := "GardenChessModel") (idx := 749) (g := 9) (k := 118) (r := (RX7, TX7, 122)) rfl ⟨⟨by decide, by decide⟩, by decide⟩ (Or.inl q1930) (Or.inl rfl) rfl (fg_nil))) 264 rfl ?_
  exact oc_lret dX7_ask_264 rfl
theorem ok_367 : ∀ q ∈ pr_367, okL gmt mt_367 q.1 q.2 := pk_c o_367_0 (pk_c o_367_16 (pk_c o_367_98 (pk_c o_367_109 (pk_c o_367_133 (pk_c o_367_160 (pk_c o_367_172 (pk_c o_367_173 (pk_c o_367_183 (pk_c o_367_208 (pk_c o_367_213 (pk_c o_367_220 (pk_c o_367_227 (pk_c o_367_254 (pk_c o_367_260 (pk_n)))))))))))))))
theorem o_368_0 : okL gmt mt_368 0 b_368_0 := by
  refine oc (y := mt_368) (pc := 0) (ok_aload_n dX7_qKind_0) 1 rfl ?_
  refine oc (y := mt_368) (pc := 1) (ok_aload_n dX7_qKind_1) 2 rfl ?_
  refine oc (y := mt_368) (pc := 2) (ok_getfield dX7_qKind_2 (fg (own := "GardenChessModel") (idx := 194) (g := 9) (k := 87) (r := (RX7, TX7, 122)) rfl ⟨⟨by decide, by decide⟩, by decide⟩ (Or.inl q1899) (Or.inl rfl) rfl (fg_nil))) 5 rfl ?_
  refine oc_V (y := mt_368) (pc := 5) (vcons (y := mt_368) (pc := 5) (len := 3) (n := 2) (M := mt_239) (by decide) rfl (Or.inr rfl) rfl (ck_V dX7_qKind_5 ⟨by decide, by decide, by decide, by decide +kernel⟩ q2199 q2201 qs58 q177 q2202) vnil) (hok0 rfl) (by decide) 8 rfl ?_
  refine oc_if dX7_qKind_8 ⟨by decide, by decide⟩ 11 rfl ?_
  refine oc (y := mt_368) (pc := 11) (ok_iconst dX7_qKind_11 rfl ⟨by decide, by decide⟩) 12 rfl ?_
  exact oc_goto dX7_qKind_12 ⟨by decide, by decide⟩
theorem o_368_15 : okL gmt mt_368 15 b_368_15 := by
  refine oc (y := mt_368) (pc := 15) (ok_aload_n dX7_qKind_15) 16 rfl ?_
  refine oc (y := mt_368) (pc := 16) (ok_aload_n dX7_qKind_16) 17 rfl ?_
  refine oc (y := mt_368) (pc := 17) (ok_getfield dX7_qKind_17 (fg (own := "GardenChessModel") (idx := 197) (g := 9) (k := 88) (r := (RX7, TX7, 122)) rfl ⟨⟨by decide, by decide⟩, by decide⟩ (Or.inl q1900) (Or.inl rfl) rfl (fg_nil))) 20 rfl ?_
  refine oc_V (y := mt_368) (pc := 20) (vcons (y := mt_368) (pc := 20) (len := 3) (n := 2) (M := mt_239) (by decide) rfl (Or.inr rfl) rfl (ck_V dX7_qKind_20 ⟨by decide, by decide, by decide, by decide +kernel⟩ q2199 q2201 qs58 q177 q2202) vnil) (hok0 rfl) (by decide) 23 rfl ?_
  refine oc_if dX7_qKind_23 ⟨by decide, by decide⟩ 26 rfl ?_
  refine oc (y := mt_368) (pc := 26) (ok_iconst dX7_qKind_26 rfl ⟨by decide, by decide⟩) 27 rfl ?_
  exact oc_goto dX7_qKind_27 ⟨by decide, by decide⟩
theorem o_368_30 : okL gmt mt_368 30 b_368_30 := by
  refine oc (y := mt_368) (pc := 30) (ok_aload_n dX7_qKind_30) 31 rfl ?_
  refine oc (y := mt_368) (pc := 31) (ok_aload_n dX7_qKind_31) 32 rfl ?_
  refine oc (y := mt_368) (pc := 32) (ok_getfield dX7_qKind_32 (fg (own := "GardenChessModel") (idx := 200) (g := 9) (k := 89) (r := (RX7, TX7, 122)) rfl ⟨⟨by decide, by decide⟩, by decide⟩ (Or.inl q1901) (Or.inl rfl) rfl (fg_nil))) 35 rfl ?_
  refine oc_V (y := mt_368) (pc := 35) (vcons (y := mt_368) (pc := 35) (len := 3) (n := 2) (M := mt_239) (by decide) rfl (Or.inr rfl) rfl (ck_V dX7_qKind_35 ⟨by decide, by decide, by decide, by decide +kernel⟩ q2199 q2201 qs58 q177 q2202) vnil) (hok0 rfl) (by decide) 38 rfl ?_
  refine oc_if dX7_qKind_38 ⟨by decide, by decide⟩ 41 rfl ?_
  refine oc (y := mt_368) (pc := 41) (ok_iconst dX7_qKind_41 rfl ⟨by decide, by decide⟩) 42 rfl ?_
  exact oc_goto dX7_qKind_42 ⟨by decide, by decide⟩
theorem o_368_45 : okL gmt mt_368 45 b_368_45 := by
  refine oc (y := mt_368) (pc := 45) (ok_aload_n dX7_qKind_45) 46 rfl ?_
  refine oc (y := mt_368) (pc := 46) (ok_aload_n dX7_qKind_46) 47 rfl ?_
  refine oc (y := mt_368) (pc := 47) (ok_getfield dX7_qKind_47 (fg (own := "GardenChessModel") (idx := 203) (g := 9) (k := 90) (r := (RX7, TX7, 122)) rfl ⟨⟨by decide, by decide⟩, by decide⟩ (Or.inl q1902) (Or.inl rfl) rfl (fg_nil))) 50 rfl ?_
  refine oc_V (y := mt_368) (pc := 50) (vcons (y := mt_368) (pc := 50) (len := 3) (n := 2) (M := mt_239) (by decide) rfl (Or.inr rfl) rfl (ck_V dX7_qKind_50 ⟨by decide, by decide, by decide, by decide +kernel⟩ q2199 q2201 qs58 q177 q2202) vnil) (hok0 rfl) (by decide) 53 rfl ?_
  refine oc_if dX7_qKind_53 ⟨by decide, by decide⟩ 56 rfl ?_
  refine oc (y := mt_368) (pc := 56) (ok_iconst dX7_qKind_56 rfl ⟨by decide, by decide⟩) 57 rfl ?_
  exact oc_goto dX7_qKind_57 ⟨by decide, by decide⟩
theorem o_368_60 : okL gmt mt_368 60 b_368_60 := by
  refine oc (y := mt_368) (pc := 60) (ok_aload_n dX7_qKind_60) 61 rfl ?_
  refine oc (y := mt_368) (pc := 61) (ok_aload_n dX7_qKind_61) 62 rfl ?_
  refine oc (y := mt_368) (pc := 62) (ok_getfield dX7_qKind_62 (fg (own := "GardenChessModel") (idx := 206) (g := 9) (k := 91) (r := (RX7, TX7, 122)) rfl ⟨⟨by decide, by decide⟩, by decide⟩ (Or.inl q1903) (Or.inl rfl) rfl (fg_nil))) 65 rfl ?_
  refine oc_V (y := mt_368) (pc := 65) (vcons (y := mt_368) (pc := 65) (len := 3) (n := 2) (M := mt_239) (by decide) rfl (Or.inr rfl) rfl (ck_V dX7_qKind_65 ⟨by decide, by decide, by decide, by decide +kernel⟩ q2199 q2201 qs58 q177 q2202) vnil) (hok0 rfl) (by decide) 68 rfl ?_
  refine oc_if dX7_qKind_68 ⟨by decide, by decide⟩ 71 rfl ?_
  refine oc (y := mt_368) (pc := 71) (ok_iconst dX7_qKind_71 rfl ⟨by decide, by decide⟩) 72 rfl ?_
  exact oc_goto dX7_qKind_72 ⟨by decide, by decide⟩
theorem o_368_75 : okL gmt mt_368 75 b_368_75 := by
  refine oc (y := mt_368) (pc := 75) (ok_iconst dX7_qKind_75 rfl ⟨by decide, by decide⟩) 76 rfl ?_
  exact oc_fall rfl
theorem o_368_76 : okL gmt mt_368 76 b_368_76 := by
  refine oc (y := mt_368) (pc := 76) (ok_istore_n dX7_qKind_76 (by decide)) 77 rfl ?_
  refine oc (y := mt_368) (pc := 77) (ok_iload_n dX7_qKind_77) 78 rfl ?_
  refine oc (y := mt_368) (pc := 78) (ok_iconst dX7_qKind_78 rfl ⟨by decide, by decide⟩) 79 rfl ?_
  refine oc_icmp dX7_qKind_79 ⟨by decide, by decide⟩ 82 rfl ?_
  refine oc (y := mt_368) (pc := 82) (ok_aload_n dX7_qKind_82) 83 rfl ?_
  refine oc (y := mt_368) (pc := 83) (ok_aload_n dX7_qKind_83) 84 rfl ?_
  refine oc (y := mt_368) (pc := 84) (ok_getfield dX7_qKind_84 (fg (own := "GardenChessModel") (idx := 209) (g := 9) (k := 92) (r := (RX7, TX7, 122)) rfl ⟨⟨by decide, by decide⟩, by decide⟩ (Or.inl q1904) (Or.inl rfl) rfl (fg_nil))) 87 rfl ?_
  refine oc_V (y := mt_368) (pc := 87) (vcons (y := mt_368) (pc := 87) (len := 3) (n := 2) (M := mt_238) (by decide) rfl (Or.inr rfl) rfl (ck_V dX7_qKind_87 ⟨by decide, by decide, by decide, by decide +kernel⟩ q2195 q2197 qs57 q177 q2198) vnil) (hok0 rfl) (by decide) 90 rfl ?_
  exact oc_fall rfl
theorem o_368_90 : okL gmt mt_368 90 b_368_90 := by
  refine oc (y := mt_368) (pc := 90) (ok_iload_n dX7_qKind_90) 91 rfl ?_
  exact oc_iret dX7_qKind_91 rfl
theorem ok_368 : ∀ q ∈ pr_368, okL gmt mt_368 q.1 q.2 := pk_c o_368_0 (pk_c o_368_15 (pk_c o_368_30 (pk_c o_368_45 (pk_c o_368_60 (pk_c o_368_75 (pk_c o_368_76 (pk_c o_368_90 (pk_n))))))))
theorem o_369_0 : okL gmt mt_369 0 b_369_0 := by
  refine oc (y := mt_369) (pc := 0) (ok_iconst dX7_qTest_0 rfl ⟨by decide, by decide⟩) 1 rfl ?_
  refine oc (y := mt_369) (pc := 1) (ok_istore_n dX7_qTest_1 (by decide)) 2 rfl ?_
  exact oc_fall rfl
theorem o_369_2 : okL gmt mt_369 2 b_369_2 := by
  refine oc (y := mt_369) (pc := 2) (ok_iload_n dX7_qTest_2) 3 rfl ?_
  refine oc_if dX7_qTest_3 ⟨by decide, by decide⟩ 6 rfl ?_
  refine oc (y := mt_369) (pc := 6) (ok_aload_n dX7_qTest_6) 7 rfl ?_
  refine oc (y := mt_369) (pc := 7) (ok_getfield dX7_qTest_7 (fg (own := "GardenChessModel") (idx := 278) (g := 9) (k := 5) (r := (RX7, TX7, 122)) rfl ⟨⟨by decide, by decide⟩, by decide⟩ (Or.inl q1817) (Or.inl rfl) rfl (fg_nil))) 10 rfl ?_
  refine oc_if dX7_qTest_10 ⟨by decide, by decide⟩ 13 rfl ?_
  refine oc (y := mt_369) (pc := 13) (ok_aload_n dX7_qTest_13) 14 rfl ?_
  refine oc_V (y := mt_369) (pc := 14) (vcons (y := mt_369) (pc := 14) (len := 3) (n := 1) (M := mt_241) (by decide) rfl (Or.inr rfl) rfl (ck_V dX7_qTest_14 ⟨by decide, by decide, by decide, by decide +kernel⟩ q2207 q2209 qs60 q177 q2210) vnil) (hok0 rfl) (by decide) 17 rfl ?_
  refine oc (y := mt_369) (pc := 17) (ok_istore_n dX7_qTest_17 (by decide)) 18 rfl ?_
  refine oc (y := mt_369) (pc := 18) (ok_iload_n dX7_qTest_18) 19 rfl ?_
  refine oc (y := mt_369) (pc := 19) (ok_bipush dX7_qTest_19 (by decide) ⟨by decide, by decide⟩) 21 rfl ?_
  refine oc_icmp dX7_qTest_21 ⟨by decide, by decide⟩ 24 rfl ?_
  refine oc (y := mt_369) (pc := 24) (ok_aload_n dX7_qTest_24) 25 rfl ?_
  refine oc (y := mt_369) (pc := 25) (ok_bipush dX7_qTest_25 (by decide) ⟨by decide, by decide⟩) 27 rfl ?_
  refine oc (y := mt_369) (pc := 27) (ok_aload_n dX7_qTest_27) 28 rfl ?_
  refine oc (y := mt_369) (pc := 28) (ok_getfield dX7_qTest_28 (fg (own := "GardenChessModel") (idx := 284) (g := 9) (k := 2) (r := (RX7, TX7, 122)) rfl ⟨⟨by decide, by decide⟩, by decide⟩ (Or.inl q1814) (Or.inl rfl) rfl (fg_nil))) 31 rfl ?_
  refine oc_V (y := mt_369) (pc := 31) (vcons (y := mt_369) (pc := 31) (len := 3) (n := 3) (M := mt_266) (by decide) rfl (Or.inr rfl) rfl (ck_V dX7_qTest_31 ⟨by decide, by decide, by decide, by decide +kernel⟩ q2306 q2308 qs82 q177 q2309) vnil) (hok0 rfl) (by decide) 34 rfl ?_
  refine oc (y := mt_369) (pc := 34) (ok_aload_n dX7_qTest_34) 35 rfl ?_
  refine oc (y := mt_369) (pc := 35) (ok_dup dX7_qTest_35) 36 rfl ?_
  refine oc (y := mt_369) (pc := 36) (ok_getfield dX7_qTest_36 (fg (own := "GardenChessModel") (idx := 284) (g := 9) (k := 2) (r := (RX7, TX7, 122)) rfl ⟨⟨by decide, by decide⟩, by decide⟩ (Or.inl q1814) (Or.inl rfl) rfl (fg_nil))) 39 rfl ?_
  refine oc (y := mt_369) (pc := 39) (ok_iconst dX7_qTest_39 rfl ⟨by decide, by decide⟩) 40 rfl ?_
  refine oc (y := mt_369) (pc := 40) (ok_iadd dX7_qTest_40) 41 rfl ?_
  refine oc (y := mt_369) (pc := 41) (ok_putfield dX7_qTest_41 (fp (own := "GardenChessModel") (idx := 284) (g := 9) (k := 2) (r := (RX7, TX7, 122)) rfl ⟨⟨by decide, by decide⟩, by decide⟩ (Or.inl q1814) (Or.inl rfl) rfl (Or.inl rfl) (fp_nil))) 44 rfl ?_
  exact oc_goto dX7_qTest_44 ⟨by decide, by decide⟩
theorem o_369_47 : okL gmt mt_369 47 b_369_47 := by
  refine oc (y := mt_369) (pc := 47) (ok_aload_n dX7_qTest_47) 48 rfl ?_
  refine oc (y := mt_369) (pc := 48) (ok_aload_n dX7_qTest_48) 49 rfl ?_
  refine oc (y := mt_369) (pc := 49) (ok_getfield dX7_qTest_49 (fg (own := "GardenChessModel") (idx := 212) (g := 9) (k := 93) (r := (RX7, TX7, 122)) rfl ⟨⟨by decide, by decide⟩, by decide⟩ (Or.inl q1905) (Or.inl rfl) rfl (fg_nil))) 52 rfl ?_
  refine oc_V (y := mt_369) (pc := 52) (vcons (y := mt_369) (pc := 52) (len := 3) (n := 2) (M := mt_240) (by decide) rfl (Or.inr rfl) rfl (ck_V dX7_qTest_52 ⟨by decide, by decide, by decide, by decide +kernel⟩ q2203 q2205 qs59 q177 q2206) vnil) (hok0 rfl) (by decide) 55 rfl ?_
  refine oc_if dX7_qTest_55 ⟨by decide, by decide⟩ 58 rfl ?_
  refine oc (y := mt_369) (pc := 58) (ok_aload_n dX7_qTest_58) 59 rfl ?_
  refine oc (y := mt_369) (pc := 59) (ok_bipush dX7_qTest_59 (by decide) ⟨by decide, by decide⟩) 61 rfl ?_
  refine oc (y := mt_369) (pc := 61) (ok_aload_n dX7_qTest_61) 62 rfl ?_
  refine oc (y := mt_369) (pc := 62) (ok_getfield dX7_qTest_62 (fg (own := "GardenChessModel") (idx := 284) (g := 9) (k := 2) (r := (RX7, TX7, 122)) rfl ⟨⟨by decide, by decide⟩, by decide⟩ (Or.inl q1814) (Or.inl rfl) rfl (fg_nil))) 65 rfl ?_
  refine oc_V (y := mt_369) (pc := 65) (vcons (y := mt_369) (pc := 65) (len := 3) (n := 3) (M := mt_266) (by decide) rfl (Or.inr rfl) rfl (ck_V dX7_qTest_65 ⟨by decide, by decide, by decide, by decide +kernel⟩ q2306 q2308 qs82 q177 q2309) vnil) (hok0 rfl) (by decide) 68 rfl ?_
  refine oc (y := mt_369) (pc := 68) (ok_aload_n dX7_qTest_68) 69 rfl ?_
  refine oc (y := mt_369) (pc := 69) (ok_aload_n dX7_qTest_69) 70 rfl ?_
  refine oc (y := mt_369) (pc := 70) (ok_getfield dX7_qTest_70 (fg (own := "GardenChessModel") (idx := 212) (g := 9) (k := 93) (r := (RX7, TX7, 122)) rfl ⟨⟨by decide, by decide⟩, by decide⟩ (Or.inl q1905) (Or.inl rfl) rfl (fg_nil))) 73 rfl ?_
  refine oc_V (y := mt_369) (pc := 73) (vcons (y := mt_369) (pc := 73) (len := 3) (n := 2) (M := mt_238) (by decide) rfl (Or.inr rfl) rfl (ck_V dX7_qTest_73 ⟨by decide, by decide, by decide, by decide +kernel⟩ q2195 q2197 qs57 q177 q2198) vnil) (hok0 rfl) (by decide) 76 rfl ?_
  exact oc_goto dX7_qTest_76 ⟨by decide, by decide⟩
theorem o_369_79 : okL gmt mt_369 79 b_369_79 := by
  refine oc (y := mt_369) (pc := 79) (ok_aload_n dX7_qTest_79) 80 rfl ?_
  refine oc_V (y := mt_369) (pc := 80) (vcons (y := mt_369) (pc := 80) (len := 3) (n := 1) (M := mt_370) (by decide) rfl (Or.inr rfl) rfl (ck_V dX7_qTest_80 ⟨by decide, by decide, by decide, by decide +kernel⟩ q2730 q2732 qs152 q177 q2733) vnil) (hok0 rfl) (by decide) 83 rfl ?_
  refine oc (y := mt_369) (pc := 83) (ok_aload_n dX7_qTest_83) 84 rfl ?_
  refine oc_V (y := mt_369) (pc := 84) (vcons (y := mt_369) (pc := 84) (len := 3) (n := 1) (M := mt_371) (by decide) rfl (Or.inr rfl) rfl (ck_V dX7_qTest_84 ⟨by decide, by decide, by decide, by decide +kernel⟩ q2734 q2736 qs153 q177 q2737) vnil) (hok0 rfl) (by decide) 87 rfl ?_
  refine oc (y := mt_369) (pc := 87) (ok_aload_n dX7_qTest_87) 88 rfl ?_
  refine oc (y := mt_369) (pc := 88) (ok_getfield dX7_qTest_88 (fg (own := "GardenChessModel") (idx := 278) (g := 9) (k := 5) (r := (RX7, TX7, 122)) rfl ⟨⟨by decide, by decide⟩, by decide⟩ (Or.inl q1817) (Or.inl rfl) rfl (fg_nil))) 91 rfl ?_
  refine oc_if dX7_qTest_91 ⟨by decide, by decide⟩ 94 rfl ?_
  refine oc (y := mt_369) (pc := 94) (ok_aload_n dX7_qTest_94) 95 rfl ?_
  refine oc_V (y := mt_369) (pc := 95) (vcons (y := mt_369) (pc := 95) (len := 3) (n := 1) (M := mt_372) (by decide) rfl (Or.inr rfl) rfl (ck_V dX7_qTest_95 ⟨by decide, by decide, by decide, by decide +kernel⟩ q2738 q2740 qs154 q177 q2741) vnil) (hok0 rfl) (by decide) 98 rfl ?_
  refine oc_if dX7_qTest_98 ⟨by decide, by decide⟩ 101 rfl ?_
  refine oc (y := mt_369) (pc := 101) (ok_iconst dX7_qTest_101 rfl ⟨by decide, by decide⟩) 102 rfl ?_
  exact oc_goto dX7_qTest_102 ⟨by decide, by decide⟩
theorem o_369_105 : okL gmt mt_369 105 b_369_105 := by
  refine oc (y := mt_369) (pc := 105) (ok_iconst dX7_qTest_105 rfl ⟨by decide, by decide⟩) 106 rfl ?_
  exact oc_fall rfl
theorem o_369_106 : okL gmt mt_369 106 b_369_106 := by
  refine oc (y := mt_369) (pc := 106) (ok_istore_n dX7_qTest_106 (by decide)) 107 rfl ?_
  exact oc_goto dX7_qTest_107 ⟨by decide, by decide⟩
theorem o_369_110 : okL gmt mt_369 110 b_369_110 := by
  refine oc (y := mt_369) (pc := 110) (ok_aload_n dX7_qTest_110) 111 rfl ?_
  refine oc (y := mt_369) (pc := 111) (ok_getfield dX7_qTest_111 (fg (own := "GardenChessModel") (idx := 278) (g := 9) (k := 5) (r := (RX7, TX7, 122)) rfl ⟨⟨by decide, by decide⟩, by decide⟩ (Or.inl q1817) (Or.inl rfl) rfl (fg_nil))) 114 rfl ?_
  refine oc_if dX7_qTest_114 ⟨by decide, by decide⟩ 117 rfl ?_
  refine oc (y := mt_369) (pc := 117) (ok_aload_n dX7_qTest_117) 118 rfl ?_
  refine oc (y := mt_369) (pc := 118) (ok_getfield dX7_qTest_118 (fg (own := "GardenChessModel") (idx := 382) (g := 9) (k := 113) (r := (RX7, TX7, 122)) rfl ⟨⟨by decide, by decide⟩, by decide⟩ (Or.inl q1925) (Or.inl rfl) rfl (fg_nil))) 121 rfl ?_
  refine oc_if dX7_qTest_121 ⟨by decide, by decide⟩ 124 rfl ?_
  refine oc (y := mt_369) (pc := 124) (ok_aload_n dX7_qTest_124) 125 rfl ?_
  refine oc_V (y := mt_369) (pc := 125) (vcons (y := mt_369) (pc := 125) (len := 3) (n := 1) (M := mt_270) (by decide) rfl (Or.inr rfl) rfl (ck_V dX7_qTest_125 ⟨by decide, by decide, by decide, by decide +kernel⟩ q2322 q2324 qs86 q177 q2325) vnil) (hok0 rfl) (by decide) 128 rfl ?_
  exact oc_goto dX7_qTest_128 ⟨by decide, by decide⟩
theorem o_369_131 : okL gmt mt_369 131 b_369_131 := by
  exact oc_ret dX7_qTest_131 rfl
theorem ok_369 : ∀ q ∈ pr_369, okL gmt mt_369 q.1 q.2 := pk_c o_369_0 (pk_c o_369_2 (pk_c o_369_47 (pk_c o_369_79 (pk_c o_369_105 (pk_c o_369_106 (pk_c o_369_110 (pk_c o_369_131 (pk_n))))))))
theorem o_370_0 : okL gmt mt_370 0 b_370_0 := by
  refine oc (y := mt_370) (pc := 0) (ok_aload_n dX7_qFact_0) 1 rfl ?_
  refine oc (y := mt_370) (pc := 1) (ok_aload_n dX7_qFact_1) 2 rfl ?_
  refine oc (y := mt_370) (pc := 2) (ok_getfield dX7_qFact_2 (fg (own := "GardenChessModel") (idx := 221) (g := 9) (k := 96) (r := (RX7, TX7, 122)) rfl ⟨⟨by decide, by decide⟩, by decide⟩ (Or.inl q1908) (Or.inl rfl) rfl (fg_nil))) 5 rfl ?_
  refine oc_V (y := mt_370) (pc := 5) (vcons (y := mt_370) (pc := 5) (len := 3) (n := 2) (M := mt_239) (by decide) rfl (Or.inr rfl) rfl (ck_V dX7_qFact_5 ⟨by decide, by decide, by decide, by decide +kernel⟩ q2199 q2201 qs58 q177 q2202) vnil) (hok0 rfl) (by decide) 8 rfl ?_
  refine oc_if dX7_qFact_8 ⟨by decide, by decide⟩ 11 rfl ?_
  refine oc (y := mt_370) (pc := 11) (ok_aload_n dX7_qFact_11) 12 rfl ?_
  refine oc (y := mt_370) (pc := 12) (ok_bipush dX7_qFact_12 (by decide) ⟨by decide, by decide⟩) 14 rfl ?_
  refine oc_V (y := mt_370) (pc := 14) (vcons (y := mt_370) (pc := 14) (len := 3) (n := 2) (M := mt_268) (by decide) rfl (Or.inr rfl) rfl (ck_V dX7_qFact_14 ⟨by decide, by decide, by decide, by decide +kernel⟩ q2314 q2316 qs84 q177 q2317) vnil) (hok0 rfl) (by decide) 17 rfl ?_
  exact oc_ret dX7_qFact_17 rfl
theorem o_370_18 : okL gmt mt_370 18 b_370_18 := by
  refine oc (y := mt_370) (pc := 18) (ok_aload_n dX7_qFact_18) 19 rfl ?_
  refine oc_V (y := mt_370) (pc := 19) (vcons (y := mt_370) (pc := 19) (len := 3) (n := 1) (M := mt_261) (by decide) rfl (Or.inr rfl) rfl (ck_V dX7_qFact_19 ⟨by decide, by decide, by decide, by decide +kernel⟩ q2286 q2288 qs77 q177 q2289) vnil) (hok0 rfl) (by decide) 22 rfl ?_
  refine oc (y := mt_370) (pc := 22) (ok_aload_n dX7_qFact_22) 23 rfl ?_
  refine oc (y := mt_370) (pc := 23) (ok_getfield dX7_qFact_23 (fg (own := "GardenChessModel") (idx := 278) (g := 9) (k := 5) (r := (RX7, TX7, 122)) rfl ⟨⟨by decide, by decide⟩, by decide⟩ (Or.inl q1817) (Or.inl rfl) rfl (fg_nil))) 26 rfl ?_
  refine oc_if dX7_qFact_26 ⟨by decide, by decide⟩ 29 rfl ?_
  exact oc_ret dX7_qFact_29 rfl
theorem o_370_30 : okL gmt mt_370 30 b_370_30 := by
  refine oc (y := mt_370) (pc := 30) (ok_aload_n dX7_qFact_30) 31 rfl ?_
  refine oc_V (y := mt_370) (pc := 31) (vcons (y := mt_370) (pc := 31) (len := 3) (n := 1) (M := mt_241) (by decide) rfl (Or.inr rfl) rfl (ck_V dX7_qFact_31 ⟨by decide, by decide, by decide, by decide +kernel⟩ q2207 q2209 qs60 q177 q2210) vnil) (hok0 rfl) (by decide) 34 rfl ?_
  refine oc (y := mt_370) (pc := 34) (ok_istore_n dX7_qFact_34 (by decide)) 35 rfl ?_
  refine oc (y := mt_370) (pc := 35) (ok_iload_n dX7_qFact_35) 36 rfl ?_
  refine oc (y := mt_370) (pc := 36) (ok_bipush dX7_qFact_36 (by decide) ⟨by decide, by decide⟩) 38 rfl ?_
  refine oc_icmp dX7_qFact_38 ⟨by decide, by decide⟩ 41 rfl ?_
  refine oc (y := mt_370) (pc := 41) (ok_iload_n dX7_qFact_41) 42 rfl ?_
  refine oc (y := mt_370) (pc := 42) (ok_bipush dX7_qFact_42 (by decide) ⟨by decide, by decide⟩) 44 rfl ?_
  refine oc_icmp dX7_qFact_44 ⟨by decide, by decide⟩ 47 rfl ?_
  refine oc (y := mt_370) (pc := 47) (ok_iload_n dX7_qFact_47) 48 rfl ?_
  refine oc (y := mt_370) (pc := 48) (ok_bipush dX7_qFact_48 (by decide) ⟨by decide, by decide⟩) 50 rfl ?_
  refine oc_icmp dX7_qFact_50 ⟨by decide, by decide⟩ 53 rfl ?_
  refine oc (y := mt_370) (pc := 53) (ok_aload_n dX7_qFact_53) 54 rfl ?_
  refine oc (y := mt_370) (pc := 54) (ok_iconst dX7_qFact_54 rfl ⟨by decide, by decide⟩) 55 rfl ?_
  refine oc (y := mt_370) (pc := 55) (ok_aload_n dX7_qFact_55) 56 rfl ?_
  refine oc (y := mt_370) (pc := 56) (ok_getfield dX7_qFact_56 (fg (own := "GardenChessModel") (idx := 284) (g := 9) (k := 2) (r := (RX7, TX7, 122)) rfl ⟨⟨by decide, by decide⟩, by decide⟩ (Or.inl q1814) (Or.inl rfl) rfl (fg_nil))) 59 rfl ?_
  refine oc_V (y := mt_370) (pc := 59) (vcons (y := mt_370) (pc := 59) (len := 3) (n := 3) (M := mt_243) (by decide) rfl (Or.inr rfl) rfl (ck_V dX7_qFact_59 ⟨by decide, by decide, by decide, by decide +kernel⟩ q2214 q2216 qs61 q177 q2217) vnil) (hok0 rfl) (by decide) 62 rfl ?_
  exact oc_ret dX7_qFact_62 rfl
theorem o_370_63 : okL gmt mt_370 63 b_370_63 := by
  refine oc (y := mt_370) (pc := 63) (ok_aload_n dX7_qFact_63) 64 rfl ?_
  refine oc (y := mt_370) (pc := 64) (ok_dup dX7_qFact_64) 65 rfl ?_
  refine oc (y := mt_370) (pc := 65) (ok_getfield dX7_qFact_65 (fg (own := "GardenChessModel") (idx := 284) (g := 9) (k := 2) (r := (RX7, TX7, 122)) rfl ⟨⟨by decide, by decide⟩, by decide⟩ (Or.inl q1814) (Or.inl rfl) rfl (fg_nil))) 68 rfl ?_
  refine oc (y := mt_370) (pc := 68) (ok_iconst dX7_qFact_68 rfl ⟨by decide, by decide⟩) 69 rfl ?_
  refine oc (y := mt_370) (pc := 69) (ok_iadd dX7_qFact_69) 70 rfl ?_
  refine oc (y := mt_370) (pc := 70) (ok_putfield dX7_qFact_70 (fp (own := "GardenChessModel") (idx := 284) (g := 9) (k := 2) (r := (RX7, TX7, 122)) rfl ⟨⟨by decide, by decide⟩, by decide⟩ (Or.inl q1814) (Or.inl rfl) rfl (Or.inl rfl) (fp_nil))) 73 rfl ?_
  refine oc (y := mt_370) (pc := 73) (ok_aload_n dX7_qFact_73) 74 rfl ?_
  refine oc_V (y := mt_370) (pc := 74) (vcons (y := mt_370) (pc := 74) (len := 3) (n := 1) (M := mt_261) (by decide) rfl (Or.inr rfl) rfl (ck_V dX7_qFact_74 ⟨by decide, by decide, by decide, by decide +kernel⟩ q2286 q2288 qs77 q177 q2289) vnil) (hok0 rfl) (by decide) 77 rfl ?_
  refine oc (y := mt_370) (pc := 77) (ok_aload_n dX7_qFact_77) 78 rfl ?_
  refine oc (y := mt_370) (pc := 78) (ok_iload_n dX7_qFact_78) 79 rfl ?_
  refine oc (y := mt_370) (pc := 79) (ok_bipush dX7_qFact_79 (by decide) ⟨by decide, by decide⟩) 81 rfl ?_
  refine oc_icmp dX7_qFact_81 ⟨by decide, by decide⟩ 84 rfl ?_
  refine oc (y := mt_370) (pc := 84) (ok_bipush dX7_qFact_84 (by decide) ⟨by decide, by decide⟩) 86 rfl ?_
  exact oc_goto dX7_qFact_86 ⟨by decide, by decide⟩
theorem o_370_89 : okL gmt mt_370 89 b_370_89 := by
  refine oc (y := mt_370) (pc := 89) (ok_iload_n dX7_qFact_89) 90 rfl ?_
  refine oc (y := mt_370) (pc := 90) (ok_bipush dX7_qFact_90 (by decide) ⟨by decide, by decide⟩) 92 rfl ?_
  refine oc_icmp dX7_qFact_92 ⟨by decide, by decide⟩ 95 rfl ?_
  refine oc (y := mt_370) (pc := 95) (ok_bipush dX7_qFact_95 (by decide) ⟨by decide, by decide⟩) 97 rfl ?_
  exact oc_goto dX7_qFact_97 ⟨by decide, by decide⟩
theorem o_370_100 : okL gmt mt_370 100 b_370_100 := by
  refine oc (y := mt_370) (pc := 100) (ok_bipush dX7_qFact_100 (by decide) ⟨by decide, by decide⟩) 102 rfl ?_
  exact oc_fall rfl
theorem o_370_102 : okL gmt mt_370 102 b_370_102 := by
  refine oc_V (y := mt_370) (pc := 102) (vcons (y := mt_370) (pc := 102) (len := 3) (n := 2) (M := mt_268) (by decide) rfl (Or.inr rfl) rfl (ck_V dX7_qFact_102 ⟨by decide, by decide, by decide, by decide +kernel⟩ q2314 q2316 qs84 q177 q2317) vnil) (hok0 rfl) (by decide) 105 rfl ?_
  exact oc_ret dX7_qFact_105 rfl
theorem ok_370 : ∀ q ∈ pr_370, okL gmt mt_370 q.1 q.2 := pk_c o_370_0 (pk_c o_370_18 (pk_c o_370_30 (pk_c o_370_63 (pk_c o_370_89 (pk_c o_370_100 (pk_c o_370_102 (pk_n)))))))
theorem o_371_0 : okL gmt mt_371 0 b_371_0 := by
  refine oc (y := mt_371) (pc := 0) (ok_aload_n dX7_qDropsNots_0) 1 rfl ?_
  refine oc (y := mt_371) (pc := 1) (ok_getfield dX7_qDropsNots_1 (fg (own := "GardenChessModel") (idx := 278) (g := 9) (k := 5) (r := (RX7, TX7, 122)) rfl ⟨⟨by decide, by decide⟩, by decide⟩ (Or.inl q1817) (Or.inl rfl) rfl (fg_nil))) 4 rfl ?_
  refine oc_if dX7_qDropsNots_4 ⟨by decide, by decide⟩ 7 rfl ?_
  refine oc (y := mt_371) (pc := 7) (ok_aload_n dX7_qDropsNots_7) 8 rfl ?_
  refine oc (y := mt_371) (pc := 8) (ok_bipush dX7_qDropsNots_8 (by decide) ⟨by decide, by decide⟩) 10 rfl ?_
  refine oc_V (y := mt_371) (pc := 10) (vcons (y := mt_371) (pc := 10) (len := 3) (n := 2) (M := mt_275) (by decide) rfl (Or.inr rfl) rfl (ck_V dX7_qDropsNots_10 ⟨by decide, by decide, by decide, by decide +kernel⟩ q2341 q2343 qs90 q177 q2344) vnil) (hok0 rfl) (by decide) 13 rfl ?_
  refine oc_if dX7_qDropsNots_13 ⟨by decide, by decide⟩ 16 rfl ?_
  refine oc (y := mt_371) (pc := 16) (ok_aload_n dX7_qDropsNots_16) 17 rfl ?_
  refine oc (y := mt_371) (pc := 17) (ok_dup dX7_qDropsNots_17) 18 rfl ?_
  refine oc (y := mt_371) (pc := 18) (ok_getfield dX7_qDropsNots_18 (fg (own := "GardenChessModel") (idx := 385) (g := 9) (k := 114) (r := (RX7, TX7, 122)) rfl ⟨⟨by decide, by decide⟩, by decide⟩ (Or.inl q1926) (Or.inl rfl) rfl (fg_nil))) 21 rfl ?_
  refine oc (y := mt_371) (pc := 21) (ok_iconst dX7_qDropsNots_21 rfl ⟨by decide, by decide⟩) 22 rfl ?_
  refine oc (y := mt_371) (pc := 22) (ok_isub dX7_qDropsNots_22) 23 rfl ?_
  refine oc (y := mt_371) (pc := 23) (ok_putfield dX7_qDropsNots_23 (fp (own := "GardenChessModel") (idx := 385) (g := 9) (k := 114) (r := (RX7, TX7, 122)) rfl ⟨⟨by decide, by decide⟩, by decide⟩ (Or.inl q1926) (Or.inl rfl) rfl (Or.inl rfl) (fp_nil))) 26 rfl ?_
  refine oc (y := mt_371) (pc := 26) (ok_aload_n dX7_qDropsNots_26) 27 rfl ?_
  refine oc_V (y := mt_371) (pc := 27) (vcons (y := mt_371) (pc := 27) (len := 3) (n := 1) (M := mt_270) (by decide) rfl (Or.inr rfl) rfl (ck_V dX7_qDropsNots_27 ⟨by decide, by decide, by decide, by decide +kernel⟩ q2322 q2324 qs86 q177 q2325) vnil) (hok0 rfl) (by decide) 30 rfl ?_
  exact oc_goto dX7_qDropsNots_30 ⟨by decide, by decide⟩
theorem o_371_33 : okL gmt mt_371 33 b_371_33 := by
  exact oc_ret dX7_qDropsNots_33 rfl
theorem ok_371 : ∀ q ∈ pr_371, okL gmt mt_371 q.1 q.2 := pk_c o_371_0 (pk_c o_371_33 (pk_n))
theorem o_372_0 : okL gmt mt_372 0 b_372_0 := by
  refine oc (y := mt_372) (pc := 0) (ok_aload_n dX7_qGoesOnTest_0) 1 rfl ?_
  refine oc (y := mt_372) (pc := 1) (ok_getfield dX7_qGoesOnTest_1 (fg (own := "GardenChessModel") (idx := 278) (g := 9) (k := 5) (r := (RX7, TX7, 122)) rfl ⟨⟨by decide, by decide⟩, by decide⟩ (Or.inl q1817) (Or.inl rfl) rfl (fg_nil))) 4 rfl ?_
  refine oc_if dX7_qGoesOnTest_4 ⟨by decide, by decide⟩ 7 rfl ?_
  refine oc (y := mt_372) (pc := 7) (ok_aload_n dX7_qGoesOnTest_7) 8 rfl ?_
  refine oc_V (y := mt_372) (pc := 8) (vcons (y := mt_372) (pc := 8) (len := 3) (n := 1) (M := mt_241) (by decide) rfl (Or.inr rfl) rfl (ck_V dX7_qGoesOnTest_8 ⟨by decide, by decide, by decide, by decide +kernel⟩ q2207 q2209 qs60 q177 q2210) vnil) (hok0 rfl) (by decide) 11 rfl ?_
  refine oc (y := mt_372) (pc := 11) (ok_bipush dX7_qGoesOnTest_11 (by decide) ⟨by decide, by decide⟩) 13 rfl ?_
  refine oc_icmp dX7_qGoesOnTest_13 ⟨by decide, by decide⟩ 16 rfl ?_
  refine oc (y := mt_372) (pc := 16) (ok_aload_n dX7_qGoesOnTest_16) 17 rfl ?_
  refine oc_V (y := mt_372) (pc := 17) (vcons (y := mt_372) (pc := 17) (len := 3) (n := 1) (M := mt_373) (by decide) rfl (Or.inr rfl) rfl (ck_V dX7_qGoesOnTest_17 ⟨by decide, by decide, by decide, by decide +kernel⟩ q2742 q2744 qs155 q177 q2745) vnil) (hok0 rfl) (by decide) 20 rfl ?_
  refine oc_if dX7_qGoesOnTest_20 ⟨by decide, by decide⟩ 23 rfl ?_
  refine oc (y := mt_372) (pc := 23) (ok_aload_n dX7_qGoesOnTest_23) 24 rfl ?_
  refine oc (y := mt_372) (pc := 24) (ok_dup dX7_qGoesOnTest_24) 25 rfl ?_
  refine oc (y := mt_372) (pc := 25) (ok_getfield dX7_qGoesOnTest_25 (fg (own := "GardenChessModel") (idx := 284) (g := 9) (k := 2) (r := (RX7, TX7, 122)) rfl ⟨⟨by decide, by decide⟩, by decide⟩ (Or.inl q1814) (Or.inl rfl) rfl (fg_nil))) 28 rfl ?_
  refine oc (y := mt_372) (pc := 28) (ok_iconst dX7_qGoesOnTest_28 rfl ⟨by decide, by decide⟩) 29 rfl ?_
  refine oc (y := mt_372) (pc := 29) (ok_iadd dX7_qGoesOnTest_29) 30 rfl ?_
  refine oc (y := mt_372) (pc := 30) (ok_putfield dX7_qGoesOnTest_30 (fp (own := "GardenChessModel") (idx := 284) (g := 9) (k := 2) (r := (RX7, TX7, 122)) rfl ⟨⟨by decide, by decide⟩, by decide⟩ (Or.inl q1814) (Or.inl rfl) rfl (Or.inl rfl) (fp_nil))) 33 rfl ?_
  exact oc_fall rfl
theorem o_372_33 : okL gmt mt_372 33 b_372_33 := by
  refine oc (y := mt_372) (pc := 33) (ok_aload_n dX7_qGoesOnTest_33) 34 rfl ?_
  refine oc (y := mt_372) (pc := 34) (ok_bipush dX7_qGoesOnTest_34 (by decide) ⟨by decide, by decide⟩) 36 rfl ?_
  refine oc_V (y := mt_372) (pc := 36) (vcons (y := mt_372) (pc := 36) (len := 3) (n := 2) (M := mt_275) (by decide) rfl (Or.inr rfl) rfl (ck_V dX7_qGoesOnTest_36 ⟨by decide, by decide, by decide, by decide +kernel⟩ q2341 q2343 qs90 q177 q2344) vnil) (hok0 rfl) (by decide) 39 rfl ?_
  refine oc_if dX7_qGoesOnTest_39 ⟨by decide, by decide⟩ 42 rfl ?_
  refine oc (y := mt_372) (pc := 42) (ok_aload_n dX7_qGoesOnTest_42) 43 rfl ?_
  refine oc_V (y := mt_372) (pc := 43) (vcons (y := mt_372) (pc := 43) (len := 3) (n := 1) (M := mt_270) (by decide) rfl (Or.inr rfl) rfl (ck_V dX7_qGoesOnTest_43 ⟨by decide, by decide, by decide, by decide +kernel⟩ q2322 q2324 qs86 q177 q2325) vnil) (hok0 rfl) (by decide) 46 rfl ?_
  exact oc_goto dX7_qGoesOnTest_46 ⟨by decide, by decide⟩
theorem o_372_49 : okL gmt mt_372 49 b_372_49 := by
  refine oc (y := mt_372) (pc := 49) (ok_aload_n dX7_qGoesOnTest_49) 50 rfl ?_
  refine oc (y := mt_372) (pc := 50) (ok_dup dX7_qGoesOnTest_50) 51 rfl ?_
  refine oc (y := mt_372) (pc := 51) (ok_getfield dX7_qGoesOnTest_51 (fg (own := "GardenChessModel") (idx := 382) (g := 9) (k := 113) (r := (RX7, TX7, 122)) rfl ⟨⟨by decide, by decide⟩, by decide⟩ (Or.inl q1925) (Or.inl rfl) rfl (fg_nil))) 54 rfl ?_
  refine oc (y := mt_372) (pc := 54) (ok_iconst dX7_qGoesOnTest_54 rfl ⟨by decide, by decide⟩) 55 rfl ?_
  refine oc (y := mt_372) (pc := 55) (ok_isub dX7_qGoesOnTest_55) 56 rfl ?_
  refine oc (y := mt_372) (pc := 56) (ok_putfield dX7_qGoesOnTest_56 (fp (own := "GardenChessModel") (idx := 382) (g := 9) (k := 113) (r := (RX7, TX7, 122)) rfl ⟨⟨by decide, by decide⟩, by decide⟩ (Or.inl q1925) (Or.inl rfl) rfl (Or.inl rfl) (fp_nil))) 59 rfl ?_
  refine oc (y := mt_372) (pc := 59) (ok_aload_n dX7_qGoesOnTest_59) 60 rfl ?_
  refine oc (y := mt_372) (pc := 60) (ok_dup dX7_qGoesOnTest_60) 61 rfl ?_
  refine oc (y := mt_372) (pc := 61) (ok_getfield dX7_qGoesOnTest_61 (fg (own := "GardenChessModel") (idx := 385) (g := 9) (k := 114) (r := (RX7, TX7, 122)) rfl ⟨⟨by decide, by decide⟩, by decide⟩ (Or.inl q1926) (Or.inl rfl) rfl (fg_nil))) 64 rfl ?_
  refine oc (y := mt_372) (pc := 64) (ok_iconst dX7_qGoesOnTest_64 rfl ⟨by decide, by decide⟩) 65 rfl ?_
  refine oc (y := mt_372) (pc := 65) (ok_isub dX7_qGoesOnTest_65) 66 rfl ?_
  refine oc (y := mt_372) (pc := 66) (ok_putfield dX7_qGoesOnTest_66 (fp (own := "GardenChessModel") (idx := 385) (g := 9) (k := 114) (r := (RX7, TX7, 122)) rfl ⟨⟨by decide, by decide⟩, by decide⟩ (Or.inl q1926) (Or.inl rfl) rfl (Or.inl rfl) (fp_nil))) 69 rfl ?_
  refine oc (y := mt_372) (pc := 69) (ok_aload_n dX7_qGoesOnTest_69) 70 rfl ?_
  refine oc_V (y := mt_372) (pc := 70) (vcons (y := mt_372) (pc := 70) (len := 3) (n := 1) (M := mt_371) (by decide) rfl (Or.inr rfl) rfl (ck_V dX7_qGoesOnTest_70 ⟨by decide, by decide, by decide, by decide +kernel⟩ q2734 q2736 qs153 q177 q2737) vnil) (hok0 rfl) (by decide) 73 rfl ?_
  exact oc_goto dX7_qGoesOnTest_73 ⟨by decide, by decide⟩
theorem o_372_76 : okL gmt mt_372 76 b_372_76 := by
  refine oc (y := mt_372) (pc := 76) (ok_aload_n dX7_qGoesOnTest_76) 77 rfl ?_
  refine oc (y := mt_372) (pc := 77) (ok_aload_n dX7_qGoesOnTest_77) 78 rfl ?_
  refine oc (y := mt_372) (pc := 78) (ok_getfield dX7_qGoesOnTest_78 (fg (own := "GardenChessModel") (idx := 215) (g := 9) (k := 94) (r := (RX7, TX7, 122)) rfl ⟨⟨by decide, by decide⟩, by decide⟩ (Or.inl q1906) (Or.inl rfl) rfl (fg_nil))) 81 rfl ?_
  refine oc_V (y := mt_372) (pc := 81) (vcons (y := mt_372) (pc := 81) (len := 3) (n := 2) (M := mt_239) (by decide) rfl (Or.inr rfl) rfl (ck_V dX7_qGoesOnTest_81 ⟨by decide, by decide, by decide, by decide +kernel⟩ q2199 q2201 qs58 q177 q2202) vnil) (hok0 rfl) (by decide) 84 rfl ?_
  refine oc_if dX7_qGoesOnTest_84 ⟨by decide, by decide⟩ 87 rfl ?_
  exact oc_fall rfl
theorem o_372_87 : okL gmt mt_372 87 b_372_87 := by
  refine oc (y := mt_372) (pc := 87) (ok_aload_n dX7_qGoesOnTest_87) 88 rfl ?_
  refine oc (y := mt_372) (pc := 88) (ok_bipush dX7_qGoesOnTest_88 (by decide) ⟨by decide, by decide⟩) 90 rfl ?_
  refine oc_V (y := mt_372) (pc := 90) (vcons (y := mt_372) (pc := 90) (len := 3) (n := 2) (M := mt_275) (by decide) rfl (Or.inr rfl) rfl (ck_V dX7_qGoesOnTest_90 ⟨by decide, by decide, by decide, by decide +kernel⟩ q2341 q2343 qs90 q177 q2344) vnil) (hok0 rfl) (by decide) 93 rfl ?_
  refine oc_if dX7_qGoesOnTest_93 ⟨by decide, by decide⟩ 96 rfl ?_
  refine oc (y := mt_372) (pc := 96) (ok_aload_n dX7_qGoesOnTest_96) 97 rfl ?_
  refine oc_V (y := mt_372) (pc := 97) (vcons (y := mt_372) (pc := 97) (len := 3) (n := 1) (M := mt_270) (by decide) rfl (Or.inr rfl) rfl (ck_V dX7_qGoesOnTest_97 ⟨by decide, by decide, by decide, by decide +kernel⟩ q2322 q2324 qs86 q177 q2325) vnil) (hok0 rfl) (by decide) 100 rfl ?_
  exact oc_goto dX7_qGoesOnTest_100 ⟨by decide, by decide⟩
theorem o_372_103 : okL gmt mt_372 103 b_372_103 := by
  refine oc (y := mt_372) (pc := 103) (ok_aload_n dX7_qGoesOnTest_103) 104 rfl ?_
  refine oc (y := mt_372) (pc := 104) (ok_getfield dX7_qGoesOnTest_104 (fg (own := "GardenChessModel") (idx := 266) (g := 9) (k := 112) (r := (RX7, TX7, 122)) rfl ⟨⟨by decide, by decide⟩, by decide⟩ (Or.inl q1924) (Or.inl rfl) rfl (fg_nil))) 107 rfl ?_
  refine oc (y := mt_372) (pc := 107) (ok_aload_n dX7_qGoesOnTest_107) 108 rfl ?_
  refine oc (y := mt_372) (pc := 108) (ok_getfield dX7_qGoesOnTest_108 (fg (own := "GardenChessModel") (idx := 382) (g := 9) (k := 113) (r := (RX7, TX7, 122)) rfl ⟨⟨by decide, by decide⟩, by decide⟩ (Or.inl q1925) (Or.inl rfl) rfl (fg_nil))) 111 rfl ?_
  refine oc (y := mt_372) (pc := 111) (ok_bipush dX7_qGoesOnTest_111 (by decide) ⟨by decide, by decide⟩) 113 rfl ?_
  refine oc (y := mt_372) (pc := 113) (ok_iastore dX7_qGoesOnTest_113) 114 rfl ?_
  refine oc (y := mt_372) (pc := 114) (ok_aload_n dX7_qGoesOnTest_114) 115 rfl ?_
  refine oc (y := mt_372) (pc := 115) (ok_dup dX7_qGoesOnTest_115) 116 rfl ?_
  refine oc (y := mt_372) (pc := 116) (ok_getfield dX7_qGoesOnTest_116 (fg (own := "GardenChessModel") (idx := 382) (g := 9) (k := 113) (r := (RX7, TX7, 122)) rfl ⟨⟨by decide, by decide⟩, by decide⟩ (Or.inl q1925) (Or.inl rfl) rfl (fg_nil))) 119 rfl ?_
  refine oc (y := mt_372) (pc := 119) (ok_iconst dX7_qGoesOnTest_119 rfl ⟨by decide, by decide⟩) 120 rfl ?_
  refine oc (y := mt_372) (pc := 120) (ok_iadd dX7_qGoesOnTest_120) 121 rfl ?_
  refine oc (y := mt_372) (pc := 121) (ok_putfield dX7_qGoesOnTest_121 (fp (own := "GardenChessModel") (idx := 382) (g := 9) (k := 113) (r := (RX7, TX7, 122)) rfl ⟨⟨by decide, by decide⟩, by decide⟩ (Or.inl q1925) (Or.inl rfl) rfl (Or.inl rfl) (fp_nil))) 124 rfl ?_
  refine oc (y := mt_372) (pc := 124) (ok_iconst dX7_qGoesOnTest_124 rfl ⟨by decide, by decide⟩) 125 rfl ?_
  exact oc_zret dX7_qGoesOnTest_125 rfl
theorem o_372_126 : okL gmt mt_372 126 b_372_126 := by
  refine oc (y := mt_372) (pc := 126) (ok_aload_n dX7_qGoesOnTest_126) 127 rfl ?_
  refine oc (y := mt_372) (pc := 127) (ok_aload_n dX7_qGoesOnTest_127) 128 rfl ?_
  refine oc (y := mt_372) (pc := 128) (ok_getfield dX7_qGoesOnTest_128 (fg (own := "GardenChessModel") (idx := 218) (g := 9) (k := 95) (r := (RX7, TX7, 122)) rfl ⟨⟨by decide, by decide⟩, by decide⟩ (Or.inl q1907) (Or.inl rfl) rfl (fg_nil))) 131 rfl ?_
  refine oc_V (y := mt_372) (pc := 131) (vcons (y := mt_372) (pc := 131) (len := 3) (n := 2) (M := mt_239) (by decide) rfl (Or.inr rfl) rfl (ck_V dX7_qGoesOnTest_131 ⟨by decide, by decide, by decide, by decide +kernel⟩ q2199 q2201 qs58 q177 q2202) vnil) (hok0 rfl) (by decide) 134 rfl ?_
  refine oc_if dX7_qGoesOnTest_134 ⟨by decide, by decide⟩ 137 rfl ?_
  exact oc_fall rfl
theorem o_372_137 : okL gmt mt_372 137 b_372_137 := by
  refine oc (y := mt_372) (pc := 137) (ok_aload_n dX7_qGoesOnTest_137) 138 rfl ?_
  refine oc (y := mt_372) (pc := 138) (ok_bipush dX7_qGoesOnTest_138 (by decide) ⟨by decide, by decide⟩) 140 rfl ?_
  refine oc_V (y := mt_372) (pc := 140) (vcons (y := mt_372) (pc := 140) (len := 3) (n := 2) (M := mt_275) (by decide) rfl (Or.inr rfl) rfl (ck_V dX7_qGoesOnTest_140 ⟨by decide, by decide, by decide, by decide +kernel⟩ q2341 q2343 qs90 q177 q2344) vnil) (hok0 rfl) (by decide) 143 rfl ?_
  refine oc_if dX7_qGoesOnTest_143 ⟨by decide, by decide⟩ 146 rfl ?_
  refine oc (y := mt_372) (pc := 146) (ok_aload_n dX7_qGoesOnTest_146) 147 rfl ?_
  refine oc (y := mt_372) (pc := 147) (ok_bipush dX7_qGoesOnTest_147 (by decide) ⟨by decide, by decide⟩) 149 rfl ?_
  refine oc_V (y := mt_372) (pc := 149) (vcons (y := mt_372) (pc := 149) (len := 3) (n := 2) (M := mt_275) (by decide) rfl (Or.inr rfl) rfl (ck_V dX7_qGoesOnTest_149 ⟨by decide, by decide, by decide, by decide +kernel⟩ q2341 q2343 qs90 q177 q2344) vnil) (hok0 rfl) (by decide) 152 rfl ?_
  refine oc_if dX7_qGoesOnTest_152 ⟨by decide, by decide⟩ 155 rfl ?_
  exact oc_fall rfl
theorem o_372_155 : okL gmt mt_372 155 b_372_155 := by
  refine oc (y := mt_372) (pc := 155) (ok_aload_n dX7_qGoesOnTest_155) 156 rfl ?_
  refine oc_V (y := mt_372) (pc := 156) (vcons (y := mt_372) (pc := 156) (len := 3) (n := 1) (M := mt_270) (by decide) rfl (Or.inr rfl) rfl (ck_V dX7_qGoesOnTest_156 ⟨by decide, by decide, by decide, by decide +kernel⟩ q2322 q2324 qs86 q177 q2325) vnil) (hok0 rfl) (by decide) 159 rfl ?_
  exact oc_goto dX7_qGoesOnTest_159 ⟨by decide, by decide⟩
theorem o_372_162 : okL gmt mt_372 162 b_372_162 := by
  refine oc (y := mt_372) (pc := 162) (ok_aload_n dX7_qGoesOnTest_162) 163 rfl ?_
  refine oc (y := mt_372) (pc := 163) (ok_getfield dX7_qGoesOnTest_163 (fg (own := "GardenChessModel") (idx := 266) (g := 9) (k := 112) (r := (RX7, TX7, 122)) rfl ⟨⟨by decide, by decide⟩, by decide⟩ (Or.inl q1924) (Or.inl rfl) rfl (fg_nil))) 166 rfl ?_
  refine oc (y := mt_372) (pc := 166) (ok_aload_n dX7_qGoesOnTest_166) 167 rfl ?_
  refine oc (y := mt_372) (pc := 167) (ok_getfield dX7_qGoesOnTest_167 (fg (own := "GardenChessModel") (idx := 382) (g := 9) (k := 113) (r := (RX7, TX7, 122)) rfl ⟨⟨by decide, by decide⟩, by decide⟩ (Or.inl q1925) (Or.inl rfl) rfl (fg_nil))) 170 rfl ?_
  refine oc (y := mt_372) (pc := 170) (ok_bipush dX7_qGoesOnTest_170 (by decide) ⟨by decide, by decide⟩) 172 rfl ?_
  refine oc (y := mt_372) (pc := 172) (ok_iastore dX7_qGoesOnTest_172) 173 rfl ?_
  refine oc (y := mt_372) (pc := 173) (ok_aload_n dX7_qGoesOnTest_173) 174 rfl ?_
  refine oc (y := mt_372) (pc := 174) (ok_dup dX7_qGoesOnTest_174) 175 rfl ?_
  refine oc (y := mt_372) (pc := 175) (ok_getfield dX7_qGoesOnTest_175 (fg (own := "GardenChessModel") (idx := 382) (g := 9) (k := 113) (r := (RX7, TX7, 122)) rfl ⟨⟨by decide, by decide⟩, by decide⟩ (Or.inl q1925) (Or.inl rfl) rfl (fg_nil))) 178 rfl ?_
  refine oc (y := mt_372) (pc := 178) (ok_iconst dX7_qGoesOnTest_178 rfl ⟨by decide, by decide⟩) 179 rfl ?_
  refine oc (y := mt_372) (pc := 179) (ok_iadd dX7_qGoesOnTest_179) 180 rfl ?_
  refine oc (y := mt_372) (pc := 180) (ok_putfield dX7_qGoesOnTest_180 (fp (own := "GardenChessModel") (idx := 382) (g := 9) (k := 113) (r := (RX7, TX7, 122)) rfl ⟨⟨by decide, by decide⟩, by decide⟩ (Or.inl q1925) (Or.inl rfl) rfl (Or.inl rfl) (fp_nil))) 183 rfl ?_
  refine oc (y := mt_372) (pc := 183) (ok_iconst dX7_qGoesOnTest_183 rfl ⟨by decide, by decide⟩) 184 rfl ?_
  exact oc_zret dX7_qGoesOnTest_184 rfl
theorem o_372_185 : okL gmt mt_372 185 b_372_185 := by
  refine oc (y := mt_372) (pc := 185) (ok_aload_n dX7_qGoesOnTest_185) 186 rfl ?_
  refine oc (y := mt_372) (pc := 186) (ok_getfield dX7_qGoesOnTest_186 (fg (own := "GardenChessModel") (idx := 278) (g := 9) (k := 5) (r := (RX7, TX7, 122)) rfl ⟨⟨by decide, by decide⟩, by decide⟩ (Or.inl q1817) (Or.inl rfl) rfl (fg_nil))) 189 rfl ?_
  refine oc_if dX7_qGoesOnTest_189 ⟨by decide, by decide⟩ 192 rfl ?_
  refine oc (y := mt_372) (pc := 192) (ok_aload_n dX7_qGoesOnTest_192) 193 rfl ?_
  refine oc_V (y := mt_372) (pc := 193) (vcons (y := mt_372) (pc := 193) (len := 3) (n := 1) (M := mt_373) (by decide) rfl (Or.inr rfl) rfl (ck_V dX7_qGoesOnTest_193 ⟨by decide, by decide, by decide, by decide +kernel⟩ q2742 q2744 qs155 q177 q2745) vnil) (hok0 rfl) (by decide) 196 rfl ?_
  refine oc_if dX7_qGoesOnTest_196 ⟨by decide, by decide⟩ 199 rfl ?_
  refine oc (y := mt_372) (pc := 199) (ok_aload_n dX7_qGoesOnTest_199) 200 rfl ?_
  refine oc (y := mt_372) (pc := 200) (ok_iconst dX7_qGoesOnTest_200 rfl ⟨by decide, by decide⟩) 201 rfl ?_
  refine oc (y := mt_372) (pc := 201) (ok_aload_n dX7_qGoesOnTest_201) 202 rfl ?_
  refine oc (y := mt_372) (pc := 202) (ok_getfield dX7_qGoesOnTest_202 (fg (own := "GardenChessModel") (idx := 284) (g := 9) (k := 2) (r := (RX7, TX7, 122)) rfl ⟨⟨by decide, by decide⟩, by decide⟩ (Or.inl q1814) (Or.inl rfl) rfl (fg_nil))) 205 rfl ?_
  refine oc_V (y := mt_372) (pc := 205) (vcons (y := mt_372) (pc := 205) (len := 3) (n := 3) (M := mt_243) (by decide) rfl (Or.inr rfl) rfl (ck_V dX7_qGoesOnTest_205 ⟨by decide, by decide, by decide, by decide +kernel⟩ q2214 q2216 qs61 q177 q2217) vnil) (hok0 rfl) (by decide) 208 rfl ?_
  exact oc_fall rfl
theorem o_372_208 : okL gmt mt_372 208 b_372_208 := by
  refine oc (y := mt_372) (pc := 208) (ok_iconst dX7_qGoesOnTest_208 rfl ⟨by decide, by decide⟩) 209 rfl ?_
  exact oc_zret dX7_qGoesOnTest_209 rfl
theorem ok_372 : ∀ q ∈ pr_372, okL gmt mt_372 q.1 q.2 := pk_c o_372_0 (pk_c o_372_33 (pk_c o_372_49 (pk_c o_372_76 (pk_c o_372_87 (pk_c o_372_103 (pk_c o_372_126 (pk_c o_372_137 (pk_c o_372_155 (pk_c o_372_162 (pk_c o_372_185 (pk_c o_372_208 (pk_n))))))))))))
theorem o_373_0 : okL gmt mt_373 0 b_373_0 := by
  refine oc (y := mt_373) (pc := 0) (ok_iconst dX7_qHasSquare_0 rfl ⟨by decide, by decide⟩) 1 rfl ?_
  refine oc (y := mt_373) (pc := 1) (ok_istore_n dX7_qHasSquare_1 (by decide)) 2 rfl ?_
  exact oc_fall rfl
theorem o_373_2 : okL gmt mt_373 2 b_373_2 := by
  refine oc (y := mt_373) (pc := 2) (ok_iload_n dX7_qHasSquare_2) 3 rfl ?_
  refine oc (y := mt_373) (pc := 3) (ok_aload_n dX7_qHasSquare_3) 4 rfl ?_
  refine oc (y := mt_373) (pc := 4) (ok_getfield dX7_qHasSquare_4 (fg (own := "GardenChessModel") (idx := 382) (g := 9) (k := 113) (r := (RX7, TX7, 122)) rfl ⟨⟨by decide, by decide⟩, by decide⟩ (Or.inl q1925) (Or.inl rfl) rfl (fg_nil))) 7 rfl ?_
  refine oc_icmp dX7_qHasSquare_7 ⟨by decide, by decide⟩ 10 rfl ?_
  refine oc (y := mt_373) (pc := 10) (ok_aload_n dX7_qHasSquare_10) 11 rfl ?_
  refine oc (y := mt_373) (pc := 11) (ok_getfield dX7_qHasSquare_11 (fg (own := "GardenChessModel") (idx := 266) (g := 9) (k := 112) (r := (RX7, TX7, 122)) rfl ⟨⟨by decide, by decide⟩, by decide⟩ (Or.inl q1924) (Or.inl rfl) rfl (fg_nil))) 14 rfl ?_
  refine oc (y := mt_373) (pc := 14) (ok_iload_n dX7_qHasSquare_14) 15 rfl ?_
  refine oc (y := mt_373) (pc := 15) (ok_iaload dX7_qHasSquare_15) 16 rfl ?_
  refine oc (y := mt_373) (pc := 16) (ok_bipush dX7_qHasSquare_16 (by decide) ⟨by decide, by decide⟩) 18 rfl ?_
  refine oc_icmp dX7_qHasSquare_18 ⟨by decide, by decide⟩ 21 rfl ?_
  refine oc (y := mt_373) (pc := 21) (ok_iconst dX7_qHasSquare_21 rfl ⟨by decide, by decide⟩) 22 rfl ?_
  exact oc_zret dX7_qHasSquare_22 rfl
theorem o_373_23 : okL gmt mt_373 23 b_373_23 := by
  refine oc (y := mt_373) (pc := 23) (ok_iinc dX7_qHasSquare_23 (by decide)) 26 rfl ?_
  exact oc_goto dX7_qHasSquare_26 ⟨by decide, by decide⟩
theorem o_373_29 : okL gmt mt_373 29 b_373_29 := by
  refine oc (y := mt_373) (pc := 29) (ok_iconst dX7_qHasSquare_29 rfl ⟨by decide, by decide⟩) 30 rfl ?_
  exact oc_zret dX7_qHasSquare_30 rfl
theorem ok_373 : ∀ q ∈ pr_373, okL gmt mt_373 q.1 q.2 := pk_c o_373_0 (pk_c o_373_2 (pk_c o_373_23 (pk_c o_373_29 (pk_n))))
theorem o_374_0 : okL gmt mt_374 0 b_374_0 := by
  refine oc (y := mt_374) (pc := 0) (ok_aload_n dX7_qTold_0) 1 rfl ?_
  refine oc (y := mt_374) (pc := 1) (ok_iconst dX7_qTold_1 rfl ⟨by decide, by decide⟩) 2 rfl ?_
  refine oc (y := mt_374) (pc := 2) (ok_putfield dX7_qTold_2 (fp (own := "GardenChessModel") (idx := 533) (g := 9) (k := 117) (r := (RX7, TX7, 122)) rfl ⟨⟨by decide, by decide⟩, by decide⟩ (Or.inl q1929) (Or.inl rfl) rfl (Or.inl rfl) (fp_nil))) 5 rfl ?_
  refine oc (y := mt_374) (pc := 5) (ok_iconst dX7_qTold_5 rfl ⟨by decide, by decide⟩) 6 rfl ?_
  refine oc (y := mt_374) (pc := 6) (ok_istore_n dX7_qTold_6 (by decide)) 7 rfl ?_
  exact oc_fall rfl
theorem o_374_7 : okL gmt mt_374 7 b_374_7 := by
  refine oc (y := mt_374) (pc := 7) (ok_iload_n dX7_qTold_7) 8 rfl ?_
  refine oc (y := mt_374) (pc := 8) (ok_aload_n dX7_qTold_8) 9 rfl ?_
  refine oc (y := mt_374) (pc := 9) (ok_getfield dX7_qTold_9 (fg (own := "GardenChessModel") (idx := 379) (g := 9) (k := 111) (r := (RX7, TX7, 122)) rfl ⟨⟨by decide, by decide⟩, by decide⟩ (Or.inl q1923) (Or.inl rfl) rfl (fg_nil))) 12 rfl ?_
  refine oc_icmp dX7_qTold_12 ⟨by decide, by decide⟩ 15 rfl ?_
  refine oc (y := mt_374) (pc := 15) (ok_aload_n dX7_qTold_15) 16 rfl ?_
  refine oc (y := mt_374) (pc := 16) (ok_getfield dX7_qTold_16 (fg (own := "GardenChessModel") (idx := 263) (g := 9) (k := 110) (r := (RX7, TX7, 122)) rfl ⟨⟨by decide, by decide⟩, by decide⟩ (Or.inl q1922) (Or.inl rfl) rfl (fg_nil))) 19 rfl ?_
  refine oc (y := mt_374) (pc := 19) (ok_iload_n dX7_qTold_19) 20 rfl ?_
  refine oc (y := mt_374) (pc := 20) (ok_iaload dX7_qTold_20) 21 rfl ?_
  refine oc (y := mt_374) (pc := 21) (ok_istore_n dX7_qTold_21 (by decide)) 22 rfl ?_
  refine oc (y := mt_374) (pc := 22) (ok_iload_n dX7_qTold_22) 23 rfl ?_
  refine oc (y := mt_374) (pc := 23) (ok_sipush dX7_qTold_23 (by decide) ⟨by decide, by decide⟩) 26 rfl ?_
  refine oc_icmp dX7_qTold_26 ⟨by decide, by decide⟩ 29 rfl ?_
  refine oc (y := mt_374) (pc := 29) (ok_aload_n dX7_qTold_29) 30 rfl ?_
  refine oc (y := mt_374) (pc := 30) (ok_iload_n dX7_qTold_30) 31 rfl ?_
  refine oc (y := mt_374) (pc := 31) (ok_sipush dX7_qTold_31 (by decide) ⟨by decide, by decide⟩) 34 rfl ?_
  refine oc (y := mt_374) (pc := 34) (ok_isub dX7_qTold_34) 35 rfl ?_
  refine oc (y := mt_374) (pc := 35) (ok_i2l dX7_qTold_35) 36 rfl ?_
  refine oc_V (y := mt_374) (pc := 36) (vcons (y := mt_374) (pc := 36) (len := 3) (n := 2) (M := mt_335) (by decide) rfl (Or.inr rfl) rfl (ck_V dX7_qTold_36 ⟨by decide, by decide, by decide, by decide +kernel⟩ q2583 q2585 qs133 q177 q2586) vnil) (hok0 rfl) (by decide) 39 rfl ?_
  exact oc_goto dX7_qTold_39 ⟨by decide, by decide⟩
theorem o_374_42 : okL gmt mt_374 42 b_374_42 := by
  refine oc (y := mt_374) (pc := 42) (ok_iload_n dX7_qTold_42) 43 rfl ?_
  refine oc (y := mt_374) (pc := 43) (ok_bipush dX7_qTold_43 (by decide) ⟨by decide, by decide⟩) 45 rfl ?_
  refine oc_icmp dX7_qTold_45 ⟨by decide, by decide⟩ 48 rfl ?_
  refine oc (y := mt_374) (pc := 48) (ok_aload_n dX7_qTold_48) 49 rfl ?_
  refine oc (y := mt_374) (pc := 49) (ok_getfield dX7_qTold_49 (fg (own := "GardenChessModel") (idx := 269) (g := 9) (k := 116) (r := (RX7, TX7, 122)) rfl ⟨⟨by decide, by decide⟩, by decide⟩ (Or.inl q1928) (Or.inl rfl) rfl (fg_nil))) 52 rfl ?_
  refine oc (y := mt_374) (pc := 52) (ok_aload_n dX7_qTold_52) 53 rfl ?_
  refine oc (y := mt_374) (pc := 53) (ok_getfield dX7_qTold_53 (fg (own := "GardenChessModel") (idx := 533) (g := 9) (k := 117) (r := (RX7, TX7, 122)) rfl ⟨⟨by decide, by decide⟩, by decide⟩ (Or.inl q1929) (Or.inl rfl) rfl (fg_nil))) 56 rfl ?_
  refine oc (y := mt_374) (pc := 56) (ok_iconst dX7_qTold_56 rfl ⟨by decide, by decide⟩) 57 rfl ?_
  refine oc (y := mt_374) (pc := 57) (ok_isub dX7_qTold_57) 58 rfl ?_
  refine oc (y := mt_374) (pc := 58) (ok_aload_n dX7_qTold_58) 59 rfl ?_
  refine oc (y := mt_374) (pc := 59) (ok_iload_n dX7_qTold_59) 60 rfl ?_
  refine oc (y := mt_374) (pc := 60) (ok_bipush dX7_qTold_60 (by decide) ⟨by decide, by decide⟩) 62 rfl ?_
  refine oc (y := mt_374) (pc := 62) (ok_isub dX7_qTold_62) 63 rfl ?_
  refine oc (y := mt_374) (pc := 63) (ok_aload_n dX7_qTold_63) 64 rfl ?_
  refine oc (y := mt_374) (pc := 64) (ok_getfield dX7_qTold_64 (fg (own := "GardenChessModel") (idx := 269) (g := 9) (k := 116) (r := (RX7, TX7, 122)) rfl ⟨⟨by decide, by decide⟩, by decide⟩ (Or.inl q1928) (Or.inl rfl) rfl (fg_nil))) 67 rfl ?_
  refine oc (y := mt_374) (pc := 67) (ok_aload_n dX7_qTold_67) 68 rfl ?_
  refine oc (y := mt_374) (pc := 68) (ok_getfield dX7_qTold_68 (fg (own := "GardenChessModel") (idx := 533) (g := 9) (k := 117) (r := (RX7, TX7, 122)) rfl ⟨⟨by decide, by decide⟩, by decide⟩ (Or.inl q1929) (Or.inl rfl) rfl (fg_nil))) 71 rfl ?_
  refine oc (y := mt_374) (pc := 71) (ok_iconst dX7_qTold_71 rfl ⟨by decide, by decide⟩) 72 rfl ?_
  refine oc (y := mt_374) (pc := 72) (ok_isub dX7_qTold_72) 73 rfl ?_
  refine oc (y := mt_374) (pc := 73) (ok_laload dX7_qTold_73) 74 rfl ?_
  refine oc (y := mt_374) (pc := 74) (ok_iload_n dX7_qTold_74) 75 rfl ?_
  refine oc_V (y := mt_374) (pc := 75) (vcons (y := mt_374) (pc := 75) (len := 3) (n := 4) (M := mt_375) (by decide) rfl (Or.inr rfl) rfl (ck_V dX7_qTold_75 ⟨by decide, by decide, by decide, by decide +kernel⟩ q2751 q2753 qs157 q177 q2754) vnil) (hok0 rfl) (by decide) 78 rfl ?_
  refine oc_S (y := mt_374) (pc := 78) (M := mt_338) rfl (ck_S dX7_qTold_78 ⟨by decide, by decide, by decide, by decide +kernel⟩ q2595 q2596 q177 q2597) (hok0 rfl) (by decide) 81 rfl ?_
  refine oc (y := mt_374) (pc := 81) (ok_lastore dX7_qTold_81) 82 rfl ?_
  exact oc_goto dX7_qTold_82 ⟨by decide, by decide⟩
theorem o_374_85 : okL gmt mt_374 85 b_374_85 := by
  refine oc (y := mt_374) (pc := 85) (ok_iload_n dX7_qTold_85) 86 rfl ?_
  refine oc (y := mt_374) (pc := 86) (ok_bipush dX7_qTold_86 (by decide) ⟨by decide, by decide⟩) 88 rfl ?_
  refine oc_icmp dX7_qTold_88 ⟨by decide, by decide⟩ 91 rfl ?_
  refine oc (y := mt_374) (pc := 91) (ok_aload_n dX7_qTold_91) 92 rfl ?_
  refine oc (y := mt_374) (pc := 92) (ok_aload_n dX7_qTold_92) 93 rfl ?_
  refine oc (y := mt_374) (pc := 93) (ok_iload_n dX7_qTold_93) 94 rfl ?_
  refine oc (y := mt_374) (pc := 94) (ok_bipush dX7_qTold_94 (by decide) ⟨by decide, by decide⟩) 96 rfl ?_
  refine oc (y := mt_374) (pc := 96) (ok_isub dX7_qTold_96) 97 rfl ?_
  refine oc (y := mt_374) (pc := 97) (ok_iload_n dX7_qTold_97) 98 rfl ?_
  refine oc_V (y := mt_374) (pc := 98) (vcons (y := mt_374) (pc := 98) (len := 3) (n := 3) (M := mt_336) (by decide) rfl (Or.inr rfl) rfl (ck_V dX7_qTold_98 ⟨by decide, by decide, by decide, by decide +kernel⟩ q2587 q2589 qs134 q177 q2590) vnil) (hok0 rfl) (by decide) 101 rfl ?_
  refine oc_S (y := mt_374) (pc := 101) (M := mt_338) rfl (ck_S dX7_qTold_101 ⟨by decide, by decide, by decide, by decide +kernel⟩ q2595 q2596 q177 q2597) (hok0 rfl) (by decide) 104 rfl ?_
  refine oc_V (y := mt_374) (pc := 104) (vcons (y := mt_374) (pc := 104) (len := 3) (n := 2) (M := mt_335) (by decide) rfl (Or.inr rfl) rfl (ck_V dX7_qTold_104 ⟨by decide, by decide, by decide, by decide +kernel⟩ q2583 q2585 qs133 q177 q2586) vnil) (hok0 rfl) (by decide) 107 rfl ?_
  exact oc_goto dX7_qTold_107 ⟨by decide, by decide⟩
theorem o_374_110 : okL gmt mt_374 110 b_374_110 := by
  refine oc (y := mt_374) (pc := 110) (ok_iload_n dX7_qTold_110) 111 rfl ?_
  refine oc (y := mt_374) (pc := 111) (ok_bipush dX7_qTold_111 (by decide) ⟨by decide, by decide⟩) 113 rfl ?_
  refine oc_icmp dX7_qTold_113 ⟨by decide, by decide⟩ 116 rfl ?_
  refine oc (y := mt_374) (pc := 116) (ok_aload_n dX7_qTold_116) 117 rfl ?_
  refine oc (y := mt_374) (pc := 117) (ok_lconst dX7_qTold_117 (by decide) ⟨by decide, by decide⟩) 118 rfl ?_
  refine oc_V (y := mt_374) (pc := 118) (vcons (y := mt_374) (pc := 118) (len := 3) (n := 2) (M := mt_335) (by decide) rfl (Or.inr rfl) rfl (ck_V dX7_qTold_118 ⟨by decide, by decide, by decide, by decide +kernel⟩ q2583 q2585 qs133 q177 q2586) vnil) (hok0 rfl) (by decide) 121 rfl ?_
  exact oc_goto dX7_qTold_121 ⟨by decide, by decide⟩
theorem o_374_124 : okL gmt mt_374 124 b_374_124 := by
  refine oc (y := mt_374) (pc := 124) (ok_iload_n dX7_qTold_124) 125 rfl ?_
  refine oc (y := mt_374) (pc := 125) (ok_bipush dX7_qTold_125 (by decide) ⟨by decide, by decide⟩) 127 rfl ?_
  refine oc_icmp dX7_qTold_127 ⟨by decide, by decide⟩ 130 rfl ?_
  refine oc (y := mt_374) (pc := 130) (ok_aload_n dX7_qTold_130) 131 rfl ?_
  refine oc (y := mt_374) (pc := 131) (ok_getfield dX7_qTold_131 (fg (own := "GardenChessModel") (idx := 269) (g := 9) (k := 116) (r := (RX7, TX7, 122)) rfl ⟨⟨by decide, by decide⟩, by decide⟩ (Or.inl q1928) (Or.inl rfl) rfl (fg_nil))) 134 rfl ?_
  refine oc (y := mt_374) (pc := 134) (ok_aload_n dX7_qTold_134) 135 rfl ?_
  refine oc (y := mt_374) (pc := 135) (ok_getfield dX7_qTold_135 (fg (own := "GardenChessModel") (idx := 533) (g := 9) (k := 117) (r := (RX7, TX7, 122)) rfl ⟨⟨by decide, by decide⟩, by decide⟩ (Or.inl q1929) (Or.inl rfl) rfl (fg_nil))) 138 rfl ?_
  refine oc (y := mt_374) (pc := 138) (ok_iconst dX7_qTold_138 rfl ⟨by decide, by decide⟩) 139 rfl ?_
  refine oc (y := mt_374) (pc := 139) (ok_isub dX7_qTold_139) 140 rfl ?_
  refine oc (y := mt_374) (pc := 140) (ok_lconst dX7_qTold_140 (by decide) ⟨by decide, by decide⟩) 141 rfl ?_
  refine oc (y := mt_374) (pc := 141) (ok_aload_n dX7_qTold_141) 142 rfl ?_
  refine oc (y := mt_374) (pc := 142) (ok_getfield dX7_qTold_142 (fg (own := "GardenChessModel") (idx := 269) (g := 9) (k := 116) (r := (RX7, TX7, 122)) rfl ⟨⟨by decide, by decide⟩, by decide⟩ (Or.inl q1928) (Or.inl rfl) rfl (fg_nil))) 145 rfl ?_
  refine oc (y := mt_374) (pc := 145) (ok_aload_n dX7_qTold_145) 146 rfl ?_
  refine oc (y := mt_374) (pc := 146) (ok_getfield dX7_qTold_146 (fg (own := "GardenChessModel") (idx := 533) (g := 9) (k := 117) (r := (RX7, TX7, 122)) rfl ⟨⟨by decide, by decide⟩, by decide⟩ (Or.inl q1929) (Or.inl rfl) rfl (fg_nil))) 149 rfl ?_
  refine oc (y := mt_374) (pc := 149) (ok_iconst dX7_qTold_149 rfl ⟨by decide, by decide⟩) 150 rfl ?_
  refine oc (y := mt_374) (pc := 150) (ok_isub dX7_qTold_150) 151 rfl ?_
  refine oc (y := mt_374) (pc := 151) (ok_laload dX7_qTold_151) 152 rfl ?_
  refine oc (y := mt_374) (pc := 152) (ok_lsub dX7_qTold_152) 153 rfl ?_
  refine oc (y := mt_374) (pc := 153) (ok_lastore dX7_qTold_153) 154 rfl ?_
  exact oc_goto dX7_qTold_154 ⟨by decide, by decide⟩
theorem o_374_157 : okL gmt mt_374 157 b_374_157 := by
  refine oc (y := mt_374) (pc := 157) (ok_aload_n dX7_qTold_157) 158 rfl ?_
  refine oc (y := mt_374) (pc := 158) (ok_iload_n dX7_qTold_158) 159 rfl ?_
  refine oc_V (y := mt_374) (pc := 159) (vcons (y := mt_374) (pc := 159) (len := 3) (n := 2) (M := mt_337) (by decide) rfl (Or.inr rfl) rfl (ck_V dX7_qTold_159 ⟨by decide, by decide, by decide, by decide +kernel⟩ q2591 q2593 qs135 q177 q2594) vnil) (hok0 rfl) (by decide) 162 rfl ?_
  exact oc_fall rfl
theorem o_374_162 : okL gmt mt_374 162 b_374_162 := by
  refine oc (y := mt_374) (pc := 162) (ok_iinc dX7_qTold_162 (by decide)) 165 rfl ?_
  exact oc_goto dX7_qTold_165 ⟨by decide, by decide⟩
theorem o_374_168 : okL gmt mt_374 168 b_374_168 := by
  refine oc (y := mt_374) (pc := 168) (ok_aload_n dX7_qTold_168) 169 rfl ?_
  refine oc (y := mt_374) (pc := 169) (ok_getfield dX7_qTold_169 (fg (own := "GardenChessModel") (idx := 269) (g := 9) (k := 116) (r := (RX7, TX7, 122)) rfl ⟨⟨by decide, by decide⟩, by decide⟩ (Or.inl q1928) (Or.inl rfl) rfl (fg_nil))) 172 rfl ?_
  refine oc (y := mt_374) (pc := 172) (ok_iconst dX7_qTold_172 rfl ⟨by decide, by decide⟩) 173 rfl ?_
  refine oc (y := mt_374) (pc := 173) (ok_laload dX7_qTold_173) 174 rfl ?_
  exact oc_lret dX7_qTold_174 rfl
theorem ok_374 : ∀ q ∈ pr_374, okL gmt mt_374 q.1 q.2 := pk_c o_374_0 (pk_c o_374_7 (pk_c o_374_42 (pk_c o_374_85 (pk_c o_374_110 (pk_c o_374_124 (pk_c o_374_157 (pk_c o_374_162 (pk_c o_374_168 (pk_n)))))))))
theorem o_375_0 : okL gmt mt_375 0 b_375_0 := by
  refine oc (y := mt_375) (pc := 0) (ok_iload_n dX7_qOf_0) 1 rfl ?_
  exact oc_lsw dX7_qOf_1 ⟨by decide, by decide⟩ (by decide +kernel) (by decide +kernel) (by decide +kernel)
theorem o_375_12 : okL gmt mt_375 12 b_375_12 := by
  refine oc (y := mt_375) (pc := 12) (ok_lload_n dX7_qOf_12) 13 rfl ?_
  refine oc (y := mt_375) (pc := 13) (ok_lconst dX7_qOf_13 (by decide) ⟨by decide, by decide⟩) 14 rfl ?_
  refine oc (y := mt_375) (pc := 14) (ok_aload_n dX7_qOf_14) 15 rfl ?_
  refine oc_V (y := mt_375) (pc := 15) (vcons (y := mt_375) (pc := 15) (len := 3) (n := 1) (M := mt_299) (by decide) rfl (Or.inr rfl) rfl (ck_V dX7_qOf_15 ⟨by decide, by decide, by decide, by decide +kernel⟩ q2434 q2436 qs109 q177 q2437) vnil) (hok0 rfl) (by decide) 18 rfl ?_
  refine oc (y := mt_375) (pc := 18) (ok_iconst dX7_qOf_18 rfl ⟨by decide, by decide⟩) 19 rfl ?_
  refine oc (y := mt_375) (pc := 19) (ok_isub dX7_qOf_19) 20 rfl ?_
  refine oc (y := mt_375) (pc := 20) (ok_i2l dX7_qOf_20) 21 rfl ?_
  refine oc_S (y := mt_375) (pc := 21) (M := mt_246) rfl (ck_S dX7_qOf_21 ⟨by decide, by decide, by decide, by decide +kernel⟩ q2225 q2226 q177 q2227) (hok0 rfl) (by decide) 24 rfl ?_
  refine oc_if dX7_qOf_24 ⟨by decide, by decide⟩ 27 rfl ?_
  refine oc (y := mt_375) (pc := 27) (ok_aload_n dX7_qOf_27) 28 rfl ?_
  refine oc (y := mt_375) (pc := 28) (ok_getfield dX7_qOf_28 (fg (own := "GardenChessModel") (idx := 139) (g := 9) (k := 51) (r := (RX7, TX7, 122)) rfl ⟨⟨by decide, by decide⟩, by decide⟩ (Or.inl q1863) (Or.inl rfl) rfl (fg_nil))) 31 rfl ?_
  refine oc (y := mt_375) (pc := 31) (ok_bipush dX7_qOf_31 (by decide) ⟨by decide, by decide⟩) 33 rfl ?_
  refine oc (y := mt_375) (pc := 33) (ok_iconst dX7_qOf_33 rfl ⟨by decide, by decide⟩) 34 rfl ?_
  refine oc (y := mt_375) (pc := 34) (ok_lload_n dX7_qOf_34) 35 rfl ?_
  refine oc (y := mt_375) (pc := 35) (ok_l2i dX7_qOf_35) 36 rfl ?_
  refine oc (y := mt_375) (pc := 36) (ok_imul dX7_qOf_36) 37 rfl ?_
  refine oc (y := mt_375) (pc := 37) (ok_iadd dX7_qOf_37) 38 rfl ?_
  refine oc (y := mt_375) (pc := 38) (ok_iaload dX7_qOf_38) 39 rfl ?_
  refine oc (y := mt_375) (pc := 39) (ok_aload_n dX7_qOf_39) 40 rfl ?_
  refine oc (y := mt_375) (pc := 40) (ok_getfield dX7_qOf_40 (fg (own := "GardenChessModel") (idx := 139) (g := 9) (k := 51) (r := (RX7, TX7, 122)) rfl ⟨⟨by decide, by decide⟩, by decide⟩ (Or.inl q1863) (Or.inl rfl) rfl (fg_nil))) 43 rfl ?_
  refine oc (y := mt_375) (pc := 43) (ok_bipush dX7_qOf_43 (by decide) ⟨by decide, by decide⟩) 45 rfl ?_
  refine oc (y := mt_375) (pc := 45) (ok_iconst dX7_qOf_45 rfl ⟨by decide, by decide⟩) 46 rfl ?_
  refine oc (y := mt_375) (pc := 46) (ok_lload_n dX7_qOf_46) 47 rfl ?_
  refine oc (y := mt_375) (pc := 47) (ok_l2i dX7_qOf_47) 48 rfl ?_
  refine oc (y := mt_375) (pc := 48) (ok_imul dX7_qOf_48) 49 rfl ?_
  refine oc (y := mt_375) (pc := 49) (ok_iadd dX7_qOf_49) 50 rfl ?_
  refine oc (y := mt_375) (pc := 50) (ok_iaload dX7_qOf_50) 51 rfl ?_
  refine oc (y := mt_375) (pc := 51) (ok_aload_n dX7_qOf_51) 52 rfl ?_
  refine oc (y := mt_375) (pc := 52) (ok_iload dX7_qOf_52) 54 rfl ?_
  refine oc_V (y := mt_375) (pc := 54) (vcons (y := mt_375) (pc := 54) (len := 3) (n := 2) (M := mt_285) (by decide) rfl (Or.inr rfl) rfl (ck_V dX7_qOf_54 ⟨by decide, by decide, by decide, by decide +kernel⟩ q2381 q2383 qs98 q177 q2384) vnil) (hok0 rfl) (by decide) 57 rfl ?_
  refine oc (y := mt_375) (pc := 57) (ok_aload_n dX7_qOf_57) 58 rfl ?_
  refine oc (y := mt_375) (pc := 58) (ok_iload dX7_qOf_58) 60 rfl ?_
  refine oc_V (y := mt_375) (pc := 60) (vcons (y := mt_375) (pc := 60) (len := 3) (n := 2) (M := mt_292) (by decide) rfl (Or.inr rfl) rfl (ck_V dX7_qOf_60 ⟨by decide, by decide, by decide, by decide +kernel⟩ q2408 q2410 qs104 q177 q2411) vnil) (hok0 rfl) (by decide) 63 rfl ?_
  refine oc_S (y := mt_375) (pc := 63) (M := mt_293) rfl (ck_S dX7_qOf_63 ⟨by decide, by decide, by decide, by decide +kernel⟩ q2412 q2413 q177 q2414) (hok0 rfl) (by decide) 66 rfl ?_
  refine oc (y := mt_375) (pc := 66) (ok_i2l dX7_qOf_66) 67 rfl ?_
  exact oc_goto dX7_qOf_67 ⟨by decide, by decide⟩
theorem o_375_70 : okL gmt mt_375 70 b_375_70 := by
  refine oc (y := mt_375) (pc := 70) (ok_lconst dX7_qOf_70 (by decide) ⟨by decide, by decide⟩) 71 rfl ?_
  exact oc_fall rfl
theorem o_375_71 : okL gmt mt_375 71 b_375_71 := by
  exact oc_lret dX7_qOf_71 rfl
theorem ok_375 : ∀ q ∈ pr_375, okL gmt mt_375 q.1 q.2 := pk_c o_375_0 (pk_c o_375_12 (pk_c o_375_70 (pk_c o_375_71 (pk_n))))
theorem o_376_0 : okL gmt mt_376 0 b_376_0 := by
  refine oc (y := mt_376) (pc := 0) (ok_iload_n dX7_qTakes_0) 1 rfl ?_
  refine oc (y := mt_376) (pc := 1) (ok_iconst dX7_qTakes_1 rfl ⟨by decide, by decide⟩) 2 rfl ?_
  refine oc_icmp dX7_qTakes_2 ⟨by decide, by decide⟩ 5 rfl ?_
  refine oc (y := mt_376) (pc := 5) (ok_lload_n dX7_qTakes_5) 6 rfl ?_
  refine oc (y := mt_376) (pc := 6) (ok_lconst dX7_qTakes_6 (by decide) ⟨by decide, by decide⟩) 7 rfl ?_
  refine oc (y := mt_376) (pc := 7) (ok_lcmp dX7_qTakes_7) 8 rfl ?_
  refine oc_if dX7_qTakes_8 ⟨by decide, by decide⟩ 11 rfl ?_
  refine oc (y := mt_376) (pc := 11) (ok_iconst dX7_qTakes_11 rfl ⟨by decide, by decide⟩) 12 rfl ?_
  exact oc_goto dX7_qTakes_12 ⟨by decide, by decide⟩
theorem o_376_15 : okL gmt mt_376 15 b_376_15 := by
  refine oc (y := mt_376) (pc := 15) (ok_iconst dX7_qTakes_15 rfl ⟨by decide, by decide⟩) 16 rfl ?_
  exact oc_fall rfl
theorem o_376_16 : okL gmt mt_376 16 b_376_16 := by
  refine oc (y := mt_376) (pc := 16) (ok_istore dX7_qTakes_16 (by decide)) 18 rfl ?_
  refine oc (y := mt_376) (pc := 18) (ok_iload_n dX7_qTakes_18) 19 rfl ?_
  refine oc_if dX7_qTakes_19 ⟨by decide, by decide⟩ 22 rfl ?_
  refine oc (y := mt_376) (pc := 22) (ok_iload dX7_qTakes_22) 24 rfl ?_
  refine oc_if dX7_qTakes_24 ⟨by decide, by decide⟩ 27 rfl ?_
  refine oc (y := mt_376) (pc := 27) (ok_aload_n dX7_qTakes_27) 28 rfl ?_
  refine oc (y := mt_376) (pc := 28) (ok_getfield dX7_qTakes_28 (fg (own := "GardenChessModel") (idx := 749) (g := 9) (k := 118) (r := (RX7, TX7, 122)) rfl ⟨⟨by decide, by decide⟩, by decide⟩ (Or.inl q1930) (Or.inl rfl) rfl (fg_nil))) 31 rfl ?_
  refine oc (y := mt_376) (pc := 31) (ok_ldc2 dX7_qTakes_31 ⟨by decide, by decide⟩ (show Cond.constantLong _ _ (Int64.ofInt (-1)) ∈ lw_all from q2746)) 34 rfl ?_
  refine oc (y := mt_376) (pc := 34) (ok_lcmp dX7_qTakes_34) 35 rfl ?_
  refine oc_if dX7_qTakes_35 ⟨by decide, by decide⟩ 38 rfl ?_
  exact oc_fall rfl
theorem o_376_38 : okL gmt mt_376 38 b_376_38 := by
  refine oc (y := mt_376) (pc := 38) (ok_iload_n dX7_qTakes_38) 39 rfl ?_
  refine oc (y := mt_376) (pc := 39) (ok_iconst dX7_qTakes_39 rfl ⟨by decide, by decide⟩) 40 rfl ?_
  refine oc_icmp dX7_qTakes_40 ⟨by decide, by decide⟩ 43 rfl ?_
  refine oc (y := mt_376) (pc := 43) (ok_iload dX7_qTakes_43) 45 rfl ?_
  refine oc_if dX7_qTakes_45 ⟨by decide, by decide⟩ 48 rfl ?_
  exact oc_fall rfl
theorem o_376_48 : okL gmt mt_376 48 b_376_48 := by
  refine oc (y := mt_376) (pc := 48) (ok_aload_n dX7_qTakes_48) 49 rfl ?_
  refine oc (y := mt_376) (pc := 49) (ok_iload dX7_qTakes_49) 51 rfl ?_
  refine oc (y := mt_376) (pc := 51) (ok_i2l dX7_qTakes_51) 52 rfl ?_
  refine oc (y := mt_376) (pc := 52) (ok_putfield dX7_qTakes_52 (fp (own := "GardenChessModel") (idx := 749) (g := 9) (k := 118) (r := (RX7, TX7, 122)) rfl ⟨⟨by decide, by decide⟩, by decide⟩ (Or.inl q1930) (Or.inl rfl) rfl (Or.inl rfl) (fp_nil))) 55 rfl ?_
  exact oc_fall rfl
theorem o_376_55 : okL gmt mt_376 55 b_376_55 := by
  refine oc (y := mt_376) (pc := 55) (ok_iload_n dX7_qTakes_55) 56 rfl ?_
  refine oc (y := mt_376) (pc := 56) (ok_iconst dX7_qTakes_56 rfl ⟨by decide, by decide⟩) 57 rfl ?_
  refine oc_icmp dX7_qTakes_57 ⟨by decide, by decide⟩ 60 rfl ?_
  refine oc (y := mt_376) (pc := 60) (ok_iload dX7_qTakes_60) 62 rfl ?_
  refine oc_if dX7_qTakes_62 ⟨by decide, by decide⟩ 65 rfl ?_
  refine oc (y := mt_376) (pc := 65) (ok_aload_n dX7_qTakes_65) 66 rfl ?_
  refine oc (y := mt_376) (pc := 66) (ok_dup dX7_qTakes_66) 67 rfl ?_
  refine oc (y := mt_376) (pc := 67) (ok_getfield dX7_qTakes_67 (fg (own := "GardenChessModel") (idx := 749) (g := 9) (k := 118) (r := (RX7, TX7, 122)) rfl ⟨⟨by decide, by decide⟩, by decide⟩ (Or.inl q1930) (Or.inl rfl) rfl (fg_nil))) 70 rfl ?_
  refine oc (y := mt_376) (pc := 70) (ok_lconst dX7_qTakes_70 (by decide) ⟨by decide, by decide⟩) 71 rfl ?_
  refine oc (y := mt_376) (pc := 71) (ok_ladd dX7_qTakes_71) 72 rfl ?_
  refine oc (y := mt_376) (pc := 72) (ok_putfield dX7_qTakes_72 (fp (own := "GardenChessModel") (idx := 749) (g := 9) (k := 118) (r := (RX7, TX7, 122)) rfl ⟨⟨by decide, by decide⟩, by decide⟩ (Or.inl q1930) (Or.inl rfl) rfl (Or.inl rfl) (fp_nil))) 75 rfl ?_
  exact oc_fall rfl
theorem o_376_75 : okL gmt mt_376 75 b_376_75 := by
  refine oc (y := mt_376) (pc := 75) (ok_iload_n dX7_qTakes_75) 76 rfl ?_
  refine oc (y := mt_376) (pc := 76) (ok_iconst dX7_qTakes_76 rfl ⟨by decide, by decide⟩) 77 rfl ?_
  refine oc_icmp dX7_qTakes_77 ⟨by decide, by decide⟩ 80 rfl ?_
  refine oc (y := mt_376) (pc := 80) (ok_aload_n dX7_qTakes_80) 81 rfl ?_
  refine oc (y := mt_376) (pc := 81) (ok_dup dX7_qTakes_81) 82 rfl ?_
  refine oc (y := mt_376) (pc := 82) (ok_getfield dX7_qTakes_82 (fg (own := "GardenChessModel") (idx := 749) (g := 9) (k := 118) (r := (RX7, TX7, 122)) rfl ⟨⟨by decide, by decide⟩, by decide⟩ (Or.inl q1930) (Or.inl rfl) rfl (fg_nil))) 85 rfl ?_
  refine oc (y := mt_376) (pc := 85) (ok_lload_n dX7_qTakes_85) 86 rfl ?_
  refine oc (y := mt_376) (pc := 86) (ok_ladd dX7_qTakes_86) 87 rfl ?_
  refine oc (y := mt_376) (pc := 87) (ok_putfield dX7_qTakes_87 (fp (own := "GardenChessModel") (idx := 749) (g := 9) (k := 118) (r := (RX7, TX7, 122)) rfl ⟨⟨by decide, by decide⟩, by decide⟩ (Or.inl q1930) (Or.inl rfl) rfl (Or.inl rfl) (fp_nil))) 90 rfl ?_
  exact oc_fall rfl
theorem o_376_90 : okL gmt mt_376 90 b_376_90 := by
  refine oc (y := mt_376) (pc := 90) (ok_iload_n dX7_qTakes_90) 91 rfl ?_
  refine oc (y := mt_376) (pc := 91) (ok_iconst dX7_qTakes_91 rfl ⟨by decide, by decide⟩) 92 rfl ?_
  refine oc_icmp dX7_qTakes_92 ⟨by decide, by decide⟩ 95 rfl ?_
  refine oc (y := mt_376) (pc := 95) (ok_aload_n dX7_qTakes_95) 96 rfl ?_
  refine oc (y := mt_376) (pc := 96) (ok_getfield dX7_qTakes_96 (fg (own := "GardenChessModel") (idx := 754) (g := 9) (k := 119) (r := (RX7, TX7, 122)) rfl ⟨⟨by decide, by decide⟩, by decide⟩ (Or.inl q1931) (Or.inl rfl) rfl (fg_nil))) 99 rfl ?_
  refine oc_if dX7_qTakes_99 ⟨by decide, by decide⟩ 102 rfl ?_
  refine oc (y := mt_376) (pc := 102) (ok_iload_n dX7_qTakes_102) 103 rfl ?_
  refine oc (y := mt_376) (pc := 103) (ok_iconst dX7_qTakes_103 rfl ⟨by decide, by decide⟩) 104 rfl ?_
  refine oc_icmp dX7_qTakes_104 ⟨by decide, by decide⟩ 107 rfl ?_
  refine oc (y := mt_376) (pc := 107) (ok_lload_n dX7_qTakes_107) 108 rfl ?_
  refine oc (y := mt_376) (pc := 108) (ok_aload_n dX7_qTakes_108) 109 rfl ?_
  refine oc (y := mt_376) (pc := 109) (ok_getfield dX7_qTakes_109 (fg (own := "GardenChessModel") (idx := 749) (g := 9) (k := 118) (r := (RX7, TX7, 122)) rfl ⟨⟨by decide, by decide⟩, by decide⟩ (Or.inl q1930) (Or.inl rfl) rfl (fg_nil))) 112 rfl ?_
  refine oc (y := mt_376) (pc := 112) (ok_lcmp dX7_qTakes_112) 113 rfl ?_
  refine oc_if dX7_qTakes_113 ⟨by decide, by decide⟩ 116 rfl ?_
  exact oc_goto dX7_qTakes_116 ⟨by decide, by decide⟩
theorem o_376_119 : okL gmt mt_376 119 b_376_119 := by
  refine oc (y := mt_376) (pc := 119) (ok_lload_n dX7_qTakes_119) 120 rfl ?_
  refine oc (y := mt_376) (pc := 120) (ok_aload_n dX7_qTakes_120) 121 rfl ?_
  refine oc (y := mt_376) (pc := 121) (ok_getfield dX7_qTakes_121 (fg (own := "GardenChessModel") (idx := 749) (g := 9) (k := 118) (r := (RX7, TX7, 122)) rfl ⟨⟨by decide, by decide⟩, by decide⟩ (Or.inl q1930) (Or.inl rfl) rfl (fg_nil))) 124 rfl ?_
  refine oc (y := mt_376) (pc := 124) (ok_lcmp dX7_qTakes_124) 125 rfl ?_
  refine oc_if dX7_qTakes_125 ⟨by decide, by decide⟩ 128 rfl ?_
  exact oc_fall rfl
theorem o_376_128 : okL gmt mt_376 128 b_376_128 := by
  refine oc (y := mt_376) (pc := 128) (ok_aload_n dX7_qTakes_128) 129 rfl ?_
  refine oc (y := mt_376) (pc := 129) (ok_lload_n dX7_qTakes_129) 130 rfl ?_
  refine oc (y := mt_376) (pc := 130) (ok_putfield dX7_qTakes_130 (fp (own := "GardenChessModel") (idx := 749) (g := 9) (k := 118) (r := (RX7, TX7, 122)) rfl ⟨⟨by decide, by decide⟩, by decide⟩ (Or.inl q1930) (Or.inl rfl) rfl (Or.inl rfl) (fp_nil))) 133 rfl ?_
  exact oc_fall rfl
theorem o_376_133 : okL gmt mt_376 133 b_376_133 := by
  refine oc (y := mt_376) (pc := 133) (ok_aload_n dX7_qTakes_133) 134 rfl ?_
  refine oc (y := mt_376) (pc := 134) (ok_iconst dX7_qTakes_134 rfl ⟨by decide, by decide⟩) 135 rfl ?_
  refine oc (y := mt_376) (pc := 135) (ok_putfield dX7_qTakes_135 (fp (own := "GardenChessModel") (idx := 754) (g := 9) (k := 119) (r := (RX7, TX7, 122)) rfl ⟨⟨by decide, by decide⟩, by decide⟩ (Or.inl q1931) (Or.inl rfl) rfl (Or.inl rfl) (fp_nil))) 138 rfl ?_
  exact oc_ret dX7_qTakes_138 rfl
theorem ok_376 : ∀ q ∈ pr_376, okL gmt mt_376 q.1 q.2 := pk_c o_376_0 (pk_c o_376_15 (pk_c o_376_16 (pk_c o_376_38 (pk_c o_376_48 (pk_c o_376_55 (pk_c o_376_75 (pk_c o_376_90 (pk_c o_376_119 (pk_c o_376_128 (pk_c o_376_133 (pk_n)))))))))))
