set_option maxRecDepth 100000
theorem nf_0 : ∀ k, k < 25 → gty 0 k ≠ .float ∧ gty 0 k ≠ .double := by decide +kernel
theorem nf_1 : ∀ k, k < 10 → gty 1 k ≠ .float ∧ gty 1 k ≠ .double := by decide +kernel
theorem nf_2 : ∀ k, k < 3 → gty 2 k ≠ .float ∧ gty 2 k ≠ .double := by decide +kernel
theorem nf_3 : ∀ k, k < 8 → gty 3 k ≠ .float ∧ gty 3 k ≠ .double := by decide +kernel
theorem nf_4 : ∀ k, k < 8 → gty 4 k ≠ .float ∧ gty 4 k ≠ .double := by decide +kernel
theorem nf_5 : ∀ k, k < 1 → gty 5 k ≠ .float ∧ gty 5 k ≠ .double := by decide +kernel
theorem nf_6 : ∀ k, k < 3 → gty 6 k ≠ .float ∧ gty 6 k ≠ .double := by decide +kernel
theorem nf_7 : ∀ k, k < 12 → gty 7 k ≠ .float ∧ gty 7 k ≠ .double := by decide +kernel
theorem nf_8 : ∀ k, k < 122 → gty 8 k ≠ .float ∧ gty 8 k ≠ .double := by decide +kernel
theorem nf_9 : ∀ k, k < 4 → gty 9 k ≠ .float ∧ gty 9 k ≠ .double := by decide +kernel
theorem nf_10 : ∀ k, k < 4 → gty 10 k ≠ .float ∧ gty 10 k ≠ .double := by decide +kernel
theorem nf_11 : ∀ k, k < 5 → gty 11 k ≠ .float ∧ gty 11 k ≠ .double := by decide +kernel
theorem nf_12 : ∀ k, k < 5 → gty 12 k ≠ .float ∧ gty 12 k ≠ .double := by decide +kernel
theorem nf_13 : ∀ k, k < 4 → gty 13 k ≠ .float ∧ gty 13 k ≠ .double := by decide +kernel
theorem nf_14 : ∀ k, k < 2 → gty 14 k ≠ .float ∧ gty 14 k ≠ .double := by decide +kernel
theorem nf_15 : ∀ k, k < 3 → gty 15 k ≠ .float ∧ gty 15 k ≠ .double := by decide +kernel
theorem nf_16 : ∀ k, k < 1 → gty 16 k ≠ .float ∧ gty 16 k ≠ .double := by decide +kernel
theorem nf_17 : ∀ k, k < 1 → gty 17 k ≠ .float ∧ gty 17 k ≠ .double := by decide +kernel
theorem nf_18 : ∀ k, k < 3 → gty 18 k ≠ .float ∧ gty 18 k ≠ .double := by decide +kernel
theorem nf_19 : ∀ k, k < 5 → gty 19 k ≠ .float ∧ gty 19 k ≠ .double := by decide +kernel
theorem nf_20 : ∀ k, k < 2 → gty 20 k ≠ .float ∧ gty 20 k ≠ .double := by decide +kernel
theorem nf_21 : ∀ k, k < 1 → gty 21 k ≠ .float ∧ gty 21 k ≠ .double := by decide +kernel
theorem nf_22 : ∀ k, k < 0 → gty 22 k ≠ .float ∧ gty 22 k ≠ .double := by decide +kernel
theorem nf_23 : ∀ k, k < 3 → gty 23 k ≠ .float ∧ gty 23 k ≠ .double := by decide +kernel
theorem o_0_0 : okL gmt mt_0 0 b_0_0 := by
  refine oc (y := mt_0) (pc := 0) (ok_new (C := RX0) (T := TX0) (N := 25) (ci := 0) dL_law_0 rfl rfl rfl nf_0 q204 q205 q162) 3 rfl ?_
  refine oc (y := mt_0) (pc := 3) (ok_dup dL_law_3) 4 rfl ?_
  refine oc_I (y := mt_0) (pc := 4) (vcons (y := mt_0) (pc := 4) (len := 3) (n := 1) (M := mt_80) (by decide) rfl (Or.inl rfl) rfl (ck_I dL_law_4 ⟨by decide, by decide, by decide, by decide +kernel⟩ rfl q206 q207 q162 q208) (vnil)) (hok0 rfl) (by decide) 7 rfl ?_
  refine oc (y := mt_0) (pc := 7) (ok_astore_n dL_law_7 (by decide)) 8 rfl ?_
  refine oc (y := mt_0) (pc := 8) (ok_new (C := RX7) (T := TX7) (N := 122) (ci := 8) dL_law_8 rfl rfl rfl nf_8 q1806 q1807 q177) 11 rfl ?_
  refine oc (y := mt_0) (pc := 11) (ok_dup dL_law_11) 12 rfl ?_
  refine oc_I (y := mt_0) (pc := 12) (vcons (y := mt_0) (pc := 12) (len := 3) (n := 1) (M := mt_233) (by decide) rfl (Or.inl rfl) rfl (ck_I dL_law_12 ⟨by decide, by decide, by decide, by decide +kernel⟩ rfl q1808 q1809 q177 q1810) (vnil)) (hok0 rfl) (by decide) 15 rfl ?_
  refine oc (y := mt_0) (pc := 15) (ok_astore_n dL_law_15 (by decide)) 16 rfl ?_
  refine oc (y := mt_0) (pc := 16) (ok_iconst dL_law_16 rfl ⟨by decide, by decide⟩) 17 rfl ?_
  refine oc (y := mt_0) (pc := 17) (ok_istore_n dL_law_17 (by decide)) 18 rfl ?_
  exact oc_fall rfl
theorem o_0_18 : okL gmt mt_0 18 b_0_18 := by
  refine oc (y := mt_0) (pc := 18) (ok_iload_n dL_law_18) 19 rfl ?_
  refine oc (y := mt_0) (pc := 19) (ok_aload_n dL_law_19) 20 rfl ?_
  refine oc (y := mt_0) (pc := 20) (ok_alen dL_law_20) 21 rfl ?_
  refine oc (y := mt_0) (pc := 21) (ok_bipush dL_law_21 (by decide) ⟨by decide, by decide⟩) 23 rfl ?_
  refine oc (y := mt_0) (pc := 23) (ok_isub dL_law_23) 24 rfl ?_
  refine oc_icmp dL_law_24 ⟨by decide, by decide⟩ 27 rfl ?_
  refine oc (y := mt_0) (pc := 27) (ok_aload_n dL_law_27) 28 rfl ?_
  refine oc (y := mt_0) (pc := 28) (ok_iload_n dL_law_28) 29 rfl ?_
  refine oc (y := mt_0) (pc := 29) (ok_iaload dL_law_29) 30 rfl ?_
  refine oc (y := mt_0) (pc := 30) (ok_bipush dL_law_30 (by decide) ⟨by decide, by decide⟩) 32 rfl ?_
  refine oc (y := mt_0) (pc := 32) (ok_iand dL_law_32) 33 rfl ?_
  exact oc_tsw dL_law_33 (by decide) (by decide +kernel)
theorem o_0_188 : okL gmt mt_0 188 b_0_188 := by
  refine oc (y := mt_0) (pc := 188) (ok_aload_n dL_law_188) 189 rfl ?_
  refine oc (y := mt_0) (pc := 189) (ok_aload_n dL_law_189) 190 rfl ?_
  refine oc (y := mt_0) (pc := 190) (ok_iload_n dL_law_190) 191 rfl ?_
  refine oc (y := mt_0) (pc := 191) (ok_iconst dL_law_191 rfl ⟨by decide, by decide⟩) 192 rfl ?_
  refine oc (y := mt_0) (pc := 192) (ok_iadd dL_law_192) 193 rfl ?_
  refine oc (y := mt_0) (pc := 193) (ok_iaload dL_law_193) 194 rfl ?_
  refine oc (y := mt_0) (pc := 194) (ok_aload_n dL_law_194) 195 rfl ?_
  refine oc (y := mt_0) (pc := 195) (ok_iload_n dL_law_195) 196 rfl ?_
  refine oc (y := mt_0) (pc := 196) (ok_iconst dL_law_196 rfl ⟨by decide, by decide⟩) 197 rfl ?_
  refine oc (y := mt_0) (pc := 197) (ok_iadd dL_law_197) 198 rfl ?_
  refine oc (y := mt_0) (pc := 198) (ok_iaload dL_law_198) 199 rfl ?_
  refine oc (y := mt_0) (pc := 199) (ok_aload_n dL_law_199) 200 rfl ?_
  refine oc (y := mt_0) (pc := 200) (ok_iload_n dL_law_200) 201 rfl ?_
  refine oc (y := mt_0) (pc := 201) (ok_iconst dL_law_201 rfl ⟨by decide, by decide⟩) 202 rfl ?_
  refine oc (y := mt_0) (pc := 202) (ok_iadd dL_law_202) 203 rfl ?_
  refine oc (y := mt_0) (pc := 203) (ok_iaload dL_law_203) 204 rfl ?_
  refine oc (y := mt_0) (pc := 204) (ok_aload_n dL_law_204) 205 rfl ?_
  refine oc (y := mt_0) (pc := 205) (ok_iload_n dL_law_205) 206 rfl ?_
  refine oc (y := mt_0) (pc := 206) (ok_iconst dL_law_206 rfl ⟨by decide, by decide⟩) 207 rfl ?_
  refine oc (y := mt_0) (pc := 207) (ok_iadd dL_law_207) 208 rfl ?_
  refine oc (y := mt_0) (pc := 208) (ok_iaload dL_law_208) 209 rfl ?_
  refine oc (y := mt_0) (pc := 209) (ok_aload_n dL_law_209) 210 rfl ?_
  refine oc (y := mt_0) (pc := 210) (ok_iload_n dL_law_210) 211 rfl ?_
  refine oc (y := mt_0) (pc := 211) (ok_iconst dL_law_211 rfl ⟨by decide, by decide⟩) 212 rfl ?_
  refine oc (y := mt_0) (pc := 212) (ok_iadd dL_law_212) 213 rfl ?_
  refine oc (y := mt_0) (pc := 213) (ok_iaload dL_law_213) 214 rfl ?_
  refine oc_V (y := mt_0) (pc := 214) (vcons (y := mt_0) (pc := 214) (len := 3) (n := 6) (M := mt_84) (by decide) rfl (Or.inr rfl) rfl (ck_V dL_law_214 ⟨by decide, by decide, by decide, by decide +kernel⟩ q619 q620 q621 q162 q622) vnil) (hok0 rfl) (by decide) 217 rfl ?_
  refine oc (y := mt_0) (pc := 217) (ok_aload_n dL_law_217) 218 rfl ?_
  refine oc (y := mt_0) (pc := 218) (ok_aload_n dL_law_218) 219 rfl ?_
  refine oc (y := mt_0) (pc := 219) (ok_iload_n dL_law_219) 220 rfl ?_
  refine oc (y := mt_0) (pc := 220) (ok_iconst dL_law_220 rfl ⟨by decide, by decide⟩) 221 rfl ?_
  refine oc (y := mt_0) (pc := 221) (ok_iadd dL_law_221) 222 rfl ?_
  refine oc (y := mt_0) (pc := 222) (ok_iaload dL_law_222) 223 rfl ?_
  refine oc (y := mt_0) (pc := 223) (ok_aload_n dL_law_223) 224 rfl ?_
  refine oc (y := mt_0) (pc := 224) (ok_iload_n dL_law_224) 225 rfl ?_
  refine oc (y := mt_0) (pc := 225) (ok_iconst dL_law_225 rfl ⟨by decide, by decide⟩) 226 rfl ?_
  refine oc (y := mt_0) (pc := 226) (ok_iadd dL_law_226) 227 rfl ?_
  refine oc (y := mt_0) (pc := 227) (ok_iaload dL_law_227) 228 rfl ?_
  refine oc (y := mt_0) (pc := 228) (ok_aload_n dL_law_228) 229 rfl ?_
  refine oc (y := mt_0) (pc := 229) (ok_iload_n dL_law_229) 230 rfl ?_
  refine oc (y := mt_0) (pc := 230) (ok_iconst dL_law_230 rfl ⟨by decide, by decide⟩) 231 rfl ?_
  refine oc (y := mt_0) (pc := 231) (ok_iadd dL_law_231) 232 rfl ?_
  refine oc (y := mt_0) (pc := 232) (ok_iaload dL_law_232) 233 rfl ?_
  refine oc (y := mt_0) (pc := 233) (ok_aload_n dL_law_233) 234 rfl ?_
  refine oc (y := mt_0) (pc := 234) (ok_iload_n dL_law_234) 235 rfl ?_
  refine oc (y := mt_0) (pc := 235) (ok_iconst dL_law_235 rfl ⟨by decide, by decide⟩) 236 rfl ?_
  refine oc (y := mt_0) (pc := 236) (ok_iadd dL_law_236) 237 rfl ?_
  refine oc (y := mt_0) (pc := 237) (ok_iaload dL_law_237) 238 rfl ?_
  exact oc_fall rfl
theorem o_0_238 : okL gmt mt_0 238 b_0_238 := by
  refine oc (y := mt_0) (pc := 238) (ok_aload_n dL_law_238) 239 rfl ?_
  refine oc (y := mt_0) (pc := 239) (ok_iload_n dL_law_239) 240 rfl ?_
  refine oc (y := mt_0) (pc := 240) (ok_iconst dL_law_240 rfl ⟨by decide, by decide⟩) 241 rfl ?_
  refine oc (y := mt_0) (pc := 241) (ok_iadd dL_law_241) 242 rfl ?_
  refine oc (y := mt_0) (pc := 242) (ok_iaload dL_law_242) 243 rfl ?_
  refine oc_V (y := mt_0) (pc := 243) (vcons (y := mt_0) (pc := 243) (len := 3) (n := 6) (M := mt_234) (by decide) rfl (Or.inr rfl) rfl (ck_V dL_law_243 ⟨by decide, by decide, by decide, by decide +kernel⟩ q2179 q2180 q2181 q177 q2182) vnil) (hok0 rfl) (by decide) 246 rfl ?_
  refine oc_icmp dL_law_246 ⟨by decide, by decide⟩ 249 rfl ?_
  refine oc (y := mt_0) (pc := 249) (ok_iconst dL_law_249 rfl ⟨by decide, by decide⟩) 250 rfl ?_
  exact oc_zret dL_law_250 rfl
theorem o_0_251 : okL gmt mt_0 251 b_0_251 := by
  refine oc (y := mt_0) (pc := 251) (ok_aload_n dL_law_251) 252 rfl ?_
  refine oc (y := mt_0) (pc := 252) (ok_aload_n dL_law_252) 253 rfl ?_
  refine oc (y := mt_0) (pc := 253) (ok_iload_n dL_law_253) 254 rfl ?_
  refine oc (y := mt_0) (pc := 254) (ok_iconst dL_law_254 rfl ⟨by decide, by decide⟩) 255 rfl ?_
  refine oc (y := mt_0) (pc := 255) (ok_iadd dL_law_255) 256 rfl ?_
  refine oc (y := mt_0) (pc := 256) (ok_iaload dL_law_256) 257 rfl ?_
  refine oc_V (y := mt_0) (pc := 257) (vcons (y := mt_0) (pc := 257) (len := 3) (n := 2) (M := mt_87) (by decide) rfl (Or.inr rfl) rfl (ck_V dL_law_257 ⟨by decide, by decide, by decide, by decide +kernel⟩ q631 q632 q633 q162 q634) vnil) (hok0 rfl) (by decide) 260 rfl ?_
  refine oc (y := mt_0) (pc := 260) (ok_aload_n dL_law_260) 261 rfl ?_
  refine oc (y := mt_0) (pc := 261) (ok_aload_n dL_law_261) 262 rfl ?_
  refine oc (y := mt_0) (pc := 262) (ok_iload_n dL_law_262) 263 rfl ?_
  refine oc (y := mt_0) (pc := 263) (ok_iconst dL_law_263 rfl ⟨by decide, by decide⟩) 264 rfl ?_
  refine oc (y := mt_0) (pc := 264) (ok_iadd dL_law_264) 265 rfl ?_
  refine oc (y := mt_0) (pc := 265) (ok_iaload dL_law_265) 266 rfl ?_
  refine oc_V (y := mt_0) (pc := 266) (vcons (y := mt_0) (pc := 266) (len := 3) (n := 2) (M := mt_235) (by decide) rfl (Or.inr rfl) rfl (ck_V dL_law_266 ⟨by decide, by decide, by decide, by decide +kernel⟩ q2183 q2184 q2185 q177 q2186) vnil) (hok0 rfl) (by decide) 269 rfl ?_
  refine oc_icmp dL_law_269 ⟨by decide, by decide⟩ 272 rfl ?_
  refine oc (y := mt_0) (pc := 272) (ok_iconst dL_law_272 rfl ⟨by decide, by decide⟩) 273 rfl ?_
  exact oc_zret dL_law_273 rfl
theorem o_0_274 : okL gmt mt_0 274 b_0_274 := by
  refine oc (y := mt_0) (pc := 274) (ok_aload_n dL_law_274) 275 rfl ?_
  refine oc_V (y := mt_0) (pc := 275) (vcons (y := mt_0) (pc := 275) (len := 3) (n := 1) (M := mt_88) (by decide) rfl (Or.inr rfl) rfl (ck_VH dL_law_275 ⟨by decide, by decide, by decide, by decide +kernel⟩ q635 q636 q637 q162 q638) vnil) (hokN (by decide)) (by decide) 278 rfl ?_
  refine oc (y := mt_0) (pc := 278) (ok_aload_n dL_law_278) 279 rfl ?_
  refine oc_V (y := mt_0) (pc := 279) (vcons (y := mt_0) (pc := 279) (len := 3) (n := 1) (M := mt_236) (by decide) rfl (Or.inr rfl) rfl (ck_V dL_law_279 ⟨by decide, by decide, by decide, by decide +kernel⟩ q2187 q2188 q2189 q177 q2190) vnil) (hok0 rfl) (by decide) 282 rfl ?_
  refine oc_icmp dL_law_282 ⟨by decide, by decide⟩ 285 rfl ?_
  refine oc (y := mt_0) (pc := 285) (ok_iconst dL_law_285 rfl ⟨by decide, by decide⟩) 286 rfl ?_
  exact oc_zret dL_law_286 rfl
theorem o_0_287 : okL gmt mt_0 287 b_0_287 := by
  refine oc (y := mt_0) (pc := 287) (ok_aload_n dL_law_287) 288 rfl ?_
  refine oc (y := mt_0) (pc := 288) (ok_aload_n dL_law_288) 289 rfl ?_
  refine oc (y := mt_0) (pc := 289) (ok_iload_n dL_law_289) 290 rfl ?_
  refine oc (y := mt_0) (pc := 290) (ok_iconst dL_law_290 rfl ⟨by decide, by decide⟩) 291 rfl ?_
  refine oc (y := mt_0) (pc := 291) (ok_iadd dL_law_291) 292 rfl ?_
  refine oc (y := mt_0) (pc := 292) (ok_iaload dL_law_292) 293 rfl ?_
  refine oc_V (y := mt_0) (pc := 293) (vcons (y := mt_0) (pc := 293) (len := 3) (n := 2) (M := mt_96) (by decide) rfl (Or.inr rfl) rfl (ck_V dL_law_293 ⟨by decide, by decide, by decide, by decide +kernel⟩ q1281 q1282 q1283 q162 q1284) vnil) (hok0 rfl) (by decide) 296 rfl ?_
  refine oc (y := mt_0) (pc := 296) (ok_aload_n dL_law_296) 297 rfl ?_
  refine oc (y := mt_0) (pc := 297) (ok_aload_n dL_law_297) 298 rfl ?_
  refine oc (y := mt_0) (pc := 298) (ok_iload_n dL_law_298) 299 rfl ?_
  refine oc (y := mt_0) (pc := 299) (ok_iconst dL_law_299 rfl ⟨by decide, by decide⟩) 300 rfl ?_
  refine oc (y := mt_0) (pc := 300) (ok_iadd dL_law_300) 301 rfl ?_
  refine oc (y := mt_0) (pc := 301) (ok_iaload dL_law_301) 302 rfl ?_
  refine oc_V (y := mt_0) (pc := 302) (vcons (y := mt_0) (pc := 302) (len := 3) (n := 2) (M := mt_277) (by decide) rfl (Or.inr rfl) rfl (ck_V dL_law_302 ⟨by decide, by decide, by decide, by decide +kernel⟩ q2349 q2350 q2351 q177 q2352) vnil) (hok0 rfl) (by decide) 305 rfl ?_
  refine oc_icmp dL_law_305 ⟨by decide, by decide⟩ 308 rfl ?_
  refine oc (y := mt_0) (pc := 308) (ok_iconst dL_law_308 rfl ⟨by decide, by decide⟩) 309 rfl ?_
  exact oc_zret dL_law_309 rfl
theorem o_0_310 : okL gmt mt_0 310 b_0_310 := by
  refine oc (y := mt_0) (pc := 310) (ok_aload_n dL_law_310) 311 rfl ?_
  refine oc (y := mt_0) (pc := 311) (ok_aload_n dL_law_311) 312 rfl ?_
  refine oc (y := mt_0) (pc := 312) (ok_iload_n dL_law_312) 313 rfl ?_
  refine oc (y := mt_0) (pc := 313) (ok_iconst dL_law_313 rfl ⟨by decide, by decide⟩) 314 rfl ?_
  refine oc (y := mt_0) (pc := 314) (ok_iadd dL_law_314) 315 rfl ?_
  refine oc (y := mt_0) (pc := 315) (ok_iaload dL_law_315) 316 rfl ?_
  refine oc_V (y := mt_0) (pc := 316) (vcons (y := mt_0) (pc := 316) (len := 3) (n := 2) (M := mt_97) (by decide) rfl (Or.inr rfl) rfl (ck_V dL_law_316 ⟨by decide, by decide, by decide, by decide +kernel⟩ q1285 q1286 q1287 q162 q1288) vnil) (hok0 rfl) (by decide) 319 rfl ?_
  refine oc (y := mt_0) (pc := 319) (ok_aload_n dL_law_319) 320 rfl ?_
  refine oc (y := mt_0) (pc := 320) (ok_aload_n dL_law_320) 321 rfl ?_
  refine oc (y := mt_0) (pc := 321) (ok_iload_n dL_law_321) 322 rfl ?_
  refine oc (y := mt_0) (pc := 322) (ok_iconst dL_law_322 rfl ⟨by decide, by decide⟩) 323 rfl ?_
  refine oc (y := mt_0) (pc := 323) (ok_iadd dL_law_323) 324 rfl ?_
  refine oc (y := mt_0) (pc := 324) (ok_iaload dL_law_324) 325 rfl ?_
  refine oc_V (y := mt_0) (pc := 325) (vcons (y := mt_0) (pc := 325) (len := 3) (n := 2) (M := mt_278) (by decide) rfl (Or.inr rfl) rfl (ck_V dL_law_325 ⟨by decide, by decide, by decide, by decide +kernel⟩ q2353 q2354 q2355 q177 q2356) vnil) (hok0 rfl) (by decide) 328 rfl ?_
  refine oc_icmp dL_law_328 ⟨by decide, by decide⟩ 331 rfl ?_
  refine oc (y := mt_0) (pc := 331) (ok_iconst dL_law_331 rfl ⟨by decide, by decide⟩) 332 rfl ?_
  exact oc_zret dL_law_332 rfl
theorem o_0_333 : okL gmt mt_0 333 b_0_333 := by
  refine oc (y := mt_0) (pc := 333) (ok_aload_n dL_law_333) 334 rfl ?_
  refine oc (y := mt_0) (pc := 334) (ok_aload_n dL_law_334) 335 rfl ?_
  refine oc (y := mt_0) (pc := 335) (ok_iload_n dL_law_335) 336 rfl ?_
  refine oc (y := mt_0) (pc := 336) (ok_iconst dL_law_336 rfl ⟨by decide, by decide⟩) 337 rfl ?_
  refine oc (y := mt_0) (pc := 337) (ok_iadd dL_law_337) 338 rfl ?_
  refine oc (y := mt_0) (pc := 338) (ok_iaload dL_law_338) 339 rfl ?_
  refine oc (y := mt_0) (pc := 339) (ok_aload_n dL_law_339) 340 rfl ?_
  refine oc (y := mt_0) (pc := 340) (ok_iload_n dL_law_340) 341 rfl ?_
  refine oc (y := mt_0) (pc := 341) (ok_iconst dL_law_341 rfl ⟨by decide, by decide⟩) 342 rfl ?_
  refine oc (y := mt_0) (pc := 342) (ok_iadd dL_law_342) 343 rfl ?_
  refine oc (y := mt_0) (pc := 343) (ok_iaload dL_law_343) 344 rfl ?_
  refine oc (y := mt_0) (pc := 344) (ok_aload_n dL_law_344) 345 rfl ?_
  refine oc (y := mt_0) (pc := 345) (ok_iload_n dL_law_345) 346 rfl ?_
  refine oc (y := mt_0) (pc := 346) (ok_iconst dL_law_346 rfl ⟨by decide, by decide⟩) 347 rfl ?_
  refine oc (y := mt_0) (pc := 347) (ok_iadd dL_law_347) 348 rfl ?_
  refine oc (y := mt_0) (pc := 348) (ok_iaload dL_law_348) 349 rfl ?_
  refine oc_V (y := mt_0) (pc := 349) (vcons (y := mt_0) (pc := 349) (len := 3) (n := 4) (M := mt_99) (by decide) rfl (Or.inr rfl) rfl (ck_V dL_law_349 ⟨by decide, by decide, by decide, by decide +kernel⟩ q1326 q1327 q1328 q162 q1329) vnil) (hok0 rfl) (by decide) 352 rfl ?_
  refine oc (y := mt_0) (pc := 352) (ok_aload_n dL_law_352) 353 rfl ?_
  refine oc (y := mt_0) (pc := 353) (ok_aload_n dL_law_353) 354 rfl ?_
  refine oc (y := mt_0) (pc := 354) (ok_iload_n dL_law_354) 355 rfl ?_
  refine oc (y := mt_0) (pc := 355) (ok_iconst dL_law_355 rfl ⟨by decide, by decide⟩) 356 rfl ?_
  refine oc (y := mt_0) (pc := 356) (ok_iadd dL_law_356) 357 rfl ?_
  refine oc (y := mt_0) (pc := 357) (ok_iaload dL_law_357) 358 rfl ?_
  refine oc (y := mt_0) (pc := 358) (ok_aload_n dL_law_358) 359 rfl ?_
  refine oc (y := mt_0) (pc := 359) (ok_iload_n dL_law_359) 360 rfl ?_
  refine oc (y := mt_0) (pc := 360) (ok_iconst dL_law_360 rfl ⟨by decide, by decide⟩) 361 rfl ?_
  refine oc (y := mt_0) (pc := 361) (ok_iadd dL_law_361) 362 rfl ?_
  refine oc (y := mt_0) (pc := 362) (ok_iaload dL_law_362) 363 rfl ?_
  refine oc (y := mt_0) (pc := 363) (ok_aload_n dL_law_363) 364 rfl ?_
  refine oc (y := mt_0) (pc := 364) (ok_iload_n dL_law_364) 365 rfl ?_
  refine oc (y := mt_0) (pc := 365) (ok_iconst dL_law_365 rfl ⟨by decide, by decide⟩) 366 rfl ?_
  refine oc (y := mt_0) (pc := 366) (ok_iadd dL_law_366) 367 rfl ?_
  refine oc (y := mt_0) (pc := 367) (ok_iaload dL_law_367) 368 rfl ?_
  refine oc_V (y := mt_0) (pc := 368) (vcons (y := mt_0) (pc := 368) (len := 3) (n := 4) (M := mt_300) (by decide) rfl (Or.inr rfl) rfl (ck_V dL_law_368 ⟨by decide, by decide, by decide, by decide +kernel⟩ q2438 q2439 q2440 q177 q2441) vnil) (hok0 rfl) (by decide) 371 rfl ?_
  refine oc_icmp dL_law_371 ⟨by decide, by decide⟩ 374 rfl ?_
  refine oc (y := mt_0) (pc := 374) (ok_iconst dL_law_374 rfl ⟨by decide, by decide⟩) 375 rfl ?_
  exact oc_zret dL_law_375 rfl
theorem o_0_376 : okL gmt mt_0 376 b_0_376 := by
  refine oc (y := mt_0) (pc := 376) (ok_aload_n dL_law_376) 377 rfl ?_
  refine oc (y := mt_0) (pc := 377) (ok_aload_n dL_law_377) 378 rfl ?_
  refine oc (y := mt_0) (pc := 378) (ok_iload_n dL_law_378) 379 rfl ?_
  refine oc (y := mt_0) (pc := 379) (ok_iconst dL_law_379 rfl ⟨by decide, by decide⟩) 380 rfl ?_
  refine oc (y := mt_0) (pc := 380) (ok_iadd dL_law_380) 381 rfl ?_
  refine oc (y := mt_0) (pc := 381) (ok_iaload dL_law_381) 382 rfl ?_
  refine oc (y := mt_0) (pc := 382) (ok_aload_n dL_law_382) 383 rfl ?_
  refine oc (y := mt_0) (pc := 383) (ok_iload_n dL_law_383) 384 rfl ?_
  refine oc (y := mt_0) (pc := 384) (ok_iconst dL_law_384 rfl ⟨by decide, by decide⟩) 385 rfl ?_
  refine oc (y := mt_0) (pc := 385) (ok_iadd dL_law_385) 386 rfl ?_
  refine oc (y := mt_0) (pc := 386) (ok_iaload dL_law_386) 387 rfl ?_
  refine oc_V (y := mt_0) (pc := 387) (vcons (y := mt_0) (pc := 387) (len := 3) (n := 3) (M := mt_100) (by decide) rfl (Or.inr rfl) rfl (ck_V dL_law_387 ⟨by decide, by decide, by decide, by decide +kernel⟩ q1351 q1352 q1353 q162 q1354) vnil) (hok0 rfl) (by decide) 390 rfl ?_
  refine oc (y := mt_0) (pc := 390) (ok_aload_n dL_law_390) 391 rfl ?_
  refine oc (y := mt_0) (pc := 391) (ok_aload_n dL_law_391) 392 rfl ?_
  refine oc (y := mt_0) (pc := 392) (ok_iload_n dL_law_392) 393 rfl ?_
  refine oc (y := mt_0) (pc := 393) (ok_iconst dL_law_393 rfl ⟨by decide, by decide⟩) 394 rfl ?_
  refine oc (y := mt_0) (pc := 394) (ok_iadd dL_law_394) 395 rfl ?_
  refine oc (y := mt_0) (pc := 395) (ok_iaload dL_law_395) 396 rfl ?_
  refine oc (y := mt_0) (pc := 396) (ok_aload_n dL_law_396) 397 rfl ?_
  refine oc (y := mt_0) (pc := 397) (ok_iload_n dL_law_397) 398 rfl ?_
  refine oc (y := mt_0) (pc := 398) (ok_iconst dL_law_398 rfl ⟨by decide, by decide⟩) 399 rfl ?_
  refine oc (y := mt_0) (pc := 399) (ok_iadd dL_law_399) 400 rfl ?_
  refine oc (y := mt_0) (pc := 400) (ok_iaload dL_law_400) 401 rfl ?_
  refine oc_V (y := mt_0) (pc := 401) (vcons (y := mt_0) (pc := 401) (len := 3) (n := 3) (M := mt_301) (by decide) rfl (Or.inr rfl) rfl (ck_V dL_law_401 ⟨by decide, by decide, by decide, by decide +kernel⟩ q2444 q2445 q2446 q177 q2447) vnil) (hok0 rfl) (by decide) 404 rfl ?_
  refine oc_icmp dL_law_404 ⟨by decide, by decide⟩ 407 rfl ?_
  refine oc (y := mt_0) (pc := 407) (ok_iconst dL_law_407 rfl ⟨by decide, by decide⟩) 408 rfl ?_
  exact oc_zret dL_law_408 rfl
theorem o_0_409 : okL gmt mt_0 409 b_0_409 := by
  refine oc (y := mt_0) (pc := 409) (ok_aload_n dL_law_409) 410 rfl ?_
  refine oc (y := mt_0) (pc := 410) (ok_aload_n dL_law_410) 411 rfl ?_
  refine oc (y := mt_0) (pc := 411) (ok_iload_n dL_law_411) 412 rfl ?_
  refine oc (y := mt_0) (pc := 412) (ok_iconst dL_law_412 rfl ⟨by decide, by decide⟩) 413 rfl ?_
  refine oc (y := mt_0) (pc := 413) (ok_iadd dL_law_413) 414 rfl ?_
  refine oc (y := mt_0) (pc := 414) (ok_iaload dL_law_414) 415 rfl ?_
  refine oc (y := mt_0) (pc := 415) (ok_aload_n dL_law_415) 416 rfl ?_
  refine oc (y := mt_0) (pc := 416) (ok_iload_n dL_law_416) 417 rfl ?_
  refine oc (y := mt_0) (pc := 417) (ok_iconst dL_law_417 rfl ⟨by decide, by decide⟩) 418 rfl ?_
  refine oc (y := mt_0) (pc := 418) (ok_iadd dL_law_418) 419 rfl ?_
  refine oc (y := mt_0) (pc := 419) (ok_iaload dL_law_419) 420 rfl ?_
  refine oc_V (y := mt_0) (pc := 420) (vcons (y := mt_0) (pc := 420) (len := 3) (n := 3) (M := mt_101) (by decide) rfl (Or.inr rfl) rfl (ck_V dL_law_420 ⟨by decide, by decide, by decide, by decide +kernel⟩ q1355 q1356 q1357 q162 q1358) vnil) (hok0 rfl) (by decide) 423 rfl ?_
  refine oc (y := mt_0) (pc := 423) (ok_aload_n dL_law_423) 424 rfl ?_
  refine oc (y := mt_0) (pc := 424) (ok_aload_n dL_law_424) 425 rfl ?_
  refine oc (y := mt_0) (pc := 425) (ok_iload_n dL_law_425) 426 rfl ?_
  refine oc (y := mt_0) (pc := 426) (ok_iconst dL_law_426 rfl ⟨by decide, by decide⟩) 427 rfl ?_
  refine oc (y := mt_0) (pc := 427) (ok_iadd dL_law_427) 428 rfl ?_
  refine oc (y := mt_0) (pc := 428) (ok_iaload dL_law_428) 429 rfl ?_
  refine oc (y := mt_0) (pc := 429) (ok_aload_n dL_law_429) 430 rfl ?_
  refine oc (y := mt_0) (pc := 430) (ok_iload_n dL_law_430) 431 rfl ?_
  refine oc (y := mt_0) (pc := 431) (ok_iconst dL_law_431 rfl ⟨by decide, by decide⟩) 432 rfl ?_
  refine oc (y := mt_0) (pc := 432) (ok_iadd dL_law_432) 433 rfl ?_
  refine oc (y := mt_0) (pc := 433) (ok_iaload dL_law_433) 434 rfl ?_
  refine oc_V (y := mt_0) (pc := 434) (vcons (y := mt_0) (pc := 434) (len := 3) (n := 3) (M := mt_302) (by decide) rfl (Or.inr rfl) rfl (ck_V dL_law_434 ⟨by decide, by decide, by decide, by decide +kernel⟩ q2449 q2450 q2451 q177 q2452) vnil) (hok0 rfl) (by decide) 437 rfl ?_
  refine oc_icmp dL_law_437 ⟨by decide, by decide⟩ 440 rfl ?_
  refine oc (y := mt_0) (pc := 440) (ok_iconst dL_law_440 rfl ⟨by decide, by decide⟩) 441 rfl ?_
  exact oc_zret dL_law_441 rfl
theorem o_0_442 : okL gmt mt_0 442 b_0_442 := by
  refine oc (y := mt_0) (pc := 442) (ok_aload_n dL_law_442) 443 rfl ?_
  refine oc (y := mt_0) (pc := 443) (ok_aload_n dL_law_443) 444 rfl ?_
  refine oc (y := mt_0) (pc := 444) (ok_iload_n dL_law_444) 445 rfl ?_
  refine oc (y := mt_0) (pc := 445) (ok_iconst dL_law_445 rfl ⟨by decide, by decide⟩) 446 rfl ?_
  refine oc (y := mt_0) (pc := 446) (ok_iadd dL_law_446) 447 rfl ?_
  refine oc (y := mt_0) (pc := 447) (ok_iaload dL_law_447) 448 rfl ?_
  refine oc (y := mt_0) (pc := 448) (ok_aload_n dL_law_448) 449 rfl ?_
  refine oc (y := mt_0) (pc := 449) (ok_iload_n dL_law_449) 450 rfl ?_
  refine oc (y := mt_0) (pc := 450) (ok_iconst dL_law_450 rfl ⟨by decide, by decide⟩) 451 rfl ?_
  refine oc (y := mt_0) (pc := 451) (ok_iadd dL_law_451) 452 rfl ?_
  refine oc (y := mt_0) (pc := 452) (ok_iaload dL_law_452) 453 rfl ?_
  refine oc_V (y := mt_0) (pc := 453) (vcons (y := mt_0) (pc := 453) (len := 3) (n := 3) (M := mt_103) (by decide) rfl (Or.inr rfl) rfl (ck_V dL_law_453 ⟨by decide, by decide, by decide, by decide +kernel⟩ q1367 q1368 q1369 q162 q1370) vnil) (hok0 rfl) (by decide) 456 rfl ?_
  refine oc (y := mt_0) (pc := 456) (ok_aload_n dL_law_456) 457 rfl ?_
  refine oc (y := mt_0) (pc := 457) (ok_aload_n dL_law_457) 458 rfl ?_
  refine oc (y := mt_0) (pc := 458) (ok_iload_n dL_law_458) 459 rfl ?_
  refine oc (y := mt_0) (pc := 459) (ok_iconst dL_law_459 rfl ⟨by decide, by decide⟩) 460 rfl ?_
  refine oc (y := mt_0) (pc := 460) (ok_iadd dL_law_460) 461 rfl ?_
  refine oc (y := mt_0) (pc := 461) (ok_iaload dL_law_461) 462 rfl ?_
  refine oc (y := mt_0) (pc := 462) (ok_aload_n dL_law_462) 463 rfl ?_
  refine oc (y := mt_0) (pc := 463) (ok_iload_n dL_law_463) 464 rfl ?_
  refine oc (y := mt_0) (pc := 464) (ok_iconst dL_law_464 rfl ⟨by decide, by decide⟩) 465 rfl ?_
  refine oc (y := mt_0) (pc := 465) (ok_iadd dL_law_465) 466 rfl ?_
  refine oc (y := mt_0) (pc := 466) (ok_iaload dL_law_466) 467 rfl ?_
  refine oc_V (y := mt_0) (pc := 467) (vcons (y := mt_0) (pc := 467) (len := 3) (n := 3) (M := mt_304) (by decide) rfl (Or.inr rfl) rfl (ck_V dL_law_467 ⟨by decide, by decide, by decide, by decide +kernel⟩ q2457 q2458 q2459 q177 q2460) vnil) (hok0 rfl) (by decide) 470 rfl ?_
  refine oc_icmp dL_law_470 ⟨by decide, by decide⟩ 473 rfl ?_
  refine oc (y := mt_0) (pc := 473) (ok_iconst dL_law_473 rfl ⟨by decide, by decide⟩) 474 rfl ?_
  exact oc_zret dL_law_474 rfl
theorem o_0_475 : okL gmt mt_0 475 b_0_475 := by
  refine oc (y := mt_0) (pc := 475) (ok_aload_n dL_law_475) 476 rfl ?_
  refine oc (y := mt_0) (pc := 476) (ok_aload_n dL_law_476) 477 rfl ?_
  refine oc (y := mt_0) (pc := 477) (ok_iload_n dL_law_477) 478 rfl ?_
  refine oc (y := mt_0) (pc := 478) (ok_iconst dL_law_478 rfl ⟨by decide, by decide⟩) 479 rfl ?_
  refine oc (y := mt_0) (pc := 479) (ok_iadd dL_law_479) 480 rfl ?_
  refine oc (y := mt_0) (pc := 480) (ok_iaload dL_law_480) 481 rfl ?_
  refine oc (y := mt_0) (pc := 481) (ok_aload_n dL_law_481) 482 rfl ?_
  refine oc (y := mt_0) (pc := 482) (ok_iload_n dL_law_482) 483 rfl ?_
  refine oc (y := mt_0) (pc := 483) (ok_iconst dL_law_483 rfl ⟨by decide, by decide⟩) 484 rfl ?_
  refine oc (y := mt_0) (pc := 484) (ok_iadd dL_law_484) 485 rfl ?_
  refine oc (y := mt_0) (pc := 485) (ok_iaload dL_law_485) 486 rfl ?_
  refine oc_V (y := mt_0) (pc := 486) (vcons (y := mt_0) (pc := 486) (len := 3) (n := 3) (M := mt_105) (by decide) rfl (Or.inr rfl) rfl (ck_V dL_law_486 ⟨by decide, by decide, by decide, by decide +kernel⟩ q1376 q1377 q1378 q162 q1379) vnil) (hok0 rfl) (by decide) 489 rfl ?_
  refine oc (y := mt_0) (pc := 489) (ok_aload_n dL_law_489) 490 rfl ?_
  refine oc (y := mt_0) (pc := 490) (ok_aload_n dL_law_490) 491 rfl ?_
  refine oc (y := mt_0) (pc := 491) (ok_iload_n dL_law_491) 492 rfl ?_
  refine oc (y := mt_0) (pc := 492) (ok_iconst dL_law_492 rfl ⟨by decide, by decide⟩) 493 rfl ?_
  refine oc (y := mt_0) (pc := 493) (ok_iadd dL_law_493) 494 rfl ?_
  refine oc (y := mt_0) (pc := 494) (ok_iaload dL_law_494) 495 rfl ?_
  refine oc (y := mt_0) (pc := 495) (ok_aload_n dL_law_495) 496 rfl ?_
  refine oc (y := mt_0) (pc := 496) (ok_iload_n dL_law_496) 497 rfl ?_
  refine oc (y := mt_0) (pc := 497) (ok_iconst dL_law_497 rfl ⟨by decide, by decide⟩) 498 rfl ?_
  refine oc (y := mt_0) (pc := 498) (ok_iadd dL_law_498) 499 rfl ?_
  refine oc (y := mt_0) (pc := 499) (ok_iaload dL_law_499) 500 rfl ?_
  refine oc_V (y := mt_0) (pc := 500) (vcons (y := mt_0) (pc := 500) (len := 3) (n := 3) (M := mt_306) (by decide) rfl (Or.inr rfl) rfl (ck_V dL_law_500 ⟨by decide, by decide, by decide, by decide +kernel⟩ q2465 q2466 q2467 q177 q2468) vnil) (hok0 rfl) (by decide) 503 rfl ?_
  refine oc_icmp dL_law_503 ⟨by decide, by decide⟩ 506 rfl ?_
  refine oc (y := mt_0) (pc := 506) (ok_iconst dL_law_506 rfl ⟨by decide, by decide⟩) 507 rfl ?_
  exact oc_zret dL_law_507 rfl
theorem o_0_508 : okL gmt mt_0 508 b_0_508 := by
  refine oc (y := mt_0) (pc := 508) (ok_aload_n dL_law_508) 509 rfl ?_
  refine oc (y := mt_0) (pc := 509) (ok_aload_n dL_law_509) 510 rfl ?_
  refine oc (y := mt_0) (pc := 510) (ok_iload_n dL_law_510) 511 rfl ?_
  refine oc (y := mt_0) (pc := 511) (ok_iconst dL_law_511 rfl ⟨by decide, by decide⟩) 512 rfl ?_
  refine oc (y := mt_0) (pc := 512) (ok_iadd dL_law_512) 513 rfl ?_
  refine oc (y := mt_0) (pc := 513) (ok_iaload dL_law_513) 514 rfl ?_
  refine oc (y := mt_0) (pc := 514) (ok_aload_n dL_law_514) 515 rfl ?_
  refine oc (y := mt_0) (pc := 515) (ok_iload_n dL_law_515) 516 rfl ?_
  refine oc (y := mt_0) (pc := 516) (ok_iconst dL_law_516 rfl ⟨by decide, by decide⟩) 517 rfl ?_
  refine oc (y := mt_0) (pc := 517) (ok_iadd dL_law_517) 518 rfl ?_
  refine oc (y := mt_0) (pc := 518) (ok_iaload dL_law_518) 519 rfl ?_
  refine oc_V (y := mt_0) (pc := 519) (vcons (y := mt_0) (pc := 519) (len := 3) (n := 3) (M := mt_107) (by decide) rfl (Or.inr rfl) rfl (ck_V dL_law_519 ⟨by decide, by decide, by decide, by decide +kernel⟩ q1384 q1385 q1386 q162 q1387) vnil) (hok0 rfl) (by decide) 522 rfl ?_
  refine oc (y := mt_0) (pc := 522) (ok_aload_n dL_law_522) 523 rfl ?_
  refine oc (y := mt_0) (pc := 523) (ok_aload_n dL_law_523) 524 rfl ?_
  refine oc (y := mt_0) (pc := 524) (ok_iload_n dL_law_524) 525 rfl ?_
  refine oc (y := mt_0) (pc := 525) (ok_iconst dL_law_525 rfl ⟨by decide, by decide⟩) 526 rfl ?_
  refine oc (y := mt_0) (pc := 526) (ok_iadd dL_law_526) 527 rfl ?_
  refine oc (y := mt_0) (pc := 527) (ok_iaload dL_law_527) 528 rfl ?_
  refine oc (y := mt_0) (pc := 528) (ok_aload_n dL_law_528) 529 rfl ?_
  refine oc (y := mt_0) (pc := 529) (ok_iload_n dL_law_529) 530 rfl ?_
  refine oc (y := mt_0) (pc := 530) (ok_iconst dL_law_530 rfl ⟨by decide, by decide⟩) 531 rfl ?_
  refine oc (y := mt_0) (pc := 531) (ok_iadd dL_law_531) 532 rfl ?_
  refine oc (y := mt_0) (pc := 532) (ok_iaload dL_law_532) 533 rfl ?_
  refine oc_V (y := mt_0) (pc := 533) (vcons (y := mt_0) (pc := 533) (len := 3) (n := 3) (M := mt_307) (by decide) rfl (Or.inr rfl) rfl (ck_V dL_law_533 ⟨by decide, by decide, by decide, by decide +kernel⟩ q2469 q2470 q2471 q177 q2472) vnil) (hok0 rfl) (by decide) 536 rfl ?_
  refine oc_icmp dL_law_536 ⟨by decide, by decide⟩ 539 rfl ?_
  refine oc (y := mt_0) (pc := 539) (ok_iconst dL_law_539 rfl ⟨by decide, by decide⟩) 540 rfl ?_
  exact oc_zret dL_law_540 rfl
theorem o_0_541 : okL gmt mt_0 541 b_0_541 := by
  refine oc (y := mt_0) (pc := 541) (ok_aload_n dL_law_541) 542 rfl ?_
  refine oc (y := mt_0) (pc := 542) (ok_aload_n dL_law_542) 543 rfl ?_
  refine oc (y := mt_0) (pc := 543) (ok_iload_n dL_law_543) 544 rfl ?_
  refine oc (y := mt_0) (pc := 544) (ok_iconst dL_law_544 rfl ⟨by decide, by decide⟩) 545 rfl ?_
  refine oc (y := mt_0) (pc := 545) (ok_iadd dL_law_545) 546 rfl ?_
  refine oc (y := mt_0) (pc := 546) (ok_iaload dL_law_546) 547 rfl ?_
  refine oc (y := mt_0) (pc := 547) (ok_aload_n dL_law_547) 548 rfl ?_
  refine oc (y := mt_0) (pc := 548) (ok_iload_n dL_law_548) 549 rfl ?_
  refine oc (y := mt_0) (pc := 549) (ok_iconst dL_law_549 rfl ⟨by decide, by decide⟩) 550 rfl ?_
  refine oc (y := mt_0) (pc := 550) (ok_iadd dL_law_550) 551 rfl ?_
  refine oc (y := mt_0) (pc := 551) (ok_iaload dL_law_551) 552 rfl ?_
  refine oc_V (y := mt_0) (pc := 552) (vcons (y := mt_0) (pc := 552) (len := 3) (n := 3) (M := mt_109) (by decide) rfl (Or.inr rfl) rfl (ck_V dL_law_552 ⟨by decide, by decide, by decide, by decide +kernel⟩ q1405 q1406 q1407 q162 q1408) vnil) (hok0 rfl) (by decide) 555 rfl ?_
  refine oc (y := mt_0) (pc := 555) (ok_aload_n dL_law_555) 556 rfl ?_
  refine oc (y := mt_0) (pc := 556) (ok_aload_n dL_law_556) 557 rfl ?_
  refine oc (y := mt_0) (pc := 557) (ok_iload_n dL_law_557) 558 rfl ?_
  refine oc (y := mt_0) (pc := 558) (ok_iconst dL_law_558 rfl ⟨by decide, by decide⟩) 559 rfl ?_
  refine oc (y := mt_0) (pc := 559) (ok_iadd dL_law_559) 560 rfl ?_
  refine oc (y := mt_0) (pc := 560) (ok_iaload dL_law_560) 561 rfl ?_
  refine oc (y := mt_0) (pc := 561) (ok_aload_n dL_law_561) 562 rfl ?_
  refine oc (y := mt_0) (pc := 562) (ok_iload_n dL_law_562) 563 rfl ?_
  refine oc (y := mt_0) (pc := 563) (ok_iconst dL_law_563 rfl ⟨by decide, by decide⟩) 564 rfl ?_
  refine oc (y := mt_0) (pc := 564) (ok_iadd dL_law_564) 565 rfl ?_
  refine oc (y := mt_0) (pc := 565) (ok_iaload dL_law_565) 566 rfl ?_
  refine oc_V (y := mt_0) (pc := 566) (vcons (y := mt_0) (pc := 566) (len := 3) (n := 3) (M := mt_312) (by decide) rfl (Or.inr rfl) rfl (ck_V dL_law_566 ⟨by decide, by decide, by decide, by decide +kernel⟩ q2490 q2491 q2492 q177 q2493) vnil) (hok0 rfl) (by decide) 569 rfl ?_
  refine oc_icmp dL_law_569 ⟨by decide, by decide⟩ 572 rfl ?_
  refine oc (y := mt_0) (pc := 572) (ok_iconst dL_law_572 rfl ⟨by decide, by decide⟩) 573 rfl ?_
  exact oc_zret dL_law_573 rfl
theorem o_0_574 : okL gmt mt_0 574 b_0_574 := by
  refine oc (y := mt_0) (pc := 574) (ok_aload_n dL_law_574) 575 rfl ?_
  refine oc (y := mt_0) (pc := 575) (ok_aload_n dL_law_575) 576 rfl ?_
  refine oc (y := mt_0) (pc := 576) (ok_iload_n dL_law_576) 577 rfl ?_
  refine oc (y := mt_0) (pc := 577) (ok_iconst dL_law_577 rfl ⟨by decide, by decide⟩) 578 rfl ?_
  refine oc (y := mt_0) (pc := 578) (ok_iadd dL_law_578) 579 rfl ?_
  refine oc (y := mt_0) (pc := 579) (ok_iaload dL_law_579) 580 rfl ?_
  refine oc_V (y := mt_0) (pc := 580) (vcons (y := mt_0) (pc := 580) (len := 3) (n := 2) (M := mt_110) (by decide) rfl (Or.inr rfl) rfl (ck_V dL_law_580 ⟨by decide, by decide, by decide, by decide +kernel⟩ q1409 q1410 q1411 q162 q1412) vnil) (hok0 rfl) (by decide) 583 rfl ?_
  refine oc (y := mt_0) (pc := 583) (ok_aload_n dL_law_583) 584 rfl ?_
  refine oc (y := mt_0) (pc := 584) (ok_aload_n dL_law_584) 585 rfl ?_
  refine oc (y := mt_0) (pc := 585) (ok_iload_n dL_law_585) 586 rfl ?_
  refine oc (y := mt_0) (pc := 586) (ok_iconst dL_law_586 rfl ⟨by decide, by decide⟩) 587 rfl ?_
  refine oc (y := mt_0) (pc := 587) (ok_iadd dL_law_587) 588 rfl ?_
  refine oc (y := mt_0) (pc := 588) (ok_iaload dL_law_588) 589 rfl ?_
  refine oc_V (y := mt_0) (pc := 589) (vcons (y := mt_0) (pc := 589) (len := 3) (n := 2) (M := mt_313) (by decide) rfl (Or.inr rfl) rfl (ck_V dL_law_589 ⟨by decide, by decide, by decide, by decide +kernel⟩ q2494 q2495 q2496 q177 q2497) vnil) (hok0 rfl) (by decide) 592 rfl ?_
  refine oc (y := mt_0) (pc := 592) (ok_lcmp dL_law_592) 593 rfl ?_
  refine oc_if dL_law_593 ⟨by decide, by decide⟩ 596 rfl ?_
  refine oc (y := mt_0) (pc := 596) (ok_iconst dL_law_596 rfl ⟨by decide, by decide⟩) 597 rfl ?_
  exact oc_zret dL_law_597 rfl
theorem o_0_598 : okL gmt mt_0 598 b_0_598 := by
  refine oc (y := mt_0) (pc := 598) (ok_aload_n dL_law_598) 599 rfl ?_
  refine oc (y := mt_0) (pc := 599) (ok_aload_n dL_law_599) 600 rfl ?_
  refine oc (y := mt_0) (pc := 600) (ok_iload_n dL_law_600) 601 rfl ?_
  refine oc (y := mt_0) (pc := 601) (ok_iconst dL_law_601 rfl ⟨by decide, by decide⟩) 602 rfl ?_
  refine oc (y := mt_0) (pc := 602) (ok_iadd dL_law_602) 603 rfl ?_
  refine oc (y := mt_0) (pc := 603) (ok_iaload dL_law_603) 604 rfl ?_
  refine oc_V (y := mt_0) (pc := 604) (vcons (y := mt_0) (pc := 604) (len := 3) (n := 2) (M := mt_111) (by decide) rfl (Or.inr rfl) rfl (ck_V dL_law_604 ⟨by decide, by decide, by decide, by decide +kernel⟩ q1418 q1419 q1420 q162 q1421) vnil) (hok0 rfl) (by decide) 607 rfl ?_
  refine oc (y := mt_0) (pc := 607) (ok_aload_n dL_law_607) 608 rfl ?_
  refine oc (y := mt_0) (pc := 608) (ok_aload_n dL_law_608) 609 rfl ?_
  refine oc (y := mt_0) (pc := 609) (ok_iload_n dL_law_609) 610 rfl ?_
  refine oc (y := mt_0) (pc := 610) (ok_iconst dL_law_610 rfl ⟨by decide, by decide⟩) 611 rfl ?_
  refine oc (y := mt_0) (pc := 611) (ok_iadd dL_law_611) 612 rfl ?_
  refine oc (y := mt_0) (pc := 612) (ok_iaload dL_law_612) 613 rfl ?_
  refine oc_V (y := mt_0) (pc := 613) (vcons (y := mt_0) (pc := 613) (len := 3) (n := 2) (M := mt_316) (by decide) rfl (Or.inr rfl) rfl (ck_V dL_law_613 ⟨by decide, by decide, by decide, by decide +kernel⟩ q2507 q2508 q2509 q177 q2510) vnil) (hok0 rfl) (by decide) 616 rfl ?_
  refine oc (y := mt_0) (pc := 616) (ok_lcmp dL_law_616) 617 rfl ?_
  refine oc_if dL_law_617 ⟨by decide, by decide⟩ 620 rfl ?_
  refine oc (y := mt_0) (pc := 620) (ok_iconst dL_law_620 rfl ⟨by decide, by decide⟩) 621 rfl ?_
  exact oc_zret dL_law_621 rfl
theorem o_0_622 : okL gmt mt_0 622 b_0_622 := by
  refine oc (y := mt_0) (pc := 622) (ok_aload_n dL_law_622) 623 rfl ?_
  refine oc (y := mt_0) (pc := 623) (ok_aload_n dL_law_623) 624 rfl ?_
  refine oc (y := mt_0) (pc := 624) (ok_iload_n dL_law_624) 625 rfl ?_
  refine oc (y := mt_0) (pc := 625) (ok_iconst dL_law_625 rfl ⟨by decide, by decide⟩) 626 rfl ?_
  refine oc (y := mt_0) (pc := 626) (ok_iadd dL_law_626) 627 rfl ?_
  refine oc (y := mt_0) (pc := 627) (ok_iaload dL_law_627) 628 rfl ?_
  refine oc_V (y := mt_0) (pc := 628) (vcons (y := mt_0) (pc := 628) (len := 3) (n := 2) (M := mt_112) (by decide) rfl (Or.inr rfl) rfl (ck_V dL_law_628 ⟨by decide, by decide, by decide, by decide +kernel⟩ q1438 q1439 q1440 q162 q1441) vnil) (hok0 rfl) (by decide) 631 rfl ?_
  refine oc (y := mt_0) (pc := 631) (ok_aload_n dL_law_631) 632 rfl ?_
  refine oc (y := mt_0) (pc := 632) (ok_aload_n dL_law_632) 633 rfl ?_
  refine oc (y := mt_0) (pc := 633) (ok_iload_n dL_law_633) 634 rfl ?_
  refine oc (y := mt_0) (pc := 634) (ok_iconst dL_law_634 rfl ⟨by decide, by decide⟩) 635 rfl ?_
  refine oc (y := mt_0) (pc := 635) (ok_iadd dL_law_635) 636 rfl ?_
  refine oc (y := mt_0) (pc := 636) (ok_iaload dL_law_636) 637 rfl ?_
  refine oc_V (y := mt_0) (pc := 637) (vcons (y := mt_0) (pc := 637) (len := 3) (n := 2) (M := mt_322) (by decide) rfl (Or.inr rfl) rfl (ck_V dL_law_637 ⟨by decide, by decide, by decide, by decide +kernel⟩ q2531 q2532 q2533 q177 q2534) vnil) (hok0 rfl) (by decide) 640 rfl ?_
  refine oc_icmp dL_law_640 ⟨by decide, by decide⟩ 643 rfl ?_
  refine oc (y := mt_0) (pc := 643) (ok_iconst dL_law_643 rfl ⟨by decide, by decide⟩) 644 rfl ?_
  exact oc_zret dL_law_644 rfl
theorem o_0_645 : okL gmt mt_0 645 b_0_645 := by
  refine oc (y := mt_0) (pc := 645) (ok_aload_n dL_law_645) 646 rfl ?_
  refine oc_V (y := mt_0) (pc := 646) (vcons (y := mt_0) (pc := 646) (len := 3) (n := 1) (M := mt_113) (by decide) rfl (Or.inr rfl) rfl (ck_V dL_law_646 ⟨by decide, by decide, by decide, by decide +kernel⟩ q1447 q1448 q1449 q162 q1450) vnil) (hok0 rfl) (by decide) 649 rfl ?_
  refine oc (y := mt_0) (pc := 649) (ok_aload_n dL_law_649) 650 rfl ?_
  refine oc_V (y := mt_0) (pc := 650) (vcons (y := mt_0) (pc := 650) (len := 3) (n := 1) (M := mt_324) (by decide) rfl (Or.inr rfl) rfl (ck_V dL_law_650 ⟨by decide, by decide, by decide, by decide +kernel⟩ q2539 q2540 q2541 q177 q2542) vnil) (hok0 rfl) (by decide) 653 rfl ?_
  refine oc_icmp dL_law_653 ⟨by decide, by decide⟩ 656 rfl ?_
  refine oc (y := mt_0) (pc := 656) (ok_iconst dL_law_656 rfl ⟨by decide, by decide⟩) 657 rfl ?_
  exact oc_zret dL_law_657 rfl
theorem o_0_658 : okL gmt mt_0 658 b_0_658 := by
  refine oc (y := mt_0) (pc := 658) (ok_aload_n dL_law_658) 659 rfl ?_
  refine oc (y := mt_0) (pc := 659) (ok_aload_n dL_law_659) 660 rfl ?_
  refine oc (y := mt_0) (pc := 660) (ok_iload_n dL_law_660) 661 rfl ?_
  refine oc (y := mt_0) (pc := 661) (ok_iconst dL_law_661 rfl ⟨by decide, by decide⟩) 662 rfl ?_
  refine oc (y := mt_0) (pc := 662) (ok_iadd dL_law_662) 663 rfl ?_
  refine oc (y := mt_0) (pc := 663) (ok_iaload dL_law_663) 664 rfl ?_
  refine oc (y := mt_0) (pc := 664) (ok_aload_n dL_law_664) 665 rfl ?_
  refine oc (y := mt_0) (pc := 665) (ok_iload_n dL_law_665) 666 rfl ?_
  refine oc (y := mt_0) (pc := 666) (ok_iconst dL_law_666 rfl ⟨by decide, by decide⟩) 667 rfl ?_
  refine oc (y := mt_0) (pc := 667) (ok_iadd dL_law_667) 668 rfl ?_
  refine oc (y := mt_0) (pc := 668) (ok_iaload dL_law_668) 669 rfl ?_
  refine oc_V (y := mt_0) (pc := 669) (vcons (y := mt_0) (pc := 669) (len := 3) (n := 3) (M := mt_116) (by decide) rfl (Or.inr rfl) rfl (ck_V dL_law_669 ⟨by decide, by decide, by decide, by decide +kernel⟩ q1461 q1462 q1463 q162 q1464) vnil) (hok0 rfl) (by decide) 672 rfl ?_
  refine oc (y := mt_0) (pc := 672) (ok_aload_n dL_law_672) 673 rfl ?_
  refine oc (y := mt_0) (pc := 673) (ok_aload_n dL_law_673) 674 rfl ?_
  refine oc (y := mt_0) (pc := 674) (ok_iload_n dL_law_674) 675 rfl ?_
  refine oc (y := mt_0) (pc := 675) (ok_iconst dL_law_675 rfl ⟨by decide, by decide⟩) 676 rfl ?_
  refine oc (y := mt_0) (pc := 676) (ok_iadd dL_law_676) 677 rfl ?_
  refine oc (y := mt_0) (pc := 677) (ok_iaload dL_law_677) 678 rfl ?_
  refine oc (y := mt_0) (pc := 678) (ok_aload_n dL_law_678) 679 rfl ?_
  refine oc (y := mt_0) (pc := 679) (ok_iload_n dL_law_679) 680 rfl ?_
  refine oc (y := mt_0) (pc := 680) (ok_iconst dL_law_680 rfl ⟨by decide, by decide⟩) 681 rfl ?_
  refine oc (y := mt_0) (pc := 681) (ok_iadd dL_law_681) 682 rfl ?_
  refine oc (y := mt_0) (pc := 682) (ok_iaload dL_law_682) 683 rfl ?_
  refine oc_V (y := mt_0) (pc := 683) (vcons (y := mt_0) (pc := 683) (len := 3) (n := 3) (M := mt_327) (by decide) rfl (Or.inr rfl) rfl (ck_V dL_law_683 ⟨by decide, by decide, by decide, by decide +kernel⟩ q2551 q2552 q2553 q177 q2554) vnil) (hok0 rfl) (by decide) 686 rfl ?_
  refine oc_icmp dL_law_686 ⟨by decide, by decide⟩ 689 rfl ?_
  refine oc (y := mt_0) (pc := 689) (ok_iconst dL_law_689 rfl ⟨by decide, by decide⟩) 690 rfl ?_
  exact oc_zret dL_law_690 rfl
theorem o_0_691 : okL gmt mt_0 691 b_0_691 := by
  refine oc (y := mt_0) (pc := 691) (ok_aload_n dL_law_691) 692 rfl ?_
  refine oc (y := mt_0) (pc := 692) (ok_aload_n dL_law_692) 693 rfl ?_
  refine oc (y := mt_0) (pc := 693) (ok_iload_n dL_law_693) 694 rfl ?_
  refine oc (y := mt_0) (pc := 694) (ok_iconst dL_law_694 rfl ⟨by decide, by decide⟩) 695 rfl ?_
  refine oc (y := mt_0) (pc := 695) (ok_iadd dL_law_695) 696 rfl ?_
  refine oc (y := mt_0) (pc := 696) (ok_iaload dL_law_696) 697 rfl ?_
  refine oc (y := mt_0) (pc := 697) (ok_aload_n dL_law_697) 698 rfl ?_
  refine oc (y := mt_0) (pc := 698) (ok_iload_n dL_law_698) 699 rfl ?_
  refine oc (y := mt_0) (pc := 699) (ok_iconst dL_law_699 rfl ⟨by decide, by decide⟩) 700 rfl ?_
  refine oc (y := mt_0) (pc := 700) (ok_iadd dL_law_700) 701 rfl ?_
  refine oc (y := mt_0) (pc := 701) (ok_iaload dL_law_701) 702 rfl ?_
  refine oc_V (y := mt_0) (pc := 702) (vcons (y := mt_0) (pc := 702) (len := 3) (n := 3) (M := mt_121) (by decide) rfl (Or.inr rfl) rfl (ck_V dL_law_702 ⟨by decide, by decide, by decide, by decide +kernel⟩ q1558 q1559 q1560 q162 q1561) vnil) (hok0 rfl) (by decide) 705 rfl ?_
  refine oc (y := mt_0) (pc := 705) (ok_aload_n dL_law_705) 706 rfl ?_
  refine oc (y := mt_0) (pc := 706) (ok_aload_n dL_law_706) 707 rfl ?_
  refine oc (y := mt_0) (pc := 707) (ok_iload_n dL_law_707) 708 rfl ?_
  refine oc (y := mt_0) (pc := 708) (ok_iconst dL_law_708 rfl ⟨by decide, by decide⟩) 709 rfl ?_
  refine oc (y := mt_0) (pc := 709) (ok_iadd dL_law_709) 710 rfl ?_
  refine oc (y := mt_0) (pc := 710) (ok_iaload dL_law_710) 711 rfl ?_
  refine oc (y := mt_0) (pc := 711) (ok_aload_n dL_law_711) 712 rfl ?_
  refine oc (y := mt_0) (pc := 712) (ok_iload_n dL_law_712) 713 rfl ?_
  refine oc (y := mt_0) (pc := 713) (ok_iconst dL_law_713 rfl ⟨by decide, by decide⟩) 714 rfl ?_
  refine oc (y := mt_0) (pc := 714) (ok_iadd dL_law_714) 715 rfl ?_
  refine oc (y := mt_0) (pc := 715) (ok_iaload dL_law_715) 716 rfl ?_
  refine oc_V (y := mt_0) (pc := 716) (vcons (y := mt_0) (pc := 716) (len := 3) (n := 3) (M := mt_343) (by decide) rfl (Or.inr rfl) rfl (ck_V dL_law_716 ⟨by decide, by decide, by decide, by decide +kernel⟩ q2615 q2616 q2617 q177 q2618) vnil) (hok0 rfl) (by decide) 719 rfl ?_
  refine oc_icmp dL_law_719 ⟨by decide, by decide⟩ 722 rfl ?_
  refine oc (y := mt_0) (pc := 722) (ok_iconst dL_law_722 rfl ⟨by decide, by decide⟩) 723 rfl ?_
  exact oc_zret dL_law_723 rfl
theorem o_0_724 : okL gmt mt_0 724 b_0_724 := by
  refine oc (y := mt_0) (pc := 724) (ok_aload_n dL_law_724) 725 rfl ?_
  refine oc (y := mt_0) (pc := 725) (ok_aload_n dL_law_725) 726 rfl ?_
  refine oc (y := mt_0) (pc := 726) (ok_iload_n dL_law_726) 727 rfl ?_
  refine oc (y := mt_0) (pc := 727) (ok_iconst dL_law_727 rfl ⟨by decide, by decide⟩) 728 rfl ?_
  refine oc (y := mt_0) (pc := 728) (ok_iadd dL_law_728) 729 rfl ?_
  refine oc (y := mt_0) (pc := 729) (ok_iaload dL_law_729) 730 rfl ?_
  refine oc (y := mt_0) (pc := 730) (ok_aload_n dL_law_730) 731 rfl ?_
  refine oc (y := mt_0) (pc := 731) (ok_iload_n dL_law_731) 732 rfl ?_
  refine oc (y := mt_0) (pc := 732) (ok_iconst dL_law_732 rfl ⟨by decide, by decide⟩) 733 rfl ?_
  refine oc (y := mt_0) (pc := 733) (ok_iadd dL_law_733) 734 rfl ?_
  refine oc (y := mt_0) (pc := 734) (ok_iaload dL_law_734) 735 rfl ?_
  refine oc (y := mt_0) (pc := 735) (ok_aload_n dL_law_735) 736 rfl ?_
  refine oc (y := mt_0) (pc := 736) (ok_iload_n dL_law_736) 737 rfl ?_
  refine oc (y := mt_0) (pc := 737) (ok_iconst dL_law_737 rfl ⟨by decide, by decide⟩) 738 rfl ?_
  refine oc (y := mt_0) (pc := 738) (ok_iadd dL_law_738) 739 rfl ?_
  refine oc (y := mt_0) (pc := 739) (ok_iaload dL_law_739) 740 rfl ?_
  refine oc_V (y := mt_0) (pc := 740) (vcons (y := mt_0) (pc := 740) (len := 3) (n := 4) (M := mt_122) (by decide) rfl (Or.inr rfl) rfl (ck_V dL_law_740 ⟨by decide, by decide, by decide, by decide +kernel⟩ q1562 q1563 q1564 q162 q1565) vnil) (hok0 rfl) (by decide) 743 rfl ?_
  refine oc (y := mt_0) (pc := 743) (ok_aload_n dL_law_743) 744 rfl ?_
  refine oc (y := mt_0) (pc := 744) (ok_aload_n dL_law_744) 745 rfl ?_
  refine oc (y := mt_0) (pc := 745) (ok_iload_n dL_law_745) 746 rfl ?_
  refine oc (y := mt_0) (pc := 746) (ok_iconst dL_law_746 rfl ⟨by decide, by decide⟩) 747 rfl ?_
  refine oc (y := mt_0) (pc := 747) (ok_iadd dL_law_747) 748 rfl ?_
  refine oc (y := mt_0) (pc := 748) (ok_iaload dL_law_748) 749 rfl ?_
  refine oc (y := mt_0) (pc := 749) (ok_aload_n dL_law_749) 750 rfl ?_
  refine oc (y := mt_0) (pc := 750) (ok_iload_n dL_law_750) 751 rfl ?_
  refine oc (y := mt_0) (pc := 751) (ok_iconst dL_law_751 rfl ⟨by decide, by decide⟩) 752 rfl ?_
  refine oc (y := mt_0) (pc := 752) (ok_iadd dL_law_752) 753 rfl ?_
  refine oc (y := mt_0) (pc := 753) (ok_iaload dL_law_753) 754 rfl ?_
  refine oc (y := mt_0) (pc := 754) (ok_aload_n dL_law_754) 755 rfl ?_
  refine oc (y := mt_0) (pc := 755) (ok_iload_n dL_law_755) 756 rfl ?_
  refine oc (y := mt_0) (pc := 756) (ok_iconst dL_law_756 rfl ⟨by decide, by decide⟩) 757 rfl ?_
  refine oc (y := mt_0) (pc := 757) (ok_iadd dL_law_757) 758 rfl ?_
  refine oc (y := mt_0) (pc := 758) (ok_iaload dL_law_758) 759 rfl ?_
  refine oc_V (y := mt_0) (pc := 759) (vcons (y := mt_0) (pc := 759) (len := 3) (n := 4) (M := mt_344) (by decide) rfl (Or.inr rfl) rfl (ck_V dL_law_759 ⟨by decide, by decide, by decide, by decide +kernel⟩ q2619 q2620 q2621 q177 q2622) vnil) (hok0 rfl) (by decide) 762 rfl ?_
  refine oc_icmp dL_law_762 ⟨by decide, by decide⟩ 765 rfl ?_
  refine oc (y := mt_0) (pc := 765) (ok_iconst dL_law_765 rfl ⟨by decide, by decide⟩) 766 rfl ?_
  exact oc_zret dL_law_766 rfl
theorem o_0_767 : okL gmt mt_0 767 b_0_767 := by
  refine oc (y := mt_0) (pc := 767) (ok_aload_n dL_law_767) 768 rfl ?_
  refine oc (y := mt_0) (pc := 768) (ok_aload_n dL_law_768) 769 rfl ?_
  refine oc (y := mt_0) (pc := 769) (ok_iload_n dL_law_769) 770 rfl ?_
  refine oc (y := mt_0) (pc := 770) (ok_iconst dL_law_770 rfl ⟨by decide, by decide⟩) 771 rfl ?_
  refine oc (y := mt_0) (pc := 771) (ok_iadd dL_law_771) 772 rfl ?_
  refine oc (y := mt_0) (pc := 772) (ok_iaload dL_law_772) 773 rfl ?_
  refine oc (y := mt_0) (pc := 773) (ok_aload_n dL_law_773) 774 rfl ?_
  refine oc (y := mt_0) (pc := 774) (ok_iload_n dL_law_774) 775 rfl ?_
  refine oc (y := mt_0) (pc := 775) (ok_iconst dL_law_775 rfl ⟨by decide, by decide⟩) 776 rfl ?_
  refine oc (y := mt_0) (pc := 776) (ok_iadd dL_law_776) 777 rfl ?_
  refine oc (y := mt_0) (pc := 777) (ok_iaload dL_law_777) 778 rfl ?_
  refine oc_V (y := mt_0) (pc := 778) (vcons (y := mt_0) (pc := 778) (len := 3) (n := 3) (M := mt_123) (by decide) rfl (Or.inr rfl) rfl (ck_V dL_law_778 ⟨by decide, by decide, by decide, by decide +kernel⟩ q1567 q1568 q1569 q162 q1570) vnil) (hok0 rfl) (by decide) 781 rfl ?_
  refine oc (y := mt_0) (pc := 781) (ok_aload_n dL_law_781) 782 rfl ?_
  refine oc (y := mt_0) (pc := 782) (ok_aload_n dL_law_782) 783 rfl ?_
  refine oc (y := mt_0) (pc := 783) (ok_iload_n dL_law_783) 784 rfl ?_
  refine oc (y := mt_0) (pc := 784) (ok_iconst dL_law_784 rfl ⟨by decide, by decide⟩) 785 rfl ?_
  refine oc (y := mt_0) (pc := 785) (ok_iadd dL_law_785) 786 rfl ?_
  refine oc (y := mt_0) (pc := 786) (ok_iaload dL_law_786) 787 rfl ?_
  refine oc (y := mt_0) (pc := 787) (ok_aload_n dL_law_787) 788 rfl ?_
  refine oc (y := mt_0) (pc := 788) (ok_iload_n dL_law_788) 789 rfl ?_
  refine oc (y := mt_0) (pc := 789) (ok_iconst dL_law_789 rfl ⟨by decide, by decide⟩) 790 rfl ?_
  refine oc (y := mt_0) (pc := 790) (ok_iadd dL_law_790) 791 rfl ?_
  refine oc (y := mt_0) (pc := 791) (ok_iaload dL_law_791) 792 rfl ?_
  refine oc_V (y := mt_0) (pc := 792) (vcons (y := mt_0) (pc := 792) (len := 3) (n := 3) (M := mt_346) (by decide) rfl (Or.inr rfl) rfl (ck_V dL_law_792 ⟨by decide, by decide, by decide, by decide +kernel⟩ q2627 q2628 q2629 q177 q2630) vnil) (hok0 rfl) (by decide) 795 rfl ?_
  refine oc_icmp dL_law_795 ⟨by decide, by decide⟩ 798 rfl ?_
  refine oc (y := mt_0) (pc := 798) (ok_iconst dL_law_798 rfl ⟨by decide, by decide⟩) 799 rfl ?_
  exact oc_zret dL_law_799 rfl
theorem o_0_800 : okL gmt mt_0 800 b_0_800 := by
  refine oc (y := mt_0) (pc := 800) (ok_aload_n dL_law_800) 801 rfl ?_
  refine oc (y := mt_0) (pc := 801) (ok_aload_n dL_law_801) 802 rfl ?_
  refine oc (y := mt_0) (pc := 802) (ok_iload_n dL_law_802) 803 rfl ?_
  refine oc (y := mt_0) (pc := 803) (ok_iconst dL_law_803 rfl ⟨by decide, by decide⟩) 804 rfl ?_
  refine oc (y := mt_0) (pc := 804) (ok_iadd dL_law_804) 805 rfl ?_
  refine oc (y := mt_0) (pc := 805) (ok_iaload dL_law_805) 806 rfl ?_
  refine oc (y := mt_0) (pc := 806) (ok_aload_n dL_law_806) 807 rfl ?_
  refine oc (y := mt_0) (pc := 807) (ok_iload_n dL_law_807) 808 rfl ?_
  refine oc (y := mt_0) (pc := 808) (ok_iconst dL_law_808 rfl ⟨by decide, by decide⟩) 809 rfl ?_
  refine oc (y := mt_0) (pc := 809) (ok_iadd dL_law_809) 810 rfl ?_
  refine oc (y := mt_0) (pc := 810) (ok_iaload dL_law_810) 811 rfl ?_
  refine oc (y := mt_0) (pc := 811) (ok_aload_n dL_law_811) 812 rfl ?_
  refine oc (y := mt_0) (pc := 812) (ok_iload_n dL_law_812) 813 rfl ?_
  refine oc (y := mt_0) (pc := 813) (ok_iconst dL_law_813 rfl ⟨by decide, by decide⟩) 814 rfl ?_
  refine oc (y := mt_0) (pc := 814) (ok_iadd dL_law_814) 815 rfl ?_
  refine oc (y := mt_0) (pc := 815) (ok_iaload dL_law_815) 816 rfl ?_
  refine oc_V (y := mt_0) (pc := 816) (vcons (y := mt_0) (pc := 816) (len := 3) (n := 4) (M := mt_124) (by decide) rfl (Or.inr rfl) rfl (ck_V dL_law_816 ⟨by decide, by decide, by decide, by decide +kernel⟩ q1573 q1574 q1575 q162 q1576) vnil) (hok0 rfl) (by decide) 819 rfl ?_
  refine oc (y := mt_0) (pc := 819) (ok_aload_n dL_law_819) 820 rfl ?_
  refine oc (y := mt_0) (pc := 820) (ok_aload_n dL_law_820) 821 rfl ?_
  refine oc (y := mt_0) (pc := 821) (ok_iload_n dL_law_821) 822 rfl ?_
  refine oc (y := mt_0) (pc := 822) (ok_iconst dL_law_822 rfl ⟨by decide, by decide⟩) 823 rfl ?_
  refine oc (y := mt_0) (pc := 823) (ok_iadd dL_law_823) 824 rfl ?_
  refine oc (y := mt_0) (pc := 824) (ok_iaload dL_law_824) 825 rfl ?_
  refine oc (y := mt_0) (pc := 825) (ok_aload_n dL_law_825) 826 rfl ?_
  refine oc (y := mt_0) (pc := 826) (ok_iload_n dL_law_826) 827 rfl ?_
  refine oc (y := mt_0) (pc := 827) (ok_iconst dL_law_827 rfl ⟨by decide, by decide⟩) 828 rfl ?_
  refine oc (y := mt_0) (pc := 828) (ok_iadd dL_law_828) 829 rfl ?_
  refine oc (y := mt_0) (pc := 829) (ok_iaload dL_law_829) 830 rfl ?_
  refine oc (y := mt_0) (pc := 830) (ok_aload_n dL_law_830) 831 rfl ?_
  refine oc (y := mt_0) (pc := 831) (ok_iload_n dL_law_831) 832 rfl ?_
  refine oc (y := mt_0) (pc := 832) (ok_iconst dL_law_832 rfl ⟨by decide, by decide⟩) 833 rfl ?_
  refine oc (y := mt_0) (pc := 833) (ok_iadd dL_law_833) 834 rfl ?_
  refine oc (y := mt_0) (pc := 834) (ok_iaload dL_law_834) 835 rfl ?_
  refine oc_V (y := mt_0) (pc := 835) (vcons (y := mt_0) (pc := 835) (len := 3) (n := 4) (M := mt_348) (by decide) rfl (Or.inr rfl) rfl (ck_V dL_law_835 ⟨by decide, by decide, by decide, by decide +kernel⟩ q2637 q2638 q2639 q177 q2640) vnil) (hok0 rfl) (by decide) 838 rfl ?_
  refine oc (y := mt_0) (pc := 838) (ok_lcmp dL_law_838) 839 rfl ?_
  refine oc_if dL_law_839 ⟨by decide, by decide⟩ 842 rfl ?_
  refine oc (y := mt_0) (pc := 842) (ok_iconst dL_law_842 rfl ⟨by decide, by decide⟩) 843 rfl ?_
  exact oc_zret dL_law_843 rfl
theorem o_0_844 : okL gmt mt_0 844 b_0_844 := by
  refine oc (y := mt_0) (pc := 844) (ok_aload_n dL_law_844) 845 rfl ?_
  refine oc_V (y := mt_0) (pc := 845) (vcons (y := mt_0) (pc := 845) (len := 3) (n := 1) (M := mt_125) (by decide) rfl (Or.inr rfl) rfl (ck_V dL_law_845 ⟨by decide, by decide, by decide, by decide +kernel⟩ q1578 q1579 q1580 q162 q1581) vnil) (hok0 rfl) (by decide) 848 rfl ?_
  refine oc (y := mt_0) (pc := 848) (ok_aload_n dL_law_848) 849 rfl ?_
  refine oc_V (y := mt_0) (pc := 849) (vcons (y := mt_0) (pc := 849) (len := 3) (n := 1) (M := mt_349) (by decide) rfl (Or.inr rfl) rfl (ck_V dL_law_849 ⟨by decide, by decide, by decide, by decide +kernel⟩ q2641 q2642 q2643 q177 q2644) vnil) (hok0 rfl) (by decide) 852 rfl ?_
  refine oc_icmp dL_law_852 ⟨by decide, by decide⟩ 855 rfl ?_
  refine oc (y := mt_0) (pc := 855) (ok_iconst dL_law_855 rfl ⟨by decide, by decide⟩) 856 rfl ?_
  exact oc_zret dL_law_856 rfl
theorem o_0_857 : okL gmt mt_0 857 b_0_857 := by
  refine oc (y := mt_0) (pc := 857) (ok_aload_n dL_law_857) 858 rfl ?_
  refine oc (y := mt_0) (pc := 858) (ok_aload_n dL_law_858) 859 rfl ?_
  refine oc (y := mt_0) (pc := 859) (ok_iload_n dL_law_859) 860 rfl ?_
  refine oc (y := mt_0) (pc := 860) (ok_iconst dL_law_860 rfl ⟨by decide, by decide⟩) 861 rfl ?_
  refine oc (y := mt_0) (pc := 861) (ok_iadd dL_law_861) 862 rfl ?_
  refine oc (y := mt_0) (pc := 862) (ok_iaload dL_law_862) 863 rfl ?_
  refine oc_V (y := mt_0) (pc := 863) (vcons (y := mt_0) (pc := 863) (len := 3) (n := 2) (M := mt_128) (by decide) rfl (Or.inr rfl) rfl (ck_V dL_law_863 ⟨by decide, by decide, by decide, by decide +kernel⟩ q1590 q1591 q1592 q162 q1593) vnil) (hok0 rfl) (by decide) 866 rfl ?_
  refine oc (y := mt_0) (pc := 866) (ok_aload_n dL_law_866) 867 rfl ?_
  refine oc (y := mt_0) (pc := 867) (ok_aload_n dL_law_867) 868 rfl ?_
  refine oc (y := mt_0) (pc := 868) (ok_iload_n dL_law_868) 869 rfl ?_
  refine oc (y := mt_0) (pc := 869) (ok_iconst dL_law_869 rfl ⟨by decide, by decide⟩) 870 rfl ?_
  refine oc (y := mt_0) (pc := 870) (ok_iadd dL_law_870) 871 rfl ?_
  refine oc (y := mt_0) (pc := 871) (ok_iaload dL_law_871) 872 rfl ?_
  refine oc_V (y := mt_0) (pc := 872) (vcons (y := mt_0) (pc := 872) (len := 3) (n := 2) (M := mt_351) (by decide) rfl (Or.inr rfl) rfl (ck_V dL_law_872 ⟨by decide, by decide, by decide, by decide +kernel⟩ q2649 q2650 q2651 q177 q2652) vnil) (hok0 rfl) (by decide) 875 rfl ?_
  refine oc_icmp dL_law_875 ⟨by decide, by decide⟩ 878 rfl ?_
  refine oc (y := mt_0) (pc := 878) (ok_iconst dL_law_878 rfl ⟨by decide, by decide⟩) 879 rfl ?_
  exact oc_zret dL_law_879 rfl
theorem o_0_880 : okL gmt mt_0 880 b_0_880 := by
  refine oc (y := mt_0) (pc := 880) (ok_aload_n dL_law_880) 881 rfl ?_
  refine oc (y := mt_0) (pc := 881) (ok_aload_n dL_law_881) 882 rfl ?_
  refine oc (y := mt_0) (pc := 882) (ok_iload_n dL_law_882) 883 rfl ?_
  refine oc (y := mt_0) (pc := 883) (ok_iconst dL_law_883 rfl ⟨by decide, by decide⟩) 884 rfl ?_
  refine oc (y := mt_0) (pc := 884) (ok_iadd dL_law_884) 885 rfl ?_
  refine oc (y := mt_0) (pc := 885) (ok_iaload dL_law_885) 886 rfl ?_
  refine oc_V (y := mt_0) (pc := 886) (vcons (y := mt_0) (pc := 886) (len := 3) (n := 2) (M := mt_130) (by decide) rfl (Or.inr rfl) rfl (ck_V dL_law_886 ⟨by decide, by decide, by decide, by decide +kernel⟩ q1598 q1599 q1600 q162 q1601) vnil) (hok0 rfl) (by decide) 889 rfl ?_
  refine oc (y := mt_0) (pc := 889) (ok_aload_n dL_law_889) 890 rfl ?_
  refine oc (y := mt_0) (pc := 890) (ok_aload_n dL_law_890) 891 rfl ?_
  refine oc (y := mt_0) (pc := 891) (ok_iload_n dL_law_891) 892 rfl ?_
  refine oc (y := mt_0) (pc := 892) (ok_iconst dL_law_892 rfl ⟨by decide, by decide⟩) 893 rfl ?_
  refine oc (y := mt_0) (pc := 893) (ok_iadd dL_law_893) 894 rfl ?_
  refine oc (y := mt_0) (pc := 894) (ok_iaload dL_law_894) 895 rfl ?_
  refine oc_V (y := mt_0) (pc := 895) (vcons (y := mt_0) (pc := 895) (len := 3) (n := 2) (M := mt_353) (by decide) rfl (Or.inr rfl) rfl (ck_V dL_law_895 ⟨by decide, by decide, by decide, by decide +kernel⟩ q2657 q2658 q2659 q177 q2660) vnil) (hok0 rfl) (by decide) 898 rfl ?_
  refine oc_icmp dL_law_898 ⟨by decide, by decide⟩ 901 rfl ?_
  refine oc (y := mt_0) (pc := 901) (ok_iconst dL_law_901 rfl ⟨by decide, by decide⟩) 902 rfl ?_
  exact oc_zret dL_law_902 rfl
theorem o_0_903 : okL gmt mt_0 903 b_0_903 := by
  refine oc (y := mt_0) (pc := 903) (ok_aload_n dL_law_903) 904 rfl ?_
  refine oc (y := mt_0) (pc := 904) (ok_aload_n dL_law_904) 905 rfl ?_
  refine oc (y := mt_0) (pc := 905) (ok_iload_n dL_law_905) 906 rfl ?_
  refine oc (y := mt_0) (pc := 906) (ok_iconst dL_law_906 rfl ⟨by decide, by decide⟩) 907 rfl ?_
  refine oc (y := mt_0) (pc := 907) (ok_iadd dL_law_907) 908 rfl ?_
  refine oc (y := mt_0) (pc := 908) (ok_iaload dL_law_908) 909 rfl ?_
  refine oc_V (y := mt_0) (pc := 909) (vcons (y := mt_0) (pc := 909) (len := 3) (n := 2) (M := mt_134) (by decide) rfl (Or.inr rfl) rfl (ck_V dL_law_909 ⟨by decide, by decide, by decide, by decide +kernel⟩ q1615 q1616 q1617 q162 q1618) vnil) (hok0 rfl) (by decide) 912 rfl ?_
  refine oc (y := mt_0) (pc := 912) (ok_aload_n dL_law_912) 913 rfl ?_
  refine oc (y := mt_0) (pc := 913) (ok_aload_n dL_law_913) 914 rfl ?_
  refine oc (y := mt_0) (pc := 914) (ok_iload_n dL_law_914) 915 rfl ?_
  refine oc (y := mt_0) (pc := 915) (ok_iconst dL_law_915 rfl ⟨by decide, by decide⟩) 916 rfl ?_
  refine oc (y := mt_0) (pc := 916) (ok_iadd dL_law_916) 917 rfl ?_
  refine oc (y := mt_0) (pc := 917) (ok_iaload dL_law_917) 918 rfl ?_
  refine oc_V (y := mt_0) (pc := 918) (vcons (y := mt_0) (pc := 918) (len := 3) (n := 2) (M := mt_360) (by decide) rfl (Or.inr rfl) rfl (ck_V dL_law_918 ⟨by decide, by decide, by decide, by decide +kernel⟩ q2685 q2686 q2687 q177 q2688) vnil) (hok0 rfl) (by decide) 921 rfl ?_
  refine oc_icmp dL_law_921 ⟨by decide, by decide⟩ 924 rfl ?_
  refine oc (y := mt_0) (pc := 924) (ok_iconst dL_law_924 rfl ⟨by decide, by decide⟩) 925 rfl ?_
  exact oc_zret dL_law_925 rfl
theorem o_0_926 : okL gmt mt_0 926 b_0_926 := by
  refine oc (y := mt_0) (pc := 926) (ok_aload_n dL_law_926) 927 rfl ?_
  refine oc (y := mt_0) (pc := 927) (ok_aload_n dL_law_927) 928 rfl ?_
  refine oc (y := mt_0) (pc := 928) (ok_iload_n dL_law_928) 929 rfl ?_
  refine oc (y := mt_0) (pc := 929) (ok_iconst dL_law_929 rfl ⟨by decide, by decide⟩) 930 rfl ?_
  refine oc (y := mt_0) (pc := 930) (ok_iadd dL_law_930) 931 rfl ?_
  refine oc (y := mt_0) (pc := 931) (ok_iaload dL_law_931) 932 rfl ?_
  refine oc (y := mt_0) (pc := 932) (ok_aload_n dL_law_932) 933 rfl ?_
  refine oc (y := mt_0) (pc := 933) (ok_iload_n dL_law_933) 934 rfl ?_
  refine oc (y := mt_0) (pc := 934) (ok_iconst dL_law_934 rfl ⟨by decide, by decide⟩) 935 rfl ?_
  refine oc (y := mt_0) (pc := 935) (ok_iadd dL_law_935) 936 rfl ?_
  refine oc (y := mt_0) (pc := 936) (ok_iaload dL_law_936) 937 rfl ?_
  refine oc_V (y := mt_0) (pc := 937) (vcons (y := mt_0) (pc := 937) (len := 3) (n := 3) (M := mt_136) (by decide) rfl (Or.inr rfl) rfl (ck_V dL_law_937 ⟨by decide, by decide, by decide, by decide +kernel⟩ q1623 q1624 q1625 q162 q1626) vnil) (hok0 rfl) (by decide) 940 rfl ?_
  refine oc (y := mt_0) (pc := 940) (ok_aload_n dL_law_940) 941 rfl ?_
  refine oc (y := mt_0) (pc := 941) (ok_aload_n dL_law_941) 942 rfl ?_
  refine oc (y := mt_0) (pc := 942) (ok_iload_n dL_law_942) 943 rfl ?_
  refine oc (y := mt_0) (pc := 943) (ok_iconst dL_law_943 rfl ⟨by decide, by decide⟩) 944 rfl ?_
  refine oc (y := mt_0) (pc := 944) (ok_iadd dL_law_944) 945 rfl ?_
  refine oc (y := mt_0) (pc := 945) (ok_iaload dL_law_945) 946 rfl ?_
  refine oc (y := mt_0) (pc := 946) (ok_aload_n dL_law_946) 947 rfl ?_
  refine oc (y := mt_0) (pc := 947) (ok_iload_n dL_law_947) 948 rfl ?_
  refine oc (y := mt_0) (pc := 948) (ok_iconst dL_law_948 rfl ⟨by decide, by decide⟩) 949 rfl ?_
  refine oc (y := mt_0) (pc := 949) (ok_iadd dL_law_949) 950 rfl ?_
  refine oc (y := mt_0) (pc := 950) (ok_iaload dL_law_950) 951 rfl ?_
  refine oc_V (y := mt_0) (pc := 951) (vcons (y := mt_0) (pc := 951) (len := 3) (n := 3) (M := mt_362) (by decide) rfl (Or.inr rfl) rfl (ck_V dL_law_951 ⟨by decide, by decide, by decide, by decide +kernel⟩ q2693 q2694 q2695 q177 q2696) vnil) (hok0 rfl) (by decide) 954 rfl ?_
  refine oc_icmp dL_law_954 ⟨by decide, by decide⟩ 957 rfl ?_
  refine oc (y := mt_0) (pc := 957) (ok_iconst dL_law_957 rfl ⟨by decide, by decide⟩) 958 rfl ?_
  exact oc_zret dL_law_958 rfl
theorem o_0_959 : okL gmt mt_0 959 b_0_959 := by
  refine oc (y := mt_0) (pc := 959) (ok_aload_n dL_law_959) 960 rfl ?_
  refine oc (y := mt_0) (pc := 960) (ok_aload_n dL_law_960) 961 rfl ?_
  refine oc (y := mt_0) (pc := 961) (ok_iload_n dL_law_961) 962 rfl ?_
  refine oc (y := mt_0) (pc := 962) (ok_iconst dL_law_962 rfl ⟨by decide, by decide⟩) 963 rfl ?_
  refine oc (y := mt_0) (pc := 963) (ok_iadd dL_law_963) 964 rfl ?_
  refine oc (y := mt_0) (pc := 964) (ok_iaload dL_law_964) 965 rfl ?_
  refine oc_V (y := mt_0) (pc := 965) (vcons (y := mt_0) (pc := 965) (len := 3) (n := 2) (M := mt_137) (by decide) rfl (Or.inr rfl) rfl (ck_V dL_law_965 ⟨by decide, by decide, by decide, by decide +kernel⟩ q1628 q1629 q1630 q162 q1631) vnil) (hok0 rfl) (by decide) 968 rfl ?_
  refine oc (y := mt_0) (pc := 968) (ok_aload_n dL_law_968) 969 rfl ?_
  refine oc (y := mt_0) (pc := 969) (ok_aload_n dL_law_969) 970 rfl ?_
  refine oc (y := mt_0) (pc := 970) (ok_iload_n dL_law_970) 971 rfl ?_
  refine oc (y := mt_0) (pc := 971) (ok_iconst dL_law_971 rfl ⟨by decide, by decide⟩) 972 rfl ?_
  refine oc (y := mt_0) (pc := 972) (ok_iadd dL_law_972) 973 rfl ?_
  refine oc (y := mt_0) (pc := 973) (ok_iaload dL_law_973) 974 rfl ?_
  refine oc_V (y := mt_0) (pc := 974) (vcons (y := mt_0) (pc := 974) (len := 3) (n := 2) (M := mt_363) (by decide) rfl (Or.inr rfl) rfl (ck_V dL_law_974 ⟨by decide, by decide, by decide, by decide +kernel⟩ q2698 q2699 q2700 q177 q2701) vnil) (hok0 rfl) (by decide) 977 rfl ?_
  refine oc_icmp dL_law_977 ⟨by decide, by decide⟩ 980 rfl ?_
  refine oc (y := mt_0) (pc := 980) (ok_iconst dL_law_980 rfl ⟨by decide, by decide⟩) 981 rfl ?_
  exact oc_zret dL_law_981 rfl
theorem o_0_982 : okL gmt mt_0 982 b_0_982 := by
  refine oc (y := mt_0) (pc := 982) (ok_aload_n dL_law_982) 983 rfl ?_
  refine oc (y := mt_0) (pc := 983) (ok_aload_n dL_law_983) 984 rfl ?_
  refine oc (y := mt_0) (pc := 984) (ok_iload_n dL_law_984) 985 rfl ?_
  refine oc (y := mt_0) (pc := 985) (ok_iconst dL_law_985 rfl ⟨by decide, by decide⟩) 986 rfl ?_
  refine oc (y := mt_0) (pc := 986) (ok_iadd dL_law_986) 987 rfl ?_
  refine oc (y := mt_0) (pc := 987) (ok_iaload dL_law_987) 988 rfl ?_
  refine oc_V (y := mt_0) (pc := 988) (vcons (y := mt_0) (pc := 988) (len := 3) (n := 2) (M := mt_138) (by decide) rfl (Or.inr rfl) rfl (ck_V dL_law_988 ⟨by decide, by decide, by decide, by decide +kernel⟩ q1632 q1633 q1634 q162 q1635) vnil) (hok0 rfl) (by decide) 991 rfl ?_
  refine oc (y := mt_0) (pc := 991) (ok_aload_n dL_law_991) 992 rfl ?_
  refine oc (y := mt_0) (pc := 992) (ok_aload_n dL_law_992) 993 rfl ?_
  refine oc (y := mt_0) (pc := 993) (ok_iload_n dL_law_993) 994 rfl ?_
  refine oc (y := mt_0) (pc := 994) (ok_iconst dL_law_994 rfl ⟨by decide, by decide⟩) 995 rfl ?_
  refine oc (y := mt_0) (pc := 995) (ok_iadd dL_law_995) 996 rfl ?_
  refine oc (y := mt_0) (pc := 996) (ok_iaload dL_law_996) 997 rfl ?_
  refine oc_V (y := mt_0) (pc := 997) (vcons (y := mt_0) (pc := 997) (len := 3) (n := 2) (M := mt_365) (by decide) rfl (Or.inr rfl) rfl (ck_V dL_law_997 ⟨by decide, by decide, by decide, by decide +kernel⟩ q2706 q2707 q2708 q177 q2709) vnil) (hok0 rfl) (by decide) 1000 rfl ?_
  refine oc_icmp dL_law_1000 ⟨by decide, by decide⟩ 1003 rfl ?_
  refine oc (y := mt_0) (pc := 1003) (ok_iconst dL_law_1003 rfl ⟨by decide, by decide⟩) 1004 rfl ?_
  exact oc_zret dL_law_1004 rfl
theorem o_0_1005 : okL gmt mt_0 1005 b_0_1005 := by
  refine oc (y := mt_0) (pc := 1005) (ok_aload_n dL_law_1005) 1006 rfl ?_
  refine oc_V (y := mt_0) (pc := 1006) (vcons (y := mt_0) (pc := 1006) (len := 3) (n := 1) (M := mt_133) (by decide) rfl (Or.inr rfl) rfl (ck_V dL_law_1006 ⟨by decide, by decide, by decide, by decide +kernel⟩ q1611 q1612 q1613 q162 q1614) vnil) (hok0 rfl) (by decide) 1009 rfl ?_
  refine oc (y := mt_0) (pc := 1009) (ok_aload_n dL_law_1009) 1010 rfl ?_
  refine oc_V (y := mt_0) (pc := 1010) (vcons (y := mt_0) (pc := 1010) (len := 3) (n := 1) (M := mt_359) (by decide) rfl (Or.inr rfl) rfl (ck_V dL_law_1010 ⟨by decide, by decide, by decide, by decide +kernel⟩ q2681 q2682 q2683 q177 q2684) vnil) (hok0 rfl) (by decide) 1013 rfl ?_
  refine oc_icmp dL_law_1013 ⟨by decide, by decide⟩ 1016 rfl ?_
  refine oc (y := mt_0) (pc := 1016) (ok_iconst dL_law_1016 rfl ⟨by decide, by decide⟩) 1017 rfl ?_
  exact oc_zret dL_law_1017 rfl
theorem o_0_1018 : okL gmt mt_0 1018 b_0_1018 := by
  refine oc (y := mt_0) (pc := 1018) (ok_aload_n dL_law_1018) 1019 rfl ?_
  refine oc (y := mt_0) (pc := 1019) (ok_aload_n dL_law_1019) 1020 rfl ?_
  refine oc (y := mt_0) (pc := 1020) (ok_iload_n dL_law_1020) 1021 rfl ?_
  refine oc (y := mt_0) (pc := 1021) (ok_iconst dL_law_1021 rfl ⟨by decide, by decide⟩) 1022 rfl ?_
  refine oc (y := mt_0) (pc := 1022) (ok_iadd dL_law_1022) 1023 rfl ?_
  refine oc (y := mt_0) (pc := 1023) (ok_iaload dL_law_1023) 1024 rfl ?_
  refine oc_V (y := mt_0) (pc := 1024) (vcons (y := mt_0) (pc := 1024) (len := 3) (n := 2) (M := mt_140) (by decide) rfl (Or.inr rfl) rfl (ck_V dL_law_1024 ⟨by decide, by decide, by decide, by decide +kernel⟩ q1644 q1645 q1646 q162 q1647) vnil) (hok0 rfl) (by decide) 1027 rfl ?_
  refine oc (y := mt_0) (pc := 1027) (ok_aload_n dL_law_1027) 1028 rfl ?_
  refine oc (y := mt_0) (pc := 1028) (ok_aload_n dL_law_1028) 1029 rfl ?_
  refine oc (y := mt_0) (pc := 1029) (ok_iload_n dL_law_1029) 1030 rfl ?_
  refine oc (y := mt_0) (pc := 1030) (ok_iconst dL_law_1030 rfl ⟨by decide, by decide⟩) 1031 rfl ?_
  refine oc (y := mt_0) (pc := 1031) (ok_iadd dL_law_1031) 1032 rfl ?_
  refine oc (y := mt_0) (pc := 1032) (ok_iaload dL_law_1032) 1033 rfl ?_
  refine oc_V (y := mt_0) (pc := 1033) (vcons (y := mt_0) (pc := 1033) (len := 3) (n := 2) (M := mt_364) (by decide) rfl (Or.inr rfl) rfl (ck_V dL_law_1033 ⟨by decide, by decide, by decide, by decide +kernel⟩ q2702 q2703 q2704 q177 q2705) vnil) (hok0 rfl) (by decide) 1036 rfl ?_
  refine oc_icmp dL_law_1036 ⟨by decide, by decide⟩ 1039 rfl ?_
  refine oc (y := mt_0) (pc := 1039) (ok_iconst dL_law_1039 rfl ⟨by decide, by decide⟩) 1040 rfl ?_
  exact oc_zret dL_law_1040 rfl
theorem o_0_1041 : okL gmt mt_0 1041 b_0_1041 := by
  refine oc (y := mt_0) (pc := 1041) (ok_aload_n dL_law_1041) 1042 rfl ?_
  refine oc_V (y := mt_0) (pc := 1042) (vcons (y := mt_0) (pc := 1042) (len := 3) (n := 1) (M := mt_141) (by decide) rfl (Or.inr rfl) rfl (ck_VH dL_law_1042 ⟨by decide, by decide, by decide, by decide +kernel⟩ q1648 q1649 q1650 q162 q1651) vnil) (hokN (by decide)) (by decide) 1045 rfl ?_
  refine oc (y := mt_0) (pc := 1045) (ok_aload_n dL_law_1045) 1046 rfl ?_
  refine oc_V (y := mt_0) (pc := 1046) (vcons (y := mt_0) (pc := 1046) (len := 3) (n := 1) (M := mt_367) (by decide) rfl (Or.inr rfl) rfl (ck_V dL_law_1046 ⟨by decide, by decide, by decide, by decide +kernel⟩ q2718 q2719 q2720 q177 q2721) vnil) (hok0 rfl) (by decide) 1049 rfl ?_
  refine oc (y := mt_0) (pc := 1049) (ok_lcmp dL_law_1049) 1050 rfl ?_
  refine oc_if dL_law_1050 ⟨by decide, by decide⟩ 1053 rfl ?_
  refine oc (y := mt_0) (pc := 1053) (ok_iconst dL_law_1053 rfl ⟨by decide, by decide⟩) 1054 rfl ?_
  exact oc_zret dL_law_1054 rfl
theorem o_0_1055 : okL gmt mt_0 1055 b_0_1055 := by
  refine oc (y := mt_0) (pc := 1055) (ok_aload_n dL_law_1055) 1056 rfl ?_
  refine oc_V (y := mt_0) (pc := 1056) (vcons (y := mt_0) (pc := 1056) (len := 3) (n := 1) (M := mt_142) (by decide) rfl (Or.inr rfl) rfl (ck_V dL_law_1056 ⟨by decide, by decide, by decide, by decide +kernel⟩ q1783 q1784 q1785 q162 q1786) vnil) (hok0 rfl) (by decide) 1059 rfl ?_
  refine oc (y := mt_0) (pc := 1059) (ok_aload_n dL_law_1059) 1060 rfl ?_
  refine oc_V (y := mt_0) (pc := 1060) (vcons (y := mt_0) (pc := 1060) (len := 3) (n := 1) (M := mt_377) (by decide) rfl (Or.inr rfl) rfl (ck_V dL_law_1060 ⟨by decide, by decide, by decide, by decide +kernel⟩ q2759 q2760 q2761 q177 q2762) vnil) (hok0 rfl) (by decide) 1063 rfl ?_
  refine oc_icmp dL_law_1063 ⟨by decide, by decide⟩ 1066 rfl ?_
  refine oc (y := mt_0) (pc := 1066) (ok_iconst dL_law_1066 rfl ⟨by decide, by decide⟩) 1067 rfl ?_
  exact oc_zret dL_law_1067 rfl
theorem o_0_1068 : okL gmt mt_0 1068 b_0_1068 := by
  refine oc (y := mt_0) (pc := 1068) (ok_aload_n dL_law_1068) 1069 rfl ?_
  refine oc (y := mt_0) (pc := 1069) (ok_aload_n dL_law_1069) 1070 rfl ?_
  refine oc (y := mt_0) (pc := 1070) (ok_iload_n dL_law_1070) 1071 rfl ?_
  refine oc (y := mt_0) (pc := 1071) (ok_iconst dL_law_1071 rfl ⟨by decide, by decide⟩) 1072 rfl ?_
  refine oc (y := mt_0) (pc := 1072) (ok_iadd dL_law_1072) 1073 rfl ?_
  refine oc (y := mt_0) (pc := 1073) (ok_iaload dL_law_1073) 1074 rfl ?_
  refine oc_V (y := mt_0) (pc := 1074) (vcons (y := mt_0) (pc := 1074) (len := 3) (n := 2) (M := mt_145) (by decide) rfl (Or.inr rfl) rfl (ck_V dL_law_1074 ⟨by decide, by decide, by decide, by decide +kernel⟩ q1794 q1795 q1796 q162 q1797) vnil) (hok0 rfl) (by decide) 1077 rfl ?_
  refine oc (y := mt_0) (pc := 1077) (ok_aload_n dL_law_1077) 1078 rfl ?_
  refine oc (y := mt_0) (pc := 1078) (ok_aload_n dL_law_1078) 1079 rfl ?_
  refine oc (y := mt_0) (pc := 1079) (ok_iload_n dL_law_1079) 1080 rfl ?_
  refine oc (y := mt_0) (pc := 1080) (ok_iconst dL_law_1080 rfl ⟨by decide, by decide⟩) 1081 rfl ?_
  refine oc (y := mt_0) (pc := 1081) (ok_iadd dL_law_1081) 1082 rfl ?_
  refine oc (y := mt_0) (pc := 1082) (ok_iaload dL_law_1082) 1083 rfl ?_
  refine oc_V (y := mt_0) (pc := 1083) (vcons (y := mt_0) (pc := 1083) (len := 3) (n := 2) (M := mt_380) (by decide) rfl (Or.inr rfl) rfl (ck_V dL_law_1083 ⟨by decide, by decide, by decide, by decide +kernel⟩ q2770 q2771 q2772 q177 q2773) vnil) (hok0 rfl) (by decide) 1086 rfl ?_
  refine oc_icmp dL_law_1086 ⟨by decide, by decide⟩ 1089 rfl ?_
  refine oc (y := mt_0) (pc := 1089) (ok_iconst dL_law_1089 rfl ⟨by decide, by decide⟩) 1090 rfl ?_
  exact oc_zret dL_law_1090 rfl
theorem o_0_1091 : okL gmt mt_0 1091 b_0_1091 := by
  refine oc (y := mt_0) (pc := 1091) (ok_aload_n dL_law_1091) 1092 rfl ?_
  refine oc_V (y := mt_0) (pc := 1092) (vcons (y := mt_0) (pc := 1092) (len := 3) (n := 1) (M := mt_146) (by decide) rfl (Or.inr rfl) rfl (ck_V dL_law_1092 ⟨by decide, by decide, by decide, by decide +kernel⟩ q1798 q1799 q1800 q162 q1801) vnil) (hok0 rfl) (by decide) 1095 rfl ?_
  refine oc (y := mt_0) (pc := 1095) (ok_aload_n dL_law_1095) 1096 rfl ?_
  refine oc_V (y := mt_0) (pc := 1096) (vcons (y := mt_0) (pc := 1096) (len := 3) (n := 1) (M := mt_381) (by decide) rfl (Or.inr rfl) rfl (ck_V dL_law_1096 ⟨by decide, by decide, by decide, by decide +kernel⟩ q2774 q2775 q2776 q177 q2777) vnil) (hok0 rfl) (by decide) 1099 rfl ?_
  refine oc_icmp dL_law_1099 ⟨by decide, by decide⟩ 1102 rfl ?_
  refine oc (y := mt_0) (pc := 1102) (ok_iconst dL_law_1102 rfl ⟨by decide, by decide⟩) 1103 rfl ?_
  exact oc_zret dL_law_1103 rfl
theorem o_0_1104 : okL gmt mt_0 1104 b_0_1104 := by
  refine oc (y := mt_0) (pc := 1104) (ok_aload_n dL_law_1104) 1105 rfl ?_
  refine oc (y := mt_0) (pc := 1105) (ok_aload_n dL_law_1105) 1106 rfl ?_
  refine oc (y := mt_0) (pc := 1106) (ok_iload_n dL_law_1106) 1107 rfl ?_
  refine oc (y := mt_0) (pc := 1107) (ok_iconst dL_law_1107 rfl ⟨by decide, by decide⟩) 1108 rfl ?_
  refine oc (y := mt_0) (pc := 1108) (ok_iadd dL_law_1108) 1109 rfl ?_
  refine oc (y := mt_0) (pc := 1109) (ok_iaload dL_law_1109) 1110 rfl ?_
  refine oc_V (y := mt_0) (pc := 1110) (vcons (y := mt_0) (pc := 1110) (len := 3) (n := 2) (M := mt_147) (by decide) rfl (Or.inr rfl) rfl (ck_V dL_law_1110 ⟨by decide, by decide, by decide, by decide +kernel⟩ q1802 q1803 q1804 q162 q1805) vnil) (hok0 rfl) (by decide) 1113 rfl ?_
  refine oc (y := mt_0) (pc := 1113) (ok_aload_n dL_law_1113) 1114 rfl ?_
  refine oc (y := mt_0) (pc := 1114) (ok_aload_n dL_law_1114) 1115 rfl ?_
  refine oc (y := mt_0) (pc := 1115) (ok_iload_n dL_law_1115) 1116 rfl ?_
  refine oc (y := mt_0) (pc := 1116) (ok_iconst dL_law_1116 rfl ⟨by decide, by decide⟩) 1117 rfl ?_
  refine oc (y := mt_0) (pc := 1117) (ok_iadd dL_law_1117) 1118 rfl ?_
  refine oc (y := mt_0) (pc := 1118) (ok_iaload dL_law_1118) 1119 rfl ?_
  refine oc_V (y := mt_0) (pc := 1119) (vcons (y := mt_0) (pc := 1119) (len := 3) (n := 2) (M := mt_383) (by decide) rfl (Or.inr rfl) rfl (ck_V dL_law_1119 ⟨by decide, by decide, by decide, by decide +kernel⟩ q2782 q2783 q2784 q177 q2785) vnil) (hok0 rfl) (by decide) 1122 rfl ?_
  refine oc_icmp dL_law_1122 ⟨by decide, by decide⟩ 1125 rfl ?_
  refine oc (y := mt_0) (pc := 1125) (ok_iconst dL_law_1125 rfl ⟨by decide, by decide⟩) 1126 rfl ?_
  exact oc_zret dL_law_1126 rfl
theorem o_0_1127 : okL gmt mt_0 1127 b_0_1127 := by
  refine oc (y := mt_0) (pc := 1127) (ok_iinc dL_law_1127 (by decide)) 1130 rfl ?_
  exact oc_goto dL_law_1130 ⟨by decide, by decide⟩
theorem o_0_1133 : okL gmt mt_0 1133 b_0_1133 := by
  refine oc (y := mt_0) (pc := 1133) (ok_iconst dL_law_1133 rfl ⟨by decide, by decide⟩) 1134 rfl ?_
  exact oc_zret dL_law_1134 rfl
theorem ok_0 : ∀ q ∈ pr_0, okL gmt mt_0 q.1 q.2 := pk_c o_0_0 (pk_c o_0_18 (pk_c o_0_188 (pk_c o_0_238 (pk_c o_0_251 (pk_c o_0_274 (pk_c o_0_287 (pk_c o_0_310 (pk_c o_0_333 (pk_c o_0_376 (pk_c o_0_409 (pk_c o_0_442 (pk_c o_0_475 (pk_c o_0_508 (pk_c o_0_541 (pk_c o_0_574 (pk_c o_0_598 (pk_c o_0_622 (pk_c o_0_645 (pk_c o_0_658 (pk_c o_0_691 (pk_c o_0_724 (pk_c o_0_767 (pk_c o_0_800 (pk_c o_0_844 (pk_c o_0_857 (pk_c o_0_880 (pk_c o_0_903 (pk_c o_0_926 (pk_c o_0_959 (pk_c o_0_982 (pk_c o_0_1005 (pk_c o_0_1018 (pk_c o_0_1041 (pk_c o_0_1055 (pk_c o_0_1068 (pk_c o_0_1091 (pk_c o_0_1104 (pk_c o_0_1127 (pk_c o_0_1133 (pk_n))))))))))))))))))))))))))))))))))))))))
theorem o_1_0 : okL gmt mt_1 0 b_1_0 := by
  refine oc (y := mt_1) (pc := 0) (ok_aload_n dJ0_init_0) 1 rfl ?_
  refine oc_oi (y := mt_1) (pc := 1) dJ0_init_1 q229 q210 q211 4 rfl ?_
  exact oc_ret dJ0_init_4 rfl
theorem ok_1 : ∀ q ∈ pr_1, okL gmt mt_1 q.1 q.2 := pk_c o_1_0 (pk_n)
theorem o_2_0 : okL gmt mt_2 0 b_2_0 := by
  refine oc (y := mt_2) (pc := 0) (ok_aload_n dJ1_init_0) 1 rfl ?_
  refine oc_I (y := mt_2) (pc := 1) (vcons (y := mt_2) (pc := 1) (len := 3) (n := 1) (M := mt_1) (by decide) rfl (Or.inl rfl) rfl (ck_I dJ1_init_1 ⟨by decide, by decide, by decide, by decide +kernel⟩ rfl q226 q227 q164 q228) (vnil)) (hok0 rfl) (by decide) 4 rfl ?_
  refine oc (y := mt_2) (pc := 4) (ok_aload_n dJ1_init_4) 5 rfl ?_
  refine oc (y := mt_2) (pc := 5) (ok_iconst dJ1_init_5 rfl ⟨by decide, by decide⟩) 6 rfl ?_
  refine oc (y := mt_2) (pc := 6) (ok_putfield dJ1_init_6 (fp (own := "java/util/AbstractList") (idx := 7) (g := 3) (k := 0) (r := (RJ2, TJ2, 3)) rfl ⟨⟨by decide, by decide⟩, by decide⟩ (Or.inl q236) (Or.inl rfl) rfl (Or.inl rfl) (fp_nil))) 9 rfl ?_
  exact oc_ret dJ1_init_9 rfl
theorem ok_2 : ∀ q ∈ pr_2, okL gmt mt_2 q.1 q.2 := pk_c o_2_0 (pk_n)
theorem o_3_0 : okL gmt mt_3 0 b_3_0 := by
  refine oc (y := mt_3) (pc := 0) (ok_aload_n dJ10_equals_0) 1 rfl ?_
  refine oc (y := mt_3) (pc := 1) (ok_alen dJ10_equals_1) 2 rfl ?_
  refine oc (y := mt_3) (pc := 2) (ok_aload_n dJ10_equals_2) 3 rfl ?_
  refine oc (y := mt_3) (pc := 3) (ok_alen dJ10_equals_3) 4 rfl ?_
  refine oc_icmp dJ10_equals_4 ⟨by decide, by decide⟩ 7 rfl ?_
  refine oc (y := mt_3) (pc := 7) (ok_iconst dJ10_equals_7 rfl ⟨by decide, by decide⟩) 8 rfl ?_
  refine oc (y := mt_3) (pc := 8) (ok_istore_n dJ10_equals_8 (by decide)) 9 rfl ?_
  exact oc_fall rfl
theorem o_3_9 : okL gmt mt_3 9 b_3_9 := by
  refine oc (y := mt_3) (pc := 9) (ok_iload_n dJ10_equals_9) 10 rfl ?_
  refine oc (y := mt_3) (pc := 10) (ok_aload_n dJ10_equals_10) 11 rfl ?_
  refine oc (y := mt_3) (pc := 11) (ok_alen dJ10_equals_11) 12 rfl ?_
  refine oc_icmp dJ10_equals_12 ⟨by decide, by decide⟩ 15 rfl ?_
  refine oc (y := mt_3) (pc := 15) (ok_aload_n dJ10_equals_15) 16 rfl ?_
  refine oc (y := mt_3) (pc := 16) (ok_iload_n dJ10_equals_16) 17 rfl ?_
  refine oc (y := mt_3) (pc := 17) (ok_baload dJ10_equals_17) 18 rfl ?_
  refine oc (y := mt_3) (pc := 18) (ok_aload_n dJ10_equals_18) 19 rfl ?_
  refine oc (y := mt_3) (pc := 19) (ok_iload_n dJ10_equals_19) 20 rfl ?_
  refine oc (y := mt_3) (pc := 20) (ok_baload dJ10_equals_20) 21 rfl ?_
  refine oc_icmp dJ10_equals_21 ⟨by decide, by decide⟩ 24 rfl ?_
  refine oc (y := mt_3) (pc := 24) (ok_iconst dJ10_equals_24 rfl ⟨by decide, by decide⟩) 25 rfl ?_
  exact oc_zret dJ10_equals_25 rfl
theorem o_3_26 : okL gmt mt_3 26 b_3_26 := by
  refine oc (y := mt_3) (pc := 26) (ok_iinc dJ10_equals_26 (by decide)) 29 rfl ?_
  exact oc_goto dJ10_equals_29 ⟨by decide, by decide⟩
theorem o_3_32 : okL gmt mt_3 32 b_3_32 := by
  refine oc (y := mt_3) (pc := 32) (ok_iconst dJ10_equals_32 rfl ⟨by decide, by decide⟩) 33 rfl ?_
  exact oc_zret dJ10_equals_33 rfl
theorem o_3_34 : okL gmt mt_3 34 b_3_34 := by
  refine oc (y := mt_3) (pc := 34) (ok_iconst dJ10_equals_34 rfl ⟨by decide, by decide⟩) 35 rfl ?_
  exact oc_zret dJ10_equals_35 rfl
theorem ok_3 : ∀ q ∈ pr_3, okL gmt mt_3 q.1 q.2 := pk_c o_3_0 (pk_c o_3_9 (pk_c o_3_26 (pk_c o_3_32 (pk_c o_3_34 (pk_n)))))
theorem o_4_0 : okL gmt mt_4 0 b_4_0 := by
  refine oc (y := mt_4) (pc := 0) (ok_aload_n dJ10_hashCode_0) 1 rfl ?_
  refine oc (y := mt_4) (pc := 1) (ok_alen dJ10_hashCode_1) 2 rfl ?_
  exact oc_lsw dJ10_hashCode_2 ⟨by decide, by decide⟩ (by decide +kernel) (by decide +kernel) (by decide +kernel)
theorem o_4_28 : okL gmt mt_4 28 b_4_28 := by
  refine oc (y := mt_4) (pc := 28) (ok_iconst dJ10_hashCode_28 rfl ⟨by decide, by decide⟩) 29 rfl ?_
  exact oc_goto dJ10_hashCode_29 ⟨by decide, by decide⟩
theorem o_4_32 : okL gmt mt_4 32 b_4_32 := by
  refine oc (y := mt_4) (pc := 32) (ok_aload_n dJ10_hashCode_32) 33 rfl ?_
  refine oc (y := mt_4) (pc := 33) (ok_iconst dJ10_hashCode_33 rfl ⟨by decide, by decide⟩) 34 rfl ?_
  refine oc (y := mt_4) (pc := 34) (ok_baload dJ10_hashCode_34) 35 rfl ?_
  refine oc (y := mt_4) (pc := 35) (ok_sipush dJ10_hashCode_35 (by decide) ⟨by decide, by decide⟩) 38 rfl ?_
  refine oc (y := mt_4) (pc := 38) (ok_iand dJ10_hashCode_38) 39 rfl ?_
  exact oc_goto dJ10_hashCode_39 ⟨by decide, by decide⟩
theorem o_4_42 : okL gmt mt_4 42 b_4_42 := by
  refine oc (y := mt_4) (pc := 42) (ok_aload_n dJ10_hashCode_42) 43 rfl ?_
  refine oc (y := mt_4) (pc := 43) (ok_iconst dJ10_hashCode_43 rfl ⟨by decide, by decide⟩) 44 rfl ?_
  refine oc (y := mt_4) (pc := 44) (ok_aload_n dJ10_hashCode_44) 45 rfl ?_
  refine oc (y := mt_4) (pc := 45) (ok_alen dJ10_hashCode_45) 46 rfl ?_
  refine oc (y := mt_4) (pc := 46) (ok_iconst dJ10_hashCode_46 rfl ⟨by decide, by decide⟩) 47 rfl ?_
  refine oc (y := mt_4) (pc := 47) (ok_iconst dJ10_hashCode_47 rfl ⟨by decide, by decide⟩) 48 rfl ?_
  refine oc_S (y := mt_4) (pc := 48) (M := mt_8) rfl (ck_S dJ10_hashCode_48 ⟨by decide, by decide, by decide, by decide +kernel⟩ q803 q804 q181 q805) (hok0 rfl) (by decide) 51 rfl ?_
  exact oc_fall rfl
theorem o_4_51 : okL gmt mt_4 51 b_4_51 := by
  exact oc_iret dJ10_hashCode_51 rfl
theorem ok_4 : ∀ q ∈ pr_4, okL gmt mt_4 q.1 q.2 := pk_c o_4_0 (pk_c o_4_28 (pk_c o_4_32 (pk_c o_4_42 (pk_c o_4_51 (pk_n)))))
theorem o_5_0 : okL gmt mt_5 0 b_5_0 := by
  refine oc (y := mt_5) (pc := 0) (ok_iload_n dJ10_canEncode_0) 1 rfl ?_
  refine oc (y := mt_5) (pc := 1) (ok_sipush dJ10_canEncode_1 (by decide) ⟨by decide, by decide⟩) 4 rfl ?_
  refine oc_icmp dJ10_canEncode_4 ⟨by decide, by decide⟩ 7 rfl ?_
  refine oc (y := mt_5) (pc := 7) (ok_iconst dJ10_canEncode_7 rfl ⟨by decide, by decide⟩) 8 rfl ?_
  exact oc_goto dJ10_canEncode_8 ⟨by decide, by decide⟩
theorem o_5_11 : okL gmt mt_5 11 b_5_11 := by
  refine oc (y := mt_5) (pc := 11) (ok_iconst dJ10_canEncode_11 rfl ⟨by decide, by decide⟩) 12 rfl ?_
  exact oc_fall rfl
theorem o_5_12 : okL gmt mt_5 12 b_5_12 := by
  exact oc_zret dJ10_canEncode_12 rfl
theorem ok_5 : ∀ q ∈ pr_5, okL gmt mt_5 q.1 q.2 := pk_c o_5_0 (pk_c o_5_11 (pk_c o_5_12 (pk_n)))
theorem o_6_0 : okL gmt mt_6 0 b_6_0 := by
  refine oc (y := mt_6) (pc := 0) (ok_aload_n dJ10_inflate_0) 1 rfl ?_
  refine oc (y := mt_6) (pc := 1) (ok_iload_n dJ10_inflate_1) 2 rfl ?_
  refine oc (y := mt_6) (pc := 2) (ok_aload_n dJ10_inflate_2) 3 rfl ?_
  refine oc (y := mt_6) (pc := 3) (ok_iload_n dJ10_inflate_3) 4 rfl ?_
  refine oc (y := mt_6) (pc := 4) (ok_iload dJ10_inflate_4) 6 rfl ?_
  refine oc_S (y := mt_6) (pc := 6) (M := mt_76) rfl (ck_S dJ10_inflate_6 ⟨by decide, by decide, by decide, by decide +kernel⟩ q1249 q1250 q179 q1251) (hok0 rfl) (by decide) 9 rfl ?_
  exact oc_ret dJ10_inflate_9 rfl
theorem ok_6 : ∀ q ∈ pr_6, okL gmt mt_6 q.1 q.2 := pk_c o_6_0 (pk_n)
theorem o_7_0 : okL gmt mt_7 0 b_7_0 := by
  refine oc (y := mt_7) (pc := 0) (ok_iload_n dJ10_charAt_0) 1 rfl ?_
  refine oc (y := mt_7) (pc := 1) (ok_aload_n dJ10_charAt_1) 2 rfl ?_
  refine oc (y := mt_7) (pc := 2) (ok_alen dJ10_charAt_2) 3 rfl ?_
  refine oc_S (y := mt_7) (pc := 3) (M := mt_62) rfl (ck_S dJ10_charAt_3 ⟨by decide, by decide, by decide, by decide +kernel⟩ q1347 q1259 q178 q1260) (hok0 rfl) (by decide) 6 rfl ?_
  refine oc (y := mt_7) (pc := 6) (ok_aload_n dJ10_charAt_6) 7 rfl ?_
  refine oc (y := mt_7) (pc := 7) (ok_iload_n dJ10_charAt_7) 8 rfl ?_
  refine oc (y := mt_7) (pc := 8) (ok_baload dJ10_charAt_8) 9 rfl ?_
  refine oc (y := mt_7) (pc := 9) (ok_sipush dJ10_charAt_9 (by decide) ⟨by decide, by decide⟩) 12 rfl ?_
  refine oc (y := mt_7) (pc := 12) (ok_iand dJ10_charAt_12) 13 rfl ?_
  refine oc (y := mt_7) (pc := 13) (ok_i2c dJ10_charAt_13) 14 rfl ?_
  exact oc_cret dJ10_charAt_14 rfl
theorem ok_7 : ∀ q ∈ pr_7, okL gmt mt_7 q.1 q.2 := pk_c o_7_0 (pk_n)
theorem o_8_0 : okL gmt mt_8 0 b_8_0 := by
  refine oc (y := mt_8) (pc := 0) (ok_iload dJ11_vectorizedHashCode_0) 2 rfl ?_
  exact oc_tsw dJ11_vectorizedHashCode_2 (by decide) (by decide +kernel)
theorem o_8_44 : okL gmt mt_8 44 b_8_44 := by
  refine oc (y := mt_8) (pc := 44) (ok_iload_n dJ11_vectorizedHashCode_44) 45 rfl ?_
  refine oc (y := mt_8) (pc := 45) (ok_aload_n dJ11_vectorizedHashCode_45) 46 rfl ?_
  refine oc (y := mt_8) (pc := 46) (ok_checkcast (E := "[B") dJ11_vectorizedHashCode_46 q806 (ct (by decide) rfl (Or.inl rfl) (ct_nil))) 49 rfl ?_
  refine oc (y := mt_8) (pc := 49) (ok_iload_n dJ11_vectorizedHashCode_49) 50 rfl ?_
  refine oc (y := mt_8) (pc := 50) (ok_iload_n dJ11_vectorizedHashCode_50) 51 rfl ?_
  refine oc_S (y := mt_8) (pc := 51) (M := mt_9) rfl (ck_S dJ11_vectorizedHashCode_51 ⟨by decide, by decide, by decide, by decide +kernel⟩ q807 q808 q181 q809) (hok0 rfl) (by decide) 54 rfl ?_
  exact oc_goto dJ11_vectorizedHashCode_54 ⟨by decide, by decide⟩
theorem o_8_57 : okL gmt mt_8 57 b_8_57 := by
  refine oc (y := mt_8) (pc := 57) (ok_aload_n dJ11_vectorizedHashCode_57) 58 rfl ?_
  exact oc_end
theorem o_8_77 : okL gmt mt_8 77 b_8_77 := by
  refine oc (y := mt_8) (pc := 77) (ok_iload_n dJ11_vectorizedHashCode_77) 78 rfl ?_
  refine oc (y := mt_8) (pc := 78) (ok_aload_n dJ11_vectorizedHashCode_78) 79 rfl ?_
  refine oc (y := mt_8) (pc := 79) (ok_checkcast (E := "[C") dJ11_vectorizedHashCode_79 q826 (ct (by decide) rfl (Or.inl rfl) (ct_nil))) 82 rfl ?_
  refine oc (y := mt_8) (pc := 82) (ok_iload_n dJ11_vectorizedHashCode_82) 83 rfl ?_
  refine oc (y := mt_8) (pc := 83) (ok_iload_n dJ11_vectorizedHashCode_83) 84 rfl ?_
  refine oc_S (y := mt_8) (pc := 84) (M := mt_11) rfl (ck_S dJ11_vectorizedHashCode_84 ⟨by decide, by decide, by decide, by decide +kernel⟩ q827 q828 q181 q829) (hok0 rfl) (by decide) 87 rfl ?_
  exact oc_goto dJ11_vectorizedHashCode_87 ⟨by decide, by decide⟩
theorem o_8_90 : okL gmt mt_8 90 b_8_90 := by
  refine oc (y := mt_8) (pc := 90) (ok_iload_n dJ11_vectorizedHashCode_90) 91 rfl ?_
  refine oc (y := mt_8) (pc := 91) (ok_aload_n dJ11_vectorizedHashCode_91) 92 rfl ?_
  refine oc (y := mt_8) (pc := 92) (ok_checkcast (E := "[B") dJ11_vectorizedHashCode_92 q806 (ct (by decide) rfl (Or.inl rfl) (ct_nil))) 95 rfl ?_
  refine oc (y := mt_8) (pc := 95) (ok_iload_n dJ11_vectorizedHashCode_95) 96 rfl ?_
  refine oc (y := mt_8) (pc := 96) (ok_iload_n dJ11_vectorizedHashCode_96) 97 rfl ?_
  refine oc_S (y := mt_8) (pc := 97) (M := mt_12) rfl (ck_S dJ11_vectorizedHashCode_97 ⟨by decide, by decide, by decide, by decide +kernel⟩ q830 q831 q181 q832) (hok0 rfl) (by decide) 100 rfl ?_
  exact oc_goto dJ11_vectorizedHashCode_100 ⟨by decide, by decide⟩
theorem o_8_103 : okL gmt mt_8 103 b_8_103 := by
  refine oc (y := mt_8) (pc := 103) (ok_iload_n dJ11_vectorizedHashCode_103) 104 rfl ?_
  refine oc (y := mt_8) (pc := 104) (ok_aload_n dJ11_vectorizedHashCode_104) 105 rfl ?_
  refine oc (y := mt_8) (pc := 105) (ok_checkcast (E := "[S") dJ11_vectorizedHashCode_105 q833 (ct (by decide) rfl (Or.inl rfl) (ct_nil))) 108 rfl ?_
  refine oc (y := mt_8) (pc := 108) (ok_iload_n dJ11_vectorizedHashCode_108) 109 rfl ?_
  refine oc (y := mt_8) (pc := 109) (ok_iload_n dJ11_vectorizedHashCode_109) 110 rfl ?_
  refine oc_S (y := mt_8) (pc := 110) (M := mt_13) rfl (ck_S dJ11_vectorizedHashCode_110 ⟨by decide, by decide, by decide, by decide +kernel⟩ q834 q835 q181 q836) (hok0 rfl) (by decide) 113 rfl ?_
  exact oc_goto dJ11_vectorizedHashCode_113 ⟨by decide, by decide⟩
theorem o_8_116 : okL gmt mt_8 116 b_8_116 := by
  refine oc (y := mt_8) (pc := 116) (ok_iload_n dJ11_vectorizedHashCode_116) 117 rfl ?_
  refine oc (y := mt_8) (pc := 117) (ok_aload_n dJ11_vectorizedHashCode_117) 118 rfl ?_
  refine oc (y := mt_8) (pc := 118) (ok_checkcast (E := "[I") dJ11_vectorizedHashCode_118 q837 (ct (by decide) rfl (Or.inl rfl) (ct_nil))) 121 rfl ?_
  refine oc (y := mt_8) (pc := 121) (ok_iload_n dJ11_vectorizedHashCode_121) 122 rfl ?_
  refine oc (y := mt_8) (pc := 122) (ok_iload_n dJ11_vectorizedHashCode_122) 123 rfl ?_
  refine oc_S (y := mt_8) (pc := 123) (M := mt_14) rfl (ck_S dJ11_vectorizedHashCode_123 ⟨by decide, by decide, by decide, by decide +kernel⟩ q838 q839 q181 q840) (hok0 rfl) (by decide) 126 rfl ?_
  exact oc_goto dJ11_vectorizedHashCode_126 ⟨by decide, by decide⟩
theorem o_8_129 : okL gmt mt_8 129 b_8_129 := by
  exact oc_end
theorem o_8_157 : okL gmt mt_8 157 b_8_157 := by
  exact oc_iret dJ11_vectorizedHashCode_157 rfl
theorem ok_8 : ∀ q ∈ pr_8, okL gmt mt_8 q.1 q.2 := pk_c o_8_0 (pk_c o_8_44 (pk_c o_8_57 (pk_c o_8_77 (pk_c o_8_90 (pk_c o_8_103 (pk_c o_8_116 (pk_c o_8_129 (pk_c o_8_157 (pk_n)))))))))
theorem o_9_0 : okL gmt mt_9 0 b_9_0 := by
  refine oc (y := mt_9) (pc := 0) (ok_iload_n dJ11_signedHashCode_0) 1 rfl ?_
  refine oc (y := mt_9) (pc := 1) (ok_iload_n dJ11_signedHashCode_1) 2 rfl ?_
  refine oc (y := mt_9) (pc := 2) (ok_iadd dJ11_signedHashCode_2) 3 rfl ?_
  refine oc (y := mt_9) (pc := 3) (ok_istore dJ11_signedHashCode_3 (by decide)) 5 rfl ?_
  refine oc (y := mt_9) (pc := 5) (ok_iload_n dJ11_signedHashCode_5) 6 rfl ?_
  refine oc (y := mt_9) (pc := 6) (ok_istore dJ11_signedHashCode_6 (by decide)) 8 rfl ?_
  exact oc_fall rfl
theorem o_9_8 : okL gmt mt_9 8 b_9_8 := by
  refine oc (y := mt_9) (pc := 8) (ok_iload dJ11_signedHashCode_8) 10 rfl ?_
  refine oc (y := mt_9) (pc := 10) (ok_iload dJ11_signedHashCode_10) 12 rfl ?_
  refine oc_icmp dJ11_signedHashCode_12 ⟨by decide, by decide⟩ 15 rfl ?_
  refine oc (y := mt_9) (pc := 15) (ok_bipush dJ11_signedHashCode_15 (by decide) ⟨by decide, by decide⟩) 17 rfl ?_
  refine oc (y := mt_9) (pc := 17) (ok_iload_n dJ11_signedHashCode_17) 18 rfl ?_
  refine oc (y := mt_9) (pc := 18) (ok_imul dJ11_signedHashCode_18) 19 rfl ?_
  refine oc (y := mt_9) (pc := 19) (ok_aload_n dJ11_signedHashCode_19) 20 rfl ?_
  refine oc (y := mt_9) (pc := 20) (ok_iload dJ11_signedHashCode_20) 22 rfl ?_
  refine oc (y := mt_9) (pc := 22) (ok_baload dJ11_signedHashCode_22) 23 rfl ?_
  refine oc (y := mt_9) (pc := 23) (ok_sipush dJ11_signedHashCode_23 (by decide) ⟨by decide, by decide⟩) 26 rfl ?_
  refine oc (y := mt_9) (pc := 26) (ok_iand dJ11_signedHashCode_26) 27 rfl ?_
  refine oc (y := mt_9) (pc := 27) (ok_iadd dJ11_signedHashCode_27) 28 rfl ?_
  refine oc (y := mt_9) (pc := 28) (ok_istore_n dJ11_signedHashCode_28 (by decide)) 29 rfl ?_
  refine oc (y := mt_9) (pc := 29) (ok_iinc dJ11_signedHashCode_29 (by decide)) 32 rfl ?_
  exact oc_goto dJ11_signedHashCode_32 ⟨by decide, by decide⟩
theorem o_9_35 : okL gmt mt_9 35 b_9_35 := by
  refine oc (y := mt_9) (pc := 35) (ok_iload_n dJ11_signedHashCode_35) 36 rfl ?_
  exact oc_iret dJ11_signedHashCode_36 rfl
theorem ok_9 : ∀ q ∈ pr_9, okL gmt mt_9 q.1 q.2 := pk_c o_9_0 (pk_c o_9_8 (pk_c o_9_35 (pk_n)))
theorem o_10_0 : okL gmt mt_10 0 b_10_0 := by
  refine oc (y := mt_10) (pc := 0) (ok_iload_n dJ11_utf16hashCode_0) 1 rfl ?_
  refine oc (y := mt_10) (pc := 1) (ok_iload_n dJ11_utf16hashCode_1) 2 rfl ?_
  refine oc (y := mt_10) (pc := 2) (ok_iadd dJ11_utf16hashCode_2) 3 rfl ?_
  refine oc (y := mt_10) (pc := 3) (ok_istore dJ11_utf16hashCode_3 (by decide)) 5 rfl ?_
  refine oc (y := mt_10) (pc := 5) (ok_iload_n dJ11_utf16hashCode_5) 6 rfl ?_
  refine oc (y := mt_10) (pc := 6) (ok_istore dJ11_utf16hashCode_6 (by decide)) 8 rfl ?_
  exact oc_fall rfl
theorem o_10_8 : okL gmt mt_10 8 b_10_8 := by
  refine oc (y := mt_10) (pc := 8) (ok_iload dJ11_utf16hashCode_8) 10 rfl ?_
  refine oc (y := mt_10) (pc := 10) (ok_iload dJ11_utf16hashCode_10) 12 rfl ?_
  refine oc_icmp dJ11_utf16hashCode_12 ⟨by decide, by decide⟩ 15 rfl ?_
  refine oc (y := mt_10) (pc := 15) (ok_bipush dJ11_utf16hashCode_15 (by decide) ⟨by decide, by decide⟩) 17 rfl ?_
  refine oc (y := mt_10) (pc := 17) (ok_iload_n dJ11_utf16hashCode_17) 18 rfl ?_
  refine oc (y := mt_10) (pc := 18) (ok_imul dJ11_utf16hashCode_18) 19 rfl ?_
  exact oc_end
theorem o_10_38 : okL gmt mt_10 38 b_10_38 := by
  refine oc (y := mt_10) (pc := 38) (ok_iload_n dJ11_utf16hashCode_38) 39 rfl ?_
  exact oc_iret dJ11_utf16hashCode_39 rfl
theorem ok_10 : ∀ q ∈ pr_10, okL gmt mt_10 q.1 q.2 := pk_c o_10_0 (pk_c o_10_8 (pk_c o_10_38 (pk_n)))
theorem o_11_0 : okL gmt mt_11 0 b_11_0 := by
  refine oc (y := mt_11) (pc := 0) (ok_iload_n dJ11_hashCode_0) 1 rfl ?_
  refine oc (y := mt_11) (pc := 1) (ok_iload_n dJ11_hashCode_1) 2 rfl ?_
  refine oc (y := mt_11) (pc := 2) (ok_iadd dJ11_hashCode_2) 3 rfl ?_
  refine oc (y := mt_11) (pc := 3) (ok_istore dJ11_hashCode_3 (by decide)) 5 rfl ?_
  refine oc (y := mt_11) (pc := 5) (ok_iload_n dJ11_hashCode_5) 6 rfl ?_
  refine oc (y := mt_11) (pc := 6) (ok_istore dJ11_hashCode_6 (by decide)) 8 rfl ?_
  exact oc_fall rfl
theorem o_11_8 : okL gmt mt_11 8 b_11_8 := by
  refine oc (y := mt_11) (pc := 8) (ok_iload dJ11_hashCode_8) 10 rfl ?_
  refine oc (y := mt_11) (pc := 10) (ok_iload dJ11_hashCode_10) 12 rfl ?_
  refine oc_icmp dJ11_hashCode_12 ⟨by decide, by decide⟩ 15 rfl ?_
  refine oc (y := mt_11) (pc := 15) (ok_bipush dJ11_hashCode_15 (by decide) ⟨by decide, by decide⟩) 17 rfl ?_
  refine oc (y := mt_11) (pc := 17) (ok_iload_n dJ11_hashCode_17) 18 rfl ?_
  refine oc (y := mt_11) (pc := 18) (ok_imul dJ11_hashCode_18) 19 rfl ?_
  refine oc (y := mt_11) (pc := 19) (ok_aload_n dJ11_hashCode_19) 20 rfl ?_
  refine oc (y := mt_11) (pc := 20) (ok_iload dJ11_hashCode_20) 22 rfl ?_
  refine oc (y := mt_11) (pc := 22) (ok_caload dJ11_hashCode_22) 23 rfl ?_
  refine oc (y := mt_11) (pc := 23) (ok_iadd dJ11_hashCode_23) 24 rfl ?_
  refine oc (y := mt_11) (pc := 24) (ok_istore_n dJ11_hashCode_24 (by decide)) 25 rfl ?_
  refine oc (y := mt_11) (pc := 25) (ok_iinc dJ11_hashCode_25 (by decide)) 28 rfl ?_
  exact oc_goto dJ11_hashCode_28 ⟨by decide, by decide⟩
theorem o_11_31 : okL gmt mt_11 31 b_11_31 := by
  refine oc (y := mt_11) (pc := 31) (ok_iload_n dJ11_hashCode_31) 32 rfl ?_
  exact oc_iret dJ11_hashCode_32 rfl
theorem ok_11 : ∀ q ∈ pr_11, okL gmt mt_11 q.1 q.2 := pk_c o_11_0 (pk_c o_11_8 (pk_c o_11_31 (pk_n)))
theorem o_12_0 : okL gmt mt_12 0 b_12_0 := by
  refine oc (y := mt_12) (pc := 0) (ok_iload_n dJ11_hashCode_2_0) 1 rfl ?_
  refine oc (y := mt_12) (pc := 1) (ok_iload_n dJ11_hashCode_2_1) 2 rfl ?_
  refine oc (y := mt_12) (pc := 2) (ok_iadd dJ11_hashCode_2_2) 3 rfl ?_
  refine oc (y := mt_12) (pc := 3) (ok_istore dJ11_hashCode_2_3 (by decide)) 5 rfl ?_
  refine oc (y := mt_12) (pc := 5) (ok_iload_n dJ11_hashCode_2_5) 6 rfl ?_
  refine oc (y := mt_12) (pc := 6) (ok_istore dJ11_hashCode_2_6 (by decide)) 8 rfl ?_
  exact oc_fall rfl
theorem o_12_8 : okL gmt mt_12 8 b_12_8 := by
  refine oc (y := mt_12) (pc := 8) (ok_iload dJ11_hashCode_2_8) 10 rfl ?_
  refine oc (y := mt_12) (pc := 10) (ok_iload dJ11_hashCode_2_10) 12 rfl ?_
  refine oc_icmp dJ11_hashCode_2_12 ⟨by decide, by decide⟩ 15 rfl ?_
  refine oc (y := mt_12) (pc := 15) (ok_bipush dJ11_hashCode_2_15 (by decide) ⟨by decide, by decide⟩) 17 rfl ?_
  refine oc (y := mt_12) (pc := 17) (ok_iload_n dJ11_hashCode_2_17) 18 rfl ?_
  refine oc (y := mt_12) (pc := 18) (ok_imul dJ11_hashCode_2_18) 19 rfl ?_
  refine oc (y := mt_12) (pc := 19) (ok_aload_n dJ11_hashCode_2_19) 20 rfl ?_
  refine oc (y := mt_12) (pc := 20) (ok_iload dJ11_hashCode_2_20) 22 rfl ?_
  refine oc (y := mt_12) (pc := 22) (ok_baload dJ11_hashCode_2_22) 23 rfl ?_
  refine oc (y := mt_12) (pc := 23) (ok_iadd dJ11_hashCode_2_23) 24 rfl ?_
  refine oc (y := mt_12) (pc := 24) (ok_istore_n dJ11_hashCode_2_24 (by decide)) 25 rfl ?_
  refine oc (y := mt_12) (pc := 25) (ok_iinc dJ11_hashCode_2_25 (by decide)) 28 rfl ?_
  exact oc_goto dJ11_hashCode_2_28 ⟨by decide, by decide⟩
theorem o_12_31 : okL gmt mt_12 31 b_12_31 := by
  refine oc (y := mt_12) (pc := 31) (ok_iload_n dJ11_hashCode_2_31) 32 rfl ?_
  exact oc_iret dJ11_hashCode_2_32 rfl
theorem ok_12 : ∀ q ∈ pr_12, okL gmt mt_12 q.1 q.2 := pk_c o_12_0 (pk_c o_12_8 (pk_c o_12_31 (pk_n)))
theorem o_13_0 : okL gmt mt_13 0 b_13_0 := by
  refine oc (y := mt_13) (pc := 0) (ok_iload_n dJ11_hashCode_3_0) 1 rfl ?_
  refine oc (y := mt_13) (pc := 1) (ok_iload_n dJ11_hashCode_3_1) 2 rfl ?_
  refine oc (y := mt_13) (pc := 2) (ok_iadd dJ11_hashCode_3_2) 3 rfl ?_
  refine oc (y := mt_13) (pc := 3) (ok_istore dJ11_hashCode_3_3 (by decide)) 5 rfl ?_
  refine oc (y := mt_13) (pc := 5) (ok_iload_n dJ11_hashCode_3_5) 6 rfl ?_
  refine oc (y := mt_13) (pc := 6) (ok_istore dJ11_hashCode_3_6 (by decide)) 8 rfl ?_
  exact oc_fall rfl
theorem o_13_8 : okL gmt mt_13 8 b_13_8 := by
  refine oc (y := mt_13) (pc := 8) (ok_iload dJ11_hashCode_3_8) 10 rfl ?_
  refine oc (y := mt_13) (pc := 10) (ok_iload dJ11_hashCode_3_10) 12 rfl ?_
  refine oc_icmp dJ11_hashCode_3_12 ⟨by decide, by decide⟩ 15 rfl ?_
  refine oc (y := mt_13) (pc := 15) (ok_bipush dJ11_hashCode_3_15 (by decide) ⟨by decide, by decide⟩) 17 rfl ?_
  refine oc (y := mt_13) (pc := 17) (ok_iload_n dJ11_hashCode_3_17) 18 rfl ?_
  refine oc (y := mt_13) (pc := 18) (ok_imul dJ11_hashCode_3_18) 19 rfl ?_
  refine oc (y := mt_13) (pc := 19) (ok_aload_n dJ11_hashCode_3_19) 20 rfl ?_
  refine oc (y := mt_13) (pc := 20) (ok_iload dJ11_hashCode_3_20) 22 rfl ?_
  exact oc_end
theorem o_13_31 : okL gmt mt_13 31 b_13_31 := by
  refine oc (y := mt_13) (pc := 31) (ok_iload_n dJ11_hashCode_3_31) 32 rfl ?_
  exact oc_iret dJ11_hashCode_3_32 rfl
theorem ok_13 : ∀ q ∈ pr_13, okL gmt mt_13 q.1 q.2 := pk_c o_13_0 (pk_c o_13_8 (pk_c o_13_31 (pk_n)))
theorem o_14_0 : okL gmt mt_14 0 b_14_0 := by
  refine oc (y := mt_14) (pc := 0) (ok_iload_n dJ11_hashCode_4_0) 1 rfl ?_
  refine oc (y := mt_14) (pc := 1) (ok_iload_n dJ11_hashCode_4_1) 2 rfl ?_
  refine oc (y := mt_14) (pc := 2) (ok_iadd dJ11_hashCode_4_2) 3 rfl ?_
  refine oc (y := mt_14) (pc := 3) (ok_istore dJ11_hashCode_4_3 (by decide)) 5 rfl ?_
  refine oc (y := mt_14) (pc := 5) (ok_iload_n dJ11_hashCode_4_5) 6 rfl ?_
  refine oc (y := mt_14) (pc := 6) (ok_istore dJ11_hashCode_4_6 (by decide)) 8 rfl ?_
  exact oc_fall rfl
theorem o_14_8 : okL gmt mt_14 8 b_14_8 := by
  refine oc (y := mt_14) (pc := 8) (ok_iload dJ11_hashCode_4_8) 10 rfl ?_
  refine oc (y := mt_14) (pc := 10) (ok_iload dJ11_hashCode_4_10) 12 rfl ?_
  refine oc_icmp dJ11_hashCode_4_12 ⟨by decide, by decide⟩ 15 rfl ?_
  refine oc (y := mt_14) (pc := 15) (ok_bipush dJ11_hashCode_4_15 (by decide) ⟨by decide, by decide⟩) 17 rfl ?_
  refine oc (y := mt_14) (pc := 17) (ok_iload_n dJ11_hashCode_4_17) 18 rfl ?_
  refine oc (y := mt_14) (pc := 18) (ok_imul dJ11_hashCode_4_18) 19 rfl ?_
  refine oc (y := mt_14) (pc := 19) (ok_aload_n dJ11_hashCode_4_19) 20 rfl ?_
  refine oc (y := mt_14) (pc := 20) (ok_iload dJ11_hashCode_4_20) 22 rfl ?_
  refine oc (y := mt_14) (pc := 22) (ok_iaload dJ11_hashCode_4_22) 23 rfl ?_
  refine oc (y := mt_14) (pc := 23) (ok_iadd dJ11_hashCode_4_23) 24 rfl ?_
  refine oc (y := mt_14) (pc := 24) (ok_istore_n dJ11_hashCode_4_24 (by decide)) 25 rfl ?_
  refine oc (y := mt_14) (pc := 25) (ok_iinc dJ11_hashCode_4_25 (by decide)) 28 rfl ?_
  exact oc_goto dJ11_hashCode_4_28 ⟨by decide, by decide⟩
theorem o_14_31 : okL gmt mt_14 31 b_14_31 := by
  refine oc (y := mt_14) (pc := 31) (ok_iload_n dJ11_hashCode_4_31) 32 rfl ?_
  exact oc_iret dJ11_hashCode_4_32 rfl
theorem ok_14 : ∀ q ∈ pr_14, okL gmt mt_14 q.1 q.2 := pk_c o_14_0 (pk_c o_14_8 (pk_c o_14_31 (pk_n)))
theorem o_15_0 : okL gmt mt_15 0 b_15_0 := by
  refine oc (y := mt_15) (pc := 0) (ok_iload_n dJ11_newLength_0) 1 rfl ?_
  refine oc (y := mt_15) (pc := 1) (ok_iload_n dJ11_newLength_1) 2 rfl ?_
  refine oc (y := mt_15) (pc := 2) (ok_iload_n dJ11_newLength_2) 3 rfl ?_
  refine oc_S (y := mt_15) (pc := 3) (M := mt_17) rfl (ck_S dJ11_newLength_3 ⟨by decide, by decide, by decide, by decide +kernel⟩ q955 q956 q184 q957) (hok0 rfl) (by decide) 6 rfl ?_
  refine oc (y := mt_15) (pc := 6) (ok_iadd dJ11_newLength_6) 7 rfl ?_
  refine oc (y := mt_15) (pc := 7) (ok_istore_n dJ11_newLength_7 (by decide)) 8 rfl ?_
  refine oc (y := mt_15) (pc := 8) (ok_iconst dJ11_newLength_8 rfl ⟨by decide, by decide⟩) 9 rfl ?_
  refine oc (y := mt_15) (pc := 9) (ok_iload_n dJ11_newLength_9) 10 rfl ?_
  refine oc_icmp dJ11_newLength_10 ⟨by decide, by decide⟩ 13 rfl ?_
  refine oc (y := mt_15) (pc := 13) (ok_iload_n dJ11_newLength_13) 14 rfl ?_
  refine oc (y := mt_15) (pc := 14) (ok_ldcI dJ11_newLength_14 rfl ⟨by decide, by decide⟩ q958) 16 rfl ?_
  refine oc_icmp dJ11_newLength_16 ⟨by decide, by decide⟩ 19 rfl ?_
  refine oc (y := mt_15) (pc := 19) (ok_iload_n dJ11_newLength_19) 20 rfl ?_
  exact oc_iret dJ11_newLength_20 rfl
theorem o_15_21 : okL gmt mt_15 21 b_15_21 := by
  refine oc (y := mt_15) (pc := 21) (ok_iload_n dJ11_newLength_21) 22 rfl ?_
  refine oc (y := mt_15) (pc := 22) (ok_iload_n dJ11_newLength_22) 23 rfl ?_
  refine oc_S (y := mt_15) (pc := 23) (M := mt_16) rfl (ck_S dJ11_newLength_23 ⟨by decide, by decide, by decide, by decide +kernel⟩ q959 q960 q181 q961) (hok0 rfl) (by decide) 26 rfl ?_
  exact oc_iret dJ11_newLength_26 rfl
theorem ok_15 : ∀ q ∈ pr_15, okL gmt mt_15 q.1 q.2 := pk_c o_15_0 (pk_c o_15_21 (pk_n))
theorem o_16_0 : okL gmt mt_16 0 b_16_0 := by
  refine oc (y := mt_16) (pc := 0) (ok_iload_n dJ11_hugeLength_0) 1 rfl ?_
  refine oc (y := mt_16) (pc := 1) (ok_iload_n dJ11_hugeLength_1) 2 rfl ?_
  refine oc (y := mt_16) (pc := 2) (ok_iadd dJ11_hugeLength_2) 3 rfl ?_
  refine oc (y := mt_16) (pc := 3) (ok_istore_n dJ11_hugeLength_3 (by decide)) 4 rfl ?_
  refine oc (y := mt_16) (pc := 4) (ok_iload_n dJ11_hugeLength_4) 5 rfl ?_
  refine oc_if dJ11_hugeLength_5 ⟨by decide, by decide⟩ 8 rfl ?_
  exact oc_end
theorem o_16_49 : okL gmt mt_16 49 b_16_49 := by
  refine oc (y := mt_16) (pc := 49) (ok_iload_n dJ11_hugeLength_49) 50 rfl ?_
  refine oc (y := mt_16) (pc := 50) (ok_ldcI dJ11_hugeLength_50 rfl ⟨by decide, by decide⟩ q958) 52 rfl ?_
  refine oc_icmp dJ11_hugeLength_52 ⟨by decide, by decide⟩ 55 rfl ?_
  refine oc (y := mt_16) (pc := 55) (ok_ldcI dJ11_hugeLength_55 rfl ⟨by decide, by decide⟩ q958) 57 rfl ?_
  exact oc_iret dJ11_hugeLength_57 rfl
theorem o_16_58 : okL gmt mt_16 58 b_16_58 := by
  refine oc (y := mt_16) (pc := 58) (ok_iload_n dJ11_hugeLength_58) 59 rfl ?_
  exact oc_iret dJ11_hugeLength_59 rfl
theorem ok_16 : ∀ q ∈ pr_16, okL gmt mt_16 q.1 q.2 := pk_c o_16_0 (pk_c o_16_49 (pk_c o_16_58 (pk_n)))
theorem o_17_0 : okL gmt mt_17 0 b_17_0 := by
  refine oc (y := mt_17) (pc := 0) (ok_iload_n dJ12_max_0) 1 rfl ?_
  refine oc (y := mt_17) (pc := 1) (ok_iload_n dJ12_max_1) 2 rfl ?_
  refine oc_icmp dJ12_max_2 ⟨by decide, by decide⟩ 5 rfl ?_
  refine oc (y := mt_17) (pc := 5) (ok_iload_n dJ12_max_5) 6 rfl ?_
  exact oc_goto dJ12_max_6 ⟨by decide, by decide⟩
theorem o_17_9 : okL gmt mt_17 9 b_17_9 := by
  refine oc (y := mt_17) (pc := 9) (ok_iload_n dJ12_max_9) 10 rfl ?_
  exact oc_fall rfl
theorem o_17_10 : okL gmt mt_17 10 b_17_10 := by
  exact oc_iret dJ12_max_10 rfl
theorem ok_17 : ∀ q ∈ pr_17, okL gmt mt_17 q.1 q.2 := pk_c o_17_0 (pk_c o_17_9 (pk_c o_17_10 (pk_n)))
theorem o_18_0 : okL gmt mt_18 0 b_18_0 := by
  refine oc (y := mt_18) (pc := 0) (ok_iload_n dJ12_min_0) 1 rfl ?_
  refine oc (y := mt_18) (pc := 1) (ok_iload_n dJ12_min_1) 2 rfl ?_
  refine oc_icmp dJ12_min_2 ⟨by decide, by decide⟩ 5 rfl ?_
  refine oc (y := mt_18) (pc := 5) (ok_iload_n dJ12_min_5) 6 rfl ?_
  exact oc_goto dJ12_min_6 ⟨by decide, by decide⟩
theorem o_18_9 : okL gmt mt_18 9 b_18_9 := by
  refine oc (y := mt_18) (pc := 9) (ok_iload_n dJ12_min_9) 10 rfl ?_
  exact oc_fall rfl
theorem o_18_10 : okL gmt mt_18 10 b_18_10 := by
  exact oc_iret dJ12_min_10 rfl
theorem ok_18 : ∀ q ∈ pr_18, okL gmt mt_18 q.1 q.2 := pk_c o_18_0 (pk_c o_18_9 (pk_c o_18_10 (pk_n)))
theorem o_19_0 : okL gmt mt_19 0 b_19_0 := by
  refine oc (y := mt_19) (pc := 0) (ok_iload_n dJ12_abs_0) 1 rfl ?_
  refine oc_if dJ12_abs_1 ⟨by decide, by decide⟩ 4 rfl ?_
  refine oc (y := mt_19) (pc := 4) (ok_iload_n dJ12_abs_4) 5 rfl ?_
  refine oc (y := mt_19) (pc := 5) (ok_ineg dJ12_abs_5) 6 rfl ?_
  exact oc_goto dJ12_abs_6 ⟨by decide, by decide⟩
theorem o_19_9 : okL gmt mt_19 9 b_19_9 := by
  refine oc (y := mt_19) (pc := 9) (ok_iload_n dJ12_abs_9) 10 rfl ?_
  exact oc_fall rfl
theorem o_19_10 : okL gmt mt_19 10 b_19_10 := by
  exact oc_iret dJ12_abs_10 rfl
theorem ok_19 : ∀ q ∈ pr_19, okL gmt mt_19 q.1 q.2 := pk_c o_19_0 (pk_c o_19_9 (pk_c o_19_10 (pk_n)))
theorem o_20_0 : okL gmt mt_20 0 b_20_0 := by
  refine oc (y := mt_20) (pc := 0) (ok_lload_n dJ12_min_2_0) 1 rfl ?_
  refine oc (y := mt_20) (pc := 1) (ok_lload_n dJ12_min_2_1) 2 rfl ?_
  refine oc (y := mt_20) (pc := 2) (ok_lcmp dJ12_min_2_2) 3 rfl ?_
  refine oc_if dJ12_min_2_3 ⟨by decide, by decide⟩ 6 rfl ?_
  refine oc (y := mt_20) (pc := 6) (ok_lload_n dJ12_min_2_6) 7 rfl ?_
  exact oc_goto dJ12_min_2_7 ⟨by decide, by decide⟩
theorem o_20_10 : okL gmt mt_20 10 b_20_10 := by
  refine oc (y := mt_20) (pc := 10) (ok_lload_n dJ12_min_2_10) 11 rfl ?_
  exact oc_fall rfl
theorem o_20_11 : okL gmt mt_20 11 b_20_11 := by
  exact oc_lret dJ12_min_2_11 rfl
theorem ok_20 : ∀ q ∈ pr_20, okL gmt mt_20 q.1 q.2 := pk_c o_20_0 (pk_c o_20_10 (pk_c o_20_11 (pk_n)))
theorem o_21_0 : okL gmt mt_21 0 b_21_0 := by
  refine oc (y := mt_21) (pc := 0) (ok_lload_n dJ12_max_2_0) 1 rfl ?_
  refine oc (y := mt_21) (pc := 1) (ok_lload_n dJ12_max_2_1) 2 rfl ?_
  refine oc (y := mt_21) (pc := 2) (ok_lcmp dJ12_max_2_2) 3 rfl ?_
  refine oc_if dJ12_max_2_3 ⟨by decide, by decide⟩ 6 rfl ?_
  refine oc (y := mt_21) (pc := 6) (ok_lload_n dJ12_max_2_6) 7 rfl ?_
  exact oc_goto dJ12_max_2_7 ⟨by decide, by decide⟩
theorem o_21_10 : okL gmt mt_21 10 b_21_10 := by
  refine oc (y := mt_21) (pc := 10) (ok_lload_n dJ12_max_2_10) 11 rfl ?_
  exact oc_fall rfl
theorem o_21_11 : okL gmt mt_21 11 b_21_11 := by
  exact oc_lret dJ12_max_2_11 rfl
theorem ok_21 : ∀ q ∈ pr_21, okL gmt mt_21 q.1 q.2 := pk_c o_21_0 (pk_c o_21_10 (pk_c o_21_11 (pk_n)))
theorem o_22_0 : okL gmt mt_22 0 b_22_0 := by
  refine oc (y := mt_22) (pc := 0) (ok_lload_n dJ12_floorDiv_0) 1 rfl ?_
  refine oc (y := mt_22) (pc := 1) (ok_lload_n dJ12_floorDiv_1) 2 rfl ?_
  refine oc (y := mt_22) (pc := 2) (ok_ldiv dJ12_floorDiv_2) 3 rfl ?_
  refine oc (y := mt_22) (pc := 3) (ok_lstore dJ12_floorDiv_3 (by decide)) 5 rfl ?_
  refine oc (y := mt_22) (pc := 5) (ok_lload_n dJ12_floorDiv_5) 6 rfl ?_
  refine oc (y := mt_22) (pc := 6) (ok_lload_n dJ12_floorDiv_6) 7 rfl ?_
  refine oc (y := mt_22) (pc := 7) (ok_lxor dJ12_floorDiv_7) 8 rfl ?_
  refine oc (y := mt_22) (pc := 8) (ok_lconst dJ12_floorDiv_8 (by decide) ⟨by decide, by decide⟩) 9 rfl ?_
  refine oc (y := mt_22) (pc := 9) (ok_lcmp dJ12_floorDiv_9) 10 rfl ?_
  refine oc_if dJ12_floorDiv_10 ⟨by decide, by decide⟩ 13 rfl ?_
  refine oc (y := mt_22) (pc := 13) (ok_lload dJ12_floorDiv_13) 15 rfl ?_
  refine oc (y := mt_22) (pc := 15) (ok_lload_n dJ12_floorDiv_15) 16 rfl ?_
  refine oc (y := mt_22) (pc := 16) (ok_lmul dJ12_floorDiv_16) 17 rfl ?_
  refine oc (y := mt_22) (pc := 17) (ok_lload_n dJ12_floorDiv_17) 18 rfl ?_
  refine oc (y := mt_22) (pc := 18) (ok_lcmp dJ12_floorDiv_18) 19 rfl ?_
  refine oc_if dJ12_floorDiv_19 ⟨by decide, by decide⟩ 22 rfl ?_
  refine oc (y := mt_22) (pc := 22) (ok_lload dJ12_floorDiv_22) 24 rfl ?_
  refine oc (y := mt_22) (pc := 24) (ok_lconst dJ12_floorDiv_24 (by decide) ⟨by decide, by decide⟩) 25 rfl ?_
  refine oc (y := mt_22) (pc := 25) (ok_lsub dJ12_floorDiv_25) 26 rfl ?_
  exact oc_lret dJ12_floorDiv_26 rfl
theorem o_22_27 : okL gmt mt_22 27 b_22_27 := by
  refine oc (y := mt_22) (pc := 27) (ok_lload dJ12_floorDiv_27) 29 rfl ?_
  exact oc_lret dJ12_floorDiv_29 rfl
theorem ok_22 : ∀ q ∈ pr_22, okL gmt mt_22 q.1 q.2 := pk_c o_22_0 (pk_c o_22_27 (pk_n))
theorem o_23_0 : okL gmt mt_23 0 b_23_0 := by
  refine oc (y := mt_23) (pc := 0) (ok_aload_n dJ13_copyOf_0) 1 rfl ?_
  refine oc (y := mt_23) (pc := 1) (ok_iload_n dJ13_copyOf_1) 2 rfl ?_
  refine oc (y := mt_23) (pc := 2) (ok_aload_n dJ13_copyOf_2) 3 rfl ?_
  refine oc_GC (y := mt_23) (pc := 3) (ok_getClass dJ13_copyOf_3 rfl q965 q2833 q2832 q966 q993) 6 rfl ?_
  refine oc_S (y := mt_23) (pc := 6) (M := mt_24) rfl (ck_S dJ13_copyOf_6 ⟨by decide, by decide, by decide, by decide +kernel⟩ q994 q995 q185 q996) (hok0 rfl) (by decide) 9 rfl ?_
  exact oc_aretA dJ13_copyOf_9 rfl
theorem ok_23 : ∀ q ∈ pr_23, okL gmt mt_23 q.1 q.2 := pk_c o_23_0 (pk_n)
theorem o_24_0 : okL gmt mt_24 0 b_24_0 := by
  refine oc (y := mt_24) (pc := 0) (ok_aload_n dJ13_copyOf_2_0) 1 rfl ?_
  refine oc (y := mt_24) (pc := 1) (ok_ldcM dJ13_copyOf_2_1 rfl rfl q997) 3 rfl ?_
  refine oc_acmp dJ13_copyOf_2_3 ⟨by decide, by decide⟩ 6 rfl ?_
  refine oc (y := mt_24) (pc := 6) (ok_iload_n dJ13_copyOf_2_6) 7 rfl ?_
  refine oc (y := mt_24) (pc := 7) (ok_anewarray (E := "java/lang/Object") dJ13_copyOf_2_7 (by decide) q998) 10 rfl ?_
  exact oc_goto dJ13_copyOf_2_10 ⟨by decide, by decide⟩
theorem o_24_13 : okL gmt mt_24 13 b_24_13 := by
  refine oc (y := mt_24) (pc := 13) (ok_aload_n dJ13_copyOf_2_13) 14 rfl ?_
  exact oc_end
theorem o_24_24 : okL gmt mt_24 24 b_24_24 := by
  refine oc (y := mt_24) (pc := 24) (ok_astore_n dJ13_copyOf_2_24 (by decide)) 25 rfl ?_
  refine oc (y := mt_24) (pc := 25) (ok_aload_n dJ13_copyOf_2_25) 26 rfl ?_
  refine oc (y := mt_24) (pc := 26) (ok_iconst dJ13_copyOf_2_26 rfl ⟨by decide, by decide⟩) 27 rfl ?_
  refine oc (y := mt_24) (pc := 27) (ok_aload_n dJ13_copyOf_2_27) 28 rfl ?_
  refine oc (y := mt_24) (pc := 28) (ok_iconst dJ13_copyOf_2_28 rfl ⟨by decide, by decide⟩) 29 rfl ?_
  refine oc (y := mt_24) (pc := 29) (ok_aload_n dJ13_copyOf_2_29) 30 rfl ?_
  refine oc (y := mt_24) (pc := 30) (ok_alen dJ13_copyOf_2_30) 31 rfl ?_
  refine oc (y := mt_24) (pc := 31) (ok_iload_n dJ13_copyOf_2_31) 32 rfl ?_
  refine oc_S (y := mt_24) (pc := 32) (M := mt_18) rfl (ck_S dJ13_copyOf_2_32 ⟨by decide, by decide, by decide, by decide +kernel⟩ q999 q1000 q184 q1001) (hok0 rfl) (by decide) 35 rfl ?_
  refine oc_copy (y := mt_24) (pc := 35) (ok_copy dJ13_copyOf_2_35 q1002 q1004 q1003 q186 (ct (by decide) rfl (Or.inr q2808) (ct (by decide) rfl (Or.inr q2809) (ct (by decide) rfl (Or.inr q2810) (ct (by decide) rfl (Or.inr q2811) (ct (by decide) rfl (Or.inr q2812) (ct (by decide) rfl (Or.inr q2813) (ct (by decide) rfl (Or.inr q2805) (ct (by decide) rfl (Or.inr q2806) (ct (by decide) rfl (Or.inr q2814) (ct (by decide) rfl (Or.inr q2807) (ct (by decide) rfl (Or.inr q2820) (ct (by decide) rfl (Or.inr q2816) (ct (by decide) rfl (Or.inr q2817) (ct (by decide) rfl (Or.inr q2818) (ct (by decide) rfl (Or.inr q2819) (ct (by decide) rfl (Or.inr q2821) (ct (by decide) rfl (Or.inr q2822) (ct (by decide) rfl (Or.inr q2823) (ct (by decide) rfl (Or.inr q2824) (ct (by decide) rfl (Or.inr q2825) (ct (by decide) rfl (Or.inr q2826) (ct (by decide) rfl (Or.inr q2827) (ct (by decide) rfl (Or.inr q2828) (ct (by decide) rfl (Or.inr q2829) (ct_nil)))))))))))))))))))))))))) 38 rfl ?_
  refine oc (y := mt_24) (pc := 38) (ok_aload_n dJ13_copyOf_2_38) 39 rfl ?_
  exact oc_aretA dJ13_copyOf_2_39 rfl
theorem ok_24 : ∀ q ∈ pr_24, okL gmt mt_24 q.1 q.2 := pk_c o_24_0 (pk_c o_24_13 (pk_c o_24_24 (pk_n)))
theorem o_25_0 : okL gmt mt_25 0 b_25_0 := by
  refine oc (y := mt_25) (pc := 0) (ok_iload_n dJ13_copyOf_3_0) 1 rfl ?_
  refine oc (y := mt_25) (pc := 1) (ok_aload_n dJ13_copyOf_3_1) 2 rfl ?_
  refine oc (y := mt_25) (pc := 2) (ok_alen dJ13_copyOf_3_2) 3 rfl ?_
  refine oc_icmp dJ13_copyOf_3_3 ⟨by decide, by decide⟩ 6 rfl ?_
  refine oc (y := mt_25) (pc := 6) (ok_aload_n dJ13_copyOf_3_6) 7 rfl ?_
  exact oc_end
theorem o_25_14 : okL gmt mt_25 14 b_25_14 := by
  refine oc (y := mt_25) (pc := 14) (ok_iload_n dJ13_copyOf_3_14) 15 rfl ?_
  refine oc (y := mt_25) (pc := 15) (ok_newarray dJ13_copyOf_3_15 (by decide) q374) 17 rfl ?_
  refine oc (y := mt_25) (pc := 17) (ok_astore_n dJ13_copyOf_3_17 (by decide)) 18 rfl ?_
  refine oc (y := mt_25) (pc := 18) (ok_aload_n dJ13_copyOf_3_18) 19 rfl ?_
  refine oc (y := mt_25) (pc := 19) (ok_iconst dJ13_copyOf_3_19 rfl ⟨by decide, by decide⟩) 20 rfl ?_
  refine oc (y := mt_25) (pc := 20) (ok_aload_n dJ13_copyOf_3_20) 21 rfl ?_
  refine oc (y := mt_25) (pc := 21) (ok_iconst dJ13_copyOf_3_21 rfl ⟨by decide, by decide⟩) 22 rfl ?_
  refine oc (y := mt_25) (pc := 22) (ok_aload_n dJ13_copyOf_3_22) 23 rfl ?_
  refine oc (y := mt_25) (pc := 23) (ok_alen dJ13_copyOf_3_23) 24 rfl ?_
  refine oc (y := mt_25) (pc := 24) (ok_iload_n dJ13_copyOf_3_24) 25 rfl ?_
  refine oc_S (y := mt_25) (pc := 25) (M := mt_18) rfl (ck_S dJ13_copyOf_3_25 ⟨by decide, by decide, by decide, by decide +kernel⟩ q999 q1000 q184 q1001) (hok0 rfl) (by decide) 28 rfl ?_
  refine oc_copy (y := mt_25) (pc := 28) (ok_copy dJ13_copyOf_3_28 q1002 q1004 q1003 q186 (ct (by decide) rfl (Or.inr q2808) (ct (by decide) rfl (Or.inr q2809) (ct (by decide) rfl (Or.inr q2810) (ct (by decide) rfl (Or.inr q2811) (ct (by decide) rfl (Or.inr q2812) (ct (by decide) rfl (Or.inr q2813) (ct (by decide) rfl (Or.inr q2805) (ct (by decide) rfl (Or.inr q2806) (ct (by decide) rfl (Or.inr q2814) (ct (by decide) rfl (Or.inr q2807) (ct (by decide) rfl (Or.inr q2820) (ct (by decide) rfl (Or.inr q2816) (ct (by decide) rfl (Or.inr q2817) (ct (by decide) rfl (Or.inr q2818) (ct (by decide) rfl (Or.inr q2819) (ct (by decide) rfl (Or.inr q2821) (ct (by decide) rfl (Or.inr q2822) (ct (by decide) rfl (Or.inr q2823) (ct (by decide) rfl (Or.inr q2824) (ct (by decide) rfl (Or.inr q2825) (ct (by decide) rfl (Or.inr q2826) (ct (by decide) rfl (Or.inr q2827) (ct (by decide) rfl (Or.inr q2828) (ct (by decide) rfl (Or.inr q2829) (ct_nil)))))))))))))))))))))))))) 31 rfl ?_
  refine oc (y := mt_25) (pc := 31) (ok_aload_n dJ13_copyOf_3_31) 32 rfl ?_
  exact oc_aretA dJ13_copyOf_3_32 rfl
theorem ok_25 : ∀ q ∈ pr_25, okL gmt mt_25 q.1 q.2 := pk_c o_25_0 (pk_c o_25_14 (pk_n))
theorem o_26_0 : okL gmt mt_26 0 b_26_0 := by
  refine oc (y := mt_26) (pc := 0) (ok_aload_n dJ14_init_0) 1 rfl ?_
  refine oc_oi (y := mt_26) (pc := 1) dJ14_init_1 q1100 q210 q211 4 rfl ?_
  refine oc (y := mt_26) (pc := 4) (ok_getstatic (x := ("java/lang/String", "COMPACT_STRINGS", "Z", 0, 1)) dJ14_init_4 (List.mem_of_getElem? (i := 4) rfl) rfl rfl ⟨by decide, by decide⟩ (Or.inl q1101)) 7 rfl ?_
  refine oc_if dJ14_init_7 ⟨by decide, by decide⟩ 10 rfl ?_
  refine oc (y := mt_26) (pc := 10) (ok_aload_n dJ14_init_10) 11 rfl ?_
  refine oc (y := mt_26) (pc := 11) (ok_iload_n dJ14_init_11) 12 rfl ?_
  refine oc (y := mt_26) (pc := 12) (ok_newarray dJ14_init_12 (by decide) q374) 14 rfl ?_
  refine oc (y := mt_26) (pc := 14) (ok_putfield dJ14_init_14 (fp (own := "java/lang/AbstractStringBuilder") (idx := 15) (g := 11) (k := 0) (r := (RJ15, TJ15, 4)) rfl ⟨⟨by decide, by decide⟩, by decide⟩ (Or.inl q1103) (Or.inl rfl) rfl (Or.inl rfl) (fp_nil))) 17 rfl ?_
  refine oc (y := mt_26) (pc := 17) (ok_aload_n dJ14_init_17) 18 rfl ?_
  refine oc (y := mt_26) (pc := 18) (ok_iconst dJ14_init_18 rfl ⟨by decide, by decide⟩) 19 rfl ?_
  refine oc (y := mt_26) (pc := 19) (ok_putfield dJ14_init_19 (fp (own := "java/lang/AbstractStringBuilder") (idx := 22) (g := 11) (k := 1) (r := (RJ15, TJ15, 4)) rfl ⟨⟨by decide, by decide⟩, by decide⟩ (Or.inl q1104) (Or.inl rfl) rfl (Or.inl rfl) (fp_nil))) 22 rfl ?_
  exact oc_goto dJ14_init_22 ⟨by decide, by decide⟩
theorem o_26_25 : okL gmt mt_26 25 b_26_25 := by
  refine oc (y := mt_26) (pc := 25) (ok_aload_n dJ14_init_25) 26 rfl ?_
  refine oc (y := mt_26) (pc := 26) (ok_iload_n dJ14_init_26) 27 rfl ?_
  refine oc_S (y := mt_26) (pc := 27) (M := mt_67) rfl (ck_S dJ14_init_27 ⟨by decide, by decide, by decide, by decide +kernel⟩ q1102 q706 q179 q707) (hok0 rfl) (by decide) 30 rfl ?_
  refine oc (y := mt_26) (pc := 30) (ok_putfield dJ14_init_30 (fp (own := "java/lang/AbstractStringBuilder") (idx := 15) (g := 11) (k := 0) (r := (RJ15, TJ15, 4)) rfl ⟨⟨by decide, by decide⟩, by decide⟩ (Or.inl q1103) (Or.inl rfl) rfl (Or.inl rfl) (fp_nil))) 33 rfl ?_
  refine oc (y := mt_26) (pc := 33) (ok_aload_n dJ14_init_33) 34 rfl ?_
  refine oc (y := mt_26) (pc := 34) (ok_iconst dJ14_init_34 rfl ⟨by decide, by decide⟩) 35 rfl ?_
  refine oc (y := mt_26) (pc := 35) (ok_putfield dJ14_init_35 (fp (own := "java/lang/AbstractStringBuilder") (idx := 22) (g := 11) (k := 1) (r := (RJ15, TJ15, 4)) rfl ⟨⟨by decide, by decide⟩, by decide⟩ (Or.inl q1104) (Or.inl rfl) rfl (Or.inl rfl) (fp_nil))) 38 rfl ?_
  exact oc_fall rfl
theorem o_26_38 : okL gmt mt_26 38 b_26_38 := by
  exact oc_ret dJ14_init_38 rfl
theorem ok_26 : ∀ q ∈ pr_26, okL gmt mt_26 q.1 q.2 := pk_c o_26_0 (pk_c o_26_25 (pk_c o_26_38 (pk_n)))
theorem o_27_0 : okL gmt mt_27 0 b_27_0 := by
  refine oc (y := mt_27) (pc := 0) (ok_aload_n dJ14_append_0) 1 rfl ?_
  refine oc (y := mt_27) (pc := 1) (ok_aload_n dJ14_append_1) 2 rfl ?_
  refine oc (y := mt_27) (pc := 2) (ok_getfield dJ14_append_2 (fg (own := "java/lang/AbstractStringBuilder") (idx := 79) (g := 11) (k := 3) (r := (RJ15, TJ15, 4)) rfl ⟨⟨by decide, by decide⟩, by decide⟩ (Or.inl q1105) (Or.inl rfl) rfl (fg_nil))) 5 rfl ?_
  refine oc (y := mt_27) (pc := 5) (ok_iconst dJ14_append_5 rfl ⟨by decide, by decide⟩) 6 rfl ?_
  refine oc (y := mt_27) (pc := 6) (ok_iadd dJ14_append_6) 7 rfl ?_
  refine oc_V (y := mt_27) (pc := 7) (vcons (y := mt_27) (pc := 7) (len := 3) (n := 2) (M := mt_28) (by decide) rfl (Or.inr rfl) rfl (ck_U (C := "java/lang/StringBuilder") (x := yJ14_ensureCapacityInternal) dJ14_append_7 rfl ⟨by decide, by decide, by decide, by decide +kernel⟩ q1214 q2788 qe0 q1216 q191 q1217) (vnil)) (hok0 rfl) (by decide) 10 rfl ?_
  refine oc (y := mt_27) (pc := 10) (ok_aload_n dJ14_append_10) 11 rfl ?_
  refine oc_V (y := mt_27) (pc := 11) (vcons (y := mt_27) (pc := 11) (len := 3) (n := 1) (M := mt_30) (by decide) rfl (Or.inr rfl) rfl (ck_U (C := "java/lang/StringBuilder") (x := yJ14_isLatin1) dJ14_append_11 rfl ⟨by decide, by decide, by decide, by decide +kernel⟩ q1234 q1236 q1237 q1235 q191 q1238) (vnil)) (hok0 rfl) (by decide) 14 rfl ?_
  refine oc_if dJ14_append_14 ⟨by decide, by decide⟩ 17 rfl ?_
  refine oc (y := mt_27) (pc := 17) (ok_iload_n dJ14_append_17) 18 rfl ?_
  refine oc_S (y := mt_27) (pc := 18) (M := mt_5) rfl (ck_S dJ14_append_18 ⟨by decide, by decide, by decide, by decide +kernel⟩ q1239 q1240 q180 q1241) (hok0 rfl) (by decide) 21 rfl ?_
  refine oc_if dJ14_append_21 ⟨by decide, by decide⟩ 24 rfl ?_
  refine oc (y := mt_27) (pc := 24) (ok_aload_n dJ14_append_24) 25 rfl ?_
  refine oc (y := mt_27) (pc := 25) (ok_getfield dJ14_append_25 (fg (own := "java/lang/AbstractStringBuilder") (idx := 15) (g := 11) (k := 0) (r := (RJ15, TJ15, 4)) rfl ⟨⟨by decide, by decide⟩, by decide⟩ (Or.inl q1103) (Or.inl rfl) rfl (fg_nil))) 28 rfl ?_
  refine oc (y := mt_27) (pc := 28) (ok_aload_n dJ14_append_28) 29 rfl ?_
  refine oc (y := mt_27) (pc := 29) (ok_dup dJ14_append_29) 30 rfl ?_
  refine oc (y := mt_27) (pc := 30) (ok_getfield dJ14_append_30 (fg (own := "java/lang/AbstractStringBuilder") (idx := 79) (g := 11) (k := 3) (r := (RJ15, TJ15, 4)) rfl ⟨⟨by decide, by decide⟩, by decide⟩ (Or.inl q1105) (Or.inl rfl) rfl (fg_nil))) 33 rfl ?_
  refine oc (y := mt_27) (pc := 33) (ok_dup_x1 dJ14_append_33) 34 rfl ?_
  refine oc (y := mt_27) (pc := 34) (ok_iconst dJ14_append_34 rfl ⟨by decide, by decide⟩) 35 rfl ?_
  refine oc (y := mt_27) (pc := 35) (ok_iadd dJ14_append_35) 36 rfl ?_
  refine oc (y := mt_27) (pc := 36) (ok_putfield dJ14_append_36 (fp (own := "java/lang/AbstractStringBuilder") (idx := 79) (g := 11) (k := 3) (r := (RJ15, TJ15, 4)) rfl ⟨⟨by decide, by decide⟩, by decide⟩ (Or.inl q1105) (Or.inl rfl) rfl (Or.inl rfl) (fp_nil))) 39 rfl ?_
  refine oc (y := mt_27) (pc := 39) (ok_iload_n dJ14_append_39) 40 rfl ?_
  refine oc (y := mt_27) (pc := 40) (ok_i2b dJ14_append_40) 41 rfl ?_
  refine oc (y := mt_27) (pc := 41) (ok_bastore dJ14_append_41) 42 rfl ?_
  exact oc_goto dJ14_append_42 ⟨by decide, by decide⟩
theorem o_27_45 : okL gmt mt_27 45 b_27_45 := by
  refine oc (y := mt_27) (pc := 45) (ok_aload_n dJ14_append_45) 46 rfl ?_
  refine oc_V (y := mt_27) (pc := 46) (vcons (y := mt_27) (pc := 46) (len := 3) (n := 1) (M := mt_30) (by decide) rfl (Or.inr rfl) rfl (ck_U (C := "java/lang/StringBuilder") (x := yJ14_isLatin1) dJ14_append_46 rfl ⟨by decide, by decide, by decide, by decide +kernel⟩ q1234 q1236 q1237 q1235 q191 q1238) (vnil)) (hok0 rfl) (by decide) 49 rfl ?_
  refine oc_if dJ14_append_49 ⟨by decide, by decide⟩ 52 rfl ?_
  refine oc (y := mt_27) (pc := 52) (ok_aload_n dJ14_append_52) 53 rfl ?_
  exact oc_end
theorem o_27_56 : okL gmt mt_27 56 b_27_56 := by
  refine oc (y := mt_27) (pc := 56) (ok_aload_n dJ14_append_56) 57 rfl ?_
  refine oc (y := mt_27) (pc := 57) (ok_getfield dJ14_append_57 (fg (own := "java/lang/AbstractStringBuilder") (idx := 15) (g := 11) (k := 0) (r := (RJ15, TJ15, 4)) rfl ⟨⟨by decide, by decide⟩, by decide⟩ (Or.inl q1103) (Or.inl rfl) rfl (fg_nil))) 60 rfl ?_
  refine oc (y := mt_27) (pc := 60) (ok_aload_n dJ14_append_60) 61 rfl ?_
  refine oc (y := mt_27) (pc := 61) (ok_dup dJ14_append_61) 62 rfl ?_
  refine oc (y := mt_27) (pc := 62) (ok_getfield dJ14_append_62 (fg (own := "java/lang/AbstractStringBuilder") (idx := 79) (g := 11) (k := 3) (r := (RJ15, TJ15, 4)) rfl ⟨⟨by decide, by decide⟩, by decide⟩ (Or.inl q1105) (Or.inl rfl) rfl (fg_nil))) 65 rfl ?_
  refine oc (y := mt_27) (pc := 65) (ok_dup_x1 dJ14_append_65) 66 rfl ?_
  refine oc (y := mt_27) (pc := 66) (ok_iconst dJ14_append_66 rfl ⟨by decide, by decide⟩) 67 rfl ?_
  refine oc (y := mt_27) (pc := 67) (ok_iadd dJ14_append_67) 68 rfl ?_
  refine oc (y := mt_27) (pc := 68) (ok_putfield dJ14_append_68 (fp (own := "java/lang/AbstractStringBuilder") (idx := 79) (g := 11) (k := 3) (r := (RJ15, TJ15, 4)) rfl ⟨⟨by decide, by decide⟩, by decide⟩ (Or.inl q1105) (Or.inl rfl) rfl (Or.inl rfl) (fp_nil))) 71 rfl ?_
  refine oc (y := mt_27) (pc := 71) (ok_iload_n dJ14_append_71) 72 rfl ?_
  refine oc_S (y := mt_27) (pc := 72) (M := mt_77) rfl (ck_S dJ14_append_72 ⟨by decide, by decide, by decide, by decide +kernel⟩ q1252 q1253 q179 q1254) (hok0 rfl) (by decide) 75 rfl ?_
  exact oc_fall rfl
theorem o_27_75 : okL gmt mt_27 75 b_27_75 := by
  refine oc (y := mt_27) (pc := 75) (ok_aload_n dJ14_append_75) 76 rfl ?_
  exact oc_aretO dJ14_append_76 rfl
theorem ok_27 : ∀ q ∈ pr_27, okL gmt mt_27 q.1 q.2 := pk_c o_27_0 (pk_c o_27_45 (pk_c o_27_56 (pk_c o_27_75 (pk_n))))
theorem o_28_0 : okL gmt mt_28 0 b_28_0 := by
  refine oc (y := mt_28) (pc := 0) (ok_aload_n dJ14_ensureCapacityInternal_0) 1 rfl ?_
  refine oc (y := mt_28) (pc := 1) (ok_getfield dJ14_ensureCapacityInternal_1 (fg (own := "java/lang/AbstractStringBuilder") (idx := 15) (g := 11) (k := 0) (r := (RJ15, TJ15, 4)) rfl ⟨⟨by decide, by decide⟩, by decide⟩ (Or.inl q1103) (Or.inl rfl) rfl (fg_nil))) 4 rfl ?_
  refine oc (y := mt_28) (pc := 4) (ok_alen dJ14_ensureCapacityInternal_4) 5 rfl ?_
  refine oc (y := mt_28) (pc := 5) (ok_aload_n dJ14_ensureCapacityInternal_5) 6 rfl ?_
  refine oc (y := mt_28) (pc := 6) (ok_getfield dJ14_ensureCapacityInternal_6 (fg (own := "java/lang/AbstractStringBuilder") (idx := 22) (g := 11) (k := 1) (r := (RJ15, TJ15, 4)) rfl ⟨⟨by decide, by decide⟩, by decide⟩ (Or.inl q1104) (Or.inl rfl) rfl (fg_nil))) 9 rfl ?_
  refine oc (y := mt_28) (pc := 9) (ok_ishr dJ14_ensureCapacityInternal_9) 10 rfl ?_
  refine oc (y := mt_28) (pc := 10) (ok_istore_n dJ14_ensureCapacityInternal_10 (by decide)) 11 rfl ?_
  refine oc (y := mt_28) (pc := 11) (ok_iload_n dJ14_ensureCapacityInternal_11) 12 rfl ?_
  refine oc (y := mt_28) (pc := 12) (ok_iload_n dJ14_ensureCapacityInternal_12) 13 rfl ?_
  refine oc (y := mt_28) (pc := 13) (ok_isub dJ14_ensureCapacityInternal_13) 14 rfl ?_
  refine oc_if dJ14_ensureCapacityInternal_14 ⟨by decide, by decide⟩ 17 rfl ?_
  refine oc (y := mt_28) (pc := 17) (ok_aload_n dJ14_ensureCapacityInternal_17) 18 rfl ?_
  refine oc (y := mt_28) (pc := 18) (ok_aload_n dJ14_ensureCapacityInternal_18) 19 rfl ?_
  refine oc (y := mt_28) (pc := 19) (ok_getfield dJ14_ensureCapacityInternal_19 (fg (own := "java/lang/AbstractStringBuilder") (idx := 15) (g := 11) (k := 0) (r := (RJ15, TJ15, 4)) rfl ⟨⟨by decide, by decide⟩, by decide⟩ (Or.inl q1103) (Or.inl rfl) rfl (fg_nil))) 22 rfl ?_
  refine oc (y := mt_28) (pc := 22) (ok_aload_n dJ14_ensureCapacityInternal_22) 23 rfl ?_
  refine oc (y := mt_28) (pc := 23) (ok_iload_n dJ14_ensureCapacityInternal_23) 24 rfl ?_
  refine oc_V (y := mt_28) (pc := 24) (vcons (y := mt_28) (pc := 24) (len := 3) (n := 2) (M := mt_29) (by decide) rfl (Or.inr rfl) rfl (ck_U (C := "java/lang/StringBuilder") (x := yJ14_newCapacity) dJ14_ensureCapacityInternal_24 rfl ⟨by decide, by decide, by decide, by decide +kernel⟩ q1218 q2789 qe1 q1220 q191 q1221) (vnil)) (hok0 rfl) (by decide) 27 rfl ?_
  refine oc (y := mt_28) (pc := 27) (ok_aload_n dJ14_ensureCapacityInternal_27) 28 rfl ?_
  refine oc (y := mt_28) (pc := 28) (ok_getfield dJ14_ensureCapacityInternal_28 (fg (own := "java/lang/AbstractStringBuilder") (idx := 22) (g := 11) (k := 1) (r := (RJ15, TJ15, 4)) rfl ⟨⟨by decide, by decide⟩, by decide⟩ (Or.inl q1104) (Or.inl rfl) rfl (fg_nil))) 31 rfl ?_
  refine oc (y := mt_28) (pc := 31) (ok_ishl dJ14_ensureCapacityInternal_31) 32 rfl ?_
  refine oc_S (y := mt_28) (pc := 32) (M := mt_25) rfl (ck_S dJ14_ensureCapacityInternal_32 ⟨by decide, by decide, by decide, by decide +kernel⟩ q1224 q1225 q185 q1226) (hok0 rfl) (by decide) 35 rfl ?_
  refine oc (y := mt_28) (pc := 35) (ok_putfield dJ14_ensureCapacityInternal_35 (fp (own := "java/lang/AbstractStringBuilder") (idx := 15) (g := 11) (k := 0) (r := (RJ15, TJ15, 4)) rfl ⟨⟨by decide, by decide⟩, by decide⟩ (Or.inl q1103) (Or.inl rfl) rfl (Or.inl rfl) (fp_nil))) 38 rfl ?_
  exact oc_fall rfl
theorem o_28_38 : okL gmt mt_28 38 b_28_38 := by
  exact oc_ret dJ14_ensureCapacityInternal_38 rfl
theorem ok_28 : ∀ q ∈ pr_28, okL gmt mt_28 q.1 q.2 := pk_c o_28_0 (pk_c o_28_38 (pk_n))
theorem o_29_0 : okL gmt mt_29 0 b_29_0 := by
  refine oc (y := mt_29) (pc := 0) (ok_aload_n dJ14_newCapacity_0) 1 rfl ?_
  refine oc (y := mt_29) (pc := 1) (ok_getfield dJ14_newCapacity_1 (fg (own := "java/lang/AbstractStringBuilder") (idx := 15) (g := 11) (k := 0) (r := (RJ15, TJ15, 4)) rfl ⟨⟨by decide, by decide⟩, by decide⟩ (Or.inl q1103) (Or.inl rfl) rfl (fg_nil))) 4 rfl ?_
  refine oc (y := mt_29) (pc := 4) (ok_alen dJ14_newCapacity_4) 5 rfl ?_
  refine oc (y := mt_29) (pc := 5) (ok_istore_n dJ14_newCapacity_5 (by decide)) 6 rfl ?_
  refine oc (y := mt_29) (pc := 6) (ok_iload_n dJ14_newCapacity_6) 7 rfl ?_
  refine oc (y := mt_29) (pc := 7) (ok_aload_n dJ14_newCapacity_7) 8 rfl ?_
  refine oc (y := mt_29) (pc := 8) (ok_getfield dJ14_newCapacity_8 (fg (own := "java/lang/AbstractStringBuilder") (idx := 22) (g := 11) (k := 1) (r := (RJ15, TJ15, 4)) rfl ⟨⟨by decide, by decide⟩, by decide⟩ (Or.inl q1104) (Or.inl rfl) rfl (fg_nil))) 11 rfl ?_
  refine oc (y := mt_29) (pc := 11) (ok_ishl dJ14_newCapacity_11) 12 rfl ?_
  refine oc (y := mt_29) (pc := 12) (ok_istore_n dJ14_newCapacity_12 (by decide)) 13 rfl ?_
  refine oc (y := mt_29) (pc := 13) (ok_iload_n dJ14_newCapacity_13) 14 rfl ?_
  refine oc (y := mt_29) (pc := 14) (ok_iload_n dJ14_newCapacity_14) 15 rfl ?_
  refine oc (y := mt_29) (pc := 15) (ok_isub dJ14_newCapacity_15) 16 rfl ?_
  refine oc (y := mt_29) (pc := 16) (ok_istore dJ14_newCapacity_16 (by decide)) 18 rfl ?_
  refine oc (y := mt_29) (pc := 18) (ok_iload_n dJ14_newCapacity_18) 19 rfl ?_
  refine oc (y := mt_29) (pc := 19) (ok_iload dJ14_newCapacity_19) 21 rfl ?_
  refine oc (y := mt_29) (pc := 21) (ok_iload_n dJ14_newCapacity_21) 22 rfl ?_
  refine oc (y := mt_29) (pc := 22) (ok_iconst dJ14_newCapacity_22 rfl ⟨by decide, by decide⟩) 23 rfl ?_
  refine oc (y := mt_29) (pc := 23) (ok_aload_n dJ14_newCapacity_23) 24 rfl ?_
  refine oc (y := mt_29) (pc := 24) (ok_getfield dJ14_newCapacity_24 (fg (own := "java/lang/AbstractStringBuilder") (idx := 22) (g := 11) (k := 1) (r := (RJ15, TJ15, 4)) rfl ⟨⟨by decide, by decide⟩, by decide⟩ (Or.inl q1104) (Or.inl rfl) rfl (fg_nil))) 27 rfl ?_
  refine oc (y := mt_29) (pc := 27) (ok_ishl dJ14_newCapacity_27) 28 rfl ?_
  refine oc (y := mt_29) (pc := 28) (ok_iadd dJ14_newCapacity_28) 29 rfl ?_
  refine oc_S (y := mt_29) (pc := 29) (M := mt_15) rfl (ck_S dJ14_newCapacity_29 ⟨by decide, by decide, by decide, by decide +kernel⟩ q1222 q953 q181 q954) (hok0 rfl) (by decide) 32 rfl ?_
  refine oc (y := mt_29) (pc := 32) (ok_istore dJ14_newCapacity_32 (by decide)) 34 rfl ?_
  refine oc (y := mt_29) (pc := 34) (ok_iload dJ14_newCapacity_34) 36 rfl ?_
  refine oc (y := mt_29) (pc := 36) (ok_ldcI dJ14_newCapacity_36 rfl ⟨by decide, by decide⟩ q1223) 38 rfl ?_
  refine oc_icmp dJ14_newCapacity_38 ⟨by decide, by decide⟩ 41 rfl ?_
  exact oc_end
theorem o_29_51 : okL gmt mt_29 51 b_29_51 := by
  refine oc (y := mt_29) (pc := 51) (ok_iload dJ14_newCapacity_51) 53 rfl ?_
  refine oc (y := mt_29) (pc := 53) (ok_aload_n dJ14_newCapacity_53) 54 rfl ?_
  refine oc (y := mt_29) (pc := 54) (ok_getfield dJ14_newCapacity_54 (fg (own := "java/lang/AbstractStringBuilder") (idx := 22) (g := 11) (k := 1) (r := (RJ15, TJ15, 4)) rfl ⟨⟨by decide, by decide⟩, by decide⟩ (Or.inl q1104) (Or.inl rfl) rfl (fg_nil))) 57 rfl ?_
  refine oc (y := mt_29) (pc := 57) (ok_ishr dJ14_newCapacity_57) 58 rfl ?_
  exact oc_iret dJ14_newCapacity_58 rfl
theorem ok_29 : ∀ q ∈ pr_29, okL gmt mt_29 q.1 q.2 := pk_c o_29_0 (pk_c o_29_51 (pk_n))
theorem o_30_0 : okL gmt mt_30 0 b_30_0 := by
  refine oc (y := mt_30) (pc := 0) (ok_getstatic (x := ("java/lang/String", "COMPACT_STRINGS", "Z", 0, 1)) dJ14_isLatin1_0 (List.mem_of_getElem? (i := 4) rfl) rfl rfl ⟨by decide, by decide⟩ (Or.inl q1101)) 3 rfl ?_
  refine oc_if dJ14_isLatin1_3 ⟨by decide, by decide⟩ 6 rfl ?_
  refine oc (y := mt_30) (pc := 6) (ok_aload_n dJ14_isLatin1_6) 7 rfl ?_
  refine oc (y := mt_30) (pc := 7) (ok_getfield dJ14_isLatin1_7 (fg (own := "java/lang/AbstractStringBuilder") (idx := 22) (g := 11) (k := 1) (r := (RJ15, TJ15, 4)) rfl ⟨⟨by decide, by decide⟩, by decide⟩ (Or.inl q1104) (Or.inl rfl) rfl (fg_nil))) 10 rfl ?_
  refine oc_if dJ14_isLatin1_10 ⟨by decide, by decide⟩ 13 rfl ?_
  refine oc (y := mt_30) (pc := 13) (ok_iconst dJ14_isLatin1_13 rfl ⟨by decide, by decide⟩) 14 rfl ?_
  exact oc_goto dJ14_isLatin1_14 ⟨by decide, by decide⟩
theorem o_30_17 : okL gmt mt_30 17 b_30_17 := by
  refine oc (y := mt_30) (pc := 17) (ok_iconst dJ14_isLatin1_17 rfl ⟨by decide, by decide⟩) 18 rfl ?_
  exact oc_fall rfl
theorem o_30_18 : okL gmt mt_30 18 b_30_18 := by
  exact oc_zret dJ14_isLatin1_18 rfl
theorem ok_30 : ∀ q ∈ pr_30, okL gmt mt_30 q.1 q.2 := pk_c o_30_0 (pk_c o_30_17 (pk_c o_30_18 (pk_n)))
theorem o_31_0 : okL gmt mt_31 0 b_31_0 := by
  refine oc (y := mt_31) (pc := 0) (ok_aload_n dJ14_inflate_0) 1 rfl ?_
  refine oc_V (y := mt_31) (pc := 1) (vcons (y := mt_31) (pc := 1) (len := 3) (n := 1) (M := mt_30) (by decide) rfl (Or.inr rfl) rfl (ck_U (C := "java/lang/StringBuilder") (x := yJ14_isLatin1) dJ14_inflate_1 rfl ⟨by decide, by decide, by decide, by decide +kernel⟩ q1234 q1236 q1237 q1235 q191 q1238) (vnil)) (hok0 rfl) (by decide) 4 rfl ?_
  refine oc_if dJ14_inflate_4 ⟨by decide, by decide⟩ 7 rfl ?_
  exact oc_ret dJ14_inflate_7 rfl
theorem o_31_8 : okL gmt mt_31 8 b_31_8 := by
  refine oc (y := mt_31) (pc := 8) (ok_aload_n dJ14_inflate_8) 9 rfl ?_
  refine oc (y := mt_31) (pc := 9) (ok_getfield dJ14_inflate_9 (fg (own := "java/lang/AbstractStringBuilder") (idx := 15) (g := 11) (k := 0) (r := (RJ15, TJ15, 4)) rfl ⟨⟨by decide, by decide⟩, by decide⟩ (Or.inl q1103) (Or.inl rfl) rfl (fg_nil))) 12 rfl ?_
  refine oc (y := mt_31) (pc := 12) (ok_alen dJ14_inflate_12) 13 rfl ?_
  refine oc_S (y := mt_31) (pc := 13) (M := mt_67) rfl (ck_S dJ14_inflate_13 ⟨by decide, by decide, by decide, by decide +kernel⟩ q1102 q706 q179 q707) (hok0 rfl) (by decide) 16 rfl ?_
  refine oc (y := mt_31) (pc := 16) (ok_astore_n dJ14_inflate_16 (by decide)) 17 rfl ?_
  refine oc (y := mt_31) (pc := 17) (ok_aload_n dJ14_inflate_17) 18 rfl ?_
  refine oc (y := mt_31) (pc := 18) (ok_getfield dJ14_inflate_18 (fg (own := "java/lang/AbstractStringBuilder") (idx := 15) (g := 11) (k := 0) (r := (RJ15, TJ15, 4)) rfl ⟨⟨by decide, by decide⟩, by decide⟩ (Or.inl q1103) (Or.inl rfl) rfl (fg_nil))) 21 rfl ?_
  refine oc (y := mt_31) (pc := 21) (ok_iconst dJ14_inflate_21 rfl ⟨by decide, by decide⟩) 22 rfl ?_
  refine oc (y := mt_31) (pc := 22) (ok_aload_n dJ14_inflate_22) 23 rfl ?_
  refine oc (y := mt_31) (pc := 23) (ok_iconst dJ14_inflate_23 rfl ⟨by decide, by decide⟩) 24 rfl ?_
  refine oc (y := mt_31) (pc := 24) (ok_aload_n dJ14_inflate_24) 25 rfl ?_
  refine oc (y := mt_31) (pc := 25) (ok_getfield dJ14_inflate_25 (fg (own := "java/lang/AbstractStringBuilder") (idx := 79) (g := 11) (k := 3) (r := (RJ15, TJ15, 4)) rfl ⟨⟨by decide, by decide⟩, by decide⟩ (Or.inl q1105) (Or.inl rfl) rfl (fg_nil))) 28 rfl ?_
  refine oc_S (y := mt_31) (pc := 28) (M := mt_6) rfl (ck_S dJ14_inflate_28 ⟨by decide, by decide, by decide, by decide +kernel⟩ q1246 q1247 q180 q1248) (hok0 rfl) (by decide) 31 rfl ?_
  refine oc (y := mt_31) (pc := 31) (ok_aload_n dJ14_inflate_31) 32 rfl ?_
  refine oc (y := mt_31) (pc := 32) (ok_aload_n dJ14_inflate_32) 33 rfl ?_
  refine oc (y := mt_31) (pc := 33) (ok_putfield dJ14_inflate_33 (fp (own := "java/lang/AbstractStringBuilder") (idx := 15) (g := 11) (k := 0) (r := (RJ15, TJ15, 4)) rfl ⟨⟨by decide, by decide⟩, by decide⟩ (Or.inl q1103) (Or.inl rfl) rfl (Or.inl rfl) (fp_nil))) 36 rfl ?_
  refine oc (y := mt_31) (pc := 36) (ok_aload_n dJ14_inflate_36) 37 rfl ?_
  refine oc (y := mt_31) (pc := 37) (ok_iconst dJ14_inflate_37 rfl ⟨by decide, by decide⟩) 38 rfl ?_
  refine oc (y := mt_31) (pc := 38) (ok_putfield dJ14_inflate_38 (fp (own := "java/lang/AbstractStringBuilder") (idx := 22) (g := 11) (k := 1) (r := (RJ15, TJ15, 4)) rfl ⟨⟨by decide, by decide⟩, by decide⟩ (Or.inl q1104) (Or.inl rfl) rfl (Or.inl rfl) (fp_nil))) 41 rfl ?_
  exact oc_ret dJ14_inflate_41 rfl
theorem ok_31 : ∀ q ∈ pr_31, okL gmt mt_31 q.1 q.2 := pk_c o_31_0 (pk_c o_31_8 (pk_n))
theorem o_32_0 : okL gmt mt_32 0 b_32_0 := by
  refine oc (y := mt_32) (pc := 0) (ok_aload_n dJ14_charAt_0) 1 rfl ?_
  refine oc (y := mt_32) (pc := 1) (ok_getfield dJ14_charAt_1 (fg (own := "java/lang/AbstractStringBuilder") (idx := 22) (g := 11) (k := 1) (r := (RJ15, TJ15, 4)) rfl ⟨⟨by decide, by decide⟩, by decide⟩ (Or.inl q1104) (Or.inl rfl) rfl (fg_nil))) 4 rfl ?_
  refine oc (y := mt_32) (pc := 4) (ok_istore_n dJ14_charAt_4 (by decide)) 5 rfl ?_
  refine oc (y := mt_32) (pc := 5) (ok_aload_n dJ14_charAt_5) 6 rfl ?_
  refine oc (y := mt_32) (pc := 6) (ok_getfield dJ14_charAt_6 (fg (own := "java/lang/AbstractStringBuilder") (idx := 15) (g := 11) (k := 0) (r := (RJ15, TJ15, 4)) rfl ⟨⟨by decide, by decide⟩, by decide⟩ (Or.inl q1103) (Or.inl rfl) rfl (fg_nil))) 9 rfl ?_
  refine oc (y := mt_32) (pc := 9) (ok_astore_n dJ14_charAt_9 (by decide)) 10 rfl ?_
  refine oc (y := mt_32) (pc := 10) (ok_aload_n dJ14_charAt_10) 11 rfl ?_
  refine oc (y := mt_32) (pc := 11) (ok_getfield dJ14_charAt_11 (fg (own := "java/lang/AbstractStringBuilder") (idx := 79) (g := 11) (k := 3) (r := (RJ15, TJ15, 4)) rfl ⟨⟨by decide, by decide⟩, by decide⟩ (Or.inl q1105) (Or.inl rfl) rfl (fg_nil))) 14 rfl ?_
  refine oc (y := mt_32) (pc := 14) (ok_aload_n dJ14_charAt_14) 15 rfl ?_
  refine oc (y := mt_32) (pc := 15) (ok_alen dJ14_charAt_15) 16 rfl ?_
  refine oc (y := mt_32) (pc := 16) (ok_iload_n dJ14_charAt_16) 17 rfl ?_
  refine oc (y := mt_32) (pc := 17) (ok_ishr dJ14_charAt_17) 18 rfl ?_
  refine oc_S (y := mt_32) (pc := 18) (M := mt_18) rfl (ck_S dJ14_charAt_18 ⟨by decide, by decide, by decide, by decide +kernel⟩ q1543 q1000 q184 q1001) (hok0 rfl) (by decide) 21 rfl ?_
  refine oc (y := mt_32) (pc := 21) (ok_istore dJ14_charAt_21 (by decide)) 23 rfl ?_
  refine oc (y := mt_32) (pc := 23) (ok_iload_n dJ14_charAt_23) 24 rfl ?_
  refine oc (y := mt_32) (pc := 24) (ok_iload dJ14_charAt_24) 26 rfl ?_
  refine oc_S (y := mt_32) (pc := 26) (M := mt_62) rfl (ck_S dJ14_charAt_26 ⟨by decide, by decide, by decide, by decide +kernel⟩ q1544 q1259 q178 q1260) (hok0 rfl) (by decide) 29 rfl ?_
  refine oc (y := mt_32) (pc := 29) (ok_iload_n dJ14_charAt_29) 30 rfl ?_
  refine oc_if dJ14_charAt_30 ⟨by decide, by decide⟩ 33 rfl ?_
  refine oc (y := mt_32) (pc := 33) (ok_aload_n dJ14_charAt_33) 34 rfl ?_
  refine oc (y := mt_32) (pc := 34) (ok_iload_n dJ14_charAt_34) 35 rfl ?_
  refine oc (y := mt_32) (pc := 35) (ok_baload dJ14_charAt_35) 36 rfl ?_
  refine oc (y := mt_32) (pc := 36) (ok_sipush dJ14_charAt_36 (by decide) ⟨by decide, by decide⟩) 39 rfl ?_
  refine oc (y := mt_32) (pc := 39) (ok_iand dJ14_charAt_39) 40 rfl ?_
  refine oc (y := mt_32) (pc := 40) (ok_i2c dJ14_charAt_40) 41 rfl ?_
  exact oc_cret dJ14_charAt_41 rfl
theorem o_32_42 : okL gmt mt_32 42 b_32_42 := by
  refine oc (y := mt_32) (pc := 42) (ok_aload_n dJ14_charAt_42) 43 rfl ?_
  refine oc (y := mt_32) (pc := 43) (ok_iload_n dJ14_charAt_43) 44 rfl ?_
  refine oc_S (y := mt_32) (pc := 44) (M := mt_71) rfl (ck_S dJ14_charAt_44 ⟨by decide, by decide, by decide, by decide +kernel⟩ q1545 q725 q179 q726) (hok0 rfl) (by decide) 47 rfl ?_
  exact oc_cret dJ14_charAt_47 rfl
theorem ok_32 : ∀ q ∈ pr_32, okL gmt mt_32 q.1 q.2 := pk_c o_32_0 (pk_c o_32_42 (pk_n))
theorem o_33_0 : okL gmt mt_33 0 b_33_0 := by
  refine oc (y := mt_33) (pc := 0) (ok_aload_n dJ15_init_0) 1 rfl ?_
  refine oc (y := mt_33) (pc := 1) (ok_bipush dJ15_init_1 (by decide) ⟨by decide, by decide⟩) 3 rfl ?_
  refine oc_I (y := mt_33) (pc := 3) (vcons (y := mt_33) (pc := 3) (len := 3) (n := 2) (M := mt_26) (by decide) rfl (Or.inl rfl) rfl (ck_I dJ15_init_3 ⟨by decide, by decide, by decide, by decide +kernel⟩ rfl q1097 q1098 q191 q1099) (vnil)) (hok0 rfl) (by decide) 6 rfl ?_
  exact oc_ret dJ15_init_6 rfl
theorem ok_33 : ∀ q ∈ pr_33, okL gmt mt_33 q.1 q.2 := pk_c o_33_0 (pk_n)
theorem o_34_0 : okL gmt mt_34 0 b_34_0 := by
  refine oc (y := mt_34) (pc := 0) (ok_aload_n dJ15_append_0) 1 rfl ?_
  refine oc (y := mt_34) (pc := 1) (ok_iload_n dJ15_append_1) 2 rfl ?_
  refine oc_I (y := mt_34) (pc := 2) (vcons (y := mt_34) (pc := 2) (len := 3) (n := 2) (M := mt_27) (by decide) rfl (Or.inr rfl) rfl (ck_SU (ci := 10) dJ15_append_2 rfl rfl ⟨by decide, by decide, by decide, by decide +kernel⟩ (by decide) q1211 q2787 q1114 q1212 q191 q1213) vnil) (hok0 rfl) (by decide) 5 rfl ?_
  refine oc (y := mt_34) (pc := 5) (ok_pop dJ15_append_5) 6 rfl ?_
  refine oc (y := mt_34) (pc := 6) (ok_aload_n dJ15_append_6) 7 rfl ?_
  exact oc_aretO dJ15_append_7 rfl
theorem ok_34 : ∀ q ∈ pr_34, okL gmt mt_34 q.1 q.2 := pk_c o_34_0 (pk_n)
theorem o_35_0 : okL gmt mt_35 0 b_35_0 := by
  refine oc (y := mt_35) (pc := 0) (ok_aload_n dJ15_charAt_0) 1 rfl ?_
  refine oc (y := mt_35) (pc := 1) (ok_iload_n dJ15_charAt_1) 2 rfl ?_
  refine oc_I (y := mt_35) (pc := 2) (vcons (y := mt_35) (pc := 2) (len := 3) (n := 2) (M := mt_32) (by decide) rfl (Or.inr rfl) rfl (ck_SU (ci := 10) dJ15_charAt_2 rfl rfl ⟨by decide, by decide, by decide, by decide +kernel⟩ (by decide) q1540 q2791 q1114 q1541 q191 q1542) vnil) (hok0 rfl) (by decide) 5 rfl ?_
  exact oc_cret dJ15_charAt_5 rfl
theorem ok_35 : ∀ q ∈ pr_35, okL gmt mt_35 q.1 q.2 := pk_c o_35_0 (pk_n)
theorem o_36_0 : okL gmt mt_36 0 b_36_0 := by
  refine oc (y := mt_36) (pc := 0) (ok_iload_n dJ16_signum_0) 1 rfl ?_
  refine oc (y := mt_36) (pc := 1) (ok_bipush dJ16_signum_1 (by decide) ⟨by decide, by decide⟩) 3 rfl ?_
  refine oc (y := mt_36) (pc := 3) (ok_ishr dJ16_signum_3) 4 rfl ?_
  refine oc (y := mt_36) (pc := 4) (ok_iload_n dJ16_signum_4) 5 rfl ?_
  refine oc (y := mt_36) (pc := 5) (ok_ineg dJ16_signum_5) 6 rfl ?_
  refine oc (y := mt_36) (pc := 6) (ok_bipush dJ16_signum_6 (by decide) ⟨by decide, by decide⟩) 8 rfl ?_
  refine oc (y := mt_36) (pc := 8) (ok_iushr dJ16_signum_8) 9 rfl ?_
  refine oc (y := mt_36) (pc := 9) (ok_ior dJ16_signum_9) 10 rfl ?_
  exact oc_iret dJ16_signum_10 rfl
theorem ok_36 : ∀ q ∈ pr_36, okL gmt mt_36 q.1 q.2 := pk_c o_36_0 (pk_n)
theorem o_37_0 : okL gmt mt_37 0 b_37_0 := by
  refine oc (y := mt_37) (pc := 0) (ok_aload_n dJ18_getUTF16Char_0) 1 rfl ?_
  refine oc (y := mt_37) (pc := 1) (ok_iload_n dJ18_getUTF16Char_1) 2 rfl ?_
  refine oc_S (y := mt_37) (pc := 2) (M := mt_71) rfl (ck_S dJ18_getUTF16Char_2 ⟨by decide, by decide, by decide, by decide +kernel⟩ q825 q725 q179 q726) (hok0 rfl) (by decide) 5 rfl ?_
  exact oc_cret dJ18_getUTF16Char_5 rfl
theorem ok_37 : ∀ q ∈ pr_37, okL gmt mt_37 q.1 q.2 := pk_c o_37_0 (pk_n)
theorem o_38_0 : okL gmt mt_38 0 b_38_0 := by
  refine oc (y := mt_38) (pc := 0) (ok_aload_n dJ2_init_0) 1 rfl ?_
  refine oc_I (y := mt_38) (pc := 1) (vcons (y := mt_38) (pc := 1) (len := 3) (n := 1) (M := mt_2) (by decide) rfl (Or.inl rfl) rfl (ck_I dJ2_init_1 ⟨by decide, by decide, by decide, by decide +kernel⟩ rfl q223 q224 q165 q225) (vnil)) (hok0 rfl) (by decide) 4 rfl ?_
  refine oc (y := mt_38) (pc := 4) (ok_iload_n dJ2_init_4) 5 rfl ?_
  refine oc_if dJ2_init_5 ⟨by decide, by decide⟩ 8 rfl ?_
  refine oc (y := mt_38) (pc := 8) (ok_aload_n dJ2_init_8) 9 rfl ?_
  refine oc (y := mt_38) (pc := 9) (ok_iload_n dJ2_init_9) 10 rfl ?_
  refine oc (y := mt_38) (pc := 10) (ok_anewarray (E := "java/lang/Object") dJ2_init_10 (by decide) q230) 13 rfl ?_
  refine oc (y := mt_38) (pc := 13) (ok_putfield dJ2_init_13 (fp (own := "java/util/ArrayList") (idx := 9) (g := 3) (k := 1) (r := (RJ2, TJ2, 3)) rfl ⟨⟨by decide, by decide⟩, by decide⟩ (Or.inl q234) (Or.inl rfl) rfl (Or.inl rfl) (fp_nil))) 16 rfl ?_
  exact oc_goto dJ2_init_16 ⟨by decide, by decide⟩
theorem o_38_19 : okL gmt mt_38 19 b_38_19 := by
  refine oc (y := mt_38) (pc := 19) (ok_iload_n dJ2_init_19) 20 rfl ?_
  refine oc_if dJ2_init_20 ⟨by decide, by decide⟩ 23 rfl ?_
  refine oc (y := mt_38) (pc := 23) (ok_aload_n dJ2_init_23) 24 rfl ?_
  exact oc_end
theorem o_38_33 : okL gmt mt_38 33 b_38_33 := by
  exact oc_end
theorem o_38_60 : okL gmt mt_38 60 b_38_60 := by
  exact oc_ret dJ2_init_60 rfl
theorem ok_38 : ∀ q ∈ pr_38, okL gmt mt_38 q.1 q.2 := pk_c o_38_0 (pk_c o_38_19 (pk_c o_38_33 (pk_c o_38_60 (pk_n))))
theorem o_39_0 : okL gmt mt_39 0 b_39_0 := by
  refine oc (y := mt_39) (pc := 0) (ok_aload_n dJ2_size_0) 1 rfl ?_
  refine oc (y := mt_39) (pc := 1) (ok_getfield dJ2_size_1 (fg (own := "java/util/ArrayList") (idx := 48) (g := 3) (k := 2) (r := (RJ2, TJ2, 3)) rfl ⟨⟨by decide, by decide⟩, by decide⟩ (Or.inl q235) (Or.inl rfl) rfl (fg_nil))) 4 rfl ?_
  exact oc_iret dJ2_size_4 rfl
theorem ok_39 : ∀ q ∈ pr_39, okL gmt mt_39 q.1 q.2 := pk_c o_39_0 (pk_n)
theorem o_40_0 : okL gmt mt_40 0 b_40_0 := by
  refine oc (y := mt_40) (pc := 0) (ok_iload_n dJ2_get_0) 1 rfl ?_
  refine oc (y := mt_40) (pc := 1) (ok_aload_n dJ2_get_1) 2 rfl ?_
  refine oc (y := mt_40) (pc := 2) (ok_getfield dJ2_get_2 (fg (own := "java/util/ArrayList") (idx := 48) (g := 3) (k := 2) (r := (RJ2, TJ2, 3)) rfl ⟨⟨by decide, by decide⟩, by decide⟩ (Or.inl q235) (Or.inl rfl) rfl (fg_nil))) 5 rfl ?_
  refine oc_S (y := mt_40) (pc := 5) (M := mt_50) rfl (ck_S dJ2_get_5 ⟨by decide, by decide, by decide, by decide +kernel⟩ q526 q527 q175 q528) (hok0 rfl) (by decide) 8 rfl ?_
  refine oc (y := mt_40) (pc := 8) (ok_pop dJ2_get_8) 9 rfl ?_
  refine oc (y := mt_40) (pc := 9) (ok_aload_n dJ2_get_9) 10 rfl ?_
  refine oc (y := mt_40) (pc := 10) (ok_iload_n dJ2_get_10) 11 rfl ?_
  refine oc_V (y := mt_40) (pc := 11) (vcons (y := mt_40) (pc := 11) (len := 3) (n := 2) (M := mt_41) (by decide) rfl (Or.inr rfl) rfl (ck_V dJ2_get_11 ⟨by decide, by decide, by decide, by decide +kernel⟩ q532 q533 q534 q166 q535) vnil) (hok0 rfl) (by decide) 14 rfl ?_
  exact oc_aretO dJ2_get_14 rfl
theorem ok_40 : ∀ q ∈ pr_40, okL gmt mt_40 q.1 q.2 := pk_c o_40_0 (pk_n)
theorem o_41_0 : okL gmt mt_41 0 b_41_0 := by
  refine oc (y := mt_41) (pc := 0) (ok_aload_n dJ2_elementData_0) 1 rfl ?_
  refine oc (y := mt_41) (pc := 1) (ok_getfield dJ2_elementData_1 (fg (own := "java/util/ArrayList") (idx := 9) (g := 3) (k := 1) (r := (RJ2, TJ2, 3)) rfl ⟨⟨by decide, by decide⟩, by decide⟩ (Or.inl q234) (Or.inl rfl) rfl (fg_nil))) 4 rfl ?_
  refine oc (y := mt_41) (pc := 4) (ok_iload_n dJ2_elementData_4) 5 rfl ?_
  refine oc (y := mt_41) (pc := 5) (ok_aaload (ty := .object "java/lang/Object") dJ2_elementData_5 (by decide) (by decide) rfl rfl) 6 rfl ?_
  exact oc_aretO dJ2_elementData_6 rfl
theorem ok_41 : ∀ q ∈ pr_41, okL gmt mt_41 q.1 q.2 := pk_c o_41_0 (pk_n)
theorem o_42_0 : okL gmt mt_42 0 b_42_0 := by
  refine oc (y := mt_42) (pc := 0) (ok_aload_n dJ2_add_0) 1 rfl ?_
  refine oc (y := mt_42) (pc := 1) (ok_dup dJ2_add_1) 2 rfl ?_
  refine oc (y := mt_42) (pc := 2) (ok_getfield dJ2_add_2 (fg (own := "java/util/ArrayList") (idx := 63) (g := 3) (k := 0) (r := (RJ2, TJ2, 3)) rfl ⟨⟨by decide, by decide⟩, by decide⟩ (Or.inl q237) (Or.inr q238) rfl (fg_nil))) 5 rfl ?_
  refine oc (y := mt_42) (pc := 5) (ok_iconst dJ2_add_5 rfl ⟨by decide, by decide⟩) 6 rfl ?_
  refine oc (y := mt_42) (pc := 6) (ok_iadd dJ2_add_6) 7 rfl ?_
  refine oc (y := mt_42) (pc := 7) (ok_putfield dJ2_add_7 (fp (own := "java/util/ArrayList") (idx := 63) (g := 3) (k := 0) (r := (RJ2, TJ2, 3)) rfl ⟨⟨by decide, by decide⟩, by decide⟩ (Or.inl q237) (Or.inr q238) rfl (Or.inl rfl) (fp_nil))) 10 rfl ?_
  refine oc (y := mt_42) (pc := 10) (ok_aload_n dJ2_add_10) 11 rfl ?_
  refine oc (y := mt_42) (pc := 11) (ok_aload_n dJ2_add_11) 12 rfl ?_
  refine oc (y := mt_42) (pc := 12) (ok_aload_n dJ2_add_12) 13 rfl ?_
  refine oc (y := mt_42) (pc := 13) (ok_getfield dJ2_add_13 (fg (own := "java/util/ArrayList") (idx := 9) (g := 3) (k := 1) (r := (RJ2, TJ2, 3)) rfl ⟨⟨by decide, by decide⟩, by decide⟩ (Or.inl q234) (Or.inl rfl) rfl (fg_nil))) 16 rfl ?_
  refine oc (y := mt_42) (pc := 16) (ok_aload_n dJ2_add_16) 17 rfl ?_
  refine oc (y := mt_42) (pc := 17) (ok_getfield dJ2_add_17 (fg (own := "java/util/ArrayList") (idx := 48) (g := 3) (k := 2) (r := (RJ2, TJ2, 3)) rfl ⟨⟨by decide, by decide⟩, by decide⟩ (Or.inl q235) (Or.inl rfl) rfl (fg_nil))) 20 rfl ?_
  refine oc_V (y := mt_42) (pc := 20) (vcons (y := mt_42) (pc := 20) (len := 3) (n := 4) (M := mt_43) (by decide) rfl (Or.inr rfl) rfl (ck_V dJ2_add_20 ⟨by decide, by decide, by decide, by decide +kernel⟩ q938 q940 qs21 q166 q941) vnil) (hok0 rfl) (by decide) 23 rfl ?_
  refine oc (y := mt_42) (pc := 23) (ok_iconst dJ2_add_23 rfl ⟨by decide, by decide⟩) 24 rfl ?_
  exact oc_zret dJ2_add_24 rfl
theorem ok_42 : ∀ q ∈ pr_42, okL gmt mt_42 q.1 q.2 := pk_c o_42_0 (pk_n)
theorem o_43_0 : okL gmt mt_43 0 b_43_0 := by
  refine oc (y := mt_43) (pc := 0) (ok_iload_n dJ2_add_2_0) 1 rfl ?_
  refine oc (y := mt_43) (pc := 1) (ok_aload_n dJ2_add_2_1) 2 rfl ?_
  refine oc (y := mt_43) (pc := 2) (ok_alen dJ2_add_2_2) 3 rfl ?_
  refine oc_icmp dJ2_add_2_3 ⟨by decide, by decide⟩ 6 rfl ?_
  refine oc (y := mt_43) (pc := 6) (ok_aload_n dJ2_add_2_6) 7 rfl ?_
  refine oc_V (y := mt_43) (pc := 7) (vcons (y := mt_43) (pc := 7) (len := 3) (n := 1) (M := mt_44) (by decide) rfl (Or.inr rfl) rfl (ck_V dJ2_add_2_7 ⟨by decide, by decide, by decide, by decide +kernel⟩ q942 q944 qs22 q166 q945) vnil) (hok0 rfl) (by decide) 10 rfl ?_
  refine oc (y := mt_43) (pc := 10) (ok_astore_n dJ2_add_2_10 (by decide)) 11 rfl ?_
  exact oc_fall rfl
theorem o_43_11 : okL gmt mt_43 11 b_43_11 := by
  refine oc (y := mt_43) (pc := 11) (ok_aload_n dJ2_add_2_11) 12 rfl ?_
  refine oc (y := mt_43) (pc := 12) (ok_iload_n dJ2_add_2_12) 13 rfl ?_
  refine oc (y := mt_43) (pc := 13) (ok_aload_n dJ2_add_2_13) 14 rfl ?_
  refine oc (y := mt_43) (pc := 14) (ok_aastore dJ2_add_2_14 (by decide) rfl (ct (by decide) rfl (Or.inr q2808) (ct (by decide) rfl (Or.inr q2809) (ct (by decide) rfl (Or.inr q2810) (ct (by decide) rfl (Or.inr q2811) (ct (by decide) rfl (Or.inr q2812) (ct (by decide) rfl (Or.inr q2813) (ct (by decide) rfl (Or.inr q2805) (ct (by decide) rfl (Or.inr q2806) (ct (by decide) rfl (Or.inr q2814) (ct (by decide) rfl (Or.inr q2807) (ct (by decide) rfl (Or.inr q2820) (ct (by decide) rfl (Or.inr q2816) (ct (by decide) rfl (Or.inr q2817) (ct (by decide) rfl (Or.inr q2818) (ct (by decide) rfl (Or.inr q2819) (ct (by decide) rfl (Or.inr q2821) (ct (by decide) rfl (Or.inr q2822) (ct (by decide) rfl (Or.inr q2823) (ct (by decide) rfl (Or.inr q2824) (ct (by decide) rfl (Or.inr q2825) (ct (by decide) rfl (Or.inr q2826) (ct (by decide) rfl (Or.inr q2827) (ct (by decide) rfl (Or.inr q2828) (ct (by decide) rfl (Or.inr q2829) (ct_nil)))))))))))))))))))))))))) 15 rfl ?_
  refine oc (y := mt_43) (pc := 15) (ok_aload_n dJ2_add_2_15) 16 rfl ?_
  refine oc (y := mt_43) (pc := 16) (ok_iload_n dJ2_add_2_16) 17 rfl ?_
  refine oc (y := mt_43) (pc := 17) (ok_iconst dJ2_add_2_17 rfl ⟨by decide, by decide⟩) 18 rfl ?_
  refine oc (y := mt_43) (pc := 18) (ok_iadd dJ2_add_2_18) 19 rfl ?_
  refine oc (y := mt_43) (pc := 19) (ok_putfield dJ2_add_2_19 (fp (own := "java/util/ArrayList") (idx := 48) (g := 3) (k := 2) (r := (RJ2, TJ2, 3)) rfl ⟨⟨by decide, by decide⟩, by decide⟩ (Or.inl q235) (Or.inl rfl) rfl (Or.inl rfl) (fp_nil))) 22 rfl ?_
  exact oc_ret dJ2_add_2_22 rfl
theorem ok_43 : ∀ q ∈ pr_43, okL gmt mt_43 q.1 q.2 := pk_c o_43_0 (pk_c o_43_11 (pk_n))
theorem o_44_0 : okL gmt mt_44 0 b_44_0 := by
  refine oc (y := mt_44) (pc := 0) (ok_aload_n dJ2_grow_0) 1 rfl ?_
  refine oc (y := mt_44) (pc := 1) (ok_aload_n dJ2_grow_1) 2 rfl ?_
  refine oc (y := mt_44) (pc := 2) (ok_getfield dJ2_grow_2 (fg (own := "java/util/ArrayList") (idx := 48) (g := 3) (k := 2) (r := (RJ2, TJ2, 3)) rfl ⟨⟨by decide, by decide⟩, by decide⟩ (Or.inl q235) (Or.inl rfl) rfl (fg_nil))) 5 rfl ?_
  refine oc (y := mt_44) (pc := 5) (ok_iconst dJ2_grow_5 rfl ⟨by decide, by decide⟩) 6 rfl ?_
  refine oc (y := mt_44) (pc := 6) (ok_iadd dJ2_grow_6) 7 rfl ?_
  refine oc_V (y := mt_44) (pc := 7) (vcons (y := mt_44) (pc := 7) (len := 3) (n := 2) (M := mt_45) (by decide) rfl (Or.inr rfl) rfl (ck_V dJ2_grow_7 ⟨by decide, by decide, by decide, by decide +kernel⟩ q946 q948 qs23 q166 q949) vnil) (hok0 rfl) (by decide) 10 rfl ?_
  exact oc_aretA dJ2_grow_10 rfl
theorem ok_44 : ∀ q ∈ pr_44, okL gmt mt_44 q.1 q.2 := pk_c o_44_0 (pk_n)
theorem o_45_0 : okL gmt mt_45 0 b_45_0 := by
  refine oc (y := mt_45) (pc := 0) (ok_aload_n dJ2_grow_2_0) 1 rfl ?_
  refine oc (y := mt_45) (pc := 1) (ok_getfield dJ2_grow_2_1 (fg (own := "java/util/ArrayList") (idx := 9) (g := 3) (k := 1) (r := (RJ2, TJ2, 3)) rfl ⟨⟨by decide, by decide⟩, by decide⟩ (Or.inl q234) (Or.inl rfl) rfl (fg_nil))) 4 rfl ?_
  refine oc (y := mt_45) (pc := 4) (ok_alen dJ2_grow_2_4) 5 rfl ?_
  refine oc (y := mt_45) (pc := 5) (ok_istore_n dJ2_grow_2_5 (by decide)) 6 rfl ?_
  refine oc (y := mt_45) (pc := 6) (ok_iload_n dJ2_grow_2_6) 7 rfl ?_
  refine oc_if dJ2_grow_2_7 ⟨by decide, by decide⟩ 10 rfl ?_
  refine oc (y := mt_45) (pc := 10) (ok_aload_n dJ2_grow_2_10) 11 rfl ?_
  refine oc (y := mt_45) (pc := 11) (ok_getfield dJ2_grow_2_11 (fg (own := "java/util/ArrayList") (idx := 9) (g := 3) (k := 1) (r := (RJ2, TJ2, 3)) rfl ⟨⟨by decide, by decide⟩, by decide⟩ (Or.inl q234) (Or.inl rfl) rfl (fg_nil))) 14 rfl ?_
  refine oc (y := mt_45) (pc := 14) (ok_getstatic (x := ("java/util/ArrayList", "DEFAULTCAPACITY_EMPTY_ELEMENTDATA", "[Ljava/lang/Object;", 2, -304)) dJ2_grow_2_14 (List.mem_of_getElem? (i := 5) rfl) rfl rfl trivial (Or.inl q950)) 17 rfl ?_
  refine oc_acmp dJ2_grow_2_17 ⟨by decide, by decide⟩ 20 rfl ?_
  exact oc_fall rfl
theorem o_45_20 : okL gmt mt_45 20 b_45_20 := by
  refine oc (y := mt_45) (pc := 20) (ok_iload_n dJ2_grow_2_20) 21 rfl ?_
  refine oc (y := mt_45) (pc := 21) (ok_iload_n dJ2_grow_2_21) 22 rfl ?_
  refine oc (y := mt_45) (pc := 22) (ok_iload_n dJ2_grow_2_22) 23 rfl ?_
  refine oc (y := mt_45) (pc := 23) (ok_isub dJ2_grow_2_23) 24 rfl ?_
  refine oc (y := mt_45) (pc := 24) (ok_iload_n dJ2_grow_2_24) 25 rfl ?_
  refine oc (y := mt_45) (pc := 25) (ok_iconst dJ2_grow_2_25 rfl ⟨by decide, by decide⟩) 26 rfl ?_
  refine oc (y := mt_45) (pc := 26) (ok_ishr dJ2_grow_2_26) 27 rfl ?_
  refine oc_S (y := mt_45) (pc := 27) (M := mt_15) rfl (ck_S dJ2_grow_2_27 ⟨by decide, by decide, by decide, by decide +kernel⟩ q952 q953 q181 q954) (hok0 rfl) (by decide) 30 rfl ?_
  refine oc (y := mt_45) (pc := 30) (ok_istore_n dJ2_grow_2_30 (by decide)) 31 rfl ?_
  refine oc (y := mt_45) (pc := 31) (ok_aload_n dJ2_grow_2_31) 32 rfl ?_
  refine oc (y := mt_45) (pc := 32) (ok_aload_n dJ2_grow_2_32) 33 rfl ?_
  refine oc (y := mt_45) (pc := 33) (ok_getfield dJ2_grow_2_33 (fg (own := "java/util/ArrayList") (idx := 9) (g := 3) (k := 1) (r := (RJ2, TJ2, 3)) rfl ⟨⟨by decide, by decide⟩, by decide⟩ (Or.inl q234) (Or.inl rfl) rfl (fg_nil))) 36 rfl ?_
  refine oc (y := mt_45) (pc := 36) (ok_iload_n dJ2_grow_2_36) 37 rfl ?_
  refine oc_S (y := mt_45) (pc := 37) (M := mt_23) rfl (ck_S dJ2_grow_2_37 ⟨by decide, by decide, by decide, by decide +kernel⟩ q962 q963 q185 q964) (hok0 rfl) (by decide) 40 rfl ?_
  refine oc (y := mt_45) (pc := 40) (ok_dup_x1 dJ2_grow_2_40) 41 rfl ?_
  refine oc (y := mt_45) (pc := 41) (ok_putfield dJ2_grow_2_41 (fp (own := "java/util/ArrayList") (idx := 9) (g := 3) (k := 1) (r := (RJ2, TJ2, 3)) rfl ⟨⟨by decide, by decide⟩, by decide⟩ (Or.inl q234) (Or.inl rfl) rfl (Or.inl rfl) (fp_nil))) 44 rfl ?_
  exact oc_aretA dJ2_grow_2_44 rfl
theorem o_45_45 : okL gmt mt_45 45 b_45_45 := by
  refine oc (y := mt_45) (pc := 45) (ok_aload_n dJ2_grow_2_45) 46 rfl ?_
  refine oc (y := mt_45) (pc := 46) (ok_bipush dJ2_grow_2_46 (by decide) ⟨by decide, by decide⟩) 48 rfl ?_
  refine oc (y := mt_45) (pc := 48) (ok_iload_n dJ2_grow_2_48) 49 rfl ?_
  refine oc_S (y := mt_45) (pc := 49) (M := mt_17) rfl (ck_S dJ2_grow_2_49 ⟨by decide, by decide, by decide, by decide +kernel⟩ q1005 q956 q184 q957) (hok0 rfl) (by decide) 52 rfl ?_
  refine oc (y := mt_45) (pc := 52) (ok_anewarray (E := "java/lang/Object") dJ2_grow_2_52 (by decide) q230) 55 rfl ?_
  refine oc (y := mt_45) (pc := 55) (ok_dup_x1 dJ2_grow_2_55) 56 rfl ?_
  refine oc (y := mt_45) (pc := 56) (ok_putfield dJ2_grow_2_56 (fp (own := "java/util/ArrayList") (idx := 9) (g := 3) (k := 1) (r := (RJ2, TJ2, 3)) rfl ⟨⟨by decide, by decide⟩, by decide⟩ (Or.inl q234) (Or.inl rfl) rfl (Or.inl rfl) (fp_nil))) 59 rfl ?_
  exact oc_aretA dJ2_grow_2_59 rfl
theorem ok_45 : ∀ q ∈ pr_45, okL gmt mt_45 q.1 q.2 := pk_c o_45_0 (pk_c o_45_20 (pk_c o_45_45 (pk_n)))
theorem o_46_0 : okL gmt mt_46 0 b_46_0 := by
  refine oc (y := mt_46) (pc := 0) (ok_aload_n dJ3_init_0) 1 rfl ?_
  refine oc_oi (y := mt_46) (pc := 1) dJ3_init_1 q327 q210 q211 4 rfl ?_
  refine oc (y := mt_46) (pc := 4) (ok_aload_n dJ3_init_4) 5 rfl ?_
  refine oc (y := mt_46) (pc := 5) (ok_aload_n dJ3_init_5) 6 rfl ?_
  refine oc (y := mt_46) (pc := 6) (ok_putfield dJ3_init_6 (fp (own := "java/lang/Throwable") (idx := 7) (g := 5) (k := 0) (r := (RX3, TX3, 8)) rfl ⟨⟨by decide, by decide⟩, by decide⟩ (Or.inl q359) (Or.inl rfl) rfl (Or.inl rfl) (fp_nil))) 9 rfl ?_
  refine oc (y := mt_46) (pc := 9) (ok_aload_n dJ3_init_9) 10 rfl ?_
  refine oc (y := mt_46) (pc := 10) (ok_getstatic (x := ("java/lang/Throwable", "UNASSIGNED_STACK", "[Ljava/lang/StackTraceElement;", 2, -305)) dJ3_init_10 (List.mem_of_getElem? (i := 6) rfl) rfl rfl trivial (Or.inl q328)) 13 rfl ?_
  refine oc (y := mt_46) (pc := 13) (ok_putfield dJ3_init_13 (fp (own := "java/lang/Throwable") (idx := 17) (g := 5) (k := 1) (r := (RX3, TX3, 8)) rfl ⟨⟨by decide, by decide⟩, by decide⟩ (Or.inl q360) (Or.inl rfl) rfl (Or.inl rfl) (fp_nil))) 16 rfl ?_
  refine oc (y := mt_46) (pc := 16) (ok_aload_n dJ3_init_16) 17 rfl ?_
  refine oc (y := mt_46) (pc := 17) (ok_getstatic (x := ("java/lang/Throwable", "SUPPRESSED_SENTINEL", "Ljava/util/List;", 2, -306)) dJ3_init_17 (List.mem_of_getElem? (i := 7) rfl) rfl rfl trivial (Or.inl q330)) 20 rfl ?_
  refine oc (y := mt_46) (pc := 20) (ok_putfield dJ3_init_20 (fp (own := "java/lang/Throwable") (idx := 24) (g := 5) (k := 2) (r := (RX3, TX3, 8)) rfl ⟨⟨by decide, by decide⟩, by decide⟩ (Or.inl q361) (Or.inl rfl) rfl (Or.inl rfl) (fp_nil))) 23 rfl ?_
  refine oc (y := mt_46) (pc := 23) (ok_aload_n dJ3_init_23) 24 rfl ?_
  exact oc_end
theorem ok_46 : ∀ q ∈ pr_46, okL gmt mt_46 q.1 q.2 := pk_c o_46_0 (pk_n)
theorem o_47_0 : okL gmt mt_47 0 b_47_0 := by
  refine oc (y := mt_47) (pc := 0) (ok_aload_n dJ3_init_2_0) 1 rfl ?_
  refine oc_oi (y := mt_47) (pc := 1) dJ3_init_2_1 q327 q210 q211 4 rfl ?_
  refine oc (y := mt_47) (pc := 4) (ok_aload_n dJ3_init_2_4) 5 rfl ?_
  refine oc (y := mt_47) (pc := 5) (ok_aload_n dJ3_init_2_5) 6 rfl ?_
  refine oc (y := mt_47) (pc := 6) (ok_putfield dJ3_init_2_6 (fp (own := "java/lang/Throwable") (idx := 7) (g := 5) (k := 0) (r := (RX3, TX3, 8)) rfl ⟨⟨by decide, by decide⟩, by decide⟩ (Or.inl q359) (Or.inl rfl) rfl (Or.inl rfl) (fp_nil))) 9 rfl ?_
  refine oc (y := mt_47) (pc := 9) (ok_aload_n dJ3_init_2_9) 10 rfl ?_
  refine oc (y := mt_47) (pc := 10) (ok_getstatic (x := ("java/lang/Throwable", "UNASSIGNED_STACK", "[Ljava/lang/StackTraceElement;", 2, -305)) dJ3_init_2_10 (List.mem_of_getElem? (i := 6) rfl) rfl rfl trivial (Or.inl q328)) 13 rfl ?_
  refine oc (y := mt_47) (pc := 13) (ok_putfield dJ3_init_2_13 (fp (own := "java/lang/Throwable") (idx := 17) (g := 5) (k := 1) (r := (RX3, TX3, 8)) rfl ⟨⟨by decide, by decide⟩, by decide⟩ (Or.inl q360) (Or.inl rfl) rfl (Or.inl rfl) (fp_nil))) 16 rfl ?_
  refine oc (y := mt_47) (pc := 16) (ok_aload_n dJ3_init_2_16) 17 rfl ?_
  refine oc (y := mt_47) (pc := 17) (ok_getstatic (x := ("java/lang/Throwable", "SUPPRESSED_SENTINEL", "Ljava/util/List;", 2, -306)) dJ3_init_2_17 (List.mem_of_getElem? (i := 7) rfl) rfl rfl trivial (Or.inl q330)) 20 rfl ?_
  refine oc (y := mt_47) (pc := 20) (ok_putfield dJ3_init_2_20 (fp (own := "java/lang/Throwable") (idx := 24) (g := 5) (k := 2) (r := (RX3, TX3, 8)) rfl ⟨⟨by decide, by decide⟩, by decide⟩ (Or.inl q361) (Or.inl rfl) rfl (Or.inl rfl) (fp_nil))) 23 rfl ?_
  refine oc (y := mt_47) (pc := 23) (ok_iload dJ3_init_2_23) 25 rfl ?_
  refine oc_if dJ3_init_2_25 ⟨by decide, by decide⟩ 28 rfl ?_
  refine oc (y := mt_47) (pc := 28) (ok_aload_n dJ3_init_2_28) 29 rfl ?_
  exact oc_end
theorem o_47_36 : okL gmt mt_47 36 b_47_36 := by
  refine oc (y := mt_47) (pc := 36) (ok_aload_n dJ3_init_2_36) 37 rfl ?_
  refine oc (y := mt_47) (pc := 37) (ok_null dJ3_init_2_37) 38 rfl ?_
  refine oc (y := mt_47) (pc := 38) (ok_putfield dJ3_init_2_38 (fp (own := "java/lang/Throwable") (idx := 17) (g := 5) (k := 1) (r := (RX3, TX3, 8)) rfl ⟨⟨by decide, by decide⟩, by decide⟩ (Or.inl q360) (Or.inl rfl) rfl (Or.inl rfl) (fp_nil))) 41 rfl ?_
  exact oc_fall rfl
theorem o_47_41 : okL gmt mt_47 41 b_47_41 := by
  refine oc (y := mt_47) (pc := 41) (ok_aload_n dJ3_init_2_41) 42 rfl ?_
  refine oc (y := mt_47) (pc := 42) (ok_aload_n dJ3_init_2_42) 43 rfl ?_
  refine oc (y := mt_47) (pc := 43) (ok_putfield dJ3_init_2_43 (fp (own := "java/lang/Throwable") (idx := 31) (g := 5) (k := 3) (r := (RX3, TX3, 8)) rfl ⟨⟨by decide, by decide⟩, by decide⟩ (Or.inl q358) (Or.inl rfl) rfl (Or.inl rfl) (fp_nil))) 46 rfl ?_
  refine oc (y := mt_47) (pc := 46) (ok_aload_n dJ3_init_2_46) 47 rfl ?_
  refine oc (y := mt_47) (pc := 47) (ok_aload_n dJ3_init_2_47) 48 rfl ?_
  refine oc (y := mt_47) (pc := 48) (ok_putfield dJ3_init_2_48 (fp (own := "java/lang/Throwable") (idx := 7) (g := 5) (k := 0) (r := (RX3, TX3, 8)) rfl ⟨⟨by decide, by decide⟩, by decide⟩ (Or.inl q359) (Or.inl rfl) rfl (Or.inl rfl) (fp_nil))) 51 rfl ?_
  refine oc (y := mt_47) (pc := 51) (ok_iload_n dJ3_init_2_51) 52 rfl ?_
  refine oc_if dJ3_init_2_52 ⟨by decide, by decide⟩ 55 rfl ?_
  refine oc (y := mt_47) (pc := 55) (ok_aload_n dJ3_init_2_55) 56 rfl ?_
  refine oc (y := mt_47) (pc := 56) (ok_null dJ3_init_2_56) 57 rfl ?_
  refine oc (y := mt_47) (pc := 57) (ok_putfield dJ3_init_2_57 (fp (own := "java/lang/Throwable") (idx := 24) (g := 5) (k := 2) (r := (RX3, TX3, 8)) rfl ⟨⟨by decide, by decide⟩, by decide⟩ (Or.inl q361) (Or.inl rfl) rfl (Or.inl rfl) (fp_nil))) 60 rfl ?_
  exact oc_fall rfl
theorem o_47_60 : okL gmt mt_47 60 b_47_60 := by
  exact oc_ret dJ3_init_2_60 rfl
theorem ok_47 : ∀ q ∈ pr_47, okL gmt mt_47 q.1 q.2 := pk_c o_47_0 (pk_c o_47_36 (pk_c o_47_41 (pk_c o_47_60 (pk_n))))
theorem o_48_0 : okL gmt mt_48 0 b_48_0 := by
  refine oc (y := mt_48) (pc := 0) (ok_aload_n dJ4_init_0) 1 rfl ?_
  refine oc (y := mt_48) (pc := 1) (ok_aload_n dJ4_init_1) 2 rfl ?_
  refine oc (y := mt_48) (pc := 2) (ok_aload_n dJ4_init_2) 3 rfl ?_
  refine oc (y := mt_48) (pc := 3) (ok_iload_n dJ4_init_3) 4 rfl ?_
  refine oc (y := mt_48) (pc := 4) (ok_iload dJ4_init_4) 6 rfl ?_
  refine oc_I (y := mt_48) (pc := 6) (vcons (y := mt_48) (pc := 6) (len := 3) (n := 5) (M := mt_47) (by decide) rfl (Or.inl rfl) rfl (ck_I dJ4_init_6 ⟨by decide, by decide, by decide, by decide +kernel⟩ rfl q350 q351 q168 q352) (vnil)) (hok0 rfl) (by decide) 9 rfl ?_
  exact oc_ret dJ4_init_9 rfl
theorem ok_48 : ∀ q ∈ pr_48, okL gmt mt_48 q.1 q.2 := pk_c o_48_0 (pk_n)
theorem o_49_0 : okL gmt mt_49 0 b_49_0 := by
  refine oc (y := mt_49) (pc := 0) (ok_aload_n dJ5_init_0) 1 rfl ?_
  refine oc (y := mt_49) (pc := 1) (ok_aload_n dJ5_init_1) 2 rfl ?_
  refine oc (y := mt_49) (pc := 2) (ok_aload_n dJ5_init_2) 3 rfl ?_
  refine oc (y := mt_49) (pc := 3) (ok_iload_n dJ5_init_3) 4 rfl ?_
  refine oc (y := mt_49) (pc := 4) (ok_iload dJ5_init_4) 6 rfl ?_
  refine oc_I (y := mt_49) (pc := 6) (vcons (y := mt_49) (pc := 6) (len := 3) (n := 5) (M := mt_48) (by decide) rfl (Or.inl rfl) rfl (ck_I dJ5_init_6 ⟨by decide, by decide, by decide, by decide +kernel⟩ rfl q347 q348 q169 q349) (vnil)) (hok0 rfl) (by decide) 9 rfl ?_
  exact oc_ret dJ5_init_9 rfl
theorem ok_49 : ∀ q ∈ pr_49, okL gmt mt_49 q.1 q.2 := pk_c o_49_0 (pk_n)
theorem o_50_0 : okL gmt mt_50 0 b_50_0 := by
  refine oc (y := mt_50) (pc := 0) (ok_iload_n dJ6_checkIndex_0) 1 rfl ?_
  refine oc (y := mt_50) (pc := 1) (ok_iload_n dJ6_checkIndex_1) 2 rfl ?_
  refine oc (y := mt_50) (pc := 2) (ok_null dJ6_checkIndex_2) 3 rfl ?_
  refine oc_S (y := mt_50) (pc := 3) (M := mt_51) rfl (ck_S dJ6_checkIndex_3 ⟨by decide, by decide, by decide, by decide +kernel⟩ q529 q530 q176 q531) (hok0 rfl) (by decide) 6 rfl ?_
  exact oc_iret dJ6_checkIndex_6 rfl
theorem ok_50 : ∀ q ∈ pr_50, okL gmt mt_50 q.1 q.2 := pk_c o_50_0 (pk_n)
theorem o_51_0 : okL gmt mt_51 0 b_51_0 := by
  refine oc (y := mt_51) (pc := 0) (ok_iload_n dJ7_checkIndex_0) 1 rfl ?_
  refine oc_if dJ7_checkIndex_1 ⟨by decide, by decide⟩ 4 rfl ?_
  refine oc (y := mt_51) (pc := 4) (ok_iload_n dJ7_checkIndex_4) 5 rfl ?_
  refine oc (y := mt_51) (pc := 5) (ok_iload_n dJ7_checkIndex_5) 6 rfl ?_
  refine oc_icmp dJ7_checkIndex_6 ⟨by decide, by decide⟩ 9 rfl ?_
  exact oc_fall rfl
theorem o_51_9 : okL gmt mt_51 9 b_51_9 := by
  refine oc (y := mt_51) (pc := 9) (ok_aload_n dJ7_checkIndex_9) 10 rfl ?_
  refine oc (y := mt_51) (pc := 10) (ok_iload_n dJ7_checkIndex_10) 11 rfl ?_
  refine oc (y := mt_51) (pc := 11) (ok_iload_n dJ7_checkIndex_11) 12 rfl ?_
  exact oc_end
theorem o_51_16 : okL gmt mt_51 16 b_51_16 := by
  refine oc (y := mt_51) (pc := 16) (ok_iload_n dJ7_checkIndex_16) 17 rfl ?_
  exact oc_iret dJ7_checkIndex_17 rfl
theorem ok_51 : ∀ q ∈ pr_51, okL gmt mt_51 q.1 q.2 := pk_c o_51_0 (pk_c o_51_9 (pk_c o_51_16 (pk_n)))
theorem o_52_0 : okL gmt mt_52 0 b_52_0 := by
  refine oc (y := mt_52) (pc := 0) (ok_iload_n dJ7_checkFromIndexSize_0) 1 rfl ?_
  refine oc (y := mt_52) (pc := 1) (ok_iload_n dJ7_checkFromIndexSize_1) 2 rfl ?_
  refine oc (y := mt_52) (pc := 2) (ok_ior dJ7_checkFromIndexSize_2) 3 rfl ?_
  refine oc (y := mt_52) (pc := 3) (ok_iload_n dJ7_checkFromIndexSize_3) 4 rfl ?_
  refine oc (y := mt_52) (pc := 4) (ok_ior dJ7_checkFromIndexSize_4) 5 rfl ?_
  refine oc_if dJ7_checkFromIndexSize_5 ⟨by decide, by decide⟩ 8 rfl ?_
  refine oc (y := mt_52) (pc := 8) (ok_iload_n dJ7_checkFromIndexSize_8) 9 rfl ?_
  refine oc (y := mt_52) (pc := 9) (ok_iload_n dJ7_checkFromIndexSize_9) 10 rfl ?_
  refine oc (y := mt_52) (pc := 10) (ok_iload_n dJ7_checkFromIndexSize_10) 11 rfl ?_
  refine oc (y := mt_52) (pc := 11) (ok_isub dJ7_checkFromIndexSize_11) 12 rfl ?_
  refine oc_icmp dJ7_checkFromIndexSize_12 ⟨by decide, by decide⟩ 15 rfl ?_
  exact oc_fall rfl
theorem o_52_15 : okL gmt mt_52 15 b_52_15 := by
  refine oc (y := mt_52) (pc := 15) (ok_aload_n dJ7_checkFromIndexSize_15) 16 rfl ?_
  refine oc (y := mt_52) (pc := 16) (ok_iload_n dJ7_checkFromIndexSize_16) 17 rfl ?_
  refine oc (y := mt_52) (pc := 17) (ok_iload_n dJ7_checkFromIndexSize_17) 18 rfl ?_
  refine oc (y := mt_52) (pc := 18) (ok_iload_n dJ7_checkFromIndexSize_18) 19 rfl ?_
  exact oc_end
theorem o_52_23 : okL gmt mt_52 23 b_52_23 := by
  refine oc (y := mt_52) (pc := 23) (ok_iload_n dJ7_checkFromIndexSize_23) 24 rfl ?_
  exact oc_iret dJ7_checkFromIndexSize_24 rfl
theorem ok_52 : ∀ q ∈ pr_52, okL gmt mt_52 q.1 q.2 := pk_c o_52_0 (pk_c o_52_15 (pk_c o_52_23 (pk_n)))
theorem o_53_0 : okL gmt mt_53 0 b_53_0 := by
  refine oc (y := mt_53) (pc := 0) (ok_new (C := RJ8) (T := TJ8) (N := 4) (ci := 9) dJ8_valueOf_0 rfl rfl rfl nf_9 q684 q685 q178) 3 rfl ?_
  refine oc (y := mt_53) (pc := 3) (ok_dup dJ8_valueOf_3) 4 rfl ?_
  refine oc (y := mt_53) (pc := 4) (ok_aload_n dJ8_valueOf_4) 5 rfl ?_
  refine oc_I (y := mt_53) (pc := 5) (vcons (y := mt_53) (pc := 5) (len := 3) (n := 2) (M := mt_54) (by decide) rfl (Or.inl rfl) rfl (ck_I dJ8_valueOf_5 ⟨by decide, by decide, by decide, by decide +kernel⟩ rfl q686 q687 q178 q688) (vnil)) (hok0 rfl) (by decide) 8 rfl ?_
  exact oc_aretO dJ8_valueOf_8 rfl
theorem ok_53 : ∀ q ∈ pr_53, okL gmt mt_53 q.1 q.2 := pk_c o_53_0 (pk_n)
theorem o_54_0 : okL gmt mt_54 0 b_54_0 := by
  refine oc (y := mt_54) (pc := 0) (ok_aload_n dJ8_init_0) 1 rfl ?_
  refine oc (y := mt_54) (pc := 1) (ok_aload_n dJ8_init_1) 2 rfl ?_
  refine oc (y := mt_54) (pc := 2) (ok_iconst dJ8_init_2 rfl ⟨by decide, by decide⟩) 3 rfl ?_
  refine oc (y := mt_54) (pc := 3) (ok_aload_n dJ8_init_3) 4 rfl ?_
  refine oc (y := mt_54) (pc := 4) (ok_alen dJ8_init_4) 5 rfl ?_
  refine oc (y := mt_54) (pc := 5) (ok_null dJ8_init_5) 6 rfl ?_
  refine oc_I (y := mt_54) (pc := 6) (vcons (y := mt_54) (pc := 6) (len := 3) (n := 5) (M := mt_55) (by decide) rfl (Or.inl rfl) rfl (ck_I dJ8_init_6 ⟨by decide, by decide, by decide, by decide +kernel⟩ rfl q689 q690 q178 q691) (vnil)) (hok0 rfl) (by decide) 9 rfl ?_
  exact oc_ret dJ8_init_9 rfl
theorem ok_54 : ∀ q ∈ pr_54, okL gmt mt_54 q.1 q.2 := pk_c o_54_0 (pk_n)
theorem o_55_0 : okL gmt mt_55 0 b_55_0 := by
  refine oc (y := mt_55) (pc := 0) (ok_aload_n dJ8_init_2_0) 1 rfl ?_
  refine oc_oi (y := mt_55) (pc := 1) dJ8_init_2_1 q692 q210 q211 4 rfl ?_
  refine oc (y := mt_55) (pc := 4) (ok_iload_n dJ8_init_2_4) 5 rfl ?_
  refine oc_if dJ8_init_2_5 ⟨by decide, by decide⟩ 8 rfl ?_
  refine oc (y := mt_55) (pc := 8) (ok_aload_n dJ8_init_2_8) 9 rfl ?_
  refine oc (y := mt_55) (pc := 9) (ok_ldcS dJ8_init_2_9 rfl (List.mem_of_getElem? (i := 63) rfl)) 11 rfl ?_
  refine oc (y := mt_55) (pc := 11) (ok_getfield dJ8_init_2_11 (fg (own := "java/lang/String") (idx := 9) (g := 10) (k := 0) (r := (RJ8, TJ8, 4)) rfl ⟨⟨by decide, by decide⟩, by decide⟩ (Or.inl q745) (Or.inl rfl) rfl (fg_nil))) 14 rfl ?_
  refine oc (y := mt_55) (pc := 14) (ok_putfield dJ8_init_2_14 (fp (own := "java/lang/String") (idx := 9) (g := 10) (k := 0) (r := (RJ8, TJ8, 4)) rfl ⟨⟨by decide, by decide⟩, by decide⟩ (Or.inl q745) (Or.inl rfl) rfl (Or.inr ⟨rfl, rfl, rfl, q745⟩) (fp_nil))) 17 rfl ?_
  refine oc (y := mt_55) (pc := 17) (ok_aload_n dJ8_init_2_17) 18 rfl ?_
  refine oc (y := mt_55) (pc := 18) (ok_ldcS dJ8_init_2_18 rfl (List.mem_of_getElem? (i := 63) rfl)) 20 rfl ?_
  refine oc (y := mt_55) (pc := 20) (ok_getfield dJ8_init_2_20 (fg (own := "java/lang/String") (idx := 15) (g := 10) (k := 1) (r := (RJ8, TJ8, 4)) rfl ⟨⟨by decide, by decide⟩, by decide⟩ (Or.inl q746) (Or.inl rfl) rfl (fg_nil))) 23 rfl ?_
  refine oc (y := mt_55) (pc := 23) (ok_putfield dJ8_init_2_23 (fp (own := "java/lang/String") (idx := 15) (g := 10) (k := 1) (r := (RJ8, TJ8, 4)) rfl ⟨⟨by decide, by decide⟩, by decide⟩ (Or.inl q746) (Or.inl rfl) rfl (Or.inr ⟨rfl, rfl, rfl, q746⟩) (fp_nil))) 26 rfl ?_
  exact oc_ret dJ8_init_2_26 rfl
theorem o_55_27 : okL gmt mt_55 27 b_55_27 := by
  refine oc (y := mt_55) (pc := 27) (ok_getstatic (x := ("java/lang/String", "COMPACT_STRINGS", "Z", 0, 1)) dJ8_init_2_27 (List.mem_of_getElem? (i := 4) rfl) rfl rfl ⟨by decide, by decide⟩ (Or.inl q694)) 30 rfl ?_
  refine oc_if dJ8_init_2_30 ⟨by decide, by decide⟩ 33 rfl ?_
  refine oc (y := mt_55) (pc := 33) (ok_aload_n dJ8_init_2_33) 34 rfl ?_
  refine oc (y := mt_55) (pc := 34) (ok_iload_n dJ8_init_2_34) 35 rfl ?_
  refine oc (y := mt_55) (pc := 35) (ok_iload_n dJ8_init_2_35) 36 rfl ?_
  refine oc_S (y := mt_55) (pc := 36) (M := mt_64) rfl (ck_S dJ8_init_2_36 ⟨by decide, by decide, by decide, by decide +kernel⟩ q696 q697 q179 q698) (hok0 rfl) (by decide) 39 rfl ?_
  refine oc (y := mt_55) (pc := 39) (ok_astore dJ8_init_2_39 (by decide)) 41 rfl ?_
  refine oc (y := mt_55) (pc := 41) (ok_aload_n dJ8_init_2_41) 42 rfl ?_
  refine oc (y := mt_55) (pc := 42) (ok_aload dJ8_init_2_42) 44 rfl ?_
  refine oc (y := mt_55) (pc := 44) (ok_iload_n dJ8_init_2_44) 45 rfl ?_
  refine oc_S (y := mt_55) (pc := 45) (M := mt_74) rfl (ck_S dJ8_init_2_45 ⟨by decide, by decide, by decide, by decide +kernel⟩ q741 q742 q179 q743) (hok0 rfl) (by decide) 48 rfl ?_
  refine oc (y := mt_55) (pc := 48) (ok_putfield dJ8_init_2_48 (fp (own := "java/lang/String") (idx := 15) (g := 10) (k := 1) (r := (RJ8, TJ8, 4)) rfl ⟨⟨by decide, by decide⟩, by decide⟩ (Or.inl q746) (Or.inl rfl) rfl (Or.inr ⟨rfl, rfl, rfl, q746⟩) (fp_nil))) 51 rfl ?_
  refine oc (y := mt_55) (pc := 51) (ok_aload_n dJ8_init_2_51) 52 rfl ?_
  refine oc (y := mt_55) (pc := 52) (ok_aload dJ8_init_2_52) 54 rfl ?_
  refine oc (y := mt_55) (pc := 54) (ok_putfield dJ8_init_2_54 (fp (own := "java/lang/String") (idx := 9) (g := 10) (k := 0) (r := (RJ8, TJ8, 4)) rfl ⟨⟨by decide, by decide⟩, by decide⟩ (Or.inl q745) (Or.inl rfl) rfl (Or.inr ⟨rfl, rfl, rfl, q745⟩) (fp_nil))) 57 rfl ?_
  exact oc_ret dJ8_init_2_57 rfl
theorem o_55_58 : okL gmt mt_55 58 b_55_58 := by
  refine oc (y := mt_55) (pc := 58) (ok_aload_n dJ8_init_2_58) 59 rfl ?_
  refine oc (y := mt_55) (pc := 59) (ok_iconst dJ8_init_2_59 rfl ⟨by decide, by decide⟩) 60 rfl ?_
  refine oc (y := mt_55) (pc := 60) (ok_putfield dJ8_init_2_60 (fp (own := "java/lang/String") (idx := 15) (g := 10) (k := 1) (r := (RJ8, TJ8, 4)) rfl ⟨⟨by decide, by decide⟩, by decide⟩ (Or.inl q746) (Or.inl rfl) rfl (Or.inr ⟨rfl, rfl, rfl, q746⟩) (fp_nil))) 63 rfl ?_
  refine oc (y := mt_55) (pc := 63) (ok_aload_n dJ8_init_2_63) 64 rfl ?_
  refine oc (y := mt_55) (pc := 64) (ok_aload_n dJ8_init_2_64) 65 rfl ?_
  refine oc (y := mt_55) (pc := 65) (ok_iload_n dJ8_init_2_65) 66 rfl ?_
  refine oc (y := mt_55) (pc := 66) (ok_iload_n dJ8_init_2_66) 67 rfl ?_
  refine oc_S (y := mt_55) (pc := 67) (M := mt_66) rfl (ck_S dJ8_init_2_67 ⟨by decide, by decide, by decide, by decide +kernel⟩ q744 q703 q179 q704) (hok0 rfl) (by decide) 70 rfl ?_
  refine oc (y := mt_55) (pc := 70) (ok_putfield dJ8_init_2_70 (fp (own := "java/lang/String") (idx := 9) (g := 10) (k := 0) (r := (RJ8, TJ8, 4)) rfl ⟨⟨by decide, by decide⟩, by decide⟩ (Or.inl q745) (Or.inl rfl) rfl (Or.inr ⟨rfl, rfl, rfl, q745⟩) (fp_nil))) 73 rfl ?_
  exact oc_ret dJ8_init_2_73 rfl
theorem ok_55 : ∀ q ∈ pr_55, okL gmt mt_55 q.1 q.2 := pk_c o_55_0 (pk_c o_55_27 (pk_c o_55_58 (pk_n)))
theorem o_56_0 : okL gmt mt_56 0 b_56_0 := by
  refine oc (y := mt_56) (pc := 0) (ok_iload_n dJ8_checkBoundsOffCount_0) 1 rfl ?_
  refine oc (y := mt_56) (pc := 1) (ok_iload_n dJ8_checkBoundsOffCount_1) 2 rfl ?_
  refine oc (y := mt_56) (pc := 2) (ok_iload_n dJ8_checkBoundsOffCount_2) 3 rfl ?_
  refine oc (y := mt_56) (pc := 3) (ok_getstatic (x := ("jdk/internal/util/Preconditions", "SIOOBE_FORMATTER", "Ljava/util/function/BiFunction;", 2, -307)) dJ8_checkBoundsOffCount_3 (List.mem_of_getElem? (i := 8) rfl) rfl rfl trivial (Or.inl q736)) 6 rfl ?_
  refine oc_S (y := mt_56) (pc := 6) (M := mt_52) rfl (ck_S dJ8_checkBoundsOffCount_6 ⟨by decide, by decide, by decide, by decide +kernel⟩ q738 q739 q176 q740) (hok0 rfl) (by decide) 9 rfl ?_
  exact oc_iret dJ8_checkBoundsOffCount_9 rfl
theorem ok_56 : ∀ q ∈ pr_56, okL gmt mt_56 q.1 q.2 := pk_c o_56_0 (pk_n)
theorem o_57_0 : okL gmt mt_57 0 b_57_0 := by
  refine oc (y := mt_57) (pc := 0) (ok_aload_n dJ8_equals_0) 1 rfl ?_
  refine oc (y := mt_57) (pc := 1) (ok_aload_n dJ8_equals_1) 2 rfl ?_
  refine oc_acmp dJ8_equals_2 ⟨by decide, by decide⟩ 5 rfl ?_
  refine oc (y := mt_57) (pc := 5) (ok_iconst dJ8_equals_5 rfl ⟨by decide, by decide⟩) 6 rfl ?_
  exact oc_zret dJ8_equals_6 rfl
theorem o_57_7 : okL gmt mt_57 7 b_57_7 := by
  refine oc (y := mt_57) (pc := 7) (ok_aload_n dJ8_equals_7) 8 rfl ?_
  refine oc (y := mt_57) (pc := 8) (ok_instanceof (E := "java/lang/String") dJ8_equals_8 q684 (it1 (by decide) rfl (Or.inl rfl))) 11 rfl ?_
  refine oc_if dJ8_equals_11 ⟨by decide, by decide⟩ 14 rfl ?_
  refine oc (y := mt_57) (pc := 14) (ok_aload_n dJ8_equals_14) 15 rfl ?_
  refine oc (y := mt_57) (pc := 15) (ok_checkcast (E := "java/lang/String") dJ8_equals_15 q684 (ct (by decide) rfl (Or.inl rfl) (ct_nil))) 18 rfl ?_
  refine oc (y := mt_57) (pc := 18) (ok_astore_n dJ8_equals_18 (by decide)) 19 rfl ?_
  refine oc (y := mt_57) (pc := 19) (ok_getstatic (x := ("java/lang/String", "COMPACT_STRINGS", "Z", 0, 1)) dJ8_equals_19 (List.mem_of_getElem? (i := 4) rfl) rfl rfl ⟨by decide, by decide⟩ (Or.inl q694)) 22 rfl ?_
  refine oc_if dJ8_equals_22 ⟨by decide, by decide⟩ 25 rfl ?_
  refine oc (y := mt_57) (pc := 25) (ok_aload_n dJ8_equals_25) 26 rfl ?_
  refine oc (y := mt_57) (pc := 26) (ok_getfield dJ8_equals_26 (fg (own := "java/lang/String") (idx := 15) (g := 10) (k := 1) (r := (RJ8, TJ8, 4)) rfl ⟨⟨by decide, by decide⟩, by decide⟩ (Or.inl q746) (Or.inl rfl) rfl (fg_nil))) 29 rfl ?_
  refine oc (y := mt_57) (pc := 29) (ok_aload_n dJ8_equals_29) 30 rfl ?_
  refine oc (y := mt_57) (pc := 30) (ok_getfield dJ8_equals_30 (fg (own := "java/lang/String") (idx := 15) (g := 10) (k := 1) (r := (RJ8, TJ8, 4)) rfl ⟨⟨by decide, by decide⟩, by decide⟩ (Or.inl q746) (Or.inl rfl) rfl (fg_nil))) 33 rfl ?_
  refine oc_icmp dJ8_equals_33 ⟨by decide, by decide⟩ 36 rfl ?_
  exact oc_fall rfl
theorem o_57_36 : okL gmt mt_57 36 b_57_36 := by
  refine oc (y := mt_57) (pc := 36) (ok_aload_n dJ8_equals_36) 37 rfl ?_
  refine oc (y := mt_57) (pc := 37) (ok_getfield dJ8_equals_37 (fg (own := "java/lang/String") (idx := 9) (g := 10) (k := 0) (r := (RJ8, TJ8, 4)) rfl ⟨⟨by decide, by decide⟩, by decide⟩ (Or.inl q745) (Or.inl rfl) rfl (fg_nil))) 40 rfl ?_
  refine oc (y := mt_57) (pc := 40) (ok_aload_n dJ8_equals_40) 41 rfl ?_
  refine oc (y := mt_57) (pc := 41) (ok_getfield dJ8_equals_41 (fg (own := "java/lang/String") (idx := 9) (g := 10) (k := 0) (r := (RJ8, TJ8, 4)) rfl ⟨⟨by decide, by decide⟩, by decide⟩ (Or.inl q745) (Or.inl rfl) rfl (fg_nil))) 44 rfl ?_
  refine oc_S (y := mt_57) (pc := 44) (M := mt_3) rfl (ck_S dJ8_equals_44 ⟨by decide, by decide, by decide, by decide +kernel⟩ q763 q764 q180 q765) (hok0 rfl) (by decide) 47 rfl ?_
  refine oc_if dJ8_equals_47 ⟨by decide, by decide⟩ 50 rfl ?_
  refine oc (y := mt_57) (pc := 50) (ok_iconst dJ8_equals_50 rfl ⟨by decide, by decide⟩) 51 rfl ?_
  exact oc_goto dJ8_equals_51 ⟨by decide, by decide⟩
theorem o_57_54 : okL gmt mt_57 54 b_57_54 := by
  refine oc (y := mt_57) (pc := 54) (ok_iconst dJ8_equals_54 rfl ⟨by decide, by decide⟩) 55 rfl ?_
  exact oc_fall rfl
theorem o_57_55 : okL gmt mt_57 55 b_57_55 := by
  exact oc_zret dJ8_equals_55 rfl
theorem ok_57 : ∀ q ∈ pr_57, okL gmt mt_57 q.1 q.2 := pk_c o_57_0 (pk_c o_57_7 (pk_c o_57_36 (pk_c o_57_54 (pk_c o_57_55 (pk_n)))))
theorem o_58_0 : okL gmt mt_58 0 b_58_0 := by
  refine oc (y := mt_58) (pc := 0) (ok_aload_n dJ8_hashCode_0) 1 rfl ?_
  refine oc (y := mt_58) (pc := 1) (ok_getfield dJ8_hashCode_1 (fg (own := "java/lang/String") (idx := 19) (g := 10) (k := 2) (r := (RJ8, TJ8, 4)) rfl ⟨⟨by decide, by decide⟩, by decide⟩ (Or.inl q747) (Or.inl rfl) rfl (fg_nil))) 4 rfl ?_
  refine oc (y := mt_58) (pc := 4) (ok_istore_n dJ8_hashCode_4 (by decide)) 5 rfl ?_
  refine oc (y := mt_58) (pc := 5) (ok_iload_n dJ8_hashCode_5) 6 rfl ?_
  refine oc_if dJ8_hashCode_6 ⟨by decide, by decide⟩ 9 rfl ?_
  refine oc (y := mt_58) (pc := 9) (ok_aload_n dJ8_hashCode_9) 10 rfl ?_
  refine oc (y := mt_58) (pc := 10) (ok_getfield dJ8_hashCode_10 (fg (own := "java/lang/String") (idx := 23) (g := 10) (k := 3) (r := (RJ8, TJ8, 4)) rfl ⟨⟨by decide, by decide⟩, by decide⟩ (Or.inl q748) (Or.inl rfl) rfl (fg_nil))) 13 rfl ?_
  refine oc_if dJ8_hashCode_13 ⟨by decide, by decide⟩ 16 rfl ?_
  refine oc (y := mt_58) (pc := 16) (ok_aload_n dJ8_hashCode_16) 17 rfl ?_
  refine oc_V (y := mt_58) (pc := 17) (vcons (y := mt_58) (pc := 17) (len := 3) (n := 1) (M := mt_59) (by decide) rfl (Or.inr rfl) rfl (ck_V dJ8_hashCode_17 ⟨by decide, by decide, by decide, by decide +kernel⟩ q796 q797 q798 q178 q799) vnil) (hok0 rfl) (by decide) 20 rfl ?_
  refine oc_if dJ8_hashCode_20 ⟨by decide, by decide⟩ 23 rfl ?_
  refine oc (y := mt_58) (pc := 23) (ok_aload_n dJ8_hashCode_23) 24 rfl ?_
  refine oc (y := mt_58) (pc := 24) (ok_getfield dJ8_hashCode_24 (fg (own := "java/lang/String") (idx := 9) (g := 10) (k := 0) (r := (RJ8, TJ8, 4)) rfl ⟨⟨by decide, by decide⟩, by decide⟩ (Or.inl q745) (Or.inl rfl) rfl (fg_nil))) 27 rfl ?_
  refine oc_S (y := mt_58) (pc := 27) (M := mt_4) rfl (ck_S dJ8_hashCode_27 ⟨by decide, by decide, by decide, by decide +kernel⟩ q800 q801 q180 q802) (hok0 rfl) (by decide) 30 rfl ?_
  exact oc_goto dJ8_hashCode_30 ⟨by decide, by decide⟩
theorem o_58_33 : okL gmt mt_58 33 b_58_33 := by
  refine oc (y := mt_58) (pc := 33) (ok_aload_n dJ8_hashCode_33) 34 rfl ?_
  refine oc (y := mt_58) (pc := 34) (ok_getfield dJ8_hashCode_34 (fg (own := "java/lang/String") (idx := 9) (g := 10) (k := 0) (r := (RJ8, TJ8, 4)) rfl ⟨⟨by decide, by decide⟩, by decide⟩ (Or.inl q745) (Or.inl rfl) rfl (fg_nil))) 37 rfl ?_
  refine oc_S (y := mt_58) (pc := 37) (M := mt_75) rfl (ck_S dJ8_hashCode_37 ⟨by decide, by decide, by decide, by decide +kernel⟩ q841 q842 q179 q843) (hok0 rfl) (by decide) 40 rfl ?_
  exact oc_fall rfl
theorem o_58_40 : okL gmt mt_58 40 b_58_40 := by
  refine oc (y := mt_58) (pc := 40) (ok_istore_n dJ8_hashCode_40 (by decide)) 41 rfl ?_
  refine oc (y := mt_58) (pc := 41) (ok_iload_n dJ8_hashCode_41) 42 rfl ?_
  refine oc_if dJ8_hashCode_42 ⟨by decide, by decide⟩ 45 rfl ?_
  refine oc (y := mt_58) (pc := 45) (ok_aload_n dJ8_hashCode_45) 46 rfl ?_
  refine oc (y := mt_58) (pc := 46) (ok_iconst dJ8_hashCode_46 rfl ⟨by decide, by decide⟩) 47 rfl ?_
  refine oc (y := mt_58) (pc := 47) (ok_putfield dJ8_hashCode_47 (fp (own := "java/lang/String") (idx := 23) (g := 10) (k := 3) (r := (RJ8, TJ8, 4)) rfl ⟨⟨by decide, by decide⟩, by decide⟩ (Or.inl q748) (Or.inl rfl) rfl (Or.inl rfl) (fp_nil))) 50 rfl ?_
  exact oc_goto dJ8_hashCode_50 ⟨by decide, by decide⟩
theorem o_58_53 : okL gmt mt_58 53 b_58_53 := by
  refine oc (y := mt_58) (pc := 53) (ok_aload_n dJ8_hashCode_53) 54 rfl ?_
  refine oc (y := mt_58) (pc := 54) (ok_iload_n dJ8_hashCode_54) 55 rfl ?_
  refine oc (y := mt_58) (pc := 55) (ok_putfield dJ8_hashCode_55 (fp (own := "java/lang/String") (idx := 19) (g := 10) (k := 2) (r := (RJ8, TJ8, 4)) rfl ⟨⟨by decide, by decide⟩, by decide⟩ (Or.inl q747) (Or.inl rfl) rfl (Or.inl rfl) (fp_nil))) 58 rfl ?_
  exact oc_fall rfl
theorem o_58_58 : okL gmt mt_58 58 b_58_58 := by
  refine oc (y := mt_58) (pc := 58) (ok_iload_n dJ8_hashCode_58) 59 rfl ?_
  exact oc_iret dJ8_hashCode_59 rfl
theorem ok_58 : ∀ q ∈ pr_58, okL gmt mt_58 q.1 q.2 := pk_c o_58_0 (pk_c o_58_33 (pk_c o_58_40 (pk_c o_58_53 (pk_c o_58_58 (pk_n)))))
theorem o_59_0 : okL gmt mt_59 0 b_59_0 := by
  refine oc (y := mt_59) (pc := 0) (ok_getstatic (x := ("java/lang/String", "COMPACT_STRINGS", "Z", 0, 1)) dJ8_isLatin1_0 (List.mem_of_getElem? (i := 4) rfl) rfl rfl ⟨by decide, by decide⟩ (Or.inl q694)) 3 rfl ?_
  refine oc_if dJ8_isLatin1_3 ⟨by decide, by decide⟩ 6 rfl ?_
  refine oc (y := mt_59) (pc := 6) (ok_aload_n dJ8_isLatin1_6) 7 rfl ?_
  refine oc (y := mt_59) (pc := 7) (ok_getfield dJ8_isLatin1_7 (fg (own := "java/lang/String") (idx := 15) (g := 10) (k := 1) (r := (RJ8, TJ8, 4)) rfl ⟨⟨by decide, by decide⟩, by decide⟩ (Or.inl q746) (Or.inl rfl) rfl (fg_nil))) 10 rfl ?_
  refine oc_if dJ8_isLatin1_10 ⟨by decide, by decide⟩ 13 rfl ?_
  refine oc (y := mt_59) (pc := 13) (ok_iconst dJ8_isLatin1_13 rfl ⟨by decide, by decide⟩) 14 rfl ?_
  exact oc_goto dJ8_isLatin1_14 ⟨by decide, by decide⟩
theorem o_59_17 : okL gmt mt_59 17 b_59_17 := by
  refine oc (y := mt_59) (pc := 17) (ok_iconst dJ8_isLatin1_17 rfl ⟨by decide, by decide⟩) 18 rfl ?_
  exact oc_fall rfl
theorem o_59_18 : okL gmt mt_59 18 b_59_18 := by
  exact oc_zret dJ8_isLatin1_18 rfl
theorem ok_59 : ∀ q ∈ pr_59, okL gmt mt_59 q.1 q.2 := pk_c o_59_0 (pk_c o_59_17 (pk_c o_59_18 (pk_n)))
theorem o_60_0 : okL gmt mt_60 0 b_60_0 := by
  refine oc (y := mt_60) (pc := 0) (ok_aload_n dJ8_length_0) 1 rfl ?_
  refine oc (y := mt_60) (pc := 1) (ok_getfield dJ8_length_1 (fg (own := "java/lang/String") (idx := 9) (g := 10) (k := 0) (r := (RJ8, TJ8, 4)) rfl ⟨⟨by decide, by decide⟩, by decide⟩ (Or.inl q745) (Or.inl rfl) rfl (fg_nil))) 4 rfl ?_
  refine oc (y := mt_60) (pc := 4) (ok_alen dJ8_length_4) 5 rfl ?_
  refine oc (y := mt_60) (pc := 5) (ok_aload_n dJ8_length_5) 6 rfl ?_
  refine oc_V (y := mt_60) (pc := 6) (vcons (y := mt_60) (pc := 6) (len := 3) (n := 1) (M := mt_61) (by decide) rfl (Or.inr rfl) rfl (ck_V dJ8_length_6 ⟨by decide, by decide, by decide, by decide +kernel⟩ q871 q872 q873 q178 q874) vnil) (hok0 rfl) (by decide) 9 rfl ?_
  refine oc (y := mt_60) (pc := 9) (ok_ishr dJ8_length_9) 10 rfl ?_
  exact oc_iret dJ8_length_10 rfl
theorem ok_60 : ∀ q ∈ pr_60, okL gmt mt_60 q.1 q.2 := pk_c o_60_0 (pk_n)
theorem o_61_0 : okL gmt mt_61 0 b_61_0 := by
  refine oc (y := mt_61) (pc := 0) (ok_getstatic (x := ("java/lang/String", "COMPACT_STRINGS", "Z", 0, 1)) dJ8_coder_0 (List.mem_of_getElem? (i := 4) rfl) rfl rfl ⟨by decide, by decide⟩ (Or.inl q694)) 3 rfl ?_
  refine oc_if dJ8_coder_3 ⟨by decide, by decide⟩ 6 rfl ?_
  refine oc (y := mt_61) (pc := 6) (ok_aload_n dJ8_coder_6) 7 rfl ?_
  refine oc (y := mt_61) (pc := 7) (ok_getfield dJ8_coder_7 (fg (own := "java/lang/String") (idx := 15) (g := 10) (k := 1) (r := (RJ8, TJ8, 4)) rfl ⟨⟨by decide, by decide⟩, by decide⟩ (Or.inl q746) (Or.inl rfl) rfl (fg_nil))) 10 rfl ?_
  exact oc_goto dJ8_coder_10 ⟨by decide, by decide⟩
theorem o_61_13 : okL gmt mt_61 13 b_61_13 := by
  refine oc (y := mt_61) (pc := 13) (ok_iconst dJ8_coder_13 rfl ⟨by decide, by decide⟩) 14 rfl ?_
  exact oc_fall rfl
theorem o_61_14 : okL gmt mt_61 14 b_61_14 := by
  exact oc_bret dJ8_coder_14 rfl
theorem ok_61 : ∀ q ∈ pr_61, okL gmt mt_61 q.1 q.2 := pk_c o_61_0 (pk_c o_61_13 (pk_c o_61_14 (pk_n)))
theorem o_62_0 : okL gmt mt_62 0 b_62_0 := by
  refine oc (y := mt_62) (pc := 0) (ok_iload_n dJ8_checkIndex_0) 1 rfl ?_
  refine oc (y := mt_62) (pc := 1) (ok_iload_n dJ8_checkIndex_1) 2 rfl ?_
  refine oc (y := mt_62) (pc := 2) (ok_getstatic (x := ("jdk/internal/util/Preconditions", "SIOOBE_FORMATTER", "Ljava/util/function/BiFunction;", 2, -307)) dJ8_checkIndex_2 (List.mem_of_getElem? (i := 8) rfl) rfl rfl trivial (Or.inl q736)) 5 rfl ?_
  refine oc_S (y := mt_62) (pc := 5) (M := mt_51) rfl (ck_S dJ8_checkIndex_5 ⟨by decide, by decide, by decide, by decide +kernel⟩ q1261 q530 q176 q531) (hok0 rfl) (by decide) 8 rfl ?_
  refine oc (y := mt_62) (pc := 8) (ok_pop dJ8_checkIndex_8) 9 rfl ?_
  exact oc_ret dJ8_checkIndex_9 rfl
theorem ok_62 : ∀ q ∈ pr_62, okL gmt mt_62 q.1 q.2 := pk_c o_62_0 (pk_n)
theorem o_63_0 : okL gmt mt_63 0 b_63_0 := by
  refine oc (y := mt_63) (pc := 0) (ok_aload_n dJ8_charAt_0) 1 rfl ?_
  refine oc_V (y := mt_63) (pc := 1) (vcons (y := mt_63) (pc := 1) (len := 3) (n := 1) (M := mt_59) (by decide) rfl (Or.inr rfl) rfl (ck_V dJ8_charAt_1 ⟨by decide, by decide, by decide, by decide +kernel⟩ q796 q797 q798 q178 q799) vnil) (hok0 rfl) (by decide) 4 rfl ?_
  refine oc_if dJ8_charAt_4 ⟨by decide, by decide⟩ 7 rfl ?_
  refine oc (y := mt_63) (pc := 7) (ok_aload_n dJ8_charAt_7) 8 rfl ?_
  refine oc (y := mt_63) (pc := 8) (ok_getfield dJ8_charAt_8 (fg (own := "java/lang/String") (idx := 9) (g := 10) (k := 0) (r := (RJ8, TJ8, 4)) rfl ⟨⟨by decide, by decide⟩, by decide⟩ (Or.inl q745) (Or.inl rfl) rfl (fg_nil))) 11 rfl ?_
  refine oc (y := mt_63) (pc := 11) (ok_iload_n dJ8_charAt_11) 12 rfl ?_
  refine oc_S (y := mt_63) (pc := 12) (M := mt_7) rfl (ck_S dJ8_charAt_12 ⟨by decide, by decide, by decide, by decide +kernel⟩ q1344 q1345 q180 q1346) (hok0 rfl) (by decide) 15 rfl ?_
  exact oc_cret dJ8_charAt_15 rfl
theorem o_63_16 : okL gmt mt_63 16 b_63_16 := by
  refine oc (y := mt_63) (pc := 16) (ok_aload_n dJ8_charAt_16) 17 rfl ?_
  refine oc (y := mt_63) (pc := 17) (ok_getfield dJ8_charAt_17 (fg (own := "java/lang/String") (idx := 9) (g := 10) (k := 0) (r := (RJ8, TJ8, 4)) rfl ⟨⟨by decide, by decide⟩, by decide⟩ (Or.inl q745) (Or.inl rfl) rfl (fg_nil))) 20 rfl ?_
  refine oc (y := mt_63) (pc := 20) (ok_iload_n dJ8_charAt_20) 21 rfl ?_
  refine oc_S (y := mt_63) (pc := 21) (M := mt_79) rfl (ck_S dJ8_charAt_21 ⟨by decide, by decide, by decide, by decide +kernel⟩ q1348 q1349 q179 q1350) (hok0 rfl) (by decide) 24 rfl ?_
  exact oc_cret dJ8_charAt_24 rfl
theorem ok_63 : ∀ q ∈ pr_63, okL gmt mt_63 q.1 q.2 := pk_c o_63_0 (pk_c o_63_16 (pk_n))
theorem o_64_0 : okL gmt mt_64 0 b_64_0 := by
  refine oc (y := mt_64) (pc := 0) (ok_iload_n dJ9_compress_0) 1 rfl ?_
  refine oc (y := mt_64) (pc := 1) (ok_newarray dJ9_compress_1 (by decide) q374) 3 rfl ?_
  refine oc (y := mt_64) (pc := 3) (ok_astore_n dJ9_compress_3 (by decide)) 4 rfl ?_
  refine oc (y := mt_64) (pc := 4) (ok_aload_n dJ9_compress_4) 5 rfl ?_
  refine oc (y := mt_64) (pc := 5) (ok_iload_n dJ9_compress_5) 6 rfl ?_
  refine oc (y := mt_64) (pc := 6) (ok_aload_n dJ9_compress_6) 7 rfl ?_
  refine oc (y := mt_64) (pc := 7) (ok_iconst dJ9_compress_7 rfl ⟨by decide, by decide⟩) 8 rfl ?_
  refine oc (y := mt_64) (pc := 8) (ok_iload_n dJ9_compress_8) 9 rfl ?_
  refine oc_S (y := mt_64) (pc := 9) (M := mt_65) rfl (ck_S dJ9_compress_9 ⟨by decide, by decide, by decide, by decide +kernel⟩ q699 q700 q179 q701) (hok0 rfl) (by decide) 12 rfl ?_
  refine oc (y := mt_64) (pc := 12) (ok_istore dJ9_compress_12 (by decide)) 14 rfl ?_
  refine oc (y := mt_64) (pc := 14) (ok_iload dJ9_compress_14) 16 rfl ?_
  refine oc (y := mt_64) (pc := 16) (ok_iload_n dJ9_compress_16) 17 rfl ?_
  refine oc_icmp dJ9_compress_17 ⟨by decide, by decide⟩ 20 rfl ?_
  refine oc (y := mt_64) (pc := 20) (ok_aload_n dJ9_compress_20) 21 rfl ?_
  refine oc (y := mt_64) (pc := 21) (ok_iload_n dJ9_compress_21) 22 rfl ?_
  refine oc (y := mt_64) (pc := 22) (ok_iload_n dJ9_compress_22) 23 rfl ?_
  refine oc_S (y := mt_64) (pc := 23) (M := mt_66) rfl (ck_S dJ9_compress_23 ⟨by decide, by decide, by decide, by decide +kernel⟩ q702 q703 q179 q704) (hok0 rfl) (by decide) 26 rfl ?_
  refine oc (y := mt_64) (pc := 26) (ok_astore dJ9_compress_26 (by decide)) 28 rfl ?_
  refine oc (y := mt_64) (pc := 28) (ok_aload dJ9_compress_28) 30 rfl ?_
  refine oc (y := mt_64) (pc := 30) (ok_iload dJ9_compress_30) 32 rfl ?_
  refine oc_S (y := mt_64) (pc := 32) (M := mt_71) rfl (ck_S dJ9_compress_32 ⟨by decide, by decide, by decide, by decide +kernel⟩ q724 q725 q179 q726) (hok0 rfl) (by decide) 35 rfl ?_
  refine oc (y := mt_64) (pc := 35) (ok_sipush dJ9_compress_35 (by decide) ⟨by decide, by decide⟩) 38 rfl ?_
  refine oc_icmp dJ9_compress_38 ⟨by decide, by decide⟩ 41 rfl ?_
  refine oc (y := mt_64) (pc := 41) (ok_aload dJ9_compress_41) 43 rfl ?_
  refine oc (y := mt_64) (pc := 43) (ok_iconst dJ9_compress_43 rfl ⟨by decide, by decide⟩) 44 rfl ?_
  refine oc (y := mt_64) (pc := 44) (ok_aload_n dJ9_compress_44) 45 rfl ?_
  refine oc (y := mt_64) (pc := 45) (ok_iconst dJ9_compress_45 rfl ⟨by decide, by decide⟩) 46 rfl ?_
  refine oc (y := mt_64) (pc := 46) (ok_iload_n dJ9_compress_46) 47 rfl ?_
  refine oc_S (y := mt_64) (pc := 47) (M := mt_72) rfl (ck_S dJ9_compress_47 ⟨by decide, by decide, by decide, by decide +kernel⟩ q727 q728 q179 q729) (hok0 rfl) (by decide) 50 rfl ?_
  refine oc (y := mt_64) (pc := 50) (ok_iload_n dJ9_compress_50) 51 rfl ?_
  refine oc_icmp dJ9_compress_51 ⟨by decide, by decide⟩ 54 rfl ?_
  exact oc_fall rfl
theorem o_64_54 : okL gmt mt_64 54 b_64_54 := by
  refine oc (y := mt_64) (pc := 54) (ok_aload dJ9_compress_54) 56 rfl ?_
  exact oc_aretA dJ9_compress_56 rfl
theorem o_64_57 : okL gmt mt_64 57 b_64_57 := by
  refine oc (y := mt_64) (pc := 57) (ok_aload_n dJ9_compress_57) 58 rfl ?_
  exact oc_aretA dJ9_compress_58 rfl
theorem ok_64 : ∀ q ∈ pr_64, okL gmt mt_64 q.1 q.2 := pk_c o_64_0 (pk_c o_64_54 (pk_c o_64_57 (pk_n)))
theorem o_65_0 : okL gmt mt_65 0 b_65_0 := by
  refine oc (y := mt_65) (pc := 0) (ok_iconst dJ9_compress_2_0 rfl ⟨by decide, by decide⟩) 1 rfl ?_
  refine oc (y := mt_65) (pc := 1) (ok_istore dJ9_compress_2_1 (by decide)) 3 rfl ?_
  exact oc_fall rfl
theorem o_65_3 : okL gmt mt_65 3 b_65_3 := by
  refine oc (y := mt_65) (pc := 3) (ok_iload dJ9_compress_2_3) 5 rfl ?_
  refine oc (y := mt_65) (pc := 5) (ok_iload dJ9_compress_2_5) 7 rfl ?_
  refine oc_icmp dJ9_compress_2_7 ⟨by decide, by decide⟩ 10 rfl ?_
  refine oc (y := mt_65) (pc := 10) (ok_aload_n dJ9_compress_2_10) 11 rfl ?_
  refine oc (y := mt_65) (pc := 11) (ok_iload_n dJ9_compress_2_11) 12 rfl ?_
  refine oc (y := mt_65) (pc := 12) (ok_caload dJ9_compress_2_12) 13 rfl ?_
  refine oc (y := mt_65) (pc := 13) (ok_istore dJ9_compress_2_13 (by decide)) 15 rfl ?_
  refine oc (y := mt_65) (pc := 15) (ok_iload dJ9_compress_2_15) 17 rfl ?_
  refine oc (y := mt_65) (pc := 17) (ok_sipush dJ9_compress_2_17 (by decide) ⟨by decide, by decide⟩) 20 rfl ?_
  refine oc_icmp dJ9_compress_2_20 ⟨by decide, by decide⟩ 23 rfl ?_
  refine oc (y := mt_65) (pc := 23) (ok_iload dJ9_compress_2_23) 25 rfl ?_
  exact oc_iret dJ9_compress_2_25 rfl
theorem o_65_26 : okL gmt mt_65 26 b_65_26 := by
  refine oc (y := mt_65) (pc := 26) (ok_aload_n dJ9_compress_2_26) 27 rfl ?_
  refine oc (y := mt_65) (pc := 27) (ok_iload_n dJ9_compress_2_27) 28 rfl ?_
  refine oc (y := mt_65) (pc := 28) (ok_iload dJ9_compress_2_28) 30 rfl ?_
  refine oc (y := mt_65) (pc := 30) (ok_i2b dJ9_compress_2_30) 31 rfl ?_
  refine oc (y := mt_65) (pc := 31) (ok_bastore dJ9_compress_2_31) 32 rfl ?_
  refine oc (y := mt_65) (pc := 32) (ok_iinc dJ9_compress_2_32 (by decide)) 35 rfl ?_
  refine oc (y := mt_65) (pc := 35) (ok_iinc dJ9_compress_2_35 (by decide)) 38 rfl ?_
  refine oc (y := mt_65) (pc := 38) (ok_iinc dJ9_compress_2_38 (by decide)) 41 rfl ?_
  exact oc_goto dJ9_compress_2_41 ⟨by decide, by decide⟩
theorem o_65_44 : okL gmt mt_65 44 b_65_44 := by
  refine oc (y := mt_65) (pc := 44) (ok_iload dJ9_compress_2_44) 46 rfl ?_
  exact oc_iret dJ9_compress_2_46 rfl
theorem ok_65 : ∀ q ∈ pr_65, okL gmt mt_65 q.1 q.2 := pk_c o_65_0 (pk_c o_65_3 (pk_c o_65_26 (pk_c o_65_44 (pk_n))))
theorem o_66_0 : okL gmt mt_66 0 b_66_0 := by
  refine oc (y := mt_66) (pc := 0) (ok_iload_n dJ9_toBytes_0) 1 rfl ?_
  refine oc_S (y := mt_66) (pc := 1) (M := mt_67) rfl (ck_S dJ9_toBytes_1 ⟨by decide, by decide, by decide, by decide +kernel⟩ q705 q706 q179 q707) (hok0 rfl) (by decide) 4 rfl ?_
  refine oc (y := mt_66) (pc := 4) (ok_astore_n dJ9_toBytes_4 (by decide)) 5 rfl ?_
  refine oc (y := mt_66) (pc := 5) (ok_iconst dJ9_toBytes_5 rfl ⟨by decide, by decide⟩) 6 rfl ?_
  refine oc (y := mt_66) (pc := 6) (ok_istore dJ9_toBytes_6 (by decide)) 8 rfl ?_
  exact oc_fall rfl
theorem o_66_8 : okL gmt mt_66 8 b_66_8 := by
  refine oc (y := mt_66) (pc := 8) (ok_iload dJ9_toBytes_8) 10 rfl ?_
  refine oc (y := mt_66) (pc := 10) (ok_iload_n dJ9_toBytes_10) 11 rfl ?_
  refine oc_icmp dJ9_toBytes_11 ⟨by decide, by decide⟩ 14 rfl ?_
  refine oc (y := mt_66) (pc := 14) (ok_aload_n dJ9_toBytes_14) 15 rfl ?_
  refine oc (y := mt_66) (pc := 15) (ok_iload dJ9_toBytes_15) 17 rfl ?_
  refine oc (y := mt_66) (pc := 17) (ok_aload_n dJ9_toBytes_17) 18 rfl ?_
  refine oc (y := mt_66) (pc := 18) (ok_iload_n dJ9_toBytes_18) 19 rfl ?_
  refine oc (y := mt_66) (pc := 19) (ok_caload dJ9_toBytes_19) 20 rfl ?_
  refine oc_S (y := mt_66) (pc := 20) (M := mt_69) rfl (ck_S dJ9_toBytes_20 ⟨by decide, by decide, by decide, by decide +kernel⟩ q712 q713 q179 q714) (hok0 rfl) (by decide) 23 rfl ?_
  refine oc (y := mt_66) (pc := 23) (ok_iinc dJ9_toBytes_23 (by decide)) 26 rfl ?_
  refine oc (y := mt_66) (pc := 26) (ok_iinc dJ9_toBytes_26 (by decide)) 29 rfl ?_
  exact oc_goto dJ9_toBytes_29 ⟨by decide, by decide⟩
theorem o_66_32 : okL gmt mt_66 32 b_66_32 := by
  refine oc (y := mt_66) (pc := 32) (ok_aload_n dJ9_toBytes_32) 33 rfl ?_
  exact oc_aretA dJ9_toBytes_33 rfl
theorem ok_66 : ∀ q ∈ pr_66, okL gmt mt_66 q.1 q.2 := pk_c o_66_0 (pk_c o_66_8 (pk_c o_66_32 (pk_n)))
theorem o_67_0 : okL gmt mt_67 0 b_67_0 := by
  refine oc (y := mt_67) (pc := 0) (ok_iload_n dJ9_newBytesFor_0) 1 rfl ?_
  refine oc_S (y := mt_67) (pc := 1) (M := mt_68) rfl (ck_S dJ9_newBytesFor_1 ⟨by decide, by decide, by decide, by decide +kernel⟩ q708 q709 q179 q710) (hok0 rfl) (by decide) 4 rfl ?_
  refine oc (y := mt_67) (pc := 4) (ok_newarray dJ9_newBytesFor_4 (by decide) q374) 6 rfl ?_
  exact oc_aretA dJ9_newBytesFor_6 rfl
theorem ok_67 : ∀ q ∈ pr_67, okL gmt mt_67 q.1 q.2 := pk_c o_67_0 (pk_n)
theorem o_68_0 : okL gmt mt_68 0 b_68_0 := by
  refine oc (y := mt_68) (pc := 0) (ok_iload_n dJ9_newBytesLength_0) 1 rfl ?_
  refine oc_if dJ9_newBytesLength_1 ⟨by decide, by decide⟩ 4 rfl ?_
  exact oc_end
theorem o_68_12 : okL gmt mt_68 12 b_68_12 := by
  refine oc (y := mt_68) (pc := 12) (ok_iload_n dJ9_newBytesLength_12) 13 rfl ?_
  refine oc (y := mt_68) (pc := 13) (ok_ldcI dJ9_newBytesLength_13 rfl ⟨by decide, by decide⟩ q711) 15 rfl ?_
  refine oc_icmp dJ9_newBytesLength_15 ⟨by decide, by decide⟩ 18 rfl ?_
  exact oc_end
theorem o_68_55 : okL gmt mt_68 55 b_68_55 := by
  refine oc (y := mt_68) (pc := 55) (ok_iload_n dJ9_newBytesLength_55) 56 rfl ?_
  refine oc (y := mt_68) (pc := 56) (ok_iconst dJ9_newBytesLength_56 rfl ⟨by decide, by decide⟩) 57 rfl ?_
  refine oc (y := mt_68) (pc := 57) (ok_ishl dJ9_newBytesLength_57) 58 rfl ?_
  exact oc_iret dJ9_newBytesLength_58 rfl
theorem ok_68 : ∀ q ∈ pr_68, okL gmt mt_68 q.1 q.2 := pk_c o_68_0 (pk_c o_68_12 (pk_c o_68_55 (pk_n)))
theorem o_69_0 : okL gmt mt_69 0 b_69_0 := by
  exact oc_end
theorem o_69_18 : okL gmt mt_69 18 b_69_18 := by
  exact oc_end
theorem o_69_28 : okL gmt mt_69 28 b_69_28 := by
  refine oc (y := mt_69) (pc := 28) (ok_iload_n dJ9_putChar_28) 29 rfl ?_
  refine oc (y := mt_69) (pc := 29) (ok_iconst dJ9_putChar_29 rfl ⟨by decide, by decide⟩) 30 rfl ?_
  refine oc (y := mt_69) (pc := 30) (ok_ishl dJ9_putChar_30) 31 rfl ?_
  refine oc (y := mt_69) (pc := 31) (ok_istore_n dJ9_putChar_31 (by decide)) 32 rfl ?_
  refine oc (y := mt_69) (pc := 32) (ok_aload_n dJ9_putChar_32) 33 rfl ?_
  refine oc (y := mt_69) (pc := 33) (ok_iload_n dJ9_putChar_33) 34 rfl ?_
  refine oc (y := mt_69) (pc := 34) (ok_iinc dJ9_putChar_34 (by decide)) 37 rfl ?_
  refine oc (y := mt_69) (pc := 37) (ok_iload_n dJ9_putChar_37) 38 rfl ?_
  exact oc_end
theorem ok_69 : ∀ q ∈ pr_69, okL gmt mt_69 q.1 q.2 := pk_c o_69_0 (pk_c o_69_18 (pk_c o_69_28 (pk_n)))
theorem o_70_0 : okL gmt mt_70 0 b_70_0 := by
  refine oc (y := mt_70) (pc := 0) (ok_aload_n dJ9_length_0) 1 rfl ?_
  refine oc (y := mt_70) (pc := 1) (ok_alen dJ9_length_1) 2 rfl ?_
  refine oc (y := mt_70) (pc := 2) (ok_iconst dJ9_length_2 rfl ⟨by decide, by decide⟩) 3 rfl ?_
  refine oc (y := mt_70) (pc := 3) (ok_ishr dJ9_length_3) 4 rfl ?_
  exact oc_iret dJ9_length_4 rfl
theorem ok_70 : ∀ q ∈ pr_70, okL gmt mt_70 q.1 q.2 := pk_c o_70_0 (pk_n)
theorem o_71_0 : okL gmt mt_71 0 b_71_0 := by
  exact oc_end
theorem o_71_18 : okL gmt mt_71 18 b_71_18 := by
  exact oc_end
theorem o_71_28 : okL gmt mt_71 28 b_71_28 := by
  refine oc (y := mt_71) (pc := 28) (ok_iload_n dJ9_getChar_28) 29 rfl ?_
  refine oc (y := mt_71) (pc := 29) (ok_iconst dJ9_getChar_29 rfl ⟨by decide, by decide⟩) 30 rfl ?_
  refine oc (y := mt_71) (pc := 30) (ok_ishl dJ9_getChar_30) 31 rfl ?_
  refine oc (y := mt_71) (pc := 31) (ok_istore_n dJ9_getChar_31 (by decide)) 32 rfl ?_
  refine oc (y := mt_71) (pc := 32) (ok_aload_n dJ9_getChar_32) 33 rfl ?_
  refine oc (y := mt_71) (pc := 33) (ok_iload_n dJ9_getChar_33) 34 rfl ?_
  refine oc (y := mt_71) (pc := 34) (ok_iinc dJ9_getChar_34 (by decide)) 37 rfl ?_
  refine oc (y := mt_71) (pc := 37) (ok_baload dJ9_getChar_37) 38 rfl ?_
  refine oc (y := mt_71) (pc := 38) (ok_sipush dJ9_getChar_38 (by decide) ⟨by decide, by decide⟩) 41 rfl ?_
  refine oc (y := mt_71) (pc := 41) (ok_iand dJ9_getChar_41) 42 rfl ?_
  exact oc_end
theorem ok_71 : ∀ q ∈ pr_71, okL gmt mt_71 q.1 q.2 := pk_c o_71_0 (pk_c o_71_18 (pk_c o_71_28 (pk_n)))
theorem o_72_0 : okL gmt mt_72 0 b_72_0 := by
  refine oc (y := mt_72) (pc := 0) (ok_iload_n dJ9_compress_3_0) 1 rfl ?_
  refine oc (y := mt_72) (pc := 1) (ok_iload dJ9_compress_3_1) 3 rfl ?_
  refine oc (y := mt_72) (pc := 3) (ok_aload_n dJ9_compress_3_3) 4 rfl ?_
  refine oc_S (y := mt_72) (pc := 4) (M := mt_73) rfl (ck_S dJ9_compress_3_4 ⟨by decide, by decide, by decide, by decide +kernel⟩ q730 q731 q179 q732) (hok0 rfl) (by decide) 7 rfl ?_
  refine oc (y := mt_72) (pc := 7) (ok_iconst dJ9_compress_3_7 rfl ⟨by decide, by decide⟩) 8 rfl ?_
  refine oc (y := mt_72) (pc := 8) (ok_istore dJ9_compress_3_8 (by decide)) 10 rfl ?_
  exact oc_fall rfl
theorem o_72_10 : okL gmt mt_72 10 b_72_10 := by
  refine oc (y := mt_72) (pc := 10) (ok_iload dJ9_compress_3_10) 12 rfl ?_
  refine oc (y := mt_72) (pc := 12) (ok_iload dJ9_compress_3_12) 14 rfl ?_
  refine oc_icmp dJ9_compress_3_14 ⟨by decide, by decide⟩ 17 rfl ?_
  refine oc (y := mt_72) (pc := 17) (ok_aload_n dJ9_compress_3_17) 18 rfl ?_
  refine oc (y := mt_72) (pc := 18) (ok_iload_n dJ9_compress_3_18) 19 rfl ?_
  refine oc_S (y := mt_72) (pc := 19) (M := mt_71) rfl (ck_S dJ9_compress_3_19 ⟨by decide, by decide, by decide, by decide +kernel⟩ q724 q725 q179 q726) (hok0 rfl) (by decide) 22 rfl ?_
  refine oc (y := mt_72) (pc := 22) (ok_istore dJ9_compress_3_22 (by decide)) 24 rfl ?_
  refine oc (y := mt_72) (pc := 24) (ok_iload dJ9_compress_3_24) 26 rfl ?_
  refine oc (y := mt_72) (pc := 26) (ok_sipush dJ9_compress_3_26 (by decide) ⟨by decide, by decide⟩) 29 rfl ?_
  refine oc_icmp dJ9_compress_3_29 ⟨by decide, by decide⟩ 32 rfl ?_
  refine oc (y := mt_72) (pc := 32) (ok_iload dJ9_compress_3_32) 34 rfl ?_
  exact oc_iret dJ9_compress_3_34 rfl
theorem o_72_35 : okL gmt mt_72 35 b_72_35 := by
  refine oc (y := mt_72) (pc := 35) (ok_aload_n dJ9_compress_3_35) 36 rfl ?_
  refine oc (y := mt_72) (pc := 36) (ok_iload_n dJ9_compress_3_36) 37 rfl ?_
  refine oc (y := mt_72) (pc := 37) (ok_iload dJ9_compress_3_37) 39 rfl ?_
  refine oc (y := mt_72) (pc := 39) (ok_i2b dJ9_compress_3_39) 40 rfl ?_
  refine oc (y := mt_72) (pc := 40) (ok_bastore dJ9_compress_3_40) 41 rfl ?_
  refine oc (y := mt_72) (pc := 41) (ok_iinc dJ9_compress_3_41 (by decide)) 44 rfl ?_
  refine oc (y := mt_72) (pc := 44) (ok_iinc dJ9_compress_3_44 (by decide)) 47 rfl ?_
  refine oc (y := mt_72) (pc := 47) (ok_iinc dJ9_compress_3_47 (by decide)) 50 rfl ?_
  exact oc_goto dJ9_compress_3_50 ⟨by decide, by decide⟩
theorem o_72_53 : okL gmt mt_72 53 b_72_53 := by
  refine oc (y := mt_72) (pc := 53) (ok_iload dJ9_compress_3_53) 55 rfl ?_
  exact oc_iret dJ9_compress_3_55 rfl
theorem ok_72 : ∀ q ∈ pr_72, okL gmt mt_72 q.1 q.2 := pk_c o_72_0 (pk_c o_72_10 (pk_c o_72_35 (pk_c o_72_53 (pk_n))))
theorem o_73_0 : okL gmt mt_73 0 b_73_0 := by
  refine oc (y := mt_73) (pc := 0) (ok_iload_n dJ9_checkBoundsOffCount_0) 1 rfl ?_
  refine oc (y := mt_73) (pc := 1) (ok_iload_n dJ9_checkBoundsOffCount_1) 2 rfl ?_
  refine oc (y := mt_73) (pc := 2) (ok_aload_n dJ9_checkBoundsOffCount_2) 3 rfl ?_
  refine oc_S (y := mt_73) (pc := 3) (M := mt_70) rfl (ck_S dJ9_checkBoundsOffCount_3 ⟨by decide, by decide, by decide, by decide +kernel⟩ q717 q718 q179 q719) (hok0 rfl) (by decide) 6 rfl ?_
  refine oc_S (y := mt_73) (pc := 6) (M := mt_56) rfl (ck_S dJ9_checkBoundsOffCount_6 ⟨by decide, by decide, by decide, by decide +kernel⟩ q733 q734 q178 q735) (hok0 rfl) (by decide) 9 rfl ?_
  refine oc (y := mt_73) (pc := 9) (ok_pop dJ9_checkBoundsOffCount_9) 10 rfl ?_
  exact oc_ret dJ9_checkBoundsOffCount_10 rfl
theorem ok_73 : ∀ q ∈ pr_73, okL gmt mt_73 q.1 q.2 := pk_c o_73_0 (pk_n)
theorem o_74_0 : okL gmt mt_74 0 b_74_0 := by
  refine oc (y := mt_74) (pc := 0) (ok_iload_n dJ9_coderFromArrayLen_0) 1 rfl ?_
  refine oc (y := mt_74) (pc := 1) (ok_aload_n dJ9_coderFromArrayLen_1) 2 rfl ?_
  refine oc (y := mt_74) (pc := 2) (ok_alen dJ9_coderFromArrayLen_2) 3 rfl ?_
  refine oc (y := mt_74) (pc := 3) (ok_isub dJ9_coderFromArrayLen_3) 4 rfl ?_
  refine oc (y := mt_74) (pc := 4) (ok_bipush dJ9_coderFromArrayLen_4 (by decide) ⟨by decide, by decide⟩) 6 rfl ?_
  refine oc (y := mt_74) (pc := 6) (ok_iushr dJ9_coderFromArrayLen_6) 7 rfl ?_
  refine oc (y := mt_74) (pc := 7) (ok_i2b dJ9_coderFromArrayLen_7) 8 rfl ?_
  exact oc_bret dJ9_coderFromArrayLen_8 rfl
theorem ok_74 : ∀ q ∈ pr_74, okL gmt mt_74 q.1 q.2 := pk_c o_74_0 (pk_n)
theorem o_75_0 : okL gmt mt_75 0 b_75_0 := by
  refine oc (y := mt_75) (pc := 0) (ok_aload_n dJ9_hashCode_0) 1 rfl ?_
  refine oc (y := mt_75) (pc := 1) (ok_alen dJ9_hashCode_1) 2 rfl ?_
  exact oc_lsw dJ9_hashCode_2 ⟨by decide, by decide⟩ (by decide +kernel) (by decide +kernel) (by decide +kernel)
theorem o_75_28 : okL gmt mt_75 28 b_75_28 := by
  refine oc (y := mt_75) (pc := 28) (ok_iconst dJ9_hashCode_28 rfl ⟨by decide, by decide⟩) 29 rfl ?_
  exact oc_goto dJ9_hashCode_29 ⟨by decide, by decide⟩
theorem o_75_32 : okL gmt mt_75 32 b_75_32 := by
  refine oc (y := mt_75) (pc := 32) (ok_aload_n dJ9_hashCode_32) 33 rfl ?_
  refine oc (y := mt_75) (pc := 33) (ok_iconst dJ9_hashCode_33 rfl ⟨by decide, by decide⟩) 34 rfl ?_
  refine oc_S (y := mt_75) (pc := 34) (M := mt_71) rfl (ck_S dJ9_hashCode_34 ⟨by decide, by decide, by decide, by decide +kernel⟩ q724 q725 q179 q726) (hok0 rfl) (by decide) 37 rfl ?_
  exact oc_goto dJ9_hashCode_37 ⟨by decide, by decide⟩
theorem o_75_40 : okL gmt mt_75 40 b_75_40 := by
  refine oc (y := mt_75) (pc := 40) (ok_aload_n dJ9_hashCode_40) 41 rfl ?_
  refine oc (y := mt_75) (pc := 41) (ok_iconst dJ9_hashCode_41 rfl ⟨by decide, by decide⟩) 42 rfl ?_
  refine oc (y := mt_75) (pc := 42) (ok_aload_n dJ9_hashCode_42) 43 rfl ?_
  refine oc (y := mt_75) (pc := 43) (ok_alen dJ9_hashCode_43) 44 rfl ?_
  refine oc (y := mt_75) (pc := 44) (ok_iconst dJ9_hashCode_44 rfl ⟨by decide, by decide⟩) 45 rfl ?_
  refine oc (y := mt_75) (pc := 45) (ok_ishr dJ9_hashCode_45) 46 rfl ?_
  refine oc (y := mt_75) (pc := 46) (ok_iconst dJ9_hashCode_46 rfl ⟨by decide, by decide⟩) 47 rfl ?_
  refine oc (y := mt_75) (pc := 47) (ok_iconst dJ9_hashCode_47 rfl ⟨by decide, by decide⟩) 48 rfl ?_
  refine oc_S (y := mt_75) (pc := 48) (M := mt_8) rfl (ck_S dJ9_hashCode_48 ⟨by decide, by decide, by decide, by decide +kernel⟩ q844 q804 q181 q805) (hok0 rfl) (by decide) 51 rfl ?_
  exact oc_fall rfl
theorem o_75_51 : okL gmt mt_75 51 b_75_51 := by
  exact oc_iret dJ9_hashCode_51 rfl
theorem ok_75 : ∀ q ∈ pr_75, okL gmt mt_75 q.1 q.2 := pk_c o_75_0 (pk_c o_75_28 (pk_c o_75_32 (pk_c o_75_40 (pk_c o_75_51 (pk_n)))))
theorem o_76_0 : okL gmt mt_76 0 b_76_0 := by
  refine oc (y := mt_76) (pc := 0) (ok_iload_n dJ9_inflate_0) 1 rfl ?_
  refine oc (y := mt_76) (pc := 1) (ok_iload dJ9_inflate_1) 3 rfl ?_
  refine oc (y := mt_76) (pc := 3) (ok_aload_n dJ9_inflate_3) 4 rfl ?_
  refine oc_S (y := mt_76) (pc := 4) (M := mt_73) rfl (ck_S dJ9_inflate_4 ⟨by decide, by decide, by decide, by decide +kernel⟩ q730 q731 q179 q732) (hok0 rfl) (by decide) 7 rfl ?_
  refine oc (y := mt_76) (pc := 7) (ok_iconst dJ9_inflate_7 rfl ⟨by decide, by decide⟩) 8 rfl ?_
  refine oc (y := mt_76) (pc := 8) (ok_istore dJ9_inflate_8 (by decide)) 10 rfl ?_
  exact oc_fall rfl
theorem o_76_10 : okL gmt mt_76 10 b_76_10 := by
  refine oc (y := mt_76) (pc := 10) (ok_iload dJ9_inflate_10) 12 rfl ?_
  refine oc (y := mt_76) (pc := 12) (ok_iload dJ9_inflate_12) 14 rfl ?_
  refine oc_icmp dJ9_inflate_14 ⟨by decide, by decide⟩ 17 rfl ?_
  refine oc (y := mt_76) (pc := 17) (ok_aload_n dJ9_inflate_17) 18 rfl ?_
  refine oc (y := mt_76) (pc := 18) (ok_iload_n dJ9_inflate_18) 19 rfl ?_
  refine oc (y := mt_76) (pc := 19) (ok_iinc dJ9_inflate_19 (by decide)) 22 rfl ?_
  refine oc (y := mt_76) (pc := 22) (ok_aload_n dJ9_inflate_22) 23 rfl ?_
  refine oc (y := mt_76) (pc := 23) (ok_iload_n dJ9_inflate_23) 24 rfl ?_
  refine oc (y := mt_76) (pc := 24) (ok_iinc dJ9_inflate_24 (by decide)) 27 rfl ?_
  refine oc (y := mt_76) (pc := 27) (ok_baload dJ9_inflate_27) 28 rfl ?_
  refine oc (y := mt_76) (pc := 28) (ok_sipush dJ9_inflate_28 (by decide) ⟨by decide, by decide⟩) 31 rfl ?_
  refine oc (y := mt_76) (pc := 31) (ok_iand dJ9_inflate_31) 32 rfl ?_
  refine oc_S (y := mt_76) (pc := 32) (M := mt_69) rfl (ck_S dJ9_inflate_32 ⟨by decide, by decide, by decide, by decide +kernel⟩ q712 q713 q179 q714) (hok0 rfl) (by decide) 35 rfl ?_
  refine oc (y := mt_76) (pc := 35) (ok_iinc dJ9_inflate_35 (by decide)) 38 rfl ?_
  exact oc_goto dJ9_inflate_38 ⟨by decide, by decide⟩
theorem o_76_41 : okL gmt mt_76 41 b_76_41 := by
  exact oc_ret dJ9_inflate_41 rfl
theorem ok_76 : ∀ q ∈ pr_76, okL gmt mt_76 q.1 q.2 := pk_c o_76_0 (pk_c o_76_10 (pk_c o_76_41 (pk_n)))
theorem o_77_0 : okL gmt mt_77 0 b_77_0 := by
  refine oc (y := mt_77) (pc := 0) (ok_iload_n dJ9_putCharSB_0) 1 rfl ?_
  refine oc (y := mt_77) (pc := 1) (ok_aload_n dJ9_putCharSB_1) 2 rfl ?_
  refine oc_S (y := mt_77) (pc := 2) (M := mt_78) rfl (ck_S dJ9_putCharSB_2 ⟨by decide, by decide, by decide, by decide +kernel⟩ q1255 q1256 q179 q1257) (hok0 rfl) (by decide) 5 rfl ?_
  refine oc (y := mt_77) (pc := 5) (ok_aload_n dJ9_putCharSB_5) 6 rfl ?_
  refine oc (y := mt_77) (pc := 6) (ok_iload_n dJ9_putCharSB_6) 7 rfl ?_
  refine oc (y := mt_77) (pc := 7) (ok_iload_n dJ9_putCharSB_7) 8 rfl ?_
  refine oc_S (y := mt_77) (pc := 8) (M := mt_69) rfl (ck_S dJ9_putCharSB_8 ⟨by decide, by decide, by decide, by decide +kernel⟩ q712 q713 q179 q714) (hok0 rfl) (by decide) 11 rfl ?_
  exact oc_ret dJ9_putCharSB_11 rfl
theorem ok_77 : ∀ q ∈ pr_77, okL gmt mt_77 q.1 q.2 := pk_c o_77_0 (pk_n)
theorem o_78_0 : okL gmt mt_78 0 b_78_0 := by
  refine oc (y := mt_78) (pc := 0) (ok_iload_n dJ9_checkIndex_0) 1 rfl ?_
  refine oc (y := mt_78) (pc := 1) (ok_aload_n dJ9_checkIndex_1) 2 rfl ?_
  refine oc_S (y := mt_78) (pc := 2) (M := mt_70) rfl (ck_S dJ9_checkIndex_2 ⟨by decide, by decide, by decide, by decide +kernel⟩ q717 q718 q179 q719) (hok0 rfl) (by decide) 5 rfl ?_
  refine oc_S (y := mt_78) (pc := 5) (M := mt_62) rfl (ck_S dJ9_checkIndex_5 ⟨by decide, by decide, by decide, by decide +kernel⟩ q1258 q1259 q178 q1260) (hok0 rfl) (by decide) 8 rfl ?_
  exact oc_ret dJ9_checkIndex_8 rfl
theorem ok_78 : ∀ q ∈ pr_78, okL gmt mt_78 q.1 q.2 := pk_c o_78_0 (pk_n)
theorem o_79_0 : okL gmt mt_79 0 b_79_0 := by
  refine oc (y := mt_79) (pc := 0) (ok_iload_n dJ9_charAt_0) 1 rfl ?_
  refine oc (y := mt_79) (pc := 1) (ok_aload_n dJ9_charAt_1) 2 rfl ?_
  refine oc_S (y := mt_79) (pc := 2) (M := mt_78) rfl (ck_S dJ9_charAt_2 ⟨by decide, by decide, by decide, by decide +kernel⟩ q1255 q1256 q179 q1257) (hok0 rfl) (by decide) 5 rfl ?_
  refine oc (y := mt_79) (pc := 5) (ok_aload_n dJ9_charAt_5) 6 rfl ?_
  refine oc (y := mt_79) (pc := 6) (ok_iload_n dJ9_charAt_6) 7 rfl ?_
  refine oc_S (y := mt_79) (pc := 7) (M := mt_71) rfl (ck_S dJ9_charAt_7 ⟨by decide, by decide, by decide, by decide +kernel⟩ q724 q725 q179 q726) (hok0 rfl) (by decide) 10 rfl ?_
  exact oc_cret dJ9_charAt_10 rfl
theorem ok_79 : ∀ q ∈ pr_79, okL gmt mt_79 q.1 q.2 := pk_c o_79_0 (pk_n)
theorem o_80_0 : okL gmt mt_80 0 b_80_0 := by
  refine oc (y := mt_80) (pc := 0) (ok_aload_n dX0_init_0) 1 rfl ?_
  refine oc_oi (y := mt_80) (pc := 1) dX0_init_1 q209 q210 q211 4 rfl ?_
  refine oc (y := mt_80) (pc := 4) (ok_aload_n dX0_init_4) 5 rfl ?_
  refine oc (y := mt_80) (pc := 5) (ok_new (C := RX1) (T := TX1) (N := 10) (ci := 1) dX0_init_5 rfl rfl rfl nf_1 q212 q213 q163) 8 rfl ?_
  refine oc (y := mt_80) (pc := 8) (ok_dup dX0_init_8) 9 rfl ?_
  refine oc_I (y := mt_80) (pc := 9) (vcons (y := mt_80) (pc := 9) (len := 3) (n := 1) (M := mt_148) (by decide) rfl (Or.inl rfl) rfl (ck_IN dX0_init_9 ⟨by decide, by decide, by decide, by decide +kernel⟩ rfl q214 q215 q163 q216) (vnil)) (hok0 rfl) (by decide) 12 rfl ?_
  refine oc (y := mt_80) (pc := 12) (ok_putfield dX0_init_12 (fp (own := "GardenChess") (idx := 31) (g := 1) (k := 0) (r := (RX0, TX0, 25)) rfl ⟨⟨by decide, by decide⟩, by decide⟩ (Or.inl q539) (Or.inl rfl) rfl (Or.inl rfl) (fp_nil))) 15 rfl ?_
  refine oc (y := mt_80) (pc := 15) (ok_aload_n dX0_init_15) 16 rfl ?_
  refine oc (y := mt_80) (pc := 16) (ok_sipush dX0_init_16 (by decide) ⟨by decide, by decide⟩) 19 rfl ?_
  refine oc (y := mt_80) (pc := 19) (ok_newarray dX0_init_19 (by decide) q374) 21 rfl ?_
  refine oc (y := mt_80) (pc := 21) (ok_putfield dX0_init_21 (fp (own := "GardenChess") (idx := 35) (g := 1) (k := 1) (r := (RX0, TX0, 25)) rfl ⟨⟨by decide, by decide⟩, by decide⟩ (Or.inl q541) (Or.inl rfl) rfl (Or.inr ⟨rfl, rfl, rfl, q541⟩) (fp_nil))) 24 rfl ?_
  refine oc (y := mt_80) (pc := 24) (ok_aload_n dX0_init_24) 25 rfl ?_
  refine oc (y := mt_80) (pc := 25) (ok_iconst dX0_init_25 rfl ⟨by decide, by decide⟩) 26 rfl ?_
  refine oc (y := mt_80) (pc := 26) (ok_putfield dX0_init_26 (fp (own := "GardenChess") (idx := 39) (g := 1) (k := 4) (r := (RX0, TX0, 25)) rfl ⟨⟨by decide, by decide⟩, by decide⟩ (Or.inl q544) (Or.inl rfl) rfl (Or.inl rfl) (fp_nil))) 29 rfl ?_
  refine oc (y := mt_80) (pc := 29) (ok_aload_n dX0_init_29) 30 rfl ?_
  refine oc (y := mt_80) (pc := 30) (ok_new (C := RX2) (T := TX2) (N := 8) (ci := 3) dX0_init_30 rfl rfl rfl nf_3 q296 q297 q167) 33 rfl ?_
  refine oc (y := mt_80) (pc := 33) (ok_dup dX0_init_33) 34 rfl ?_
  refine oc (y := mt_80) (pc := 34) (ok_aload_n dX0_init_34) 35 rfl ?_
  refine oc_I (y := mt_80) (pc := 35) (vcons (y := mt_80) (pc := 35) (len := 3) (n := 2) (M := mt_170) (by decide) rfl (Or.inl rfl) rfl (ck_IN dX0_init_35 ⟨by decide, by decide, by decide, by decide +kernel⟩ rfl q298 q299 q167 q300) (vnil)) (hok0 rfl) (by decide) 38 rfl ?_
  refine oc (y := mt_80) (pc := 38) (ok_putfield dX0_init_38 (fp (own := "GardenChess") (idx := 48) (g := 1) (k := 5) (r := (RX0, TX0, 25)) rfl ⟨⟨by decide, by decide⟩, by decide⟩ (Or.inl q545) (Or.inl rfl) rfl (Or.inr ⟨rfl, rfl, rfl, q545⟩) (fp_nil))) 41 rfl ?_
  refine oc (y := mt_80) (pc := 41) (ok_aload_n dX0_init_41) 42 rfl ?_
  refine oc (y := mt_80) (pc := 42) (ok_new (C := RX4) (T := TX4) (N := 1) (ci := 5) dX0_init_42 rfl rfl rfl nf_5 q400 q401 q172) 45 rfl ?_
  refine oc (y := mt_80) (pc := 45) (ok_dup dX0_init_45) 46 rfl ?_
  refine oc_I (y := mt_80) (pc := 46) (vcons (y := mt_80) (pc := 46) (len := 3) (n := 1) (M := mt_208) (by decide) rfl (Or.inl rfl) rfl (ck_IN dX0_init_46 ⟨by decide, by decide, by decide, by decide +kernel⟩ rfl q402 q403 q172 q404) (vnil)) (hok0 rfl) (by decide) 49 rfl ?_
  refine oc (y := mt_80) (pc := 49) (ok_putfield dX0_init_49 (fp (own := "GardenChess") (idx := 55) (g := 1) (k := 6) (r := (RX0, TX0, 25)) rfl ⟨⟨by decide, by decide⟩, by decide⟩ (Or.inl q546) (Or.inl rfl) rfl (Or.inr ⟨rfl, rfl, rfl, q546⟩) (fp_nil))) 52 rfl ?_
  refine oc (y := mt_80) (pc := 52) (ok_aload_n dX0_init_52) 53 rfl ?_
  refine oc (y := mt_80) (pc := 53) (ok_new (C := RX4) (T := TX4) (N := 1) (ci := 5) dX0_init_53 rfl rfl rfl nf_5 q400 q401 q172) 56 rfl ?_
  refine oc (y := mt_80) (pc := 56) (ok_dup dX0_init_56) 57 rfl ?_
  refine oc_I (y := mt_80) (pc := 57) (vcons (y := mt_80) (pc := 57) (len := 3) (n := 1) (M := mt_208) (by decide) rfl (Or.inl rfl) rfl (ck_IN dX0_init_57 ⟨by decide, by decide, by decide, by decide +kernel⟩ rfl q402 q403 q172 q404) (vnil)) (hok0 rfl) (by decide) 60 rfl ?_
  refine oc (y := mt_80) (pc := 60) (ok_putfield dX0_init_60 (fp (own := "GardenChess") (idx := 59) (g := 1) (k := 7) (r := (RX0, TX0, 25)) rfl ⟨⟨by decide, by decide⟩, by decide⟩ (Or.inl q548) (Or.inl rfl) rfl (Or.inr ⟨rfl, rfl, rfl, q548⟩) (fp_nil))) 63 rfl ?_
  refine oc (y := mt_80) (pc := 63) (ok_aload_n dX0_init_63) 64 rfl ?_
  refine oc (y := mt_80) (pc := 64) (ok_bipush dX0_init_64 (by decide) ⟨by decide, by decide⟩) 66 rfl ?_
  refine oc (y := mt_80) (pc := 66) (ok_newarray dX0_init_66 (by decide) q246) 68 rfl ?_
  refine oc (y := mt_80) (pc := 68) (ok_putfield dX0_init_68 (fp (own := "GardenChess") (idx := 62) (g := 1) (k := 8) (r := (RX0, TX0, 25)) rfl ⟨⟨by decide, by decide⟩, by decide⟩ (Or.inl q549) (Or.inl rfl) rfl (Or.inr ⟨rfl, rfl, rfl, q549⟩) (fp_nil))) 71 rfl ?_
  refine oc (y := mt_80) (pc := 71) (ok_aload_n dX0_init_71) 72 rfl ?_
  refine oc (y := mt_80) (pc := 72) (ok_iconst dX0_init_72 rfl ⟨by decide, by decide⟩) 73 rfl ?_
  refine oc (y := mt_80) (pc := 73) (ok_anewarray (E := "GardenChess$Moves") dX0_init_73 (by decide) q414) 76 rfl ?_
  refine oc (y := mt_80) (pc := 76) (ok_putfield dX0_init_76 (fp (own := "GardenChess") (idx := 68) (g := 1) (k := 9) (r := (RX0, TX0, 25)) rfl ⟨⟨by decide, by decide⟩, by decide⟩ (Or.inl q550) (Or.inl rfl) rfl (Or.inr ⟨rfl, rfl, rfl, q550⟩) (fp_nil))) 79 rfl ?_
  refine oc (y := mt_80) (pc := 79) (ok_aload_n dX0_init_79) 80 rfl ?_
  refine oc (y := mt_80) (pc := 80) (ok_new (C := RX5) (T := TX5) (N := 3) (ci := 6) dX0_init_80 rfl rfl rfl nf_6 q414 q416 q173) 83 rfl ?_
  refine oc (y := mt_80) (pc := 83) (ok_dup dX0_init_83) 84 rfl ?_
  refine oc_I (y := mt_80) (pc := 84) (vcons (y := mt_80) (pc := 84) (len := 3) (n := 1) (M := mt_209) (by decide) rfl (Or.inl rfl) rfl (ck_IN dX0_init_84 ⟨by decide, by decide, by decide, by decide +kernel⟩ rfl q417 q418 q173 q419) (vnil)) (hok0 rfl) (by decide) 87 rfl ?_
  refine oc (y := mt_80) (pc := 87) (ok_putfield dX0_init_87 (fp (own := "GardenChess") (idx := 73) (g := 1) (k := 10) (r := (RX0, TX0, 25)) rfl ⟨⟨by decide, by decide⟩, by decide⟩ (Or.inl q552) (Or.inl rfl) rfl (Or.inr ⟨rfl, rfl, rfl, q552⟩) (fp_nil))) 90 rfl ?_
  refine oc (y := mt_80) (pc := 90) (ok_aload_n dX0_init_90) 91 rfl ?_
  refine oc (y := mt_80) (pc := 91) (ok_new (C := RX5) (T := TX5) (N := 3) (ci := 6) dX0_init_91 rfl rfl rfl nf_6 q414 q416 q173) 94 rfl ?_
  refine oc (y := mt_80) (pc := 94) (ok_dup dX0_init_94) 95 rfl ?_
  refine oc_I (y := mt_80) (pc := 95) (vcons (y := mt_80) (pc := 95) (len := 3) (n := 1) (M := mt_209) (by decide) rfl (Or.inl rfl) rfl (ck_IN dX0_init_95 ⟨by decide, by decide, by decide, by decide +kernel⟩ rfl q417 q418 q173 q419) (vnil)) (hok0 rfl) (by decide) 98 rfl ?_
  refine oc (y := mt_80) (pc := 98) (ok_putfield dX0_init_98 (fp (own := "GardenChess") (idx := 77) (g := 1) (k := 11) (r := (RX0, TX0, 25)) rfl ⟨⟨by decide, by decide⟩, by decide⟩ (Or.inl q554) (Or.inl rfl) rfl (Or.inr ⟨rfl, rfl, rfl, q554⟩) (fp_nil))) 101 rfl ?_
  exact oc_fall rfl
theorem o_80_101 : okL gmt mt_80 101 b_80_101 := by
  refine oc (y := mt_80) (pc := 101) (ok_aload_n dX0_init_101) 102 rfl ?_
  refine oc (y := mt_80) (pc := 102) (ok_new (C := RX6) (T := TX6) (N := 12) (ci := 7) dX0_init_102 rfl rfl rfl nf_7 q437 q438 q174) 105 rfl ?_
  refine oc (y := mt_80) (pc := 105) (ok_dup dX0_init_105) 106 rfl ?_
  refine oc (y := mt_80) (pc := 106) (ok_aload_n dX0_init_106) 107 rfl ?_
  refine oc_I (y := mt_80) (pc := 107) (vcons (y := mt_80) (pc := 107) (len := 3) (n := 2) (M := mt_211) (by decide) rfl (Or.inl rfl) rfl (ck_IN dX0_init_107 ⟨by decide, by decide, by decide, by decide +kernel⟩ rfl q439 q440 q174 q441) (vnil)) (hok0 rfl) (by decide) 110 rfl ?_
  refine oc (y := mt_80) (pc := 110) (ok_putfield dX0_init_110 (fp (own := "GardenChess") (idx := 83) (g := 1) (k := 12) (r := (RX0, TX0, 25)) rfl ⟨⟨by decide, by decide⟩, by decide⟩ (Or.inl q555) (Or.inl rfl) rfl (Or.inr ⟨rfl, rfl, rfl, q555⟩) (fp_nil))) 113 rfl ?_
  refine oc (y := mt_80) (pc := 113) (ok_aload_n dX0_init_113) 114 rfl ?_
  refine oc (y := mt_80) (pc := 114) (ok_new (C := RX6) (T := TX6) (N := 12) (ci := 7) dX0_init_114 rfl rfl rfl nf_7 q437 q438 q174) 117 rfl ?_
  refine oc (y := mt_80) (pc := 117) (ok_dup dX0_init_117) 118 rfl ?_
  refine oc (y := mt_80) (pc := 118) (ok_aload_n dX0_init_118) 119 rfl ?_
  refine oc_I (y := mt_80) (pc := 119) (vcons (y := mt_80) (pc := 119) (len := 3) (n := 2) (M := mt_211) (by decide) rfl (Or.inl rfl) rfl (ck_IN dX0_init_119 ⟨by decide, by decide, by decide, by decide +kernel⟩ rfl q439 q440 q174 q441) (vnil)) (hok0 rfl) (by decide) 122 rfl ?_
  refine oc (y := mt_80) (pc := 122) (ok_putfield dX0_init_122 (fp (own := "GardenChess") (idx := 87) (g := 1) (k := 13) (r := (RX0, TX0, 25)) rfl ⟨⟨by decide, by decide⟩, by decide⟩ (Or.inl q556) (Or.inl rfl) rfl (Or.inr ⟨rfl, rfl, rfl, q556⟩) (fp_nil))) 125 rfl ?_
  refine oc (y := mt_80) (pc := 125) (ok_aload_n dX0_init_125) 126 rfl ?_
  refine oc (y := mt_80) (pc := 126) (ok_bipush dX0_init_126 (by decide) ⟨by decide, by decide⟩) 128 rfl ?_
  refine oc (y := mt_80) (pc := 128) (ok_newarray dX0_init_128 (by decide) q413) 130 rfl ?_
  refine oc (y := mt_80) (pc := 130) (ok_putfield dX0_init_130 (fp (own := "GardenChess") (idx := 90) (g := 1) (k := 14) (r := (RX0, TX0, 25)) rfl ⟨⟨by decide, by decide⟩, by decide⟩ (Or.inl q557) (Or.inl rfl) rfl (Or.inr ⟨rfl, rfl, rfl, q557⟩) (fp_nil))) 133 rfl ?_
  refine oc (y := mt_80) (pc := 133) (ok_aload_n dX0_init_133) 134 rfl ?_
  refine oc (y := mt_80) (pc := 134) (ok_bipush dX0_init_134 (by decide) ⟨by decide, by decide⟩) 136 rfl ?_
  refine oc (y := mt_80) (pc := 136) (ok_newarray dX0_init_136 (by decide) q246) 138 rfl ?_
  refine oc (y := mt_80) (pc := 138) (ok_putfield dX0_init_138 (fp (own := "GardenChess") (idx := 94) (g := 1) (k := 15) (r := (RX0, TX0, 25)) rfl ⟨⟨by decide, by decide⟩, by decide⟩ (Or.inl q558) (Or.inl rfl) rfl (Or.inr ⟨rfl, rfl, rfl, q558⟩) (fp_nil))) 141 rfl ?_
  refine oc (y := mt_80) (pc := 141) (ok_aload_n dX0_init_141) 142 rfl ?_
  refine oc (y := mt_80) (pc := 142) (ok_bipush dX0_init_142 (by decide) ⟨by decide, by decide⟩) 144 rfl ?_
  refine oc (y := mt_80) (pc := 144) (ok_newarray dX0_init_144 (by decide) q246) 146 rfl ?_
  refine oc (y := mt_80) (pc := 146) (ok_putfield dX0_init_146 (fp (own := "GardenChess") (idx := 97) (g := 1) (k := 16) (r := (RX0, TX0, 25)) rfl ⟨⟨by decide, by decide⟩, by decide⟩ (Or.inl q559) (Or.inl rfl) rfl (Or.inr ⟨rfl, rfl, rfl, q559⟩) (fp_nil))) 149 rfl ?_
  refine oc (y := mt_80) (pc := 149) (ok_aload_n dX0_init_149) 150 rfl ?_
  refine oc (y := mt_80) (pc := 150) (ok_bipush dX0_init_150 (by decide) ⟨by decide, by decide⟩) 152 rfl ?_
  refine oc (y := mt_80) (pc := 152) (ok_newarray dX0_init_152 (by decide) q246) 154 rfl ?_
  refine oc (y := mt_80) (pc := 154) (ok_putfield dX0_init_154 (fp (own := "GardenChess") (idx := 100) (g := 1) (k := 18) (r := (RX0, TX0, 25)) rfl ⟨⟨by decide, by decide⟩, by decide⟩ (Or.inl q561) (Or.inl rfl) rfl (Or.inr ⟨rfl, rfl, rfl, q561⟩) (fp_nil))) 157 rfl ?_
  refine oc (y := mt_80) (pc := 157) (ok_aload_n dX0_init_157) 158 rfl ?_
  refine oc (y := mt_80) (pc := 158) (ok_bipush dX0_init_158 (by decide) ⟨by decide, by decide⟩) 160 rfl ?_
  refine oc (y := mt_80) (pc := 160) (ok_anewarray (E := "GardenChess$State") dX0_init_160 (by decide) q437) 163 rfl ?_
  refine oc (y := mt_80) (pc := 163) (ok_putfield dX0_init_163 (fp (own := "GardenChess") (idx := 103) (g := 1) (k := 19) (r := (RX0, TX0, 25)) rfl ⟨⟨by decide, by decide⟩, by decide⟩ (Or.inl q562) (Or.inl rfl) rfl (Or.inr ⟨rfl, rfl, rfl, q562⟩) (fp_nil))) 166 rfl ?_
  refine oc (y := mt_80) (pc := 166) (ok_iconst dX0_init_166 rfl ⟨by decide, by decide⟩) 167 rfl ?_
  refine oc (y := mt_80) (pc := 167) (ok_istore_n dX0_init_167 (by decide)) 168 rfl ?_
  exact oc_fall rfl
theorem o_80_168 : okL gmt mt_80 168 b_80_168 := by
  refine oc (y := mt_80) (pc := 168) (ok_iload_n dX0_init_168) 169 rfl ?_
  refine oc (y := mt_80) (pc := 169) (ok_bipush dX0_init_169 (by decide) ⟨by decide, by decide⟩) 171 rfl ?_
  refine oc_icmp dX0_init_171 ⟨by decide, by decide⟩ 174 rfl ?_
  refine oc (y := mt_80) (pc := 174) (ok_aload_n dX0_init_174) 175 rfl ?_
  refine oc (y := mt_80) (pc := 175) (ok_getfield dX0_init_175 (fg (own := "GardenChess") (idx := 103) (g := 1) (k := 19) (r := (RX0, TX0, 25)) rfl ⟨⟨by decide, by decide⟩, by decide⟩ (Or.inl q562) (Or.inl rfl) rfl (fg_nil))) 178 rfl ?_
  refine oc (y := mt_80) (pc := 178) (ok_iload_n dX0_init_178) 179 rfl ?_
  refine oc (y := mt_80) (pc := 179) (ok_new (C := RX6) (T := TX6) (N := 12) (ci := 7) dX0_init_179 rfl rfl rfl nf_7 q437 q438 q174) 182 rfl ?_
  refine oc (y := mt_80) (pc := 182) (ok_dup dX0_init_182) 183 rfl ?_
  refine oc (y := mt_80) (pc := 183) (ok_aload_n dX0_init_183) 184 rfl ?_
  refine oc_I (y := mt_80) (pc := 184) (vcons (y := mt_80) (pc := 184) (len := 3) (n := 2) (M := mt_211) (by decide) rfl (Or.inl rfl) rfl (ck_IN dX0_init_184 ⟨by decide, by decide, by decide, by decide +kernel⟩ rfl q439 q440 q174 q441) (vnil)) (hok0 rfl) (by decide) 187 rfl ?_
  refine oc (y := mt_80) (pc := 187) (ok_aastore dX0_init_187 (by decide) rfl (ct (by decide) rfl (Or.inl rfl) (ct_nil))) 188 rfl ?_
  refine oc (y := mt_80) (pc := 188) (ok_iinc dX0_init_188 (by decide)) 191 rfl ?_
  exact oc_goto dX0_init_191 ⟨by decide, by decide⟩
theorem o_80_194 : okL gmt mt_80 194 b_80_194 := by
  refine oc (y := mt_80) (pc := 194) (ok_iconst dX0_init_194 rfl ⟨by decide, by decide⟩) 195 rfl ?_
  refine oc (y := mt_80) (pc := 195) (ok_istore_n dX0_init_195 (by decide)) 196 rfl ?_
  exact oc_fall rfl
theorem o_80_196 : okL gmt mt_80 196 b_80_196 := by
  refine oc (y := mt_80) (pc := 196) (ok_iload_n dX0_init_196) 197 rfl ?_
  refine oc (y := mt_80) (pc := 197) (ok_aload_n dX0_init_197) 198 rfl ?_
  refine oc (y := mt_80) (pc := 198) (ok_getfield dX0_init_198 (fg (own := "GardenChess") (idx := 68) (g := 1) (k := 9) (r := (RX0, TX0, 25)) rfl ⟨⟨by decide, by decide⟩, by decide⟩ (Or.inl q550) (Or.inl rfl) rfl (fg_nil))) 201 rfl ?_
  refine oc (y := mt_80) (pc := 201) (ok_alen dX0_init_201) 202 rfl ?_
  refine oc_icmp dX0_init_202 ⟨by decide, by decide⟩ 205 rfl ?_
  refine oc (y := mt_80) (pc := 205) (ok_aload_n dX0_init_205) 206 rfl ?_
  refine oc (y := mt_80) (pc := 206) (ok_getfield dX0_init_206 (fg (own := "GardenChess") (idx := 68) (g := 1) (k := 9) (r := (RX0, TX0, 25)) rfl ⟨⟨by decide, by decide⟩, by decide⟩ (Or.inl q550) (Or.inl rfl) rfl (fg_nil))) 209 rfl ?_
  refine oc (y := mt_80) (pc := 209) (ok_iload_n dX0_init_209) 210 rfl ?_
  refine oc (y := mt_80) (pc := 210) (ok_new (C := RX5) (T := TX5) (N := 3) (ci := 6) dX0_init_210 rfl rfl rfl nf_6 q414 q416 q173) 213 rfl ?_
  refine oc (y := mt_80) (pc := 213) (ok_dup dX0_init_213) 214 rfl ?_
  refine oc_I (y := mt_80) (pc := 214) (vcons (y := mt_80) (pc := 214) (len := 3) (n := 1) (M := mt_209) (by decide) rfl (Or.inl rfl) rfl (ck_IN dX0_init_214 ⟨by decide, by decide, by decide, by decide +kernel⟩ rfl q417 q418 q173 q419) (vnil)) (hok0 rfl) (by decide) 217 rfl ?_
  refine oc (y := mt_80) (pc := 217) (ok_aastore dX0_init_217 (by decide) rfl (ct (by decide) rfl (Or.inl rfl) (ct_nil))) 218 rfl ?_
  refine oc (y := mt_80) (pc := 218) (ok_iinc dX0_init_218 (by decide)) 221 rfl ?_
  exact oc_goto dX0_init_221 ⟨by decide, by decide⟩
theorem o_80_224 : okL gmt mt_80 224 b_80_224 := by
  refine oc (y := mt_80) (pc := 224) (ok_aload_n dX0_init_224) 225 rfl ?_
  refine oc (y := mt_80) (pc := 225) (ok_getfield dX0_init_225 (fg (own := "GardenChess") (idx := 83) (g := 1) (k := 12) (r := (RX0, TX0, 25)) rfl ⟨⟨by decide, by decide⟩, by decide⟩ (Or.inl q555) (Or.inl rfl) rfl (fg_nil))) 228 rfl ?_
  refine oc_V (y := mt_80) (pc := 228) (vcons (y := mt_80) (pc := 228) (len := 3) (n := 1) (M := mt_212) (by decide) rfl (Or.inr rfl) rfl (ck_V dX0_init_228 ⟨by decide, by decide, by decide, by decide +kernel⟩ q491 q492 q493 q174 q494) vnil) (hok0 rfl) (by decide) 231 rfl ?_
  refine oc (y := mt_80) (pc := 231) (ok_aload_n dX0_init_231) 232 rfl ?_
  refine oc (y := mt_80) (pc := 232) (ok_lconst dX0_init_232 (by decide) ⟨by decide, by decide⟩) 233 rfl ?_
  refine oc (y := mt_80) (pc := 233) (ok_putfield dX0_init_233 (fp (own := "GardenChess") (idx := 110) (g := 1) (k := 21) (r := (RX0, TX0, 25)) rfl ⟨⟨by decide, by decide⟩, by decide⟩ (Or.inl q564) (Or.inl rfl) rfl (Or.inl rfl) (fp_nil))) 236 rfl ?_
  refine oc (y := mt_80) (pc := 236) (ok_aload_n dX0_init_236) 237 rfl ?_
  refine oc (y := mt_80) (pc := 237) (ok_bipush dX0_init_237 (by decide) ⟨by decide, by decide⟩) 239 rfl ?_
  refine oc (y := mt_80) (pc := 239) (ok_newarray dX0_init_239 (by decide) q374) 241 rfl ?_
  refine oc (y := mt_80) (pc := 241) (ok_putfield dX0_init_241 (fp (own := "GardenChess") (idx := 114) (g := 1) (k := 23) (r := (RX0, TX0, 25)) rfl ⟨⟨by decide, by decide⟩, by decide⟩ (Or.inl q566) (Or.inl rfl) rfl (Or.inr ⟨rfl, rfl, rfl, q566⟩) (fp_nil))) 244 rfl ?_
  exact oc_ret dX0_init_244 rfl
theorem ok_80 : ∀ q ∈ pr_80, okL gmt mt_80 q.1 q.2 := pk_c o_80_0 (pk_c o_80_101 (pk_c o_80_168 (pk_c o_80_194 (pk_c o_80_196 (pk_c o_80_224 (pk_n))))))
theorem o_81_0 : okL gmt mt_81 0 b_81_0 := by
  refine oc (y := mt_81) (pc := 0) (ok_aload_n dX0_men_0) 1 rfl ?_
  refine oc (y := mt_81) (pc := 1) (ok_getfield dX0_men_1 (fg (own := "GardenChess") (idx := 31) (g := 1) (k := 0) (r := (RX0, TX0, 25)) rfl ⟨⟨by decide, by decide⟩, by decide⟩ (Or.inl q539) (Or.inl rfl) rfl (fg_nil))) 4 rfl ?_
  refine oc (y := mt_81) (pc := 4) (ok_getfield dX0_men_4 (fg (own := "GardenChess") (idx := 162) (g := 2) (k := 7) (r := (RX1, TX1, 10)) rfl ⟨⟨by decide, by decide⟩, by decide⟩ (Or.inr ⟨_, q267⟩) (Or.inl rfl) rfl (fg_nil))) 7 rfl ?_
  refine oc_F (y := mt_81) (pc := 7) (vcons (y := mt_81) (pc := 7) (len := 5) (n := 1) (M := mt_39) (by decide) rfl (Or.inr rfl) rfl (ck_F (ci := 2) dX0_men_7 rfl rfl (fun G s h => h.2.2.1.1) (by decide) ⟨by decide, by decide, by decide +kernel⟩ q500 q504 q506 q166 q508) vnil) (hok0 rfl) 12 rfl ?_
  exact oc_iret dX0_men_12 rfl
theorem ok_81 : ∀ q ∈ pr_81, okL gmt mt_81 q.1 q.2 := pk_c o_81_0 (pk_n)
theorem o_82_0 : okL gmt mt_82 0 b_82_0 := by
  refine oc (y := mt_82) (pc := 0) (ok_aload_n dX0_kindOf_0) 1 rfl ?_
  refine oc (y := mt_82) (pc := 1) (ok_getfield dX0_kindOf_1 (fg (own := "GardenChess") (idx := 31) (g := 1) (k := 0) (r := (RX0, TX0, 25)) rfl ⟨⟨by decide, by decide⟩, by decide⟩ (Or.inl q539) (Or.inl rfl) rfl (fg_nil))) 4 rfl ?_
  refine oc (y := mt_82) (pc := 4) (ok_getfield dX0_kindOf_4 (fg (own := "GardenChess") (idx := 189) (g := 2) (k := 6) (r := (RX1, TX1, 10)) rfl ⟨⟨by decide, by decide⟩, by decide⟩ (Or.inr ⟨_, q265⟩) (Or.inl rfl) rfl (fg_nil))) 7 rfl ?_
  refine oc (y := mt_82) (pc := 7) (ok_aload_n dX0_kindOf_7) 8 rfl ?_
  refine oc (y := mt_82) (pc := 8) (ok_iload_n dX0_kindOf_8) 9 rfl ?_
  refine oc_V (y := mt_82) (pc := 9) (vcons (y := mt_82) (pc := 9) (len := 3) (n := 2) (M := mt_83) (by decide) rfl (Or.inr rfl) rfl (ck_V dX0_kindOf_9 ⟨by decide, by decide, by decide, by decide +kernel⟩ q513 q515 qs3 q162 q516) vnil) (hok0 rfl) (by decide) 12 rfl ?_
  refine oc (y := mt_82) (pc := 12) (ok_getfield dX0_kindOf_12 (fg (own := "GardenChess") (idx := 196) (g := 13) (k := 1) (r := (RX10, TX10, 5)) rfl ⟨⟨by decide, by decide⟩, by decide⟩ (Or.inr ⟨_, q1034⟩) (Or.inl rfl) rfl (fg_nil))) 15 rfl ?_
  refine oc_F (y := mt_82) (pc := 15) (vcons (y := mt_82) (pc := 15) (len := 5) (n := 2) (M := mt_40) (by decide) rfl (Or.inr rfl) rfl (ck_F (ci := 2) dX0_kindOf_15 rfl rfl (fun G s h => h.2.2.1.2.1) (by decide) ⟨by decide, by decide, by decide +kernel⟩ q518 q521 q523 q166 q525) vnil) (hok0 rfl) 20 rfl ?_
  refine oc (y := mt_82) (pc := 20) (ok_checkcast (E := "GardenChess$Kind") dX0_kindOf_20 q537 (ct (by decide) rfl (Or.inl rfl) (ct_nil))) 23 rfl ?_
  exact oc_aretO dX0_kindOf_23 rfl
theorem ok_82 : ∀ q ∈ pr_82, okL gmt mt_82 q.1 q.2 := pk_c o_82_0 (pk_n)
theorem o_83_0 : okL gmt mt_83 0 b_83_0 := by
  refine oc (y := mt_83) (pc := 0) (ok_aload_n dX0_manOf_0) 1 rfl ?_
  refine oc (y := mt_83) (pc := 1) (ok_getfield dX0_manOf_1 (fg (own := "GardenChess") (idx := 31) (g := 1) (k := 0) (r := (RX0, TX0, 25)) rfl ⟨⟨by decide, by decide⟩, by decide⟩ (Or.inl q539) (Or.inl rfl) rfl (fg_nil))) 4 rfl ?_
  refine oc (y := mt_83) (pc := 4) (ok_getfield dX0_manOf_4 (fg (own := "GardenChess") (idx := 162) (g := 2) (k := 7) (r := (RX1, TX1, 10)) rfl ⟨⟨by decide, by decide⟩, by decide⟩ (Or.inr ⟨_, q267⟩) (Or.inl rfl) rfl (fg_nil))) 7 rfl ?_
  refine oc (y := mt_83) (pc := 7) (ok_iload_n dX0_manOf_7) 8 rfl ?_
  refine oc_F (y := mt_83) (pc := 8) (vcons (y := mt_83) (pc := 8) (len := 5) (n := 2) (M := mt_40) (by decide) rfl (Or.inr rfl) rfl (ck_F (ci := 2) dX0_manOf_8 rfl rfl (fun G s h => h.2.2.1.2.1) (by decide) ⟨by decide, by decide, by decide +kernel⟩ q518 q521 q523 q166 q525) vnil) (hok0 rfl) 13 rfl ?_
  refine oc (y := mt_83) (pc := 13) (ok_checkcast (E := "GardenChess$Man") dX0_manOf_13 q536 (ct (by decide) rfl (Or.inl rfl) (ct_nil))) 16 rfl ?_
  exact oc_aretO dX0_manOf_16 rfl
theorem ok_83 : ∀ q ∈ pr_83, okL gmt mt_83 q.1 q.2 := pk_c o_83_0 (pk_n)
theorem o_84_0 : okL gmt mt_84 0 b_84_0 := by
  refine oc (y := mt_84) (pc := 0) (ok_aload_n dX0_feed_0) 1 rfl ?_
  refine oc (y := mt_84) (pc := 1) (ok_getfield dX0_feed_1 (fg (own := "GardenChess") (idx := 117) (g := 1) (k := 2) (r := (RX0, TX0, 25)) rfl ⟨⟨by decide, by decide⟩, by decide⟩ (Or.inl q542) (Or.inl rfl) rfl (fg_nil))) 4 rfl ?_
  refine oc (y := mt_84) (pc := 4) (ok_bipush dX0_feed_4 (by decide) ⟨by decide, by decide⟩) 6 rfl ?_
  refine oc (y := mt_84) (pc := 6) (ok_iadd dX0_feed_6) 7 rfl ?_
  refine oc (y := mt_84) (pc := 7) (ok_sipush dX0_feed_7 (by decide) ⟨by decide, by decide⟩) 10 rfl ?_
  refine oc_icmp dX0_feed_10 ⟨by decide, by decide⟩ 13 rfl ?_
  refine oc (y := mt_84) (pc := 13) (ok_aload_n dX0_feed_13) 14 rfl ?_
  refine oc (y := mt_84) (pc := 14) (ok_iconst dX0_feed_14 rfl ⟨by decide, by decide⟩) 15 rfl ?_
  refine oc_V (y := mt_84) (pc := 15) (vcons (y := mt_84) (pc := 15) (len := 3) (n := 2) (M := mt_85) (by decide) rfl (Or.inr rfl) rfl (ck_V dX0_feed_15 ⟨by decide, by decide, by decide, by decide +kernel⟩ q623 q625 qs4 q162 q626) vnil) (hok0 rfl) (by decide) 18 rfl ?_
  exact oc_iret dX0_feed_18 rfl
theorem o_84_19 : okL gmt mt_84 19 b_84_19 := by
  refine oc (y := mt_84) (pc := 19) (ok_aload_n dX0_feed_19) 20 rfl ?_
  refine oc (y := mt_84) (pc := 20) (ok_iload_n dX0_feed_20) 21 rfl ?_
  refine oc_V (y := mt_84) (pc := 21) (vcons (y := mt_84) (pc := 21) (len := 3) (n := 2) (M := mt_86) (by decide) rfl (Or.inr rfl) rfl (ck_V dX0_feed_21 ⟨by decide, by decide, by decide, by decide +kernel⟩ q627 q629 qs5 q162 q630) vnil) (hok0 rfl) (by decide) 24 rfl ?_
  refine oc (y := mt_84) (pc := 24) (ok_aload_n dX0_feed_24) 25 rfl ?_
  refine oc (y := mt_84) (pc := 25) (ok_iload_n dX0_feed_25) 26 rfl ?_
  refine oc_V (y := mt_84) (pc := 26) (vcons (y := mt_84) (pc := 26) (len := 3) (n := 2) (M := mt_86) (by decide) rfl (Or.inr rfl) rfl (ck_V dX0_feed_26 ⟨by decide, by decide, by decide, by decide +kernel⟩ q627 q629 qs5 q162 q630) vnil) (hok0 rfl) (by decide) 29 rfl ?_
  refine oc (y := mt_84) (pc := 29) (ok_aload_n dX0_feed_29) 30 rfl ?_
  refine oc (y := mt_84) (pc := 30) (ok_iload_n dX0_feed_30) 31 rfl ?_
  refine oc_V (y := mt_84) (pc := 31) (vcons (y := mt_84) (pc := 31) (len := 3) (n := 2) (M := mt_86) (by decide) rfl (Or.inr rfl) rfl (ck_V dX0_feed_31 ⟨by decide, by decide, by decide, by decide +kernel⟩ q627 q629 qs5 q162 q630) vnil) (hok0 rfl) (by decide) 34 rfl ?_
  refine oc (y := mt_84) (pc := 34) (ok_aload_n dX0_feed_34) 35 rfl ?_
  refine oc (y := mt_84) (pc := 35) (ok_iload dX0_feed_35) 37 rfl ?_
  refine oc_V (y := mt_84) (pc := 37) (vcons (y := mt_84) (pc := 37) (len := 3) (n := 2) (M := mt_86) (by decide) rfl (Or.inr rfl) rfl (ck_V dX0_feed_37 ⟨by decide, by decide, by decide, by decide +kernel⟩ q627 q629 qs5 q162 q630) vnil) (hok0 rfl) (by decide) 40 rfl ?_
  refine oc (y := mt_84) (pc := 40) (ok_aload_n dX0_feed_40) 41 rfl ?_
  refine oc (y := mt_84) (pc := 41) (ok_iload dX0_feed_41) 43 rfl ?_
  refine oc_V (y := mt_84) (pc := 43) (vcons (y := mt_84) (pc := 43) (len := 3) (n := 2) (M := mt_86) (by decide) rfl (Or.inr rfl) rfl (ck_V dX0_feed_43 ⟨by decide, by decide, by decide, by decide +kernel⟩ q627 q629 qs5 q162 q630) vnil) (hok0 rfl) (by decide) 46 rfl ?_
  refine oc (y := mt_84) (pc := 46) (ok_aload_n dX0_feed_46) 47 rfl ?_
  refine oc (y := mt_84) (pc := 47) (ok_getfield dX0_feed_47 (fg (own := "GardenChess") (idx := 117) (g := 1) (k := 2) (r := (RX0, TX0, 25)) rfl ⟨⟨by decide, by decide⟩, by decide⟩ (Or.inl q542) (Or.inl rfl) rfl (fg_nil))) 50 rfl ?_
  exact oc_iret dX0_feed_50 rfl
theorem ok_84 : ∀ q ∈ pr_84, okL gmt mt_84 q.1 q.2 := pk_c o_84_0 (pk_c o_84_19 (pk_n))
theorem o_85_0 : okL gmt mt_85 0 b_85_0 := by
  refine oc (y := mt_85) (pc := 0) (ok_aload_n dX0_refuses_0) 1 rfl ?_
  refine oc (y := mt_85) (pc := 1) (ok_getfield dX0_refuses_1 (fg (own := "GardenChess") (idx := 62) (g := 1) (k := 8) (r := (RX0, TX0, 25)) rfl ⟨⟨by decide, by decide⟩, by decide⟩ (Or.inl q549) (Or.inl rfl) rfl (fg_nil))) 4 rfl ?_
  refine oc (y := mt_85) (pc := 4) (ok_iload_n dX0_refuses_4) 5 rfl ?_
  refine oc (y := mt_85) (pc := 5) (ok_dup2 dX0_refuses_5) 6 rfl ?_
  refine oc (y := mt_85) (pc := 6) (ok_iaload dX0_refuses_6) 7 rfl ?_
  refine oc (y := mt_85) (pc := 7) (ok_iconst dX0_refuses_7 rfl ⟨by decide, by decide⟩) 8 rfl ?_
  refine oc (y := mt_85) (pc := 8) (ok_iadd dX0_refuses_8) 9 rfl ?_
  refine oc (y := mt_85) (pc := 9) (ok_iastore dX0_refuses_9) 10 rfl ?_
  refine oc (y := mt_85) (pc := 10) (ok_iconst dX0_refuses_10 rfl ⟨by decide, by decide⟩) 11 rfl ?_
  exact oc_iret dX0_refuses_11 rfl
theorem ok_85 : ∀ q ∈ pr_85, okL gmt mt_85 q.1 q.2 := pk_c o_85_0 (pk_n)
theorem o_86_0 : okL gmt mt_86 0 b_86_0 := by
  refine oc (y := mt_86) (pc := 0) (ok_bipush dX0_put_0 (by decide) ⟨by decide, by decide⟩) 2 rfl ?_
  refine oc (y := mt_86) (pc := 2) (ok_istore_n dX0_put_2 (by decide)) 3 rfl ?_
  exact oc_fall rfl
theorem o_86_3 : okL gmt mt_86 3 b_86_3 := by
  refine oc (y := mt_86) (pc := 3) (ok_iload_n dX0_put_3) 4 rfl ?_
  refine oc_if dX0_put_4 ⟨by decide, by decide⟩ 7 rfl ?_
  refine oc (y := mt_86) (pc := 7) (ok_aload_n dX0_put_7) 8 rfl ?_
  refine oc (y := mt_86) (pc := 8) (ok_getfield dX0_put_8 (fg (own := "GardenChess") (idx := 35) (g := 1) (k := 1) (r := (RX0, TX0, 25)) rfl ⟨⟨by decide, by decide⟩, by decide⟩ (Or.inl q541) (Or.inl rfl) rfl (fg_nil))) 11 rfl ?_
  refine oc (y := mt_86) (pc := 11) (ok_aload_n dX0_put_11) 12 rfl ?_
  refine oc (y := mt_86) (pc := 12) (ok_dup dX0_put_12) 13 rfl ?_
  refine oc (y := mt_86) (pc := 13) (ok_getfield dX0_put_13 (fg (own := "GardenChess") (idx := 117) (g := 1) (k := 2) (r := (RX0, TX0, 25)) rfl ⟨⟨by decide, by decide⟩, by decide⟩ (Or.inl q542) (Or.inl rfl) rfl (fg_nil))) 16 rfl ?_
  refine oc (y := mt_86) (pc := 16) (ok_dup_x1 dX0_put_16) 17 rfl ?_
  refine oc (y := mt_86) (pc := 17) (ok_iconst dX0_put_17 rfl ⟨by decide, by decide⟩) 18 rfl ?_
  refine oc (y := mt_86) (pc := 18) (ok_iadd dX0_put_18) 19 rfl ?_
  refine oc (y := mt_86) (pc := 19) (ok_putfield dX0_put_19 (fp (own := "GardenChess") (idx := 117) (g := 1) (k := 2) (r := (RX0, TX0, 25)) rfl ⟨⟨by decide, by decide⟩, by decide⟩ (Or.inl q542) (Or.inl rfl) rfl (Or.inl rfl) (fp_nil))) 22 rfl ?_
  refine oc (y := mt_86) (pc := 22) (ok_iload_n dX0_put_22) 23 rfl ?_
  refine oc (y := mt_86) (pc := 23) (ok_iload_n dX0_put_23) 24 rfl ?_
  refine oc (y := mt_86) (pc := 24) (ok_ishr dX0_put_24) 25 rfl ?_
  refine oc (y := mt_86) (pc := 25) (ok_i2b dX0_put_25) 26 rfl ?_
  refine oc (y := mt_86) (pc := 26) (ok_bastore dX0_put_26) 27 rfl ?_
  refine oc (y := mt_86) (pc := 27) (ok_iinc dX0_put_27 (by decide)) 30 rfl ?_
  exact oc_goto dX0_put_30 ⟨by decide, by decide⟩
theorem o_86_33 : okL gmt mt_86 33 b_86_33 := by
  exact oc_ret dX0_put_33 rfl
theorem ok_86 : ∀ q ∈ pr_86, okL gmt mt_86 q.1 q.2 := pk_c o_86_0 (pk_c o_86_3 (pk_c o_86_33 (pk_n)))
theorem o_87_0 : okL gmt mt_87 0 b_87_0 := by
  refine oc (y := mt_87) (pc := 0) (ok_iload_n dX0_end_0) 1 rfl ?_
  refine oc_if dX0_end_1 ⟨by decide, by decide⟩ 4 rfl ?_
  refine oc (y := mt_87) (pc := 4) (ok_iload_n dX0_end_4) 5 rfl ?_
  refine oc (y := mt_87) (pc := 5) (ok_aload_n dX0_end_5) 6 rfl ?_
  refine oc (y := mt_87) (pc := 6) (ok_getfield dX0_end_6 (fg (own := "GardenChess") (idx := 117) (g := 1) (k := 2) (r := (RX0, TX0, 25)) rfl ⟨⟨by decide, by decide⟩, by decide⟩ (Or.inl q542) (Or.inl rfl) rfl (fg_nil))) 9 rfl ?_
  refine oc_icmp dX0_end_9 ⟨by decide, by decide⟩ 12 rfl ?_
  exact oc_fall rfl
theorem o_87_12 : okL gmt mt_87 12 b_87_12 := by
  refine oc (y := mt_87) (pc := 12) (ok_aload_n dX0_end_12) 13 rfl ?_
  refine oc (y := mt_87) (pc := 13) (ok_iconst dX0_end_13 rfl ⟨by decide, by decide⟩) 14 rfl ?_
  refine oc_V (y := mt_87) (pc := 14) (vcons (y := mt_87) (pc := 14) (len := 3) (n := 2) (M := mt_85) (by decide) rfl (Or.inr rfl) rfl (ck_V dX0_end_14 ⟨by decide, by decide, by decide, by decide +kernel⟩ q623 q625 qs4 q162 q626) vnil) (hok0 rfl) (by decide) 17 rfl ?_
  refine oc_if dX0_end_17 ⟨by decide, by decide⟩ 20 rfl ?_
  refine oc (y := mt_87) (pc := 20) (ok_iconst dX0_end_20 rfl ⟨by decide, by decide⟩) 21 rfl ?_
  exact oc_goto dX0_end_21 ⟨by decide, by decide⟩
theorem o_87_24 : okL gmt mt_87 24 b_87_24 := by
  refine oc (y := mt_87) (pc := 24) (ok_iconst dX0_end_24 rfl ⟨by decide, by decide⟩) 25 rfl ?_
  exact oc_fall rfl
theorem o_87_25 : okL gmt mt_87 25 b_87_25 := by
  exact oc_zret dX0_end_25 rfl
theorem o_87_26 : okL gmt mt_87 26 b_87_26 := by
  refine oc (y := mt_87) (pc := 26) (ok_aload_n dX0_end_26) 27 rfl ?_
  refine oc (y := mt_87) (pc := 27) (ok_iload_n dX0_end_27) 28 rfl ?_
  refine oc (y := mt_87) (pc := 28) (ok_putfield dX0_end_28 (fp (own := "GardenChess") (idx := 117) (g := 1) (k := 2) (r := (RX0, TX0, 25)) rfl ⟨⟨by decide, by decide⟩, by decide⟩ (Or.inl q542) (Or.inl rfl) rfl (Or.inl rfl) (fp_nil))) 31 rfl ?_
  refine oc (y := mt_87) (pc := 31) (ok_iconst dX0_end_31 rfl ⟨by decide, by decide⟩) 32 rfl ?_
  exact oc_zret dX0_end_32 rfl
theorem ok_87 : ∀ q ∈ pr_87, okL gmt mt_87 q.1 q.2 := pk_c o_87_0 (pk_c o_87_12 (pk_c o_87_24 (pk_c o_87_25 (pk_c o_87_26 (pk_n)))))
theorem hk_88_16 : HOk mt_88 16 28 := ⟨fun h => absurd h (by decide), fun _ => ⟨⟨10, 25, 28, 139⟩, rfl, rfl, by decide, rfl, q639, q304⟩⟩
theorem hk_88_19 : HOk mt_88 19 28 := ⟨fun h => absurd h (by decide), fun _ => ⟨⟨10, 25, 28, 139⟩, rfl, rfl, by decide, rfl, q639, q304⟩⟩
theorem hk_88_47 : HOk mt_88 47 0 := ⟨fun _ => by decide, fun h => absurd h (by decide)⟩
theorem hk_88_55 : HOk mt_88 55 0 := ⟨fun _ => by decide, fun h => absurd h (by decide)⟩
theorem o_88_0 : okL gmt mt_88 0 b_88_0 := by
  refine oc (y := mt_88) (pc := 0) (ok_aload_n dX0_board_0) 1 rfl ?_
  refine oc (y := mt_88) (pc := 1) (ok_iconst dX0_board_1 rfl ⟨by decide, by decide⟩) 2 rfl ?_
  refine oc (y := mt_88) (pc := 2) (ok_putfield dX0_board_2 (fp (own := "GardenChess") (idx := 128) (g := 1) (k := 3) (r := (RX0, TX0, 25)) rfl ⟨⟨by decide, by decide⟩, by decide⟩ (Or.inl q543) (Or.inl rfl) rfl (Or.inl rfl) (fp_nil))) 5 rfl ?_
  refine oc (y := mt_88) (pc := 5) (ok_aload_n dX0_board_5) 6 rfl ?_
  refine oc (y := mt_88) (pc := 6) (ok_iconst dX0_board_6 rfl ⟨by decide, by decide⟩) 7 rfl ?_
  refine oc (y := mt_88) (pc := 7) (ok_putfield dX0_board_7 (fp (own := "GardenChess") (idx := 39) (g := 1) (k := 4) (r := (RX0, TX0, 25)) rfl ⟨⟨by decide, by decide⟩, by decide⟩ (Or.inl q544) (Or.inl rfl) rfl (Or.inl rfl) (fp_nil))) 10 rfl ?_
  refine oc (y := mt_88) (pc := 10) (ok_aload_n dX0_board_10) 11 rfl ?_
  refine oc (y := mt_88) (pc := 11) (ok_aload_n dX0_board_11) 12 rfl ?_
  refine oc (y := mt_88) (pc := 12) (ok_getfield dX0_board_12 (fg (own := "GardenChess") (idx := 48) (g := 1) (k := 5) (r := (RX0, TX0, 25)) rfl ⟨⟨by decide, by decide⟩, by decide⟩ (Or.inl q545) (Or.inl rfl) rfl (fg_nil))) 15 rfl ?_
  refine oc (y := mt_88) (pc := 15) (ok_aload_n dX0_board_15) 16 rfl ?_
  refine oc_V (y := mt_88) (pc := 16) (vcons (y := mt_88) (pc := 16) (len := 3) (n := 1) (M := mt_89) (by decide) rfl (Or.inr rfl) rfl (ck_V dX0_board_16 ⟨by decide, by decide, by decide, by decide +kernel⟩ q640 q642 qs6 q162 q643) vnil) (hk_88_16) (by decide) 19 rfl ?_
  refine oc_V (y := mt_88) (pc := 19) (vcons (y := mt_88) (pc := 19) (len := 3) (n := 2) (M := mt_171) (by decide) rfl (Or.inr rfl) rfl (ck_V dX0_board_19 ⟨by decide, by decide, by decide, by decide +kernel⟩ q644 q645 q646 q167 q647) vnil) (hk_88_19) (by decide) 22 rfl ?_
  refine oc (y := mt_88) (pc := 22) (ok_putfield dX0_board_22 (fp (own := "GardenChess") (idx := 31) (g := 1) (k := 0) (r := (RX0, TX0, 25)) rfl ⟨⟨by decide, by decide⟩, by decide⟩ (Or.inl q539) (Or.inl rfl) rfl (Or.inl rfl) (fp_nil))) 25 rfl ?_
  exact oc_goto dX0_board_25 ⟨by decide, by decide⟩
theorem o_88_28 : okL gmt mt_88 28 b_88_28 := by
  refine oc (y := mt_88) (pc := 28) (ok_astore_n dX0_board_28 (by decide)) 29 rfl ?_
  refine oc (y := mt_88) (pc := 29) (ok_aload_n dX0_board_29) 30 rfl ?_
  refine oc (y := mt_88) (pc := 30) (ok_aload_n dX0_board_30) 31 rfl ?_
  refine oc (y := mt_88) (pc := 31) (ok_getfield dX0_board_31 (fg (own := "GardenChess") (idx := 141) (g := 5) (k := 6) (r := (RX3, TX3, 8)) rfl ⟨⟨by decide, by decide⟩, by decide⟩ (Or.inr ⟨_, q354⟩) (Or.inl rfl) rfl (fg_nil))) 34 rfl ?_
  refine oc (y := mt_88) (pc := 34) (ok_putfield dX0_board_34 (fp (own := "GardenChess") (idx := 128) (g := 1) (k := 3) (r := (RX0, TX0, 25)) rfl ⟨⟨by decide, by decide⟩, by decide⟩ (Or.inl q543) (Or.inl rfl) rfl (Or.inl rfl) (fp_nil))) 37 rfl ?_
  refine oc (y := mt_88) (pc := 37) (ok_aload_n dX0_board_37) 38 rfl ?_
  refine oc (y := mt_88) (pc := 38) (ok_aload_n dX0_board_38) 39 rfl ?_
  refine oc (y := mt_88) (pc := 39) (ok_getfield dX0_board_39 (fg (own := "GardenChess") (idx := 144) (g := 5) (k := 7) (r := (RX3, TX3, 8)) rfl ⟨⟨by decide, by decide⟩, by decide⟩ (Or.inr ⟨_, q356⟩) (Or.inl rfl) rfl (fg_nil))) 42 rfl ?_
  refine oc (y := mt_88) (pc := 42) (ok_putfield dX0_board_42 (fp (own := "GardenChess") (idx := 39) (g := 1) (k := 4) (r := (RX0, TX0, 25)) rfl ⟨⟨by decide, by decide⟩, by decide⟩ (Or.inl q544) (Or.inl rfl) rfl (Or.inl rfl) (fp_nil))) 45 rfl ?_
  refine oc (y := mt_88) (pc := 45) (ok_aload_n dX0_board_45) 46 rfl ?_
  refine oc (y := mt_88) (pc := 46) (ok_iconst dX0_board_46 rfl ⟨by decide, by decide⟩) 47 rfl ?_
  refine oc_V (y := mt_88) (pc := 47) (vcons (y := mt_88) (pc := 47) (len := 3) (n := 2) (M := mt_85) (by decide) rfl (Or.inr rfl) rfl (ck_V dX0_board_47 ⟨by decide, by decide, by decide, by decide +kernel⟩ q623 q625 qs4 q162 q626) vnil) (hk_88_47) (by decide) 50 rfl ?_
  exact oc_iret dX0_board_50 rfl
theorem o_88_51 : okL gmt mt_88 51 b_88_51 := by
  refine oc (y := mt_88) (pc := 51) (ok_aload_n dX0_board_51) 52 rfl ?_
  refine oc (y := mt_88) (pc := 52) (ok_getfield dX0_board_52 (fg (own := "GardenChess") (idx := 83) (g := 1) (k := 12) (r := (RX0, TX0, 25)) rfl ⟨⟨by decide, by decide⟩, by decide⟩ (Or.inl q555) (Or.inl rfl) rfl (fg_nil))) 55 rfl ?_
  refine oc_V (y := mt_88) (pc := 55) (vcons (y := mt_88) (pc := 55) (len := 3) (n := 1) (M := mt_213) (by decide) rfl (Or.inr rfl) rfl (ck_V dX0_board_55 ⟨by decide, by decide, by decide, by decide +kernel⟩ q1268 q1269 q1270 q174 q1271) vnil) (hk_88_55) (by decide) 58 rfl ?_
  refine oc (y := mt_88) (pc := 58) (ok_aload_n dX0_board_58) 59 rfl ?_
  refine oc (y := mt_88) (pc := 59) (ok_iconst dX0_board_59 rfl ⟨by decide, by decide⟩) 60 rfl ?_
  refine oc (y := mt_88) (pc := 60) (ok_putfield dX0_board_60 (fp (own := "GardenChess") (idx := 150) (g := 1) (k := 20) (r := (RX0, TX0, 25)) rfl ⟨⟨by decide, by decide⟩, by decide⟩ (Or.inl q563) (Or.inl rfl) rfl (Or.inl rfl) (fp_nil))) 63 rfl ?_
  refine oc (y := mt_88) (pc := 63) (ok_aload_n dX0_board_63) 64 rfl ?_
  refine oc (y := mt_88) (pc := 64) (ok_iconst dX0_board_64 rfl ⟨by decide, by decide⟩) 65 rfl ?_
  refine oc (y := mt_88) (pc := 65) (ok_putfield dX0_board_65 (fp (own := "GardenChess") (idx := 153) (g := 1) (k := 17) (r := (RX0, TX0, 25)) rfl ⟨⟨by decide, by decide⟩, by decide⟩ (Or.inl q560) (Or.inl rfl) rfl (Or.inl rfl) (fp_nil))) 68 rfl ?_
  refine oc (y := mt_88) (pc := 68) (ok_aload_n dX0_board_68) 69 rfl ?_
  refine oc (y := mt_88) (pc := 69) (ok_getfield dX0_board_69 (fg (own := "GardenChess") (idx := 31) (g := 1) (k := 0) (r := (RX0, TX0, 25)) rfl ⟨⟨by decide, by decide⟩, by decide⟩ (Or.inl q539) (Or.inl rfl) rfl (fg_nil))) 72 rfl ?_
  refine oc (y := mt_88) (pc := 72) (ok_getfield dX0_board_72 (fg (own := "GardenChess") (idx := 156) (g := 2) (k := 0) (r := (RX1, TX1, 10)) rfl ⟨⟨by decide, by decide⟩, by decide⟩ (Or.inr ⟨_, q247⟩) (Or.inl rfl) rfl (fg_nil))) 75 rfl ?_
  exact oc_iret dX0_board_75 rfl
theorem ok_88 : ∀ q ∈ pr_88, okL gmt mt_88 q.1 q.2 := pk_c o_88_0 (pk_c o_88_28 (pk_c o_88_51 (pk_n)))
