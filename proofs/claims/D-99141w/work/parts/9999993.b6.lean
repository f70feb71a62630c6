/-! ===== X's reader: words asked for, names ===== -/
def zASK : List (List Int) := [116, 97, 107, 101, 110] :: [99, 104, 101, 99, 107] :: [111, 102, 102] :: [100, 97, 121] :: [110, 117, 109, 98, 101, 114] :: [99, 111, 108, 117, 109, 110] :: [114, 111, 119] :: [115, 105, 100, 101] :: [119, 111, 114, 116, 104] :: [114, 101, 97, 99, 104] :: [109, 111, 118, 101, 115] :: []
def zLOK : List (List Int) := [111, 102, 102] :: []
def zTOL : List (List Int) := [102, 105, 114, 115, 116] :: [108, 97, 115, 116] :: [111, 102, 116, 101, 110] :: [116, 111, 116, 97, 108] :: [109, 111, 115, 116] :: [108, 101, 97, 115, 116] :: []
section B6
variable {W' : Int → Int → Prop} {d : Nat} {h h' h1 h2 h0 : AH} {Q : QQ} {x y z m k s a b c v n p q r o i f N lo hi A B E : Int} {S T T' : Int → Int → Int} {t nw nw' pt of tp : Int → Int} {tl : ALoc} {w u l W : List Int}
set_option maxHeartbeats 4000000
set_option maxRecDepth 100000
theorem cA_300 (hc : CON h) : ah_t h (-300) = (-14, 33) ∧ ∀ i : Nat, i < 33 → ah_m h (-300) i = ([-44, -46, -48, -50, -52, -54, -28, -26, -56, -58, -60, -62, -64, -66, -68, -70, -72, -74, -10, -12, -14, -16, -18, -20, -22, -24, -30, -76, -78, -80, -82, -84, -86] : List Int).getD i 0 := hc.2 _ (List.mem_cons_self)
theorem cA_301 (hc : CON h) : ah_t h (-301) = (-14, 11) ∧ ∀ i : Nat, i < 11 → ah_m h (-301) i = ([-10, -12, -14, -16, -18, -20, -22, -24, -26, -28, -30] : List Int).getD i 0 := hc.2 _ (List.mem_cons_of_mem _ List.mem_cons_self)
theorem cA_302 (hc : CON h) : ah_t h (-302) = (-14, 1) ∧ ∀ i : Nat, i < 1 → ah_m h (-302) i = ([-14] : List Int).getD i 0 := hc.2 _ (List.mem_cons_of_mem _ (List.mem_cons_of_mem _ List.mem_cons_self))
theorem cA_303 (hc : CON h) : ah_t h (-303) = (-14, 6) ∧ ∀ i : Nat, i < 6 → ah_m h (-303) i = ([-32, -34, -36, -38, -40, -42] : List Int).getD i 0 := hc.2 _ (List.mem_cons_of_mem _ (List.mem_cons_of_mem _ (List.mem_cons_of_mem _ List.mem_cons_self)))
theorem cS_300 : ∀ i : Fin 33, (([-44, -46, -48, -50, -52, -54, -28, -26, -56, -58, -60, -62, -64, -66, -68, -70, -72, -74, -10, -12, -14, -16, -18, -20, -22, -24, -30, -76, -78, -80, -82, -84, -86] : List Int).getD i.val 0, zOWN.getD i.val []) ∈ conS ∧ (zOWN.getD i.val []).length ≤ 20 := by decide
theorem cS_301 : ∀ i : Fin 11, (([-10, -12, -14, -16, -18, -20, -22, -24, -26, -28, -30] : List Int).getD i.val 0, zASK.getD i.val []) ∈ conS ∧ (zASK.getD i.val []).length ≤ 20 := by decide
theorem cS_302 : ∀ i : Fin 1, (([-14] : List Int).getD i.val 0, zLOK.getD i.val []) ∈ conS ∧ (zLOK.getD i.val []).length ≤ 20 := by decide
theorem cS_303 : ∀ i : Fin 6, (([-32, -34, -36, -38, -40, -42] : List Int).getD i.val 0, zTOL.getD i.val []) ∈ conS ∧ (zTOL.getD i.val []).length ≤ 20 := by decide
theorem f_300 (hc : CON h) (hb : zwb t n k = true) (h0 : 0 ≤ k) (hle : k ≤ n) (hn : n ≤ 1600) (hs : STR h p (zsub t k (zwe t n k - k).toNat)) (hp : 0 < p) : wpC (d + 3) 93 [.inr (.inr p), .inr (.inr (-300))] h Q ↔ Q (.inl (some (.inl (zfw t n k zOWN 0)))) h :=
  c_93 (ps := [-44, -46, -48, -50, -52, -54, -28, -26, -56, -58, -60, -62, -64, -66, -68, -70, -72, -74, -10, -12, -14, -16, -18, -20, -22, -24, -30, -76, -78, -80, -82, -84, -86]) (WL := zOWN) hb h0 hle hn hs hp (cA_300 hc).1 (cA_300 hc).2 rfl (by decide) (fun i q => ⟨(hc.1 _ (cS_300 ⟨i, q⟩).1).1, (cS_300 ⟨i, q⟩).2⟩)
theorem f_301 (hc : CON h) (hb : zwb t n k = true) (h0 : 0 ≤ k) (hle : k ≤ n) (hn : n ≤ 1600) (hs : STR h p (zsub t k (zwe t n k - k).toNat)) (hp : 0 < p) : wpC (d + 3) 93 [.inr (.inr p), .inr (.inr (-301))] h Q ↔ Q (.inl (some (.inl (zfw t n k zASK 0)))) h :=
  c_93 (ps := [-10, -12, -14, -16, -18, -20, -22, -24, -26, -28, -30]) (WL := zASK) hb h0 hle hn hs hp (cA_301 hc).1 (cA_301 hc).2 rfl (by decide) (fun i q => ⟨(hc.1 _ (cS_301 ⟨i, q⟩).1).1, (cS_301 ⟨i, q⟩).2⟩)
theorem f_302 (hc : CON h) (hb : zwb t n k = true) (h0 : 0 ≤ k) (hle : k ≤ n) (hn : n ≤ 1600) (hs : STR h p (zsub t k (zwe t n k - k).toNat)) (hp : 0 < p) : wpC (d + 3) 93 [.inr (.inr p), .inr (.inr (-302))] h Q ↔ Q (.inl (some (.inl (zfw t n k zLOK 0)))) h :=
  c_93 (ps := [-14]) (WL := zLOK) hb h0 hle hn hs hp (cA_302 hc).1 (cA_302 hc).2 rfl (by decide) (fun i q => ⟨(hc.1 _ (cS_302 ⟨i, q⟩).1).1, (cS_302 ⟨i, q⟩).2⟩)
theorem f_303 (hc : CON h) (hb : zwb t n k = true) (h0 : 0 ≤ k) (hle : k ≤ n) (hn : n ≤ 1600) (hs : STR h p (zsub t k (zwe t n k - k).toNat)) (hp : 0 < p) : wpC (d + 3) 93 [.inr (.inr p), .inr (.inr (-303))] h Q ↔ Q (.inl (some (.inl (zfw t n k zTOL 0)))) h :=
  c_93 (ps := [-32, -34, -36, -38, -40, -42]) (WL := zTOL) hb h0 hle hn hs hp (cA_303 hc).1 (cA_303 hc).2 rfl (by decide) (fun i q => ⟨(hc.1 _ (cS_303 ⟨i, q⟩).1).1, (cS_303 ⟨i, q⟩).2⟩)
theorem zfw_no : ∀ (L : List (List Int)) (i : Int), 0 ≤ i → (zfw t n k L i = -1 ↔ L.any (zhw t n k) = false) := by
  intro L
  induction L with
  | nil => intro i _; simp [zfw]
  | cons W L ih =>
    intro i i0
    simp only [zfw, List.any_cons]
    cases g : zhw t n k W with
    | true => rw [if_pos rfl]; simp; omega
    | false => rw [if_neg (by decide), ih (i + 1) (by omega)]; simp
theorem Wnm_x : ∀ r i, Wnm r i → (¬ fix r i ∧ 0 < r) ∧ r ≠ 10 ∧ ¬ (r = 11 ∧ i = 1) := fun r i w => Wrd_x r i (Wnm_d r i w)
theorem CO_tr (h1' : CO h h1 a b) (h2' : CO h1 h2 x y) : CO h h2 (a + x) (b + y) := by unfold CO at *; omega
theorem CO_le (hc : CO h h' a b) (h1 : a ≤ x) (h2 : b ≤ y) : CO h h' x y := by unfold CO at *; omega
theorem CO_off (hO : Off W' h h') (h1 : 0 ≤ a) (h2 : 0 ≤ b) : CO h h' a b := by unfold CO; rw [Off_n hO, Off_s hO]; omega
theorem zhw_len (hle : k ≤ n) (e : zhw t n k W = true) : zwe t n k = k + W.length := by
  unfold zhw at e
  simp only [Bool.and_eq_true, decide_eq_true_eq] at e
  omega
/-- a certain word -/
theorem c_172 (hR : RX t n k h) (hc : (q, W) ∈ conS) (hQ0 : ∀ h' k', zask1 t n k W = .inl (1, zsk t n k) → RX t n k' h' → Ext Wnm h h' → BXx 1 (zsk t n k) h' → CO h h' 3 3204 → Q (.inr 12) h') (hQ1 : ∀ h', zask1 t n k W = .inr (zsk t n k + W.length) → RX t n (zsk t n k + W.length) h' → Ext Wnm h h' → CO h h' 3 (4 + 2 * W.length) → Q (.inl none) h') : wpC (d + 8) 172 [.inr (.inr 11), .inr (.inr q)] h Q := by
  have t11 := r_11 hR.1
  have hk := hR.2.2.2.2.2
  have hsk := zsk_le (t := t) hk.2
  have n16 := hR.2.2.2.2.1.1.2
  have qn : q < 0 := conS_n _ hc
  unfold zask1 at hQ0 hQ1
  rw [wpC_B]; refine ⟨⟨Nat.zero_lt_succ _, Nat.le_of_ble_eq_true rfl⟩, ?_⟩; simp only [lent]
  simp (disch := omega) only [q_172_0, b_172_0, ↓w_iconst, ↓w_aload_n_0, ↓w_aload_n_1, ↓w_getfield, ↓w_ifCond_ne, ↓w_athrow, ↓w_invokevirtual_0, ↓w_invokevirtual_1, ↓w_invokevirtual_2, stw_0, stw_i, stw_l, stw_r, ofK0, ofK1, ofK2, lst1, lst2, lkill, kont_none, kont_some, Int.reduceToNat, List.length_cons, List.length_nil, Nat.reduceAdd, Nat.reduceLeDiff, Nat.zero_le, true_and, and_true, if_true, if_false, ne_eq, Int.reduceEq, Int.reduceNeg, not_false_eq_true, not_true_eq_false, ↓reduceIte, Int.reduceLT, Int.reduceLE, and_self, or_true, true_or, or_false, false_or, false_and, and_false, ah_t_w, ah_m_w, ah_n_w, lst1_0, List.tail_cons, w32_i, zbd, lst2_0, t11]
  refine c_173 (d := d) hR (fun h1 e hR1 hO1 hb => ?_) (fun h1 p e hR1 hE1 e3 hw n1 s1 => ?_)
  · rw [kont_0]
    rw [if_neg (by rw [zhw_nb e]; decide)] at hQ0
    exact hQ0 h1 _ rfl hR1 (Ext_off hO1) hb (CO_off hO1 (by omega) (by omega))
  · have hcs := (hR1.1.2.2.1 _ hc).1
    have p0 : 0 < p := by have := hR.1.2.1.1; have := hw.2.1.1; omega
    have tS := hw.1.1
    have t1 := r_11 hR1.1
    have hwl := zwe_le (t := t) (n := n) (k := zsk t n k) (by omega)
    cases g : zhw t n (zsk t n k) W with
    | true =>
      rw [if_pos g] at hQ1
      have hle := zhw_len (t := t) (n := n) (by omega) g
      simp (disch := omega) only [b_172_0, q_172_21, b_172_21, ↓w_iconst, ↓w_aload_n_0, ↓w_aload_n_1, ↓w_getfield, ↓w_ifCond_ne, ↓w_return, ↓w_athrow, ↓w_invokevirtual_0, ↓w_invokevirtual_1, ↓w_invokevirtual_2, stw_0, stw_i, stw_l, stw_r, ofK0, ofK1, ofK2, lst1, lst2, lkill, kont_none, kont_some, Int.reduceToNat, List.length_cons, List.length_nil, Nat.reduceAdd, Nat.reduceLeDiff, Nat.zero_le, true_and, and_true, if_true, if_false, ne_eq, Int.reduceEq, Int.reduceNeg, not_false_eq_true, not_true_eq_false, ↓reduceIte, Int.reduceLT, Int.reduceLE, and_self, or_true, true_or, or_false, false_or, false_and, and_false, ah_t_w, ah_m_w, ah_n_w, lst1_0, List.tail_cons, w32_i, zbd, lst2_0, tS, eqW (d := d + 5) e (by omega) (by omega) n16 hw.1 hcs p0, g, zb_t]
      refine hQ1 h1 rfl (by rw [← hle]; exact hR1) hE1 ?_
      unfold CO; omega
    | false =>
      rw [if_neg (by rw [g]; decide)] at hQ0
      simp (disch := omega) only [b_172_0, ↓w_iconst, ↓w_aload_n_0, ↓w_aload_n_1, ↓w_getfield, ↓w_ifCond_ne, ↓w_athrow, ↓w_invokevirtual_0, ↓w_invokevirtual_1, ↓w_invokevirtual_2, stw_0, stw_i, stw_l, stw_r, ofK0, ofK1, ofK2, lst1, lst2, lkill, kont_none, kont_some, Int.reduceToNat, List.length_cons, List.length_nil, Nat.reduceAdd, Nat.reduceLeDiff, Nat.zero_le, true_and, and_true, if_true, if_false, ne_eq, Int.reduceEq, Int.reduceNeg, not_false_eq_true, not_true_eq_false, ↓reduceIte, Int.reduceLT, Int.reduceLE, and_self, or_true, true_or, or_false, false_or, false_and, and_false, ah_t_w, ah_m_w, ah_n_w, lst1_0, List.tail_cons, w32_i, zbd, lst2_0, tS, eqW (d := d + 5) e (by omega) (by omega) n16 hw.1 hcs p0, g, zb_f, t1, e3]
      refine thrw (d := d + 6) hR1 (fun h2 hR2 hO2 hb => hQ0 h2 _ rfl hR2 (Ext_tr hE1 (Ext_off (Off_mono (fun r i w => Or.inr w) hO2))) hb ?_)
      unfold CO; rw [Off_n hO2, Off_s hO2]; omega
/-- whether a certain word is here -/
theorem c_185 (hR : RX t n k h) (hc : (q, W) ∈ conS) (hQ0 : ∀ h', zlp t n (zsk t n k) = true → RX t n (zsk t n k) h' → Off Wnm h h' → BXx 1 (zsk t n k) h' → Q (.inr 12) h')
    (hQ1 : ∀ h', zhw t n (zsk t n k) W = true → RX t n (zsk t n k + W.length) h' → Ext Wnm h h' → ah_m h' 11 3 = zsk t n k → CO h h' 3 (4 + 2 * W.length) → Q (.inl (some (.inl 1))) h')
    (hQ2 : ∀ h' k', zlp t n (zsk t n k) = false → zhw t n (zsk t n k) W = false → RX t n k' h' → k ≤ k' → zsk t n k' = zsk t n k → Ext Wnm h h' → CO h h' 3 3204 → Q (.inl (some (.inl 0))) h') : wpC (d + 8) 185 [.inr (.inr 11), .inr (.inr q)] h Q := by
  have t11 := r_11 hR.1
  have e20 := hR.2.2.1
  have hk := hR.2.2.2.2.2
  have hsk := zsk_le (t := t) hk.2
  have n16 := hR.2.2.2.2.1.1.2
  have qn : q < 0 := conS_n _ hc
  have zz := zsk_zsk (t := t) hk.1 hk.2
  rw [wpC_B]; refine ⟨⟨Nat.zero_lt_succ _, Nat.le_of_ble_eq_true rfl⟩, ?_⟩; simp only [lent]
  simp (disch := omega) only [q_185_0, b_185_0, ↓w_iconst, ↓w_aload_n_0, ↓w_istore_n_2, ↓w_getfield, ↓w_ifCond_ne, ↓w_ireturn1, ↓w_invokevirtual_0, ↓w_invokestatic_1, stw_0, stw_i, stw_l, stw_r, ofK0, ofK1, ofK2, lst1, lst2, lkill, kont_none, kont_some, Int.reduceToNat, List.length_cons, List.length_nil, Nat.reduceAdd, Nat.reduceLeDiff, Nat.zero_le, true_and, and_true, if_true, if_false, ne_eq, Int.reduceEq, Int.reduceNeg, not_false_eq_true, not_true_eq_false, ↓reduceIte, Int.reduceLT, Int.reduceLE, and_self, or_true, true_or, or_false, false_or, false_and, and_false, ah_t_w, ah_m_w, ah_n_w, lst1_0, List.tail_cons, w32_i, zbd, lst2_0, t11, e20]
  refine c_174 (d := d + 5) hR (fun h1 hR1 hO1 => ?_)
  have t1 := r_11 hR1.1
  have hO1' : Off Wnm h h1 := Off_mono (fun r i w => Or.inl ⟨w.1, Or.inl w.2⟩) hO1
  cases gL : zL (zB t n (zsk t n k)) with
  | false =>
    have ewb : zwb t n (zsk t n k) = false := by unfold zwb; rw [gL]; rfl
    simp (disch := omega) only [b_185_0, ↓w_iconst, ↓w_aload_n_0, ↓w_istore_n_2, ↓w_getfield, ↓w_ifCond_ne, ↓w_ireturn1, ↓w_invokevirtual_0, ↓w_invokestatic_1, stw_0, stw_i, stw_l, stw_r, ofK0, ofK1, ofK2, lst1, lst2, lkill, kont_none, kont_some, Int.reduceToNat, List.length_cons, List.length_nil, Nat.reduceAdd, Nat.reduceLeDiff, Nat.zero_le, true_and, and_true, if_true, if_false, ne_eq, Int.reduceEq, Int.reduceNeg, not_false_eq_true, not_true_eq_false, ↓reduceIte, Int.reduceLT, Int.reduceLE, and_self, or_true, true_or, or_false, false_or, false_and, and_false, ah_t_w, ah_m_w, ah_n_w, lst1_0, List.tail_cons, w32_i, zbd, lst2_0, c_90, gL, zb_f]
    exact hQ2 h1 _ (by unfold zlp; rw [gL]; rfl) (zhw_nb ewb) hR1 (by omega) zz (Ext_off hO1') (CO_off hO1' (by omega) (by omega))
  | true =>
    simp (disch := omega) only [b_185_0, q_185_17, b_185_17, ↓w_iconst, ↓w_aload_n_0, ↓w_aload_n_1, ↓w_istore_n_2, ↓w_getfield, ↓w_ifCond_eq, ↓w_ifCond_ne, ↓w_ireturn1, ↓w_invokevirtual_0, ↓w_invokestatic_1, ↓w_invokevirtual_1, stw_0, stw_i, stw_l, stw_r, ofK0, ofK1, ofK2, lst1, lst2, lkill, kont_none, kont_some, Int.reduceToNat, List.length_cons, List.length_nil, Nat.reduceAdd, Nat.reduceLeDiff, Nat.zero_le, true_and, and_true, if_true, if_false, ne_eq, Int.reduceEq, Int.reduceNeg, not_false_eq_true, not_true_eq_false, ↓reduceIte, Int.reduceLT, Int.reduceLE, and_self, or_true, true_or, or_false, false_or, false_and, and_false, ah_t_w, ah_m_w, ah_n_w, lst1_0, List.tail_cons, w32_i, zbd, lst2_0, c_90, gL, zb_t, t1]
    refine c_173 (d := d) hR1 (fun h2 e hR2 hO2 hb => ?_) (fun h2 p e hR2 hE2 e3 hw n2 s2 => ?_)
    · rw [kont_0]
      rw [zz] at e hR2 hb
      refine hQ0 h2 ?_ hR2 (Off_tr hO1' hO2) hb
      unfold zlp
      unfold zwb at e
      rw [gL] at e ⊢
      simpa using e
    · rw [zz] at e hR2 e3 hw s2
      have epd : zlp t n (zsk t n k) = false := by
        unfold zlp
        unfold zwb at e
        rw [gL] at e ⊢
        simpa using e
      have hcs := (hR2.1.2.2.1 _ hc).1
      have p0 : 0 < p := by have := hR1.1.2.1.1; have := hw.2.1.1; omega
      have tS := hw.1.1
      have t2 := r_11 hR2.1
      have hwl := zwe_le (t := t) (n := n) (k := zsk t n k) (by omega)
      have n1 := Off_n hO1
      have s1 := Off_s hO1
      have hE2' : Ext Wnm h h2 := Ext_tr (Ext_off hO1') hE2
      cases g : zhw t n (zsk t n k) W with
      | true =>
        have hle := zhw_len (t := t) (n := n) (by omega) g
        simp (disch := omega) only [b_185_17, ↓w_iconst, ↓w_aload_n_0, ↓w_aload_n_1, ↓w_ifCond_eq, ↓w_ireturn1, ↓w_invokevirtual_0, ↓w_invokevirtual_1, stw_0, stw_i, stw_l, stw_r, ofK0, ofK1, ofK2, lst1, lst2, lkill, kont_none, kont_some, Int.reduceToNat, List.length_cons, List.length_nil, Nat.reduceAdd, Nat.reduceLeDiff, Nat.zero_le, true_and, and_true, if_true, if_false, ne_eq, Int.reduceEq, Int.reduceNeg, not_false_eq_true, not_true_eq_false, ↓reduceIte, Int.reduceLT, Int.reduceLE, and_self, or_true, true_or, or_false, false_or, false_and, and_false, ah_t_w, ah_m_w, ah_n_w, lst1_0, List.tail_cons, w32_i, zbd, lst2_0, tS, eqW (d := d + 5) e (by omega) (by omega) n16 hw.1 hcs p0, g, zb_t]
        refine hQ1 h2 g (by rw [← hle]; exact hR2) hE2' e3 ?_
        unfold CO; omega
      | false =>
        have h3 := RX_at hR2 (v := k) (by omega)
        simp (disch := omega) only [b_185_17, q_185_30, b_185_30, ↓w_iconst, ↓w_aload_n_0, ↓w_aload_n_1, ↓w_iload_n_2, ↓w_putfield_0, ↓w_ifCond_eq, ↓w_ireturn1, ↓w_invokevirtual_0, ↓w_invokevirtual_1, stw_0, stw_i, stw_l, stw_r, ofK0, ofK1, ofK2, lst1, lst2, lkill, kont_none, kont_some, Int.reduceToNat, List.length_cons, List.length_nil, Nat.reduceAdd, Nat.reduceLeDiff, Nat.zero_le, true_and, and_true, if_true, if_false, ne_eq, Int.reduceEq, Int.reduceNeg, not_false_eq_true, not_true_eq_false, ↓reduceIte, Int.reduceLT, Int.reduceLE, and_self, or_true, true_or, or_false, false_or, false_and, and_false, ah_t_w, ah_m_w, ah_n_w, lst1_0, List.tail_cons, w32_i, zbd, lst2_0, tS, eqW (d := d + 5) e (by omega) (by omega) n16 hw.1 hcs p0, g, zb_f, t2]
        refine hQ2 _ k epd g h3.1 (by omega) rfl (Ext_tr hE2' (Ext_off (Off_mono (fun r i w => Or.inl ⟨w.1, Or.inl w.2⟩) h3.2))) ?_
        unfold CO; rw [ah_n_w, ah_s_w]; omega
/-- a certain word and a number -/
theorem c_179 (hR : RX t n k h) (hc : (q, W) ∈ conS) (hQ0 : ∀ h' k' a b, zth (zask1 t n k W) (fun k1 => znum t n k1 lo hi) = .inl (a, b) → RX t n k' h' → Ext Wnm h h' → BXx a b h' → CO h h' 3 3204 → Q (.inr 12) h')
    (hQ1 : ∀ h' k1 v, zth (zask1 t n k W) (fun k1 => znum t n k1 lo hi) = .inr (k1, v) → RX t n k1 h' → Ext Wnm h h' → ah_m h' 11 3 = zsk t n (zsk t n k + W.length) → CO h h' 3 (4 + 2 * W.length) → Q (.inl (some (.inl v))) h') : wpC (d + 9) 179 [.inr (.inr 11), .inr (.inr q), .inl lo, .inl hi] h Q := by
  have t11 := r_11 hR.1
  have hW20 : W.length ≤ 20 := by
    have : ∀ x ∈ conS, x.2.length ≤ 20 := by decide
    exact this _ hc
  rw [wpC_B]; refine ⟨⟨Nat.zero_lt_succ _, Nat.le_of_ble_eq_true rfl⟩, ?_⟩; simp only [lent]
  simp (disch := omega) only [q_179_0, b_179_0, ↓w_aload_n_0, ↓w_aload_n_1, ↓w_iload_n_2, ↓w_iload_n_3, ↓w_ireturn0, ↓w_invokevirtual_1, ↓w_invokevirtual_2, stw_0, stw_i, stw_l, stw_r, ofK0, ofK1, ofK2, lst1, lst2, lkill, kont_none, kont_some, Int.reduceToNat, List.length_cons, List.length_nil, Nat.reduceAdd, Nat.reduceLeDiff, Nat.zero_le, true_and, and_true, if_true, if_false, ne_eq, Int.reduceEq, Int.reduceNeg, not_false_eq_true, not_true_eq_false, ↓reduceIte, Int.reduceLT, Int.reduceLE, and_self, or_true, true_or, or_false, false_or, false_and, and_false, ah_t_w, ah_m_w, ah_n_w, lst1_0, List.tail_cons, w32_i, zbd, lst2_0, t11]
  refine c_172 (d := d) hR hc (fun h1 k' e hR1 hE1 hb hco => ?_) (fun h1 e hR1 hE1 hco => ?_)
  · rw [kont_0]
    rw [e] at hQ0
    exact hQ0 h1 _ _ _ rfl hR1 hE1 hb hco
  · rw [e] at hQ0 hQ1
    simp only [zth] at hQ0 hQ1
    have t1 := r_11 hR1.1
    simp (disch := omega) only [b_179_0, ↓w_aload_n_0, ↓w_aload_n_1, ↓w_iload_n_2, ↓w_iload_n_3, ↓w_ireturn0, ↓w_invokevirtual_1, ↓w_invokevirtual_2, stw_0, stw_i, stw_l, stw_r, ofK0, ofK1, ofK2, lst1, lst2, lkill, kont_none, kont_some, Int.reduceToNat, List.length_cons, List.length_nil, Nat.reduceAdd, Nat.reduceLeDiff, Nat.zero_le, true_and, and_true, if_true, if_false, ne_eq, Int.reduceEq, Int.reduceNeg, not_false_eq_true, not_true_eq_false, ↓reduceIte, Int.reduceLT, Int.reduceLE, and_self, or_true, true_or, or_false, false_or, false_and, and_false, ah_t_w, ah_m_w, ah_n_w, lst1_0, List.tail_cons, w32_i, zbd, lst2_0, t1]
    refine c_178 (d := d + 5) hR1 (fun h2 q a b e2 hR2 hO2 hb => ?_) (fun h2 q v e2 hR2 hO2 e3 => ?_)
    · rw [kont_0]
      exact hQ0 h2 _ _ _ e2 hR2 (Ext_tr hE1 (Ext_off hO2)) hb (by have := Off_n hO2; have := Off_s hO2; unfold CO at *; omega)
    · simp (disch := omega) only [b_179_0, ↓w_aload_n_0, ↓w_aload_n_1, ↓w_iload_n_2, ↓w_iload_n_3, ↓w_ireturn0, ↓w_invokevirtual_1, ↓w_invokevirtual_2, stw_0, stw_i, stw_l, stw_r, ofK0, ofK1, ofK2, lst1, lst2, lkill, kont_none, kont_some, Int.reduceToNat, List.length_cons, List.length_nil, Nat.reduceAdd, Nat.reduceLeDiff, Nat.zero_le, true_and, and_true, if_true, if_false, ne_eq, Int.reduceEq, Int.reduceNeg, not_false_eq_true, not_true_eq_false, ↓reduceIte, Int.reduceLT, Int.reduceLE, and_self, or_true, true_or, or_false, false_or, false_and, and_false, ah_t_w, ah_m_w, ah_n_w, lst1_0, List.tail_cons, w32_i, zbd, lst2_0]
      exact hQ1 h2 _ _ e2 hR2 (Ext_tr hE1 (Ext_off hO2)) e3 (by have := Off_n hO2; have := Off_s hO2; unfold CO at *; omega)
/-! length -/
theorem c_60 (hs : STR h p w) (hl : w.length ≤ 2000) : wpC (d + 2) 60 [.inr (.inr p)] h Q ↔ Q (.inl (some (.inl w.length))) h := by
  have t1 := hs.1
  have c1 := hs.2.1
  have t2 : (ah_t h (ah_m h p 0)).1 < 0 := by rw [hs.2.2.1]; exact (by decide : (-2 : Int) < 0)
  have t3 : (ah_t h (ah_m h p 0)).2 = w.length := by rw [hs.2.2.1]
  have e0 : ishr_ (w.length : Int) 0 = w.length := by
    have := ishr_nat w.length (by omega) 0 (by decide)
    rw [show ((0 : Nat) : Int) = 0 from rfl] at this
    rw [this, Nat.pow_zero, Nat.div_one]
  have c61 : ∀ {d : Nat} {Q : QQ}, wpC (d + 1) 61 [.inr (.inr p)] h Q ↔ Q (.inl (some (.inl 0))) h := by
    intro d Q
    apply CT_iff; apply CT_of; rw [wpC_B]; refine ⟨⟨Nat.zero_lt_succ _, Nat.le_of_ble_eq_true rfl⟩, ?_⟩; simp only [lent]
    simp (disch := omega) only [q_61_0, b_61_0, q_61_13, b_61_13, q_61_14, b_61_14, ↓w_iconst, ↓w_getstatic, ↓w_aload_n_0, ↓w_getfield, ↓w_nop, ↓w_goto, ↓w_ifCond_eq, ↓w_ireturn3, stw_0, stw_i, stw_l, stw_r, ofK0, ofK1, ofK2, lst1, lst2, lkill, kont_none, kont_some, Int.reduceToNat, List.length_cons, List.length_nil, Nat.reduceAdd, Nat.reduceLeDiff, Nat.zero_le, true_and, and_true, if_true, if_false, ne_eq, Int.reduceEq, Int.reduceNeg, not_false_eq_true, not_true_eq_false, ↓reduceIte, Int.reduceLT, Int.reduceLE, and_self, or_true, true_or, or_false, false_or, false_and, and_false, ah_t_w, ah_m_w, ah_n_w, lst1_0, List.tail_cons, w32_i, zbd, lst2_0, t1, c1]
  apply CT_iff; apply CT_of; rw [wpC_B]; refine ⟨⟨Nat.zero_lt_succ _, Nat.le_of_ble_eq_true rfl⟩, ?_⟩; simp only [lent]
  simp (disch := omega) only [q_60_0, b_60_0, ↓w_aload_n_0, ↓w_ishr, ↓w_getfield, ↓w_arraylength, ↓w_ireturn0, ↓w_invokevirtual_0, stw_0, stw_i, stw_l, stw_r, ofK0, ofK1, ofK2, lst1, lst2, lkill, kont_none, kont_some, Int.reduceToNat, List.length_cons, List.length_nil, Nat.reduceAdd, Nat.reduceLeDiff, Nat.zero_le, true_and, and_true, if_true, if_false, ne_eq, Int.reduceEq, Int.reduceNeg, not_false_eq_true, not_true_eq_false, ↓reduceIte, Int.reduceLT, Int.reduceLE, and_self, or_true, true_or, or_false, false_or, false_and, and_false, ah_t_w, ah_m_w, ah_n_w, lst1_0, List.tail_cons, w32_i, zbd, lst2_0, t1, t2, t3, c61, e0]
/-- a name -/
theorem c_184 (hR : RX t n k h) (hQ0 : ∀ h' k' a b, zname t n k = .inl (a, b) → RX t n k' h' → Ext Wnm h h' → BXx a b h' → CO h h' 3 3204 → Q (.inr 12) h')
    (hQ1 : ∀ h' p k1 v, zname t n k = .inr (k1, v) → RX t n k1 h' → Ext Wnm h h' → ah_m h' 11 3 = zsk t n k → WRD p (zsub t (zsk t n k) (k1 - zsk t n k).toNat) h h' → (zwb t n (zsk t n k) = true ∧ k1 = zwe t n (zsk t n k) ∧ k1 - zsk t n k ≤ 6 ∧ v = znv t (k1 - zsk t n k).toNat (zsk t n k) 0) → CO h h' 3 16 → Q (.inl (some (.inr (.inr p)))) h') : wpC (d + 8) 184 [.inr (.inr 11)] h Q := by
  have t11 := r_11 hR.1
  have hk := hR.2.2.2.2.2
  have hsk := zsk_le (t := t) hk.2
  have n16 := hR.2.2.2.2.1.1.2
  unfold zname at hQ0 hQ1
  rw [wpC_B]; refine ⟨⟨Nat.zero_lt_succ _, Nat.le_of_ble_eq_true rfl⟩, ?_⟩; simp only [lent]
  simp (disch := omega) only [q_184_0, b_184_0, ↓w_iconst, ↓w_getstatic, ↓w_aload_n_0, ↓w_aload_n_1, ↓w_astore_n_1, ↓w_getfield, ↓w_if_icmp_eq, ↓w_athrow, ↓w_invokevirtual_0, ↓w_invokestatic_2, ↓w_invokevirtual_2, stw_0, stw_i, stw_l, stw_r, ofK0, ofK1, ofK2, lst1, lst2, lkill, kont_none, kont_some, Int.reduceToNat, List.length_cons, List.length_nil, Nat.reduceAdd, Nat.reduceLeDiff, Nat.zero_le, true_and, and_true, if_true, if_false, ne_eq, Int.reduceEq, Int.reduceNeg, not_false_eq_true, not_true_eq_false, ↓reduceIte, Int.reduceLT, Int.reduceLE, and_self, or_true, true_or, or_false, false_or, false_and, and_false, ah_t_w, ah_m_w, ah_n_w, lst1_0, List.tail_cons, w32_i, zbd, lst2_0, t11]
  refine c_173 (d := d) hR (fun h1 e hR1 hO1 hb => ?_) (fun h1 p e hR1 hE1 e3 hw n1 s1 => ?_)
  · rw [kont_0]
    rw [if_neg (by rw [e]; simp)] at hQ0
    exact hQ0 h1 _ _ _ rfl hR1 (Ext_off hO1) hb (CO_off hO1 (by omega) (by omega))
  · have p0 : 0 < p := by have := hR.1.2.1.1; have := hw.2.1.1; omega
    have tS := hw.1.1
    have t1 := r_11 hR1.1
    have hwl := zwe_le (t := t) (n := n) (k := zsk t n k) (by omega)
    have zl := zsub_len (t := t) (zwe t n (zsk t n k) - zsk t n k).toNat (zsk t n k)
    have ff : ∀ {Q : QQ}, wpC (d + 7) 93 [.inr (.inr p), .inr (.inr (-300))] h1 Q ↔ _ := fun {Q} => f_300 (d := d + 4) hR1.1.2.2 e (by omega) (by omega) n16 hw.1 p0
    have ln : ∀ {Q : QQ}, wpC (d + 7) 60 [.inr (.inr p)] h1 Q ↔ _ := fun {Q} => c_60 (d := d + 5) hw.1 (by rw [zl]; omega)
    have hno := zfw_no (t := t) (n := n) (k := zsk t n k) zOWN 0 (by omega)
    by_cases g : zfw t n (zsk t n k) zOWN 0 = -1
    · have eo : zown t n (zsk t n k) = false := hno.1 g
      rw [if_pos ⟨e, eo⟩] at hQ0 hQ1
      by_cases g6 : 6 < zwe t n (zsk t n k) - zsk t n k
      · rw [if_pos g6] at hQ0
        have g6' : 6 < ((zsub t (zsk t n k) (zwe t n (zsk t n k) - zsk t n k).toNat).length : Int) := by rw [zl]; omega
        simp (disch := omega) only [b_184_0, q_184_26, b_184_26, ↓w_iconst, ↓w_bipush, ↓w_getstatic, ↓w_aload_n_0, ↓w_aload_n_1, ↓w_astore_n_1, ↓w_iadd, ↓w_getfield, ↓w_if_icmp_eq, ↓w_if_icmp_le, ↓w_athrow, ↓w_invokevirtual_0, ↓w_invokestatic_2, ↓w_invokevirtual_2, stw_0, stw_i, stw_l, stw_r, ofK0, ofK1, ofK2, lst1, lst2, lkill, kont_none, kont_some, Int.reduceToNat, List.length_cons, List.length_nil, Nat.reduceAdd, Nat.reduceLeDiff, Nat.zero_le, true_and, and_true, if_true, if_false, ne_eq, Int.reduceEq, Int.reduceNeg, not_false_eq_true, not_true_eq_false, ↓reduceIte, Int.reduceLT, Int.reduceLE, and_self, or_true, true_or, or_false, false_or, false_and, and_false, ah_t_w, ah_m_w, ah_n_w, lst1_0, List.tail_cons, w32_i, zbd, lst2_0, ff, g, tS, ln, g6', t1, e3]
        refine thrw (d := d + 6) hR1 (fun h2 hR2 hO2 hb => hQ0 h2 _ _ _ rfl hR2 (Ext_tr hE1 (Ext_off (Off_mono (fun r i w => Or.inr w) hO2))) hb ?_)
        unfold CO; rw [Off_n hO2, Off_s hO2]; omega
      · rw [if_neg g6] at hQ1
        have g6' : ¬ 6 < ((zsub t (zsk t n k) (zwe t n (zsk t n k) - zsk t n k).toNat).length : Int) := by rw [zl]; omega
        simp (disch := omega) only [b_184_0, q_184_26, b_184_26, q_184_48, b_184_48, ↓w_iconst, ↓w_bipush, ↓w_getstatic, ↓w_aload_n_0, ↓w_aload_n_1, ↓w_astore_n_1, ↓w_iadd, ↓w_getfield, ↓w_if_icmp_eq, ↓w_if_icmp_le, ↓w_areturn, ↓w_athrow, ↓w_invokevirtual_0, ↓w_invokestatic_2, ↓w_invokevirtual_2, stw_0, stw_i, stw_l, stw_r, ofK0, ofK1, ofK2, lst1, lst2, lkill, kont_none, kont_some, Int.reduceToNat, List.length_cons, List.length_nil, Nat.reduceAdd, Nat.reduceLeDiff, Nat.zero_le, true_and, and_true, if_true, if_false, ne_eq, Int.reduceEq, Int.reduceNeg, not_false_eq_true, not_true_eq_false, ↓reduceIte, Int.reduceLT, Int.reduceLE, and_self, or_true, true_or, or_false, false_or, false_and, and_false, ah_t_w, ah_m_w, ah_n_w, lst1_0, List.tail_cons, w32_i, zbd, lst2_0, ff, g, tS, ln, g6']
        refine hQ1 h1 p _ _ rfl hR1 hE1 e3 hw ⟨e, rfl, by omega, rfl⟩ ?_
        unfold CO; omega
    · have eo : ¬ (zwb t n (zsk t n k) = true ∧ zown t n (zsk t n k) = false) := fun q => g (hno.2 q.2)
      rw [if_neg eo] at hQ0
      simp (disch := omega) only [b_184_0, ↓w_iconst, ↓w_getstatic, ↓w_aload_n_0, ↓w_aload_n_1, ↓w_astore_n_1, ↓w_getfield, ↓w_if_icmp_eq, ↓w_athrow, ↓w_invokevirtual_0, ↓w_invokestatic_2, ↓w_invokevirtual_2, stw_0, stw_i, stw_l, stw_r, ofK0, ofK1, ofK2, lst1, lst2, lkill, kont_none, kont_some, Int.reduceToNat, List.length_cons, List.length_nil, Nat.reduceAdd, Nat.reduceLeDiff, Nat.zero_le, true_and, and_true, if_true, if_false, ne_eq, Int.reduceEq, Int.reduceNeg, not_false_eq_true, not_true_eq_false, ↓reduceIte, Int.reduceLT, Int.reduceLE, and_self, or_true, true_or, or_false, false_or, false_and, and_false, ah_t_w, ah_m_w, ah_n_w, lst1_0, List.tail_cons, w32_i, zbd, lst2_0, ff, g, t1, e3]
      refine thrw (d := d + 6) hR1 (fun h2 hR2 hO2 hb => hQ0 h2 _ _ _ rfl hR2 (Ext_tr hE1 (Ext_off (Off_mono (fun r i w => Or.inr w) hO2))) hb ?_)
      unfold CO; rw [Off_n hO2, Off_s hO2]; omega
end B6
