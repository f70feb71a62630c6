/-! ===== X's reader: an atom ===== -/
section E1
variable {W' : Int → Int → Prop} {d : Nat} {h h' h1 h2 h0 : AH} {Q : QQ} {x y z k s a b c v n p q r o i N lo hi A B E F cap el sp dp capL elL capS elS l' m : Int} {S T T' : Int → Int → Int} {t nw nw' pt of tp : Int → Int} {tl : ALoc} {w W V l cs c1 c2 : List Int} {hm : Bool} {D f u : Nat} {its : List (Int × List Int)}
set_option maxHeartbeats 4000000
theorem CE_190 (hs : CEx hm t n f 0 188 12 0 0 30 300) (ha : CEx hm t n f 2 190 10 24 400 10 100) : CEx hm t n (f + 1) 2 190 10 24 400 10 100 := by
  intro u d k h Q u1 u7 hR e4 e5 hf hQ0 hQ1
  have t11 := r_11 hR.1
  have hx := hR.2.2.2.2.2
  have n16 := hR.2.2.2.2.1.1.2
  have hsk := zsk_le (t := t) hx.2
  have zz := zsk_zsk (t := t) hx.1 hx.2
  have n0 := hR.1.2.1.1
  simp [zrk] at hf
  obtain ⟨e, he⟩ : ∃ e : Nat, d + 10 + 5 * u = e + 10 := ⟨d + 5 * u, by omega⟩
  rw [he]
  rw [wpC_B]; refine ⟨⟨Nat.zero_lt_succ _, Nat.le_of_ble_eq_true rfl⟩, ?_⟩; simp only [lent]
  simp (disch := omega) only [q_190_0, b_190_0, ↓w_iconst, ↓w_bipush, ↓w_aload_n_0, ↓w_if_icmp_ne, ↓w_areturn, ↓w_invokevirtual_0, ↓w_invokevirtual_1, stw_0, stw_i, stw_l, stw_r, ofK0, ofK1, ofK2, lst1, lst2, lkill, kont_none, kont_some, Int.reduceToNat, List.length_cons, List.length_nil, Nat.reduceAdd, Nat.reduceLeDiff, Nat.zero_le, true_and, and_true, if_true, if_false, ne_eq, Int.reduceEq, Int.reduceNeg, not_false_eq_true, not_true_eq_false, ↓reduceIte, Int.reduceLT, Int.reduceLE, and_self, or_true, true_or, or_false, false_or, false_and, and_false, ah_t_w, ah_m_w, ah_n_w, lst1_0, List.tail_cons, w32_i, zbd, lst2_0, t11]
  refine c_174 (d := e + 7) hR (fun h1 hR1 hO1 => ?_)
  have t1 := r_11 hR1.1
  have hE1 : Ext Wrd h h1 := Ext_off (Off_mono Wr2_d hO1)
  have e41 := Wr2_e hO1
  have n1 := Off_n hO1
  have s1 := Off_s hO1
  by_cases g : zB t n (zsk t n k) = 40
  · simp (disch := omega) only [b_190_0, ↓w_iconst, ↓w_bipush, ↓w_aload_n_0, ↓w_if_icmp_ne, ↓w_areturn, ↓w_invokevirtual_0, ↓w_invokevirtual_1, stw_0, stw_i, stw_l, stw_r, ofK0, ofK1, ofK2, lst1, lst2, lkill, kont_none, kont_some, Int.reduceToNat, List.length_cons, List.length_nil, Nat.reduceAdd, Nat.reduceLeDiff, Nat.zero_le, true_and, and_true, if_true, if_false, ne_eq, Int.reduceEq, Int.reduceNeg, not_false_eq_true, not_true_eq_false, ↓reduceIte, Int.reduceLT, Int.reduceLE, and_self, or_true, true_or, or_false, false_or, false_and, and_false, ah_t_w, ah_m_w, ah_n_w, lst1_0, List.tail_cons, w32_i, zbd, lst2_0, t1, g]
    have ez := zex_br (hm := hm) (f := f) (o := 7 - (u : Int)) hx.1 hx.2 g
    rw [ez] at hQ0 hQ1
    refine wpC_deep (c_191 (d := d) hs u1 u7 hR1 (by rw [e41.1]; exact e4) (by rw [e41.2]; exact e5) (by omega) (Or.inl rfl) (fun h2 k' a b e2 hR2 hE2 hb co => ?_) (fun h2 p k1 c e2 hR2 hE2 e42 hv co => ?_)) (by omega)
    · rw [kont_0]
      refine hQ0 h2 k' a b e2 hR2 (Ext_tr hE1 hE2) hb ?_
      unfold CO at co ⊢; omega
    · simp (disch := omega) only [b_190_0, ↓w_iconst, ↓w_bipush, ↓w_aload_n_0, ↓w_if_icmp_ne, ↓w_areturn, ↓w_invokevirtual_0, ↓w_invokevirtual_1, stw_0, stw_i, stw_l, stw_r, ofK0, ofK1, ofK2, lst1, lst2, lkill, kont_none, kont_some, Int.reduceToNat, List.length_cons, List.length_nil, Nat.reduceAdd, Nat.reduceLeDiff, Nat.zero_le, true_and, and_true, if_true, if_false, ne_eq, Int.reduceEq, Int.reduceNeg, not_false_eq_true, not_true_eq_false, ↓reduceIte, Int.reduceLT, Int.reduceLE, and_self, or_true, true_or, or_false, false_or, false_and, and_false, ah_t_w, ah_m_w, ah_n_w, lst1_0, List.tail_cons, w32_i, zbd, lst2_0]
      refine hQ1 h2 p k1 c e2 hR2 (Ext_tr hE1 hE2) e42 ?_ ?_
      · rw [← n1]; exact hv
      · unfold CO at co ⊢; omega
  simp (disch := omega) only [b_190_0, q_190_15, b_190_15, ↓w_iconst, ↓w_bipush, ↓w_sipush, ↓w_aload_n_0, ↓w_dup_i, ↓w_dup_a, ↓w_i2l, ↓w_new, ↓w_ifCond_eq, ↓w_if_icmp_ne, ↓w_areturn, ↓w_invokevirtual_0, ↓w_invokestatic_1, ↓w_invokespecial_1, ↓w_invokevirtual_1, ↓w_invokevirtual_2, stw_0, stw_i, stw_l, stw_r, ofK0, ofK1, ofK2, lst1, lst2, lkill, kont_none, kont_some, Int.reduceToNat, List.length_cons, List.length_nil, Nat.reduceAdd, Nat.reduceLeDiff, Nat.zero_le, true_and, and_true, if_true, if_false, ne_eq, Int.reduceEq, Int.reduceNeg, not_false_eq_true, not_true_eq_false, ↓reduceIte, Int.reduceLT, Int.reduceLE, and_self, or_true, true_or, or_false, false_or, false_and, and_false, ah_t_w, ah_m_w, ah_n_w, lst1_0, List.tail_cons, w32_i, zbd, lst2_0, t1, g]
  refine c_174 (d := e + 7) hR1 (fun h2 hR2 hO2 => ?_)
  rw [zz] at hR2
  rw [zz]
  have t2 := r_11 hR2.1
  have hE2 : Ext Wrd h h2 := Ext_tr hE1 (Ext_off (Off_mono Wr2_d hO2))
  have e42 := Wr2_e hO2
  have n2 := Off_n hO2
  have s2 := Off_s hO2
  have e4' : ah_m h2 11 4 = 7 - (u : Int) := by rw [e42.1, e41.1]; exact e4
  have e5' : ah_m h2 11 5 = zctxt hm := by rw [e42.2, e41.2]; exact e5
  cases gd : zD (zB t n (zsk t n k)) with
  | true =>
    have nb : zwb t n (zsk t n k) = false := by
      unfold zwb
      have : zL (zB t n (zsk t n k)) = false := by
        have := of_decide_eq_true gd
        exact decide_eq_false (by omega)
      rw [this]; rfl
    have ez := zex_no (hm := hm) (f := f) (o := 7 - (u : Int)) g ⟨zhw_nb nb, zhw_nb nb⟩ (by rw [zqw_nb nb]; decide) (by rw [zqw_nb nb]; simp)
    rw [ez] at hQ0 hQ1
    have hR3 : RX t n (zsk t n k) (ah_new h2 (17, 0) ((1 : Nat) : Int)) := RX_new hR2 (by omega)
    have hE3 : Ext Wrd h2 (ah_new h2 (17, 0) ((1 : Nat) : Int)) := Ext_new Ext_rfl (by omega)
    have m3 : ∀ i, ah_m (ah_new h2 (17, 0) ((1 : Nat) : Int)) 11 i = ah_m h2 11 i := fun i => by rw [ah_m_new, if_neg (by omega)]
    have tp3 : ah_t (ah_new h2 (17, 0) ((1 : Nat) : Int)) (ah_n h2) = (17, 0) := by rw [ah_t_new, if_pos rfl]
    have n3 : ah_n (ah_new h2 (17, 0) ((1 : Nat) : Int)) = ah_n h2 + 1 := ah_n_new
    have s3 : ah_s (ah_new h2 (17, 0) ((1 : Nat) : Int)) = ah_s h2 + 1 := by rw [ah_s_new]; rfl
    have t3 := r_11 hR3.1
    simp (disch := omega) only [b_190_15, ↓w_iconst, ↓w_sipush, ↓w_aload_n_0, ↓w_dup_i, ↓w_dup_a, ↓w_i2l, ↓w_new, ↓w_ifCond_eq, ↓w_areturn, ↓w_invokevirtual_0, ↓w_invokestatic_1, ↓w_invokespecial_1, ↓w_invokevirtual_2, stw_0, stw_i, stw_l, stw_r, ofK0, ofK1, ofK2, lst1, lst2, lkill, kont_none, kont_some, Int.reduceToNat, List.length_cons, List.length_nil, Nat.reduceAdd, Nat.reduceLeDiff, Nat.zero_le, true_and, and_true, if_true, if_false, ne_eq, Int.reduceEq, Int.reduceNeg, not_false_eq_true, not_true_eq_false, ↓reduceIte, Int.reduceLT, Int.reduceLE, and_self, or_true, true_or, or_false, false_or, false_and, and_false, ah_t_w, ah_m_w, ah_n_w, lst1_0, List.tail_cons, w32_i, zbd, lst2_0, c_91, gd, zb_t, t2, t3]
    generalize ah_new h2 (17, 0) ((1 : Nat) : Int) = h3 at *
    refine c_178 (d := e + 6) hR3 (fun h4 q a b e2 hR4 hO4 hb => ?_) (fun h4 q v e2 hR4 hO4 e34 => ?_)
    · rw [kont_0]
      rw [znum_z hx.1 hx.2] at e2
      rw [e2] at hQ0
      refine hQ0 h4 q a b rfl hR4 (Ext_tr hE2 (Ext_tr hE3 (Ext_off (Off_mono Wnm_d hO4)))) hb ?_
      have := Off_n hO4; have := Off_s hO4; unfold CO; omega
    · rw [znum_z hx.1 hx.2] at e2
      rw [e2] at hQ1
      have hr := znum_r hx.1 hx.2 e2
      have n4 := Off_n hO4
      have s4 := Off_s hO4
      have tp4 : ah_t h4 (ah_n h2) = (17, 0) := by rw [Off_t hO4]; exact tp3
      have tp4' : (ah_t h4 (ah_n h2)).1 = 17 := by rw [tp4]
      have e44 : ah_m h4 11 4 = 7 - (u : Int) := by rw [hO4.2 _ _ (by unfold Wnm W12; omega), m3]; exact e4'
      have hE5 : Ext (fun r i => r = ah_n h2) h4 (ah_w h4 (ah_n h2) 0 v) := Ext_w Ext_rfl (Or.inl rfl)
      have hr5 := RX_hi hR4 hE5 (fun r i w => by omega)
      have hE4 : Ext Wrd h h4 := Ext_tr hE2 (Ext_tr hE3 (Ext_off (Off_mono Wnm_d hO4)))
      simp (disch := omega) only [b_190_15, ↓w_iconst, ↓w_sipush, ↓w_aload_n_0, ↓w_dup_i, ↓w_dup_a, ↓w_i2l, ↓w_new, ↓w_ifCond_eq, ↓w_areturn, ↓w_invokevirtual_0, ↓w_invokestatic_1, ↓w_invokespecial_1, ↓w_invokevirtual_2, stw_0, stw_i, stw_l, stw_r, ofK0, ofK1, ofK2, lst1, lst2, lkill, kont_none, kont_some, Int.reduceToNat, List.length_cons, List.length_nil, Nat.reduceAdd, Nat.reduceLeDiff, Nat.zero_le, true_and, and_true, if_true, if_false, ne_eq, Int.reduceEq, Int.reduceNeg, not_false_eq_true, not_true_eq_false, ↓reduceIte, Int.reduceLT, Int.reduceLE, and_self, or_true, true_or, or_false, false_or, false_and, and_false, ah_t_w, ah_m_w, ah_n_w, lst1_0, List.tail_cons, w32_i, zbd, lst2_0, tp4', c_160 (d := e + 7) tp4' (by omega)]
      refine hQ1 _ (ah_n h2) q _ rfl hr5.1 (Ext_tr' hE4 hE5 (fun r i w => Or.inr (by omega))) ((hr5.2 4).trans e44) ?_ ?_
      · exact VSi_fixed tp4 (by rw [ah_m_w, if_pos ⟨rfl, rfl⟩]) (by omega) (by rw [ah_n_w]; omega) (by omega)
      · unfold CO; rw [ah_n_w, ah_s_w]; omega
  | false =>
    simp (disch := omega) only [b_190_15, q_190_42, b_190_42, ↓w_iconst, ↓w_sipush, ↓w_getstatic, ↓w_aload_n_0, ↓w_aload_n_1, ↓w_iload_n_2, ↓w_istore_n_2, ↓w_astore_n_1, ↓w_dup_i, ↓w_dup_a, ↓w_i2l, ↓w_getfield, ↓w_new, ↓w_ifCond_eq, ↓w_if_icmp_eq, ↓w_areturn, ↓w_invokevirtual_0, ↓w_invokestatic_1, ↓w_invokespecial_1, ↓w_invokestatic_2, ↓w_invokevirtual_2, stw_0, stw_i, stw_l, stw_r, ofK0, ofK1, ofK2, lst1, lst2, lkill, kont_none, kont_some, Int.reduceToNat, List.length_cons, List.length_nil, Nat.reduceAdd, Nat.reduceLeDiff, Nat.zero_le, true_and, and_true, if_true, if_false, ne_eq, Int.reduceEq, Int.reduceNeg, not_false_eq_true, not_true_eq_false, ↓reduceIte, Int.reduceLT, Int.reduceLE, and_self, or_true, true_or, or_false, false_or, false_and, and_false, ah_t_w, ah_m_w, ah_n_w, lst1_0, List.tail_cons, w32_i, zbd, lst2_0, c_91, gd, zb_f, t2]
    refine c_173 (d := e + 2) hR2 (fun h3 nb hR3 hO3 hb => ?_) (fun h3 p wb hR3 hE3 e33 hw n3 s3 => ?_)
    · rw [kont_0]
      rw [zz] at nb hR3 hb
      have ez := zex_no (hm := hm) (f := f) (o := 7 - (u : Int)) g ⟨zhw_nb nb, zhw_nb nb⟩ (by rw [zqw_nb nb]; decide) (by rw [zqw_nb nb]; simp)
      have en : znum t n k 0 9999 = .inl (1, zsk t n k) := by unfold znum; rw [if_neg (by rw [gd]; simp)]
      rw [ez, en] at hQ0
      refine hQ0 h3 _ _ _ rfl hR3 (Ext_tr hE2 (Ext_off (Off_mono Wnm_d hO3))) hb ?_
      have := Off_n hO3; have := Off_s hO3; unfold CO; omega
    rw [zz] at wb hR3 e33 hw s3
    have hwl := zwe_le (t := t) (n := n) (k := zsk t n k) (by omega)
    have t3 := r_11 hR3.1
    have hE3' : Ext Wrd h h3 := Ext_tr hE2 (Ext_mono Wnm_d hE3)
    have e43 : ah_m h3 11 4 = 7 - (u : Int) := by rw [hE3.2.2 _ _ (by omega) (by unfold Wnm W12; omega)]; exact e4'
    have e53 : ah_m h3 11 5 = zctxt hm := by rw [hE3.2.2 _ _ (by omega) (by unfold Wnm W12; omega)]; exact e5'
    have p0 : 0 < p := by have := hw.2.1.1; omega
    have tS := hw.1.1
    have c33 : ∀ {Q : QQ}, wpC (e + 9) 93 [.inr (.inr p), .inr (.inr (-301))] h3 Q ↔ _ := fun {Q} => f_301 (d := e + 6) hR3.1.2.2 wb (by omega) (by omega) n16 hw.1 p0
    have c34 : ∀ {Q : QQ}, wpC (e + 9) 93 [.inr (.inr p), .inr (.inr (-302))] h3 Q ↔ _ := fun {Q} => f_302 (d := e + 6) hR3.1.2.2 wb (by omega) (by omega) n16 hw.1 p0
    have q84 := (hR3.1.2.2.1 (-84, zmin) (by decide)).1
    have q86 := (hR3.1.2.2.1 (-86, zmax) (by decide)).1
    have w84 : ∀ {Q : QQ}, wpC (e + 9) 57 [.inr (.inr p), .inr (.inr (-84))] h3 Q ↔ _ := fun {Q} => eqW (d := e + 7) (W := zmin) wb (by omega) (by omega) n16 hw.1 q84 p0
    have w86 : ∀ {Q : QQ}, wpC (e + 9) 57 [.inr (.inr p), .inr (.inr (-86))] h3 Q ↔ _ := fun {Q} => eqW (d := e + 7) (W := zmax) wb (by omega) (by omega) n16 hw.1 q86 p0
    have hfb := zfw_b (t := t) (n := n) (k := zsk t n k) zASK 0 (by omega)
    have hla : zASK.length = 11 := rfl
    rw [hla] at hfb
    have hq := zqw_fw (hm := hm) (t := t) (n := n) (k := zsk t n k)
    -- min and max, or nothing
    have within : ∀ m : Int, ((m = 1 ∧ zhw t n (zsk t n k) zmin = true) ∨ (m = 2 ∧ zhw t n (zsk t n k) zmax = true)) → wpC (e + 9) 191 [.inr (.inr 11), .inl m] h3 (kont (e + 9) 190 [(.areturn, 0, 0, [])] 0 [some (.inr (.inr 11)), some (.inr (.inr p)), some (.inl (-1))] [] Q) := by
      intro m hmm
      have ez := zex_mm (hm := hm) (f := f) (o := 7 - (u : Int)) hmm hx.2
      rw [ez] at hQ0 hQ1
      have ewe : zwe t n (zsk t n k) = zsk t n k + 3 := by
        rcases hmm with q | q
        · exact zhw_len hsk.2 q.2
        · exact zhw_len hsk.2 q.2
      rw [ewe] at hR3 s3
      refine wpC_deep (c_191 (d := d) hs u1 u7 hR3 e43 e53 (by omega) (by omega) (fun h4 k' a b e2 hR4 hE4 hb co => ?_) (fun h4 p k1 c e2 hR4 hE4 e44 hv co => ?_)) (by omega)
      · rw [kont_0]
        refine hQ0 h4 k' a b e2 hR4 (Ext_tr hE3' hE4) hb ?_
        unfold CO at co ⊢; omega
      · rw [kont_some]
        simp (disch := omega) only [q_190_0, b_190_0, q_190_15, b_190_15, q_190_42, b_190_42, q_190_80, b_190_80, q_190_100, b_190_100, q_190_101, b_190_101, q_190_113, b_190_113, q_190_143, b_190_143, q_190_158, b_190_158, q_190_159, b_190_159, ↓w_iconst, ↓w_bipush, ↓w_sipush, ↓w_ldc_w, ↓w_getstatic, ↓w_aload_n_0, ↓w_aload_n_1, ↓w_iload_n_2, ↓w_istore_n_2, ↓w_astore_n_1, ↓w_dup_i, ↓w_dup_a, ↓w_i2l, ↓w_getfield, ↓w_new, ↓w_nop, ↓w_goto, ↓w_ifCond_eq, ↓w_if_icmp_eq, ↓w_ifCond_ne, ↓w_if_icmp_ne, ↓w_areturn, ↓w_athrow, ↓w_invokevirtual_0, ↓w_invokestatic_1, ↓w_invokespecial_1, ↓w_invokevirtual_1, ↓w_invokestatic_2, ↓w_invokevirtual_2, stw_0, stw_i, stw_l, stw_r, ofK0, ofK1, ofK2, lst1, lst2, lkill, kont_none, kont_some, Int.reduceToNat, List.length_cons, List.length_nil, Nat.reduceAdd, Nat.reduceLeDiff, Nat.zero_le, true_and, and_true, if_true, if_false, ne_eq, Int.reduceEq, Int.reduceNeg, not_false_eq_true, not_true_eq_false, ↓reduceIte, Int.reduceLT, Int.reduceLE, and_self, or_true, true_or, or_false, false_or, false_and, and_false, ah_t_w, ah_m_w, ah_n_w, lst1_0, List.tail_cons, w32_i, zbd, lst2_0]
        refine hQ1 h4 p k1 c e2 hR4 (Ext_tr hE3' hE4) e44 (VSi_wide hv ?_) ?_
        · have := hE4.1; omega
        · unfold CO at co ⊢; omega
    have key : ¬ zqw hm t n (zsk t n k) = 11 → ¬ (0 ≤ zqw hm t n (zsk t n k) ∧ zal hm (zqw hm t n (zsk t n k)) = true) → wpB (e + 9) 190 113 [some (.inr (.inr 11)), some (.inr (.inr p)), some (.inl (-1))] [] h3 Q := by
      intro k1 k2
      cases g1 : zhw t n (zsk t n k) zmin with
      | true =>
        simp (disch := omega) only [q_190_113, b_190_113, q_190_143, b_190_143, q_190_159, b_190_159, ↓w_iconst, ↓w_ldc_w, ↓w_aload_n_0, ↓w_aload_n_1, ↓w_getfield, ↓w_goto, ↓w_ifCond_eq, ↓w_ifCond_ne, ↓w_areturn, ↓w_athrow, ↓w_invokevirtual_1, ↓w_invokevirtual_2, stw_0, stw_i, stw_l, stw_r, ofK0, ofK1, ofK2, lst1, lst2, lkill, kont_none, kont_some, Int.reduceToNat, List.length_cons, List.length_nil, Nat.reduceAdd, Nat.reduceLeDiff, Nat.zero_le, true_and, and_true, if_true, if_false, ne_eq, Int.reduceEq, Int.reduceNeg, not_false_eq_true, not_true_eq_false, ↓reduceIte, Int.reduceLT, Int.reduceLE, and_self, or_true, true_or, or_false, false_or, false_and, and_false, ah_t_w, ah_m_w, ah_n_w, lst1_0, List.tail_cons, w32_i, zbd, lst2_0, tS, w84, g1, zb_t, t3]
        exact within 1 (Or.inl ⟨rfl, g1⟩)
      | false =>
        cases g2 : zhw t n (zsk t n k) zmax with
        | true =>
          simp (disch := omega) only [q_190_113, b_190_113, q_190_143, b_190_143, q_190_158, b_190_158, q_190_159, b_190_159, ↓w_iconst, ↓w_ldc_w, ↓w_aload_n_0, ↓w_aload_n_1, ↓w_getfield, ↓w_nop, ↓w_goto, ↓w_ifCond_eq, ↓w_ifCond_ne, ↓w_areturn, ↓w_athrow, ↓w_invokevirtual_1, ↓w_invokevirtual_2, stw_0, stw_i, stw_l, stw_r, ofK0, ofK1, ofK2, lst1, lst2, lkill, kont_none, kont_some, Int.reduceToNat, List.length_cons, List.length_nil, Nat.reduceAdd, Nat.reduceLeDiff, Nat.zero_le, true_and, and_true, if_true, if_false, ne_eq, Int.reduceEq, Int.reduceNeg, not_false_eq_true, not_true_eq_false, ↓reduceIte, Int.reduceLT, Int.reduceLE, and_self, or_true, true_or, or_false, false_or, false_and, and_false, ah_t_w, ah_m_w, ah_n_w, lst1_0, List.tail_cons, w32_i, zbd, lst2_0, tS, w84, w86, g1, g2, zb_t, zb_f, t3]
          exact within 2 (Or.inr ⟨rfl, g2⟩)
        | false =>
          have ez := zex_no (hm := hm) (f := f) (o := 7 - (u : Int)) g ⟨g1, g2⟩ k1 k2
          have en : znum t n k 0 9999 = .inl (1, zsk t n k) := by unfold znum; rw [if_neg (by rw [gd]; simp)]
          rw [ez, en] at hQ0
          simp (disch := omega) only [q_190_113, b_190_113, ↓w_iconst, ↓w_ldc_w, ↓w_aload_n_0, ↓w_aload_n_1, ↓w_getfield, ↓w_ifCond_ne, ↓w_athrow, ↓w_invokevirtual_1, ↓w_invokevirtual_2, stw_0, stw_i, stw_l, stw_r, ofK0, ofK1, ofK2, lst1, lst2, lkill, kont_none, kont_some, Int.reduceToNat, List.length_cons, List.length_nil, Nat.reduceAdd, Nat.reduceLeDiff, Nat.zero_le, true_and, and_true, if_true, if_false, ne_eq, Int.reduceEq, Int.reduceNeg, not_false_eq_true, not_true_eq_false, ↓reduceIte, Int.reduceLT, Int.reduceLE, and_self, or_true, true_or, or_false, false_or, false_and, and_false, ah_t_w, ah_m_w, ah_n_w, lst1_0, List.tail_cons, w32_i, zbd, lst2_0, tS, w84, w86, g1, g2, zb_f, t3, e33]
          refine thrw (d := e + 8) hR3 (fun h4 hR4 hO4 hb => hQ0 h4 _ _ _ rfl hR4 (Ext_tr hE3' (Ext_off (Off_mono W12_d hO4))) hb ?_)
          have := Off_n hO4; have := Off_s hO4; unfold CO; omega
    have nomm : zfw t n (zsk t n k) zASK 0 ≠ -1 → zhw t n (zsk t n k) zmin = false ∧ zhw t n (zsk t n k) zmax = false := by
      intro q
      refine ⟨?_, ?_⟩
      · cases g1 : zhw t n (zsk t n k) zmin with
        | true => exact absurd (zfw_mm (Or.inl g1)).1 q
        | false => rfl
      · cases g1 : zhw t n (zsk t n k) zmax with
        | true => exact absurd (zfw_mm (Or.inr g1)).1 q
        | false => rfl
    have hlk := zfw_lok (t := t) (n := n) (k := zsk t n k)
    generalize ev : zfw t n (zsk t n k) zASK 0 = v at *
    have c94 : ∀ {Q : QQ}, v ≠ -1 → (wpC (e + 9) 94 [.inl (zctxt hm), .inl v] h3 Q ↔ Q (.inl (some (.inl (if zal hm v = true then 1 else 0)))) h3) := fun {Q} q => c_94x (d := e + 8) (by omega)
    by_cases gv : v ≠ -1 ∧ zal hm v = true
    · -- asked
      have c94 := fun {Q : QQ} => c94 (Q := Q) gv.1
      rw [if_pos gv.2] at c94
      have ez := zex_as (hm := hm) (f := f) (o := 7 - (u : Int)) (v := v) g (nomm gv.1) (by
        rw [hq]
        split
        · rename_i e2
          subst e2
          cases hm with
          | true => rfl
          | false => exact absurd gv.2 (by decide)
        · rfl) (by omega) gv.2
      have hln := zfw_ln hsk.2 ev gv.1
      have hl3 : 3 ≤ zln v := zln_3
      rw [ez] at hQ1
      rw [hln] at hR3 s3
      have v1 := gv.1
      have tp4 : ah_t (ah_new h3 (18, 0) ((1 : Nat) : Int)) (ah_n h3) = (18, 0) := by rw [ah_t_new, if_pos rfl]
      have tp4' : (ah_t (ah_new h3 (18, 0) ((1 : Nat) : Int)) (ah_n h3)).1 = 18 := by rw [tp4]
      have hE4 : Ext Wrd h3 (ah_w (ah_new h3 (18, 0) ((1 : Nat) : Int)) (ah_n h3) 0 v) := Ext_w (Ext_new Ext_rfl (by omega)) (Or.inr (by omega))
      have hr4 := RX_hi (W' := WN) hR3 (h' := ah_w (ah_new h3 (18, 0) ((1 : Nat) : Int)) (ah_n h3) 0 v) (Ext_w (Ext_new Ext_rfl (by omega)) (Or.inr (by omega))) (fun r i w => w.elim)
      simp (disch := omega) only [b_190_42, ↓w_iconst, ↓w_getstatic, ↓w_aload_n_0, ↓w_aload_n_1, ↓w_iload_n_2, ↓w_istore_n_2, ↓w_astore_n_1, ↓w_dup_i, ↓w_dup_a, ↓w_getfield, ↓w_new, ↓w_ifCond_eq, ↓w_if_icmp_eq, ↓w_areturn, ↓w_invokevirtual_0, ↓w_invokespecial_1, ↓w_invokestatic_2, stw_0, stw_i, stw_l, stw_r, ofK0, ofK1, ofK2, lst1, lst2, lkill, kont_none, kont_some, Int.reduceToNat, List.length_cons, List.length_nil, Nat.reduceAdd, Nat.reduceLeDiff, Nat.zero_le, true_and, and_true, if_true, if_false, ne_eq, Int.reduceEq, Int.reduceNeg, not_false_eq_true, not_true_eq_false, ↓reduceIte, Int.reduceLT, Int.reduceLE, and_self, or_true, true_or, or_false, false_or, false_and, and_false, ah_t_w, ah_m_w, ah_n_w, lst1_0, List.tail_cons, w32_i, zbd, lst2_0, c33, t3, e53, v1, c94, tp4', c_162 (d := e + 7) tp4' (by omega)]
      refine hQ1 _ (ah_n h3) _ _ rfl hr4.1 (Ext_tr hE3' hE4) ((hr4.2 4).trans e43) ?_ ?_
      · refine VSi_asked (by rw [ah_t_w]; exact tp4) (by rw [ah_m_w, if_pos ⟨rfl, rfl⟩]) (by omega) ?_ (by rw [ah_n_w, ah_n_new]; omega) (by omega)
        have g5 := gv.2
        unfold zal at g5
        cases hm with
        | true => simp at g5 ⊢; omega
        | false => simp at g5 ⊢; omega
      · unfold CO; rw [ah_n_w, ah_s_w, ah_n_new, ah_s_new]; omega
    · -- not asked
      have s80 : wpB (e + 9) 190 80 [some (.inr (.inr 11)), some (.inr (.inr p)), some (.inl v)] [] h3 Q := by
        cases hm with
        | true =>
          have e53' : ah_m h3 11 5 = 15 := e53
          have kk := key (by rw [hq]; split; decide; omega) (by
            rw [hq]
            split
            · rename_i e2
              exact absurd ⟨by omega, by rw [e2]; rfl⟩ gv
            · intro q
              exact gv ⟨by omega, q.2⟩)
          simp (disch := omega) only [q_190_80, b_190_80, q_190_100, b_190_100, q_190_101, b_190_101, ↓w_iconst, ↓w_sipush, ↓w_getstatic, ↓w_aload_n_0, ↓w_aload_n_1, ↓w_iload_n_2, ↓w_istore_n_2, ↓w_getfield, ↓w_nop, ↓w_goto, ↓w_if_icmp_eq, ↓w_if_icmp_ne, ↓w_areturn, ↓w_invokevirtual_1, ↓w_invokestatic_2, stw_0, stw_i, stw_l, stw_r, ofK0, ofK1, ofK2, lst1, lst2, lkill, kont_none, kont_some, Int.reduceToNat, List.length_cons, List.length_nil, Nat.reduceAdd, Nat.reduceLeDiff, Nat.zero_le, true_and, and_true, if_true, if_false, ne_eq, Int.reduceEq, Int.reduceNeg, not_false_eq_true, not_true_eq_false, ↓reduceIte, Int.reduceLT, Int.reduceLE, and_self, or_true, true_or, or_false, false_or, false_and, and_false, ah_t_w, ah_m_w, ah_n_w, lst1_0, List.tail_cons, w32_i, zbd, lst2_0, t3, e53']
          exact kk
        | false =>
          have e53' : ah_m h3 11 5 = 2040 := e53
          by_cases g2 : v = 2
          · rw [if_pos g2] at hlk hq
            have ez := zex_lk (hm := false) (f := f) (o := 7 - (u : Int)) g (nomm (by omega)) hq
            rw [ez] at hQ0 hQ1
            have hln := zfw_ln hsk.2 ev (by omega)
            rw [g2, show zln 2 = 3 from rfl] at hln
            rw [hln] at hR3 s3
            simp (disch := omega) only [q_190_80, b_190_80, q_190_101, b_190_101, ↓w_iconst, ↓w_sipush, ↓w_getstatic, ↓w_aload_n_0, ↓w_aload_n_1, ↓w_iload_n_2, ↓w_istore_n_2, ↓w_getfield, ↓w_goto, ↓w_if_icmp_eq, ↓w_if_icmp_ne, ↓w_areturn, ↓w_invokevirtual_1, ↓w_invokestatic_2, stw_0, stw_i, stw_l, stw_r, ofK0, ofK1, ofK2, lst1, lst2, lkill, kont_none, kont_some, Int.reduceToNat, List.length_cons, List.length_nil, Nat.reduceAdd, Nat.reduceLeDiff, Nat.zero_le, true_and, and_true, if_true, if_false, ne_eq, Int.reduceEq, Int.reduceNeg, not_false_eq_true, not_true_eq_false, ↓reduceIte, Int.reduceLT, Int.reduceLE, and_self, or_true, true_or, or_false, false_or, false_and, and_false, ah_t_w, ah_m_w, ah_n_w, lst1_0, List.tail_cons, w32_i, zbd, lst2_0, t3, e53', c34, hlk]
            refine wpC_deep (c_193 (d := d) ha u1 u7 hR3 e33 e43 e53 (by omega) (fun h4 k' a b e2 hR4 hE4 hb co => ?_) (fun h4 p k1 c u2 e2 hR4 hE4 e44 hv co => ?_)) (by omega)
            · rw [kont_0]
              refine hQ0 h4 k' a b ?_ hR4 (Ext_tr hE3' hE4) hb ?_
              · rcases e2 with ⟨a1, a2, a3⟩ | ⟨a1, a2⟩
                · rw [if_pos (by omega), a2, a3]
                · rw [if_neg (by omega), a2]
              · unfold CO at co ⊢; omega
            · rw [kont_some]
              simp (disch := omega) only [q_190_0, b_190_0, q_190_15, b_190_15, q_190_42, b_190_42, q_190_80, b_190_80, q_190_100, b_190_100, q_190_101, b_190_101, q_190_113, b_190_113, q_190_143, b_190_143, q_190_158, b_190_158, q_190_159, b_190_159, ↓w_iconst, ↓w_bipush, ↓w_sipush, ↓w_ldc_w, ↓w_getstatic, ↓w_aload_n_0, ↓w_aload_n_1, ↓w_iload_n_2, ↓w_istore_n_2, ↓w_astore_n_1, ↓w_dup_i, ↓w_dup_a, ↓w_i2l, ↓w_getfield, ↓w_new, ↓w_nop, ↓w_goto, ↓w_ifCond_eq, ↓w_if_icmp_eq, ↓w_ifCond_ne, ↓w_if_icmp_ne, ↓w_areturn, ↓w_athrow, ↓w_invokevirtual_0, ↓w_invokestatic_1, ↓w_invokespecial_1, ↓w_invokevirtual_1, ↓w_invokestatic_2, ↓w_invokevirtual_2, stw_0, stw_i, stw_l, stw_r, ofK0, ofK1, ofK2, lst1, lst2, lkill, kont_none, kont_some, Int.reduceToNat, List.length_cons, List.length_nil, Nat.reduceAdd, Nat.reduceLeDiff, Nat.zero_le, true_and, and_true, if_true, if_false, ne_eq, Int.reduceEq, Int.reduceNeg, not_false_eq_true, not_true_eq_false, ↓reduceIte, Int.reduceLT, Int.reduceLE, and_self, or_true, true_or, or_false, false_or, false_and, and_false, ah_t_w, ah_m_w, ah_n_w, lst1_0, List.tail_cons, w32_i, zbd, lst2_0]
              refine hQ1 h4 p k1 (c ++ [60]) ?_ hR4 (Ext_tr hE3' hE4) e44 (VSi_wide hv ?_) ?_
              · rw [if_neg (by omega), e2]
              · have := hE4.1; omega
              · unfold CO at co ⊢; omega
          · rw [if_neg g2] at hlk hq
            have kk := key (by rw [hq]; omega) (by
              rw [hq]
              intro q
              exact gv ⟨by omega, q.2⟩)
            simp (disch := omega) only [q_190_80, b_190_80, q_190_101, b_190_101, ↓w_iconst, ↓w_sipush, ↓w_getstatic, ↓w_aload_n_0, ↓w_aload_n_1, ↓w_iload_n_2, ↓w_istore_n_2, ↓w_getfield, ↓w_goto, ↓w_if_icmp_eq, ↓w_if_icmp_ne, ↓w_areturn, ↓w_invokevirtual_1, ↓w_invokestatic_2, stw_0, stw_i, stw_l, stw_r, ofK0, ofK1, ofK2, lst1, lst2, lkill, kont_none, kont_some, Int.reduceToNat, List.length_cons, List.length_nil, Nat.reduceAdd, Nat.reduceLeDiff, Nat.zero_le, true_and, and_true, if_true, if_false, ne_eq, Int.reduceEq, Int.reduceNeg, not_false_eq_true, not_true_eq_false, ↓reduceIte, Int.reduceLT, Int.reduceLE, and_self, or_true, true_or, or_false, false_or, false_and, and_false, ah_t_w, ah_m_w, ah_n_w, lst1_0, List.tail_cons, w32_i, zbd, lst2_0, t3, e53', c34, hlk]
            exact kk
      by_cases gv1 : v = -1
      · simp (disch := omega) only [b_190_42, ↓w_iconst, ↓w_getstatic, ↓w_aload_n_0, ↓w_aload_n_1, ↓w_iload_n_2, ↓w_istore_n_2, ↓w_astore_n_1, ↓w_dup_i, ↓w_dup_a, ↓w_getfield, ↓w_new, ↓w_ifCond_eq, ↓w_if_icmp_eq, ↓w_areturn, ↓w_invokevirtual_0, ↓w_invokespecial_1, ↓w_invokestatic_2, stw_0, stw_i, stw_l, stw_r, ofK0, ofK1, ofK2, lst1, lst2, lkill, kont_none, kont_some, Int.reduceToNat, List.length_cons, List.length_nil, Nat.reduceAdd, Nat.reduceLeDiff, Nat.zero_le, true_and, and_true, if_true, if_false, ne_eq, Int.reduceEq, Int.reduceNeg, not_false_eq_true, not_true_eq_false, ↓reduceIte, Int.reduceLT, Int.reduceLE, and_self, or_true, true_or, or_false, false_or, false_and, and_false, ah_t_w, ah_m_w, ah_n_w, lst1_0, List.tail_cons, w32_i, zbd, lst2_0, c33, gv1]
        rw [gv1] at s80
        exact s80
      · have c94 := fun {Q : QQ} => c94 (Q := Q) gv1
        rw [if_neg (fun q => gv ⟨gv1, q⟩)] at c94
        simp (disch := omega) only [b_190_42, ↓w_iconst, ↓w_getstatic, ↓w_aload_n_0, ↓w_aload_n_1, ↓w_iload_n_2, ↓w_istore_n_2, ↓w_astore_n_1, ↓w_dup_i, ↓w_dup_a, ↓w_getfield, ↓w_new, ↓w_ifCond_eq, ↓w_if_icmp_eq, ↓w_areturn, ↓w_invokevirtual_0, ↓w_invokespecial_1, ↓w_invokestatic_2, stw_0, stw_i, stw_l, stw_r, ofK0, ofK1, ofK2, lst1, lst2, lkill, kont_none, kont_some, Int.reduceToNat, List.length_cons, List.length_nil, Nat.reduceAdd, Nat.reduceLeDiff, Nat.zero_le, true_and, and_true, if_true, if_false, ne_eq, Int.reduceEq, Int.reduceNeg, not_false_eq_true, not_true_eq_false, ↓reduceIte, Int.reduceLT, Int.reduceLE, and_self, or_true, true_or, or_false, false_or, false_and, and_false, ah_t_w, ah_m_w, ah_n_w, lst1_0, List.tail_cons, w32_i, zbd, lst2_0, c33, t3, e53, gv1, c94]
        exact s80
/-- values whole -/
theorem CE_all : ∀ f : Nat, CEx hm t n f 0 188 12 0 0 30 300 ∧ CEx hm t n f 1 189 11 12 200 20 200 ∧ CEx hm t n f 2 190 10 24 400 10 100 ∧ LPx hm t n f 3 188 11 12 200 30 300 ∧ LPx hm t n f 4 189 10 24 400 20 200 := by
  intro f
  induction f with
  | zero =>
    have z : ∀ {md : Int}, 1 ≤ zrk md := by intro md; unfold zrk; split; omega; split <;> omega
    refine ⟨?_, ?_, ?_, ?_, ?_⟩
    · intro u d k h Q _ _ hR _ _ hf; exact absurd hf (by have := hR.2.2.2.2.2; have := @z 0; omega)
    · intro u d k h Q _ _ hR _ _ hf; exact absurd hf (by have := hR.2.2.2.2.2; have := @z 1; omega)
    · intro u d k h Q _ _ hR _ _ hf; exact absurd hf (by have := hR.2.2.2.2.2; have := @z 2; omega)
    · intro u d k0 x h0 h p its capL elL capS elS Q _ _ hR _ _ _ _ _ hf; exact absurd hf (by have := hR.2.2.2.2.2; have := @z 3; omega)
    · intro u d k0 x h0 h p its capL elL capS elS Q _ _ hR _ _ _ _ _ hf; exact absurd hf (by have := hR.2.2.2.2.2; have := @z 4; omega)
  | succ f ih =>
    obtain ⟨i0, i1, i2, i3, i4⟩ := ih
    exact ⟨CE_188 i1 i3, CE_189 i2 i4, CE_190 i0 i2, LP_188 i1 i3, LP_189 i2 i4⟩
end E1
